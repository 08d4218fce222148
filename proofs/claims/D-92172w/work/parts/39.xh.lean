/-! the component: the reader, one item -/
set_option maxRecDepth 100000
theorem pr_eta {α β : Type} (p : α × β) : p = (p.1, p.2) := rfl
theorem RD_up {t : Nat} {Z Z' : ZT} (h : RD t Z) (hn : ix (Z.1 42 0) < ix (Z.1 40 t)) (e1 : Z'.1 40 = Z.1 40) (e2 : Z'.1 42 0 = Z.1 42 0 + 1) : RD t Z' := by
  obtain ⟨h1, h2, h3, h4, h5, h6⟩ := h
  have l := (Z.1 42 0).toInt_lt
  have e3 : (ix (Z.1 42 0) : Int) = (Z.1 42 0).toInt := Int.toNat_of_nonneg h5
  have e4 : (ix (Z.1 40 t) : Int) = (Z.1 40 t).toInt := Int.toNat_of_nonneg h3
  have e : (Z.1 42 0 + 1).toInt = (Z.1 42 0).toInt + 1 := by
    rw [Int32.toInt_add, show (1 : Int32).toInt = 1 from rfl, Int.bmod_eq_of_le (by omega) (by omega)]
  refine ⟨h1, by rw [e1]; exact h2, by rw [e1]; exact h3, by rw [e1]; exact h4, by rw [e2, e]; omega, by rw [e1, e2, e]; omega⟩
theorem RD_n {t : Nat} {Z : ZT} {v : Int32} (h : RD t Z) : RD t (sI Z 43 0 v) := h
theorem rd_dec {t n : Nat} {Z : ZT} (h : RD t Z) (hn : ix (Z.1 42 0) < ix (Z.1 40 t)) (hm : 60 - ix (Z.1 42 0) < n + 1) : 60 - ix (Z.1 42 0 + 1) < n := by
  obtain ⟨h1, h2, h3, h4, h5, h6⟩ := h
  have l := (Z.1 42 0).toInt_lt
  have e3 : (ix (Z.1 42 0) : Int) = (Z.1 42 0).toInt := Int.toNat_of_nonneg h5
  have e4 : (ix (Z.1 40 t) : Int) = (Z.1 40 t).toInt := Int.toNat_of_nonneg h3
  have e : (Z.1 42 0 + 1).toInt = (Z.1 42 0).toInt + 1 := by
    rw [Int32.toInt_add, show (1 : Int32).toInt = 1 from rfl, Int.bmod_eq_of_le (by omega) (by omega)]
  have e5 : (ix (Z.1 42 0 + 1) : Int) = (Z.1 42 0 + 1).toInt := Int.toNat_of_nonneg (by omega)
  omega
def r_isEnd (t : Nat) (Z : ZT) : Int32 := (if Z.1 42 0 = Z.1 40 t then (1 : Int32) else (0 : Int32))
theorem rd_in {t : Nat} {Z : ZT} (h : RD t Z) (hn : r_isEnd t Z = 0) : vp_in (Z.1 42 0) (ix (Z.1 40 t)) ∧ ix (Z.1 42 0) < 60 := by
  obtain ⟨h1, h2, h3, h4, h5, h6⟩ := h
  have e4 : (ix (Z.1 40 t) : Int) = (Z.1 40 t).toInt := Int.toNat_of_nonneg h3
  have e3 : (ix (Z.1 42 0) : Int) = (Z.1 42 0).toInt := Int.toNat_of_nonneg h5
  have hne : (Z.1 42 0).toInt ≠ (Z.1 40 t).toInt := fun q => by
    unfold r_isEnd at hn
    rw [if_pos (Int32.toInt_inj.mp q)] at hn
    exact absurd hn (by decide)
  exact ⟨vp_in_iff.mpr ⟨by omega, by omega⟩, by omega⟩
set_option maxHeartbeats 4000000 in
set_option maxRecDepth 100000 in
theorem met_r_isEnd (l : Launch) (D : va_G) (cs : Nat → ClassId) (x : Nat) (ar : Nat → Nat) (B : BT) (Y : va_W) (r : Nat) (Z : ZT) (sz : Nat) (t : Nat) (hRD : RD t Z) : Met l yX2_isEnd (ws_ yX2_isEnd cX2_isEnd 1 (some .boolean)) ({ frames := 0, cells := 0, slots := 0, locals := 0 }) (va_Pc [.ref r] (wSt D cs (WX x ar cs Z B (rdr Z B r t :: Y)) sz)) (cQi (fun (v : Int32) (_ : Unit) => r_isEnd t Z = v) D (fun _ => (WX x ar cs Z B (rdr Z B r t :: Y))) (WX x ar cs Z B (rdr Z B r t :: Y)) sz) 0 0 (va_A (WX x ar cs Z B (rdr Z B r t :: Y)) sz) := by
  refine gStart_i (C := RX2) rfl rfl (Nat.le_of_ble_eq_true rfl) ?_
  intro p e s mid args below meth c R Q A hx hb hml hown hts hK hA hRf hRl hRc hRs hret hE ls hl
  have hRf : 0 ≤ R.frames := hRf
  have hRl : 0 ≤ R.locals := hRl
  have hl : lv_has ls 1 [(0, .ref r)] := hl
  have hR : r_isEnd t Z = (if Z.1 42 0 = Z.1 40 t then (1 : Int32) else (0 : Int32)) := rfl
  refine lv_aload_n hx hb dX2_isEnd_0 rfl (lv_at hl 0 rfl) ?_
  refine rg_at hx hb hts hown hK hE dX2_isEnd_1 ?_
  refine lv_aload_n hx hb dX2_isEnd_4 rfl (lv_at hl 0 rfl) ?_
  refine rg_text hx hb hts hown hK hE dX2_isEnd_5 ?_
  refine xtlR (t := t) (hRD.1) (hRD.2.1) (hRD.2.2.1) hx hb hK hE dX2_isEnd_8 ?_
  refine lv_icmp_ne (tgt := 16) hx hb dX2_isEnd_9 (by decide) (fun c9 => ?_) (fun c9 => ?_)
  · have hR : r_isEnd t Z = (0 : Int32) := hR.trans (congrArg (fun z => z) (if_neg c9))
    refine lv_iconst (v := 0) hx hb dX2_isEnd_16 rfl ?_
    exact hret (0 : Int32) () hR rfl hE (Nat.le_refl 0) (Nat.le_refl 0) dX2_isEnd_17
  · have hR : r_isEnd t Z = (1 : Int32) := hR.trans (congrArg (fun z => z) (if_pos c9))
    refine lv_iconst (v := 1) hx hb dX2_isEnd_12 rfl ?_
    refine lv_goto (tgt := 17) hx hb dX2_isEnd_13 (by decide) ?_
    exact hret (1 : Int32) () hR rfl hE (Nat.le_refl 0) (Nat.le_refl 0) dX2_isEnd_17
section C_r_isEnd
variable {p : Program} {l : Launch} {e : Env} {R : Room} {s : State} {mid : MethodId} {args : Array Value} {below : List Frame} {meth : Method} {c : Code} {H : Heap} {locs : List Loc} {cells slots : Nat} {Q : State → Prop} {cc : ByteArray} {pc : Nat} {ls : Array Slot} {rest : List Value} {D : va_G} {A : Nat → Prop} {x : Nat} {ar : Nat → Nat} {cs : Nat → ClassId} {B : BT} {Y : va_W} {Z : ZT} {nL r : Nat}
theorem call_r_isEnd {t : Nat} (hx : p.tables.exec = Jvm.exec) (hb : c.code = cc) (hml : c.maxLocals = nL) (hown : s.vm.findClass RX2 = some mid.cls) (hts : ∀ w ∈ lw_all, w.before args s = true) (hK : KK D cs s) (hA : ∀ q : Nat, s.heap.size ≤ q → A q) (hE : EW D A s.heap (WX x ar cs Z B (rdr Z B r t :: Y)) H locs) (hls : ls.size = nL) (hRD : RD t Z) (h1 : 1 ≤ R.frames) (h2 : 20 ≤ R.locals) (h3 : (rest.map fun v => v.category).sum ≤ 8) (hd : decode cc pc = .ok (.invokevirtual 17, 3)) (hf : cells ≤ R.cells ∧ slots ≤ R.slots) (kk : ∀ (H1 : Heap) (locs1 : List Loc), EW D A s.heap (WX x ar cs Z B (rdr Z B r t :: Y)) H1 locs1 → W p l e R s mid args below meth c H1 locs1 cells slots Q (F0 mid (pc + 3) ls (.int (r_isEnd t Z) :: rest))) : W p l e R s mid args below meth c H locs cells slots Q (F0 mid pc ls (.ref r :: rest)) := by
  obtain ⟨kr, hkr, -⟩ := rd_at (x := x) (ar := ar) (cs := cs) (Z := Z) (B := B) (Y := Y) (r := r) (t := t)
  exact gCall_i (As := []) (rest := rest) (q0 := kr) (ci := 2) (T' := TX2) (N' := 3) hx hb hml hown hts hK hA hE hls (met_r_isEnd l D cs x ar B Y r Z H.size t hRD) (cwV 0 hts (lw_V q399 q400 q401 q95 q402) rfl rfl rfl (by decide +kernel) ⟨h1, h2⟩) hkr rfl rfl rfl h3 hd hf (fun v u H1 locs1 hp _ hE => by subst hp; exact kk H1 locs1 hE)
theorem callx_r_isEnd {t : Nat} (hx : p.tables.exec = Jvm.exec) (hb : c.code = cc) (hml : c.maxLocals = nL) (hown : s.vm.findClass RX0 = some mid.cls) (hts : ∀ w ∈ lw_all, w.before args s = true) (hK : KK D cs s) (hA : ∀ q : Nat, s.heap.size ≤ q → A q) (hE : EW D A s.heap (WX x ar cs Z B (rdr Z B r t :: Y)) H locs) (hls : ls.size = nL) (hRD : RD t Z) (h1 : 1 ≤ R.frames) (h2 : 20 ≤ R.locals) (h3 : (rest.map fun v => v.category).sum ≤ 8) (hd : decode cc pc = .ok (.invokevirtual 135, 3)) (hf : cells ≤ R.cells ∧ slots ≤ R.slots) (kk : ∀ (H1 : Heap) (locs1 : List Loc), EW D A s.heap (WX x ar cs Z B (rdr Z B r t :: Y)) H1 locs1 → W p l e R s mid args below meth c H1 locs1 cells slots Q (F0 mid (pc + 3) ls (.int (r_isEnd t Z) :: rest))) : W p l e R s mid args below meth c H locs cells slots Q (F0 mid pc ls (.ref r :: rest)) := by
  obtain ⟨kr, hkr, -⟩ := rd_at (x := x) (ar := ar) (cs := cs) (Z := Z) (B := B) (Y := Y) (r := r) (t := t)
  exact gCall_i (As := []) (rest := rest) (q0 := kr) (ci := 2) (T' := TX2) (N' := 3) hx hb hml hown hts hK hA hE hls (met_r_isEnd l D cs x ar B Y r Z H.size t hRD) (cwV 0 hts (lw_V q403 q400 q401 q95 q402) rfl rfl rfl (by decide +kernel) ⟨h1, h2⟩) hkr rfl rfl rfl h3 hd hf (fun v u H1 locs1 hp _ hE => by subst hp; exact kk H1 locs1 hE)
end C_r_isEnd
def r_here (t : Nat) (Z : ZT) : Int32 := (if (r_isEnd t Z) = 0 then Z.1 41 (60 * t + ix (Z.1 42 0)) else (-1 : Int32))
theorem rd_lt {t : Nat} {Z : ZT} (h : RD t Z) (hn : ¬ r_here t Z = -1) : ix (Z.1 42 0) < ix (Z.1 40 t) := by
  by_cases he : r_isEnd t Z = 0
  · exact (Nat.not_le.mp fun q => (rd_in h he).1 (Or.inr q))
  · refine absurd ?_ hn
    unfold r_here
    rw [if_neg he]
set_option maxHeartbeats 4000000 in
set_option maxRecDepth 100000 in
theorem met_r_here (l : Launch) (D : va_G) (cs : Nat → ClassId) (x : Nat) (ar : Nat → Nat) (B : BT) (Y : va_W) (r : Nat) (Z : ZT) (sz : Nat) (t : Nat) (hRD : RD t Z) : Met l yX2_here (ws_ yX2_here cX2_here 1 (some .int)) ({ frames := 1, cells := 0, slots := 0, locals := 20 }) (va_Pc [.ref r] (wSt D cs (WX x ar cs Z B (rdr Z B r t :: Y)) sz)) (cQi (fun (v : Int32) (_ : Unit) => r_here t Z = v) D (fun _ => (WX x ar cs Z B (rdr Z B r t :: Y))) (WX x ar cs Z B (rdr Z B r t :: Y)) sz) 0 0 (va_A (WX x ar cs Z B (rdr Z B r t :: Y)) sz) := by
  refine gStart_i (C := RX2) rfl rfl (Nat.le_of_ble_eq_true rfl) ?_
  intro p e s mid args below meth c R Q A hx hb hml hown hts hK hA hRf hRl hRc hRs hret hE ls hl
  have hRf : 1 ≤ R.frames := hRf
  have hRl : 20 ≤ R.locals := hRl
  have hl : lv_has ls 1 [(0, .ref r)] := hl
  have hR : r_here t Z = (if (r_isEnd t Z) = 0 then Z.1 41 (60 * t + ix (Z.1 42 0)) else (-1 : Int32)) := rfl
  refine lv_aload_n hx hb dX2_here_0 rfl (lv_at hl 0 rfl) ?_
  refine call_r_isEnd hx hb hml hown hts hK hA hE hl.1 (by assumption) (lz (show 1 ≤ 1 by decide) hRf) (lz (show 20 ≤ 20 by decide) hRl) (Nat.le_of_ble_eq_true rfl) dX2_here_1 ⟨Nat.zero_le _, Nat.zero_le _⟩ (fun H locs hE => ?_)
  refine lv_if_eq (tgt := 11) hx hb dX2_here_4 (by decide) (fun c4 => ?_) (fun c4 => ?_)
  · have hR : r_here t Z = (Z.1 41 (60 * t + ix (Z.1 42 0))) := hR.trans (congrArg (fun z => z) (if_pos c4))
    refine lv_aload_n hx hb dX2_here_11 rfl (lv_at hl 0 rfl) ?_
    refine rg_text hx hb hts hown hK hE dX2_here_12 ?_
    refine lv_aload_n hx hb dX2_here_15 rfl (lv_at hl 0 rfl) ?_
    refine rg_at hx hb hts hown hK hE dX2_here_16 ?_
    refine xtaR (t := t) (i := Z.1 42 0) (hRD.1) (hRD.2.1) (rd_in hRD c4).1 (rd_in hRD c4).2 hx hb hK hE dX2_here_19 ?_
    exact hret (Z.1 41 (60 * t + ix (Z.1 42 0))) () hR rfl hE (Nat.le_refl 0) (Nat.le_refl 0) dX2_here_20
  · have hR : r_here t Z = (-1 : Int32) := hR.trans (congrArg (fun z => z) (if_neg c4))
    refine lv_iconst (v := -1) hx hb dX2_here_7 rfl ?_
    refine lv_goto (tgt := 20) hx hb dX2_here_8 (by decide) ?_
    exact hret (-1 : Int32) () hR rfl hE (Nat.le_refl 0) (Nat.le_refl 0) dX2_here_20
section C_r_here
variable {p : Program} {l : Launch} {e : Env} {R : Room} {s : State} {mid : MethodId} {args : Array Value} {below : List Frame} {meth : Method} {c : Code} {H : Heap} {locs : List Loc} {cells slots : Nat} {Q : State → Prop} {cc : ByteArray} {pc : Nat} {ls : Array Slot} {rest : List Value} {D : va_G} {A : Nat → Prop} {x : Nat} {ar : Nat → Nat} {cs : Nat → ClassId} {B : BT} {Y : va_W} {Z : ZT} {nL r : Nat}
theorem call_r_here {t : Nat} (hx : p.tables.exec = Jvm.exec) (hb : c.code = cc) (hml : c.maxLocals = nL) (hown : s.vm.findClass RX2 = some mid.cls) (hts : ∀ w ∈ lw_all, w.before args s = true) (hK : KK D cs s) (hA : ∀ q : Nat, s.heap.size ≤ q → A q) (hE : EW D A s.heap (WX x ar cs Z B (rdr Z B r t :: Y)) H locs) (hls : ls.size = nL) (hRD : RD t Z) (h1 : 2 ≤ R.frames) (h2 : 40 ≤ R.locals) (h3 : (rest.map fun v => v.category).sum ≤ 8) (hd : decode cc pc = .ok (.invokevirtual 21, 3)) (hf : cells ≤ R.cells ∧ slots ≤ R.slots) (kk : ∀ (H1 : Heap) (locs1 : List Loc), EW D A s.heap (WX x ar cs Z B (rdr Z B r t :: Y)) H1 locs1 → W p l e R s mid args below meth c H1 locs1 cells slots Q (F0 mid (pc + 3) ls (.int (r_here t Z) :: rest))) : W p l e R s mid args below meth c H locs cells slots Q (F0 mid pc ls (.ref r :: rest)) := by
  obtain ⟨kr, hkr, -⟩ := rd_at (x := x) (ar := ar) (cs := cs) (Z := Z) (B := B) (Y := Y) (r := r) (t := t)
  exact gCall_i (As := []) (rest := rest) (q0 := kr) (ci := 2) (T' := TX2) (N' := 3) hx hb hml hown hts hK hA hE hls (met_r_here l D cs x ar B Y r Z H.size t hRD) (cwV 0 hts (lw_V q395 q396 q397 q95 q398) rfl rfl rfl (by decide +kernel) ⟨h1, h2⟩) hkr rfl rfl rfl h3 hd hf (fun v u H1 locs1 hp _ hE => by subst hp; exact kk H1 locs1 hE)
theorem callx_r_here {t : Nat} (hx : p.tables.exec = Jvm.exec) (hb : c.code = cc) (hml : c.maxLocals = nL) (hown : s.vm.findClass RX0 = some mid.cls) (hts : ∀ w ∈ lw_all, w.before args s = true) (hK : KK D cs s) (hA : ∀ q : Nat, s.heap.size ≤ q → A q) (hE : EW D A s.heap (WX x ar cs Z B (rdr Z B r t :: Y)) H locs) (hls : ls.size = nL) (hRD : RD t Z) (h1 : 2 ≤ R.frames) (h2 : 40 ≤ R.locals) (h3 : (rest.map fun v => v.category).sum ≤ 8) (hd : decode cc pc = .ok (.invokevirtual 108, 3)) (hf : cells ≤ R.cells ∧ slots ≤ R.slots) (kk : ∀ (H1 : Heap) (locs1 : List Loc), EW D A s.heap (WX x ar cs Z B (rdr Z B r t :: Y)) H1 locs1 → W p l e R s mid args below meth c H1 locs1 cells slots Q (F0 mid (pc + 3) ls (.int (r_here t Z) :: rest))) : W p l e R s mid args below meth c H locs cells slots Q (F0 mid pc ls (.ref r :: rest)) := by
  obtain ⟨kr, hkr, -⟩ := rd_at (x := x) (ar := ar) (cs := cs) (Z := Z) (B := B) (Y := Y) (r := r) (t := t)
  exact gCall_i (As := []) (rest := rest) (q0 := kr) (ci := 2) (T' := TX2) (N' := 3) hx hb hml hown hts hK hA hE hls (met_r_here l D cs x ar B Y r Z H.size t hRD) (cwV 0 hts (lw_V q412 q396 q397 q95 q398) rfl rfl rfl (by decide +kernel) ⟨h1, h2⟩) hkr rfl rfl rfl h3 hd hf (fun v u H1 locs1 hp _ hE => by subst hp; exact kk H1 locs1 hE)
end C_r_here
def r_skip_b0 (t : Nat) (w0 : ZT) : Bool × (ZT) := (if (r_here t w0) = (32 : Int32) then (true, sI w0 42 0 ((w0.1 42 0) + (1 : Int32))) else (false, w0))
def r_skip_e0 (w0 : ZT) : ZT := w0
def r_skip (t : Nat) (Z : ZT) : ZT := r_skip_e0 (wlR (r_skip_b0 t) 62 Z)
set_option maxHeartbeats 4000000 in
set_option maxRecDepth 100000 in
theorem met_r_skip (l : Launch) (D : va_G) (cs : Nat → ClassId) (x : Nat) (ar : Nat → Nat) (B : BT) (Y : va_W) (r : Nat) (Z : ZT) (sz : Nat) (t : Nat) (hRD : RD t Z) : Met l yX2_skip (ws_ yX2_skip cX2_skip 1 none) ({ frames := 2, cells := 0, slots := 0, locals := 40 }) (va_Pc [.ref r] (wSt D cs (WX x ar cs Z B (rdr Z B r t :: Y)) sz)) (cQv (fun (u : ZT) => r_skip t Z = u) D (fun u => (WX x ar cs u B (rdr u B r t :: Y))) (WX x ar cs Z B (rdr Z B r t :: Y)) sz) 0 0 (va_A (WX x ar cs Z B (rdr Z B r t :: Y)) sz) := by
  refine gStart_v (C := RX2) rfl rfl (Nat.le_of_ble_eq_true rfl) ?_
  intro p e s mid args below meth c R Q A hx hb hml hown hts hK hA hRf hRl hRc hRs hnm hret hE ls hl
  have hRf : 2 ≤ R.frames := hRf
  have hRl : 40 ≤ R.locals := hRl
  have hl : lv_has ls 1 [(0, .ref r)] := hl
  have hR : r_skip t Z = (r_skip_e0 (wlR (r_skip_b0 t) 62 Z)) := rfl
  have hX0 : ∀ (w0 : ZT) (hR0 : RD t w0) (hR : r_skip t Z = r_skip_e0 w0), ∀ (H : Heap) (locs : List Loc) (ls : Array Slot), EW D A s.heap (WX x ar cs w0 B (rdr w0 B r t :: Y)) H locs → lv_has ls 1 [] → W p l e R s mid args below meth c H locs 0 0 Q (F0 mid 22 ls []) := by
    intro w0 hR0 hR H locs ls hE hl
    have hR : r_skip t Z = w0 := hR
    exact hret w0 hR hE (Nat.le_refl 0) (Nat.le_refl 0) dX2_skip_22
  have hL0 : ∀ (n : Nat) (w0 : ZT) (hm0 : 60 - ix (w0.1 42 0) < n) (hR0 : RD t w0) (hR : r_skip t Z = r_skip_e0 (wlR (r_skip_b0 t) n w0)), ∀ (H : Heap) (locs : List Loc) (ls : Array Slot), EW D A s.heap (WX x ar cs w0 B (rdr w0 B r t :: Y)) H locs → lv_has ls 1 [(0, .ref r)] → W p l e R s mid args below meth c H locs 0 0 Q (F0 mid 0 ls []) := by
    intro n
    induction n with
    | zero =>
      intro w0 hm0
      exact absurd hm0 (Nat.not_lt_zero _)
    | succ n ih0 =>
      intro w0 hm0 hR0 hR H locs ls hE hl
      have hB0 : r_skip_b0 t w0 = (if (r_here t w0) = (32 : Int32) then (true, sI w0 42 0 ((w0.1 42 0) + (1 : Int32))) else (false, w0)) := rfl
      refine lv_aload_n hx hb dX2_skip_0 rfl (lv_at hl 0 rfl) ?_
      refine call_r_here hx hb hml hown hts hK hA hE hl.1 (hR0) (lz (show 2 ≤ 2 by decide) hRf) (lz (show 40 ≤ 40 by decide) hRl) (Nat.le_of_ble_eq_true rfl) dX2_skip_1 ⟨Nat.zero_le _, Nat.zero_le _⟩ (fun H locs hE => ?_)
      refine lv_bipush (v := 32) hx hb dX2_skip_4 rfl ?_
      refine lv_icmp_ne (tgt := 22) hx hb dX2_skip_6 (by decide) (fun c6 => ?_) (fun c6 => ?_)
      · have hB0 : r_skip_b0 t w0 = (false, w0) := hB0.trans (congrArg (fun z => z) (if_neg c6))
        exact hX0 w0 (by exact hR0) (hR.trans (congrArg (fun z => r_skip_e0 z) (wl_f hB0))) _ _ _ hE (lv_sub hl [] rfl)
      · have hB0 : r_skip_b0 t w0 = (true, sI w0 42 0 ((w0.1 42 0) + (1 : Int32))) := hB0.trans (congrArg (fun z => z) (if_pos c6))
        refine lv_aload_n hx hb dX2_skip_9 rfl (lv_at hl 0 rfl) ?_
        refine lv_dup hx hb dX2_skip_10 rfl ?_
        refine rg_at hx hb hts hown hK hE dX2_skip_11 ?_
        refine lv_iconst (v := 1) hx hb dX2_skip_14 rfl ?_
        refine lv_iadd hx hb dX2_skip_15 ?_
        refine rp_at hx hb hts hown hK hE dX2_skip_16 (fun H locs hE => ?_)
        refine lv_goto (tgt := 0) hx hb dX2_skip_19 (by decide) ?_
        exact ih0 (sI w0 42 0 ((w0.1 42 0) + (1 : Int32))) (by exact rd_dec hR0 (rd_lt hR0 (by rw [c6]; decide)) hm0) (by exact RD_up hR0 (rd_lt hR0 (by rw [c6]; decide)) rfl rfl) (hR.trans (congrArg (fun z => r_skip_e0 z) (wl_t hB0))) _ _ _ hE (lv_sub hl [0] rfl)
  exact hL0 62 Z (by show 60 - _ < 62; omega) (by exact hRD) hR _ _ _ hE (lv_sub hl [0] rfl)
section C_r_skip
variable {p : Program} {l : Launch} {e : Env} {R : Room} {s : State} {mid : MethodId} {args : Array Value} {below : List Frame} {meth : Method} {c : Code} {H : Heap} {locs : List Loc} {cells slots : Nat} {Q : State → Prop} {cc : ByteArray} {pc : Nat} {ls : Array Slot} {rest : List Value} {D : va_G} {A : Nat → Prop} {x : Nat} {ar : Nat → Nat} {cs : Nat → ClassId} {B : BT} {Y : va_W} {Z : ZT} {nL r : Nat}
theorem callx_r_skip {t : Nat} (hx : p.tables.exec = Jvm.exec) (hb : c.code = cc) (hml : c.maxLocals = nL) (hown : s.vm.findClass RX0 = some mid.cls) (hts : ∀ w ∈ lw_all, w.before args s = true) (hK : KK D cs s) (hA : ∀ q : Nat, s.heap.size ≤ q → A q) (hE : EW D A s.heap (WX x ar cs Z B (rdr Z B r t :: Y)) H locs) (hls : ls.size = nL) (hRD : RD t Z) (h1 : 3 ≤ R.frames) (h2 : 60 ≤ R.locals) (h3 : (rest.map fun v => v.category).sum ≤ 8) (hd : decode cc pc = .ok (.invokevirtual 132, 3)) (hf : cells ≤ R.cells ∧ slots ≤ R.slots) (kk : ∀ (H1 : Heap) (locs1 : List Loc), EW D A s.heap (WX x ar cs (r_skip t Z) B (rdr (r_skip t Z) B r t :: Y)) H1 locs1 → W p l e R s mid args below meth c H1 locs1 cells slots Q (F0 mid (pc + 3) ls (rest))) : W p l e R s mid args below meth c H locs cells slots Q (F0 mid pc ls (.ref r :: rest)) := by
  obtain ⟨kr, hkr, -⟩ := rd_at (x := x) (ar := ar) (cs := cs) (Z := Z) (B := B) (Y := Y) (r := r) (t := t)
  exact gCall_v (As := []) (rest := rest) (q0 := kr) (ci := 2) (T' := TX2) (N' := 3) hx hb hml hown hts hK hA hE hls (met_r_skip l D cs x ar B Y r Z H.size t hRD) (cwV 0 hts (lw_V q391 q392 q393 q95 q394) rfl rfl rfl (by decide +kernel) ⟨h1, h2⟩) hkr rfl rfl rfl h3 hd hf (fun u H1 locs1 hp _ hE => by subst hp; exact kk H1 locs1 hE)
end C_r_skip
def r_isBeing (t : Nat) (Z : ZT) : Int32 := (if (r_here t Z) < (97 : Int32) then (0 : Int32) else (if (104 : Int32) < (r_here t Z) then (0 : Int32) else (1 : Int32)))
theorem rd_b {t : Nat} {Z : ZT} (h : RD t Z) (hn : ¬ r_isBeing t Z = 0) : ix (Z.1 42 0) < ix (Z.1 40 t) := rd_lt h (fun q => by
  apply hn
  unfold r_isBeing
  rw [q, if_pos (by decide)])
set_option maxHeartbeats 4000000 in
set_option maxRecDepth 100000 in
theorem met_r_isBeing (l : Launch) (D : va_G) (cs : Nat → ClassId) (x : Nat) (ar : Nat → Nat) (B : BT) (Y : va_W) (r : Nat) (Z : ZT) (sz : Nat) (t : Nat) (hRD : RD t Z) : Met l yX2_isBeing (ws_ yX2_isBeing cX2_isBeing 1 (some .boolean)) ({ frames := 2, cells := 0, slots := 0, locals := 40 }) (va_Pc [.ref r] (wSt D cs (WX x ar cs Z B (rdr Z B r t :: Y)) sz)) (cQi (fun (v : Int32) (_ : Unit) => r_isBeing t Z = v) D (fun _ => (WX x ar cs Z B (rdr Z B r t :: Y))) (WX x ar cs Z B (rdr Z B r t :: Y)) sz) 0 0 (va_A (WX x ar cs Z B (rdr Z B r t :: Y)) sz) := by
  refine gStart_i (C := RX2) rfl rfl (Nat.le_of_ble_eq_true rfl) ?_
  intro p e s mid args below meth c R Q A hx hb hml hown hts hK hA hRf hRl hRc hRs hret hE ls hl
  have hRf : 2 ≤ R.frames := hRf
  have hRl : 40 ≤ R.locals := hRl
  have hl : lv_has ls 1 [(0, .ref r)] := hl
  have hR : r_isBeing t Z = (if (r_here t Z) < (97 : Int32) then (0 : Int32) else (if (104 : Int32) < (r_here t Z) then (0 : Int32) else (1 : Int32))) := rfl
  refine lv_aload_n hx hb dX2_isBeing_0 rfl (lv_at hl 0 rfl) ?_
  refine call_r_here hx hb hml hown hts hK hA hE hl.1 (by assumption) (lz (show 2 ≤ 2 by decide) hRf) (lz (show 40 ≤ 40 by decide) hRl) (Nat.le_of_ble_eq_true rfl) dX2_isBeing_1 ⟨Nat.zero_le _, Nat.zero_le _⟩ (fun H locs hE => ?_)
  refine lv_bipush (v := 97) hx hb dX2_isBeing_4 rfl ?_
  refine lv_icmp_lt (tgt := 22) hx hb dX2_isBeing_6 (by decide) (fun c6 => ?_) (fun c6 => ?_)
  · have hR : r_isBeing t Z = (0 : Int32) := hR.trans (congrArg (fun z => z) (if_pos c6))
    refine lv_iconst (v := 0) hx hb dX2_isBeing_22 rfl ?_
    exact hret (0 : Int32) () hR rfl hE (Nat.le_refl 0) (Nat.le_refl 0) dX2_isBeing_23
  · have hR : r_isBeing t Z = (if (104 : Int32) < (r_here t Z) then (0 : Int32) else (1 : Int32)) := hR.trans (congrArg (fun z => z) (if_neg c6))
    refine lv_aload_n hx hb dX2_isBeing_9 rfl (lv_at hl 0 rfl) ?_
    refine call_r_here hx hb hml hown hts hK hA hE hl.1 (by assumption) (lz (show 2 ≤ 2 by decide) hRf) (lz (show 40 ≤ 40 by decide) hRl) (Nat.le_of_ble_eq_true rfl) dX2_isBeing_10 ⟨Nat.zero_le _, Nat.zero_le _⟩ (fun H locs hE => ?_)
    refine lv_bipush (v := 104) hx hb dX2_isBeing_13 rfl ?_
    refine lv_icmp_gt (tgt := 22) hx hb dX2_isBeing_15 (by decide) (fun c15 => ?_) (fun c15 => ?_)
    · have hR : r_isBeing t Z = (0 : Int32) := hR.trans (congrArg (fun z => z) (if_pos c15))
      refine lv_iconst (v := 0) hx hb dX2_isBeing_22 rfl ?_
      exact hret (0 : Int32) () hR rfl hE (Nat.le_refl 0) (Nat.le_refl 0) dX2_isBeing_23
    · have hR : r_isBeing t Z = (1 : Int32) := hR.trans (congrArg (fun z => z) (if_neg c15))
      refine lv_iconst (v := 1) hx hb dX2_isBeing_18 rfl ?_
      refine lv_goto (tgt := 23) hx hb dX2_isBeing_19 (by decide) ?_
      exact hret (1 : Int32) () hR rfl hE (Nat.le_refl 0) (Nat.le_refl 0) dX2_isBeing_23
section C_r_isBeing
variable {p : Program} {l : Launch} {e : Env} {R : Room} {s : State} {mid : MethodId} {args : Array Value} {below : List Frame} {meth : Method} {c : Code} {H : Heap} {locs : List Loc} {cells slots : Nat} {Q : State → Prop} {cc : ByteArray} {pc : Nat} {ls : Array Slot} {rest : List Value} {D : va_G} {A : Nat → Prop} {x : Nat} {ar : Nat → Nat} {cs : Nat → ClassId} {B : BT} {Y : va_W} {Z : ZT} {nL r : Nat}
theorem callx_r_isBeing {t : Nat} (hx : p.tables.exec = Jvm.exec) (hb : c.code = cc) (hml : c.maxLocals = nL) (hown : s.vm.findClass RX0 = some mid.cls) (hts : ∀ w ∈ lw_all, w.before args s = true) (hK : KK D cs s) (hA : ∀ q : Nat, s.heap.size ≤ q → A q) (hE : EW D A s.heap (WX x ar cs Z B (rdr Z B r t :: Y)) H locs) (hls : ls.size = nL) (hRD : RD t Z) (h1 : 3 ≤ R.frames) (h2 : 60 ≤ R.locals) (h3 : (rest.map fun v => v.category).sum ≤ 8) (hd : decode cc pc = .ok (.invokevirtual 102, 3)) (hf : cells ≤ R.cells ∧ slots ≤ R.slots) (kk : ∀ (H1 : Heap) (locs1 : List Loc), EW D A s.heap (WX x ar cs Z B (rdr Z B r t :: Y)) H1 locs1 → W p l e R s mid args below meth c H1 locs1 cells slots Q (F0 mid (pc + 3) ls (.int (r_isBeing t Z) :: rest))) : W p l e R s mid args below meth c H locs cells slots Q (F0 mid pc ls (.ref r :: rest)) := by
  obtain ⟨kr, hkr, -⟩ := rd_at (x := x) (ar := ar) (cs := cs) (Z := Z) (B := B) (Y := Y) (r := r) (t := t)
  exact gCall_i (As := []) (rest := rest) (q0 := kr) (ci := 2) (T' := TX2) (N' := 3) hx hb hml hown hts hK hA hE hls (met_r_isBeing l D cs x ar B Y r Z H.size t hRD) (cwV 0 hts (lw_V q408 q409 q410 q95 q411) rfl rfl rfl (by decide +kernel) ⟨h1, h2⟩) hkr rfl rfl rfl h3 hd hf (fun v u H1 locs1 hp _ hE => by subst hp; exact kk H1 locs1 hE)
end C_r_isBeing
def r_isDigit (t : Nat) (Z : ZT) : Int32 := (if (r_here t Z) < (48 : Int32) then (0 : Int32) else (if (57 : Int32) < (r_here t Z) then (0 : Int32) else (1 : Int32)))
theorem rd_dg {t : Nat} {Z : ZT} (h : RD t Z) (hn : ¬ r_isDigit t Z = 0) : ix (Z.1 42 0) < ix (Z.1 40 t) := rd_lt h (fun q => by
  apply hn
  unfold r_isDigit
  rw [q, if_pos (by decide)])
set_option maxHeartbeats 4000000 in
set_option maxRecDepth 100000 in
theorem met_r_isDigit (l : Launch) (D : va_G) (cs : Nat → ClassId) (x : Nat) (ar : Nat → Nat) (B : BT) (Y : va_W) (r : Nat) (Z : ZT) (sz : Nat) (t : Nat) (hRD : RD t Z) : Met l yX2_isDigit (ws_ yX2_isDigit cX2_isDigit 1 (some .boolean)) ({ frames := 2, cells := 0, slots := 0, locals := 40 }) (va_Pc [.ref r] (wSt D cs (WX x ar cs Z B (rdr Z B r t :: Y)) sz)) (cQi (fun (v : Int32) (_ : Unit) => r_isDigit t Z = v) D (fun _ => (WX x ar cs Z B (rdr Z B r t :: Y))) (WX x ar cs Z B (rdr Z B r t :: Y)) sz) 0 0 (va_A (WX x ar cs Z B (rdr Z B r t :: Y)) sz) := by
  refine gStart_i (C := RX2) rfl rfl (Nat.le_of_ble_eq_true rfl) ?_
  intro p e s mid args below meth c R Q A hx hb hml hown hts hK hA hRf hRl hRc hRs hret hE ls hl
  have hRf : 2 ≤ R.frames := hRf
  have hRl : 40 ≤ R.locals := hRl
  have hl : lv_has ls 1 [(0, .ref r)] := hl
  have hR : r_isDigit t Z = (if (r_here t Z) < (48 : Int32) then (0 : Int32) else (if (57 : Int32) < (r_here t Z) then (0 : Int32) else (1 : Int32))) := rfl
  refine lv_aload_n hx hb dX2_isDigit_0 rfl (lv_at hl 0 rfl) ?_
  refine call_r_here hx hb hml hown hts hK hA hE hl.1 (by assumption) (lz (show 2 ≤ 2 by decide) hRf) (lz (show 40 ≤ 40 by decide) hRl) (Nat.le_of_ble_eq_true rfl) dX2_isDigit_1 ⟨Nat.zero_le _, Nat.zero_le _⟩ (fun H locs hE => ?_)
  refine lv_bipush (v := 48) hx hb dX2_isDigit_4 rfl ?_
  refine lv_icmp_lt (tgt := 22) hx hb dX2_isDigit_6 (by decide) (fun c6 => ?_) (fun c6 => ?_)
  · have hR : r_isDigit t Z = (0 : Int32) := hR.trans (congrArg (fun z => z) (if_pos c6))
    refine lv_iconst (v := 0) hx hb dX2_isDigit_22 rfl ?_
    exact hret (0 : Int32) () hR rfl hE (Nat.le_refl 0) (Nat.le_refl 0) dX2_isDigit_23
  · have hR : r_isDigit t Z = (if (57 : Int32) < (r_here t Z) then (0 : Int32) else (1 : Int32)) := hR.trans (congrArg (fun z => z) (if_neg c6))
    refine lv_aload_n hx hb dX2_isDigit_9 rfl (lv_at hl 0 rfl) ?_
    refine call_r_here hx hb hml hown hts hK hA hE hl.1 (by assumption) (lz (show 2 ≤ 2 by decide) hRf) (lz (show 40 ≤ 40 by decide) hRl) (Nat.le_of_ble_eq_true rfl) dX2_isDigit_10 ⟨Nat.zero_le _, Nat.zero_le _⟩ (fun H locs hE => ?_)
    refine lv_bipush (v := 57) hx hb dX2_isDigit_13 rfl ?_
    refine lv_icmp_gt (tgt := 22) hx hb dX2_isDigit_15 (by decide) (fun c15 => ?_) (fun c15 => ?_)
    · have hR : r_isDigit t Z = (0 : Int32) := hR.trans (congrArg (fun z => z) (if_pos c15))
      refine lv_iconst (v := 0) hx hb dX2_isDigit_22 rfl ?_
      exact hret (0 : Int32) () hR rfl hE (Nat.le_refl 0) (Nat.le_refl 0) dX2_isDigit_23
    · have hR : r_isDigit t Z = (1 : Int32) := hR.trans (congrArg (fun z => z) (if_neg c15))
      refine lv_iconst (v := 1) hx hb dX2_isDigit_18 rfl ?_
      refine lv_goto (tgt := 23) hx hb dX2_isDigit_19 (by decide) ?_
      exact hret (1 : Int32) () hR rfl hE (Nat.le_refl 0) (Nat.le_refl 0) dX2_isDigit_23
section C_r_isDigit
variable {p : Program} {l : Launch} {e : Env} {R : Room} {s : State} {mid : MethodId} {args : Array Value} {below : List Frame} {meth : Method} {c : Code} {H : Heap} {locs : List Loc} {cells slots : Nat} {Q : State → Prop} {cc : ByteArray} {pc : Nat} {ls : Array Slot} {rest : List Value} {D : va_G} {A : Nat → Prop} {x : Nat} {ar : Nat → Nat} {cs : Nat → ClassId} {B : BT} {Y : va_W} {Z : ZT} {nL r : Nat}
theorem call_r_isDigit {t : Nat} (hx : p.tables.exec = Jvm.exec) (hb : c.code = cc) (hml : c.maxLocals = nL) (hown : s.vm.findClass RX2 = some mid.cls) (hts : ∀ w ∈ lw_all, w.before args s = true) (hK : KK D cs s) (hA : ∀ q : Nat, s.heap.size ≤ q → A q) (hE : EW D A s.heap (WX x ar cs Z B (rdr Z B r t :: Y)) H locs) (hls : ls.size = nL) (hRD : RD t Z) (h1 : 3 ≤ R.frames) (h2 : 60 ≤ R.locals) (h3 : (rest.map fun v => v.category).sum ≤ 8) (hd : decode cc pc = .ok (.invokevirtual 28, 3)) (hf : cells ≤ R.cells ∧ slots ≤ R.slots) (kk : ∀ (H1 : Heap) (locs1 : List Loc), EW D A s.heap (WX x ar cs Z B (rdr Z B r t :: Y)) H1 locs1 → W p l e R s mid args below meth c H1 locs1 cells slots Q (F0 mid (pc + 3) ls (.int (r_isDigit t Z) :: rest))) : W p l e R s mid args below meth c H locs cells slots Q (F0 mid pc ls (.ref r :: rest)) := by
  obtain ⟨kr, hkr, -⟩ := rd_at (x := x) (ar := ar) (cs := cs) (Z := Z) (B := B) (Y := Y) (r := r) (t := t)
  exact gCall_i (As := []) (rest := rest) (q0 := kr) (ci := 2) (T' := TX2) (N' := 3) hx hb hml hown hts hK hA hE hls (met_r_isDigit l D cs x ar B Y r Z H.size t hRD) (cwV 0 hts (lw_V q417 q418 q419 q95 q420) rfl rfl rfl (by decide +kernel) ⟨h1, h2⟩) hkr rfl rfl rfl h3 hd hf (fun v u H1 locs1 hp _ hE => by subst hp; exact kk H1 locs1 hE)
end C_r_isDigit
def r_reads_b10 (t : Nat) (p1 : Nat) (Z : ZT) (w10 : ZT) : Bool × (ZT) := (if (r_isDigit t w10) = 0 then (false, w10) else (if ((Z.1 42 0) + (nI p1)) ≤ w10.1 42 0 then (false, w10) else (true, sI (sI w10 43 0 ((((10 : Int32) * (w10.1 43 0)) + (r_here t w10)) - (48 : Int32))) 42 0 ((w10.1 42 0) + (1 : Int32)))))
def r_reads_e10 (p2 : Int32) (Z : ZT) (w10 : ZT) : Int32 × ZT := (if w10.1 42 0 = Z.1 42 0 then ((0 : Int32), w10) else (if w10.1 43 0 ≤ p2 then ((1 : Int32), w10) else ((0 : Int32), sI w10 42 0 (Z.1 42 0))))
def r_reads (t : Nat) (p1 : Nat) (p2 : Int32) (Z : ZT) : Int32 × ZT := r_reads_e10 p2 Z (wlR (r_reads_b10 t p1 Z) 62 (sI Z 43 0 (0 : Int32)))
theorem reads_01 {t p1 : Nat} {p2 : Int32} {Z : ZT} : (r_reads t p1 p2 Z).1 = 0 ∨ (r_reads t p1 p2 Z).1 = 1 := by
  unfold r_reads r_reads_e10
  generalize wlR (r_reads_b10 t p1 Z) 62 (sI Z 43 0 (0 : Int32)) = w
  split
  · exact Or.inl rfl
  · split
    · exact Or.inr rfl
    · exact Or.inl rfl
set_option maxHeartbeats 4000000 in
set_option maxRecDepth 100000 in
theorem met_r_reads (l : Launch) (D : va_G) (cs : Nat → ClassId) (x : Nat) (ar : Nat → Nat) (B : BT) (Y : va_W) (r : Nat) (Z : ZT) (sz : Nat) (t : Nat) (p1 : Nat) (p2 : Int32) (hn1 : p1 < 10) (hRD : RD t Z) : Met l yX2_reads (ws_ yX2_reads cX2_reads 4 (some .boolean)) ({ frames := 3, cells := 0, slots := 0, locals := 60 }) (va_Pc [.ref r, .int (nI p1), .int p2] (wSt D cs (WX x ar cs Z B (rdr Z B r t :: Y)) sz)) (cQi (fun (v : Int32) (u : ZT) => r_reads t p1 p2 Z = (v, u)) D (fun u => (WX x ar cs u B (rdr u B r t :: Y))) (WX x ar cs Z B (rdr Z B r t :: Y)) sz) 0 0 (va_A (WX x ar cs Z B (rdr Z B r t :: Y)) sz) := by
  refine gStart_i (C := RX2) rfl rfl (Nat.le_of_ble_eq_true rfl) ?_
  intro p e s mid args below meth c R Q A hx hb hml hown hts hK hA hRf hRl hRc hRs hret hE ls hl
  have hRf : 3 ≤ R.frames := hRf
  have hRl : 60 ≤ R.locals := hRl
  have hl : lv_has ls 4 [(0, .ref r), (1, .int (nI p1)), (2, .int p2)] := hl
  have hR : r_reads t p1 p2 Z = (r_reads_e10 p2 Z (wlR (r_reads_b10 t p1 Z) 62 (sI Z 43 0 (0 : Int32)))) := rfl
  refine lv_aload_n hx hb dX2_reads_0 rfl (lv_at hl 0 rfl) ?_
  refine rg_at hx hb hts hown hK hE dX2_reads_1 ?_
  refine lv_istore_n (lv' := [(3, .int (Z.1 42 0)), (0, .ref r), (1, .int (nI p1)), (2, .int p2)]) hx hb dX2_reads_4 rfl hl (by decide) rfl (fun ls hl => ?_)
  refine lv_aload_n hx hb dX2_reads_5 rfl (lv_at hl 1 rfl) ?_
  refine lv_iconst (v := 0) hx hb dX2_reads_6 rfl ?_
  refine rp_number hx hb hts hown hK hE dX2_reads_7 (fun H locs hE => ?_)
  have hX10 : ∀ (w10 : ZT) (hR10 : RD t w10) (hR : r_reads t p1 p2 Z = r_reads_e10 p2 Z w10), ∀ (H : Heap) (locs : List Loc) (ls : Array Slot), EW D A s.heap (WX x ar cs w10 B (rdr w10 B r t :: Y)) H locs → lv_has ls 4 [(0, .ref r), (2, .int p2), (3, .int (Z.1 42 0))] → W p l e R s mid args below meth c H locs 0 0 Q (F0 mid 59 ls []) := by
    intro w10 hR10 hR H locs ls hE hl
    have hR : r_reads t p1 p2 Z = (if w10.1 42 0 = Z.1 42 0 then ((0 : Int32), w10) else (if w10.1 43 0 ≤ p2 then ((1 : Int32), w10) else ((0 : Int32), sI w10 42 0 (Z.1 42 0)))) := hR
    refine lv_aload_n hx hb dX2_reads_59 rfl (lv_at hl 0 rfl) ?_
    refine rg_at hx hb hts hown hK hE dX2_reads_60 ?_
    refine lv_iload_n hx hb dX2_reads_63 rfl (lv_at hl 2 rfl) ?_
    refine lv_icmp_ne (tgt := 69) hx hb dX2_reads_64 (by decide) (fun c64 => ?_) (fun c64 => ?_)
    · have hR : r_reads t p1 p2 Z = (if w10.1 43 0 ≤ p2 then ((1 : Int32), w10) else ((0 : Int32), sI w10 42 0 (Z.1 42 0))) := hR.trans (congrArg (fun z => z) (if_neg c64))
      refine lv_aload_n hx hb dX2_reads_69 rfl (lv_at hl 0 rfl) ?_
      refine rg_number hx hb hts hown hK hE dX2_reads_70 ?_
      refine lv_iload_n hx hb dX2_reads_73 rfl (lv_at hl 1 rfl) ?_
      refine lv_icmp_le (tgt := 84) hx hb dX2_reads_74 (by decide) (fun c74 => ?_) (fun c74 => ?_)
      · have hR : r_reads t p1 p2 Z = ((1 : Int32), w10) := hR.trans (congrArg (fun z => z) (if_pos c74))
        refine lv_iconst (v := 1) hx hb dX2_reads_84 rfl ?_
        exact hret (1 : Int32) w10 hR rfl hE (Nat.le_refl 0) (Nat.le_refl 0) dX2_reads_85
      · have hR : r_reads t p1 p2 Z = ((0 : Int32), sI w10 42 0 (Z.1 42 0)) := hR.trans (congrArg (fun z => z) (if_neg c74))
        refine lv_aload_n hx hb dX2_reads_77 rfl (lv_at hl 0 rfl) ?_
        refine lv_iload_n hx hb dX2_reads_78 rfl (lv_at hl 2 rfl) ?_
        refine rp_at hx hb hts hown hK hE dX2_reads_79 (fun H locs hE => ?_)
        refine lv_iconst (v := 0) hx hb dX2_reads_82 rfl ?_
        exact hret (0 : Int32) (sI w10 42 0 (Z.1 42 0)) hR rfl hE (Nat.le_refl 0) (Nat.le_refl 0) dX2_reads_83
    · have hR : r_reads t p1 p2 Z = ((0 : Int32), w10) := hR.trans (congrArg (fun z => z) (if_pos c64))
      refine lv_iconst (v := 0) hx hb dX2_reads_67 rfl ?_
      exact hret (0 : Int32) w10 hR rfl hE (Nat.le_refl 0) (Nat.le_refl 0) dX2_reads_68
  have hL10 : ∀ (n : Nat) (w10 : ZT) (hm10 : 60 - ix (w10.1 42 0) < n) (hR10 : RD t w10) (hR : r_reads t p1 p2 Z = r_reads_e10 p2 Z (wlR (r_reads_b10 t p1 Z) n w10)), ∀ (H : Heap) (locs : List Loc) (ls : Array Slot), EW D A s.heap (WX x ar cs w10 B (rdr w10 B r t :: Y)) H locs → lv_has ls 4 [(0, .ref r), (1, .int (nI p1)), (2, .int p2), (3, .int (Z.1 42 0))] → W p l e R s mid args below meth c H locs 0 0 Q (F0 mid 10 ls []) := by
    intro n
    induction n with
    | zero =>
      intro w10 hm10
      exact absurd hm10 (Nat.not_lt_zero _)
    | succ n ih10 =>
      intro w10 hm10 hR10 hR H locs ls hE hl
      have hB10 : r_reads_b10 t p1 Z w10 = (if (r_isDigit t w10) = 0 then (false, w10) else (if ((Z.1 42 0) + (nI p1)) ≤ w10.1 42 0 then (false, w10) else (true, sI (sI w10 43 0 ((((10 : Int32) * (w10.1 43 0)) + (r_here t w10)) - (48 : Int32))) 42 0 ((w10.1 42 0) + (1 : Int32))))) := rfl
      refine lv_aload_n hx hb dX2_reads_10 rfl (lv_at hl 0 rfl) ?_
      refine call_r_isDigit hx hb hml hown hts hK hA hE hl.1 (hR10) (lz (show 3 ≤ 3 by decide) hRf) (lz (show 60 ≤ 60 by decide) hRl) (Nat.le_of_ble_eq_true rfl) dX2_reads_11 ⟨Nat.zero_le _, Nat.zero_le _⟩ (fun H locs hE => ?_)
      refine lv_if_eq (tgt := 59) hx hb dX2_reads_14 (by decide) (fun c14 => ?_) (fun c14 => ?_)
      · have hB10 : r_reads_b10 t p1 Z w10 = (false, w10) := hB10.trans (congrArg (fun z => z) (if_pos c14))
        exact hX10 w10 (by exact hR10) (hR.trans (congrArg (fun z => r_reads_e10 p2 Z z) (wl_f hB10))) _ _ _ hE (lv_sub hl [0, 2, 3] rfl)
      · have hB10 : r_reads_b10 t p1 Z w10 = (if ((Z.1 42 0) + (nI p1)) ≤ w10.1 42 0 then (false, w10) else (true, sI (sI w10 43 0 ((((10 : Int32) * (w10.1 43 0)) + (r_here t w10)) - (48 : Int32))) 42 0 ((w10.1 42 0) + (1 : Int32)))) := hB10.trans (congrArg (fun z => z) (if_neg c14))
        refine lv_aload_n hx hb dX2_reads_17 rfl (lv_at hl 0 rfl) ?_
        refine rg_at hx hb hts hown hK hE dX2_reads_18 ?_
        refine lv_iload_n hx hb dX2_reads_21 rfl (lv_at hl 3 rfl) ?_
        refine lv_iload_n hx hb dX2_reads_22 rfl (lv_at hl 1 rfl) ?_
        refine lv_iadd hx hb dX2_reads_23 ?_
        refine lv_icmp_ge (tgt := 59) hx hb dX2_reads_24 (by decide) (fun c24 => ?_) (fun c24 => ?_)
        · have hB10 : r_reads_b10 t p1 Z w10 = (false, w10) := hB10.trans (congrArg (fun z => z) (if_pos c24))
          exact hX10 w10 (by exact hR10) (hR.trans (congrArg (fun z => r_reads_e10 p2 Z z) (wl_f hB10))) _ _ _ hE (lv_sub hl [0, 2, 3] rfl)
        · have hB10 : r_reads_b10 t p1 Z w10 = (true, sI (sI w10 43 0 ((((10 : Int32) * (w10.1 43 0)) + (r_here t w10)) - (48 : Int32))) 42 0 ((w10.1 42 0) + (1 : Int32))) := hB10.trans (congrArg (fun z => z) (if_neg c24))
          refine lv_aload_n hx hb dX2_reads_27 rfl (lv_at hl 0 rfl) ?_
          refine lv_bipush (v := 10) hx hb dX2_reads_28 rfl ?_
          refine lv_aload_n hx hb dX2_reads_30 rfl (lv_at hl 0 rfl) ?_
          refine rg_number hx hb hts hown hK hE dX2_reads_31 ?_
          refine lv_imul hx hb dX2_reads_34 ?_
          refine lv_aload_n hx hb dX2_reads_35 rfl (lv_at hl 0 rfl) ?_
          refine call_r_here hx hb hml hown hts hK hA hE hl.1 (hR10) (lz (show 2 ≤ 3 by decide) hRf) (lz (show 40 ≤ 60 by decide) hRl) (Nat.le_of_ble_eq_true rfl) dX2_reads_36 ⟨Nat.zero_le _, Nat.zero_le _⟩ (fun H locs hE => ?_)
          refine lv_iadd hx hb dX2_reads_39 ?_
          refine lv_bipush (v := 48) hx hb dX2_reads_40 rfl ?_
          refine lv_isub hx hb dX2_reads_42 ?_
          refine rp_number hx hb hts hown hK hE dX2_reads_43 (fun H locs hE => ?_)
          refine lv_aload_n hx hb dX2_reads_46 rfl (lv_at hl 0 rfl) ?_
          refine lv_dup hx hb dX2_reads_47 rfl ?_
          refine rg_at hx hb hts hown hK hE dX2_reads_48 ?_
          refine lv_iconst (v := 1) hx hb dX2_reads_51 rfl ?_
          refine lv_iadd hx hb dX2_reads_52 ?_
          refine rp_at hx hb hts hown hK hE dX2_reads_53 (fun H locs hE => ?_)
          refine lv_goto (tgt := 10) hx hb dX2_reads_56 (by decide) ?_
          exact ih10 (sI (sI w10 43 0 ((((10 : Int32) * (w10.1 43 0)) + (r_here t w10)) - (48 : Int32))) 42 0 ((w10.1 42 0) + (1 : Int32))) (by exact rd_dec hR10 (rd_dg hR10 c14) hm10) (by exact RD_up hR10 (rd_dg hR10 c14) rfl rfl) (hR.trans (congrArg (fun z => r_reads_e10 p2 Z z) (wl_t hB10))) _ _ _ hE (lv_sub hl [0, 1, 2, 3] rfl)
  exact hL10 62 (sI Z 43 0 (0 : Int32)) (by show 60 - _ < 62; omega) (by exact RD_n hRD) hR _ _ _ hE (lv_sub hl [1, 2, 3, 0] rfl)
section C_r_reads
variable {p : Program} {l : Launch} {e : Env} {R : Room} {s : State} {mid : MethodId} {args : Array Value} {below : List Frame} {meth : Method} {c : Code} {H : Heap} {locs : List Loc} {cells slots : Nat} {Q : State → Prop} {cc : ByteArray} {pc : Nat} {ls : Array Slot} {rest : List Value} {D : va_G} {A : Nat → Prop} {x : Nat} {ar : Nat → Nat} {cs : Nat → ClassId} {B : BT} {Y : va_W} {Z : ZT} {nL r : Nat}
theorem callx_r_reads {t : Nat} (hx : p.tables.exec = Jvm.exec) (hb : c.code = cc) (hml : c.maxLocals = nL) (hown : s.vm.findClass RX0 = some mid.cls) (hts : ∀ w ∈ lw_all, w.before args s = true) (hK : KK D cs s) (hA : ∀ q : Nat, s.heap.size ≤ q → A q) (hE : EW D A s.heap (WX x ar cs Z B (rdr Z B r t :: Y)) H locs) (hls : ls.size = nL) (p1 : Nat) (p2 : Int32) (hn1 : p1 < 10) (hRD : RD t Z) (h1 : 4 ≤ R.frames) (h2 : 83 ≤ R.locals) (h3 : (rest.map fun v => v.category).sum ≤ 8) (hd : decode cc pc = .ok (.invokevirtual 121, 3)) (hf : cells ≤ R.cells ∧ slots ≤ R.slots) (kk : ∀ (H1 : Heap) (locs1 : List Loc), EW D A s.heap (WX x ar cs ((r_reads t p1 p2 Z).2) B (rdr ((r_reads t p1 p2 Z).2) B r t :: Y)) H1 locs1 → W p l e R s mid args below meth c H1 locs1 cells slots Q (F0 mid (pc + 3) ls (.int (r_reads t p1 p2 Z).1 :: rest))) : W p l e R s mid args below meth c H locs cells slots Q (F0 mid pc ls (.int p2 :: .int (nI p1) :: .ref r :: rest)) := by
  obtain ⟨kr, hkr, -⟩ := rd_at (x := x) (ar := ar) (cs := cs) (Z := Z) (B := B) (Y := Y) (r := r) (t := t)
  exact gCall_i (As := [.int (nI p1), .int p2]) (rest := rest) (q0 := kr) (ci := 2) (T' := TX2) (N' := 3) hx hb hml hown hts hK hA hE hls (met_r_reads l D cs x ar B Y r Z H.size t p1 p2 hn1 hRD) (cwV 2 hts (lw_V q413 q414 q415 q95 q416) rfl rfl rfl (by decide +kernel) ⟨h1, h2⟩) hkr rfl rfl rfl h3 hd hf (fun v u H1 locs1 hp _ hE => by rw [hp] at kk; exact kk H1 locs1 hE)
end C_r_reads
def x_isItem_m143 (t : Nat) (wm143 : ZT) : Int32 × ZT := (r_reads t 2 (99 : Int32) wm143)
def x_isItem_c98 (wc98 : Int32 × ZT) : Int32 × ZT := (wc98.1, wc98.2)
def x_isItem_m77 (t : Nat) (wm77 : ZT) : Int32 × ZT := (if wm77.1 8 0 = (62 : Int32) then (if (r_isBeing t wm77) = 0 then ((0 : Int32), wm77) else x_isItem_m143 t (sI (sI wm77 9 0 ((r_here t wm77) - (97 : Int32))) 42 0 ((wm77.1 42 0) + (1 : Int32)))) else (if wm77.1 8 0 = (33 : Int32) then x_isItem_c98 (r_reads t 1 (3 : Int32) wm77) else (r_reads t 6 (100000 : Int32) wm77)))
def x_isItem_k67 (t : Nat) (wm30 : ZT) : Int32 × ZT := x_isItem_m77 t (sI (sI wm30 8 0 (r_here t wm30)) 42 0 ((wm30.1 42 0) + (1 : Int32)))
def x_isItem_m30 (t : Nat) (wm30 : ZT) : Int32 × ZT := (if (sI wm30 8 0 (r_here t wm30)).1 8 0 = (33 : Int32) then x_isItem_k67 t wm30 else (if (sI wm30 8 0 (r_here t wm30)).1 8 0 = (42 : Int32) then x_isItem_k67 t wm30 else (if (sI wm30 8 0 (r_here t wm30)).1 8 0 = (62 : Int32) then x_isItem_k67 t wm30 else ((0 : Int32), sI wm30 8 0 (r_here t wm30)))))
def x_isItem (t : Nat) (Z : ZT) : Int32 × ZT := (if (r_isBeing t Z) = 0 then ((0 : Int32), Z) else x_isItem_m30 t (sI (sI Z 7 0 ((r_here t Z) - (97 : Int32))) 42 0 ((Z.1 42 0) + (1 : Int32))))
set_option maxHeartbeats 4000000 in
set_option maxRecDepth 100000 in
theorem met_x_isItem (l : Launch) (D : va_G) (cs : Nat → ClassId) (x : Nat) (ar : Nat → Nat) (B : BT) (Y : va_W) (r : Nat) (Z : ZT) (sz : Nat) (t : Nat) (hRD : RD t Z) : Met l yX0_isItem (ws_ yX0_isItem cX0_isItem 2 (some .boolean)) ({ frames := 4, cells := 0, slots := 0, locals := 83 }) (va_Pc [.ref x, .ref r] (wSt D cs (WX x ar cs Z B (rdr Z B r t :: Y)) sz)) (cQi (fun (v : Int32) (u : ZT) => x_isItem t Z = (v, u)) D (fun u => (WX x ar cs u B (rdr u B r t :: Y))) (WX x ar cs Z B (rdr Z B r t :: Y)) sz) 0 0 (va_A (WX x ar cs Z B (rdr Z B r t :: Y)) sz) := by
  refine gStart_i (C := RX0) rfl rfl (Nat.le_of_ble_eq_true rfl) ?_
  intro p e s mid args below meth c R Q A hx hb hml hown hts hK hA hRf hRl hRc hRs hret hE ls hl
  have hRf : 4 ≤ R.frames := hRf
  have hRl : 83 ≤ R.locals := hRl
  have hl : lv_has ls 2 [(0, .ref x), (1, .ref r)] := hl
  have hR : x_isItem t Z = (if (r_isBeing t Z) = 0 then ((0 : Int32), Z) else x_isItem_m30 t (sI (sI Z 7 0 ((r_here t Z) - (97 : Int32))) 42 0 ((Z.1 42 0) + (1 : Int32)))) := rfl
  refine lv_aload_n hx hb dX0_isItem_0 rfl (lv_at hl 1 rfl) ?_
  refine callx_r_isBeing hx hb hml hown hts hK hA hE hl.1 (hRD) (lz (show 3 ≤ 4 by decide) hRf) (lz (show 60 ≤ 83 by decide) hRl) (Nat.le_of_ble_eq_true rfl) dX0_isItem_1 ⟨Nat.zero_le _, Nat.zero_le _⟩ (fun H locs hE => ?_)
  refine lv_if_ne (tgt := 9) hx hb dX0_isItem_4 (by decide) (fun c4 => ?_) (fun c4 => ?_)
  · have hR : x_isItem t Z = (x_isItem_m30 t (sI (sI Z 7 0 ((r_here t Z) - (97 : Int32))) 42 0 ((Z.1 42 0) + (1 : Int32)))) := hR.trans (congrArg (fun z => z) (if_neg c4))
    refine lv_aload_n hx hb dX0_isItem_9 rfl (lv_at hl 0 rfl) ?_
    refine lv_aload_n hx hb dX0_isItem_10 rfl (lv_at hl 1 rfl) ?_
    refine callx_r_here hx hb hml hown hts hK hA hE hl.1 (hRD) (lz (show 2 ≤ 4 by decide) hRf) (lz (show 40 ≤ 83 by decide) hRl) (Nat.le_of_ble_eq_true rfl) dX0_isItem_11 ⟨Nat.zero_le _, Nat.zero_le _⟩ (fun H locs hE => ?_)
    refine lv_bipush (v := 97) hx hb dX0_isItem_14 rfl ?_
    refine lv_isub hx hb dX0_isItem_16 ?_
    refine xp_7 hx hb hts hown hK hE dX0_isItem_17 (fun H locs hE => ?_)
    refine lv_aload_n hx hb dX0_isItem_20 rfl (lv_at hl 1 rfl) ?_
    refine lv_dup hx hb dX0_isItem_21 rfl ?_
    refine rgx_at hx hb hts hown hK hE dX0_isItem_22 ?_
    refine lv_iconst (v := 1) hx hb dX0_isItem_25 rfl ?_
    refine lv_iadd hx hb dX0_isItem_26 ?_
    refine rpx_at hx hb hts hown hK hE dX0_isItem_27 (fun H locs hE => ?_)
    have hNm30 : ∀ (wm30 : ZT) (hewm30 : wm30 = sI (sI Z 7 0 ((r_here t Z) - (97 : Int32))) 42 0 ((Z.1 42 0) + (1 : Int32))) (hR : x_isItem t Z = x_isItem_m30 t wm30), ∀ (H : Heap) (locs : List Loc) (ls : Array Slot), EW D A s.heap (WX x ar cs wm30 B (rdr wm30 B r t :: Y)) H locs → lv_has ls 2 [(0, .ref x), (1, .ref r)] → W p l e R s mid args below meth c H locs 0 0 Q (F0 mid 30 ls []) := by
      intro wm30 hewm30 hR H locs ls hE hl
      have hR : x_isItem t Z = (if (sI wm30 8 0 (r_here t wm30)).1 8 0 = (33 : Int32) then x_isItem_k67 t wm30 else (if (sI wm30 8 0 (r_here t wm30)).1 8 0 = (42 : Int32) then x_isItem_k67 t wm30 else (if (sI wm30 8 0 (r_here t wm30)).1 8 0 = (62 : Int32) then x_isItem_k67 t wm30 else ((0 : Int32), sI wm30 8 0 (r_here t wm30))))) := hR
      have hR30 : RD t wm30 := by rw [hewm30]; exact RD_up hRD (rd_b hRD c4) rfl rfl
      refine lv_aload_n hx hb dX0_isItem_30 rfl (lv_at hl 0 rfl) ?_
      refine lv_aload_n hx hb dX0_isItem_31 rfl (lv_at hl 1 rfl) ?_
      refine callx_r_here hx hb hml hown hts hK hA hE hl.1 (hR30) (lz (show 2 ≤ 4 by decide) hRf) (lz (show 40 ≤ 83 by decide) hRl) (Nat.le_of_ble_eq_true rfl) dX0_isItem_32 ⟨Nat.zero_le _, Nat.zero_le _⟩ (fun H locs hE => ?_)
      refine xp_8 hx hb hts hown hK hE dX0_isItem_35 (fun H locs hE => ?_)
      refine lv_aload_n hx hb dX0_isItem_38 rfl (lv_at hl 0 rfl) ?_
      refine xg_8 hx hb hts hown hK hE dX0_isItem_39 ?_
      refine lv_bipush (v := 33) hx hb dX0_isItem_42 rfl ?_
      have hJ67 : ∀ (hs67 : ¬ r_here t wm30 = -1) (hR : x_isItem t Z = x_isItem_k67 t wm30), ∀ (H : Heap) (locs : List Loc) (ls : Array Slot), EW D A s.heap (WX x ar cs (sI wm30 8 0 (r_here t wm30)) B (rdr (sI wm30 8 0 (r_here t wm30)) B r t :: Y)) H locs → lv_has ls 2 [(0, .ref x), (1, .ref r)] → W p l e R s mid args below meth c H locs 0 0 Q (F0 mid 67 ls []) := by
        intro hs67 hR H locs ls hE hl
        have hR : x_isItem t Z = (x_isItem_m77 t (sI (sI wm30 8 0 (r_here t wm30)) 42 0 ((wm30.1 42 0) + (1 : Int32)))) := hR
        refine lv_aload_n hx hb dX0_isItem_67 rfl (lv_at hl 1 rfl) ?_
        refine lv_dup hx hb dX0_isItem_68 rfl ?_
        refine rgx_at hx hb hts hown hK hE dX0_isItem_69 ?_
        refine lv_iconst (v := 1) hx hb dX0_isItem_72 rfl ?_
        refine lv_iadd hx hb dX0_isItem_73 ?_
        refine rpx_at hx hb hts hown hK hE dX0_isItem_74 (fun H locs hE => ?_)
        have hNm77 : ∀ (wm77 : ZT) (hewm77 : wm77 = sI (sI wm30 8 0 (r_here t wm30)) 42 0 ((wm30.1 42 0) + (1 : Int32))) (hR : x_isItem t Z = x_isItem_m77 t wm77), ∀ (H : Heap) (locs : List Loc) (ls : Array Slot), EW D A s.heap (WX x ar cs wm77 B (rdr wm77 B r t :: Y)) H locs → lv_has ls 2 [(0, .ref x), (1, .ref r)] → W p l e R s mid args below meth c H locs 0 0 Q (F0 mid 77 ls []) := by
          intro wm77 hewm77 hR H locs ls hE hl
          have hR : x_isItem t Z = (if wm77.1 8 0 = (62 : Int32) then (if (r_isBeing t wm77) = 0 then ((0 : Int32), wm77) else x_isItem_m143 t (sI (sI wm77 9 0 ((r_here t wm77) - (97 : Int32))) 42 0 ((wm77.1 42 0) + (1 : Int32)))) else (if wm77.1 8 0 = (33 : Int32) then x_isItem_c98 (r_reads t 1 (3 : Int32) wm77) else (r_reads t 6 (100000 : Int32) wm77))) := hR
          have hR77 : RD t wm77 := by rw [hewm77]; exact RD_up hR30 (rd_lt hR30 hs67) rfl rfl
          refine lv_aload_n hx hb dX0_isItem_77 rfl (lv_at hl 0 rfl) ?_
          refine xg_8 hx hb hts hown hK hE dX0_isItem_78 ?_
          refine lv_bipush (v := 62) hx hb dX0_isItem_81 rfl ?_
          refine lv_icmp_eq (tgt := 113) hx hb dX0_isItem_83 (by decide) (fun c83 => ?_) (fun c83 => ?_)
          · have hR : x_isItem t Z = (if (r_isBeing t wm77) = 0 then ((0 : Int32), wm77) else x_isItem_m143 t (sI (sI wm77 9 0 ((r_here t wm77) - (97 : Int32))) 42 0 ((wm77.1 42 0) + (1 : Int32)))) := hR.trans (congrArg (fun z => z) (if_pos c83))
            refine lv_aload_n hx hb dX0_isItem_113 rfl (lv_at hl 1 rfl) ?_
            refine callx_r_isBeing hx hb hml hown hts hK hA hE hl.1 (hR77) (lz (show 3 ≤ 4 by decide) hRf) (lz (show 60 ≤ 83 by decide) hRl) (Nat.le_of_ble_eq_true rfl) dX0_isItem_114 ⟨Nat.zero_le _, Nat.zero_le _⟩ (fun H locs hE => ?_)
            refine lv_if_ne (tgt := 122) hx hb dX0_isItem_117 (by decide) (fun c117 => ?_) (fun c117 => ?_)
            · have hR : x_isItem t Z = (x_isItem_m143 t (sI (sI wm77 9 0 ((r_here t wm77) - (97 : Int32))) 42 0 ((wm77.1 42 0) + (1 : Int32)))) := hR.trans (congrArg (fun z => z) (if_neg c117))
              refine lv_aload_n hx hb dX0_isItem_122 rfl (lv_at hl 0 rfl) ?_
              refine lv_aload_n hx hb dX0_isItem_123 rfl (lv_at hl 1 rfl) ?_
              refine callx_r_here hx hb hml hown hts hK hA hE hl.1 (hR77) (lz (show 2 ≤ 4 by decide) hRf) (lz (show 40 ≤ 83 by decide) hRl) (Nat.le_of_ble_eq_true rfl) dX0_isItem_124 ⟨Nat.zero_le _, Nat.zero_le _⟩ (fun H locs hE => ?_)
              refine lv_bipush (v := 97) hx hb dX0_isItem_127 rfl ?_
              refine lv_isub hx hb dX0_isItem_129 ?_
              refine xp_9 hx hb hts hown hK hE dX0_isItem_130 (fun H locs hE => ?_)
              refine lv_aload_n hx hb dX0_isItem_133 rfl (lv_at hl 1 rfl) ?_
              refine lv_dup hx hb dX0_isItem_134 rfl ?_
              refine rgx_at hx hb hts hown hK hE dX0_isItem_135 ?_
              refine lv_iconst (v := 1) hx hb dX0_isItem_138 rfl ?_
              refine lv_iadd hx hb dX0_isItem_139 ?_
              refine rpx_at hx hb hts hown hK hE dX0_isItem_140 (fun H locs hE => ?_)
              have hNm143 : ∀ (wm143 : ZT) (hewm143 : wm143 = sI (sI wm77 9 0 ((r_here t wm77) - (97 : Int32))) 42 0 ((wm77.1 42 0) + (1 : Int32))) (hR : x_isItem t Z = x_isItem_m143 t wm143), ∀ (H : Heap) (locs : List Loc) (ls : Array Slot), EW D A s.heap (WX x ar cs wm143 B (rdr wm143 B r t :: Y)) H locs → lv_has ls 2 [(1, .ref r)] → W p l e R s mid args below meth c H locs 0 0 Q (F0 mid 143 ls []) := by
                intro wm143 hewm143 hR H locs ls hE hl
                have hR : x_isItem t Z = (r_reads t 2 (99 : Int32) wm143) := hR
                have hR143 : RD t wm143 := by rw [hewm143]; exact RD_up hR77 (rd_b hR77 c117) rfl rfl
                refine lv_aload_n hx hb dX0_isItem_143 rfl (lv_at hl 0 rfl) ?_
                refine lv_iconst (v := 2) hx hb dX0_isItem_144 rfl ?_
                refine lv_bipush (v := 99) hx hb dX0_isItem_145 rfl ?_
                refine callx_r_reads hx hb hml hown hts hK hA hE hl.1 2 (99 : Int32) (by omega) (hR143) (lz (show 4 ≤ 4 by decide) hRf) (lz (show 83 ≤ 83 by decide) hRl) (Nat.le_of_ble_eq_true rfl) dX0_isItem_147 ⟨Nat.zero_le _, Nat.zero_le _⟩ (fun H locs hE => ?_)
                exact hret ((r_reads t 2 (99 : Int32) wm143).1) ((r_reads t 2 (99 : Int32) wm143).2) (hR.trans (pr_eta _)) (nrw_bool (by first | (rw [hewc147]; exact reads_01) | exact reads_01)) hE (Nat.le_refl 0) (Nat.le_refl 0) dX0_isItem_150
              exact hNm143 (sI (sI wm77 9 0 ((r_here t wm77) - (97 : Int32))) 42 0 ((wm77.1 42 0) + (1 : Int32))) rfl hR _ _ _ hE (lv_sub hl [1] rfl)
            · have hR : x_isItem t Z = ((0 : Int32), wm77) := hR.trans (congrArg (fun z => z) (if_pos c117))
              refine lv_iconst (v := 0) hx hb dX0_isItem_120 rfl ?_
              exact hret (0 : Int32) wm77 hR rfl hE (Nat.le_refl 0) (Nat.le_refl 0) dX0_isItem_121
          · have hR : x_isItem t Z = (if wm77.1 8 0 = (33 : Int32) then x_isItem_c98 (r_reads t 1 (3 : Int32) wm77) else (r_reads t 6 (100000 : Int32) wm77)) := hR.trans (congrArg (fun z => z) (if_neg c83))
            refine lv_aload_n hx hb dX0_isItem_86 rfl (lv_at hl 0 rfl) ?_
            refine xg_8 hx hb hts hown hK hE dX0_isItem_87 ?_
            refine lv_bipush (v := 33) hx hb dX0_isItem_90 rfl ?_
            refine lv_icmp_ne (tgt := 104) hx hb dX0_isItem_92 (by decide) (fun c92 => ?_) (fun c92 => ?_)
            · have hR : x_isItem t Z = (r_reads t 6 (100000 : Int32) wm77) := hR.trans (congrArg (fun z => z) (if_neg c92))
              refine lv_aload_n hx hb dX0_isItem_104 rfl (lv_at hl 1 rfl) ?_
              refine lv_bipush (v := 6) hx hb dX0_isItem_105 rfl ?_
              refine lv_ldc (v := 100000) hx hb hown (hts _ q421) dX0_isItem_107 ?_
              refine callx_r_reads hx hb hml hown hts hK hA hE hl.1 6 (100000 : Int32) (by omega) (hR77) (lz (show 4 ≤ 4 by decide) hRf) (lz (show 83 ≤ 83 by decide) hRl) (Nat.le_of_ble_eq_true rfl) dX0_isItem_109 ⟨Nat.zero_le _, Nat.zero_le _⟩ (fun H locs hE => ?_)
              exact hret ((r_reads t 6 (100000 : Int32) wm77).1) ((r_reads t 6 (100000 : Int32) wm77).2) (hR.trans (pr_eta _)) (nrw_bool (by first | (rw [hewc98]; exact reads_01) | exact reads_01)) hE (Nat.le_refl 0) (Nat.le_refl 0) dX0_isItem_112
            · have hR : x_isItem t Z = (x_isItem_c98 (r_reads t 1 (3 : Int32) wm77)) := hR.trans (congrArg (fun z => z) (if_pos c92))
              refine lv_aload_n hx hb dX0_isItem_95 rfl (lv_at hl 1 rfl) ?_
              refine lv_iconst (v := 1) hx hb dX0_isItem_96 rfl ?_
              refine lv_iconst (v := 3) hx hb dX0_isItem_97 rfl ?_
              refine callx_r_reads hx hb hml hown hts hK hA hE hl.1 1 (3 : Int32) (by omega) (hR77) (lz (show 4 ≤ 4 by decide) hRf) (lz (show 83 ≤ 83 by decide) hRl) (Nat.le_of_ble_eq_true rfl) dX0_isItem_98 ⟨Nat.zero_le _, Nat.zero_le _⟩ (fun H locs hE => ?_)
              have hNc98 : ∀ (wc98 : Int32 × ZT) (hewc98 : wc98 = r_reads t 1 (3 : Int32) wm77) (hR : x_isItem t Z = x_isItem_c98 wc98), ∀ (H : Heap) (locs : List Loc) (ls : Array Slot), EW D A s.heap (WX x ar cs wc98.2 B (rdr wc98.2 B r t :: Y)) H locs → lv_has ls 2 [] → W p l e R s mid args below meth c H locs 0 0 Q (F0 mid 101 ls [.int wc98.1]) := by
                intro wc98 hewc98 hR H locs ls hE hl
                have hR : x_isItem t Z = (wc98.1, wc98.2) := hR
                refine lv_goto (tgt := 112) hx hb dX0_isItem_101 (by decide) ?_
                exact hret wc98.1 wc98.2 hR (nrw_bool (by first | (rw [hewc98]; exact reads_01) | exact reads_01)) hE (Nat.le_refl 0) (Nat.le_refl 0) dX0_isItem_112
              exact hNc98 (r_reads t 1 (3 : Int32) wm77) rfl hR _ _ _ hE (lv_sub hl [] rfl)
        exact hNm77 (sI (sI wm30 8 0 (r_here t wm30)) 42 0 ((wm30.1 42 0) + (1 : Int32))) rfl hR _ _ _ hE (lv_sub hl [0, 1] rfl)
      refine lv_icmp_eq (tgt := 67) hx hb dX0_isItem_44 (by decide) (fun c44 => ?_) (fun c44 => ?_)
      · have hR : x_isItem t Z = (x_isItem_k67 t wm30) := hR.trans (congrArg (fun z => z) (if_pos c44))
        exact hJ67  (by first | (rw [show r_here t wm30 = 33 from c44]; decide) | (rw [show r_here t wm30 = 42 from c53]; decide) | (rw [show r_here t wm30 = 62 from c62]; decide)) hR _ _ _ hE (lv_sub hl [0, 1] rfl)
      · have hR : x_isItem t Z = (if (sI wm30 8 0 (r_here t wm30)).1 8 0 = (42 : Int32) then x_isItem_k67 t wm30 else (if (sI wm30 8 0 (r_here t wm30)).1 8 0 = (62 : Int32) then x_isItem_k67 t wm30 else ((0 : Int32), sI wm30 8 0 (r_here t wm30)))) := hR.trans (congrArg (fun z => z) (if_neg c44))
        refine lv_aload_n hx hb dX0_isItem_47 rfl (lv_at hl 0 rfl) ?_
        refine xg_8 hx hb hts hown hK hE dX0_isItem_48 ?_
        refine lv_bipush (v := 42) hx hb dX0_isItem_51 rfl ?_
        refine lv_icmp_eq (tgt := 67) hx hb dX0_isItem_53 (by decide) (fun c53 => ?_) (fun c53 => ?_)
        · have hR : x_isItem t Z = (x_isItem_k67 t wm30) := hR.trans (congrArg (fun z => z) (if_pos c53))
          exact hJ67  (by first | (rw [show r_here t wm30 = 33 from c44]; decide) | (rw [show r_here t wm30 = 42 from c53]; decide) | (rw [show r_here t wm30 = 62 from c62]; decide)) hR _ _ _ hE (lv_sub hl [0, 1] rfl)
        · have hR : x_isItem t Z = (if (sI wm30 8 0 (r_here t wm30)).1 8 0 = (62 : Int32) then x_isItem_k67 t wm30 else ((0 : Int32), sI wm30 8 0 (r_here t wm30))) := hR.trans (congrArg (fun z => z) (if_neg c53))
          refine lv_aload_n hx hb dX0_isItem_56 rfl (lv_at hl 0 rfl) ?_
          refine xg_8 hx hb hts hown hK hE dX0_isItem_57 ?_
          refine lv_bipush (v := 62) hx hb dX0_isItem_60 rfl ?_
          refine lv_icmp_eq (tgt := 67) hx hb dX0_isItem_62 (by decide) (fun c62 => ?_) (fun c62 => ?_)
          · have hR : x_isItem t Z = (x_isItem_k67 t wm30) := hR.trans (congrArg (fun z => z) (if_pos c62))
            exact hJ67  (by first | (rw [show r_here t wm30 = 33 from c44]; decide) | (rw [show r_here t wm30 = 42 from c53]; decide) | (rw [show r_here t wm30 = 62 from c62]; decide)) hR _ _ _ hE (lv_sub hl [0, 1] rfl)
          · have hR : x_isItem t Z = ((0 : Int32), sI wm30 8 0 (r_here t wm30)) := hR.trans (congrArg (fun z => z) (if_neg c62))
            refine lv_iconst (v := 0) hx hb dX0_isItem_65 rfl ?_
            exact hret (0 : Int32) (sI wm30 8 0 (r_here t wm30)) hR rfl hE (Nat.le_refl 0) (Nat.le_refl 0) dX0_isItem_66
    exact hNm30 (sI (sI Z 7 0 ((r_here t Z) - (97 : Int32))) 42 0 ((Z.1 42 0) + (1 : Int32))) rfl hR _ _ _ hE (lv_sub hl [0, 1] rfl)
  · have hR : x_isItem t Z = ((0 : Int32), Z) := hR.trans (congrArg (fun z => z) (if_pos c4))
    refine lv_iconst (v := 0) hx hb dX0_isItem_7 rfl ?_
    exact hret (0 : Int32) Z hR rfl hE (Nat.le_refl 0) (Nat.le_refl 0) dX0_isItem_8
section C_x_isItem
variable {p : Program} {l : Launch} {e : Env} {R : Room} {s : State} {mid : MethodId} {args : Array Value} {below : List Frame} {meth : Method} {c : Code} {H : Heap} {locs : List Loc} {cells slots : Nat} {Q : State → Prop} {cc : ByteArray} {pc : Nat} {ls : Array Slot} {rest : List Value} {D : va_G} {A : Nat → Prop} {x : Nat} {ar : Nat → Nat} {cs : Nat → ClassId} {B : BT} {Y : va_W} {Z : ZT} {nL r : Nat}
theorem call_x_isItem {t : Nat} (hx : p.tables.exec = Jvm.exec) (hb : c.code = cc) (hml : c.maxLocals = nL) (hown : s.vm.findClass RX0 = some mid.cls) (hts : ∀ w ∈ lw_all, w.before args s = true) (hK : KK D cs s) (hA : ∀ q : Nat, s.heap.size ≤ q → A q) (hE : EW D A s.heap (WX x ar cs Z B (rdr Z B r t :: Y)) H locs) (hls : ls.size = nL) (hRD : RD t Z) (h1 : 5 ≤ R.frames) (h2 : 104 ≤ R.locals) (h3 : (rest.map fun v => v.category).sum ≤ 8) (hd : decode cc pc = .ok (.invokevirtual 138, 3)) (hf : cells ≤ R.cells ∧ slots ≤ R.slots) (kk : ∀ (H1 : Heap) (locs1 : List Loc), EW D A s.heap (WX x ar cs ((x_isItem t Z).2) B (rdr ((x_isItem t Z).2) B r t :: Y)) H1 locs1 → W p l e R s mid args below meth c H1 locs1 cells slots Q (F0 mid (pc + 3) ls (.int (x_isItem t Z).1 :: rest))) : W p l e R s mid args below meth c H locs cells slots Q (F0 mid pc ls (.ref r :: .ref x :: rest)) := 
  gCall_i (As := [.ref r]) (rest := rest) (q0 := 0) (ci := 0) (fs := XF ar Z) (T' := TX0) (N' := 29) hx hb hml hown hts hK hA hE hls (met_x_isItem l D cs x ar B Y r Z H.size t hRD) (cwV 1 hts (lw_V q404 q406 qs4 q84 q407) rfl rfl rfl (by decide +kernel) ⟨h1, h2⟩) rfl rfl rfl rfl h3 hd hf (fun v u H1 locs1 hp _ hE => by rw [hp] at kk; exact kk H1 locs1 hE)
end C_x_isItem
