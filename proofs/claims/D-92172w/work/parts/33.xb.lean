/-! the component: links, sets of beings, who falls -/
set_option maxRecDepth 100000
theorem band_lt {k : Int32} (h : ¬ k = 0) : (k &&& (k - 1)).toBitVec.toNat < k.toBitVec.toNat := by
  have h0 : k.toBitVec.toNat ≠ 0 := fun q => h (Int32.toBitVec_inj.mp (BitVec.eq_of_toNat_eq (by rw [q]; rfl)))
  have hl := k.toBitVec.isLt
  have e : (k - 1).toBitVec.toNat = k.toBitVec.toNat - 1 := by
    rw [Int32.toBitVec_sub, BitVec.toNat_sub]
    show (2 ^ 32 - 1 + k.toBitVec.toNat) % 2 ^ 32 = _
    omega
  rw [Int32.toBitVec_and, BitVec.toNat_and, e]
  have := Nat.and_le_right (n := k.toBitVec.toNat) (m := k.toBitVec.toNat - 1)
  omega
theorem xBe_vp {v : Int32} (h : ¬ x_isBeing v = 0) : vp_in v 8 := vp_of_in (lo := 0) (hi := 7) h (by decide) (by decide)
theorem xTx_vp {v : Int32} (h : ¬ x_isText v = 0) : vp_in v 4 := vp_of_in (lo := 0) (hi := 3) h (by decide) (by decide)
theorem gw_stepx {g g0 : Int32} {e : Nat} (h : zc g ≤ zc g0) (he : e < 8) (hh : ((g >>> (nI e &&& 31)) &&& 1) = 0) : zc (g ||| ((1 : Int32) <<< (nI e &&& 31))) ≤ zc g0 ∧ ((1 : Int32) = 0 ∨ zc (g ||| ((1 : Int32) <<< (nI e &&& 31))) < zc g0) := by
  have := zc_or he ((b_sh1_0 g (by omega)).mp hh)
  exact ⟨by omega, Or.inr (by omega)⟩
def x_bits_b4 (w4 : Int32 × Int32) : Bool × (Int32 × Int32) := (if w4.2 = 0 then (false, (w4.1, w4.2)) else (true, ((w4.1 + 1), (w4.2 &&& (w4.2 - (1 : Int32))))))
def x_bits_e4 (w4 : Int32 × Int32) : Int32 := w4.1
def x_bits (p0 : Int32) : Int32 := x_bits_e4 (wlR x_bits_b4 (p0.toBitVec.toNat + 1) ((0 : Int32), p0))
set_option maxHeartbeats 4000000 in
set_option maxRecDepth 100000 in
theorem met_x_bits (l : Launch) (D : va_G) (cs : Nat → ClassId) (sz : Nat) (p0 : Int32) : Met l yX0_bits (ws_ yX0_bits cX0_bits 3 (some .int)) ({ frames := 0, cells := 0, slots := 0, locals := 0 }) (va_Pc [.int p0] (wSt D cs [] sz)) (cQi (fun (v : Int32) (_ : Unit) => x_bits p0 = v) D (fun _ => []) [] sz) 0 0 (va_A [] sz) := by
  refine gStart_i (C := RX0) rfl rfl (Nat.le_of_ble_eq_true rfl) ?_
  intro p e s mid args below meth c R Q A hx hb hml hown hts hK hA hRf hRl hRc hRs hret hE ls hl
  have hRf : 0 ≤ R.frames := hRf
  have hRl : 0 ≤ R.locals := hRl
  have hl : lv_has ls 3 [(0, .int p0)] := hl
  have hR : x_bits p0 = (x_bits_e4 (wlR x_bits_b4 (p0.toBitVec.toNat + 1) ((0 : Int32), p0))) := rfl
  refine lv_iconst (v := 0) hx hb dX0_bits_0 rfl ?_
  refine lv_istore_n (lv' := [(1, .int (0 : Int32)), (0, .int p0)]) hx hb dX0_bits_1 rfl hl (by decide) rfl (fun ls hl => ?_)
  refine lv_iload_n hx hb dX0_bits_2 rfl (lv_at hl 1 rfl) ?_
  refine lv_istore_n (lv' := [(2, .int p0), (1, .int (0 : Int32)), (0, .int p0)]) hx hb dX0_bits_3 rfl hl (by decide) rfl (fun ls hl => ?_)
  have hX4 : ∀ (w4 : Int32 × Int32) (hR : x_bits p0 = x_bits_e4 w4), ∀ (H : Heap) (locs : List Loc) (ls : Array Slot), EW D A s.heap [] H locs → lv_has ls 3 [(1, .int w4.1)] → W p l e R s mid args below meth c H locs 0 0 Q (F0 mid 20 ls []) := by
    intro w4 hR H locs ls hE hl
    have hR : x_bits p0 = w4.1 := hR
    refine lv_iload_n hx hb dX0_bits_20 rfl (lv_at hl 0 rfl) ?_
    exact hret w4.1 () hR rfl hE (Nat.le_refl 0) (Nat.le_refl 0) dX0_bits_21
  have hL4 : ∀ (n : Nat) (w4 : Int32 × Int32) (hm4 : w4.2.toBitVec.toNat < n) (hR : x_bits p0 = x_bits_e4 (wlR x_bits_b4 n w4)), ∀ (H : Heap) (locs : List Loc) (ls : Array Slot), EW D A s.heap [] H locs → lv_has ls 3 [(1, .int w4.1), (2, .int w4.2)] → W p l e R s mid args below meth c H locs 0 0 Q (F0 mid 4 ls []) := by
    intro n
    induction n with
    | zero =>
      intro w4 hm4
      exact absurd hm4 (Nat.not_lt_zero _)
    | succ n ih4 =>
      intro w4 hm4 hR H locs ls hE hl
      have hB4 : x_bits_b4 w4 = (if w4.2 = 0 then (false, (w4.1, w4.2)) else (true, ((w4.1 + 1), (w4.2 &&& (w4.2 - (1 : Int32)))))) := rfl
      refine lv_iload_n hx hb dX0_bits_4 rfl (lv_at hl 1 rfl) ?_
      refine lv_if_eq (tgt := 20) hx hb dX0_bits_5 (by decide) (fun c5 => ?_) (fun c5 => ?_)
      · have hB4 : x_bits_b4 w4 = (false, (w4.1, w4.2)) := hB4.trans (congrArg (fun z => z) (if_pos c5))
        exact hX4 (w4.1, w4.2) (hR.trans (congrArg (fun z => x_bits_e4 z) (wl_f hB4))) _ _ _ hE (lv_sub hl [0] rfl)
      · have hB4 : x_bits_b4 w4 = (true, ((w4.1 + 1), (w4.2 &&& (w4.2 - (1 : Int32))))) := hB4.trans (congrArg (fun z => z) (if_neg c5))
        refine lv_iinc (v := (w4.1 + 1)) (lv' := [(1, .int (w4.1 + 1)), (2, .int w4.2)]) hx hb dX0_bits_8 hl (k := 0) rfl rfl (by decide) rfl (fun ls hl => ?_)
        refine lv_iload_n hx hb dX0_bits_11 rfl (lv_at hl 1 rfl) ?_
        refine lv_iload_n hx hb dX0_bits_12 rfl (lv_at hl 1 rfl) ?_
        refine lv_iconst (v := 1) hx hb dX0_bits_13 rfl ?_
        refine lv_isub hx hb dX0_bits_14 ?_
        refine lv_iand hx hb dX0_bits_15 ?_
        refine lv_istore_n (lv' := [(2, .int (w4.2 &&& (w4.2 - (1 : Int32)))), (1, .int (w4.1 + 1))]) hx hb dX0_bits_16 rfl hl (by decide) rfl (fun ls hl => ?_)
        refine lv_goto (tgt := 4) hx hb dX0_bits_17 (by decide) ?_
        exact ih4 ((w4.1 + 1), (w4.2 &&& (w4.2 - (1 : Int32)))) (by exact Nat.lt_of_lt_of_le (band_lt c5) (Nat.le_of_lt_succ hm4)) (hR.trans (congrArg (fun z => x_bits_e4 z) (wl_t hB4))) _ _ _ hE (lv_sub hl [1, 0] rfl)
  exact hL4 (p0.toBitVec.toNat + 1) ((0 : Int32), p0) (by exact Nat.lt_succ_self _) hR _ _ _ hE (lv_sub hl [1, 0] rfl)
section C_x_bits
variable {p : Program} {l : Launch} {e : Env} {R : Room} {s : State} {mid : MethodId} {args : Array Value} {below : List Frame} {meth : Method} {c : Code} {H : Heap} {locs : List Loc} {cells slots : Nat} {Q : State → Prop} {cc : ByteArray} {pc : Nat} {ls : Array Slot} {rest : List Value} {D : va_G} {A : Nat → Prop} {x : Nat} {ar : Nat → Nat} {cs : Nat → ClassId} {B : BT} {Y : va_W} {Z : ZT} {nL r : Nat}
theorem call_x_bits (hx : p.tables.exec = Jvm.exec) (hb : c.code = cc) (hml : c.maxLocals = nL) (hown : s.vm.findClass RX0 = some mid.cls) (hts : ∀ w ∈ lw_all, w.before args s = true) (hK : KK D cs s) (hA : ∀ q : Nat, s.heap.size ≤ q → A q) {ws : va_W} (hE : EW D A s.heap ws H locs) (hls : ls.size = nL) (p0 : Int32) (h1 : 1 ≤ R.frames) (h2 : 22 ≤ R.locals) (h3 : (rest.map fun v => v.category).sum ≤ 8) (hd : decode cc pc = .ok (.invokestatic 236, 3)) (hf : cells ≤ R.cells ∧ slots ≤ R.slots) (kk : ∀ (H1 : Heap) (locs1 : List Loc), EW D A s.heap ws H1 locs1 → W p l e R s mid args below meth c H1 locs1 cells slots Q (F0 mid (pc + 3) ls (.int (x_bits p0) :: rest))) : W p l e R s mid args below meth c H locs cells slots Q (F0 mid pc ls (.int p0 :: rest)) :=
  gCall_s (As := [.int p0]) (rest := rest) hx hb hml hown hts hK hA hE hls (met_x_bits l D cs H.size p0) (va_cwS 1 hts (lw_S q639 q640 q84 q641) rfl rfl rfl (by decide +kernel) ⟨h1, h2⟩) rfl rfl h3 hd hf (fun v H1 locs1 hp hE => by subst hp; exact kk H1 locs1 hE)
end C_x_bits
def x_met (p1 : Nat) (Z : ZT) : Int32 × ZT := ((-3 : Int32), sI (sI Z 0 0 (nI p1)) 1 p1 ((Z.1 1 p1) + (1 : Int32)))
set_option maxHeartbeats 4000000 in
set_option maxRecDepth 100000 in
theorem met_x_met (l : Launch) (D : va_G) (cs : Nat → ClassId) (x : Nat) (ar : Nat → Nat) (B : BT) (Y : va_W) (Z : ZT) (sz : Nat) (p1 : Nat) (hn1 : p1 < 6) : Met l yX0_met (ws_ yX0_met cX0_met 2 (some .int)) ({ frames := 0, cells := 0, slots := 0, locals := 0 }) (va_Pc [.ref x, .int (nI p1)] (wSt D cs (WX x ar cs Z B Y) sz)) (cQi (fun (v : Int32) (u : ZT) => x_met p1 Z = (v, u)) D (fun u => (WX x ar cs u B Y)) (WX x ar cs Z B Y) sz) 0 0 (va_A (WX x ar cs Z B Y) sz) := by
  refine gStart_i (C := RX0) rfl rfl (Nat.le_of_ble_eq_true rfl) ?_
  intro p e s mid args below meth c R Q A hx hb hml hown hts hK hA hRf hRl hRc hRs hret hE ls hl
  have hRf : 0 ≤ R.frames := hRf
  have hRl : 0 ≤ R.locals := hRl
  have hl : lv_has ls 2 [(0, .ref x), (1, .int (nI p1))] := hl
  have hR : x_met p1 Z = ((-3 : Int32), sI (sI Z 0 0 (nI p1)) 1 p1 ((Z.1 1 p1) + (1 : Int32))) := rfl
  refine lv_aload_n hx hb dX0_met_0 rfl (lv_at hl 0 rfl) ?_
  refine lv_iload_n hx hb dX0_met_1 rfl (lv_at hl 1 rfl) ?_
  refine xp_0 hx hb hts hown hK hE dX0_met_2 (fun H locs hE => ?_)
  refine lv_aload_n hx hb dX0_met_5 rfl (lv_at hl 0 rfl) ?_
  refine xg_1 hx hb hts hown hK hE dX0_met_6 ?_
  refine lv_iload_n hx hb dX0_met_9 rfl (lv_at hl 1 rfl) ?_
  refine lv_dup2_11 hx hb dX0_met_10 rfl rfl ?_
  refine xa_1 (n := p1) (by omega) hx hb hK hE dX0_met_11 ?_
  refine lv_iconst (v := 1) hx hb dX0_met_12 rfl ?_
  refine lv_iadd hx hb dX0_met_13 ?_
  refine xs_1 (n := p1) (by omega) hx hb hK hE dX0_met_14 (fun H locs hE => ?_)
  refine lv_bipush (v := -3) hx hb dX0_met_15 rfl ?_
  exact hret (-3 : Int32) (sI (sI Z 0 0 (nI p1)) 1 p1 ((Z.1 1 p1) + (1 : Int32))) hR rfl hE (Nat.le_refl 0) (Nat.le_refl 0) dX0_met_17
section C_x_met
variable {p : Program} {l : Launch} {e : Env} {R : Room} {s : State} {mid : MethodId} {args : Array Value} {below : List Frame} {meth : Method} {c : Code} {H : Heap} {locs : List Loc} {cells slots : Nat} {Q : State → Prop} {cc : ByteArray} {pc : Nat} {ls : Array Slot} {rest : List Value} {D : va_G} {A : Nat → Prop} {x : Nat} {ar : Nat → Nat} {cs : Nat → ClassId} {B : BT} {Y : va_W} {Z : ZT} {nL r : Nat}
theorem call_x_met (hx : p.tables.exec = Jvm.exec) (hb : c.code = cc) (hml : c.maxLocals = nL) (hown : s.vm.findClass RX0 = some mid.cls) (hts : ∀ w ∈ lw_all, w.before args s = true) (hK : KK D cs s) (hA : ∀ q : Nat, s.heap.size ≤ q → A q) (hE : EW D A s.heap (WX x ar cs Z B Y) H locs) (hls : ls.size = nL) (p1 : Nat) (hn1 : p1 < 6) (h1 : 1 ≤ R.frames) (h2 : 21 ≤ R.locals) (h3 : (rest.map fun v => v.category).sum ≤ 8) (hd : decode cc pc = .ok (.invokevirtual 86, 3)) (hf : cells ≤ R.cells ∧ slots ≤ R.slots) (kk : ∀ (H1 : Heap) (locs1 : List Loc), EW D A s.heap (WX x ar cs ((x_met p1 Z).2) B Y) H1 locs1 → W p l e R s mid args below meth c H1 locs1 cells slots Q (F0 mid (pc + 3) ls (.int (x_met p1 Z).1 :: rest))) : W p l e R s mid args below meth c H locs cells slots Q (F0 mid pc ls (.int (nI p1) :: .ref x :: rest)) := 
  gCall_i (As := [.int (nI p1)]) (rest := rest) (q0 := 0) (ci := 0) (fs := XF ar Z) (T' := TX0) (N' := 29) hx hb hml hown hts hK hA hE hls (met_x_met l D cs x ar B Y Z H.size p1 hn1) (cwV 1 hts (lw_V q301 q303 qs2 q84 q304) rfl rfl rfl (by decide +kernel) ⟨h1, h2⟩) rfl rfl rfl rfl h3 hd hf (fun v u H1 locs1 hp _ hE => by rw [hp] at kk; exact kk H1 locs1 hE)
end C_x_met
def x_setLink_j39 (p1 : Nat) (p2 : Nat) (p3 : Int32) (w39 : ZT) : ZT := sI w39 11 (8 * p1 + p2) p3
def x_setLink (p1 : Nat) (p2 : Nat) (p3 : Int32) (Z : ZT) : ZT := x_setLink_j39 p1 p2 p3 (if Z.1 11 (8 * p1 + p2) = 0 then sI (sI Z 12 (8 * p1 + p2) (0 : Int32)) 13 (8 * p1 + p2) (1000 : Int32) else (if p3 = 0 then sI (sI Z 12 (8 * p1 + p2) (0 : Int32)) 13 (8 * p1 + p2) (1000 : Int32) else Z))
set_option maxHeartbeats 4000000 in
set_option maxRecDepth 100000 in
theorem met_x_setLink (l : Launch) (D : va_G) (cs : Nat → ClassId) (x : Nat) (ar : Nat → Nat) (B : BT) (Y : va_W) (Z : ZT) (sz : Nat) (p1 : Nat) (p2 : Nat) (p3 : Int32) (hn1 : p1 < 8) (hn2 : p2 < 8) : Met l yX0_setLink (ws_ yX0_setLink cX0_setLink 5 none) ({ frames := 1, cells := 0, slots := 0, locals := 21 }) (va_Pc [.ref x, .int (nI p1), .int (nI p2), .int p3] (wSt D cs (WX x ar cs Z B Y) sz)) (cQv (fun (u : ZT) => x_setLink p1 p2 p3 Z = u) D (fun u => (WX x ar cs u B Y)) (WX x ar cs Z B Y) sz) 0 0 (va_A (WX x ar cs Z B Y) sz) := by
  refine gStart_v (C := RX0) rfl rfl (Nat.le_of_ble_eq_true rfl) ?_
  intro p e s mid args below meth c R Q A hx hb hml hown hts hK hA hRf hRl hRc hRs hnm hret hE ls hl
  have hRf : 1 ≤ R.frames := hRf
  have hRl : 21 ≤ R.locals := hRl
  have hl : lv_has ls 5 [(0, .ref x), (1, .int (nI p1)), (2, .int (nI p2)), (3, .int p3)] := hl
  have hR : x_setLink p1 p2 p3 Z = (x_setLink_j39 p1 p2 p3 (if Z.1 11 (8 * p1 + p2) = 0 then sI (sI Z 12 (8 * p1 + p2) (0 : Int32)) 13 (8 * p1 + p2) (1000 : Int32) else (if p3 = 0 then sI (sI Z 12 (8 * p1 + p2) (0 : Int32)) 13 (8 * p1 + p2) (1000 : Int32) else Z))) := rfl
  refine lv_iload_n hx hb dX0_setLink_0 rfl (lv_at hl 1 rfl) ?_
  refine lv_iload_n hx hb dX0_setLink_1 rfl (lv_at hl 2 rfl) ?_
  refine call_x_pair hx hb hml hown hts hK hA hE hl.1 p1 p2 (lz (show 1 ≤ 1 by decide) hRf) (lz (show 21 ≤ 21 by decide) hRl) (Nat.le_of_ble_eq_true rfl) dX0_setLink_2 ⟨Nat.zero_le _, Nat.zero_le _⟩ (fun H locs hE => ?_)
  refine lv_istore (lv' := [(4, .int (nI (8 * p1 + p2))), (0, .ref x), (1, .int (nI p1)), (2, .int (nI p2)), (3, .int p3)]) hx hb dX0_setLink_5 hl (by decide) rfl (fun ls hl => ?_)
  refine lv_aload_n hx hb dX0_setLink_7 rfl (lv_at hl 1 rfl) ?_
  refine xg_11 hx hb hts hown hK hE dX0_setLink_8 ?_
  refine lv_iload hx hb dX0_setLink_11 (lv_at hl 0 rfl) ?_
  refine xa_11 (n := (8 * p1 + p2)) (by omega) hx hb hK hE dX0_setLink_13 ?_
  have hJ39 : ∀ (w39 : ZT) (hR : x_setLink p1 p2 p3 Z = x_setLink_j39 p1 p2 p3 w39), ∀ (H : Heap) (locs : List Loc) (ls : Array Slot), EW D A s.heap (WX x ar cs w39 B Y) H locs → lv_has ls 5 [(0, .ref x), (3, .int p3), (4, .int (nI (8 * p1 + p2)))] → W p l e R s mid args below meth c H locs 0 0 Q (F0 mid 39 ls []) := by
    intro w39 hR H locs ls hE hl
    have hR : x_setLink p1 p2 p3 Z = (sI w39 11 (8 * p1 + p2) p3) := hR
    refine lv_aload_n hx hb dX0_setLink_39 rfl (lv_at hl 0 rfl) ?_
    refine xg_11 hx hb hts hown hK hE dX0_setLink_40 ?_
    refine lv_iload hx hb dX0_setLink_43 (lv_at hl 2 rfl) ?_
    refine lv_iload_n hx hb dX0_setLink_45 rfl (lv_at hl 1 rfl) ?_
    refine xs_11 (n := (8 * p1 + p2)) (by omega) hx hb hK hE dX0_setLink_46 (fun H locs hE => ?_)
    exact hret (sI w39 11 (8 * p1 + p2) p3) hR hE (Nat.le_refl 0) (Nat.le_refl 0) dX0_setLink_47
  refine lv_if_eq (tgt := 21) hx hb dX0_setLink_14 (by decide) (fun c14 => ?_) (fun c14 => ?_)
  · have hR : x_setLink p1 p2 p3 Z = x_setLink_j39 p1 p2 p3 (sI (sI Z 12 (8 * p1 + p2) (0 : Int32)) 13 (8 * p1 + p2) (1000 : Int32)) := hR.trans (congrArg (fun z => x_setLink_j39 p1 p2 p3 z) (if_pos c14))
    refine lv_aload_n hx hb dX0_setLink_21 rfl (lv_at hl 1 rfl) ?_
    refine xg_12 hx hb hts hown hK hE dX0_setLink_22 ?_
    refine lv_iload hx hb dX0_setLink_25 (lv_at hl 0 rfl) ?_
    refine lv_iconst (v := 0) hx hb dX0_setLink_27 rfl ?_
    refine xs_12 (n := (8 * p1 + p2)) (by omega) hx hb hK hE dX0_setLink_28 (fun H locs hE => ?_)
    refine lv_aload_n hx hb dX0_setLink_29 rfl (lv_at hl 1 rfl) ?_
    refine xg_13 hx hb hts hown hK hE dX0_setLink_30 ?_
    refine lv_iload hx hb dX0_setLink_33 (lv_at hl 0 rfl) ?_
    refine lv_sipush (v := 1000) hx hb dX0_setLink_35 rfl ?_
    refine xs_13 (n := (8 * p1 + p2)) (by omega) hx hb hK hE dX0_setLink_38 (fun H locs hE => ?_)
    exact hJ39 (sI (sI Z 12 (8 * p1 + p2) (0 : Int32)) 13 (8 * p1 + p2) (1000 : Int32))  hR _ _ _ hE (lv_sub hl [1, 4, 0] rfl)
  · have hR : x_setLink p1 p2 p3 Z = x_setLink_j39 p1 p2 p3 (if p3 = 0 then sI (sI Z 12 (8 * p1 + p2) (0 : Int32)) 13 (8 * p1 + p2) (1000 : Int32) else Z) := hR.trans (congrArg (fun z => x_setLink_j39 p1 p2 p3 z) (if_neg c14))
    refine lv_iload_n hx hb dX0_setLink_17 rfl (lv_at hl 4 rfl) ?_
    refine lv_if_ne (tgt := 39) hx hb dX0_setLink_18 (by decide) (fun c18 => ?_) (fun c18 => ?_)
    · have hR : x_setLink p1 p2 p3 Z = x_setLink_j39 p1 p2 p3 Z := hR.trans (congrArg (fun z => x_setLink_j39 p1 p2 p3 z) (if_neg c18))
      exact hJ39 Z  hR _ _ _ hE (lv_sub hl [1, 4, 0] rfl)
    · have hR : x_setLink p1 p2 p3 Z = x_setLink_j39 p1 p2 p3 (sI (sI Z 12 (8 * p1 + p2) (0 : Int32)) 13 (8 * p1 + p2) (1000 : Int32)) := hR.trans (congrArg (fun z => x_setLink_j39 p1 p2 p3 z) (if_pos c18))
      refine lv_aload_n hx hb dX0_setLink_21 rfl (lv_at hl 1 rfl) ?_
      refine xg_12 hx hb hts hown hK hE dX0_setLink_22 ?_
      refine lv_iload hx hb dX0_setLink_25 (lv_at hl 0 rfl) ?_
      refine lv_iconst (v := 0) hx hb dX0_setLink_27 rfl ?_
      refine xs_12 (n := (8 * p1 + p2)) (by omega) hx hb hK hE dX0_setLink_28 (fun H locs hE => ?_)
      refine lv_aload_n hx hb dX0_setLink_29 rfl (lv_at hl 1 rfl) ?_
      refine xg_13 hx hb hts hown hK hE dX0_setLink_30 ?_
      refine lv_iload hx hb dX0_setLink_33 (lv_at hl 0 rfl) ?_
      refine lv_sipush (v := 1000) hx hb dX0_setLink_35 rfl ?_
      refine xs_13 (n := (8 * p1 + p2)) (by omega) hx hb hK hE dX0_setLink_38 (fun H locs hE => ?_)
      exact hJ39 (sI (sI Z 12 (8 * p1 + p2) (0 : Int32)) 13 (8 * p1 + p2) (1000 : Int32))  hR _ _ _ hE (lv_sub hl [1, 4, 0] rfl)
section C_x_setLink
variable {p : Program} {l : Launch} {e : Env} {R : Room} {s : State} {mid : MethodId} {args : Array Value} {below : List Frame} {meth : Method} {c : Code} {H : Heap} {locs : List Loc} {cells slots : Nat} {Q : State → Prop} {cc : ByteArray} {pc : Nat} {ls : Array Slot} {rest : List Value} {D : va_G} {A : Nat → Prop} {x : Nat} {ar : Nat → Nat} {cs : Nat → ClassId} {B : BT} {Y : va_W} {Z : ZT} {nL r : Nat}
theorem call_x_setLink (hx : p.tables.exec = Jvm.exec) (hb : c.code = cc) (hml : c.maxLocals = nL) (hown : s.vm.findClass RX0 = some mid.cls) (hts : ∀ w ∈ lw_all, w.before args s = true) (hK : KK D cs s) (hA : ∀ q : Nat, s.heap.size ≤ q → A q) (hE : EW D A s.heap (WX x ar cs Z B Y) H locs) (hls : ls.size = nL) (p1 : Nat) (p2 : Nat) (p3 : Int32) (hn1 : p1 < 8) (hn2 : p2 < 8) (h1 : 2 ≤ R.frames) (h2 : 45 ≤ R.locals) (h3 : (rest.map fun v => v.category).sum ≤ 8) (hd : decode cc pc = .ok (.invokevirtual 156, 3)) (hf : cells ≤ R.cells ∧ slots ≤ R.slots) (kk : ∀ (H1 : Heap) (locs1 : List Loc), EW D A s.heap (WX x ar cs (x_setLink p1 p2 p3 Z) B Y) H1 locs1 → W p l e R s mid args below meth c H1 locs1 cells slots Q (F0 mid (pc + 3) ls (rest))) : W p l e R s mid args below meth c H locs cells slots Q (F0 mid pc ls (.int p3 :: .int (nI p2) :: .int (nI p1) :: .ref x :: rest)) := 
  gCall_v (As := [.int (nI p1), .int (nI p2), .int p3]) (rest := rest) (q0 := 0) (ci := 0) (fs := XF ar Z) (T' := TX0) (N' := 29) hx hb hml hown hts hK hA hE hls (met_x_setLink l D cs x ar B Y Z H.size p1 p2 p3 hn1 hn2) (cwV 3 hts (lw_V q438 q440 qs8 q84 q441) rfl rfl rfl (by decide +kernel) ⟨h1, h2⟩) rfl rfl rfl rfl h3 hd hf (fun u H1 locs1 hp _ hE => by subst hp; exact kk H1 locs1 hE)
end C_x_setLink
def x_clear_c26 (p1 : Nat) (i9 : Nat) (wc26 : ZT) : ZT := sI (sI wc26 14 (8 * p1 + i9) (0 : Int32)) 14 (8 * i9 + p1) (0 : Int32)
def x_clear_c19 (p1 : Nat) (i9 : Nat) (wc19 : ZT) : ZT := x_clear_c26 p1 i9 (x_setLink i9 p1 (0 : Int32) wc19)
def x_clear_b9 (p1 : Nat) (i9 : Nat) (w9 : ZT) : ZT := x_clear_c19 p1 i9 (x_setLink p1 i9 (0 : Int32) w9)
def x_clear_j97 (p1 : Nat) (i70 : Nat) (w70 : ZT) (w97 : Int32) : ZT := sI w70 15 ((4 * p1) + i70) w97
def x_clear_b70 (p1 : Nat) (i70 : Nat) (w70 : ZT) : ZT := x_clear_j97 p1 i70 w70 (if ((nI i70) - (nI i70) / (2 : Int32) * (2 : Int32)) = 0 then (0 : Int32) else (1000 : Int32))
def x_clear_e70 (w70 : ZT) : ZT := w70
def x_clear_e9 (p1 : Nat) (w9 : ZT) : ZT := x_clear_e70 (itR (x_clear_b70 p1) 0 4 (sI w9 14 (8 * p1 + p1) (-1 : Int32)))
def x_clear (p1 : Nat) (Z : ZT) : ZT := x_clear_e9 p1 (itR (x_clear_b9 p1) 0 8 (sI Z 30 p1 0))
set_option maxHeartbeats 4000000 in
set_option maxRecDepth 100000 in
theorem met_x_clear (l : Launch) (D : va_G) (cs : Nat → ClassId) (x : Nat) (ar : Nat → Nat) (B : BT) (Y : va_W) (Z : ZT) (sz : Nat) (p1 : Nat) (hn1 : p1 < 8) : Met l yX0_clear (ws_ yX0_clear cX0_clear 3 none) ({ frames := 2, cells := 0, slots := 0, locals := 45 }) (va_Pc [.ref x, .int (nI p1)] (wSt D cs (WX x ar cs Z B Y) sz)) (cQv (fun (u : ZT) => x_clear p1 Z = u) D (fun u => (WX x ar cs u B Y)) (WX x ar cs Z B Y) sz) 0 0 (va_A (WX x ar cs Z B Y) sz) := by
  refine gStart_v (C := RX0) rfl rfl (Nat.le_of_ble_eq_true rfl) ?_
  intro p e s mid args below meth c R Q A hx hb hml hown hts hK hA hRf hRl hRc hRs hnm hret hE ls hl
  have hRf : 2 ≤ R.frames := hRf
  have hRl : 45 ≤ R.locals := hRl
  have hl : lv_has ls 3 [(0, .ref x), (1, .int (nI p1))] := hl
  have hR : x_clear p1 Z = (x_clear_e9 p1 (itR (x_clear_b9 p1) 0 8 (sI Z 30 p1 0))) := rfl
  refine lv_aload_n hx hb dX0_clear_0 rfl (lv_at hl 0 rfl) ?_
  refine xg_10 hx hb hts hown hK hE dX0_clear_1 ?_
  refine lv_iload_n hx hb dX0_clear_4 rfl (lv_at hl 1 rfl) ?_
  refine lv_null hx hb dX0_clear_5 ?_
  refine xbn (n := p1) (by omega) hx hb hK hE dX0_clear_6 (fun H locs hE => ?_)
  refine lv_iconst (v := 0) hx hb dX0_clear_7 rfl ?_
  refine lv_istore_n (lv' := [(2, .int (0 : Int32)), (0, .ref x), (1, .int (nI p1))]) hx hb dX0_clear_8 rfl hl (by decide) rfl (fun ls hl => ?_)
  have hL9 : ∀ (k i9 : Nat) (w9 : ZT) (hi9 : i9 + k = 8) (hR : x_clear p1 Z = x_clear_e9 p1 (itR (x_clear_b9 p1) i9 k w9)), ∀ (H : Heap) (locs : List Loc) (ls : Array Slot), EW D A s.heap (WX x ar cs w9 B Y) H locs → lv_has ls 3 [(0, .ref x), (1, .int (nI p1)), (2, .int (nI i9))] → W p l e R s mid args below meth c H locs 0 0 Q (F0 mid 9 ls []) := by
    intro k
    induction k with
    | zero =>
      intro i9 w9 hi9 hR H locs ls hE hl
      have hie9 : i9 = 8 := by omega
      have hR : x_clear p1 Z = (x_clear_e70 (itR (x_clear_b70 p1) 0 4 (sI w9 14 (8 * p1 + p1) (-1 : Int32)))) := hR
      refine lv_iload_n hx hb dX0_clear_9 rfl (lv_at hl 2 rfl) ?_
      refine lv_bipush (v := 8) hx hb dX0_clear_10 rfl ?_
      refine n_geT (a := i9) (b := 8) (by omega) (by omega) hx hb dX0_clear_12 (tgt := 57) (by decide) ?_
      have hl := lv_sub (l' := [(0, .ref x), (1, .int (nI p1))]) hl [0, 1] rfl
      refine lv_aload_n hx hb dX0_clear_57 rfl (lv_at hl 0 rfl) ?_
      refine xg_14 hx hb hts hown hK hE dX0_clear_58 ?_
      refine lv_iload_n hx hb dX0_clear_61 rfl (lv_at hl 1 rfl) ?_
      refine lv_iload_n hx hb dX0_clear_62 rfl (lv_at hl 1 rfl) ?_
      refine call_x_pair hx hb hml hown hts hK hA hE hl.1 p1 p1 (lz (show 1 ≤ 2 by decide) hRf) (lz (show 21 ≤ 45 by decide) hRl) (Nat.le_of_ble_eq_true rfl) dX0_clear_63 ⟨Nat.zero_le _, Nat.zero_le _⟩ (fun H locs hE => ?_)
      refine lv_iconst (v := -1) hx hb dX0_clear_66 rfl ?_
      refine xs_14 (n := (8 * p1 + p1)) (by omega) hx hb hK hE dX0_clear_67 (fun H locs hE => ?_)
      refine lv_iconst (v := 0) hx hb dX0_clear_68 rfl ?_
      refine lv_istore_n (lv' := [(2, .int (0 : Int32)), (0, .ref x), (1, .int (nI p1))]) hx hb dX0_clear_69 rfl hl (by decide) rfl (fun ls hl => ?_)
      have hL70 : ∀ (k i70 : Nat) (w70 : ZT) (hi70 : i70 + k = 4) (hR : x_clear p1 Z = x_clear_e70 (itR (x_clear_b70 p1) i70 k w70)), ∀ (H : Heap) (locs : List Loc) (ls : Array Slot), EW D A s.heap (WX x ar cs w70 B Y) H locs → lv_has ls 3 [(0, .ref x), (1, .int (nI p1)), (2, .int (nI i70))] → W p l e R s mid args below meth c H locs 0 0 Q (F0 mid 70 ls []) := by
        intro k
        induction k with
        | zero =>
          intro i70 w70 hi70 hR H locs ls hE hl
          have hie70 : i70 = 4 := by omega
          have hR : x_clear p1 Z = w70 := hR
          refine lv_iload_n hx hb dX0_clear_70 rfl (lv_at hl 2 rfl) ?_
          refine lv_iconst (v := 4) hx hb dX0_clear_71 rfl ?_
          refine n_geT (a := i70) (b := 4) (by omega) (by omega) hx hb dX0_clear_72 (tgt := 104) (by decide) ?_
          have hl := lv_sub (l' := [(0, .ref x), (1, .int (nI p1))]) hl [0, 1] rfl
          exact hret w70 hR hE (Nat.le_refl 0) (Nat.le_refl 0) dX0_clear_104
        | succ k ih70 =>
          intro i70 w70 hi70 hR H locs ls hE hl
          have hlt70 : i70 < 4 := by omega
          have hB70 : x_clear_b70 p1 i70 w70 = x_clear_j97 p1 i70 w70 (if ((nI i70) - (nI i70) / (2 : Int32) * (2 : Int32)) = 0 then (0 : Int32) else (1000 : Int32)) := rfl
          refine lv_iload_n hx hb dX0_clear_70 rfl (lv_at hl 2 rfl) ?_
          refine lv_iconst (v := 4) hx hb dX0_clear_71 rfl ?_
          refine n_geF (a := i70) (b := 4) (by omega) (by omega) hx hb dX0_clear_72 (tgt := 104) (by decide) ?_
          refine lv_aload_n hx hb dX0_clear_75 rfl (lv_at hl 0 rfl) ?_
          refine xg_15 hx hb hts hown hK hE dX0_clear_76 ?_
          refine lv_iconst (v := 4) hx hb dX0_clear_79 rfl ?_
          refine lv_iload_n hx hb dX0_clear_80 rfl (lv_at hl 1 rfl) ?_
          refine n_mul (a := 4) (b := p1) hx hb dX0_clear_81 ?_
          refine lv_iload_n hx hb dX0_clear_82 rfl (lv_at hl 2 rfl) ?_
          refine n_add (a := (4 * p1)) (b := i70) hx hb dX0_clear_83 ?_
          refine lv_iload_n hx hb dX0_clear_84 rfl (lv_at hl 2 rfl) ?_
          refine lv_iconst (v := 2) hx hb dX0_clear_85 rfl ?_
          refine lv_irem hx hb dX0_clear_86 (by decide) ?_
          have hJ97 : ∀ (w97 : Int32) (hB70 : x_clear_b70 p1 i70 w70 = x_clear_j97 p1 i70 w70 w97), ∀ (H : Heap) (locs : List Loc) (ls : Array Slot), EW D A s.heap (WX x ar cs w70 B Y) H locs → lv_has ls 3 [(0, .ref x), (1, .int (nI p1)), (2, .int (nI i70))] → W p l e R s mid args below meth c H locs 0 0 Q (F0 mid 97 ls [.int w97, .int (nI ((4 * p1) + i70)), .ref (ar 15)]) := by
            intro w97 hB70 H locs ls hE hl
            have hB70 : x_clear_b70 p1 i70 w70 = (sI w70 15 ((4 * p1) + i70) w97) := hB70
            refine xs_15 (n := ((4 * p1) + i70)) (by omega) hx hb hK hE dX0_clear_97 (fun H locs hE => ?_)
            refine n_inc (lv' := [(2, .int (nI (i70 + 1))), (0, .ref x), (1, .int (nI p1))]) hx hb dX0_clear_98 hl (k := 2) rfl (by decide) rfl (fun ls hl => ?_)
            refine lv_goto (tgt := 70) hx hb dX0_clear_101 (by decide) ?_
            exact ih70 (i70 + 1) (sI w70 15 ((4 * p1) + i70) w97) (by omega) (hR.trans (congrArg (fun z => x_clear_e70 (itR (x_clear_b70 p1) (i70 + 1) k z)) hB70)) _ _ _ hE (lv_sub hl [1, 2, 0] rfl)
          refine lv_if_ne (tgt := 94) hx hb dX0_clear_87 (by decide) (fun c87 => ?_) (fun c87 => ?_)
          · have hB70 : x_clear_b70 p1 i70 w70 = x_clear_j97 p1 i70 w70 (1000 : Int32) := hB70.trans (congrArg (fun z => x_clear_j97 p1 i70 w70 z) (if_neg c87))
            refine lv_sipush (v := 1000) hx hb dX0_clear_94 rfl ?_
            exact hJ97 (1000 : Int32)  hB70 _ _ _ hE (lv_sub hl [0, 1, 2] rfl)
          · have hB70 : x_clear_b70 p1 i70 w70 = x_clear_j97 p1 i70 w70 (0 : Int32) := hB70.trans (congrArg (fun z => x_clear_j97 p1 i70 w70 z) (if_pos c87))
            refine lv_iconst (v := 0) hx hb dX0_clear_90 rfl ?_
            refine lv_goto (tgt := 97) hx hb dX0_clear_91 (by decide) ?_
            exact hJ97 (0 : Int32)  hB70 _ _ _ hE (lv_sub hl [0, 1, 2] rfl)
      exact hL70 4 0 (sI w9 14 (8 * p1 + p1) (-1 : Int32)) (by omega) hR _ _ _ hE (lv_sub hl [1, 2, 0] rfl)
    | succ k ih9 =>
      intro i9 w9 hi9 hR H locs ls hE hl
      have hlt9 : i9 < 8 := by omega
      have hB9 : x_clear_b9 p1 i9 w9 = x_clear_c19 p1 i9 (x_setLink p1 i9 (0 : Int32) w9) := rfl
      refine lv_iload_n hx hb dX0_clear_9 rfl (lv_at hl 2 rfl) ?_
      refine lv_bipush (v := 8) hx hb dX0_clear_10 rfl ?_
      refine n_geF (a := i9) (b := 8) (by omega) (by omega) hx hb dX0_clear_12 (tgt := 57) (by decide) ?_
      refine lv_aload_n hx hb dX0_clear_15 rfl (lv_at hl 0 rfl) ?_
      refine lv_iload_n hx hb dX0_clear_16 rfl (lv_at hl 1 rfl) ?_
      refine lv_iload_n hx hb dX0_clear_17 rfl (lv_at hl 2 rfl) ?_
      refine lv_iconst (v := 0) hx hb dX0_clear_18 rfl ?_
      refine call_x_setLink hx hb hml hown hts hK hA hE hl.1 p1 i9 (0 : Int32) (by omega) (by omega) (lz (show 2 ≤ 2 by decide) hRf) (lz (show 45 ≤ 45 by decide) hRl) (Nat.le_of_ble_eq_true rfl) dX0_clear_19 ⟨Nat.zero_le _, Nat.zero_le _⟩ (fun H locs hE => ?_)
      have hNc19 : ∀ (wc19 : ZT) (hB9 : x_clear_b9 p1 i9 w9 = x_clear_c19 p1 i9 wc19), ∀ (H : Heap) (locs : List Loc) (ls : Array Slot), EW D A s.heap (WX x ar cs wc19 B Y) H locs → lv_has ls 3 [(0, .ref x), (1, .int (nI p1)), (2, .int (nI i9))] → W p l e R s mid args below meth c H locs 0 0 Q (F0 mid 22 ls []) := by
        intro wc19 hB9 H locs ls hE hl
        have hB9 : x_clear_b9 p1 i9 w9 = (x_clear_c26 p1 i9 (x_setLink i9 p1 (0 : Int32) wc19)) := hB9
        refine lv_aload_n hx hb dX0_clear_22 rfl (lv_at hl 0 rfl) ?_
        refine lv_iload_n hx hb dX0_clear_23 rfl (lv_at hl 2 rfl) ?_
        refine lv_iload_n hx hb dX0_clear_24 rfl (lv_at hl 1 rfl) ?_
        refine lv_iconst (v := 0) hx hb dX0_clear_25 rfl ?_
        refine call_x_setLink hx hb hml hown hts hK hA hE hl.1 i9 p1 (0 : Int32) (by omega) (by omega) (lz (show 2 ≤ 2 by decide) hRf) (lz (show 45 ≤ 45 by decide) hRl) (Nat.le_of_ble_eq_true rfl) dX0_clear_26 ⟨Nat.zero_le _, Nat.zero_le _⟩ (fun H locs hE => ?_)
        have hNc26 : ∀ (wc26 : ZT) (hB9 : x_clear_b9 p1 i9 w9 = x_clear_c26 p1 i9 wc26), ∀ (H : Heap) (locs : List Loc) (ls : Array Slot), EW D A s.heap (WX x ar cs wc26 B Y) H locs → lv_has ls 3 [(0, .ref x), (1, .int (nI p1)), (2, .int (nI i9))] → W p l e R s mid args below meth c H locs 0 0 Q (F0 mid 29 ls []) := by
          intro wc26 hB9 H locs ls hE hl
          have hB9 : x_clear_b9 p1 i9 w9 = (sI (sI wc26 14 (8 * p1 + i9) (0 : Int32)) 14 (8 * i9 + p1) (0 : Int32)) := hB9
          refine lv_aload_n hx hb dX0_clear_29 rfl (lv_at hl 0 rfl) ?_
          refine xg_14 hx hb hts hown hK hE dX0_clear_30 ?_
          refine lv_iload_n hx hb dX0_clear_33 rfl (lv_at hl 1 rfl) ?_
          refine lv_iload_n hx hb dX0_clear_34 rfl (lv_at hl 2 rfl) ?_
          refine call_x_pair hx hb hml hown hts hK hA hE hl.1 p1 i9 (lz (show 1 ≤ 2 by decide) hRf) (lz (show 21 ≤ 45 by decide) hRl) (Nat.le_of_ble_eq_true rfl) dX0_clear_35 ⟨Nat.zero_le _, Nat.zero_le _⟩ (fun H locs hE => ?_)
          refine lv_iconst (v := 0) hx hb dX0_clear_38 rfl ?_
          refine xs_14 (n := (8 * p1 + i9)) (by omega) hx hb hK hE dX0_clear_39 (fun H locs hE => ?_)
          refine lv_aload_n hx hb dX0_clear_40 rfl (lv_at hl 0 rfl) ?_
          refine xg_14 hx hb hts hown hK hE dX0_clear_41 ?_
          refine lv_iload_n hx hb dX0_clear_44 rfl (lv_at hl 2 rfl) ?_
          refine lv_iload_n hx hb dX0_clear_45 rfl (lv_at hl 1 rfl) ?_
          refine call_x_pair hx hb hml hown hts hK hA hE hl.1 i9 p1 (lz (show 1 ≤ 2 by decide) hRf) (lz (show 21 ≤ 45 by decide) hRl) (Nat.le_of_ble_eq_true rfl) dX0_clear_46 ⟨Nat.zero_le _, Nat.zero_le _⟩ (fun H locs hE => ?_)
          refine lv_iconst (v := 0) hx hb dX0_clear_49 rfl ?_
          refine xs_14 (n := (8 * i9 + p1)) (by omega) hx hb hK hE dX0_clear_50 (fun H locs hE => ?_)
          refine n_inc (lv' := [(2, .int (nI (i9 + 1))), (0, .ref x), (1, .int (nI p1))]) hx hb dX0_clear_51 hl (k := 2) rfl (by decide) rfl (fun ls hl => ?_)
          refine lv_goto (tgt := 9) hx hb dX0_clear_54 (by decide) ?_
          exact ih9 (i9 + 1) (sI (sI wc26 14 (8 * p1 + i9) (0 : Int32)) 14 (8 * i9 + p1) (0 : Int32)) (by omega) (hR.trans (congrArg (fun z => x_clear_e9 p1 (itR (x_clear_b9 p1) (i9 + 1) k z)) hB9)) _ _ _ hE (lv_sub hl [1, 2, 0] rfl)
        exact hNc26 (x_setLink i9 p1 (0 : Int32) wc19) hB9 _ _ _ hE (lv_sub hl [0, 1, 2] rfl)
      exact hNc19 (x_setLink p1 i9 (0 : Int32) w9) hB9 _ _ _ hE (lv_sub hl [0, 1, 2] rfl)
  exact hL9 8 0 (sI Z 30 p1 0) (by omega) hR _ _ _ hE (lv_sub hl [1, 2, 0] rfl)
section C_x_clear
variable {p : Program} {l : Launch} {e : Env} {R : Room} {s : State} {mid : MethodId} {args : Array Value} {below : List Frame} {meth : Method} {c : Code} {H : Heap} {locs : List Loc} {cells slots : Nat} {Q : State → Prop} {cc : ByteArray} {pc : Nat} {ls : Array Slot} {rest : List Value} {D : va_G} {A : Nat → Prop} {x : Nat} {ar : Nat → Nat} {cs : Nat → ClassId} {B : BT} {Y : va_W} {Z : ZT} {nL r : Nat}
theorem call_x_clear (hx : p.tables.exec = Jvm.exec) (hb : c.code = cc) (hml : c.maxLocals = nL) (hown : s.vm.findClass RX0 = some mid.cls) (hts : ∀ w ∈ lw_all, w.before args s = true) (hK : KK D cs s) (hA : ∀ q : Nat, s.heap.size ≤ q → A q) (hE : EW D A s.heap (WX x ar cs Z B Y) H locs) (hls : ls.size = nL) (p1 : Nat) (hn1 : p1 < 8) (h1 : 3 ≤ R.frames) (h2 : 67 ≤ R.locals) (h3 : (rest.map fun v => v.category).sum ≤ 8) (hd : decode cc pc = .ok (.invokevirtual 185, 3)) (hf : cells ≤ R.cells ∧ slots ≤ R.slots) (kk : ∀ (H1 : Heap) (locs1 : List Loc), EW D A s.heap (WX x ar cs (x_clear p1 Z) B Y) H1 locs1 → W p l e R s mid args below meth c H1 locs1 cells slots Q (F0 mid (pc + 3) ls (rest))) : W p l e R s mid args below meth c H locs cells slots Q (F0 mid pc ls (.int (nI p1) :: .ref x :: rest)) := 
  gCall_v (As := [.int (nI p1)]) (rest := rest) (q0 := 0) (ci := 0) (fs := XF ar Z) (T' := TX0) (N' := 29) hx hb hml hown hts hK hA hE hls (met_x_clear l D cs x ar B Y Z H.size p1 hn1) (cwV 1 hts (lw_V q434 q436 qs7 q84 q437) rfl rfl rfl (by decide +kernel) ⟨h1, h2⟩) rfl rfl rfl rfl h3 hd hf (fun u H1 locs1 hp _ hE => by subst hp; exact kk H1 locs1 hE)
end C_x_clear
def x_eats_j45 (w5 : Int32) (w45 : Int32) : Int32 := (w5 + w45)
def x_eats_j36 (Z : ZT) (w5 : Int32) (w36 : Nat) : Int32 := x_eats_j45 w5 (if Z.1 11 w36 ≤ 0 then (0 : Int32) else (1 : Int32))
def x_eats_b5 (p1 : Nat) (p2 : Int32) (Z : ZT) (i5 : Nat) (w5 : Int32) : Int32 := x_eats_j36 Z w5 (if p2 = 0 then (8 * p1 + i5) else (8 * i5 + p1))
def x_eats_e5 (w5 : Int32) : Int32 := w5
def x_eats (p1 : Nat) (p2 : Int32) (Z : ZT) : Int32 := x_eats_e5 (itR (x_eats_b5 p1 p2 Z) 0 8 (0 : Int32))
set_option maxHeartbeats 4000000 in
set_option maxRecDepth 100000 in
theorem met_x_eats (l : Launch) (D : va_G) (cs : Nat → ClassId) (x : Nat) (ar : Nat → Nat) (B : BT) (Y : va_W) (Z : ZT) (sz : Nat) (p1 : Nat) (p2 : Int32) (hn1 : p1 < 8) : Met l yX0_eats (ws_ yX0_eats cX0_eats 5 (some .int)) ({ frames := 1, cells := 0, slots := 0, locals := 21 }) (va_Pc [.ref x, .int (nI p1), .int p2] (wSt D cs (WX x ar cs Z B Y) sz)) (cQi (fun (v : Int32) (_ : Unit) => x_eats p1 p2 Z = v) D (fun _ => (WX x ar cs Z B Y)) (WX x ar cs Z B Y) sz) 0 0 (va_A (WX x ar cs Z B Y) sz) := by
  refine gStart_i (C := RX0) rfl rfl (Nat.le_of_ble_eq_true rfl) ?_
  intro p e s mid args below meth c R Q A hx hb hml hown hts hK hA hRf hRl hRc hRs hret hE ls hl
  have hRf : 1 ≤ R.frames := hRf
  have hRl : 21 ≤ R.locals := hRl
  have hl : lv_has ls 5 [(0, .ref x), (1, .int (nI p1)), (2, .int p2)] := hl
  have hR : x_eats p1 p2 Z = (x_eats_e5 (itR (x_eats_b5 p1 p2 Z) 0 8 (0 : Int32))) := rfl
  refine lv_iconst (v := 0) hx hb dX0_eats_0 rfl ?_
  refine lv_istore_n (lv' := [(3, .int (0 : Int32)), (0, .ref x), (1, .int (nI p1)), (2, .int p2)]) hx hb dX0_eats_1 rfl hl (by decide) rfl (fun ls hl => ?_)
  refine lv_iconst (v := 0) hx hb dX0_eats_2 rfl ?_
  refine lv_istore (lv' := [(4, .int (0 : Int32)), (3, .int (0 : Int32)), (0, .ref x), (1, .int (nI p1)), (2, .int p2)]) hx hb dX0_eats_3 hl (by decide) rfl (fun ls hl => ?_)
  have hL5 : ∀ (k i5 : Nat) (w5 : Int32) (hi5 : i5 + k = 8) (hR : x_eats p1 p2 Z = x_eats_e5 (itR (x_eats_b5 p1 p2 Z) i5 k w5)), ∀ (H : Heap) (locs : List Loc) (ls : Array Slot), EW D A s.heap (WX x ar cs Z B Y) H locs → lv_has ls 5 [(0, .ref x), (1, .int (nI p1)), (2, .int p2), (3, .int w5), (4, .int (nI i5))] → W p l e R s mid args below meth c H locs 0 0 Q (F0 mid 5 ls []) := by
    intro k
    induction k with
    | zero =>
      intro i5 w5 hi5 hR H locs ls hE hl
      have hie5 : i5 = 8 := by omega
      have hR : x_eats p1 p2 Z = w5 := hR
      refine lv_iload hx hb dX0_eats_5 (lv_at hl 4 rfl) ?_
      refine lv_bipush (v := 8) hx hb dX0_eats_7 rfl ?_
      refine n_geT (a := i5) (b := 8) (by omega) (by omega) hx hb dX0_eats_9 (tgt := 53) (by decide) ?_
      have hl := lv_sub (l' := [(0, .ref x), (1, .int (nI p1)), (2, .int p2), (3, .int w5)]) hl [0, 1, 2, 3] rfl
      refine lv_iload_n hx hb dX0_eats_53 rfl (lv_at hl 3 rfl) ?_
      exact hret w5 () hR rfl hE (Nat.le_refl 0) (Nat.le_refl 0) dX0_eats_54
    | succ k ih5 =>
      intro i5 w5 hi5 hR H locs ls hE hl
      have hlt5 : i5 < 8 := by omega
      have hB5 : x_eats_b5 p1 p2 Z i5 w5 = x_eats_j36 Z w5 (if p2 = 0 then (8 * p1 + i5) else (8 * i5 + p1)) := rfl
      refine lv_iload hx hb dX0_eats_5 (lv_at hl 4 rfl) ?_
      refine lv_bipush (v := 8) hx hb dX0_eats_7 rfl ?_
      refine n_geF (a := i5) (b := 8) (by omega) (by omega) hx hb dX0_eats_9 (tgt := 53) (by decide) ?_
      refine lv_iload_n hx hb dX0_eats_12 rfl (lv_at hl 3 rfl) ?_
      refine lv_aload_n hx hb dX0_eats_13 rfl (lv_at hl 0 rfl) ?_
      refine xg_11 hx hb hts hown hK hE dX0_eats_14 ?_
      refine lv_iload_n hx hb dX0_eats_17 rfl (lv_at hl 2 rfl) ?_
      have hJ36 : ∀ (w36 : Nat) (hw36 : w36 < 64) (hB5 : x_eats_b5 p1 p2 Z i5 w5 = x_eats_j36 Z w5 w36), ∀ (H : Heap) (locs : List Loc) (ls : Array Slot), EW D A s.heap (WX x ar cs Z B Y) H locs → lv_has ls 5 [(0, .ref x), (1, .int (nI p1)), (2, .int p2), (4, .int (nI i5))] → W p l e R s mid args below meth c H locs 0 0 Q (F0 mid 36 ls [.int (nI w36), .ref (ar 11), .int w5]) := by
        intro w36 hw36 hB5 H locs ls hE hl
        have hB5 : x_eats_b5 p1 p2 Z i5 w5 = (x_eats_j45 w5 (if Z.1 11 w36 ≤ 0 then (0 : Int32) else (1 : Int32))) := hB5
        refine xa_11 (n := w36) (by omega) hx hb hK hE dX0_eats_36 ?_
        have hJ45 : ∀ (w45 : Int32) (hB5 : x_eats_b5 p1 p2 Z i5 w5 = x_eats_j45 w5 w45), ∀ (H : Heap) (locs : List Loc) (ls : Array Slot), EW D A s.heap (WX x ar cs Z B Y) H locs → lv_has ls 5 [(0, .ref x), (1, .int (nI p1)), (2, .int p2), (4, .int (nI i5))] → W p l e R s mid args below meth c H locs 0 0 Q (F0 mid 45 ls [.int w45, .int w5]) := by
          intro w45 hB5 H locs ls hE hl
          have hB5 : x_eats_b5 p1 p2 Z i5 w5 = (w5 + w45) := hB5
          refine lv_iadd hx hb dX0_eats_45 ?_
          refine lv_istore_n (lv' := [(3, .int (w5 + w45)), (0, .ref x), (1, .int (nI p1)), (2, .int p2), (4, .int (nI i5))]) hx hb dX0_eats_46 rfl hl (by decide) rfl (fun ls hl => ?_)
          refine n_inc (lv' := [(4, .int (nI (i5 + 1))), (3, .int (w5 + w45)), (0, .ref x), (1, .int (nI p1)), (2, .int p2)]) hx hb dX0_eats_47 hl (k := 4) rfl (by decide) rfl (fun ls hl => ?_)
          refine lv_goto (tgt := 5) hx hb dX0_eats_50 (by decide) ?_
          exact ih5 (i5 + 1) (w5 + w45) (by omega) (hR.trans (congrArg (fun z => x_eats_e5 (itR (x_eats_b5 p1 p2 Z) (i5 + 1) k z)) hB5)) _ _ _ hE (lv_sub hl [2, 3, 4, 1, 0] rfl)
        refine lv_if_le (tgt := 44) hx hb dX0_eats_37 (by decide) (fun c37 => ?_) (fun c37 => ?_)
        · have hB5 : x_eats_b5 p1 p2 Z i5 w5 = x_eats_j45 w5 (0 : Int32) := hB5.trans (congrArg (fun z => x_eats_j45 w5 z) (if_pos c37))
          refine lv_iconst (v := 0) hx hb dX0_eats_44 rfl ?_
          exact hJ45 (0 : Int32)  hB5 _ _ _ hE (lv_sub hl [0, 1, 2, 3] rfl)
        · have hB5 : x_eats_b5 p1 p2 Z i5 w5 = x_eats_j45 w5 (1 : Int32) := hB5.trans (congrArg (fun z => x_eats_j45 w5 z) (if_neg c37))
          refine lv_iconst (v := 1) hx hb dX0_eats_40 rfl ?_
          refine lv_goto (tgt := 45) hx hb dX0_eats_41 (by decide) ?_
          exact hJ45 (1 : Int32)  hB5 _ _ _ hE (lv_sub hl [0, 1, 2, 3] rfl)
      refine lv_if_eq (tgt := 30) hx hb dX0_eats_18 (by decide) (fun c18 => ?_) (fun c18 => ?_)
      · have hB5 : x_eats_b5 p1 p2 Z i5 w5 = x_eats_j36 Z w5 (8 * p1 + i5) := hB5.trans (congrArg (fun z => x_eats_j36 Z w5 z) (if_pos c18))
        refine lv_iload_n hx hb dX0_eats_30 rfl (lv_at hl 1 rfl) ?_
        refine lv_iload hx hb dX0_eats_31 (lv_at hl 4 rfl) ?_
        refine call_x_pair hx hb hml hown hts hK hA hE hl.1 p1 i5 (lz (show 1 ≤ 1 by decide) hRf) (lz (show 21 ≤ 21 by decide) hRl) (Nat.le_of_ble_eq_true rfl) dX0_eats_33 ⟨Nat.zero_le _, Nat.zero_le _⟩ (fun H locs hE => ?_)
        exact hJ36 (8 * p1 + i5)  (by omega) hB5 _ _ _ hE (lv_sub hl [0, 1, 2, 4] rfl)
      · have hB5 : x_eats_b5 p1 p2 Z i5 w5 = x_eats_j36 Z w5 (8 * i5 + p1) := hB5.trans (congrArg (fun z => x_eats_j36 Z w5 z) (if_neg c18))
        refine lv_iload hx hb dX0_eats_21 (lv_at hl 4 rfl) ?_
        refine lv_iload_n hx hb dX0_eats_23 rfl (lv_at hl 1 rfl) ?_
        refine call_x_pair hx hb hml hown hts hK hA hE hl.1 i5 p1 (lz (show 1 ≤ 1 by decide) hRf) (lz (show 21 ≤ 21 by decide) hRl) (Nat.le_of_ble_eq_true rfl) dX0_eats_24 ⟨Nat.zero_le _, Nat.zero_le _⟩ (fun H locs hE => ?_)
        refine lv_goto (tgt := 36) hx hb dX0_eats_27 (by decide) ?_
        exact hJ36 (8 * i5 + p1)  (by omega) hB5 _ _ _ hE (lv_sub hl [0, 1, 2, 4] rfl)
  exact hL5 8 0 (0 : Int32) (by omega) hR _ _ _ hE (lv_sub hl [2, 3, 4, 1, 0] rfl)
section C_x_eats
variable {p : Program} {l : Launch} {e : Env} {R : Room} {s : State} {mid : MethodId} {args : Array Value} {below : List Frame} {meth : Method} {c : Code} {H : Heap} {locs : List Loc} {cells slots : Nat} {Q : State → Prop} {cc : ByteArray} {pc : Nat} {ls : Array Slot} {rest : List Value} {D : va_G} {A : Nat → Prop} {x : Nat} {ar : Nat → Nat} {cs : Nat → ClassId} {B : BT} {Y : va_W} {Z : ZT} {nL r : Nat}
theorem call_x_eats (hx : p.tables.exec = Jvm.exec) (hb : c.code = cc) (hml : c.maxLocals = nL) (hown : s.vm.findClass RX0 = some mid.cls) (hts : ∀ w ∈ lw_all, w.before args s = true) (hK : KK D cs s) (hA : ∀ q : Nat, s.heap.size ≤ q → A q) (hE : EW D A s.heap (WX x ar cs Z B Y) H locs) (hls : ls.size = nL) (p1 : Nat) (p2 : Int32) (hn1 : p1 < 8) (h1 : 2 ≤ R.frames) (h2 : 45 ≤ R.locals) (h3 : (rest.map fun v => v.category).sum ≤ 8) (hd : decode cc pc = .ok (.invokevirtual 217, 3)) (hf : cells ≤ R.cells ∧ slots ≤ R.slots) (kk : ∀ (H1 : Heap) (locs1 : List Loc), EW D A s.heap (WX x ar cs Z B Y) H1 locs1 → W p l e R s mid args below meth c H1 locs1 cells slots Q (F0 mid (pc + 3) ls (.int (x_eats p1 p2 Z) :: rest))) : W p l e R s mid args below meth c H locs cells slots Q (F0 mid pc ls (.int p2 :: .int (nI p1) :: .ref x :: rest)) := 
  gCall_i (As := [.int (nI p1), .int p2]) (rest := rest) (q0 := 0) (ci := 0) (fs := XF ar Z) (T' := TX0) (N' := 29) hx hb hml hown hts hK hA hE hls (met_x_eats l D cs x ar B Y Z H.size p1 p2 hn1) (cwV 2 hts (lw_V q605 q607 qs11 q84 q608) rfl rfl rfl (by decide +kernel) ⟨h1, h2⟩) rfl rfl rfl rfl h3 hd hf (fun v u H1 locs1 hp _ hE => by subst hp; exact kk H1 locs1 hE)
end C_x_eats
def x_tells (p1 : Nat) (p2 : Int32) (Z : ZT) : Int32 := (if p2 = 0 then (v_kind p1 Z) else (if p2 = 1 then Z.1 32 p1 else (if p2 = 2 then Z.1 33 p1 else (if p2 = 3 then (x_eats p1 (0 : Int32) Z) else (if p2 = 4 then (x_eats p1 (1 : Int32) Z) else Z.1 34 p1)))))
set_option maxHeartbeats 4000000 in
set_option maxRecDepth 100000 in
theorem met_x_tells (l : Launch) (D : va_G) (cs : Nat → ClassId) (x : Nat) (ar : Nat → Nat) (B : BT) (Y : va_W) (Z : ZT) (sz : Nat) (p1 : Nat) (p2 : Int32) (hn1 : p1 < 8) (hnn : ¬ Z.1 30 p1 = 0) : Met l yX0_tells (ws_ yX0_tells cX0_tells 4 (some .int)) ({ frames := 2, cells := 0, slots := 0, locals := 45 }) (va_Pc [.ref x, .int (nI p1), .int p2] (wSt D cs (WX x ar cs Z B Y) sz)) (cQi (fun (v : Int32) (_ : Unit) => x_tells p1 p2 Z = v) D (fun _ => (WX x ar cs Z B Y)) (WX x ar cs Z B Y) sz) 0 0 (va_A (WX x ar cs Z B Y) sz) := by
  refine gStart_i (C := RX0) rfl rfl (Nat.le_of_ble_eq_true rfl) ?_
  intro p e s mid args below meth c R Q A hx hb hml hown hts hK hA hRf hRl hRc hRs hret hE ls hl
  have hRf : 2 ≤ R.frames := hRf
  have hRl : 45 ≤ R.locals := hRl
  have hl : lv_has ls 4 [(0, .ref x), (1, .int (nI p1)), (2, .int p2)] := hl
  have hR : x_tells p1 p2 Z = (if p2 = 0 then (v_kind p1 Z) else (if p2 = 1 then Z.1 32 p1 else (if p2 = 2 then Z.1 33 p1 else (if p2 = 3 then (x_eats p1 (0 : Int32) Z) else (if p2 = 4 then (x_eats p1 (1 : Int32) Z) else Z.1 34 p1))))) := rfl
  refine lv_aload_n hx hb dX0_tells_0 rfl (lv_at hl 0 rfl) ?_
  refine xg_10 hx hb hts hown hK hE dX0_tells_1 ?_
  refine lv_iload_n hx hb dX0_tells_4 rfl (lv_at hl 1 rfl) ?_
  refine xa_10 (n := p1) (by omega) hx hb hK hE dX0_tells_5 ?_
  refine xst_n (lv' := [(3, va_rf (adr Z B p1)), (0, .ref x), (1, .int (nI p1)), (2, .int p2)]) hx hb dX0_tells_6 rfl hl (by decide) (by first | rfl | simp [cat_rf]) (fun ls hl => ?_)
  refine lv_iload_n hx hb dX0_tells_7 rfl (lv_at hl 3 rfl) ?_
  by_cases c8_0 : p2 = 0
  · have hR : x_tells p1 p2 Z = (v_kind p1 Z) := hR.trans (congrArg (fun z => z) (if_pos c8_0))
    refine lv_tableIn (off := 36) (tgt := 44) hx hb dX0_tells_8 (by rw [c8_0]; decide) (by rw [c8_0]; decide) (by rw [c8_0]; rfl) (by decide) ?_
    refine xld_n hx hb dX0_tells_44 rfl (lv_at hl 0 rfl) ?_
    refine call_v_kind hx hb hml hown hts hK hA hE hl.1 p1 (by omega) (by assumption) (lz (show 1 ≤ 2 by decide) hRf) (lz (show 20 ≤ 45 by decide) hRl) (Nat.le_of_ble_eq_true rfl) dX0_tells_45 ⟨Nat.zero_le _, Nat.zero_le _⟩ (fun H locs hE => ?_)
    exact hret (v_kind p1 Z) () hR rfl hE (Nat.le_refl 0) (Nat.le_refl 0) dX0_tells_48
  · have hR : x_tells p1 p2 Z = (if p2 = 1 then Z.1 32 p1 else (if p2 = 2 then Z.1 33 p1 else (if p2 = 3 then (x_eats p1 (0 : Int32) Z) else (if p2 = 4 then (x_eats p1 (1 : Int32) Z) else Z.1 34 p1)))) := hR.trans (congrArg (fun z => z) (if_neg c8_0))
    by_cases c8_1 : p2 = 1
    · have hR : x_tells p1 p2 Z = (Z.1 32 p1) := hR.trans (congrArg (fun z => z) (if_pos c8_1))
      refine lv_tableIn (off := 41) (tgt := 49) hx hb dX0_tells_8 (by rw [c8_1]; decide) (by rw [c8_1]; decide) (by rw [c8_1]; rfl) (by decide) ?_
      refine xld_n hx hb dX0_tells_49 rfl (lv_at hl 0 rfl) ?_
      refine xbg_32 (b := p1) (by omega) (by assumption) hx hb hts hown hK hE dX0_tells_50 ?_
      exact hret (Z.1 32 p1) () hR rfl hE (Nat.le_refl 0) (Nat.le_refl 0) dX0_tells_53
    · have hR : x_tells p1 p2 Z = (if p2 = 2 then Z.1 33 p1 else (if p2 = 3 then (x_eats p1 (0 : Int32) Z) else (if p2 = 4 then (x_eats p1 (1 : Int32) Z) else Z.1 34 p1))) := hR.trans (congrArg (fun z => z) (if_neg c8_1))
      by_cases c8_2 : p2 = 2
      · have hR : x_tells p1 p2 Z = (Z.1 33 p1) := hR.trans (congrArg (fun z => z) (if_pos c8_2))
        refine lv_tableIn (off := 46) (tgt := 54) hx hb dX0_tells_8 (by rw [c8_2]; decide) (by rw [c8_2]; decide) (by rw [c8_2]; rfl) (by decide) ?_
        refine xld_n hx hb dX0_tells_54 rfl (lv_at hl 0 rfl) ?_
        refine xbg_33 (b := p1) (by omega) (by assumption) hx hb hts hown hK hE dX0_tells_55 ?_
        exact hret (Z.1 33 p1) () hR rfl hE (Nat.le_refl 0) (Nat.le_refl 0) dX0_tells_58
      · have hR : x_tells p1 p2 Z = (if p2 = 3 then (x_eats p1 (0 : Int32) Z) else (if p2 = 4 then (x_eats p1 (1 : Int32) Z) else Z.1 34 p1)) := hR.trans (congrArg (fun z => z) (if_neg c8_2))
        by_cases c8_3 : p2 = 3
        · have hR : x_tells p1 p2 Z = (x_eats p1 (0 : Int32) Z) := hR.trans (congrArg (fun z => z) (if_pos c8_3))
          refine lv_tableIn (off := 51) (tgt := 59) hx hb dX0_tells_8 (by rw [c8_3]; decide) (by rw [c8_3]; decide) (by rw [c8_3]; rfl) (by decide) ?_
          refine lv_aload_n hx hb dX0_tells_59 rfl (lv_at hl 1 rfl) ?_
          refine lv_iload_n hx hb dX0_tells_60 rfl (lv_at hl 2 rfl) ?_
          refine lv_iconst (v := 0) hx hb dX0_tells_61 rfl ?_
          refine call_x_eats hx hb hml hown hts hK hA hE hl.1 p1 (0 : Int32) (by omega) (lz (show 2 ≤ 2 by decide) hRf) (lz (show 45 ≤ 45 by decide) hRl) (Nat.le_of_ble_eq_true rfl) dX0_tells_62 ⟨Nat.zero_le _, Nat.zero_le _⟩ (fun H locs hE => ?_)
          exact hret (x_eats p1 (0 : Int32) Z) () hR rfl hE (Nat.le_refl 0) (Nat.le_refl 0) dX0_tells_65
        · have hR : x_tells p1 p2 Z = (if p2 = 4 then (x_eats p1 (1 : Int32) Z) else Z.1 34 p1) := hR.trans (congrArg (fun z => z) (if_neg c8_3))
          by_cases c8_4 : p2 = 4
          · have hR : x_tells p1 p2 Z = (x_eats p1 (1 : Int32) Z) := hR.trans (congrArg (fun z => z) (if_pos c8_4))
            refine lv_tableIn (off := 58) (tgt := 66) hx hb dX0_tells_8 (by rw [c8_4]; decide) (by rw [c8_4]; decide) (by rw [c8_4]; rfl) (by decide) ?_
            refine lv_aload_n hx hb dX0_tells_66 rfl (lv_at hl 1 rfl) ?_
            refine lv_iload_n hx hb dX0_tells_67 rfl (lv_at hl 2 rfl) ?_
            refine lv_iconst (v := 1) hx hb dX0_tells_68 rfl ?_
            refine call_x_eats hx hb hml hown hts hK hA hE hl.1 p1 (1 : Int32) (by omega) (lz (show 2 ≤ 2 by decide) hRf) (lz (show 45 ≤ 45 by decide) hRl) (Nat.le_of_ble_eq_true rfl) dX0_tells_69 ⟨Nat.zero_le _, Nat.zero_le _⟩ (fun H locs hE => ?_)
            exact hret (x_eats p1 (1 : Int32) Z) () hR rfl hE (Nat.le_refl 0) (Nat.le_refl 0) dX0_tells_72
          · have hR : x_tells p1 p2 Z = (Z.1 34 p1) := hR.trans (congrArg (fun z => z) (if_neg c8_4))
            refine lv_tableOut (tgt := 73) hx hb dX0_tells_8 (sw_out4 c8_0 c8_1 c8_2 c8_3 c8_4) (by decide) ?_
            refine xld_n hx hb dX0_tells_73 rfl (lv_at hl 0 rfl) ?_
            refine xbg_34 (b := p1) (by omega) (by assumption) hx hb hts hown hK hE dX0_tells_74 ?_
            exact hret (Z.1 34 p1) () hR rfl hE (Nat.le_refl 0) (Nat.le_refl 0) dX0_tells_77
section C_x_tells
variable {p : Program} {l : Launch} {e : Env} {R : Room} {s : State} {mid : MethodId} {args : Array Value} {below : List Frame} {meth : Method} {c : Code} {H : Heap} {locs : List Loc} {cells slots : Nat} {Q : State → Prop} {cc : ByteArray} {pc : Nat} {ls : Array Slot} {rest : List Value} {D : va_G} {A : Nat → Prop} {x : Nat} {ar : Nat → Nat} {cs : Nat → ClassId} {B : BT} {Y : va_W} {Z : ZT} {nL r : Nat}
theorem call_x_tells (hx : p.tables.exec = Jvm.exec) (hb : c.code = cc) (hml : c.maxLocals = nL) (hown : s.vm.findClass RX0 = some mid.cls) (hts : ∀ w ∈ lw_all, w.before args s = true) (hK : KK D cs s) (hA : ∀ q : Nat, s.heap.size ≤ q → A q) (hE : EW D A s.heap (WX x ar cs Z B Y) H locs) (hls : ls.size = nL) (p1 : Nat) (p2 : Int32) (hn1 : p1 < 8) (hnn : ¬ Z.1 30 p1 = 0) (h1 : 3 ≤ R.frames) (h2 : 68 ≤ R.locals) (h3 : (rest.map fun v => v.category).sum ≤ 8) (hd : decode cc pc = .ok (.invokevirtual 224, 3)) (hf : cells ≤ R.cells ∧ slots ≤ R.slots) (kk : ∀ (H1 : Heap) (locs1 : List Loc), EW D A s.heap (WX x ar cs Z B Y) H1 locs1 → W p l e R s mid args below meth c H1 locs1 cells slots Q (F0 mid (pc + 3) ls (.int (x_tells p1 p2 Z) :: rest))) : W p l e R s mid args below meth c H locs cells slots Q (F0 mid pc ls (.int p2 :: .int (nI p1) :: .ref x :: rest)) := 
  gCall_i (As := [.int (nI p1), .int p2]) (rest := rest) (q0 := 0) (ci := 0) (fs := XF ar Z) (T' := TX0) (N' := 29) hx hb hml hown hts hK hA hE hls (met_x_tells l D cs x ar B Y Z H.size p1 p2 hn1 hnn) (cwV 2 hts (lw_V q601 q603 qs10 q84 q604) rfl rfl rfl (by decide +kernel) ⟨h1, h2⟩) rfl rfl rfl rfl h3 hd hf (fun v u H1 locs1 hp _ hE => by subst hp; exact kk H1 locs1 hE)
end C_x_tells
def x_present_j27 (w4 : Int32) (w27 : Int32) : Int32 := (w4 ||| w27)
def x_present_b4 (Z : ZT) (i4 : Nat) (w4 : Int32) : Int32 := x_present_j27 w4 (if Z.1 30 i4 = 0 then (0 : Int32) else ((1 : Int32) <<< ((nI i4) &&& 31)))
def x_present_e4 (w4 : Int32) : Int32 := w4
def x_present (Z : ZT) : Int32 := x_present_e4 (itR (x_present_b4 Z) 0 8 (0 : Int32))
set_option maxHeartbeats 4000000 in
set_option maxRecDepth 100000 in
theorem met_x_present (l : Launch) (D : va_G) (cs : Nat → ClassId) (x : Nat) (ar : Nat → Nat) (B : BT) (Y : va_W) (Z : ZT) (sz : Nat)  : Met l yX0_present (ws_ yX0_present cX0_present 3 (some .int)) ({ frames := 0, cells := 0, slots := 0, locals := 0 }) (va_Pc [.ref x] (wSt D cs (WX x ar cs Z B Y) sz)) (cQi (fun (v : Int32) (_ : Unit) => x_present Z = v) D (fun _ => (WX x ar cs Z B Y)) (WX x ar cs Z B Y) sz) 0 0 (va_A (WX x ar cs Z B Y) sz) := by
  refine gStart_i (C := RX0) rfl rfl (Nat.le_of_ble_eq_true rfl) ?_
  intro p e s mid args below meth c R Q A hx hb hml hown hts hK hA hRf hRl hRc hRs hret hE ls hl
  have hRf : 0 ≤ R.frames := hRf
  have hRl : 0 ≤ R.locals := hRl
  have hl : lv_has ls 3 [(0, .ref x)] := hl
  have hR : x_present Z = (x_present_e4 (itR (x_present_b4 Z) 0 8 (0 : Int32))) := rfl
  refine lv_iconst (v := 0) hx hb dX0_present_0 rfl ?_
  refine lv_istore_n (lv' := [(1, .int (0 : Int32)), (0, .ref x)]) hx hb dX0_present_1 rfl hl (by decide) rfl (fun ls hl => ?_)
  refine lv_iconst (v := 0) hx hb dX0_present_2 rfl ?_
  refine lv_istore_n (lv' := [(2, .int (0 : Int32)), (1, .int (0 : Int32)), (0, .ref x)]) hx hb dX0_present_3 rfl hl (by decide) rfl (fun ls hl => ?_)
  have hL4 : ∀ (k i4 : Nat) (w4 : Int32) (hi4 : i4 + k = 8) (hR : x_present Z = x_present_e4 (itR (x_present_b4 Z) i4 k w4)), ∀ (H : Heap) (locs : List Loc) (ls : Array Slot), EW D A s.heap (WX x ar cs Z B Y) H locs → lv_has ls 3 [(0, .ref x), (1, .int w4), (2, .int (nI i4))] → W p l e R s mid args below meth c H locs 0 0 Q (F0 mid 4 ls []) := by
    intro k
    induction k with
    | zero =>
      intro i4 w4 hi4 hR H locs ls hE hl
      have hie4 : i4 = 8 := by omega
      have hR : x_present Z = w4 := hR
      refine lv_iload_n hx hb dX0_present_4 rfl (lv_at hl 2 rfl) ?_
      refine lv_bipush (v := 8) hx hb dX0_present_5 rfl ?_
      refine n_geT (a := i4) (b := 8) (by omega) (by omega) hx hb dX0_present_7 (tgt := 35) (by decide) ?_
      have hl := lv_sub (l' := [(0, .ref x), (1, .int w4)]) hl [0, 1] rfl
      refine lv_iload_n hx hb dX0_present_35 rfl (lv_at hl 1 rfl) ?_
      exact hret w4 () hR rfl hE (Nat.le_refl 0) (Nat.le_refl 0) dX0_present_36
    | succ k ih4 =>
      intro i4 w4 hi4 hR H locs ls hE hl
      have hlt4 : i4 < 8 := by omega
      have hB4 : x_present_b4 Z i4 w4 = x_present_j27 w4 (if Z.1 30 i4 = 0 then (0 : Int32) else ((1 : Int32) <<< ((nI i4) &&& 31))) := rfl
      refine lv_iload_n hx hb dX0_present_4 rfl (lv_at hl 2 rfl) ?_
      refine lv_bipush (v := 8) hx hb dX0_present_5 rfl ?_
      refine n_geF (a := i4) (b := 8) (by omega) (by omega) hx hb dX0_present_7 (tgt := 35) (by decide) ?_
      refine lv_iload_n hx hb dX0_present_10 rfl (lv_at hl 1 rfl) ?_
      refine lv_aload_n hx hb dX0_present_11 rfl (lv_at hl 0 rfl) ?_
      refine xg_10 hx hb hts hown hK hE dX0_present_12 ?_
      refine lv_iload_n hx hb dX0_present_15 rfl (lv_at hl 2 rfl) ?_
      refine xa_10 (n := i4) (by omega) hx hb hK hE dX0_present_16 ?_
      have hJ27 : ∀ (w27 : Int32) (hB4 : x_present_b4 Z i4 w4 = x_present_j27 w4 w27), ∀ (H : Heap) (locs : List Loc) (ls : Array Slot), EW D A s.heap (WX x ar cs Z B Y) H locs → lv_has ls 3 [(0, .ref x), (2, .int (nI i4))] → W p l e R s mid args below meth c H locs 0 0 Q (F0 mid 27 ls [.int w27, .int w4]) := by
        intro w27 hB4 H locs ls hE hl
        have hB4 : x_present_b4 Z i4 w4 = (w4 ||| w27) := hB4
        refine lv_ior hx hb dX0_present_27 ?_
        refine lv_istore_n (lv' := [(1, .int (w4 ||| w27)), (0, .ref x), (2, .int (nI i4))]) hx hb dX0_present_28 rfl hl (by decide) rfl (fun ls hl => ?_)
        refine n_inc (lv' := [(2, .int (nI (i4 + 1))), (1, .int (w4 ||| w27)), (0, .ref x)]) hx hb dX0_present_29 hl (k := 2) rfl (by decide) rfl (fun ls hl => ?_)
        refine lv_goto (tgt := 4) hx hb dX0_present_32 (by decide) ?_
        exact ih4 (i4 + 1) (w4 ||| w27) (by omega) (hR.trans (congrArg (fun z => x_present_e4 (itR (x_present_b4 Z) (i4 + 1) k z)) hB4)) _ _ _ hE (lv_sub hl [2, 1, 0] rfl)
      refine xnw_be (b := i4) (tgt := 24) hx hb dX0_present_17 (by decide) (fun c17 => ?_) (fun c17 => ?_)
      · have hB4 : x_present_b4 Z i4 w4 = x_present_j27 w4 ((1 : Int32) <<< ((nI i4) &&& 31)) := hB4.trans (congrArg (fun z => x_present_j27 w4 z) (if_neg c17))
        refine lv_iconst (v := 1) hx hb dX0_present_24 rfl ?_
        refine lv_iload_n hx hb dX0_present_25 rfl (lv_at hl 2 rfl) ?_
        refine lv_ishl hx hb dX0_present_26 ?_
        exact hJ27 ((1 : Int32) <<< ((nI i4) &&& 31))  hB4 _ _ _ hE (lv_sub hl [0, 2] rfl)
      · have hB4 : x_present_b4 Z i4 w4 = x_present_j27 w4 (0 : Int32) := hB4.trans (congrArg (fun z => x_present_j27 w4 z) (if_pos c17))
        refine lv_iconst (v := 0) hx hb dX0_present_20 rfl ?_
        refine lv_goto (tgt := 27) hx hb dX0_present_21 (by decide) ?_
        exact hJ27 (0 : Int32)  hB4 _ _ _ hE (lv_sub hl [0, 2] rfl)
  exact hL4 8 0 (0 : Int32) (by omega) hR _ _ _ hE (lv_sub hl [2, 1, 0] rfl)
section C_x_present
variable {p : Program} {l : Launch} {e : Env} {R : Room} {s : State} {mid : MethodId} {args : Array Value} {below : List Frame} {meth : Method} {c : Code} {H : Heap} {locs : List Loc} {cells slots : Nat} {Q : State → Prop} {cc : ByteArray} {pc : Nat} {ls : Array Slot} {rest : List Value} {D : va_G} {A : Nat → Prop} {x : Nat} {ar : Nat → Nat} {cs : Nat → ClassId} {B : BT} {Y : va_W} {Z : ZT} {nL r : Nat}
theorem call_x_present (hx : p.tables.exec = Jvm.exec) (hb : c.code = cc) (hml : c.maxLocals = nL) (hown : s.vm.findClass RX0 = some mid.cls) (hts : ∀ w ∈ lw_all, w.before args s = true) (hK : KK D cs s) (hA : ∀ q : Nat, s.heap.size ≤ q → A q) (hE : EW D A s.heap (WX x ar cs Z B Y) H locs) (hls : ls.size = nL)  (h1 : 1 ≤ R.frames) (h2 : 22 ≤ R.locals) (h3 : (rest.map fun v => v.category).sum ≤ 8) (hd : decode cc pc = .ok (.invokevirtual 233, 3)) (hf : cells ≤ R.cells ∧ slots ≤ R.slots) (kk : ∀ (H1 : Heap) (locs1 : List Loc), EW D A s.heap (WX x ar cs Z B Y) H1 locs1 → W p l e R s mid args below meth c H1 locs1 cells slots Q (F0 mid (pc + 3) ls (.int (x_present Z) :: rest))) : W p l e R s mid args below meth c H locs cells slots Q (F0 mid pc ls (.ref x :: rest)) := 
  gCall_i (As := []) (rest := rest) (q0 := 0) (ci := 0) (fs := XF ar Z) (T' := TX0) (N' := 29) hx hb hml hown hts hK hA hE hls (met_x_present l D cs x ar B Y Z H.size ) (cwV 0 hts (lw_V q635 q637 qs13 q84 q638) rfl rfl rfl (by decide +kernel) ⟨h1, h2⟩) rfl rfl rfl rfl h3 hd hf (fun v u H1 locs1 hp _ hE => by subst hp; exact kk H1 locs1 hE)
end C_x_present
def x_allStocks_j40 (w13 : Int32) (w40 : Int32) : Int32 := (w13 + w40)
def x_allStocks_b13 (Z : ZT) (i13 : Nat) (w13 : Int32) : Int32 := x_allStocks_j40 w13 (if Z.1 30 i13 = 0 then (0 : Int32) else Z.1 32 i13)
def x_allStocks_e13 (w13 : Int32) : Int32 := w13
def x_allStocks (Z : ZT) : Int32 := x_allStocks_e13 (itR (x_allStocks_b13 Z) 0 8 (0 : Int32))
set_option maxHeartbeats 4000000 in
set_option maxRecDepth 100000 in
theorem met_x_allStocks (l : Launch) (D : va_G) (cs : Nat → ClassId) (x : Nat) (ar : Nat → Nat) (B : BT) (Y : va_W) (Z : ZT) (sz : Nat)  : Met l yX0_allStocks (ws_ yX0_allStocks cX0_allStocks 6 (some .int)) ({ frames := 0, cells := 0, slots := 0, locals := 0 }) (va_Pc [.ref x] (wSt D cs (WX x ar cs Z B Y) sz)) (cQi (fun (v : Int32) (_ : Unit) => x_allStocks Z = v) D (fun _ => (WX x ar cs Z B Y)) (WX x ar cs Z B Y) sz) 0 0 (va_A (WX x ar cs Z B Y) sz) := by
  refine gStart_i (C := RX0) rfl rfl (Nat.le_of_ble_eq_true rfl) ?_
  intro p e s mid args below meth c R Q A hx hb hml hown hts hK hA hRf hRl hRc hRs hret hE ls hl
  have hRf : 0 ≤ R.frames := hRf
  have hRl : 0 ≤ R.locals := hRl
  have hl : lv_has ls 6 [(0, .ref x)] := hl
  have hR : x_allStocks Z = (x_allStocks_e13 (itR (x_allStocks_b13 Z) 0 8 (0 : Int32))) := rfl
  refine lv_iconst (v := 0) hx hb dX0_allStocks_0 rfl ?_
  refine lv_istore_n (lv' := [(1, .int (0 : Int32)), (0, .ref x)]) hx hb dX0_allStocks_1 rfl hl (by decide) rfl (fun ls hl => ?_)
  refine lv_aload_n hx hb dX0_allStocks_2 rfl (lv_at hl 1 rfl) ?_
  refine xg_10 hx hb hts hown hK hE dX0_allStocks_3 ?_
  refine lv_astore_n (lv' := [(2, .ref (ar 10)), (1, .int (0 : Int32)), (0, .ref x)]) hx hb dX0_allStocks_6 rfl hl (by decide) rfl (fun ls hl => ?_)
  refine lv_aload_n hx hb dX0_allStocks_7 rfl (lv_at hl 0 rfl) ?_
  refine xn_10 hx hb hK hE dX0_allStocks_8 ?_
  refine lv_istore_n (lv' := [(3, .int (8 : Int32)), (2, .ref (ar 10)), (1, .int (0 : Int32)), (0, .ref x)]) hx hb dX0_allStocks_9 rfl hl (by decide) rfl (fun ls hl => ?_)
  refine lv_iconst (v := 0) hx hb dX0_allStocks_10 rfl ?_
  refine lv_istore (lv' := [(4, .int (0 : Int32)), (3, .int (8 : Int32)), (2, .ref (ar 10)), (1, .int (0 : Int32)), (0, .ref x)]) hx hb dX0_allStocks_11 hl (by decide) rfl (fun ls hl => ?_)
  have hL13 : ∀ (k i13 : Nat) (w13 : Int32) (hi13 : i13 + k = 8) (hR : x_allStocks Z = x_allStocks_e13 (itR (x_allStocks_b13 Z) i13 k w13)), ∀ (H : Heap) (locs : List Loc) (ls : Array Slot), EW D A s.heap (WX x ar cs Z B Y) H locs → lv_has ls 6 [(1, .int w13), (2, .ref (ar 10)), (3, .int (8 : Int32)), (4, .int (nI i13))] → W p l e R s mid args below meth c H locs 0 0 Q (F0 mid 13 ls []) := by
    intro k
    induction k with
    | zero =>
      intro i13 w13 hi13 hR H locs ls hE hl
      have hie13 : i13 = 8 := by omega
      have hR : x_allStocks Z = w13 := hR
      refine lv_iload hx hb dX0_allStocks_13 (lv_at hl 3 rfl) ?_
      refine lv_iload_n hx hb dX0_allStocks_15 rfl (lv_at hl 2 rfl) ?_
      refine n_geT (a := i13) (b := 8) (by omega) (by omega) hx hb dX0_allStocks_16 (tgt := 48) (by decide) ?_
      have hl := lv_sub (l' := [(1, .int w13), (2, .ref (ar 10)), (3, .int (8 : Int32))]) hl [0, 1, 2] rfl
      refine lv_iload_n hx hb dX0_allStocks_48 rfl (lv_at hl 0 rfl) ?_
      exact hret w13 () hR rfl hE (Nat.le_refl 0) (Nat.le_refl 0) dX0_allStocks_49
    | succ k ih13 =>
      intro i13 w13 hi13 hR H locs ls hE hl
      have hlt13 : i13 < 8 := by omega
      have hB13 : x_allStocks_b13 Z i13 w13 = x_allStocks_j40 w13 (if Z.1 30 i13 = 0 then (0 : Int32) else Z.1 32 i13) := rfl
      refine lv_iload hx hb dX0_allStocks_13 (lv_at hl 3 rfl) ?_
      refine lv_iload_n hx hb dX0_allStocks_15 rfl (lv_at hl 2 rfl) ?_
      refine n_geF (a := i13) (b := 8) (by omega) (by omega) hx hb dX0_allStocks_16 (tgt := 48) (by decide) ?_
      refine lv_aload_n hx hb dX0_allStocks_19 rfl (lv_at hl 1 rfl) ?_
      refine lv_iload hx hb dX0_allStocks_20 (lv_at hl 3 rfl) ?_
      refine xa_10 (n := i13) (by omega) hx hb hK hE dX0_allStocks_22 ?_
      refine xst (lv' := [(5, va_rf (adr Z B i13)), (1, .int w13), (2, .ref (ar 10)), (3, .int (8 : Int32)), (4, .int (nI i13))]) hx hb dX0_allStocks_23 hl (by decide) (by first | rfl | simp [cat_rf]) (fun ls hl => ?_)
      refine lv_iload_n hx hb dX0_allStocks_25 rfl (lv_at hl 1 rfl) ?_
      refine xld hx hb dX0_allStocks_26 (lv_at hl 0 rfl) ?_
      have hJ40 : ∀ (w40 : Int32) (hB13 : x_allStocks_b13 Z i13 w13 = x_allStocks_j40 w13 w40), ∀ (H : Heap) (locs : List Loc) (ls : Array Slot), EW D A s.heap (WX x ar cs Z B Y) H locs → lv_has ls 6 [(2, .ref (ar 10)), (3, .int (8 : Int32)), (4, .int (nI i13))] → W p l e R s mid args below meth c H locs 0 0 Q (F0 mid 40 ls [.int w40, .int w13]) := by
        intro w40 hB13 H locs ls hE hl
        have hB13 : x_allStocks_b13 Z i13 w13 = (w13 + w40) := hB13
        refine lv_iadd hx hb dX0_allStocks_40 ?_
        refine lv_istore_n (lv' := [(1, .int (w13 + w40)), (2, .ref (ar 10)), (3, .int (8 : Int32)), (4, .int (nI i13))]) hx hb dX0_allStocks_41 rfl hl (by decide) rfl (fun ls hl => ?_)
        refine n_inc (lv' := [(4, .int (nI (i13 + 1))), (1, .int (w13 + w40)), (2, .ref (ar 10)), (3, .int (8 : Int32))]) hx hb dX0_allStocks_42 hl (k := 3) rfl (by decide) rfl (fun ls hl => ?_)
        refine lv_goto (tgt := 13) hx hb dX0_allStocks_45 (by decide) ?_
        exact ih13 (i13 + 1) (w13 + w40) (by omega) (hR.trans (congrArg (fun z => x_allStocks_e13 (itR (x_allStocks_b13 Z) (i13 + 1) k z)) hB13)) _ _ _ hE (lv_sub hl [1, 2, 3, 0] rfl)
      refine xnw_be (b := i13) (tgt := 35) hx hb dX0_allStocks_28 (by decide) (fun c28 => ?_) (fun c28 => ?_)
      · have hB13 : x_allStocks_b13 Z i13 w13 = x_allStocks_j40 w13 (Z.1 32 i13) := hB13.trans (congrArg (fun z => x_allStocks_j40 w13 z) (if_neg c28))
        refine xld hx hb dX0_allStocks_35 (lv_at hl 0 rfl) ?_
        refine xbg_32 (b := i13) (by omega) (by assumption) hx hb hts hown hK hE dX0_allStocks_37 ?_
        exact hJ40 (Z.1 32 i13)  hB13 _ _ _ hE (lv_sub hl [2, 3, 4] rfl)
      · have hB13 : x_allStocks_b13 Z i13 w13 = x_allStocks_j40 w13 (0 : Int32) := hB13.trans (congrArg (fun z => x_allStocks_j40 w13 z) (if_pos c28))
        refine lv_iconst (v := 0) hx hb dX0_allStocks_31 rfl ?_
        refine lv_goto (tgt := 40) hx hb dX0_allStocks_32 (by decide) ?_
        exact hJ40 (0 : Int32)  hB13 _ _ _ hE (lv_sub hl [2, 3, 4] rfl)
  exact hL13 8 0 (0 : Int32) (by omega) hR _ _ _ hE (lv_sub hl [3, 2, 1, 0] rfl)
section C_x_allStocks
variable {p : Program} {l : Launch} {e : Env} {R : Room} {s : State} {mid : MethodId} {args : Array Value} {below : List Frame} {meth : Method} {c : Code} {H : Heap} {locs : List Loc} {cells slots : Nat} {Q : State → Prop} {cc : ByteArray} {pc : Nat} {ls : Array Slot} {rest : List Value} {D : va_G} {A : Nat → Prop} {x : Nat} {ar : Nat → Nat} {cs : Nat → ClassId} {B : BT} {Y : va_W} {Z : ZT} {nL r : Nat}
theorem call_x_allStocks (hx : p.tables.exec = Jvm.exec) (hb : c.code = cc) (hml : c.maxLocals = nL) (hown : s.vm.findClass RX0 = some mid.cls) (hts : ∀ w ∈ lw_all, w.before args s = true) (hK : KK D cs s) (hA : ∀ q : Nat, s.heap.size ≤ q → A q) (hE : EW D A s.heap (WX x ar cs Z B Y) H locs) (hls : ls.size = nL)  (h1 : 1 ≤ R.frames) (h2 : 25 ≤ R.locals) (h3 : (rest.map fun v => v.category).sum ≤ 8) (hd : decode cc pc = .ok (.invokevirtual 230, 3)) (hf : cells ≤ R.cells ∧ slots ≤ R.slots) (kk : ∀ (H1 : Heap) (locs1 : List Loc), EW D A s.heap (WX x ar cs Z B Y) H1 locs1 → W p l e R s mid args below meth c H1 locs1 cells slots Q (F0 mid (pc + 3) ls (.int (x_allStocks Z) :: rest))) : W p l e R s mid args below meth c H locs cells slots Q (F0 mid pc ls (.ref x :: rest)) := 
  gCall_i (As := []) (rest := rest) (q0 := 0) (ci := 0) (fs := XF ar Z) (T' := TX0) (N' := 29) hx hb hml hown hts hK hA hE hls (met_x_allStocks l D cs x ar B Y Z H.size ) (cwV 0 hts (lw_V q631 q633 qs12 q84 q634) rfl rfl rfl (by decide +kernel) ⟨h1, h2⟩) rfl rfl rfl rfl h3 hd hf (fun v u H1 locs1 hp _ hE => by subst hp; exact kk H1 locs1 hE)
end C_x_allStocks
def x_isLink (p1 : Nat) (p2 : Nat) (Z : ZT) : Int32 := (if Z.1 30 p1 = 0 then (0 : Int32) else (if Z.1 30 p2 = 0 then (0 : Int32) else (if Z.1 11 (8 * p1 + p2) ≤ 0 then (0 : Int32) else (1 : Int32))))
set_option maxHeartbeats 4000000 in
set_option maxRecDepth 100000 in
theorem met_x_isLink (l : Launch) (D : va_G) (cs : Nat → ClassId) (x : Nat) (ar : Nat → Nat) (B : BT) (Y : va_W) (Z : ZT) (sz : Nat) (p1 : Nat) (p2 : Nat) (hn1 : p1 < 8) (hn2 : p2 < 8) : Met l yX0_isLink (ws_ yX0_isLink cX0_isLink 3 (some .boolean)) ({ frames := 1, cells := 0, slots := 0, locals := 21 }) (va_Pc [.ref x, .int (nI p1), .int (nI p2)] (wSt D cs (WX x ar cs Z B Y) sz)) (cQi (fun (v : Int32) (_ : Unit) => x_isLink p1 p2 Z = v) D (fun _ => (WX x ar cs Z B Y)) (WX x ar cs Z B Y) sz) 0 0 (va_A (WX x ar cs Z B Y) sz) := by
  refine gStart_i (C := RX0) rfl rfl (Nat.le_of_ble_eq_true rfl) ?_
  intro p e s mid args below meth c R Q A hx hb hml hown hts hK hA hRf hRl hRc hRs hret hE ls hl
  have hRf : 1 ≤ R.frames := hRf
  have hRl : 21 ≤ R.locals := hRl
  have hl : lv_has ls 3 [(0, .ref x), (1, .int (nI p1)), (2, .int (nI p2))] := hl
  have hR : x_isLink p1 p2 Z = (if Z.1 30 p1 = 0 then (0 : Int32) else (if Z.1 30 p2 = 0 then (0 : Int32) else (if Z.1 11 (8 * p1 + p2) ≤ 0 then (0 : Int32) else (1 : Int32)))) := rfl
  refine lv_aload_n hx hb dX0_isLink_0 rfl (lv_at hl 0 rfl) ?_
  refine xg_10 hx hb hts hown hK hE dX0_isLink_1 ?_
  refine lv_iload_n hx hb dX0_isLink_4 rfl (lv_at hl 1 rfl) ?_
  refine xa_10 (n := p1) (by omega) hx hb hK hE dX0_isLink_5 ?_
  refine xnn_be (b := p1) (tgt := 35) hx hb dX0_isLink_6 (by decide) (fun c6 => ?_) (fun c6 => ?_)
  · have hR : x_isLink p1 p2 Z = (0 : Int32) := hR.trans (congrArg (fun z => z) (if_pos c6))
    refine lv_iconst (v := 0) hx hb dX0_isLink_35 rfl ?_
    exact hret (0 : Int32) () hR rfl hE (Nat.le_refl 0) (Nat.le_refl 0) dX0_isLink_36
  · have hR : x_isLink p1 p2 Z = (if Z.1 30 p2 = 0 then (0 : Int32) else (if Z.1 11 (8 * p1 + p2) ≤ 0 then (0 : Int32) else (1 : Int32))) := hR.trans (congrArg (fun z => z) (if_neg c6))
    refine lv_aload_n hx hb dX0_isLink_9 rfl (lv_at hl 0 rfl) ?_
    refine xg_10 hx hb hts hown hK hE dX0_isLink_10 ?_
    refine lv_iload_n hx hb dX0_isLink_13 rfl (lv_at hl 2 rfl) ?_
    refine xa_10 (n := p2) (by omega) hx hb hK hE dX0_isLink_14 ?_
    refine xnn_be (b := p2) (tgt := 35) hx hb dX0_isLink_15 (by decide) (fun c15 => ?_) (fun c15 => ?_)
    · have hR : x_isLink p1 p2 Z = (0 : Int32) := hR.trans (congrArg (fun z => z) (if_pos c15))
      refine lv_iconst (v := 0) hx hb dX0_isLink_35 rfl ?_
      exact hret (0 : Int32) () hR rfl hE (Nat.le_refl 0) (Nat.le_refl 0) dX0_isLink_36
    · have hR : x_isLink p1 p2 Z = (if Z.1 11 (8 * p1 + p2) ≤ 0 then (0 : Int32) else (1 : Int32)) := hR.trans (congrArg (fun z => z) (if_neg c15))
      refine lv_aload_n hx hb dX0_isLink_18 rfl (lv_at hl 0 rfl) ?_
      refine xg_11 hx hb hts hown hK hE dX0_isLink_19 ?_
      refine lv_iload_n hx hb dX0_isLink_22 rfl (lv_at hl 1 rfl) ?_
      refine lv_iload_n hx hb dX0_isLink_23 rfl (lv_at hl 2 rfl) ?_
      refine call_x_pair hx hb hml hown hts hK hA hE hl.1 p1 p2 (lz (show 1 ≤ 1 by decide) hRf) (lz (show 21 ≤ 21 by decide) hRl) (Nat.le_of_ble_eq_true rfl) dX0_isLink_24 ⟨Nat.zero_le _, Nat.zero_le _⟩ (fun H locs hE => ?_)
      refine xa_11 (n := (8 * p1 + p2)) (by omega) hx hb hK hE dX0_isLink_27 ?_
      refine lv_if_le (tgt := 35) hx hb dX0_isLink_28 (by decide) (fun c28 => ?_) (fun c28 => ?_)
      · have hR : x_isLink p1 p2 Z = (0 : Int32) := hR.trans (congrArg (fun z => z) (if_pos c28))
        refine lv_iconst (v := 0) hx hb dX0_isLink_35 rfl ?_
        exact hret (0 : Int32) () hR rfl hE (Nat.le_refl 0) (Nat.le_refl 0) dX0_isLink_36
      · have hR : x_isLink p1 p2 Z = (1 : Int32) := hR.trans (congrArg (fun z => z) (if_neg c28))
        refine lv_iconst (v := 1) hx hb dX0_isLink_31 rfl ?_
        refine lv_goto (tgt := 36) hx hb dX0_isLink_32 (by decide) ?_
        exact hret (1 : Int32) () hR rfl hE (Nat.le_refl 0) (Nat.le_refl 0) dX0_isLink_36
section C_x_isLink
variable {p : Program} {l : Launch} {e : Env} {R : Room} {s : State} {mid : MethodId} {args : Array Value} {below : List Frame} {meth : Method} {c : Code} {H : Heap} {locs : List Loc} {cells slots : Nat} {Q : State → Prop} {cc : ByteArray} {pc : Nat} {ls : Array Slot} {rest : List Value} {D : va_G} {A : Nat → Prop} {x : Nat} {ar : Nat → Nat} {cs : Nat → ClassId} {B : BT} {Y : va_W} {Z : ZT} {nL r : Nat}
theorem call_x_isLink (hx : p.tables.exec = Jvm.exec) (hb : c.code = cc) (hml : c.maxLocals = nL) (hown : s.vm.findClass RX0 = some mid.cls) (hts : ∀ w ∈ lw_all, w.before args s = true) (hK : KK D cs s) (hA : ∀ q : Nat, s.heap.size ≤ q → A q) (hE : EW D A s.heap (WX x ar cs Z B Y) H locs) (hls : ls.size = nL) (p1 : Nat) (p2 : Nat) (hn1 : p1 < 8) (hn2 : p2 < 8) (h1 : 2 ≤ R.frames) (h2 : 43 ≤ R.locals) (h3 : (rest.map fun v => v.category).sum ≤ 8) (hd : decode cc pc = .ok (.invokevirtual 306, 3)) (hf : cells ≤ R.cells ∧ slots ≤ R.slots) (kk : ∀ (H1 : Heap) (locs1 : List Loc), EW D A s.heap (WX x ar cs Z B Y) H1 locs1 → W p l e R s mid args below meth c H1 locs1 cells slots Q (F0 mid (pc + 3) ls (.int (x_isLink p1 p2 Z) :: rest))) : W p l e R s mid args below meth c H locs cells slots Q (F0 mid pc ls (.int (nI p2) :: .int (nI p1) :: .ref x :: rest)) := 
  gCall_i (As := [.int (nI p1), .int (nI p2)]) (rest := rest) (q0 := 0) (ci := 0) (fs := XF ar Z) (T' := TX0) (N' := 29) hx hb hml hown hts hK hA hE hls (met_x_isLink l D cs x ar B Y Z H.size p1 p2 hn1 hn2) (cwV 2 hts (lw_V q779 q781 qs24 q84 q782) rfl rfl rfl (by decide +kernel) ⟨h1, h2⟩) rfl rfl rfl rfl h3 hd hf (fun v u H1 locs1 hp _ hE => by subst hp; exact kk H1 locs1 hE)
end C_x_isLink
def x_food_j31 (w4 : Int32) (w31 : Int32) : Int32 := (w4 ||| w31)
def x_food_b4 (p1 : Nat) (Z : ZT) (i4 : Nat) (w4 : Int32) : Int32 := x_food_j31 w4 (if Z.1 11 (8 * p1 + i4) ≤ 0 then (0 : Int32) else ((1 : Int32) <<< ((nI i4) &&& 31)))
def x_food_e4 (w4 : Int32) : Int32 := w4
def x_food (p1 : Nat) (Z : ZT) : Int32 := x_food_e4 (itR (x_food_b4 p1 Z) 0 8 (0 : Int32))
set_option maxHeartbeats 4000000 in
set_option maxRecDepth 100000 in
theorem met_x_food (l : Launch) (D : va_G) (cs : Nat → ClassId) (x : Nat) (ar : Nat → Nat) (B : BT) (Y : va_W) (Z : ZT) (sz : Nat) (p1 : Nat) (hn1 : p1 < 8) : Met l yX0_food (ws_ yX0_food cX0_food 4 (some .int)) ({ frames := 1, cells := 0, slots := 0, locals := 21 }) (va_Pc [.ref x, .int (nI p1)] (wSt D cs (WX x ar cs Z B Y) sz)) (cQi (fun (v : Int32) (_ : Unit) => x_food p1 Z = v) D (fun _ => (WX x ar cs Z B Y)) (WX x ar cs Z B Y) sz) 0 0 (va_A (WX x ar cs Z B Y) sz) := by
  refine gStart_i (C := RX0) rfl rfl (Nat.le_of_ble_eq_true rfl) ?_
  intro p e s mid args below meth c R Q A hx hb hml hown hts hK hA hRf hRl hRc hRs hret hE ls hl
  have hRf : 1 ≤ R.frames := hRf
  have hRl : 21 ≤ R.locals := hRl
  have hl : lv_has ls 4 [(0, .ref x), (1, .int (nI p1))] := hl
  have hR : x_food p1 Z = (x_food_e4 (itR (x_food_b4 p1 Z) 0 8 (0 : Int32))) := rfl
  refine lv_iconst (v := 0) hx hb dX0_food_0 rfl ?_
  refine lv_istore_n (lv' := [(2, .int (0 : Int32)), (0, .ref x), (1, .int (nI p1))]) hx hb dX0_food_1 rfl hl (by decide) rfl (fun ls hl => ?_)
  refine lv_iconst (v := 0) hx hb dX0_food_2 rfl ?_
  refine lv_istore_n (lv' := [(3, .int (0 : Int32)), (2, .int (0 : Int32)), (0, .ref x), (1, .int (nI p1))]) hx hb dX0_food_3 rfl hl (by decide) rfl (fun ls hl => ?_)
  have hL4 : ∀ (k i4 : Nat) (w4 : Int32) (hi4 : i4 + k = 8) (hR : x_food p1 Z = x_food_e4 (itR (x_food_b4 p1 Z) i4 k w4)), ∀ (H : Heap) (locs : List Loc) (ls : Array Slot), EW D A s.heap (WX x ar cs Z B Y) H locs → lv_has ls 4 [(0, .ref x), (1, .int (nI p1)), (2, .int w4), (3, .int (nI i4))] → W p l e R s mid args below meth c H locs 0 0 Q (F0 mid 4 ls []) := by
    intro k
    induction k with
    | zero =>
      intro i4 w4 hi4 hR H locs ls hE hl
      have hie4 : i4 = 8 := by omega
      have hR : x_food p1 Z = w4 := hR
      refine lv_iload_n hx hb dX0_food_4 rfl (lv_at hl 3 rfl) ?_
      refine lv_bipush (v := 8) hx hb dX0_food_5 rfl ?_
      refine n_geT (a := i4) (b := 8) (by omega) (by omega) hx hb dX0_food_7 (tgt := 39) (by decide) ?_
      have hl := lv_sub (l' := [(0, .ref x), (1, .int (nI p1)), (2, .int w4)]) hl [0, 1, 2] rfl
      refine lv_iload_n hx hb dX0_food_39 rfl (lv_at hl 2 rfl) ?_
      exact hret w4 () hR rfl hE (Nat.le_refl 0) (Nat.le_refl 0) dX0_food_40
    | succ k ih4 =>
      intro i4 w4 hi4 hR H locs ls hE hl
      have hlt4 : i4 < 8 := by omega
      have hB4 : x_food_b4 p1 Z i4 w4 = x_food_j31 w4 (if Z.1 11 (8 * p1 + i4) ≤ 0 then (0 : Int32) else ((1 : Int32) <<< ((nI i4) &&& 31))) := rfl
      refine lv_iload_n hx hb dX0_food_4 rfl (lv_at hl 3 rfl) ?_
      refine lv_bipush (v := 8) hx hb dX0_food_5 rfl ?_
      refine n_geF (a := i4) (b := 8) (by omega) (by omega) hx hb dX0_food_7 (tgt := 39) (by decide) ?_
      refine lv_iload_n hx hb dX0_food_10 rfl (lv_at hl 2 rfl) ?_
      refine lv_aload_n hx hb dX0_food_11 rfl (lv_at hl 0 rfl) ?_
      refine xg_11 hx hb hts hown hK hE dX0_food_12 ?_
      refine lv_iload_n hx hb dX0_food_15 rfl (lv_at hl 1 rfl) ?_
      refine lv_iload_n hx hb dX0_food_16 rfl (lv_at hl 3 rfl) ?_
      refine call_x_pair hx hb hml hown hts hK hA hE hl.1 p1 i4 (lz (show 1 ≤ 1 by decide) hRf) (lz (show 21 ≤ 21 by decide) hRl) (Nat.le_of_ble_eq_true rfl) dX0_food_17 ⟨Nat.zero_le _, Nat.zero_le _⟩ (fun H locs hE => ?_)
      refine xa_11 (n := (8 * p1 + i4)) (by omega) hx hb hK hE dX0_food_20 ?_
      have hJ31 : ∀ (w31 : Int32) (hB4 : x_food_b4 p1 Z i4 w4 = x_food_j31 w4 w31), ∀ (H : Heap) (locs : List Loc) (ls : Array Slot), EW D A s.heap (WX x ar cs Z B Y) H locs → lv_has ls 4 [(0, .ref x), (1, .int (nI p1)), (3, .int (nI i4))] → W p l e R s mid args below meth c H locs 0 0 Q (F0 mid 31 ls [.int w31, .int w4]) := by
        intro w31 hB4 H locs ls hE hl
        have hB4 : x_food_b4 p1 Z i4 w4 = (w4 ||| w31) := hB4
        refine lv_ior hx hb dX0_food_31 ?_
        refine lv_istore_n (lv' := [(2, .int (w4 ||| w31)), (0, .ref x), (1, .int (nI p1)), (3, .int (nI i4))]) hx hb dX0_food_32 rfl hl (by decide) rfl (fun ls hl => ?_)
        refine n_inc (lv' := [(3, .int (nI (i4 + 1))), (2, .int (w4 ||| w31)), (0, .ref x), (1, .int (nI p1))]) hx hb dX0_food_33 hl (k := 3) rfl (by decide) rfl (fun ls hl => ?_)
        refine lv_goto (tgt := 4) hx hb dX0_food_36 (by decide) ?_
        exact ih4 (i4 + 1) (w4 ||| w31) (by omega) (hR.trans (congrArg (fun z => x_food_e4 (itR (x_food_b4 p1 Z) (i4 + 1) k z)) hB4)) _ _ _ hE (lv_sub hl [2, 3, 1, 0] rfl)
      refine lv_if_le (tgt := 30) hx hb dX0_food_21 (by decide) (fun c21 => ?_) (fun c21 => ?_)
      · have hB4 : x_food_b4 p1 Z i4 w4 = x_food_j31 w4 (0 : Int32) := hB4.trans (congrArg (fun z => x_food_j31 w4 z) (if_pos c21))
        refine lv_iconst (v := 0) hx hb dX0_food_30 rfl ?_
        exact hJ31 (0 : Int32)  hB4 _ _ _ hE (lv_sub hl [0, 1, 3] rfl)
      · have hB4 : x_food_b4 p1 Z i4 w4 = x_food_j31 w4 ((1 : Int32) <<< ((nI i4) &&& 31)) := hB4.trans (congrArg (fun z => x_food_j31 w4 z) (if_neg c21))
        refine lv_iconst (v := 1) hx hb dX0_food_24 rfl ?_
        refine lv_iload_n hx hb dX0_food_25 rfl (lv_at hl 3 rfl) ?_
        refine lv_ishl hx hb dX0_food_26 ?_
        refine lv_goto (tgt := 31) hx hb dX0_food_27 (by decide) ?_
        exact hJ31 ((1 : Int32) <<< ((nI i4) &&& 31))  hB4 _ _ _ hE (lv_sub hl [0, 1, 3] rfl)
  exact hL4 8 0 (0 : Int32) (by omega) hR _ _ _ hE (lv_sub hl [2, 3, 1, 0] rfl)
section C_x_food
variable {p : Program} {l : Launch} {e : Env} {R : Room} {s : State} {mid : MethodId} {args : Array Value} {below : List Frame} {meth : Method} {c : Code} {H : Heap} {locs : List Loc} {cells slots : Nat} {Q : State → Prop} {cc : ByteArray} {pc : Nat} {ls : Array Slot} {rest : List Value} {D : va_G} {A : Nat → Prop} {x : Nat} {ar : Nat → Nat} {cs : Nat → ClassId} {B : BT} {Y : va_W} {Z : ZT} {nL r : Nat}
theorem call_x_food (hx : p.tables.exec = Jvm.exec) (hb : c.code = cc) (hml : c.maxLocals = nL) (hown : s.vm.findClass RX0 = some mid.cls) (hts : ∀ w ∈ lw_all, w.before args s = true) (hK : KK D cs s) (hA : ∀ q : Nat, s.heap.size ≤ q → A q) (hE : EW D A s.heap (WX x ar cs Z B Y) H locs) (hls : ls.size = nL) (p1 : Nat) (hn1 : p1 < 8) (h1 : 2 ≤ R.frames) (h2 : 44 ≤ R.locals) (h3 : (rest.map fun v => v.category).sum ≤ 8) (hd : decode cc pc = .ok (.invokevirtual 296, 3)) (hf : cells ≤ R.cells ∧ slots ≤ R.slots) (kk : ∀ (H1 : Heap) (locs1 : List Loc), EW D A s.heap (WX x ar cs Z B Y) H1 locs1 → W p l e R s mid args below meth c H1 locs1 cells slots Q (F0 mid (pc + 3) ls (.int (x_food p1 Z) :: rest))) : W p l e R s mid args below meth c H locs cells slots Q (F0 mid pc ls (.int (nI p1) :: .ref x :: rest)) := 
  gCall_i (As := [.int (nI p1)]) (rest := rest) (q0 := 0) (ci := 0) (fs := XF ar Z) (T' := TX0) (N' := 29) hx hb hml hown hts hK hA hE hls (met_x_food l D cs x ar B Y Z H.size p1 hn1) (cwV 1 hts (lw_V q751 q753 qs22 q84 q754) rfl rfl rfl (by decide +kernel) ⟨h1, h2⟩) rfl rfl rfl rfl h3 hd hf (fun v u H1 locs1 hp _ hE => by subst hp; exact kk H1 locs1 hE)
end C_x_food
def x_goneWithout_j65 (w65 : Int32 × Int32) : Int32 × Int32 := (w65.1, w65.2)
def x_goneWithout_b18 (Z : ZT) (i18 : Nat) (w18 : Int32 × Int32) : Int32 × Int32 := x_goneWithout_j65 (if ((w18.1 >>> ((nI i18) &&& 31)) &&& (1 : Int32)) = 0 then (if (x_food i18 Z) = 0 then (w18.1, w18.2) else (if ((x_food i18 Z) &&& (w18.1 ^^^ (-1 : Int32))) = 0 then ((w18.1 ||| ((1 : Int32) <<< ((nI i18) &&& 31))), (1 : Int32)) else (w18.1, w18.2))) else (w18.1, w18.2))
def x_goneWithout_e18 (w18 : Int32 × Int32) : Bool × (Int32 × Int32) := (true, (w18.1, w18.2))
def x_goneWithout_b9 (Z : ZT) (w9 : Int32 × Int32) : Bool × (Int32 × Int32) := (if w9.2 = 0 then (false, (w9.1, w9.2)) else x_goneWithout_e18 (itR (x_goneWithout_b18 Z) 0 8 (w9.1, (0 : Int32))))
def x_goneWithout_e9 (w9 : Int32 × Int32) : Int32 := w9.1
def x_goneWithout (p1 : Int32) (Z : ZT) : Int32 := x_goneWithout_e9 (wlR (x_goneWithout_b9 Z) 10 ((p1 &&& (x_present Z)), (1 : Int32)))
set_option maxHeartbeats 4000000 in
set_option maxRecDepth 100000 in
theorem met_x_goneWithout (l : Launch) (D : va_G) (cs : Nat → ClassId) (x : Nat) (ar : Nat → Nat) (B : BT) (Y : va_W) (Z : ZT) (sz : Nat) (p1 : Int32) : Met l yX0_goneWithout (ws_ yX0_goneWithout cX0_goneWithout 6 (some .int)) ({ frames := 2, cells := 0, slots := 0, locals := 44 }) (va_Pc [.ref x, .int p1] (wSt D cs (WX x ar cs Z B Y) sz)) (cQi (fun (v : Int32) (_ : Unit) => x_goneWithout p1 Z = v) D (fun _ => (WX x ar cs Z B Y)) (WX x ar cs Z B Y) sz) 0 0 (va_A (WX x ar cs Z B Y) sz) := by
  refine gStart_i (C := RX0) rfl rfl (Nat.le_of_ble_eq_true rfl) ?_
  intro p e s mid args below meth c R Q A hx hb hml hown hts hK hA hRf hRl hRc hRs hret hE ls hl
  have hRf : 2 ≤ R.frames := hRf
  have hRl : 44 ≤ R.locals := hRl
  have hl : lv_has ls 6 [(0, .ref x), (1, .int p1)] := hl
  have hR : x_goneWithout p1 Z = (x_goneWithout_e9 (wlR (x_goneWithout_b9 Z) 10 ((p1 &&& (x_present Z)), (1 : Int32)))) := rfl
  refine lv_iload_n hx hb dX0_goneWithout_0 rfl (lv_at hl 1 rfl) ?_
  refine lv_aload_n hx hb dX0_goneWithout_1 rfl (lv_at hl 0 rfl) ?_
  refine call_x_present hx hb hml hown hts hK hA hE hl.1 (lz (show 1 ≤ 2 by decide) hRf) (lz (show 22 ≤ 44 by decide) hRl) (Nat.le_of_ble_eq_true rfl) dX0_goneWithout_2 ⟨Nat.zero_le _, Nat.zero_le _⟩ (fun H locs hE => ?_)
  refine lv_iand hx hb dX0_goneWithout_5 ?_
  refine lv_istore_n (lv' := [(2, .int (p1 &&& (x_present Z))), (0, .ref x), (1, .int p1)]) hx hb dX0_goneWithout_6 rfl hl (by decide) rfl (fun ls hl => ?_)
  refine lv_iconst (v := 1) hx hb dX0_goneWithout_7 rfl ?_
  refine lv_istore_n (lv' := [(3, .int (1 : Int32)), (2, .int (p1 &&& (x_present Z))), (0, .ref x), (1, .int p1)]) hx hb dX0_goneWithout_8 rfl hl (by decide) rfl (fun ls hl => ?_)
  have hX9 : ∀ (w9 : Int32 × Int32) (hR : x_goneWithout p1 Z = x_goneWithout_e9 w9), ∀ (H : Heap) (locs : List Loc) (ls : Array Slot), EW D A s.heap (WX x ar cs Z B Y) H locs → lv_has ls 6 [(2, .int w9.1)] → W p l e R s mid args below meth c H locs 0 0 Q (F0 mid 74 ls []) := by
    intro w9 hR H locs ls hE hl
    have hR : x_goneWithout p1 Z = w9.1 := hR
    refine lv_iload_n hx hb dX0_goneWithout_74 rfl (lv_at hl 0 rfl) ?_
    exact hret w9.1 () hR rfl hE (Nat.le_refl 0) (Nat.le_refl 0) dX0_goneWithout_75
  have hL9 : ∀ (n : Nat) (w9 : Int32 × Int32) (hm9 : (if w9.2 = 0 then 0 else 1 + zc w9.1) < n) (hR : x_goneWithout p1 Z = x_goneWithout_e9 (wlR (x_goneWithout_b9 Z) n w9)), ∀ (H : Heap) (locs : List Loc) (ls : Array Slot), EW D A s.heap (WX x ar cs Z B Y) H locs → lv_has ls 6 [(0, .ref x), (2, .int w9.1), (3, .int w9.2)] → W p l e R s mid args below meth c H locs 0 0 Q (F0 mid 9 ls []) := by
    intro n
    induction n with
    | zero =>
      intro w9 hm9
      exact absurd hm9 (Nat.not_lt_zero _)
    | succ n ih9 =>
      intro w9 hm9 hR H locs ls hE hl
      have hB9 : x_goneWithout_b9 Z w9 = (if w9.2 = 0 then (false, (w9.1, w9.2)) else x_goneWithout_e18 (itR (x_goneWithout_b18 Z) 0 8 (w9.1, (0 : Int32)))) := rfl
      refine lv_iload_n hx hb dX0_goneWithout_9 rfl (lv_at hl 2 rfl) ?_
      refine lv_if_eq (tgt := 74) hx hb dX0_goneWithout_10 (by decide) (fun c10 => ?_) (fun c10 => ?_)
      · have hB9 : x_goneWithout_b9 Z w9 = (false, (w9.1, w9.2)) := hB9.trans (congrArg (fun z => z) (if_pos c10))
        exact hX9 (w9.1, w9.2) (hR.trans (congrArg (fun z => x_goneWithout_e9 z) (wl_f hB9))) _ _ _ hE (lv_sub hl [1] rfl)
      · have hB9 : x_goneWithout_b9 Z w9 = (x_goneWithout_e18 (itR (x_goneWithout_b18 Z) 0 8 (w9.1, (0 : Int32)))) := hB9.trans (congrArg (fun z => z) (if_neg c10))
        refine lv_iconst (v := 0) hx hb dX0_goneWithout_13 rfl ?_
        refine lv_istore_n (lv' := [(3, .int (0 : Int32)), (0, .ref x), (2, .int w9.1)]) hx hb dX0_goneWithout_14 rfl hl (by decide) rfl (fun ls hl => ?_)
        refine lv_iconst (v := 0) hx hb dX0_goneWithout_15 rfl ?_
        refine lv_istore (lv' := [(4, .int (0 : Int32)), (3, .int (0 : Int32)), (0, .ref x), (2, .int w9.1)]) hx hb dX0_goneWithout_16 hl (by decide) rfl (fun ls hl => ?_)
        have hL18 : ∀ (k i18 : Nat) (w18 : Int32 × Int32) (hi18 : i18 + k = 8) (hq18 : zc w18.1 ≤ zc w9.1 ∧ (w18.2 = 0 ∨ zc w18.1 < zc w9.1)) (hB9 : x_goneWithout_b9 Z w9 = x_goneWithout_e18 (itR (x_goneWithout_b18 Z) i18 k w18)), ∀ (H : Heap) (locs : List Loc) (ls : Array Slot), EW D A s.heap (WX x ar cs Z B Y) H locs → lv_has ls 6 [(0, .ref x), (2, .int w18.1), (3, .int w18.2), (4, .int (nI i18))] → W p l e R s mid args below meth c H locs 0 0 Q (F0 mid 18 ls []) := by
          intro k
          induction k with
          | zero =>
            intro i18 w18 hi18 hq18 hB9 H locs ls hE hl
            have hie18 : i18 = 8 := by omega
            have hB9 : x_goneWithout_b9 Z w9 = (true, (w18.1, w18.2)) := hB9
            refine lv_iload hx hb dX0_goneWithout_18 (lv_at hl 3 rfl) ?_
            refine lv_bipush (v := 8) hx hb dX0_goneWithout_20 rfl ?_
            refine n_geT (a := i18) (b := 8) (by omega) (by omega) hx hb dX0_goneWithout_22 (tgt := 71) (by decide) ?_
            have hl := lv_sub (l' := [(0, .ref x), (2, .int w18.1), (3, .int w18.2)]) hl [0, 1, 2] rfl
            refine lv_goto (tgt := 9) hx hb dX0_goneWithout_71 (by decide) ?_
            exact ih9 (w18.1, w18.2) (by exact gw_dec hm9 c10 hq18) (hR.trans (congrArg (fun z => x_goneWithout_e9 z) (wl_t hB9))) _ _ _ hE (lv_sub hl [0, 1, 2] rfl)
          | succ k ih18 =>
            intro i18 w18 hi18 hq18 hB9 H locs ls hE hl
            have hlt18 : i18 < 8 := by omega
            have hB18 : x_goneWithout_b18 Z i18 w18 = x_goneWithout_j65 (if ((w18.1 >>> ((nI i18) &&& 31)) &&& (1 : Int32)) = 0 then (if (x_food i18 Z) = 0 then (w18.1, w18.2) else (if ((x_food i18 Z) &&& (w18.1 ^^^ (-1 : Int32))) = 0 then ((w18.1 ||| ((1 : Int32) <<< ((nI i18) &&& 31))), (1 : Int32)) else (w18.1, w18.2))) else (w18.1, w18.2)) := rfl
            refine lv_iload hx hb dX0_goneWithout_18 (lv_at hl 3 rfl) ?_
            refine lv_bipush (v := 8) hx hb dX0_goneWithout_20 rfl ?_
            refine n_geF (a := i18) (b := 8) (by omega) (by omega) hx hb dX0_goneWithout_22 (tgt := 71) (by decide) ?_
            refine lv_aload_n hx hb dX0_goneWithout_25 rfl (lv_at hl 0 rfl) ?_
            refine lv_iload hx hb dX0_goneWithout_26 (lv_at hl 3 rfl) ?_
            refine call_x_food hx hb hml hown hts hK hA hE hl.1 i18 (by omega) (lz (show 2 ≤ 2 by decide) hRf) (lz (show 44 ≤ 44 by decide) hRl) (Nat.le_of_ble_eq_true rfl) dX0_goneWithout_28 ⟨Nat.zero_le _, Nat.zero_le _⟩ (fun H locs hE => ?_)
            refine lv_istore (lv' := [(5, .int (x_food i18 Z)), (0, .ref x), (2, .int w18.1), (3, .int w18.2), (4, .int (nI i18))]) hx hb dX0_goneWithout_31 hl (by decide) rfl (fun ls hl => ?_)
            refine lv_iload_n hx hb dX0_goneWithout_33 rfl (lv_at hl 2 rfl) ?_
            refine lv_iload hx hb dX0_goneWithout_34 (lv_at hl 4 rfl) ?_
            refine lv_ishr hx hb dX0_goneWithout_36 ?_
            refine lv_iconst (v := 1) hx hb dX0_goneWithout_37 rfl ?_
            refine lv_iand hx hb dX0_goneWithout_38 ?_
            have hJ65 : ∀ (w65 : Int32 × Int32) (hq65 : zc w65.1 ≤ zc w9.1 ∧ (w65.2 = 0 ∨ zc w65.1 < zc w9.1)) (hB18 : x_goneWithout_b18 Z i18 w18 = x_goneWithout_j65 w65), ∀ (H : Heap) (locs : List Loc) (ls : Array Slot), EW D A s.heap (WX x ar cs Z B Y) H locs → lv_has ls 6 [(0, .ref x), (2, .int w65.1), (3, .int w65.2), (4, .int (nI i18))] → W p l e R s mid args below meth c H locs 0 0 Q (F0 mid 65 ls []) := by
              intro w65 hq65 hB18 H locs ls hE hl
              have hB18 : x_goneWithout_b18 Z i18 w18 = (w65.1, w65.2) := hB18
              refine n_inc (lv' := [(4, .int (nI (i18 + 1))), (0, .ref x), (2, .int w65.1), (3, .int w65.2)]) hx hb dX0_goneWithout_65 hl (k := 3) rfl (by decide) rfl (fun ls hl => ?_)
              refine lv_goto (tgt := 18) hx hb dX0_goneWithout_68 (by decide) ?_
              exact ih18 (i18 + 1) (w65.1, w65.2) (by omega) (by exact hq65) (hB9.trans (congrArg (fun z => x_goneWithout_e18 (itR (x_goneWithout_b18 Z) (i18 + 1) k z)) hB18)) _ _ _ hE (lv_sub hl [1, 2, 3, 0] rfl)
            refine lv_if_ne (tgt := 65) hx hb dX0_goneWithout_39 (by decide) (fun c39 => ?_) (fun c39 => ?_)
            · have hB18 : x_goneWithout_b18 Z i18 w18 = x_goneWithout_j65 (w18.1, w18.2) := hB18.trans (congrArg (fun z => x_goneWithout_j65 z) (if_neg c39))
              exact hJ65 (w18.1, w18.2)  (by first | exact hq18 | exact gw_stepx hq18.1 hlt18 c39) hB18 _ _ _ hE (lv_sub hl [1, 2, 3, 4] rfl)
            · have hB18 : x_goneWithout_b18 Z i18 w18 = x_goneWithout_j65 (if (x_food i18 Z) = 0 then (w18.1, w18.2) else (if ((x_food i18 Z) &&& (w18.1 ^^^ (-1 : Int32))) = 0 then ((w18.1 ||| ((1 : Int32) <<< ((nI i18) &&& 31))), (1 : Int32)) else (w18.1, w18.2))) := hB18.trans (congrArg (fun z => x_goneWithout_j65 z) (if_pos c39))
              refine lv_iload hx hb dX0_goneWithout_42 (lv_at hl 0 rfl) ?_
              refine lv_if_eq (tgt := 65) hx hb dX0_goneWithout_44 (by decide) (fun c44 => ?_) (fun c44 => ?_)
              · have hB18 : x_goneWithout_b18 Z i18 w18 = x_goneWithout_j65 (w18.1, w18.2) := hB18.trans (congrArg (fun z => x_goneWithout_j65 z) (if_pos c44))
                exact hJ65 (w18.1, w18.2)  (by first | exact hq18 | exact gw_stepx hq18.1 hlt18 c39) hB18 _ _ _ hE (lv_sub hl [1, 2, 3, 4] rfl)
              · have hB18 : x_goneWithout_b18 Z i18 w18 = x_goneWithout_j65 (if ((x_food i18 Z) &&& (w18.1 ^^^ (-1 : Int32))) = 0 then ((w18.1 ||| ((1 : Int32) <<< ((nI i18) &&& 31))), (1 : Int32)) else (w18.1, w18.2)) := hB18.trans (congrArg (fun z => x_goneWithout_j65 z) (if_neg c44))
                refine lv_iload hx hb dX0_goneWithout_47 (lv_at hl 0 rfl) ?_
                refine lv_iload_n hx hb dX0_goneWithout_49 rfl (lv_at hl 2 rfl) ?_
                refine lv_iconst (v := -1) hx hb dX0_goneWithout_50 rfl ?_
                refine lv_ixor hx hb dX0_goneWithout_51 ?_
                refine lv_iand hx hb dX0_goneWithout_52 ?_
                refine lv_if_ne (tgt := 65) hx hb dX0_goneWithout_53 (by decide) (fun c53 => ?_) (fun c53 => ?_)
                · have hB18 : x_goneWithout_b18 Z i18 w18 = x_goneWithout_j65 (w18.1, w18.2) := hB18.trans (congrArg (fun z => x_goneWithout_j65 z) (if_neg c53))
                  exact hJ65 (w18.1, w18.2)  (by first | exact hq18 | exact gw_stepx hq18.1 hlt18 c39) hB18 _ _ _ hE (lv_sub hl [1, 2, 3, 4] rfl)
                · have hB18 : x_goneWithout_b18 Z i18 w18 = x_goneWithout_j65 ((w18.1 ||| ((1 : Int32) <<< ((nI i18) &&& 31))), (1 : Int32)) := hB18.trans (congrArg (fun z => x_goneWithout_j65 z) (if_pos c53))
                  refine lv_iload_n hx hb dX0_goneWithout_56 rfl (lv_at hl 2 rfl) ?_
                  refine lv_iconst (v := 1) hx hb dX0_goneWithout_57 rfl ?_
                  refine lv_iload hx hb dX0_goneWithout_58 (lv_at hl 4 rfl) ?_
                  refine lv_ishl hx hb dX0_goneWithout_60 ?_
                  refine lv_ior hx hb dX0_goneWithout_61 ?_
                  refine lv_istore_n (lv' := [(2, .int (w18.1 ||| ((1 : Int32) <<< ((nI i18) &&& 31)))), (5, .int (x_food i18 Z)), (0, .ref x), (3, .int w18.2), (4, .int (nI i18))]) hx hb dX0_goneWithout_62 rfl hl (by decide) rfl (fun ls hl => ?_)
                  refine lv_iconst (v := 1) hx hb dX0_goneWithout_63 rfl ?_
                  refine lv_istore_n (lv' := [(3, .int (1 : Int32)), (2, .int (w18.1 ||| ((1 : Int32) <<< ((nI i18) &&& 31)))), (5, .int (x_food i18 Z)), (0, .ref x), (4, .int (nI i18))]) hx hb dX0_goneWithout_64 rfl hl (by decide) rfl (fun ls hl => ?_)
                  exact hJ65 ((w18.1 ||| ((1 : Int32) <<< ((nI i18) &&& 31))), (1 : Int32))  (by first | exact hq18 | exact gw_stepx hq18.1 hlt18 c39) hB18 _ _ _ hE (lv_sub hl [3, 1, 0, 4] rfl)
        exact hL18 8 0 (w9.1, (0 : Int32)) (by omega) (by exact ⟨Nat.le_refl _, Or.inl rfl⟩) hB9 _ _ _ hE (lv_sub hl [2, 3, 1, 0] rfl)
  exact hL9 10 ((p1 &&& (x_present Z)), (1 : Int32)) (by exact Nat.lt_of_le_of_lt (gw_mu _ _) (by decide)) hR _ _ _ hE (lv_sub hl [2, 1, 0] rfl)
section C_x_goneWithout
variable {p : Program} {l : Launch} {e : Env} {R : Room} {s : State} {mid : MethodId} {args : Array Value} {below : List Frame} {meth : Method} {c : Code} {H : Heap} {locs : List Loc} {cells slots : Nat} {Q : State → Prop} {cc : ByteArray} {pc : Nat} {ls : Array Slot} {rest : List Value} {D : va_G} {A : Nat → Prop} {x : Nat} {ar : Nat → Nat} {cs : Nat → ClassId} {B : BT} {Y : va_W} {Z : ZT} {nL r : Nat}
theorem call_x_goneWithout (hx : p.tables.exec = Jvm.exec) (hb : c.code = cc) (hml : c.maxLocals = nL) (hown : s.vm.findClass RX0 = some mid.cls) (hts : ∀ w ∈ lw_all, w.before args s = true) (hK : KK D cs s) (hA : ∀ q : Nat, s.heap.size ≤ q → A q) (hE : EW D A s.heap (WX x ar cs Z B Y) H locs) (hls : ls.size = nL) (p1 : Int32) (h1 : 3 ≤ R.frames) (h2 : 69 ≤ R.locals) (h3 : (rest.map fun v => v.category).sum ≤ 8) (hd : decode cc pc = .ok (.invokevirtual 299, 3)) (hf : cells ≤ R.cells ∧ slots ≤ R.slots) (kk : ∀ (H1 : Heap) (locs1 : List Loc), EW D A s.heap (WX x ar cs Z B Y) H1 locs1 → W p l e R s mid args below meth c H1 locs1 cells slots Q (F0 mid (pc + 3) ls (.int (x_goneWithout p1 Z) :: rest))) : W p l e R s mid args below meth c H locs cells slots Q (F0 mid pc ls (.int p1 :: .ref x :: rest)) := 
  gCall_i (As := [.int p1]) (rest := rest) (q0 := 0) (ci := 0) (fs := XF ar Z) (T' := TX0) (N' := 29) hx hb hml hown hts hK hA hE hls (met_x_goneWithout l D cs x ar B Y Z H.size p1) (cwV 1 hts (lw_V q747 q749 qs21 q84 q750) rfl rfl rfl (by decide +kernel) ⟨h1, h2⟩) rfl rfl rfl rfl h3 hd hf (fun v u H1 locs1 hp _ hE => by subst hp; exact kk H1 locs1 hE)
end C_x_goneWithout
def x_without (p1 : Int32) (Z : ZT) : Int32 × ZT := (if (x_isIn p1 (0 : Int32) (255 : Int32)) = 0 then ((-1 : Int32), Z) else ((x_bits ((sI Z 2 0 (x_goneWithout p1 Z)).1 2 0)), sI Z 2 0 (x_goneWithout p1 Z)))
set_option maxHeartbeats 4000000 in
set_option maxRecDepth 100000 in
theorem met_x_without (l : Launch) (D : va_G) (cs : Nat → ClassId) (x : Nat) (ar : Nat → Nat) (B : BT) (Y : va_W) (Z : ZT) (sz : Nat) (p1 : Int32) : Met l yX0_without (ws_ yX0_without cX0_without 2 (some .int)) ({ frames := 3, cells := 0, slots := 0, locals := 69 }) (va_Pc [.ref x, .int p1] (wSt D cs (WX x ar cs Z B Y) sz)) (cQi (fun (v : Int32) (u : ZT) => x_without p1 Z = (v, u)) D (fun u => (WX x ar cs u B Y)) (WX x ar cs Z B Y) sz) 0 0 (va_A (WX x ar cs Z B Y) sz) := by
  refine gStart_i (C := RX0) rfl rfl (Nat.le_of_ble_eq_true rfl) ?_
  intro p e s mid args below meth c R Q A hx hb hml hown hts hK hA hRf hRl hRc hRs hret hE ls hl
  have hRf : 3 ≤ R.frames := hRf
  have hRl : 69 ≤ R.locals := hRl
  have hl : lv_has ls 2 [(0, .ref x), (1, .int p1)] := hl
  have hR : x_without p1 Z = (if (x_isIn p1 (0 : Int32) (255 : Int32)) = 0 then ((-1 : Int32), Z) else ((x_bits ((sI Z 2 0 (x_goneWithout p1 Z)).1 2 0)), sI Z 2 0 (x_goneWithout p1 Z))) := rfl
  refine lv_iload_n hx hb dX0_without_0 rfl (lv_at hl 1 rfl) ?_
  refine lv_iconst (v := 0) hx hb dX0_without_1 rfl ?_
  refine lv_sipush (v := 255) hx hb dX0_without_2 rfl ?_
  refine call_x_isIn hx hb hml hown hts hK hA hE hl.1 p1 (0 : Int32) (255 : Int32) (lz (show 1 ≤ 3 by decide) hRf) (lz (show 22 ≤ 69 by decide) hRl) (Nat.le_of_ble_eq_true rfl) dX0_without_5 ⟨Nat.zero_le _, Nat.zero_le _⟩ (fun H locs hE => ?_)
  refine lv_if_ne (tgt := 13) hx hb dX0_without_8 (by decide) (fun c8 => ?_) (fun c8 => ?_)
  · have hR : x_without p1 Z = ((x_bits ((sI Z 2 0 (x_goneWithout p1 Z)).1 2 0)), sI Z 2 0 (x_goneWithout p1 Z)) := hR.trans (congrArg (fun z => z) (if_neg c8))
    refine lv_aload_n hx hb dX0_without_13 rfl (lv_at hl 0 rfl) ?_
    refine lv_aload_n hx hb dX0_without_14 rfl (lv_at hl 0 rfl) ?_
    refine lv_iload_n hx hb dX0_without_15 rfl (lv_at hl 1 rfl) ?_
    refine call_x_goneWithout hx hb hml hown hts hK hA hE hl.1 p1 (lz (show 3 ≤ 3 by decide) hRf) (lz (show 69 ≤ 69 by decide) hRl) (Nat.le_of_ble_eq_true rfl) dX0_without_16 ⟨Nat.zero_le _, Nat.zero_le _⟩ (fun H locs hE => ?_)
    refine xp_2 hx hb hts hown hK hE dX0_without_19 (fun H locs hE => ?_)
    refine lv_aload_n hx hb dX0_without_22 rfl (lv_at hl 0 rfl) ?_
    refine xg_2 hx hb hts hown hK hE dX0_without_23 ?_
    refine call_x_bits hx hb hml hown hts hK hA hE hl.1 ((sI Z 2 0 (x_goneWithout p1 Z)).1 2 0) (lz (show 1 ≤ 3 by decide) hRf) (lz (show 22 ≤ 69 by decide) hRl) (Nat.le_of_ble_eq_true rfl) dX0_without_26 ⟨Nat.zero_le _, Nat.zero_le _⟩ (fun H locs hE => ?_)
    exact hret (x_bits ((sI Z 2 0 (x_goneWithout p1 Z)).1 2 0)) (sI Z 2 0 (x_goneWithout p1 Z)) hR rfl hE (Nat.le_refl 0) (Nat.le_refl 0) dX0_without_29
  · have hR : x_without p1 Z = ((-1 : Int32), Z) := hR.trans (congrArg (fun z => z) (if_pos c8))
    refine lv_iconst (v := -1) hx hb dX0_without_11 rfl ?_
    exact hret (-1 : Int32) Z hR rfl hE (Nat.le_refl 0) (Nat.le_refl 0) dX0_without_12
def x_worst_j82 (w82 : Int32 × Int32) : Int32 × Int32 := (w82.1, w82.2)
def x_worst_j66 (i26 : Nat) (w26 : Int32 × Int32) (w66 : Int32) : Int32 × Int32 := x_worst_j82 (if w66 ≤ w26.2 then (w26.1, w26.2) else (nI i26, w66))
def x_worst_b26 (p1 : Int32) (Z : ZT) (i26 : Nat) (w26 : Int32 × Int32) : Int32 × Int32 := x_worst_j66 i26 w26 (if ((nI i26) &&& ((x_present Z) ^^^ (-1 : Int32))) = 0 then (if (x_bits (nI i26)) = p1 then (x_bits (x_goneWithout (nI i26) Z)) else (-9 : Int32)) else (-9 : Int32))
def x_worst_j104 (Z : ZT) (w26 : Int32 × Int32) (w104 : Int32) : Int32 × ZT := (w26.1, sI Z 2 0 w104)
def x_worst_e26 (Z : ZT) (w26 : Int32 × Int32) : Int32 × ZT := x_worst_j104 Z w26 (if w26.1 = (-9 : Int32) then Z.1 2 0 else w26.2)
def x_worst (p1 : Int32) (Z : ZT) : Int32 × ZT := (if (x_isIn p1 (0 : Int32) (4 : Int32)) = 0 then ((-1 : Int32), Z) else x_worst_e26 Z (itR (x_worst_b26 p1 Z) 0 256 ((-9 : Int32), (-9 : Int32))))
set_option maxHeartbeats 4000000 in
set_option maxRecDepth 100000 in
theorem met_x_worst (l : Launch) (D : va_G) (cs : Nat → ClassId) (x : Nat) (ar : Nat → Nat) (B : BT) (Y : va_W) (Z : ZT) (sz : Nat) (p1 : Int32) : Met l yX0_worst (ws_ yX0_worst cX0_worst 7 (some .int)) ({ frames := 3, cells := 0, slots := 0, locals := 69 }) (va_Pc [.ref x, .int p1] (wSt D cs (WX x ar cs Z B Y) sz)) (cQi (fun (v : Int32) (u : ZT) => x_worst p1 Z = (v, u)) D (fun u => (WX x ar cs u B Y)) (WX x ar cs Z B Y) sz) 0 0 (va_A (WX x ar cs Z B Y) sz) := by
  refine gStart_i (C := RX0) rfl rfl (Nat.le_of_ble_eq_true rfl) ?_
  intro p e s mid args below meth c R Q A hx hb hml hown hts hK hA hRf hRl hRc hRs hret hE ls hl
  have hRf : 3 ≤ R.frames := hRf
  have hRl : 69 ≤ R.locals := hRl
  have hl : lv_has ls 7 [(0, .ref x), (1, .int p1)] := hl
  have hR : x_worst p1 Z = (if (x_isIn p1 (0 : Int32) (4 : Int32)) = 0 then ((-1 : Int32), Z) else x_worst_e26 Z (itR (x_worst_b26 p1 Z) 0 256 ((-9 : Int32), (-9 : Int32)))) := rfl
  refine lv_iload_n hx hb dX0_worst_0 rfl (lv_at hl 1 rfl) ?_
  refine lv_iconst (v := 0) hx hb dX0_worst_1 rfl ?_
  refine lv_iconst (v := 4) hx hb dX0_worst_2 rfl ?_
  refine call_x_isIn hx hb hml hown hts hK hA hE hl.1 p1 (0 : Int32) (4 : Int32) (lz (show 1 ≤ 3 by decide) hRf) (lz (show 22 ≤ 69 by decide) hRl) (Nat.le_of_ble_eq_true rfl) dX0_worst_3 ⟨Nat.zero_le _, Nat.zero_le _⟩ (fun H locs hE => ?_)
  refine lv_if_ne (tgt := 11) hx hb dX0_worst_6 (by decide) (fun c6 => ?_) (fun c6 => ?_)
  · have hR : x_worst p1 Z = (x_worst_e26 Z (itR (x_worst_b26 p1 Z) 0 256 ((-9 : Int32), (-9 : Int32)))) := hR.trans (congrArg (fun z => z) (if_neg c6))
    refine lv_aload_n hx hb dX0_worst_11 rfl (lv_at hl 0 rfl) ?_
    refine call_x_present hx hb hml hown hts hK hA hE hl.1 (lz (show 1 ≤ 3 by decide) hRf) (lz (show 22 ≤ 69 by decide) hRl) (Nat.le_of_ble_eq_true rfl) dX0_worst_12 ⟨Nat.zero_le _, Nat.zero_le _⟩ (fun H locs hE => ?_)
    refine lv_istore_n (lv' := [(2, .int (x_present Z)), (0, .ref x), (1, .int p1)]) hx hb dX0_worst_15 rfl hl (by decide) rfl (fun ls hl => ?_)
    refine lv_bipush (v := -9) hx hb dX0_worst_16 rfl ?_
    refine lv_istore_n (lv' := [(3, .int (-9 : Int32)), (2, .int (x_present Z)), (0, .ref x), (1, .int p1)]) hx hb dX0_worst_18 rfl hl (by decide) rfl (fun ls hl => ?_)
    refine lv_bipush (v := -9) hx hb dX0_worst_19 rfl ?_
    refine lv_istore (lv' := [(4, .int (-9 : Int32)), (3, .int (-9 : Int32)), (2, .int (x_present Z)), (0, .ref x), (1, .int p1)]) hx hb dX0_worst_21 hl (by decide) rfl (fun ls hl => ?_)
    refine lv_iconst (v := 0) hx hb dX0_worst_23 rfl ?_
    refine lv_istore (lv' := [(5, .int (0 : Int32)), (4, .int (-9 : Int32)), (3, .int (-9 : Int32)), (2, .int (x_present Z)), (0, .ref x), (1, .int p1)]) hx hb dX0_worst_24 hl (by decide) rfl (fun ls hl => ?_)
    have hL26 : ∀ (k i26 : Nat) (w26 : Int32 × Int32) (hi26 : i26 + k = 256) (hR : x_worst p1 Z = x_worst_e26 Z (itR (x_worst_b26 p1 Z) i26 k w26)), ∀ (H : Heap) (locs : List Loc) (ls : Array Slot), EW D A s.heap (WX x ar cs Z B Y) H locs → lv_has ls 7 [(0, .ref x), (1, .int p1), (2, .int (x_present Z)), (3, .int w26.1), (4, .int w26.2), (5, .int (nI i26))] → W p l e R s mid args below meth c H locs 0 0 Q (F0 mid 26 ls []) := by
      intro k
      induction k with
      | zero =>
        intro i26 w26 hi26 hR H locs ls hE hl
        have hie26 : i26 = 256 := by omega
        have hR : x_worst p1 Z = (x_worst_j104 Z w26 (if w26.1 = (-9 : Int32) then Z.1 2 0 else w26.2)) := hR
        refine lv_iload hx hb dX0_worst_26 (lv_at hl 5 rfl) ?_
        refine lv_sipush (v := 256) hx hb dX0_worst_28 rfl ?_
        refine n_geT (a := i26) (b := 256) (by omega) (by omega) hx hb dX0_worst_31 (tgt := 88) (by decide) ?_
        have hl := lv_sub (l' := [(0, .ref x), (1, .int p1), (2, .int (x_present Z)), (3, .int w26.1), (4, .int w26.2)]) hl [0, 1, 2, 3, 4] rfl
        refine lv_aload_n hx hb dX0_worst_88 rfl (lv_at hl 0 rfl) ?_
        refine lv_iload_n hx hb dX0_worst_89 rfl (lv_at hl 3 rfl) ?_
        refine lv_bipush (v := -9) hx hb dX0_worst_90 rfl ?_
        have hJ104 : ∀ (w104 : Int32) (hR : x_worst p1 Z = x_worst_j104 Z w26 w104), ∀ (H : Heap) (locs : List Loc) (ls : Array Slot), EW D A s.heap (WX x ar cs Z B Y) H locs → lv_has ls 7 [(3, .int w26.1)] → W p l e R s mid args below meth c H locs 0 0 Q (F0 mid 104 ls [.int w104, .ref x]) := by
          intro w104 hR H locs ls hE hl
          have hR : x_worst p1 Z = (w26.1, sI Z 2 0 w104) := hR
          refine xp_2 hx hb hts hown hK hE dX0_worst_104 (fun H locs hE => ?_)
          refine lv_iload_n hx hb dX0_worst_107 rfl (lv_at hl 0 rfl) ?_
          exact hret w26.1 (sI Z 2 0 w104) hR rfl hE (Nat.le_refl 0) (Nat.le_refl 0) dX0_worst_108
        refine lv_icmp_ne (tgt := 102) hx hb dX0_worst_92 (by decide) (fun c92 => ?_) (fun c92 => ?_)
        · have hR : x_worst p1 Z = x_worst_j104 Z w26 w26.2 := hR.trans (congrArg (fun z => x_worst_j104 Z w26 z) (if_neg c92))
          refine lv_iload hx hb dX0_worst_102 (lv_at hl 4 rfl) ?_
          exact hJ104 w26.2  hR _ _ _ hE (lv_sub hl [3] rfl)
        · have hR : x_worst p1 Z = x_worst_j104 Z w26 (Z.1 2 0) := hR.trans (congrArg (fun z => x_worst_j104 Z w26 z) (if_pos c92))
          refine lv_aload_n hx hb dX0_worst_95 rfl (lv_at hl 0 rfl) ?_
          refine xg_2 hx hb hts hown hK hE dX0_worst_96 ?_
          refine lv_goto (tgt := 104) hx hb dX0_worst_99 (by decide) ?_
          exact hJ104 (Z.1 2 0)  hR _ _ _ hE (lv_sub hl [3] rfl)
      | succ k ih26 =>
        intro i26 w26 hi26 hR H locs ls hE hl
        have hlt26 : i26 < 256 := by omega
        have hB26 : x_worst_b26 p1 Z i26 w26 = x_worst_j66 i26 w26 (if ((nI i26) &&& ((x_present Z) ^^^ (-1 : Int32))) = 0 then (if (x_bits (nI i26)) = p1 then (x_bits (x_goneWithout (nI i26) Z)) else (-9 : Int32)) else (-9 : Int32)) := rfl
        refine lv_iload hx hb dX0_worst_26 (lv_at hl 5 rfl) ?_
        refine lv_sipush (v := 256) hx hb dX0_worst_28 rfl ?_
        refine n_geF (a := i26) (b := 256) (by omega) (by omega) hx hb dX0_worst_31 (tgt := 88) (by decide) ?_
        refine lv_iload hx hb dX0_worst_34 (lv_at hl 5 rfl) ?_
        refine lv_iload_n hx hb dX0_worst_36 rfl (lv_at hl 2 rfl) ?_
        refine lv_iconst (v := -1) hx hb dX0_worst_37 rfl ?_
        refine lv_ixor hx hb dX0_worst_38 ?_
        refine lv_iand hx hb dX0_worst_39 ?_
        have hJ66 : ∀ (w66 : Int32) (hB26 : x_worst_b26 p1 Z i26 w26 = x_worst_j66 i26 w26 w66), ∀ (H : Heap) (locs : List Loc) (ls : Array Slot), EW D A s.heap (WX x ar cs Z B Y) H locs → lv_has ls 7 [(0, .ref x), (1, .int p1), (2, .int (x_present Z)), (3, .int w26.1), (4, .int w26.2), (5, .int (nI i26))] → W p l e R s mid args below meth c H locs 0 0 Q (F0 mid 66 ls [.int w66]) := by
          intro w66 hB26 H locs ls hE hl
          have hB26 : x_worst_b26 p1 Z i26 w26 = (x_worst_j82 (if w66 ≤ w26.2 then (w26.1, w26.2) else (nI i26, w66))) := hB26
          refine lv_istore (lv' := [(6, .int w66), (0, .ref x), (1, .int p1), (2, .int (x_present Z)), (3, .int w26.1), (4, .int w26.2), (5, .int (nI i26))]) hx hb dX0_worst_66 hl (by decide) rfl (fun ls hl => ?_)
          refine lv_iload hx hb dX0_worst_68 (lv_at hl 0 rfl) ?_
          refine lv_iload hx hb dX0_worst_70 (lv_at hl 5 rfl) ?_
          have hJ82 : ∀ (w82 : Int32 × Int32) (hB26 : x_worst_b26 p1 Z i26 w26 = x_worst_j82 w82), ∀ (H : Heap) (locs : List Loc) (ls : Array Slot), EW D A s.heap (WX x ar cs Z B Y) H locs → lv_has ls 7 [(0, .ref x), (1, .int p1), (2, .int (x_present Z)), (3, .int w82.1), (4, .int w82.2), (5, .int (nI i26))] → W p l e R s mid args below meth c H locs 0 0 Q (F0 mid 82 ls []) := by
            intro w82 hB26 H locs ls hE hl
            have hB26 : x_worst_b26 p1 Z i26 w26 = (w82.1, w82.2) := hB26
            refine n_inc (lv' := [(5, .int (nI (i26 + 1))), (0, .ref x), (1, .int p1), (2, .int (x_present Z)), (3, .int w82.1), (4, .int w82.2)]) hx hb dX0_worst_82 hl (k := 5) rfl (by decide) rfl (fun ls hl => ?_)
            refine lv_goto (tgt := 26) hx hb dX0_worst_85 (by decide) ?_
            exact ih26 (i26 + 1) (w82.1, w82.2) (by omega) (hR.trans (congrArg (fun z => x_worst_e26 Z (itR (x_worst_b26 p1 Z) (i26 + 1) k z)) hB26)) _ _ _ hE (lv_sub hl [1, 2, 3, 4, 5, 0] rfl)
          refine lv_icmp_le (tgt := 82) hx hb dX0_worst_72 (by decide) (fun c72 => ?_) (fun c72 => ?_)
          · have hB26 : x_worst_b26 p1 Z i26 w26 = x_worst_j82 (w26.1, w26.2) := hB26.trans (congrArg (fun z => x_worst_j82 z) (if_pos c72))
            exact hJ82 (w26.1, w26.2)  hB26 _ _ _ hE (lv_sub hl [1, 2, 3, 4, 5, 6] rfl)
          · have hB26 : x_worst_b26 p1 Z i26 w26 = x_worst_j82 (nI i26, w66) := hB26.trans (congrArg (fun z => x_worst_j82 z) (if_neg c72))
            refine lv_iload hx hb dX0_worst_75 (lv_at hl 6 rfl) ?_
            refine lv_istore_n (lv' := [(3, .int (nI i26)), (6, .int w66), (0, .ref x), (1, .int p1), (2, .int (x_present Z)), (4, .int w26.2), (5, .int (nI i26))]) hx hb dX0_worst_77 rfl hl (by decide) rfl (fun ls hl => ?_)
            refine lv_iload hx hb dX0_worst_78 (lv_at hl 1 rfl) ?_
            refine lv_istore (lv' := [(4, .int w66), (3, .int (nI i26)), (6, .int w66), (0, .ref x), (1, .int p1), (2, .int (x_present Z)), (5, .int (nI i26))]) hx hb dX0_worst_80 hl (by decide) rfl (fun ls hl => ?_)
            exact hJ82 (nI i26, w66)  hB26 _ _ _ hE (lv_sub hl [3, 4, 5, 1, 0, 6] rfl)
        refine lv_if_ne (tgt := 64) hx hb dX0_worst_40 (by decide) (fun c40 => ?_) (fun c40 => ?_)
        · have hB26 : x_worst_b26 p1 Z i26 w26 = x_worst_j66 i26 w26 (-9 : Int32) := hB26.trans (congrArg (fun z => x_worst_j66 i26 w26 z) (if_neg c40))
          refine lv_bipush (v := -9) hx hb dX0_worst_64 rfl ?_
          exact hJ66 (-9 : Int32)  hB26 _ _ _ hE (lv_sub hl [0, 1, 2, 3, 4, 5] rfl)
        · have hB26 : x_worst_b26 p1 Z i26 w26 = x_worst_j66 i26 w26 (if (x_bits (nI i26)) = p1 then (x_bits (x_goneWithout (nI i26) Z)) else (-9 : Int32)) := hB26.trans (congrArg (fun z => x_worst_j66 i26 w26 z) (if_pos c40))
          refine lv_iload hx hb dX0_worst_43 (lv_at hl 5 rfl) ?_
          refine call_x_bits hx hb hml hown hts hK hA hE hl.1 (nI i26) (lz (show 1 ≤ 3 by decide) hRf) (lz (show 22 ≤ 69 by decide) hRl) (Nat.le_of_ble_eq_true rfl) dX0_worst_45 ⟨Nat.zero_le _, Nat.zero_le _⟩ (fun H locs hE => ?_)
          refine lv_iload_n hx hb dX0_worst_48 rfl (lv_at hl 1 rfl) ?_
          refine lv_icmp_ne (tgt := 64) hx hb dX0_worst_49 (by decide) (fun c49 => ?_) (fun c49 => ?_)
          · have hB26 : x_worst_b26 p1 Z i26 w26 = x_worst_j66 i26 w26 (-9 : Int32) := hB26.trans (congrArg (fun z => x_worst_j66 i26 w26 z) (if_neg c49))
            refine lv_bipush (v := -9) hx hb dX0_worst_64 rfl ?_
            exact hJ66 (-9 : Int32)  hB26 _ _ _ hE (lv_sub hl [0, 1, 2, 3, 4, 5] rfl)
          · have hB26 : x_worst_b26 p1 Z i26 w26 = x_worst_j66 i26 w26 (x_bits (x_goneWithout (nI i26) Z)) := hB26.trans (congrArg (fun z => x_worst_j66 i26 w26 z) (if_pos c49))
            refine lv_aload_n hx hb dX0_worst_52 rfl (lv_at hl 0 rfl) ?_
            refine lv_iload hx hb dX0_worst_53 (lv_at hl 5 rfl) ?_
            refine call_x_goneWithout hx hb hml hown hts hK hA hE hl.1 (nI i26) (lz (show 3 ≤ 3 by decide) hRf) (lz (show 69 ≤ 69 by decide) hRl) (Nat.le_of_ble_eq_true rfl) dX0_worst_55 ⟨Nat.zero_le _, Nat.zero_le _⟩ (fun H locs hE => ?_)
            refine call_x_bits hx hb hml hown hts hK hA hE hl.1 (x_goneWithout (nI i26) Z) (lz (show 1 ≤ 3 by decide) hRf) (lz (show 22 ≤ 69 by decide) hRl) (Nat.le_of_ble_eq_true rfl) dX0_worst_58 ⟨Nat.zero_le _, Nat.zero_le _⟩ (fun H locs hE => ?_)
            refine lv_goto (tgt := 66) hx hb dX0_worst_61 (by decide) ?_
            exact hJ66 (x_bits (x_goneWithout (nI i26) Z))  hB26 _ _ _ hE (lv_sub hl [0, 1, 2, 3, 4, 5] rfl)
    exact hL26 256 0 ((-9 : Int32), (-9 : Int32)) (by omega) hR _ _ _ hE (lv_sub hl [4, 5, 3, 2, 1, 0] rfl)
  · have hR : x_worst p1 Z = ((-1 : Int32), Z) := hR.trans (congrArg (fun z => z) (if_pos c6))
    refine lv_iconst (v := -1) hx hb dX0_worst_9 rfl ?_
    exact hret (-1 : Int32) Z hR rfl hE (Nat.le_refl 0) (Nat.le_refl 0) dX0_worst_10
def x_needs_k34 (Z : ZT) : Int32 × ZT := (x_met 1 Z)
def x_needs (p1 : Int32) (p2 : Int32) (Z : ZT) : Int32 × ZT := (if (x_isBeing p1) = 0 then ((-1 : Int32), Z) else (if (x_isBeing p2) = 0 then ((-1 : Int32), Z) else (if Z.1 30 (ix p1) = 0 then x_needs_k34 Z else (if Z.1 30 (ix p2) = 0 then x_needs_k34 Z else (if (ix p1) = (ix p2) then ((0 : Int32), Z) else (if (((x_goneWithout ((1 : Int32) <<< ((nI (ix p2)) &&& 31)) Z) >>> ((nI (ix p1)) &&& 31)) &&& (1 : Int32)) = (1 : Int32) then ((1 : Int32), Z) else ((0 : Int32), Z)))))))
set_option maxHeartbeats 4000000 in
set_option maxRecDepth 100000 in
theorem met_x_needs (l : Launch) (D : va_G) (cs : Nat → ClassId) (x : Nat) (ar : Nat → Nat) (B : BT) (Y : va_W) (Z : ZT) (sz : Nat) (p1 : Int32) (p2 : Int32) : Met l yX0_needs (ws_ yX0_needs cX0_needs 3 (some .int)) ({ frames := 3, cells := 0, slots := 0, locals := 69 }) (va_Pc [.ref x, .int p1, .int p2] (wSt D cs (WX x ar cs Z B Y) sz)) (cQi (fun (v : Int32) (u : ZT) => x_needs p1 p2 Z = (v, u)) D (fun u => (WX x ar cs u B Y)) (WX x ar cs Z B Y) sz) 0 0 (va_A (WX x ar cs Z B Y) sz) := by
  refine gStart_i (C := RX0) rfl rfl (Nat.le_of_ble_eq_true rfl) ?_
  intro p e s mid args below meth c R Q A hx hb hml hown hts hK hA hRf hRl hRc hRs hret hE ls hl
  have hRf : 3 ≤ R.frames := hRf
  have hRl : 69 ≤ R.locals := hRl
  have hl : lv_has ls 3 [(0, .ref x), (1, .int p1), (2, .int p2)] := hl
  have hR : x_needs p1 p2 Z = (if (x_isBeing p1) = 0 then ((-1 : Int32), Z) else (if (x_isBeing p2) = 0 then ((-1 : Int32), Z) else (if Z.1 30 (ix p1) = 0 then x_needs_k34 Z else (if Z.1 30 (ix p2) = 0 then x_needs_k34 Z else (if (ix p1) = (ix p2) then ((0 : Int32), Z) else (if (((x_goneWithout ((1 : Int32) <<< ((nI (ix p2)) &&& 31)) Z) >>> ((nI (ix p1)) &&& 31)) &&& (1 : Int32)) = (1 : Int32) then ((1 : Int32), Z) else ((0 : Int32), Z))))))) := rfl
  refine lv_iload_n hx hb dX0_needs_0 rfl (lv_at hl 1 rfl) ?_
  refine call_x_isBeing hx hb hml hown hts hK hA hE hl.1 p1 (lz (show 2 ≤ 3 by decide) hRf) (lz (show 42 ≤ 69 by decide) hRl) (Nat.le_of_ble_eq_true rfl) dX0_needs_1 ⟨Nat.zero_le _, Nat.zero_le _⟩ (fun H locs hE => ?_)
  refine lv_if_eq (tgt := 14) hx hb dX0_needs_4 (by decide) (fun c4 => ?_) (fun c4 => ?_)
  · have hR : x_needs p1 p2 Z = ((-1 : Int32), Z) := hR.trans (congrArg (fun z => z) (if_pos c4))
    refine lv_iconst (v := -1) hx hb dX0_needs_14 rfl ?_
    exact hret (-1 : Int32) Z hR rfl hE (Nat.le_refl 0) (Nat.le_refl 0) dX0_needs_15
  · have hR : x_needs p1 p2 Z = (if (x_isBeing p2) = 0 then ((-1 : Int32), Z) else (if Z.1 30 (ix p1) = 0 then x_needs_k34 Z else (if Z.1 30 (ix p2) = 0 then x_needs_k34 Z else (if (ix p1) = (ix p2) then ((0 : Int32), Z) else (if (((x_goneWithout ((1 : Int32) <<< ((nI (ix p2)) &&& 31)) Z) >>> ((nI (ix p1)) &&& 31)) &&& (1 : Int32)) = (1 : Int32) then ((1 : Int32), Z) else ((0 : Int32), Z)))))) := hR.trans (congrArg (fun z => z) (if_neg c4))
    refine lv_iload_n hx hb dX0_needs_7 rfl (lv_at hl 2 rfl) ?_
    refine call_x_isBeing hx hb hml hown hts hK hA hE hl.1 p2 (lz (show 2 ≤ 3 by decide) hRf) (lz (show 42 ≤ 69 by decide) hRl) (Nat.le_of_ble_eq_true rfl) dX0_needs_8 ⟨Nat.zero_le _, Nat.zero_le _⟩ (fun H locs hE => ?_)
    refine lv_if_ne (tgt := 16) hx hb dX0_needs_11 (by decide) (fun c11 => ?_) (fun c11 => ?_)
    · have hR : x_needs p1 p2 Z = (if Z.1 30 (ix p1) = 0 then x_needs_k34 Z else (if Z.1 30 (ix p2) = 0 then x_needs_k34 Z else (if (ix p1) = (ix p2) then ((0 : Int32), Z) else (if (((x_goneWithout ((1 : Int32) <<< ((nI (ix p2)) &&& 31)) Z) >>> ((nI (ix p1)) &&& 31)) &&& (1 : Int32)) = (1 : Int32) then ((1 : Int32), Z) else ((0 : Int32), Z))))) := hR.trans (congrArg (fun z => z) (if_neg c11))
      have hnp1 := vp_ix (x := p1) (N := 8) (xBe_vp c4) (by decide)
      have hbnp1 := hnp1.2
      have hnp2 := vp_ix (x := p2) (N := 8) (xBe_vp c11) (by decide)
      have hbnp2 := hnp2.2
      refine lv_aload_n hx hb dX0_needs_16 rfl (lv_at hl 0 rfl) ?_
      refine xg_10 hx hb hts hown hK hE dX0_needs_17 ?_
      refine lv_iload_n hx hb dX0_needs_20 rfl (lv_at hl 1 rfl) ?_
      refine top_nat hnp1.1 ?_
      refine xa_10 (n := (ix p1)) (by omega) hx hb hK hE dX0_needs_21 ?_
      have hJ34 : ∀ (hR : x_needs p1 p2 Z = x_needs_k34 Z), ∀ (H : Heap) (locs : List Loc) (ls : Array Slot), EW D A s.heap (WX x ar cs Z B Y) H locs → lv_has ls 3 [(0, .ref x)] → W p l e R s mid args below meth c H locs 0 0 Q (F0 mid 34 ls []) := by
        intro hR H locs ls hE hl
        have hR : x_needs p1 p2 Z = (x_met 1 Z) := hR
        refine lv_aload_n hx hb dX0_needs_34 rfl (lv_at hl 0 rfl) ?_
        refine lv_iconst (v := 1) hx hb dX0_needs_35 rfl ?_
        refine call_x_met hx hb hml hown hts hK hA hE hl.1 1 (by omega) (lz (show 1 ≤ 3 by decide) hRf) (lz (show 21 ≤ 69 by decide) hRl) (Nat.le_of_ble_eq_true rfl) dX0_needs_36 ⟨Nat.zero_le _, Nat.zero_le _⟩ (fun H locs hE => ?_)
        exact hret ((x_met 1 Z).1) ((x_met 1 Z).2) hR rfl hE (Nat.le_refl 0) (Nat.le_refl 0) dX0_needs_39
      refine xnn_be (b := (ix p1)) (tgt := 34) hx hb dX0_needs_22 (by decide) (fun c22 => ?_) (fun c22 => ?_)
      · have hR : x_needs p1 p2 Z = (x_needs_k34 Z) := hR.trans (congrArg (fun z => z) (if_pos c22))
        exact hJ34  hR _ _ _ hE (lv_sub hl [0] rfl)
      · have hR : x_needs p1 p2 Z = (if Z.1 30 (ix p2) = 0 then x_needs_k34 Z else (if (ix p1) = (ix p2) then ((0 : Int32), Z) else (if (((x_goneWithout ((1 : Int32) <<< ((nI (ix p2)) &&& 31)) Z) >>> ((nI (ix p1)) &&& 31)) &&& (1 : Int32)) = (1 : Int32) then ((1 : Int32), Z) else ((0 : Int32), Z)))) := hR.trans (congrArg (fun z => z) (if_neg c22))
        refine lv_aload_n hx hb dX0_needs_25 rfl (lv_at hl 0 rfl) ?_
        refine xg_10 hx hb hts hown hK hE dX0_needs_26 ?_
        refine lv_iload_n hx hb dX0_needs_29 rfl (lv_at hl 2 rfl) ?_
        refine top_nat hnp2.1 ?_
        refine xa_10 (n := (ix p2)) (by omega) hx hb hK hE dX0_needs_30 ?_
        refine xnw_be (b := (ix p2)) (tgt := 40) hx hb dX0_needs_31 (by decide) (fun c31 => ?_) (fun c31 => ?_)
        · have hR : x_needs p1 p2 Z = (if (ix p1) = (ix p2) then ((0 : Int32), Z) else (if (((x_goneWithout ((1 : Int32) <<< ((nI (ix p2)) &&& 31)) Z) >>> ((nI (ix p1)) &&& 31)) &&& (1 : Int32)) = (1 : Int32) then ((1 : Int32), Z) else ((0 : Int32), Z))) := hR.trans (congrArg (fun z => z) (if_neg c31))
          refine lv_iload_n hx hb dX0_needs_40 rfl (lv_at hl 1 rfl) ?_
          refine top_nat hnp1.1 ?_
          refine lv_iload_n hx hb dX0_needs_41 rfl (lv_at hl 2 rfl) ?_
          refine top_nat hnp2.1 ?_
          refine n_icmp_eq (a := (ix p1)) (b := (ix p2)) (tgt := 64) (by omega) (by omega) hx hb dX0_needs_42 (by decide) (fun c42 => ?_) (fun c42 => ?_)
          · have hR : x_needs p1 p2 Z = ((0 : Int32), Z) := hR.trans (congrArg (fun z => z) (if_pos c42))
            refine lv_iconst (v := 0) hx hb dX0_needs_64 rfl ?_
            exact hret (0 : Int32) Z hR rfl hE (Nat.le_refl 0) (Nat.le_refl 0) dX0_needs_65
          · have hR : x_needs p1 p2 Z = (if (((x_goneWithout ((1 : Int32) <<< ((nI (ix p2)) &&& 31)) Z) >>> ((nI (ix p1)) &&& 31)) &&& (1 : Int32)) = (1 : Int32) then ((1 : Int32), Z) else ((0 : Int32), Z)) := hR.trans (congrArg (fun z => z) (if_neg c42))
            refine lv_aload_n hx hb dX0_needs_45 rfl (lv_at hl 0 rfl) ?_
            refine lv_iconst (v := 1) hx hb dX0_needs_46 rfl ?_
            refine lv_iload_n hx hb dX0_needs_47 rfl (lv_at hl 2 rfl) ?_
            refine top_nat hnp2.1 ?_
            refine lv_ishl hx hb dX0_needs_48 ?_
            refine call_x_goneWithout hx hb hml hown hts hK hA hE hl.1 ((1 : Int32) <<< ((nI (ix p2)) &&& 31)) (lz (show 3 ≤ 3 by decide) hRf) (lz (show 69 ≤ 69 by decide) hRl) (Nat.le_of_ble_eq_true rfl) dX0_needs_49 ⟨Nat.zero_le _, Nat.zero_le _⟩ (fun H locs hE => ?_)
            refine lv_iload_n hx hb dX0_needs_52 rfl (lv_at hl 1 rfl) ?_
            refine top_nat hnp1.1 ?_
            refine lv_ishr hx hb dX0_needs_53 ?_
            refine lv_iconst (v := 1) hx hb dX0_needs_54 rfl ?_
            refine lv_iand hx hb dX0_needs_55 ?_
            refine lv_iconst (v := 1) hx hb dX0_needs_56 rfl ?_
            refine lv_icmp_ne (tgt := 64) hx hb dX0_needs_57 (by decide) (fun c57 => ?_) (fun c57 => ?_)
            · have hR : x_needs p1 p2 Z = ((0 : Int32), Z) := hR.trans (congrArg (fun z => z) (if_neg c57))
              refine lv_iconst (v := 0) hx hb dX0_needs_64 rfl ?_
              exact hret (0 : Int32) Z hR rfl hE (Nat.le_refl 0) (Nat.le_refl 0) dX0_needs_65
            · have hR : x_needs p1 p2 Z = ((1 : Int32), Z) := hR.trans (congrArg (fun z => z) (if_pos c57))
              refine lv_iconst (v := 1) hx hb dX0_needs_60 rfl ?_
              refine lv_goto (tgt := 65) hx hb dX0_needs_61 (by decide) ?_
              exact hret (1 : Int32) Z hR rfl hE (Nat.le_refl 0) (Nat.le_refl 0) dX0_needs_65
        · have hR : x_needs p1 p2 Z = (x_needs_k34 Z) := hR.trans (congrArg (fun z => z) (if_pos c31))
          exact hJ34  hR _ _ _ hE (lv_sub hl [0] rfl)
    · have hR : x_needs p1 p2 Z = ((-1 : Int32), Z) := hR.trans (congrArg (fun z => z) (if_pos c11))
      refine lv_iconst (v := -1) hx hb dX0_needs_14 rfl ?_
      exact hret (-1 : Int32) Z hR rfl hE (Nat.le_refl 0) (Nat.le_refl 0) dX0_needs_15
def x_rung_j64 (w28 : Int32) (w64 : Int32) : Int32 := (w28 ||| w64)
def x_rung_b28 (Z : ZT) (i28 : Nat) (w28 : Int32) : Int32 := x_rung_j64 w28 (if Z.1 30 i28 = 0 then (0 : Int32) else (if (v_is i28 (2 : Int32) Z) = 0 then ((1 : Int32) <<< ((nI i28) &&& 31)) else (0 : Int32)))
def x_rung_j125 (w97 : Int32) (w125 : Int32) : Int32 := (w97 ||| w125)
def x_rung_b97 (Z : ZT) (w74 : Int32 × Nat) (i97 : Nat) (w97 : Int32) : Int32 := x_rung_j125 w97 (if ((x_food i97 Z) &&& w74.1) = 0 then (0 : Int32) else ((1 : Int32) <<< ((nI i97) &&& 31)))
def x_rung_e97 (w74 : Int32 × Nat) (w97 : Int32) : (Int32 × ZT) ⊕ (Bool × (Int32 × Nat)) := (.inr (true, (w97, (w74.2 + 1))))
def x_rung_b74 (p1 : Int32) (Z : ZT) (w74 : Int32 × Nat) : (Int32 × ZT) ⊕ (Bool × (Int32 × Nat)) := (if 8 ≤ w74.2 then (.inr (false, (w74.1, w74.2))) else (if ((w74.1 >>> ((nI (ix p1)) &&& 31)) &&& (1 : Int32)) = (1 : Int32) then (.inl (nI w74.2, Z)) else x_rung_e97 w74 (itR (x_rung_b97 Z w74) 0 8 w74.1)))
def x_rung_e74 (Z : ZT) (w74 : Int32 × Nat) : Int32 × ZT := ((-9 : Int32), Z)
def x_rung_e28 (p1 : Int32) (Z : ZT) (w28 : Int32) : Int32 × ZT := wrR (x_rung_b74 p1 Z) (x_rung_e74 Z) 9 (w28, 0)
def x_rung (p1 : Int32) (Z : ZT) : Int32 × ZT := (if (x_isBeing p1) = 0 then ((-1 : Int32), Z) else (if Z.1 30 (ix p1) = 0 then (x_met 1 Z) else x_rung_e28 p1 Z (itR (x_rung_b28 Z) 0 8 (0 : Int32))))
set_option maxHeartbeats 4000000 in
set_option maxRecDepth 100000 in
theorem met_x_rung (l : Launch) (D : va_G) (cs : Nat → ClassId) (x : Nat) (ar : Nat → Nat) (B : BT) (Y : va_W) (Z : ZT) (sz : Nat) (p1 : Int32) : Met l yX0_rung (ws_ yX0_rung cX0_rung 6 (some .int)) ({ frames := 3, cells := 0, slots := 0, locals := 63 }) (va_Pc [.ref x, .int p1] (wSt D cs (WX x ar cs Z B Y) sz)) (cQi (fun (v : Int32) (u : ZT) => x_rung p1 Z = (v, u)) D (fun u => (WX x ar cs u B Y)) (WX x ar cs Z B Y) sz) 0 0 (va_A (WX x ar cs Z B Y) sz) := by
  refine gStart_i (C := RX0) rfl rfl (Nat.le_of_ble_eq_true rfl) ?_
  intro p e s mid args below meth c R Q A hx hb hml hown hts hK hA hRf hRl hRc hRs hret hE ls hl
  have hRf : 3 ≤ R.frames := hRf
  have hRl : 63 ≤ R.locals := hRl
  have hl : lv_has ls 6 [(0, .ref x), (1, .int p1)] := hl
  have hR : x_rung p1 Z = (if (x_isBeing p1) = 0 then ((-1 : Int32), Z) else (if Z.1 30 (ix p1) = 0 then (x_met 1 Z) else x_rung_e28 p1 Z (itR (x_rung_b28 Z) 0 8 (0 : Int32)))) := rfl
  refine lv_iload_n hx hb dX0_rung_0 rfl (lv_at hl 1 rfl) ?_
  refine call_x_isBeing hx hb hml hown hts hK hA hE hl.1 p1 (lz (show 2 ≤ 3 by decide) hRf) (lz (show 42 ≤ 63 by decide) hRl) (Nat.le_of_ble_eq_true rfl) dX0_rung_1 ⟨Nat.zero_le _, Nat.zero_le _⟩ (fun H locs hE => ?_)
  refine lv_if_ne (tgt := 9) hx hb dX0_rung_4 (by decide) (fun c4 => ?_) (fun c4 => ?_)
  · have hR : x_rung p1 Z = (if Z.1 30 (ix p1) = 0 then (x_met 1 Z) else x_rung_e28 p1 Z (itR (x_rung_b28 Z) 0 8 (0 : Int32))) := hR.trans (congrArg (fun z => z) (if_neg c4))
    have hnp1 := vp_ix (x := p1) (N := 8) (xBe_vp c4) (by decide)
    have hbnp1 := hnp1.2
    refine lv_aload_n hx hb dX0_rung_9 rfl (lv_at hl 0 rfl) ?_
    refine xg_10 hx hb hts hown hK hE dX0_rung_10 ?_
    refine lv_iload_n hx hb dX0_rung_13 rfl (lv_at hl 1 rfl) ?_
    refine top_nat hnp1.1 ?_
    refine xa_10 (n := (ix p1)) (by omega) hx hb hK hE dX0_rung_14 ?_
    refine xnw_be (b := (ix p1)) (tgt := 24) hx hb dX0_rung_15 (by decide) (fun c15 => ?_) (fun c15 => ?_)
    · have hR : x_rung p1 Z = (x_rung_e28 p1 Z (itR (x_rung_b28 Z) 0 8 (0 : Int32))) := hR.trans (congrArg (fun z => z) (if_neg c15))
      refine lv_iconst (v := 0) hx hb dX0_rung_24 rfl ?_
      refine lv_istore_n (lv' := [(2, .int (0 : Int32)), (0, .ref x), (1, .int p1)]) hx hb dX0_rung_25 rfl hl (by decide) rfl (fun ls hl => ?_)
      refine lv_iconst (v := 0) hx hb dX0_rung_26 rfl ?_
      refine lv_istore_n (lv' := [(3, .int (0 : Int32)), (2, .int (0 : Int32)), (0, .ref x), (1, .int p1)]) hx hb dX0_rung_27 rfl hl (by decide) rfl (fun ls hl => ?_)
      have hL28 : ∀ (k i28 : Nat) (w28 : Int32) (hi28 : i28 + k = 8) (hR : x_rung p1 Z = x_rung_e28 p1 Z (itR (x_rung_b28 Z) i28 k w28)), ∀ (H : Heap) (locs : List Loc) (ls : Array Slot), EW D A s.heap (WX x ar cs Z B Y) H locs → lv_has ls 6 [(0, .ref x), (1, .int p1), (2, .int w28), (3, .int (nI i28))] → W p l e R s mid args below meth c H locs 0 0 Q (F0 mid 28 ls []) := by
        intro k
        induction k with
        | zero =>
          intro i28 w28 hi28 hR H locs ls hE hl
          have hie28 : i28 = 8 := by omega
          have hR : x_rung p1 Z = (wrR (x_rung_b74 p1 Z) (x_rung_e74 Z) 9 (w28, 0)) := hR
          refine lv_iload_n hx hb dX0_rung_28 rfl (lv_at hl 3 rfl) ?_
          refine lv_bipush (v := 8) hx hb dX0_rung_29 rfl ?_
          refine n_geT (a := i28) (b := 8) (by omega) (by omega) hx hb dX0_rung_31 (tgt := 72) (by decide) ?_
          have hl := lv_sub (l' := [(0, .ref x), (1, .int p1), (2, .int w28)]) hl [0, 1, 2] rfl
          refine lv_iconst (v := 0) hx hb dX0_rung_72 rfl ?_
          refine lv_istore_n (lv' := [(3, .int (0 : Int32)), (0, .ref x), (1, .int p1), (2, .int w28)]) hx hb dX0_rung_73 rfl hl (by decide) rfl (fun ls hl => ?_)
          have hX74 : ∀ (w74 : Int32 × Nat) (hb74 : w74.2 ≤ 8) (hR : x_rung p1 Z = x_rung_e74 Z w74), ∀ (H : Heap) (locs : List Loc) (ls : Array Slot), EW D A s.heap (WX x ar cs Z B Y) H locs → lv_has ls 6 [] → W p l e R s mid args below meth c H locs 0 0 Q (F0 mid 143 ls []) := by
            intro w74 hb74 hR H locs ls hE hl
            have hR : x_rung p1 Z = ((-9 : Int32), Z) := hR
            refine lv_bipush (v := -9) hx hb dX0_rung_143 rfl ?_
            exact hret (-9 : Int32) Z hR rfl hE (Nat.le_refl 0) (Nat.le_refl 0) dX0_rung_145
          have hL74 : ∀ (n : Nat) (w74 : Int32 × Nat) (hm74 : 8 - w74.2 < n) (hb74 : w74.2 ≤ 8) (hR : x_rung p1 Z = wrR (x_rung_b74 p1 Z) (x_rung_e74 Z) n w74), ∀ (H : Heap) (locs : List Loc) (ls : Array Slot), EW D A s.heap (WX x ar cs Z B Y) H locs → lv_has ls 6 [(0, .ref x), (1, .int p1), (2, .int w74.1), (3, .int (nI w74.2))] → W p l e R s mid args below meth c H locs 0 0 Q (F0 mid 74 ls []) := by
            intro n
            induction n with
            | zero =>
              intro w74 hm74
              exact absurd hm74 (Nat.not_lt_zero _)
            | succ n ih74 =>
              intro w74 hm74 hb74 hR H locs ls hE hl
              have hB74 : x_rung_b74 p1 Z w74 = (if 8 ≤ w74.2 then (.inr (false, (w74.1, w74.2))) else (if ((w74.1 >>> ((nI (ix p1)) &&& 31)) &&& (1 : Int32)) = (1 : Int32) then (.inl (nI w74.2, Z)) else x_rung_e97 w74 (itR (x_rung_b97 Z w74) 0 8 w74.1))) := rfl
              refine lv_iload_n hx hb dX0_rung_74 rfl (lv_at hl 3 rfl) ?_
              refine lv_bipush (v := 8) hx hb dX0_rung_75 rfl ?_
              refine n_icmp_ge (a := w74.2) (b := 8) (tgt := 143) (by omega) (by omega) hx hb dX0_rung_77 (by decide) (fun c77 => ?_) (fun c77 => ?_)
              · have hB74 : x_rung_b74 p1 Z w74 = (.inr (false, (w74.1, w74.2))) := hB74.trans (congrArg (fun z => z) (if_pos c77))
                exact hX74 (w74.1, w74.2) (by exact hb74) (hR.trans (congrArg (fun z => z) (wr_f hB74))) _ _ _ hE (lv_sub hl [] rfl)
              · have hB74 : x_rung_b74 p1 Z w74 = (if ((w74.1 >>> ((nI (ix p1)) &&& 31)) &&& (1 : Int32)) = (1 : Int32) then (.inl (nI w74.2, Z)) else x_rung_e97 w74 (itR (x_rung_b97 Z w74) 0 8 w74.1)) := hB74.trans (congrArg (fun z => z) (if_neg c77))
                refine lv_iload_n hx hb dX0_rung_80 rfl (lv_at hl 2 rfl) ?_
                refine lv_iload_n hx hb dX0_rung_81 rfl (lv_at hl 1 rfl) ?_
                refine top_nat hnp1.1 ?_
                refine lv_ishr hx hb dX0_rung_82 ?_
                refine lv_iconst (v := 1) hx hb dX0_rung_83 rfl ?_
                refine lv_iand hx hb dX0_rung_84 ?_
                refine lv_iconst (v := 1) hx hb dX0_rung_85 rfl ?_
                refine lv_icmp_ne (tgt := 91) hx hb dX0_rung_86 (by decide) (fun c86 => ?_) (fun c86 => ?_)
                · have hB74 : x_rung_b74 p1 Z w74 = (x_rung_e97 w74 (itR (x_rung_b97 Z w74) 0 8 w74.1)) := hB74.trans (congrArg (fun z => z) (if_neg c86))
                  refine lv_iload_n hx hb dX0_rung_91 rfl (lv_at hl 2 rfl) ?_
                  refine lv_istore (lv' := [(4, .int w74.1), (0, .ref x), (1, .int p1), (2, .int w74.1), (3, .int (nI w74.2))]) hx hb dX0_rung_92 hl (by decide) rfl (fun ls hl => ?_)
                  refine lv_iconst (v := 0) hx hb dX0_rung_94 rfl ?_
                  refine lv_istore (lv' := [(5, .int (0 : Int32)), (4, .int w74.1), (0, .ref x), (1, .int p1), (2, .int w74.1), (3, .int (nI w74.2))]) hx hb dX0_rung_95 hl (by decide) rfl (fun ls hl => ?_)
                  have hL97 : ∀ (k i97 : Nat) (w97 : Int32) (hi97 : i97 + k = 8) (hB74 : x_rung_b74 p1 Z w74 = x_rung_e97 w74 (itR (x_rung_b97 Z w74) i97 k w97)), ∀ (H : Heap) (locs : List Loc) (ls : Array Slot), EW D A s.heap (WX x ar cs Z B Y) H locs → lv_has ls 6 [(0, .ref x), (1, .int p1), (2, .int w74.1), (3, .int (nI w74.2)), (4, .int w97), (5, .int (nI i97))] → W p l e R s mid args below meth c H locs 0 0 Q (F0 mid 97 ls []) := by
                    intro k
                    induction k with
                    | zero =>
                      intro i97 w97 hi97 hB74 H locs ls hE hl
                      have hie97 : i97 = 8 := by omega
                      have hB74 : x_rung_b74 p1 Z w74 = (.inr (true, (w97, (w74.2 + 1)))) := hB74
                      refine lv_iload hx hb dX0_rung_97 (lv_at hl 5 rfl) ?_
                      refine lv_bipush (v := 8) hx hb dX0_rung_99 rfl ?_
                      refine n_geT (a := i97) (b := 8) (by omega) (by omega) hx hb dX0_rung_101 (tgt := 134) (by decide) ?_
                      have hl := lv_sub (l' := [(0, .ref x), (1, .int p1), (2, .int w74.1), (3, .int (nI w74.2)), (4, .int w97)]) hl [0, 1, 2, 3, 4] rfl
                      refine lv_iload hx hb dX0_rung_134 (lv_at hl 4 rfl) ?_
                      refine lv_istore_n (lv' := [(2, .int w97), (0, .ref x), (1, .int p1), (3, .int (nI w74.2)), (4, .int w97)]) hx hb dX0_rung_136 rfl hl (by decide) rfl (fun ls hl => ?_)
                      refine n_inc (lv' := [(3, .int (nI (w74.2 + 1))), (2, .int w97), (0, .ref x), (1, .int p1), (4, .int w97)]) hx hb dX0_rung_137 hl (k := 3) rfl (by decide) rfl (fun ls hl => ?_)
                      refine lv_goto (tgt := 74) hx hb dX0_rung_140 (by decide) ?_
                      exact ih74 (w97, (w74.2 + 1)) (by show 8 - (w74.2 + 1) < n; omega) (by show w74.2 + 1 ≤ 8; omega) (hR.trans (congrArg (fun z => z) (wr_t hB74))) _ _ _ hE (lv_sub hl [2, 3, 1, 0] rfl)
                    | succ k ih97 =>
                      intro i97 w97 hi97 hB74 H locs ls hE hl
                      have hlt97 : i97 < 8 := by omega
                      have hB97 : x_rung_b97 Z w74 i97 w97 = x_rung_j125 w97 (if ((x_food i97 Z) &&& w74.1) = 0 then (0 : Int32) else ((1 : Int32) <<< ((nI i97) &&& 31))) := rfl
                      refine lv_iload hx hb dX0_rung_97 (lv_at hl 5 rfl) ?_
                      refine lv_bipush (v := 8) hx hb dX0_rung_99 rfl ?_
                      refine n_geF (a := i97) (b := 8) (by omega) (by omega) hx hb dX0_rung_101 (tgt := 134) (by decide) ?_
                      refine lv_iload hx hb dX0_rung_104 (lv_at hl 4 rfl) ?_
                      refine lv_aload_n hx hb dX0_rung_106 rfl (lv_at hl 0 rfl) ?_
                      refine lv_iload hx hb dX0_rung_107 (lv_at hl 5 rfl) ?_
                      refine call_x_food hx hb hml hown hts hK hA hE hl.1 i97 (by omega) (lz (show 2 ≤ 3 by decide) hRf) (lz (show 44 ≤ 63 by decide) hRl) (Nat.le_of_ble_eq_true rfl) dX0_rung_109 ⟨Nat.zero_le _, Nat.zero_le _⟩ (fun H locs hE => ?_)
                      refine lv_iload_n hx hb dX0_rung_112 rfl (lv_at hl 2 rfl) ?_
                      refine lv_iand hx hb dX0_rung_113 ?_
                      have hJ125 : ∀ (w125 : Int32) (hB97 : x_rung_b97 Z w74 i97 w97 = x_rung_j125 w97 w125), ∀ (H : Heap) (locs : List Loc) (ls : Array Slot), EW D A s.heap (WX x ar cs Z B Y) H locs → lv_has ls 6 [(0, .ref x), (1, .int p1), (2, .int w74.1), (3, .int (nI w74.2)), (5, .int (nI i97))] → W p l e R s mid args below meth c H locs 0 0 Q (F0 mid 125 ls [.int w125, .int w97]) := by
                        intro w125 hB97 H locs ls hE hl
                        have hB97 : x_rung_b97 Z w74 i97 w97 = (w97 ||| w125) := hB97
                        refine lv_ior hx hb dX0_rung_125 ?_
                        refine lv_istore (lv' := [(4, .int (w97 ||| w125)), (0, .ref x), (1, .int p1), (2, .int w74.1), (3, .int (nI w74.2)), (5, .int (nI i97))]) hx hb dX0_rung_126 hl (by decide) rfl (fun ls hl => ?_)
                        refine n_inc (lv' := [(5, .int (nI (i97 + 1))), (4, .int (w97 ||| w125)), (0, .ref x), (1, .int p1), (2, .int w74.1), (3, .int (nI w74.2))]) hx hb dX0_rung_128 hl (k := 5) rfl (by decide) rfl (fun ls hl => ?_)
                        refine lv_goto (tgt := 97) hx hb dX0_rung_131 (by decide) ?_
                        exact ih97 (i97 + 1) (w97 ||| w125) (by omega) (hB74.trans (congrArg (fun z => x_rung_e97 w74 (itR (x_rung_b97 Z w74) (i97 + 1) k z)) hB97)) _ _ _ hE (lv_sub hl [2, 3, 4, 5, 1, 0] rfl)
                      refine lv_if_eq (tgt := 124) hx hb dX0_rung_114 (by decide) (fun c114 => ?_) (fun c114 => ?_)
                      · have hB97 : x_rung_b97 Z w74 i97 w97 = x_rung_j125 w97 (0 : Int32) := hB97.trans (congrArg (fun z => x_rung_j125 w97 z) (if_pos c114))
                        refine lv_iconst (v := 0) hx hb dX0_rung_124 rfl ?_
                        exact hJ125 (0 : Int32)  hB97 _ _ _ hE (lv_sub hl [0, 1, 2, 3, 5] rfl)
                      · have hB97 : x_rung_b97 Z w74 i97 w97 = x_rung_j125 w97 ((1 : Int32) <<< ((nI i97) &&& 31)) := hB97.trans (congrArg (fun z => x_rung_j125 w97 z) (if_neg c114))
                        refine lv_iconst (v := 1) hx hb dX0_rung_117 rfl ?_
                        refine lv_iload hx hb dX0_rung_118 (lv_at hl 5 rfl) ?_
                        refine lv_ishl hx hb dX0_rung_120 ?_
                        refine lv_goto (tgt := 125) hx hb dX0_rung_121 (by decide) ?_
                        exact hJ125 ((1 : Int32) <<< ((nI i97) &&& 31))  hB97 _ _ _ hE (lv_sub hl [0, 1, 2, 3, 5] rfl)
                  exact hL97 8 0 w74.1 (by omega) hB74 _ _ _ hE (lv_sub hl [2, 3, 4, 5, 1, 0] rfl)
                · have hB74 : x_rung_b74 p1 Z w74 = (.inl (nI w74.2, Z)) := hB74.trans (congrArg (fun z => z) (if_pos c86))
                  refine lv_iload_n hx hb dX0_rung_89 rfl (lv_at hl 3 rfl) ?_
                  have hR : x_rung p1 Z = (nI w74.2, Z) := hR.trans (congrArg (fun z => z) (wr_r hB74))
                  exact hret (nI w74.2) Z hR rfl hE (Nat.le_refl 0) (Nat.le_refl 0) dX0_rung_90
          exact hL74 9 (w28, 0) (by show 8 - 0 < 9; decide) (by exact Nat.zero_le _) hR _ _ _ hE (lv_sub hl [1, 2, 3, 0] rfl)
        | succ k ih28 =>
          intro i28 w28 hi28 hR H locs ls hE hl
          have hlt28 : i28 < 8 := by omega
          have hB28 : x_rung_b28 Z i28 w28 = x_rung_j64 w28 (if Z.1 30 i28 = 0 then (0 : Int32) else (if (v_is i28 (2 : Int32) Z) = 0 then ((1 : Int32) <<< ((nI i28) &&& 31)) else (0 : Int32))) := rfl
          refine lv_iload_n hx hb dX0_rung_28 rfl (lv_at hl 3 rfl) ?_
          refine lv_bipush (v := 8) hx hb dX0_rung_29 rfl ?_
          refine n_geF (a := i28) (b := 8) (by omega) (by omega) hx hb dX0_rung_31 (tgt := 72) (by decide) ?_
          refine lv_iload_n hx hb dX0_rung_34 rfl (lv_at hl 2 rfl) ?_
          refine lv_aload_n hx hb dX0_rung_35 rfl (lv_at hl 0 rfl) ?_
          refine xg_10 hx hb hts hown hK hE dX0_rung_36 ?_
          refine lv_iload_n hx hb dX0_rung_39 rfl (lv_at hl 3 rfl) ?_
          refine xa_10 (n := i28) (by omega) hx hb hK hE dX0_rung_40 ?_
          have hJ64 : ∀ (w64 : Int32) (hB28 : x_rung_b28 Z i28 w28 = x_rung_j64 w28 w64), ∀ (H : Heap) (locs : List Loc) (ls : Array Slot), EW D A s.heap (WX x ar cs Z B Y) H locs → lv_has ls 6 [(0, .ref x), (1, .int p1), (3, .int (nI i28))] → W p l e R s mid args below meth c H locs 0 0 Q (F0 mid 64 ls [.int w64, .int w28]) := by
            intro w64 hB28 H locs ls hE hl
            have hB28 : x_rung_b28 Z i28 w28 = (w28 ||| w64) := hB28
            refine lv_ior hx hb dX0_rung_64 ?_
            refine lv_istore_n (lv' := [(2, .int (w28 ||| w64)), (0, .ref x), (1, .int p1), (3, .int (nI i28))]) hx hb dX0_rung_65 rfl hl (by decide) rfl (fun ls hl => ?_)
            refine n_inc (lv' := [(3, .int (nI (i28 + 1))), (2, .int (w28 ||| w64)), (0, .ref x), (1, .int p1)]) hx hb dX0_rung_66 hl (k := 3) rfl (by decide) rfl (fun ls hl => ?_)
            refine lv_goto (tgt := 28) hx hb dX0_rung_69 (by decide) ?_
            exact ih28 (i28 + 1) (w28 ||| w64) (by omega) (hR.trans (congrArg (fun z => x_rung_e28 p1 Z (itR (x_rung_b28 Z) (i28 + 1) k z)) hB28)) _ _ _ hE (lv_sub hl [2, 3, 1, 0] rfl)
          refine xnn_be (b := i28) (tgt := 63) hx hb dX0_rung_41 (by decide) (fun c41 => ?_) (fun c41 => ?_)
          · have hB28 : x_rung_b28 Z i28 w28 = x_rung_j64 w28 (0 : Int32) := hB28.trans (congrArg (fun z => x_rung_j64 w28 z) (if_pos c41))
            refine lv_iconst (v := 0) hx hb dX0_rung_63 rfl ?_
            exact hJ64 (0 : Int32)  hB28 _ _ _ hE (lv_sub hl [0, 1, 3] rfl)
          · have hB28 : x_rung_b28 Z i28 w28 = x_rung_j64 w28 (if (v_is i28 (2 : Int32) Z) = 0 then ((1 : Int32) <<< ((nI i28) &&& 31)) else (0 : Int32)) := hB28.trans (congrArg (fun z => x_rung_j64 w28 z) (if_neg c41))
            refine lv_aload_n hx hb dX0_rung_44 rfl (lv_at hl 0 rfl) ?_
            refine xg_10 hx hb hts hown hK hE dX0_rung_45 ?_
            refine lv_iload_n hx hb dX0_rung_48 rfl (lv_at hl 3 rfl) ?_
            refine xa_10 (n := i28) (by omega) hx hb hK hE dX0_rung_49 ?_
            refine lv_iconst (v := 2) hx hb dX0_rung_50 rfl ?_
            refine call_v_is hx hb hml hown hts hK hA hE hl.1 i28 (2 : Int32) (by omega) (by assumption) (lz (show 3 ≤ 3 by decide) hRf) (lz (show 63 ≤ 63 by decide) hRl) (Nat.le_of_ble_eq_true rfl) dX0_rung_51 ⟨Nat.zero_le _, Nat.zero_le _⟩ (fun H locs hE => ?_)
            refine lv_if_ne (tgt := 63) hx hb dX0_rung_54 (by decide) (fun c54 => ?_) (fun c54 => ?_)
            · have hB28 : x_rung_b28 Z i28 w28 = x_rung_j64 w28 (0 : Int32) := hB28.trans (congrArg (fun z => x_rung_j64 w28 z) (if_neg c54))
              refine lv_iconst (v := 0) hx hb dX0_rung_63 rfl ?_
              exact hJ64 (0 : Int32)  hB28 _ _ _ hE (lv_sub hl [0, 1, 3] rfl)
            · have hB28 : x_rung_b28 Z i28 w28 = x_rung_j64 w28 ((1 : Int32) <<< ((nI i28) &&& 31)) := hB28.trans (congrArg (fun z => x_rung_j64 w28 z) (if_pos c54))
              refine lv_iconst (v := 1) hx hb dX0_rung_57 rfl ?_
              refine lv_iload_n hx hb dX0_rung_58 rfl (lv_at hl 3 rfl) ?_
              refine lv_ishl hx hb dX0_rung_59 ?_
              refine lv_goto (tgt := 64) hx hb dX0_rung_60 (by decide) ?_
              exact hJ64 ((1 : Int32) <<< ((nI i28) &&& 31))  hB28 _ _ _ hE (lv_sub hl [0, 1, 3] rfl)
      exact hL28 8 0 (0 : Int32) (by omega) hR _ _ _ hE (lv_sub hl [2, 3, 1, 0] rfl)
    · have hR : x_rung p1 Z = (x_met 1 Z) := hR.trans (congrArg (fun z => z) (if_pos c15))
      refine lv_aload_n hx hb dX0_rung_18 rfl (lv_at hl 0 rfl) ?_
      refine lv_iconst (v := 1) hx hb dX0_rung_19 rfl ?_
      refine call_x_met hx hb hml hown hts hK hA hE hl.1 1 (by omega) (lz (show 1 ≤ 3 by decide) hRf) (lz (show 21 ≤ 63 by decide) hRl) (Nat.le_of_ble_eq_true rfl) dX0_rung_20 ⟨Nat.zero_le _, Nat.zero_le _⟩ (fun H locs hE => ?_)
      exact hret ((x_met 1 Z).1) ((x_met 1 Z).2) hR rfl hE (Nat.le_refl 0) (Nat.le_refl 0) dX0_rung_23
  · have hR : x_rung p1 Z = ((-1 : Int32), Z) := hR.trans (congrArg (fun z => z) (if_pos c4))
    refine lv_iconst (v := -1) hx hb dX0_rung_7 rfl ?_
    exact hret (-1 : Int32) Z hR rfl hE (Nat.le_refl 0) (Nat.le_refl 0) dX0_rung_8
def x_ringsFrom_j84 (w84 : Int32) : Int32 := w84
def x_ringsFrom_b32 (rec : Nat → Nat → Int32 → Nat → ZT → Int32) (p1 : Nat) (p2 : Nat) (p3 : Int32) (p4 : Nat) (Z : ZT) (i32 : Nat) (w32 : Int32) : Int32 := x_ringsFrom_j84 (if ((p3 >>> ((nI i32) &&& 31)) &&& (1 : Int32)) = 0 then (if Z.1 11 (8 * p2 + i32) ≤ 0 then w32 else (w32 + (rec p1 i32 (p3 ||| ((1 : Int32) <<< ((nI i32) &&& 31))) (p4 - 1) Z))) else w32)
def x_ringsFrom_e32 (w32 : Int32) : Int32 := w32
def x_ringsFrom_body (rec : Nat → Nat → Int32 → Nat → ZT → Int32) (p1 : Nat) (p2 : Nat) (p3 : Int32) (p4 : Nat) (Z : ZT) : Int32 := (if p4 = 0 then (if Z.1 11 (8 * p2 + p1) ≤ 0 then (0 : Int32) else (1 : Int32)) else x_ringsFrom_e32 (itR (x_ringsFrom_b32 rec p1 p2 p3 p4 Z) (p1 + 1) (8 - (p1 + 1)) (0 : Int32)))
def x_ringsFrom : Nat → Nat → Nat → Int32 → Nat → ZT → Int32
  | 0 => fun _ _ _ _ Z => 0
  | d + 1 => x_ringsFrom_body (x_ringsFrom d)
section R_x_ringsFrom
variable {p : Program} {l : Launch} {e : Env} {R : Room} {s : State} {mid : MethodId} {args : Array Value} {below : List Frame} {meth : Method} {c : Code} {H : Heap} {locs : List Loc} {cells slots : Nat} {Q : State → Prop} {cc : ByteArray} {pc : Nat} {ls : Array Slot} {rest : List Value} {D : va_G} {A : Nat → Prop} {x : Nat} {ar : Nat → Nat} {cs : Nat → ClassId} {B : BT} {Y : va_W} {Z : ZT} {nL r : Nat}
theorem call_x_ringsFrom_of {rm : Room} {spv : Nat → Nat → Int32 → Nat → ZT → Int32} (hx : p.tables.exec = Jvm.exec) (hb : c.code = cc) (hml : c.maxLocals = nL) (hown : s.vm.findClass RX0 = some mid.cls) (hts : ∀ w ∈ lw_all, w.before args s = true) (hK : KK D cs s) (hA : ∀ q : Nat, s.heap.size ≤ q → A q) (hE : EW D A s.heap (WX x ar cs Z B Y) H locs) (hls : ls.size = nL) (p1 : Nat) (p2 : Nat) (p3 : Int32) (p4 : Nat) (hM : Met l yX0_ringsFrom (ws_ yX0_ringsFrom cX0_ringsFrom 7 (some .int)) rm (va_Pc [.ref x, .int (nI p1), .int (nI p2), .int p3, .int (nI p4)] (wSt D cs (WX x ar cs Z B Y) H.size)) (cQi (fun (v : Int32) (_ : Unit) => spv p1 p2 p3 p4 Z = v) D (fun _ => (WX x ar cs Z B Y)) (WX x ar cs Z B Y) H.size) 0 0 (va_A (WX x ar cs Z B Y) H.size)) (h1 : rm.frames + 1 ≤ R.frames) (h2 : 26 + rm.locals ≤ R.locals) (h3 : (rest.map fun v => v.category).sum ≤ 8) (hd : decode cc pc = .ok (.invokevirtual 302, 3)) (hf : cells ≤ R.cells ∧ slots ≤ R.slots) (kk : ∀ (H1 : Heap) (locs1 : List Loc), EW D A s.heap (WX x ar cs Z B Y) H1 locs1 → W p l e R s mid args below meth c H1 locs1 cells slots Q (F0 mid (pc + 3) ls (.int (spv p1 p2 p3 p4 Z) :: rest))) (hrc : rm.cells = 0 := by rfl) (hrs : rm.slots = 0 := by rfl) : W p l e R s mid args below meth c H locs cells slots Q (F0 mid pc ls (.int (nI p4) :: .int p3 :: .int (nI p2) :: .int (nI p1) :: .ref x :: rest)) :=
  gCall_i (As := [.int (nI p1), .int (nI p2), .int p3, .int (nI p4)]) (rest := rest) (q0 := 0) (ci := 0) (fs := XF ar Z) (T' := TX0) (N' := 29) hx hb hml hown hts hK hA hE hls hM (cwV 4 hts (lw_V q771 q773 qs23 q84 q774) rfl hrc hrs (by decide +kernel) ⟨h1, h2⟩) rfl rfl rfl rfl h3 hd hf (fun v u H1 locs1 hp _ hE => by subst hp; exact kk H1 locs1 hE)
end R_x_ringsFrom
set_option maxHeartbeats 4000000 in
set_option maxRecDepth 100000 in
theorem step_x_ringsFrom (l : Launch) (D : va_G) (cs : Nat → ClassId) (x : Nat) (ar : Nat → Nat) (B : BT) (Y : va_W) (d : Nat) (hrec : ∀ (Z : ZT) (sz : Nat) (p1 : Nat) (p2 : Nat) (p3 : Int32) (p4 : Nat) (hn1 : p1 < 8) (hn2 : p2 < 8) (hn4 : p4 < 9), p4 + 1 ≤ d → Met l yX0_ringsFrom (ws_ yX0_ringsFrom cX0_ringsFrom 7 (some .int)) ({ frames := 1 + (d - 1), cells := 0, slots := 0, locals := 21 + (d - 1) * 26 }) (va_Pc [.ref x, .int (nI p1), .int (nI p2), .int p3, .int (nI p4)] (wSt D cs (WX x ar cs Z B Y) sz)) (cQi (fun (v : Int32) (_ : Unit) => x_ringsFrom d p1 p2 p3 p4 Z = v) D (fun _ => (WX x ar cs Z B Y)) (WX x ar cs Z B Y) sz) 0 0 (va_A (WX x ar cs Z B Y) sz)) (Z : ZT) (sz : Nat) (p1 : Nat) (p2 : Nat) (p3 : Int32) (p4 : Nat) (hn1 : p1 < 8) (hn2 : p2 < 8) (hn4 : p4 < 9) (hmu : p4 ≤ d) : Met l yX0_ringsFrom (ws_ yX0_ringsFrom cX0_ringsFrom 7 (some .int)) ({ frames := 1 + d, cells := 0, slots := 0, locals := 21 + d * 26 }) (va_Pc [.ref x, .int (nI p1), .int (nI p2), .int p3, .int (nI p4)] (wSt D cs (WX x ar cs Z B Y) sz)) (cQi (fun (v : Int32) (_ : Unit) => x_ringsFrom (d + 1) p1 p2 p3 p4 Z = v) D (fun _ => (WX x ar cs Z B Y)) (WX x ar cs Z B Y) sz) 0 0 (va_A (WX x ar cs Z B Y) sz) := by
  refine gStart_i (C := RX0) rfl rfl (Nat.le_of_ble_eq_true rfl) ?_
  intro p e s mid args below meth c R Q A hx hb hml hown hts hK hA hRf hRl hRc hRs hret hE ls hl
  have hRf : 1 + d ≤ R.frames := hRf
  have hRl : 21 + d * 26 ≤ R.locals := hRl
  have hl : lv_has ls 7 [(0, .ref x), (1, .int (nI p1)), (2, .int (nI p2)), (3, .int p3), (4, .int (nI p4))] := hl
  have hR : x_ringsFrom (d + 1) p1 p2 p3 p4 Z = (if p4 = 0 then (if Z.1 11 (8 * p2 + p1) ≤ 0 then (0 : Int32) else (1 : Int32)) else x_ringsFrom_e32 (itR (x_ringsFrom_b32 (x_ringsFrom d) p1 p2 p3 p4 Z) (p1 + 1) (8 - (p1 + 1)) (0 : Int32))) := rfl
  refine lv_iload hx hb dX0_ringsFrom_0 (lv_at hl 4 rfl) ?_
  refine n_if_ne (tgt := 24) (by omega) hx hb dX0_ringsFrom_2 (by decide) (fun c2 => ?_) (fun c2 => ?_)
  · have hR : x_ringsFrom (d + 1) p1 p2 p3 p4 Z = (x_ringsFrom_e32 (itR (x_ringsFrom_b32 (x_ringsFrom d) p1 p2 p3 p4 Z) (p1 + 1) (8 - (p1 + 1)) (0 : Int32))) := hR.trans (congrArg (fun z => z) (if_neg c2))
    refine lv_iconst (v := 0) hx hb dX0_ringsFrom_24 rfl ?_
    refine lv_istore (lv' := [(5, .int (0 : Int32)), (0, .ref x), (1, .int (nI p1)), (2, .int (nI p2)), (3, .int p3), (4, .int (nI p4))]) hx hb dX0_ringsFrom_25 hl (by decide) rfl (fun ls hl => ?_)
    refine lv_iload_n hx hb dX0_ringsFrom_27 rfl (lv_at hl 2 rfl) ?_
    refine lv_iconst (v := 1) hx hb dX0_ringsFrom_28 rfl ?_
    refine n_add (a := p1) (b := 1) hx hb dX0_ringsFrom_29 ?_
    refine lv_istore (lv' := [(6, .int (nI (p1 + 1))), (5, .int (0 : Int32)), (0, .ref x), (1, .int (nI p1)), (2, .int (nI p2)), (3, .int p3), (4, .int (nI p4))]) hx hb dX0_ringsFrom_30 hl (by decide) rfl (fun ls hl => ?_)
    have hL32 : ∀ (k i32 : Nat) (w32 : Int32) (hi32 : i32 + k = 8) (hR : x_ringsFrom (d + 1) p1 p2 p3 p4 Z = x_ringsFrom_e32 (itR (x_ringsFrom_b32 (x_ringsFrom d) p1 p2 p3 p4 Z) i32 k w32)), ∀ (H : Heap) (locs : List Loc) (ls : Array Slot), EW D A s.heap (WX x ar cs Z B Y) H locs → lv_has ls 7 [(0, .ref x), (1, .int (nI p1)), (2, .int (nI p2)), (3, .int p3), (4, .int (nI p4)), (5, .int w32), (6, .int (nI i32))] → W p l e R s mid args below meth c H locs 0 0 Q (F0 mid 32 ls []) := by
      intro k
      induction k with
      | zero =>
        intro i32 w32 hi32 hR H locs ls hE hl
        have hie32 : i32 = 8 := by omega
        have hR : x_ringsFrom (d + 1) p1 p2 p3 p4 Z = w32 := hR
        refine lv_iload hx hb dX0_ringsFrom_32 (lv_at hl 6 rfl) ?_
        refine lv_bipush (v := 8) hx hb dX0_ringsFrom_34 rfl ?_
        refine n_geT (a := i32) (b := 8) (by omega) (by omega) hx hb dX0_ringsFrom_36 (tgt := 90) (by decide) ?_
        have hl := lv_sub (l' := [(0, .ref x), (1, .int (nI p1)), (2, .int (nI p2)), (3, .int p3), (4, .int (nI p4)), (5, .int w32)]) hl [0, 1, 2, 3, 4, 5] rfl
        refine lv_iload hx hb dX0_ringsFrom_90 (lv_at hl 5 rfl) ?_
        exact hret w32 () hR rfl hE (Nat.le_refl 0) (Nat.le_refl 0) dX0_ringsFrom_92
      | succ k ih32 =>
        intro i32 w32 hi32 hR H locs ls hE hl
        have hlt32 : i32 < 8 := by omega
        have hB32 : x_ringsFrom_b32 (x_ringsFrom d) p1 p2 p3 p4 Z i32 w32 = x_ringsFrom_j84 (if ((p3 >>> ((nI i32) &&& 31)) &&& (1 : Int32)) = 0 then (if Z.1 11 (8 * p2 + i32) ≤ 0 then w32 else (w32 + ((x_ringsFrom d) p1 i32 (p3 ||| ((1 : Int32) <<< ((nI i32) &&& 31))) (p4 - 1) Z))) else w32) := rfl
        refine lv_iload hx hb dX0_ringsFrom_32 (lv_at hl 6 rfl) ?_
        refine lv_bipush (v := 8) hx hb dX0_ringsFrom_34 rfl ?_
        refine n_geF (a := i32) (b := 8) (by omega) (by omega) hx hb dX0_ringsFrom_36 (tgt := 90) (by decide) ?_
        refine lv_iload_n hx hb dX0_ringsFrom_39 rfl (lv_at hl 3 rfl) ?_
        refine lv_iload hx hb dX0_ringsFrom_40 (lv_at hl 6 rfl) ?_
        refine lv_ishr hx hb dX0_ringsFrom_42 ?_
        refine lv_iconst (v := 1) hx hb dX0_ringsFrom_43 rfl ?_
        refine lv_iand hx hb dX0_ringsFrom_44 ?_
        have hJ84 : ∀ (w84 : Int32) (hB32 : x_ringsFrom_b32 (x_ringsFrom d) p1 p2 p3 p4 Z i32 w32 = x_ringsFrom_j84 w84), ∀ (H : Heap) (locs : List Loc) (ls : Array Slot), EW D A s.heap (WX x ar cs Z B Y) H locs → lv_has ls 7 [(0, .ref x), (1, .int (nI p1)), (2, .int (nI p2)), (3, .int p3), (4, .int (nI p4)), (5, .int w84), (6, .int (nI i32))] → W p l e R s mid args below meth c H locs 0 0 Q (F0 mid 84 ls []) := by
          intro w84 hB32 H locs ls hE hl
          have hB32 : x_ringsFrom_b32 (x_ringsFrom d) p1 p2 p3 p4 Z i32 w32 = w84 := hB32
          refine n_inc (lv' := [(6, .int (nI (i32 + 1))), (0, .ref x), (1, .int (nI p1)), (2, .int (nI p2)), (3, .int p3), (4, .int (nI p4)), (5, .int w84)]) hx hb dX0_ringsFrom_84 hl (k := 6) rfl (by decide) rfl (fun ls hl => ?_)
          refine lv_goto (tgt := 32) hx hb dX0_ringsFrom_87 (by decide) ?_
          exact ih32 (i32 + 1) w84 (by omega) (hR.trans (congrArg (fun z => x_ringsFrom_e32 (itR (x_ringsFrom_b32 (x_ringsFrom d) p1 p2 p3 p4 Z) (i32 + 1) k z)) hB32)) _ _ _ hE (lv_sub hl [1, 2, 3, 4, 5, 6, 0] rfl)
        refine lv_if_ne (tgt := 84) hx hb dX0_ringsFrom_45 (by decide) (fun c45 => ?_) (fun c45 => ?_)
        · have hB32 : x_ringsFrom_b32 (x_ringsFrom d) p1 p2 p3 p4 Z i32 w32 = x_ringsFrom_j84 w32 := hB32.trans (congrArg (fun z => x_ringsFrom_j84 z) (if_neg c45))
          exact hJ84 w32  hB32 _ _ _ hE (lv_sub hl [0, 1, 2, 3, 4, 5, 6] rfl)
        · have hB32 : x_ringsFrom_b32 (x_ringsFrom d) p1 p2 p3 p4 Z i32 w32 = x_ringsFrom_j84 (if Z.1 11 (8 * p2 + i32) ≤ 0 then w32 else (w32 + ((x_ringsFrom d) p1 i32 (p3 ||| ((1 : Int32) <<< ((nI i32) &&& 31))) (p4 - 1) Z))) := hB32.trans (congrArg (fun z => x_ringsFrom_j84 z) (if_pos c45))
          refine lv_aload_n hx hb dX0_ringsFrom_48 rfl (lv_at hl 0 rfl) ?_
          refine xg_11 hx hb hts hown hK hE dX0_ringsFrom_49 ?_
          refine lv_iload_n hx hb dX0_ringsFrom_52 rfl (lv_at hl 2 rfl) ?_
          refine lv_iload hx hb dX0_ringsFrom_53 (lv_at hl 6 rfl) ?_
          refine call_x_pair hx hb hml hown hts hK hA hE hl.1 p2 i32 (by omega) (by omega) (Nat.le_of_ble_eq_true rfl) dX0_ringsFrom_55 ⟨Nat.zero_le _, Nat.zero_le _⟩ (fun H locs hE => ?_)
          refine xa_11 (n := (8 * p2 + i32)) (by omega) hx hb hK hE dX0_ringsFrom_58 ?_
          refine lv_if_le (tgt := 84) hx hb dX0_ringsFrom_59 (by decide) (fun c59 => ?_) (fun c59 => ?_)
          · have hB32 : x_ringsFrom_b32 (x_ringsFrom d) p1 p2 p3 p4 Z i32 w32 = x_ringsFrom_j84 w32 := hB32.trans (congrArg (fun z => x_ringsFrom_j84 z) (if_pos c59))
            exact hJ84 w32  hB32 _ _ _ hE (lv_sub hl [0, 1, 2, 3, 4, 5, 6] rfl)
          · have hB32 : x_ringsFrom_b32 (x_ringsFrom d) p1 p2 p3 p4 Z i32 w32 = x_ringsFrom_j84 (w32 + ((x_ringsFrom d) p1 i32 (p3 ||| ((1 : Int32) <<< ((nI i32) &&& 31))) (p4 - 1) Z)) := hB32.trans (congrArg (fun z => x_ringsFrom_j84 z) (if_neg c59))
            refine lv_iload hx hb dX0_ringsFrom_62 (lv_at hl 5 rfl) ?_
            refine lv_aload_n hx hb dX0_ringsFrom_64 rfl (lv_at hl 0 rfl) ?_
            refine lv_iload_n hx hb dX0_ringsFrom_65 rfl (lv_at hl 1 rfl) ?_
            refine lv_iload hx hb dX0_ringsFrom_66 (lv_at hl 6 rfl) ?_
            refine lv_iload_n hx hb dX0_ringsFrom_68 rfl (lv_at hl 3 rfl) ?_
            refine lv_iconst (v := 1) hx hb dX0_ringsFrom_69 rfl ?_
            refine lv_iload hx hb dX0_ringsFrom_70 (lv_at hl 6 rfl) ?_
            refine lv_ishl hx hb dX0_ringsFrom_72 ?_
            refine lv_ior hx hb dX0_ringsFrom_73 ?_
            refine lv_iload hx hb dX0_ringsFrom_74 (lv_at hl 4 rfl) ?_
            refine lv_iconst (v := 1) hx hb dX0_ringsFrom_76 rfl ?_
            refine n_sub (a := p4) (b := 1) (by omega) hx hb dX0_ringsFrom_77 ?_
            refine call_x_ringsFrom_of (rm := { frames := 1 + (d - 1), cells := 0, slots := 0, locals := 21 + (d - 1) * 26 }) hx hb hml hown hts hK hA hE hl.1 p1 i32 (p3 ||| ((1 : Int32) <<< ((nI i32) &&& 31))) (p4 - 1) (hrec Z _ p1 i32 (p3 ||| ((1 : Int32) <<< ((nI i32) &&& 31))) (p4 - 1) (by omega) (by omega) (by omega) (by omega)) (by show 1 + (d - 1) + 1 ≤ R.frames; omega) (by show 26 + (21 + (d - 1) * 26) ≤ R.locals; omega) (Nat.le_of_ble_eq_true rfl) dX0_ringsFrom_78 ⟨Nat.zero_le _, Nat.zero_le _⟩ (fun H locs hE => ?_)
            refine lv_iadd hx hb dX0_ringsFrom_81 ?_
            refine lv_istore (lv' := [(5, .int (w32 + ((x_ringsFrom d) p1 i32 (p3 ||| ((1 : Int32) <<< ((nI i32) &&& 31))) (p4 - 1) Z))), (0, .ref x), (1, .int (nI p1)), (2, .int (nI p2)), (3, .int p3), (4, .int (nI p4)), (6, .int (nI i32))]) hx hb dX0_ringsFrom_82 hl (by decide) rfl (fun ls hl => ?_)
            exact hJ84 (w32 + ((x_ringsFrom d) p1 i32 (p3 ||| ((1 : Int32) <<< ((nI i32) &&& 31))) (p4 - 1) Z))  hB32 _ _ _ hE (lv_sub hl [1, 2, 3, 4, 5, 0, 6] rfl)
    exact hL32 (8 - (p1 + 1)) (p1 + 1) (0 : Int32) (by omega) hR _ _ _ hE (lv_sub hl [2, 3, 4, 5, 6, 1, 0] rfl)
  · have hR : x_ringsFrom (d + 1) p1 p2 p3 p4 Z = (if Z.1 11 (8 * p2 + p1) ≤ 0 then (0 : Int32) else (1 : Int32)) := hR.trans (congrArg (fun z => z) (if_pos c2))
    refine lv_aload_n hx hb dX0_ringsFrom_5 rfl (lv_at hl 0 rfl) ?_
    refine xg_11 hx hb hts hown hK hE dX0_ringsFrom_6 ?_
    refine lv_iload_n hx hb dX0_ringsFrom_9 rfl (lv_at hl 2 rfl) ?_
    refine lv_iload_n hx hb dX0_ringsFrom_10 rfl (lv_at hl 1 rfl) ?_
    refine call_x_pair hx hb hml hown hts hK hA hE hl.1 p2 p1 (by omega) (by omega) (Nat.le_of_ble_eq_true rfl) dX0_ringsFrom_11 ⟨Nat.zero_le _, Nat.zero_le _⟩ (fun H locs hE => ?_)
    refine xa_11 (n := (8 * p2 + p1)) (by omega) hx hb hK hE dX0_ringsFrom_14 ?_
    refine lv_if_le (tgt := 22) hx hb dX0_ringsFrom_15 (by decide) (fun c15 => ?_) (fun c15 => ?_)
    · have hR : x_ringsFrom (d + 1) p1 p2 p3 p4 Z = (0 : Int32) := hR.trans (congrArg (fun z => z) (if_pos c15))
      refine lv_iconst (v := 0) hx hb dX0_ringsFrom_22 rfl ?_
      exact hret (0 : Int32) () hR rfl hE (Nat.le_refl 0) (Nat.le_refl 0) dX0_ringsFrom_23
    · have hR : x_ringsFrom (d + 1) p1 p2 p3 p4 Z = (1 : Int32) := hR.trans (congrArg (fun z => z) (if_neg c15))
      refine lv_iconst (v := 1) hx hb dX0_ringsFrom_18 rfl ?_
      refine lv_goto (tgt := 23) hx hb dX0_ringsFrom_19 (by decide) ?_
      exact hret (1 : Int32) () hR rfl hE (Nat.le_refl 0) (Nat.le_refl 0) dX0_ringsFrom_23
theorem met_x_ringsFrom (l : Launch) (D : va_G) (cs : Nat → ClassId) (x : Nat) (ar : Nat → Nat) (B : BT) (Y : va_W) (d : Nat) : ∀ (Z : ZT) (sz : Nat) (p1 : Nat) (p2 : Nat) (p3 : Int32) (p4 : Nat) (hn1 : p1 < 8) (hn2 : p2 < 8) (hn4 : p4 < 9) (hmu : p4 ≤ d), Met l yX0_ringsFrom (ws_ yX0_ringsFrom cX0_ringsFrom 7 (some .int)) ({ frames := 1 + d, cells := 0, slots := 0, locals := 21 + d * 26 }) (va_Pc [.ref x, .int (nI p1), .int (nI p2), .int p3, .int (nI p4)] (wSt D cs (WX x ar cs Z B Y) sz)) (cQi (fun (v : Int32) (_ : Unit) => x_ringsFrom (d + 1) p1 p2 p3 p4 Z = v) D (fun _ => (WX x ar cs Z B Y)) (WX x ar cs Z B Y) sz) 0 0 (va_A (WX x ar cs Z B Y) sz) := by
  induction d with
  | zero => exact step_x_ringsFrom l D cs x ar B Y 0 (fun _ _ _ _ _ _ _ _ _ h => absurd h (Nat.not_succ_le_zero _))
  | succ d ih => exact step_x_ringsFrom l D cs x ar B Y (d + 1) (fun Z sz p1 p2 p3 p4 hn1 hn2 hn4 h => ih Z sz p1 p2 p3 p4 hn1 hn2 hn4 (Nat.le_of_succ_le_succ h))
section C_x_ringsFrom
variable {p : Program} {l : Launch} {e : Env} {R : Room} {s : State} {mid : MethodId} {args : Array Value} {below : List Frame} {meth : Method} {c : Code} {H : Heap} {locs : List Loc} {cells slots : Nat} {Q : State → Prop} {cc : ByteArray} {pc : Nat} {ls : Array Slot} {rest : List Value} {D : va_G} {A : Nat → Prop} {x : Nat} {ar : Nat → Nat} {cs : Nat → ClassId} {B : BT} {Y : va_W} {Z : ZT} {nL r : Nat}
theorem call_x_ringsFrom (d : Nat) (hx : p.tables.exec = Jvm.exec) (hb : c.code = cc) (hml : c.maxLocals = nL) (hown : s.vm.findClass RX0 = some mid.cls) (hts : ∀ w ∈ lw_all, w.before args s = true) (hK : KK D cs s) (hA : ∀ q : Nat, s.heap.size ≤ q → A q) (hE : EW D A s.heap (WX x ar cs Z B Y) H locs) (hls : ls.size = nL) (p1 : Nat) (p2 : Nat) (p3 : Int32) (p4 : Nat) (hn1 : p1 < 8) (hn2 : p2 < 8) (hn4 : p4 < 9) (hmu : p4 ≤ d) (h1 : 1 + d + 1 ≤ R.frames) (h2 : 26 + (21 + d * 26) ≤ R.locals) (h3 : (rest.map fun v => v.category).sum ≤ 8) (hd : decode cc pc = .ok (.invokevirtual 302, 3)) (hf : cells ≤ R.cells ∧ slots ≤ R.slots) (kk : ∀ (H1 : Heap) (locs1 : List Loc), EW D A s.heap (WX x ar cs Z B Y) H1 locs1 → W p l e R s mid args below meth c H1 locs1 cells slots Q (F0 mid (pc + 3) ls (.int (x_ringsFrom (d + 1) p1 p2 p3 p4 Z) :: rest))) : W p l e R s mid args below meth c H locs cells slots Q (F0 mid pc ls (.int (nI p4) :: .int p3 :: .int (nI p2) :: .int (nI p1) :: .ref x :: rest)) :=
  call_x_ringsFrom_of hx hb hml hown hts hK hA hE hls p1 p2 p3 p4 (met_x_ringsFrom l D cs x ar B Y d Z H.size p1 p2 p3 p4 hn1 hn2 hn4 hmu) h1 h2 h3 hd hf kk
end C_x_ringsFrom
def x_rings_b16 (p1 : Int32) (Z : ZT) (i16 : Nat) (w16 : Int32) : Int32 := (w16 + (x_ringsFrom (8 + 1) i16 i16 (0 : Int32) ((ix p1) - 1) Z))
def x_rings_e16 (w16 : Int32) : Int32 := w16
def x_rings (p1 : Int32) (Z : ZT) : Int32 := (if (x_isIn p1 (1 : Int32) (8 : Int32)) = 0 then (-1 : Int32) else x_rings_e16 (itR (x_rings_b16 p1 Z) 0 8 (0 : Int32)))
set_option maxHeartbeats 4000000 in
set_option maxRecDepth 100000 in
theorem met_x_rings (l : Launch) (D : va_G) (cs : Nat → ClassId) (x : Nat) (ar : Nat → Nat) (B : BT) (Y : va_W) (Z : ZT) (sz : Nat) (p1 : Int32) : Met l yX0_rings (ws_ yX0_rings cX0_rings 4 (some .int)) ({ frames := 10, cells := 0, slots := 0, locals := 255 }) (va_Pc [.ref x, .int p1] (wSt D cs (WX x ar cs Z B Y) sz)) (cQi (fun (v : Int32) (_ : Unit) => x_rings p1 Z = v) D (fun _ => (WX x ar cs Z B Y)) (WX x ar cs Z B Y) sz) 0 0 (va_A (WX x ar cs Z B Y) sz) := by
  refine gStart_i (C := RX0) rfl rfl (Nat.le_of_ble_eq_true rfl) ?_
  intro p e s mid args below meth c R Q A hx hb hml hown hts hK hA hRf hRl hRc hRs hret hE ls hl
  have hRf : 10 ≤ R.frames := hRf
  have hRl : 255 ≤ R.locals := hRl
  have hl : lv_has ls 4 [(0, .ref x), (1, .int p1)] := hl
  have hR : x_rings p1 Z = (if (x_isIn p1 (1 : Int32) (8 : Int32)) = 0 then (-1 : Int32) else x_rings_e16 (itR (x_rings_b16 p1 Z) 0 8 (0 : Int32))) := rfl
  refine lv_iload_n hx hb dX0_rings_0 rfl (lv_at hl 1 rfl) ?_
  refine lv_iconst (v := 1) hx hb dX0_rings_1 rfl ?_
  refine lv_bipush (v := 8) hx hb dX0_rings_2 rfl ?_
  refine call_x_isIn hx hb hml hown hts hK hA hE hl.1 p1 (1 : Int32) (8 : Int32) (lz (show 1 ≤ 10 by decide) hRf) (lz (show 22 ≤ 255 by decide) hRl) (Nat.le_of_ble_eq_true rfl) dX0_rings_4 ⟨Nat.zero_le _, Nat.zero_le _⟩ (fun H locs hE => ?_)
  refine lv_if_ne (tgt := 12) hx hb dX0_rings_7 (by decide) (fun c7 => ?_) (fun c7 => ?_)
  · have hR : x_rings p1 Z = (x_rings_e16 (itR (x_rings_b16 p1 Z) 0 8 (0 : Int32))) := hR.trans (congrArg (fun z => z) (if_neg c7))
    have hpos1 := in_pos c7
    have hnp1 := vp_ix (x := p1) (N := 9) (vp_of_in c7 (by decide) (by decide)) (by decide)
    have hbnp1 := hnp1.2
    refine lv_iconst (v := 0) hx hb dX0_rings_12 rfl ?_
    refine lv_istore_n (lv' := [(2, .int (0 : Int32)), (0, .ref x), (1, .int p1)]) hx hb dX0_rings_13 rfl hl (by decide) rfl (fun ls hl => ?_)
    refine lv_iconst (v := 0) hx hb dX0_rings_14 rfl ?_
    refine lv_istore_n (lv' := [(3, .int (0 : Int32)), (2, .int (0 : Int32)), (0, .ref x), (1, .int p1)]) hx hb dX0_rings_15 rfl hl (by decide) rfl (fun ls hl => ?_)
    have hL16 : ∀ (k i16 : Nat) (w16 : Int32) (hi16 : i16 + k = 8) (hR : x_rings p1 Z = x_rings_e16 (itR (x_rings_b16 p1 Z) i16 k w16)), ∀ (H : Heap) (locs : List Loc) (ls : Array Slot), EW D A s.heap (WX x ar cs Z B Y) H locs → lv_has ls 4 [(0, .ref x), (1, .int p1), (2, .int w16), (3, .int (nI i16))] → W p l e R s mid args below meth c H locs 0 0 Q (F0 mid 16 ls []) := by
      intro k
      induction k with
      | zero =>
        intro i16 w16 hi16 hR H locs ls hE hl
        have hie16 : i16 = 8 := by omega
        have hR : x_rings p1 Z = w16 := hR
        refine lv_iload_n hx hb dX0_rings_16 rfl (lv_at hl 3 rfl) ?_
        refine lv_bipush (v := 8) hx hb dX0_rings_17 rfl ?_
        refine n_geT (a := i16) (b := 8) (by omega) (by omega) hx hb dX0_rings_19 (tgt := 41) (by decide) ?_
        have hl := lv_sub (l' := [(0, .ref x), (1, .int p1), (2, .int w16)]) hl [0, 1, 2] rfl
        refine lv_iload_n hx hb dX0_rings_41 rfl (lv_at hl 2 rfl) ?_
        exact hret w16 () hR rfl hE (Nat.le_refl 0) (Nat.le_refl 0) dX0_rings_42
      | succ k ih16 =>
        intro i16 w16 hi16 hR H locs ls hE hl
        have hlt16 : i16 < 8 := by omega
        have hB16 : x_rings_b16 p1 Z i16 w16 = (w16 + (x_ringsFrom (8 + 1) i16 i16 (0 : Int32) ((ix p1) - 1) Z)) := rfl
        refine lv_iload_n hx hb dX0_rings_16 rfl (lv_at hl 3 rfl) ?_
        refine lv_bipush (v := 8) hx hb dX0_rings_17 rfl ?_
        refine n_geF (a := i16) (b := 8) (by omega) (by omega) hx hb dX0_rings_19 (tgt := 41) (by decide) ?_
        refine lv_iload_n hx hb dX0_rings_22 rfl (lv_at hl 2 rfl) ?_
        refine lv_aload_n hx hb dX0_rings_23 rfl (lv_at hl 0 rfl) ?_
        refine lv_iload_n hx hb dX0_rings_24 rfl (lv_at hl 3 rfl) ?_
        refine lv_iload_n hx hb dX0_rings_25 rfl (lv_at hl 3 rfl) ?_
        refine lv_iconst (v := 0) hx hb dX0_rings_26 rfl ?_
        refine lv_iload_n hx hb dX0_rings_27 rfl (lv_at hl 1 rfl) ?_
        refine top_nat hnp1.1 ?_
        refine lv_iconst (v := 1) hx hb dX0_rings_28 rfl ?_
        refine n_sub (a := (ix p1)) (b := 1) (hpos1) hx hb dX0_rings_29 ?_
        refine call_x_ringsFrom 8 hx hb hml hown hts hK hA hE hl.1 i16 i16 (0 : Int32) ((ix p1) - 1) (by omega) (by omega) (by omega) (by omega) (lz (show 10 ≤ 10 by decide) hRf) (lz (show 255 ≤ 255 by decide) hRl) (Nat.le_of_ble_eq_true rfl) dX0_rings_30 ⟨Nat.zero_le _, Nat.zero_le _⟩ (fun H locs hE => ?_)
        refine lv_iadd hx hb dX0_rings_33 ?_
        refine lv_istore_n (lv' := [(2, .int (w16 + (x_ringsFrom (8 + 1) i16 i16 (0 : Int32) ((ix p1) - 1) Z))), (0, .ref x), (1, .int p1), (3, .int (nI i16))]) hx hb dX0_rings_34 rfl hl (by decide) rfl (fun ls hl => ?_)
        refine n_inc (lv' := [(3, .int (nI (i16 + 1))), (2, .int (w16 + (x_ringsFrom (8 + 1) i16 i16 (0 : Int32) ((ix p1) - 1) Z))), (0, .ref x), (1, .int p1)]) hx hb dX0_rings_35 hl (k := 3) rfl (by decide) rfl (fun ls hl => ?_)
        refine lv_goto (tgt := 16) hx hb dX0_rings_38 (by decide) ?_
        exact ih16 (i16 + 1) (w16 + (x_ringsFrom (8 + 1) i16 i16 (0 : Int32) ((ix p1) - 1) Z)) (by omega) (hR.trans (congrArg (fun z => x_rings_e16 (itR (x_rings_b16 p1 Z) (i16 + 1) k z)) hB16)) _ _ _ hE (lv_sub hl [2, 3, 1, 0] rfl)
    exact hL16 8 0 (0 : Int32) (by omega) hR _ _ _ hE (lv_sub hl [2, 3, 1, 0] rfl)
  · have hR : x_rings p1 Z = (-1 : Int32) := hR.trans (congrArg (fun z => z) (if_pos c7))
    refine lv_iconst (v := -1) hx hb dX0_rings_10 rfl ?_
    exact hret (-1 : Int32) () hR rfl hE (Nat.le_refl 0) (Nat.le_refl 0) dX0_rings_11
