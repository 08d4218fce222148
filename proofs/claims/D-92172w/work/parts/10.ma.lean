/-! the twin: leaves -/
set_option maxRecDepth 100000
theorem sw_out0 {x : Int32} (h0 : ¬ x = 0) : x.toInt < 0 ∨ 0 < x.toInt := by
  have e0 : x.toInt ≠ 0 := fun q => h0 (Int32.toInt_inj.mp (by rw [q]; rfl))
  omega
theorem sw_out2 {x : Int32} (h0 : ¬ x = 0) (h1 : ¬ x = 1) (h2 : ¬ x = 2) : x.toInt < 0 ∨ 2 < x.toInt := by
  have e0 : x.toInt ≠ 0 := fun q => h0 (Int32.toInt_inj.mp (by rw [q]; rfl))
  have e1 : x.toInt ≠ 1 := fun q => h1 (Int32.toInt_inj.mp (by rw [q]; rfl))
  have e2 : x.toInt ≠ 2 := fun q => h2 (Int32.toInt_inj.mp (by rw [q]; rfl))
  omega
theorem sw_out3 {x : Int32} (h0 : ¬ x = 0) (h1 : ¬ x = 1) (h2 : ¬ x = 2) (h3 : ¬ x = 3) : x.toInt < 0 ∨ 3 < x.toInt := by
  have e3 : x.toInt ≠ 3 := fun q => h3 (Int32.toInt_inj.mp (by rw [q]; rfl))
  rcases sw_out2 h0 h1 h2 with h | h
  · exact Or.inl h
  · omega
theorem sw_out4 {x : Int32} (h0 : ¬ x = 0) (h1 : ¬ x = 1) (h2 : ¬ x = 2) (h3 : ¬ x = 3) (h4 : ¬ x = 4) : x.toInt < 0 ∨ 4 < x.toInt := by
  have e4 : x.toInt ≠ 4 := fun q => h4 (Int32.toInt_inj.mp (by rw [q]; rfl))
  rcases sw_out3 h0 h1 h2 h3 with h | h
  · exact Or.inl h
  · omega
def m_in (p0 : Int32) (p1 : Int32) (p2 : Int32) : Int32 := (if p0 < p1 then (0 : Int32) else (if p2 < p0 then (0 : Int32) else (1 : Int32)))
theorem m_in_01 (a b c : Int32) : m_in a b c = 0 ∨ m_in a b c = 1 := by
  unfold m_in
  split
  · exact Or.inl rfl
  · split
    · exact Or.inl rfl
    · exact Or.inr rfl
theorem m_in_bd {v lo hi : Int32} (h : ¬ m_in v lo hi = 0) : lo.toInt ≤ v.toInt ∧ v.toInt ≤ hi.toInt := by
  unfold m_in at h
  split at h
  · exact absurd rfl h
  · split at h
    · exact absurd rfl h
    · rename_i h1 h2
      rw [Int32.lt_iff_toInt_lt] at h1 h2
      omega
theorem vp_of_in {v lo hi : Int32} {N : Nat} (h : ¬ m_in v lo hi = 0) (h0 : 0 ≤ lo.toInt) (hN : hi.toInt < N) : vp_in v N := by
  have := m_in_bd h
  exact vp_in_iff.mpr ⟨by omega, by omega⟩
set_option maxHeartbeats 4000000 in
set_option maxRecDepth 100000 in
theorem met_m_in (l : Launch) (D : va_G) (cs : Nat → ClassId) (sz : Nat) (p0 : Int32) (p1 : Int32) (p2 : Int32) : Met l yX1_in (ws_ yX1_in cX1_in 3 (some .boolean)) ({ frames := 0, cells := 0, slots := 0, locals := 0 }) (va_Pc [.int p0, .int p1, .int p2] (wSt D cs [] sz)) (cQi (fun (v : Int32) (_ : Unit) => m_in p0 p1 p2 = v) D (fun _ => []) [] sz) 0 0 (va_A [] sz) := by
  refine gStart_i (C := RX1) rfl rfl (Nat.le_of_ble_eq_true rfl) ?_
  intro p e s mid args below meth c R Q A hx hb hml hown hts hK hA hRf hRl hRc hRs hret hE ls hl
  have hRf : 0 ≤ R.frames := hRf
  have hRl : 0 ≤ R.locals := hRl
  have hl : lv_has ls 3 [(0, .int p0), (1, .int p1), (2, .int p2)] := hl
  have hR : m_in p0 p1 p2 = (if p0 < p1 then (0 : Int32) else (if p2 < p0 then (0 : Int32) else (1 : Int32))) := rfl
  refine lv_iload_n hx hb dX1_in_0 rfl (lv_at hl 0 rfl) ?_
  refine lv_iload_n hx hb dX1_in_1 rfl (lv_at hl 1 rfl) ?_
  refine lv_icmp_lt (tgt := 14) hx hb dX1_in_2 (by decide) (fun c2 => ?_) (fun c2 => ?_)
  · have hR : m_in p0 p1 p2 = (0 : Int32) := hR.trans (congrArg (fun z => z) (if_pos c2))
    refine lv_iconst (v := 0) hx hb dX1_in_14 rfl ?_
    exact hret (0 : Int32) () hR rfl hE (Nat.le_refl 0) (Nat.le_refl 0) dX1_in_15
  · have hR : m_in p0 p1 p2 = (if p2 < p0 then (0 : Int32) else (1 : Int32)) := hR.trans (congrArg (fun z => z) (if_neg c2))
    refine lv_iload_n hx hb dX1_in_5 rfl (lv_at hl 0 rfl) ?_
    refine lv_iload_n hx hb dX1_in_6 rfl (lv_at hl 2 rfl) ?_
    refine lv_icmp_gt (tgt := 14) hx hb dX1_in_7 (by decide) (fun c7 => ?_) (fun c7 => ?_)
    · have hR : m_in p0 p1 p2 = (0 : Int32) := hR.trans (congrArg (fun z => z) (if_pos c7))
      refine lv_iconst (v := 0) hx hb dX1_in_14 rfl ?_
      exact hret (0 : Int32) () hR rfl hE (Nat.le_refl 0) (Nat.le_refl 0) dX1_in_15
    · have hR : m_in p0 p1 p2 = (1 : Int32) := hR.trans (congrArg (fun z => z) (if_neg c7))
      refine lv_iconst (v := 1) hx hb dX1_in_10 rfl ?_
      refine lv_goto (tgt := 15) hx hb dX1_in_11 (by decide) ?_
      exact hret (1 : Int32) () hR rfl hE (Nat.le_refl 0) (Nat.le_refl 0) dX1_in_15
section C_in
variable {p : Program} {l : Launch} {e : Env} {R : Room} {s : State} {mid : MethodId} {args : Array Value} {below : List Frame} {meth : Method} {c : Code} {H : Heap} {locs : List Loc} {Q : State → Prop} {cc : ByteArray} {pc : Nat} {ls : Array Slot} {rest : List Value} {D : va_G} {A : Nat → Prop} {m : Nat} {ar : Nat → Nat} {cs : Nat → ClassId} {Z : ZT} {nL : Nat}
theorem call_m_in {ws : va_W} (hx : p.tables.exec = Jvm.exec) (hb : c.code = cc) (hml : c.maxLocals = nL) (hown : s.vm.findClass RX1 = some mid.cls) (hts : ∀ w ∈ lw_all, w.before args s = true) (hK : KK D cs s) (hA : ∀ q : Nat, s.heap.size ≤ q → A q) (hE : EW D A s.heap ws H locs) (hls : ls.size = nL) (p0 : Int32) (p1 : Int32) (p2 : Int32) (h1 : 1 ≤ R.frames) (h2 : 22 ≤ R.locals) (h3 : (rest.map fun v => v.category).sum ≤ 8) (hd : decode cc pc = .ok (.invokestatic 105, 3)) (kk : ∀ (H1 : Heap) (locs1 : List Loc), EW D A s.heap ws H1 locs1 → W p l e R s mid args below meth c H1 locs1 0 0 Q (F0 mid (pc + 3) ls (.int (m_in p0 p1 p2) :: rest))) : W p l e R s mid args below meth c H locs 0 0 Q (F0 mid pc ls (.int p2 :: .int p1 :: .int p0 :: rest)) :=
  gCall_s (As := [.int p0, .int p1, .int p2]) (rest := rest) hx hb hml hown hts hK hA hE hls (met_m_in l D cs H.size p0 p1 p2) (va_cwS 3 hts (lw_S q1085 q1086 q85 q1087) rfl rfl rfl (by decide +kernel) ⟨h1, h2⟩) rfl rfl h3 hd ⟨Nat.zero_le _, Nat.zero_le _⟩ (fun v H1 locs1 hp hE => by subst hp; exact kk H1 locs1 hE)
end C_in
def m_has (p0 : Int32) (p1 : Nat) : Int32 := (if ((p0 >>> ((nI p1) &&& 31)) &&& (1 : Int32)) = (1 : Int32) then (1 : Int32) else (0 : Int32))
set_option maxHeartbeats 4000000 in
set_option maxRecDepth 100000 in
theorem met_m_has (l : Launch) (D : va_G) (cs : Nat → ClassId) (sz : Nat) (p0 : Int32) (p1 : Nat) : Met l yX1_has (ws_ yX1_has cX1_has 2 (some .boolean)) ({ frames := 0, cells := 0, slots := 0, locals := 0 }) (va_Pc [.int p0, .int (nI p1)] (wSt D cs [] sz)) (cQi (fun (v : Int32) (_ : Unit) => m_has p0 p1 = v) D (fun _ => []) [] sz) 0 0 (va_A [] sz) := by
  refine gStart_i (C := RX1) rfl rfl (Nat.le_of_ble_eq_true rfl) ?_
  intro p e s mid args below meth c R Q A hx hb hml hown hts hK hA hRf hRl hRc hRs hret hE ls hl
  have hRf : 0 ≤ R.frames := hRf
  have hRl : 0 ≤ R.locals := hRl
  have hl : lv_has ls 2 [(0, .int p0), (1, .int (nI p1))] := hl
  have hR : m_has p0 p1 = (if ((p0 >>> ((nI p1) &&& 31)) &&& (1 : Int32)) = (1 : Int32) then (1 : Int32) else (0 : Int32)) := rfl
  refine lv_iload_n hx hb dX1_has_0 rfl (lv_at hl 0 rfl) ?_
  refine lv_iload_n hx hb dX1_has_1 rfl (lv_at hl 1 rfl) ?_
  refine lv_ishr hx hb dX1_has_2 ?_
  refine lv_iconst (v := 1) hx hb dX1_has_3 rfl ?_
  refine lv_iand hx hb dX1_has_4 ?_
  refine lv_iconst (v := 1) hx hb dX1_has_5 rfl ?_
  refine lv_icmp_ne (tgt := 13) hx hb dX1_has_6 (by decide) (fun c6 => ?_) (fun c6 => ?_)
  · have hR : m_has p0 p1 = (0 : Int32) := hR.trans (congrArg (fun z => z) (if_neg c6))
    refine lv_iconst (v := 0) hx hb dX1_has_13 rfl ?_
    exact hret (0 : Int32) () hR rfl hE (Nat.le_refl 0) (Nat.le_refl 0) dX1_has_14
  · have hR : m_has p0 p1 = (1 : Int32) := hR.trans (congrArg (fun z => z) (if_pos c6))
    refine lv_iconst (v := 1) hx hb dX1_has_9 rfl ?_
    refine lv_goto (tgt := 14) hx hb dX1_has_10 (by decide) ?_
    exact hret (1 : Int32) () hR rfl hE (Nat.le_refl 0) (Nat.le_refl 0) dX1_has_14
section C_has
variable {p : Program} {l : Launch} {e : Env} {R : Room} {s : State} {mid : MethodId} {args : Array Value} {below : List Frame} {meth : Method} {c : Code} {H : Heap} {locs : List Loc} {Q : State → Prop} {cc : ByteArray} {pc : Nat} {ls : Array Slot} {rest : List Value} {D : va_G} {A : Nat → Prop} {m : Nat} {ar : Nat → Nat} {cs : Nat → ClassId} {Z : ZT} {nL : Nat}
theorem call_m_has {ws : va_W} (hx : p.tables.exec = Jvm.exec) (hb : c.code = cc) (hml : c.maxLocals = nL) (hown : s.vm.findClass RX1 = some mid.cls) (hts : ∀ w ∈ lw_all, w.before args s = true) (hK : KK D cs s) (hA : ∀ q : Nat, s.heap.size ≤ q → A q) (hE : EW D A s.heap ws H locs) (hls : ls.size = nL) (p0 : Int32) (p1 : Nat) (h1 : 1 ≤ R.frames) (h2 : 21 ≤ R.locals) (h3 : (rest.map fun v => v.category).sum ≤ 8) (hd : decode cc pc = .ok (.invokestatic 240, 3)) (kk : ∀ (H1 : Heap) (locs1 : List Loc), EW D A s.heap ws H1 locs1 → W p l e R s mid args below meth c H1 locs1 0 0 Q (F0 mid (pc + 3) ls (.int (m_has p0 p1) :: rest))) : W p l e R s mid args below meth c H locs 0 0 Q (F0 mid pc ls (.int (nI p1) :: .int p0 :: rest)) :=
  gCall_s (As := [.int p0, .int (nI p1)]) (rest := rest) hx hb hml hown hts hK hA hE hls (met_m_has l D cs H.size p0 p1) (va_cwS 2 hts (lw_S q1272 q1273 q85 q1274) rfl rfl rfl (by decide +kernel) ⟨h1, h2⟩) rfl rfl h3 hd ⟨Nat.zero_le _, Nat.zero_le _⟩ (fun v H1 locs1 hp hE => by subst hp; exact kk H1 locs1 hE)
end C_has
def m_isText (p0 : Int32) : Int32 := (m_in p0 (0 : Int32) (3 : Int32))
theorem isText_vp {v : Int32} (h : ¬ m_isText v = 0) : vp_in v 4 := vp_of_in (lo := 0) (hi := 3) h (by decide) (by decide)
set_option maxHeartbeats 4000000 in
set_option maxRecDepth 100000 in
theorem met_m_isText (l : Launch) (D : va_G) (cs : Nat → ClassId) (sz : Nat) (p0 : Int32) : Met l yX1_isText (ws_ yX1_isText cX1_isText 1 (some .boolean)) ({ frames := 1, cells := 0, slots := 0, locals := 22 }) (va_Pc [.int p0] (wSt D cs [] sz)) (cQi (fun (v : Int32) (_ : Unit) => m_isText p0 = v) D (fun _ => []) [] sz) 0 0 (va_A [] sz) := by
  refine gStart_i (C := RX1) rfl rfl (Nat.le_of_ble_eq_true rfl) ?_
  intro p e s mid args below meth c R Q A hx hb hml hown hts hK hA hRf hRl hRc hRs hret hE ls hl
  have hRf : 1 ≤ R.frames := hRf
  have hRl : 22 ≤ R.locals := hRl
  have hl : lv_has ls 1 [(0, .int p0)] := hl
  have hR : m_isText p0 = (m_in p0 (0 : Int32) (3 : Int32)) := rfl
  refine lv_iload_n hx hb dX1_isText_0 rfl (lv_at hl 0 rfl) ?_
  refine lv_iconst (v := 0) hx hb dX1_isText_1 rfl ?_
  refine lv_iconst (v := 3) hx hb dX1_isText_2 rfl ?_
  refine call_m_in hx hb hml hown hts hK hA hE hl.1 p0 (0 : Int32) (3 : Int32) (lz (show 1 ≤ 1 by decide) hRf) (lz (show 22 ≤ 22 by decide) hRl) (Nat.le_of_ble_eq_true rfl) dX1_isText_3 (fun H locs hE => ?_)
  exact hret (m_in p0 (0 : Int32) (3 : Int32)) () hR (nrw_bool (by first | assumption | exact m_in_01 _ _ _)) hE (Nat.le_refl 0) (Nat.le_refl 0) dX1_isText_6
section C_isText
variable {p : Program} {l : Launch} {e : Env} {R : Room} {s : State} {mid : MethodId} {args : Array Value} {below : List Frame} {meth : Method} {c : Code} {H : Heap} {locs : List Loc} {Q : State → Prop} {cc : ByteArray} {pc : Nat} {ls : Array Slot} {rest : List Value} {D : va_G} {A : Nat → Prop} {m : Nat} {ar : Nat → Nat} {cs : Nat → ClassId} {Z : ZT} {nL : Nat}
theorem call_m_isText {ws : va_W} (hx : p.tables.exec = Jvm.exec) (hb : c.code = cc) (hml : c.maxLocals = nL) (hown : s.vm.findClass RX1 = some mid.cls) (hts : ∀ w ∈ lw_all, w.before args s = true) (hK : KK D cs s) (hA : ∀ q : Nat, s.heap.size ≤ q → A q) (hE : EW D A s.heap ws H locs) (hls : ls.size = nL) (p0 : Int32) (h1 : 2 ≤ R.frames) (h2 : 42 ≤ R.locals) (h3 : (rest.map fun v => v.category).sum ≤ 8) (hd : decode cc pc = .ok (.invokestatic 115, 3)) (kk : ∀ (H1 : Heap) (locs1 : List Loc), EW D A s.heap ws H1 locs1 → W p l e R s mid args below meth c H1 locs1 0 0 Q (F0 mid (pc + 3) ls (.int (m_isText p0) :: rest))) : W p l e R s mid args below meth c H locs 0 0 Q (F0 mid pc ls (.int p0 :: rest)) :=
  gCall_s (As := [.int p0]) (rest := rest) hx hb hml hown hts hK hA hE hls (met_m_isText l D cs H.size p0) (va_cwS 1 hts (lw_S q1104 q1105 q85 q1106) rfl rfl rfl (by decide +kernel) ⟨h1, h2⟩) rfl rfl h3 hd ⟨Nat.zero_le _, Nat.zero_le _⟩ (fun v H1 locs1 hp hE => by subst hp; exact kk H1 locs1 hE)
end C_isText
def m_isPlace (p0 : Int32) : Int32 := (m_in p0 (0 : Int32) (7 : Int32))
theorem isPlace_vp {v : Int32} (h : ¬ m_isPlace v = 0) : vp_in v 8 := vp_of_in (lo := 0) (hi := 7) h (by decide) (by decide)
set_option maxHeartbeats 4000000 in
set_option maxRecDepth 100000 in
theorem met_m_isPlace (l : Launch) (D : va_G) (cs : Nat → ClassId) (sz : Nat) (p0 : Int32) : Met l yX1_isPlace (ws_ yX1_isPlace cX1_isPlace 1 (some .boolean)) ({ frames := 1, cells := 0, slots := 0, locals := 22 }) (va_Pc [.int p0] (wSt D cs [] sz)) (cQi (fun (v : Int32) (_ : Unit) => m_isPlace p0 = v) D (fun _ => []) [] sz) 0 0 (va_A [] sz) := by
  refine gStart_i (C := RX1) rfl rfl (Nat.le_of_ble_eq_true rfl) ?_
  intro p e s mid args below meth c R Q A hx hb hml hown hts hK hA hRf hRl hRc hRs hret hE ls hl
  have hRf : 1 ≤ R.frames := hRf
  have hRl : 22 ≤ R.locals := hRl
  have hl : lv_has ls 1 [(0, .int p0)] := hl
  have hR : m_isPlace p0 = (m_in p0 (0 : Int32) (7 : Int32)) := rfl
  refine lv_iload_n hx hb dX1_isPlace_0 rfl (lv_at hl 0 rfl) ?_
  refine lv_iconst (v := 0) hx hb dX1_isPlace_1 rfl ?_
  refine lv_bipush (v := 7) hx hb dX1_isPlace_2 rfl ?_
  refine call_m_in hx hb hml hown hts hK hA hE hl.1 p0 (0 : Int32) (7 : Int32) (lz (show 1 ≤ 1 by decide) hRf) (lz (show 22 ≤ 22 by decide) hRl) (Nat.le_of_ble_eq_true rfl) dX1_isPlace_4 (fun H locs hE => ?_)
  exact hret (m_in p0 (0 : Int32) (7 : Int32)) () hR (nrw_bool (by first | assumption | exact m_in_01 _ _ _)) hE (Nat.le_refl 0) (Nat.le_refl 0) dX1_isPlace_7
section C_isPlace
variable {p : Program} {l : Launch} {e : Env} {R : Room} {s : State} {mid : MethodId} {args : Array Value} {below : List Frame} {meth : Method} {c : Code} {H : Heap} {locs : List Loc} {Q : State → Prop} {cc : ByteArray} {pc : Nat} {ls : Array Slot} {rest : List Value} {D : va_G} {A : Nat → Prop} {m : Nat} {ar : Nat → Nat} {cs : Nat → ClassId} {Z : ZT} {nL : Nat}
theorem call_m_isPlace {ws : va_W} (hx : p.tables.exec = Jvm.exec) (hb : c.code = cc) (hml : c.maxLocals = nL) (hown : s.vm.findClass RX1 = some mid.cls) (hts : ∀ w ∈ lw_all, w.before args s = true) (hK : KK D cs s) (hA : ∀ q : Nat, s.heap.size ≤ q → A q) (hE : EW D A s.heap ws H locs) (hls : ls.size = nL) (p0 : Int32) (h1 : 2 ≤ R.frames) (h2 : 42 ≤ R.locals) (h3 : (rest.map fun v => v.category).sum ≤ 8) (hd : decode cc pc = .ok (.invokestatic 179, 3)) (kk : ∀ (H1 : Heap) (locs1 : List Loc), EW D A s.heap ws H1 locs1 → W p l e R s mid args below meth c H1 locs1 0 0 Q (F0 mid (pc + 3) ls (.int (m_isPlace p0) :: rest))) : W p l e R s mid args below meth c H locs 0 0 Q (F0 mid pc ls (.int p0 :: rest)) :=
  gCall_s (As := [.int p0]) (rest := rest) hx hb hml hown hts hK hA hE hls (met_m_isPlace l D cs H.size p0) (va_cwS 1 hts (lw_S q1180 q1181 q85 q1182) rfl rfl rfl (by decide +kernel) ⟨h1, h2⟩) rfl rfl h3 hd ⟨Nat.zero_le _, Nat.zero_le _⟩ (fun v H1 locs1 hp hE => by subst hp; exact kk H1 locs1 hE)
end C_isPlace
def m_bitsOf_b4 (p0 : Int32) (i4 : Nat) (w4 : Int32) : Int32 := (w4 + ((p0 >>> ((nI i4) &&& 31)) &&& (1 : Int32)))
def m_bitsOf_e4 (w4 : Int32) : Int32 := w4
def m_bitsOf (p0 : Int32) : Int32 := m_bitsOf_e4 (itR (m_bitsOf_b4 p0) 0 8 (0 : Int32))
set_option maxHeartbeats 4000000 in
set_option maxRecDepth 100000 in
theorem met_m_bitsOf (l : Launch) (D : va_G) (cs : Nat → ClassId) (sz : Nat) (p0 : Int32) : Met l yX1_bitsOf (ws_ yX1_bitsOf cX1_bitsOf 3 (some .int)) ({ frames := 0, cells := 0, slots := 0, locals := 0 }) (va_Pc [.int p0] (wSt D cs [] sz)) (cQi (fun (v : Int32) (_ : Unit) => m_bitsOf p0 = v) D (fun _ => []) [] sz) 0 0 (va_A [] sz) := by
  refine gStart_i (C := RX1) rfl rfl (Nat.le_of_ble_eq_true rfl) ?_
  intro p e s mid args below meth c R Q A hx hb hml hown hts hK hA hRf hRl hRc hRs hret hE ls hl
  have hRf : 0 ≤ R.frames := hRf
  have hRl : 0 ≤ R.locals := hRl
  have hl : lv_has ls 3 [(0, .int p0)] := hl
  have hR : m_bitsOf p0 = (m_bitsOf_e4 (itR (m_bitsOf_b4 p0) 0 8 (0 : Int32))) := rfl
  refine lv_iconst (v := 0) hx hb dX1_bitsOf_0 rfl ?_
  refine lv_istore_n (lv' := [(1, .int (0 : Int32)), (0, .int p0)]) hx hb dX1_bitsOf_1 rfl hl (by decide) rfl (fun ls hl => ?_)
  refine lv_iconst (v := 0) hx hb dX1_bitsOf_2 rfl ?_
  refine lv_istore_n (lv' := [(2, .int (0 : Int32)), (1, .int (0 : Int32)), (0, .int p0)]) hx hb dX1_bitsOf_3 rfl hl (by decide) rfl (fun ls hl => ?_)
  have hL4 : ∀ (k i4 : Nat) (w4 : Int32) (hi4 : i4 + k = 8) (hR : m_bitsOf p0 = m_bitsOf_e4 (itR (m_bitsOf_b4 p0) i4 k w4)), ∀ (H : Heap) (locs : List Loc) (ls : Array Slot), EW D A s.heap [] H locs → lv_has ls 3 [(0, .int p0), (1, .int w4), (2, .int (nI i4))] → W p l e R s mid args below meth c H locs 0 0 Q (F0 mid 4 ls []) := by
    intro k
    induction k with
    | zero =>
      intro i4 w4 hi4 hR H locs ls hE hl
      have hie4 : i4 = 8 := by omega
      have hR : m_bitsOf p0 = w4 := hR
      refine lv_iload_n hx hb dX1_bitsOf_4 rfl (lv_at hl 2 rfl) ?_
      refine lv_bipush (v := 8) hx hb dX1_bitsOf_5 rfl ?_
      refine n_geT (a := i4) (b := 8) (by omega) (by omega) hx hb dX1_bitsOf_7 (tgt := 24) (by decide) ?_
      have hl := lv_sub (l' := [(0, .int p0), (1, .int w4)]) hl [0, 1] rfl
      refine lv_iload_n hx hb dX1_bitsOf_24 rfl (lv_at hl 1 rfl) ?_
      exact hret w4 () hR rfl hE (Nat.le_refl 0) (Nat.le_refl 0) dX1_bitsOf_25
    | succ k ih4 =>
      intro i4 w4 hi4 hR H locs ls hE hl
      have hlt4 : i4 < 8 := by omega
      have hB4 : m_bitsOf_b4 p0 i4 w4 = (w4 + ((p0 >>> ((nI i4) &&& 31)) &&& (1 : Int32))) := rfl
      refine lv_iload_n hx hb dX1_bitsOf_4 rfl (lv_at hl 2 rfl) ?_
      refine lv_bipush (v := 8) hx hb dX1_bitsOf_5 rfl ?_
      refine n_geF (a := i4) (b := 8) (by omega) (by omega) hx hb dX1_bitsOf_7 (tgt := 24) (by decide) ?_
      refine lv_iload_n hx hb dX1_bitsOf_10 rfl (lv_at hl 1 rfl) ?_
      refine lv_iload_n hx hb dX1_bitsOf_11 rfl (lv_at hl 0 rfl) ?_
      refine lv_iload_n hx hb dX1_bitsOf_12 rfl (lv_at hl 2 rfl) ?_
      refine lv_ishr hx hb dX1_bitsOf_13 ?_
      refine lv_iconst (v := 1) hx hb dX1_bitsOf_14 rfl ?_
      refine lv_iand hx hb dX1_bitsOf_15 ?_
      refine lv_iadd hx hb dX1_bitsOf_16 ?_
      refine lv_istore_n (lv' := [(1, .int (w4 + ((p0 >>> ((nI i4) &&& 31)) &&& (1 : Int32)))), (0, .int p0), (2, .int (nI i4))]) hx hb dX1_bitsOf_17 rfl hl (by decide) rfl (fun ls hl => ?_)
      refine n_inc (lv' := [(2, .int (nI (i4 + 1))), (1, .int (w4 + ((p0 >>> ((nI i4) &&& 31)) &&& (1 : Int32)))), (0, .int p0)]) hx hb dX1_bitsOf_18 hl (k := 2) rfl (by decide) rfl (fun ls hl => ?_)
      refine lv_goto (tgt := 4) hx hb dX1_bitsOf_21 (by decide) ?_
      exact ih4 (i4 + 1) (w4 + ((p0 >>> ((nI i4) &&& 31)) &&& (1 : Int32))) (by omega) (hR.trans (congrArg (fun z => m_bitsOf_e4 (itR (m_bitsOf_b4 p0) (i4 + 1) k z)) hB4)) _ _ _ hE (lv_sub hl [2, 1, 0] rfl)
  exact hL4 8 0 (0 : Int32) (by omega) hR _ _ _ hE (lv_sub hl [2, 1, 0] rfl)
section C_bitsOf
variable {p : Program} {l : Launch} {e : Env} {R : Room} {s : State} {mid : MethodId} {args : Array Value} {below : List Frame} {meth : Method} {c : Code} {H : Heap} {locs : List Loc} {Q : State → Prop} {cc : ByteArray} {pc : Nat} {ls : Array Slot} {rest : List Value} {D : va_G} {A : Nat → Prop} {m : Nat} {ar : Nat → Nat} {cs : Nat → ClassId} {Z : ZT} {nL : Nat}
theorem call_m_bitsOf {ws : va_W} (hx : p.tables.exec = Jvm.exec) (hb : c.code = cc) (hml : c.maxLocals = nL) (hown : s.vm.findClass RX1 = some mid.cls) (hts : ∀ w ∈ lw_all, w.before args s = true) (hK : KK D cs s) (hA : ∀ q : Nat, s.heap.size ≤ q → A q) (hE : EW D A s.heap ws H locs) (hls : ls.size = nL) (p0 : Int32) (h1 : 1 ≤ R.frames) (h2 : 22 ≤ R.locals) (h3 : (rest.map fun v => v.category).sum ≤ 8) (hd : decode cc pc = .ok (.invokestatic 258, 3)) (kk : ∀ (H1 : Heap) (locs1 : List Loc), EW D A s.heap ws H1 locs1 → W p l e R s mid args below meth c H1 locs1 0 0 Q (F0 mid (pc + 3) ls (.int (m_bitsOf p0) :: rest))) : W p l e R s mid args below meth c H locs 0 0 Q (F0 mid pc ls (.int p0 :: rest)) :=
  gCall_s (As := [.int p0]) (rest := rest) hx hb hml hown hts hK hA hE hls (met_m_bitsOf l D cs H.size p0) (va_cwS 1 hts (lw_S q1311 q1312 q85 q1313) rfl rfl rfl (by decide +kernel) ⟨h1, h2⟩) rfl rfl h3 hd ⟨Nat.zero_le _, Nat.zero_le _⟩ (fun v H1 locs1 hp hE => by subst hp; exact kk H1 locs1 hE)
end C_bitsOf
def m_meets (p1 : Nat) (Z : ZT) : Int32 × ZT := ((-3 : Int32), sI (sI Z 0 0 (nI p1)) 1 p1 ((Z.1 1 p1) + (1 : Int32)))
set_option maxHeartbeats 4000000 in
set_option maxRecDepth 100000 in
theorem met_m_meets (l : Launch) (D : va_G) (cs : Nat → ClassId) (m : Nat) (ar : Nat → Nat) (Z : ZT) (sz : Nat) (p1 : Nat) (hn1 : p1 < 6) : Met l yX1_meets (ws_ yX1_meets cX1_meets 2 (some .int)) ({ frames := 0, cells := 0, slots := 0, locals := 0 }) (va_Pc [.ref m, .int (nI p1)] (wSt D cs (MW m ar cs Z) sz)) (cQi (fun (v : Int32) (u : ZT) => m_meets p1 Z = (v, u)) D (fun u => MW m ar cs u) (MW m ar cs Z) sz) 0 0 (va_A (MW m ar cs Z) sz) := by
  refine gStart_i (C := RX1) rfl rfl (Nat.le_of_ble_eq_true rfl) ?_
  intro p e s mid args below meth c R Q A hx hb hml hown hts hK hA hRf hRl hRc hRs hret hE ls hl
  have hRf : 0 ≤ R.frames := hRf
  have hRl : 0 ≤ R.locals := hRl
  have hl : lv_has ls 2 [(0, .ref m), (1, .int (nI p1))] := hl
  have hR : m_meets p1 Z = ((-3 : Int32), sI (sI Z 0 0 (nI p1)) 1 p1 ((Z.1 1 p1) + (1 : Int32))) := rfl
  refine lv_aload_n hx hb dX1_meets_0 rfl (lv_at hl 0 rfl) ?_
  refine lv_iload_n hx hb dX1_meets_1 rfl (lv_at hl 1 rfl) ?_
  refine mp_0 hx hb hts hown hK hE dX1_meets_2 (fun H locs hE => ?_)
  refine lv_aload_n hx hb dX1_meets_5 rfl (lv_at hl 0 rfl) ?_
  refine mg_1 hx hb hts hown hK hE dX1_meets_6 ?_
  refine lv_iload_n hx hb dX1_meets_9 rfl (lv_at hl 1 rfl) ?_
  refine lv_dup2_11 hx hb dX1_meets_10 rfl rfl ?_
  refine ma_1 (n := p1) (by omega) hx hb hK hE dX1_meets_11 ?_
  refine lv_iconst (v := 1) hx hb dX1_meets_12 rfl ?_
  refine lv_iadd hx hb dX1_meets_13 ?_
  refine ms_1 (n := p1) (by omega) hx hb hK hE dX1_meets_14 (fun H locs hE => ?_)
  refine lv_bipush (v := -3) hx hb dX1_meets_15 rfl ?_
  exact hret (-3 : Int32) (sI (sI Z 0 0 (nI p1)) 1 p1 ((Z.1 1 p1) + (1 : Int32))) hR rfl hE (Nat.le_refl 0) (Nat.le_refl 0) dX1_meets_17
section C_meets
variable {p : Program} {l : Launch} {e : Env} {R : Room} {s : State} {mid : MethodId} {args : Array Value} {below : List Frame} {meth : Method} {c : Code} {H : Heap} {locs : List Loc} {Q : State → Prop} {cc : ByteArray} {pc : Nat} {ls : Array Slot} {rest : List Value} {D : va_G} {A : Nat → Prop} {m : Nat} {ar : Nat → Nat} {cs : Nat → ClassId} {Z : ZT} {nL : Nat}
theorem call_m_meets (hx : p.tables.exec = Jvm.exec) (hb : c.code = cc) (hml : c.maxLocals = nL) (hown : s.vm.findClass RX1 = some mid.cls) (hts : ∀ w ∈ lw_all, w.before args s = true) (hK : KK D cs s) (hA : ∀ q : Nat, s.heap.size ≤ q → A q) (hE : EW D A s.heap (MW m ar cs Z) H locs) (hls : ls.size = nL) (p1 : Nat) (hn1 : p1 < 6) (h1 : 1 ≤ R.frames) (h2 : 21 ≤ R.locals) (h3 : (rest.map fun v => v.category).sum ≤ 8) (hd : decode cc pc = .ok (.invokevirtual 119, 3)) (kk : ∀ (H1 : Heap) (locs1 : List Loc), EW D A s.heap (MW m ar cs (m_meets p1 Z).2) H1 locs1 → W p l e R s mid args below meth c H1 locs1 0 0 Q (F0 mid (pc + 3) ls (.int (m_meets p1 Z).1 :: rest))) : W p l e R s mid args below meth c H locs 0 0 Q (F0 mid pc ls (.int (nI p1) :: .ref m :: rest)) :=
  gCall_i (As := [.int (nI p1)]) (rest := rest) (q0 := 0) (ci := 1) (fs := MF ar Z) (T' := TX1) (N' := 52) hx hb hml hown hts hK hA hE hls (met_m_meets l D cs m ar Z H.size p1 hn1) (cwV 1 hts (lw_V q1107 q1109 qs40 q85 q1110) rfl rfl rfl (by decide +kernel) ⟨h1, h2⟩) rfl rfl rfl rfl h3 hd ⟨Nat.zero_le _, Nat.zero_le _⟩ (fun v u H1 locs1 hp _ hE => by rw [hp] at kk; exact kk H1 locs1 hE)
end C_meets
def m_finding (Z : ZT) : Int32 := Z.1 0 0
set_option maxHeartbeats 4000000 in
set_option maxRecDepth 100000 in
theorem met_m_finding (l : Launch) (D : va_G) (cs : Nat → ClassId) (m : Nat) (ar : Nat → Nat) (Z : ZT) (sz : Nat)  : Met l yX1_finding (ws_ yX1_finding cX1_finding 1 (some .int)) ({ frames := 0, cells := 0, slots := 0, locals := 0 }) (va_Pc [.ref m] (wSt D cs (MW m ar cs Z) sz)) (cQi (fun (v : Int32) (_ : Unit) => m_finding Z = v) D (fun _ => (MW m ar cs Z)) (MW m ar cs Z) sz) 0 0 (va_A (MW m ar cs Z) sz) := by
  refine gStart_i (C := RX1) rfl rfl (Nat.le_of_ble_eq_true rfl) ?_
  intro p e s mid args below meth c R Q A hx hb hml hown hts hK hA hRf hRl hRc hRs hret hE ls hl
  have hRf : 0 ≤ R.frames := hRf
  have hRl : 0 ≤ R.locals := hRl
  have hl : lv_has ls 1 [(0, .ref m)] := hl
  have hR : m_finding Z = (Z.1 0 0) := rfl
  refine lv_aload_n hx hb dX1_finding_0 rfl (lv_at hl 0 rfl) ?_
  refine mg_0 hx hb hts hown hK hE dX1_finding_1 ?_
  exact hret (Z.1 0 0) () hR rfl hE (Nat.le_refl 0) (Nat.le_refl 0) dX1_finding_4
def m_findings (p1 : Int32) (Z : ZT) : Int32 := (if (m_in p1 (1 : Int32) (5 : Int32)) = 0 then (-1 : Int32) else Z.1 1 (ix p1))
set_option maxHeartbeats 4000000 in
set_option maxRecDepth 100000 in
theorem met_m_findings (l : Launch) (D : va_G) (cs : Nat → ClassId) (m : Nat) (ar : Nat → Nat) (Z : ZT) (sz : Nat) (p1 : Int32) : Met l yX1_findings (ws_ yX1_findings cX1_findings 2 (some .int)) ({ frames := 1, cells := 0, slots := 0, locals := 22 }) (va_Pc [.ref m, .int p1] (wSt D cs (MW m ar cs Z) sz)) (cQi (fun (v : Int32) (_ : Unit) => m_findings p1 Z = v) D (fun _ => (MW m ar cs Z)) (MW m ar cs Z) sz) 0 0 (va_A (MW m ar cs Z) sz) := by
  refine gStart_i (C := RX1) rfl rfl (Nat.le_of_ble_eq_true rfl) ?_
  intro p e s mid args below meth c R Q A hx hb hml hown hts hK hA hRf hRl hRc hRs hret hE ls hl
  have hRf : 1 ≤ R.frames := hRf
  have hRl : 22 ≤ R.locals := hRl
  have hl : lv_has ls 2 [(0, .ref m), (1, .int p1)] := hl
  have hR : m_findings p1 Z = (if (m_in p1 (1 : Int32) (5 : Int32)) = 0 then (-1 : Int32) else Z.1 1 (ix p1)) := rfl
  refine lv_iload_n hx hb dX1_findings_0 rfl (lv_at hl 1 rfl) ?_
  refine lv_iconst (v := 1) hx hb dX1_findings_1 rfl ?_
  refine lv_iconst (v := 5) hx hb dX1_findings_2 rfl ?_
  refine call_m_in hx hb hml hown hts hK hA hE hl.1 p1 (1 : Int32) (5 : Int32) (lz (show 1 ≤ 1 by decide) hRf) (lz (show 22 ≤ 22 by decide) hRl) (Nat.le_of_ble_eq_true rfl) dX1_findings_3 (fun H locs hE => ?_)
  refine lv_if_eq (tgt := 18) hx hb dX1_findings_6 (by decide) (fun c6 => ?_) (fun c6 => ?_)
  · have hR : m_findings p1 Z = (-1 : Int32) := hR.trans (congrArg (fun z => z) (if_pos c6))
    refine lv_iconst (v := -1) hx hb dX1_findings_18 rfl ?_
    exact hret (-1 : Int32) () hR rfl hE (Nat.le_refl 0) (Nat.le_refl 0) dX1_findings_19
  · have hR : m_findings p1 Z = (Z.1 1 (ix p1)) := hR.trans (congrArg (fun z => z) (if_neg c6))
    have hnp1 := vp_ix (x := p1) (N := 6) (vp_of_in c6 (by decide) (by decide)) (by decide)
    have hbnp1 := hnp1.2
    refine lv_aload_n hx hb dX1_findings_9 rfl (lv_at hl 0 rfl) ?_
    refine mg_1 hx hb hts hown hK hE dX1_findings_10 ?_
    refine lv_iload_n hx hb dX1_findings_13 rfl (lv_at hl 1 rfl) ?_
    refine top_nat hnp1.1 ?_
    refine ma_1 (n := (ix p1)) (by omega) hx hb hK hE dX1_findings_14 ?_
    refine lv_goto (tgt := 19) hx hb dX1_findings_15 (by decide) ?_
    exact hret (Z.1 1 (ix p1)) () hR rfl hE (Nat.le_refl 0) (Nat.le_refl 0) dX1_findings_19
def m_tells (p1 : Int32) (p2 : Int32) (Z : ZT) : Int32 × ZT := (p2, sI Z 2 0 p1)
set_option maxHeartbeats 4000000 in
set_option maxRecDepth 100000 in
theorem met_m_tells (l : Launch) (D : va_G) (cs : Nat → ClassId) (m : Nat) (ar : Nat → Nat) (Z : ZT) (sz : Nat) (p1 : Int32) (p2 : Int32) : Met l yX1_tells (ws_ yX1_tells cX1_tells 3 (some .int)) ({ frames := 0, cells := 0, slots := 0, locals := 0 }) (va_Pc [.ref m, .int p1, .int p2] (wSt D cs (MW m ar cs Z) sz)) (cQi (fun (v : Int32) (u : ZT) => m_tells p1 p2 Z = (v, u)) D (fun u => MW m ar cs u) (MW m ar cs Z) sz) 0 0 (va_A (MW m ar cs Z) sz) := by
  refine gStart_i (C := RX1) rfl rfl (Nat.le_of_ble_eq_true rfl) ?_
  intro p e s mid args below meth c R Q A hx hb hml hown hts hK hA hRf hRl hRc hRs hret hE ls hl
  have hRf : 0 ≤ R.frames := hRf
  have hRl : 0 ≤ R.locals := hRl
  have hl : lv_has ls 3 [(0, .ref m), (1, .int p1), (2, .int p2)] := hl
  have hR : m_tells p1 p2 Z = (p2, sI Z 2 0 p1) := rfl
  refine lv_aload_n hx hb dX1_tells_0 rfl (lv_at hl 0 rfl) ?_
  refine lv_iload_n hx hb dX1_tells_1 rfl (lv_at hl 1 rfl) ?_
  refine mp_2 hx hb hts hown hK hE dX1_tells_2 (fun H locs hE => ?_)
  refine lv_iload_n hx hb dX1_tells_5 rfl (lv_at hl 2 rfl) ?_
  exact hret p2 (sI Z 2 0 p1) hR rfl hE (Nat.le_refl 0) (Nat.le_refl 0) dX1_tells_6
section C_tells
variable {p : Program} {l : Launch} {e : Env} {R : Room} {s : State} {mid : MethodId} {args : Array Value} {below : List Frame} {meth : Method} {c : Code} {H : Heap} {locs : List Loc} {Q : State → Prop} {cc : ByteArray} {pc : Nat} {ls : Array Slot} {rest : List Value} {D : va_G} {A : Nat → Prop} {m : Nat} {ar : Nat → Nat} {cs : Nat → ClassId} {Z : ZT} {nL : Nat}
theorem call_m_tells (hx : p.tables.exec = Jvm.exec) (hb : c.code = cc) (hml : c.maxLocals = nL) (hown : s.vm.findClass RX1 = some mid.cls) (hts : ∀ w ∈ lw_all, w.before args s = true) (hK : KK D cs s) (hA : ∀ q : Nat, s.heap.size ≤ q → A q) (hE : EW D A s.heap (MW m ar cs Z) H locs) (hls : ls.size = nL) (p1 : Int32) (p2 : Int32) (h1 : 1 ≤ R.frames) (h2 : 22 ≤ R.locals) (h3 : (rest.map fun v => v.category).sum ≤ 8) (hd : decode cc pc = .ok (.invokevirtual 246, 3)) (kk : ∀ (H1 : Heap) (locs1 : List Loc), EW D A s.heap (MW m ar cs (m_tells p1 p2 Z).2) H1 locs1 → W p l e R s mid args below meth c H1 locs1 0 0 Q (F0 mid (pc + 3) ls (.int (m_tells p1 p2 Z).1 :: rest))) : W p l e R s mid args below meth c H locs 0 0 Q (F0 mid pc ls (.int p2 :: .int p1 :: .ref m :: rest)) :=
  gCall_i (As := [.int p1, .int p2]) (rest := rest) (q0 := 0) (ci := 1) (fs := MF ar Z) (T' := TX1) (N' := 52) hx hb hml hown hts hK hA hE hls (met_m_tells l D cs m ar Z H.size p1 p2) (cwV 2 hts (lw_V q1287 q1289 qs64 q85 q1290) rfl rfl rfl (by decide +kernel) ⟨h1, h2⟩) rfl rfl rfl rfl h3 hd ⟨Nat.zero_le _, Nat.zero_le _⟩ (fun v u H1 locs1 hp _ hE => by rw [hp] at kk; exact kk H1 locs1 hE)
end C_tells
def m_asked (Z : ZT) : Int32 := Z.1 2 0
set_option maxHeartbeats 4000000 in
set_option maxRecDepth 100000 in
theorem met_m_asked (l : Launch) (D : va_G) (cs : Nat → ClassId) (m : Nat) (ar : Nat → Nat) (Z : ZT) (sz : Nat)  : Met l yX1_asked (ws_ yX1_asked cX1_asked 1 (some .int)) ({ frames := 0, cells := 0, slots := 0, locals := 0 }) (va_Pc [.ref m] (wSt D cs (MW m ar cs Z) sz)) (cQi (fun (v : Int32) (_ : Unit) => m_asked Z = v) D (fun _ => (MW m ar cs Z)) (MW m ar cs Z) sz) 0 0 (va_A (MW m ar cs Z) sz) := by
  refine gStart_i (C := RX1) rfl rfl (Nat.le_of_ble_eq_true rfl) ?_
  intro p e s mid args below meth c R Q A hx hb hml hown hts hK hA hRf hRl hRc hRs hret hE ls hl
  have hRf : 0 ≤ R.frames := hRf
  have hRl : 0 ≤ R.locals := hRl
  have hl : lv_has ls 1 [(0, .ref m)] := hl
  have hR : m_asked Z = (Z.1 2 0) := rfl
  refine lv_aload_n hx hb dX1_asked_0 rfl (lv_at hl 0 rfl) ?_
  refine mg_2 hx hb hts hown hK hE dX1_asked_1 ?_
  exact hret (Z.1 2 0) () hR rfl hE (Nat.le_refl 0) (Nat.le_refl 0) dX1_asked_4
def m_upper (Z : ZT) : Int64 := Z.2 3 0
set_option maxHeartbeats 4000000 in
set_option maxRecDepth 100000 in
theorem met_m_upper (l : Launch) (D : va_G) (cs : Nat → ClassId) (m : Nat) (ar : Nat → Nat) (Z : ZT) (sz : Nat)  : Met l yX1_upper (ws_ yX1_upper cX1_upper 1 (some .long)) ({ frames := 0, cells := 0, slots := 0, locals := 0 }) (va_Pc [.ref m] (wSt D cs (MW m ar cs Z) sz)) (cQl (fun (v : Int64) (_ : Unit) => m_upper Z = v) D (fun _ => (MW m ar cs Z)) (MW m ar cs Z) sz) 0 0 (va_A (MW m ar cs Z) sz) := by
  refine gStart_l (C := RX1) rfl rfl (Nat.le_of_ble_eq_true rfl) ?_
  intro p e s mid args below meth c R Q A hx hb hml hown hts hK hA hRf hRl hRc hRs hret hE ls hl
  have hRf : 0 ≤ R.frames := hRf
  have hRl : 0 ≤ R.locals := hRl
  have hl : lv_has ls 1 [(0, .ref m)] := hl
  have hR : m_upper Z = (Z.2 3 0) := rfl
  refine lv_aload_n hx hb dX1_upper_0 rfl (lv_at hl 0 rfl) ?_
  refine mg_3 hx hb hts hown hK hE dX1_upper_1 ?_
  exact hret (Z.2 3 0) () hR hE (Nat.le_refl 0) (Nat.le_refl 0) dX1_upper_4
def m_lower (Z : ZT) : Int64 := Z.2 4 0
set_option maxHeartbeats 4000000 in
set_option maxRecDepth 100000 in
theorem met_m_lower (l : Launch) (D : va_G) (cs : Nat → ClassId) (m : Nat) (ar : Nat → Nat) (Z : ZT) (sz : Nat)  : Met l yX1_lower (ws_ yX1_lower cX1_lower 1 (some .long)) ({ frames := 0, cells := 0, slots := 0, locals := 0 }) (va_Pc [.ref m] (wSt D cs (MW m ar cs Z) sz)) (cQl (fun (v : Int64) (_ : Unit) => m_lower Z = v) D (fun _ => (MW m ar cs Z)) (MW m ar cs Z) sz) 0 0 (va_A (MW m ar cs Z) sz) := by
  refine gStart_l (C := RX1) rfl rfl (Nat.le_of_ble_eq_true rfl) ?_
  intro p e s mid args below meth c R Q A hx hb hml hown hts hK hA hRf hRl hRc hRs hret hE ls hl
  have hRf : 0 ≤ R.frames := hRf
  have hRl : 0 ≤ R.locals := hRl
  have hl : lv_has ls 1 [(0, .ref m)] := hl
  have hR : m_lower Z = (Z.2 4 0) := rfl
  refine lv_aload_n hx hb dX1_lower_0 rfl (lv_at hl 0 rfl) ?_
  refine mg_4 hx hb hts hown hK hE dX1_lower_1 ?_
  exact hret (Z.2 4 0) () hR hE (Nat.le_refl 0) (Nat.le_refl 0) dX1_lower_4
def m_eats (p1 : Nat) (Z : ZT) : Int32 := (if Z.1 14 p1 < (2 : Int32) then (0 : Int32) else (1 : Int32))
set_option maxHeartbeats 4000000 in
set_option maxRecDepth 100000 in
theorem met_m_eats (l : Launch) (D : va_G) (cs : Nat → ClassId) (m : Nat) (ar : Nat → Nat) (Z : ZT) (sz : Nat) (p1 : Nat) (hn1 : p1 < 8) : Met l yX1_eats (ws_ yX1_eats cX1_eats 2 (some .boolean)) ({ frames := 0, cells := 0, slots := 0, locals := 0 }) (va_Pc [.ref m, .int (nI p1)] (wSt D cs (MW m ar cs Z) sz)) (cQi (fun (v : Int32) (_ : Unit) => m_eats p1 Z = v) D (fun _ => (MW m ar cs Z)) (MW m ar cs Z) sz) 0 0 (va_A (MW m ar cs Z) sz) := by
  refine gStart_i (C := RX1) rfl rfl (Nat.le_of_ble_eq_true rfl) ?_
  intro p e s mid args below meth c R Q A hx hb hml hown hts hK hA hRf hRl hRc hRs hret hE ls hl
  have hRf : 0 ≤ R.frames := hRf
  have hRl : 0 ≤ R.locals := hRl
  have hl : lv_has ls 2 [(0, .ref m), (1, .int (nI p1))] := hl
  have hR : m_eats p1 Z = (if Z.1 14 p1 < (2 : Int32) then (0 : Int32) else (1 : Int32)) := rfl
  refine lv_aload_n hx hb dX1_eats_0 rfl (lv_at hl 0 rfl) ?_
  refine mg_14 hx hb hts hown hK hE dX1_eats_1 ?_
  refine lv_iload_n hx hb dX1_eats_4 rfl (lv_at hl 1 rfl) ?_
  refine ma_14 (n := p1) (by omega) hx hb hK hE dX1_eats_5 ?_
  refine lv_iconst (v := 2) hx hb dX1_eats_6 rfl ?_
  refine lv_icmp_lt (tgt := 14) hx hb dX1_eats_7 (by decide) (fun c7 => ?_) (fun c7 => ?_)
  · have hR : m_eats p1 Z = (0 : Int32) := hR.trans (congrArg (fun z => z) (if_pos c7))
    refine lv_iconst (v := 0) hx hb dX1_eats_14 rfl ?_
    exact hret (0 : Int32) () hR rfl hE (Nat.le_refl 0) (Nat.le_refl 0) dX1_eats_15
  · have hR : m_eats p1 Z = (1 : Int32) := hR.trans (congrArg (fun z => z) (if_neg c7))
    refine lv_iconst (v := 1) hx hb dX1_eats_10 rfl ?_
    refine lv_goto (tgt := 15) hx hb dX1_eats_11 (by decide) ?_
    exact hret (1 : Int32) () hR rfl hE (Nat.le_refl 0) (Nat.le_refl 0) dX1_eats_15
section C_eats
variable {p : Program} {l : Launch} {e : Env} {R : Room} {s : State} {mid : MethodId} {args : Array Value} {below : List Frame} {meth : Method} {c : Code} {H : Heap} {locs : List Loc} {Q : State → Prop} {cc : ByteArray} {pc : Nat} {ls : Array Slot} {rest : List Value} {D : va_G} {A : Nat → Prop} {m : Nat} {ar : Nat → Nat} {cs : Nat → ClassId} {Z : ZT} {nL : Nat}
theorem call_m_eats (hx : p.tables.exec = Jvm.exec) (hb : c.code = cc) (hml : c.maxLocals = nL) (hown : s.vm.findClass RX1 = some mid.cls) (hts : ∀ w ∈ lw_all, w.before args s = true) (hK : KK D cs s) (hA : ∀ q : Nat, s.heap.size ≤ q → A q) (hE : EW D A s.heap (MW m ar cs Z) H locs) (hls : ls.size = nL) (p1 : Nat) (hn1 : p1 < 8) (h1 : 1 ≤ R.frames) (h2 : 21 ≤ R.locals) (h3 : (rest.map fun v => v.category).sum ≤ 8) (hd : decode cc pc = .ok (.invokevirtual 168, 3)) (kk : ∀ (H1 : Heap) (locs1 : List Loc), EW D A s.heap (MW m ar cs Z) H1 locs1 → W p l e R s mid args below meth c H1 locs1 0 0 Q (F0 mid (pc + 3) ls (.int (m_eats p1 Z) :: rest))) : W p l e R s mid args below meth c H locs 0 0 Q (F0 mid pc ls (.int (nI p1) :: .ref m :: rest)) :=
  gCall_i (As := [.int (nI p1)]) (rest := rest) (q0 := 0) (ci := 1) (fs := MF ar Z) (T' := TX1) (N' := 52) hx hb hml hown hts hK hA hE hls (met_m_eats l D cs m ar Z H.size p1 hn1) (cwV 1 hts (lw_V q1172 q1174 qs51 q85 q1175) rfl rfl rfl (by decide +kernel) ⟨h1, h2⟩) rfl rfl rfl rfl h3 hd ⟨Nat.zero_le _, Nat.zero_le _⟩ (fun v u H1 locs1 hp _ hE => by subst hp; exact kk H1 locs1 hE)
end C_eats
def m_layLink_j59 (p1 : Nat) (p2 : Nat) (p3 : Int32) (Z : ZT) (w27 : Int32) (w59 : Int32) : ZT := (if w27 = 0 then sI (sI (sI Z 23 ((8 * p1) + p2) p3) 24 ((8 * p1) + p2) w59) 25 ((8 * p1) + p2) (Z.1 25 ((8 * p1) + p2)) else sI (sI (sI Z 23 ((8 * p1) + p2) p3) 24 ((8 * p1) + p2) w59) 25 ((8 * p1) + p2) (1000 : Int32))
def m_layLink_j27 (p1 : Nat) (p2 : Nat) (p3 : Int32) (Z : ZT) (w27 : Int32) : ZT := m_layLink_j59 p1 p2 p3 Z w27 (if w27 = 0 then Z.1 24 ((8 * p1) + p2) else (0 : Int32))
def m_layLink (p1 : Nat) (p2 : Nat) (p3 : Int32) (Z : ZT) : ZT := m_layLink_j27 p1 p2 p3 Z (if Z.1 23 ((8 * p1) + p2) = 0 then (1 : Int32) else (if p3 = 0 then (1 : Int32) else (0 : Int32)))
set_option maxHeartbeats 4000000 in
set_option maxRecDepth 100000 in
theorem met_m_layLink (l : Launch) (D : va_G) (cs : Nat → ClassId) (m : Nat) (ar : Nat → Nat) (Z : ZT) (sz : Nat) (p1 : Nat) (p2 : Nat) (p3 : Int32) (hn1 : p1 < 8) (hn2 : p2 < 8) : Met l yX1_layLink (ws_ yX1_layLink cX1_layLink 6 none) ({ frames := 0, cells := 0, slots := 0, locals := 0 }) (va_Pc [.ref m, .int (nI p1), .int (nI p2), .int p3] (wSt D cs (MW m ar cs Z) sz)) (cQv (fun (u : ZT) => m_layLink p1 p2 p3 Z = u) D (fun u => MW m ar cs u) (MW m ar cs Z) sz) 0 0 (va_A (MW m ar cs Z) sz) := by
  refine gStart_v (C := RX1) rfl rfl (Nat.le_of_ble_eq_true rfl) ?_
  intro p e s mid args below meth c R Q A hx hb hml hown hts hK hA hRf hRl hRc hRs hnm hret hE ls hl
  have hRf : 0 ≤ R.frames := hRf
  have hRl : 0 ≤ R.locals := hRl
  have hl : lv_has ls 6 [(0, .ref m), (1, .int (nI p1)), (2, .int (nI p2)), (3, .int p3)] := hl
  have hR : m_layLink p1 p2 p3 Z = (m_layLink_j27 p1 p2 p3 Z (if Z.1 23 ((8 * p1) + p2) = 0 then (1 : Int32) else (if p3 = 0 then (1 : Int32) else (0 : Int32)))) := rfl
  refine lv_bipush (v := 8) hx hb dX1_layLink_0 rfl ?_
  refine lv_iload_n hx hb dX1_layLink_2 rfl (lv_at hl 1 rfl) ?_
  refine n_mul (a := 8) (b := p1) hx hb dX1_layLink_3 ?_
  refine lv_iload_n hx hb dX1_layLink_4 rfl (lv_at hl 2 rfl) ?_
  refine n_add (a := (8 * p1)) (b := p2) hx hb dX1_layLink_5 ?_
  refine lv_istore (lv' := [(4, .int (nI ((8 * p1) + p2))), (0, .ref m), (1, .int (nI p1)), (2, .int (nI p2)), (3, .int p3)]) hx hb dX1_layLink_6 hl (by decide) rfl (fun ls hl => ?_)
  refine lv_aload_n hx hb dX1_layLink_8 rfl (lv_at hl 1 rfl) ?_
  refine mg_23 hx hb hts hown hK hE dX1_layLink_9 ?_
  refine lv_iload hx hb dX1_layLink_12 (lv_at hl 0 rfl) ?_
  refine ma_23 (n := ((8 * p1) + p2)) (by omega) hx hb hK hE dX1_layLink_14 ?_
  have hJ27 : ∀ (w27 : Int32) (hR : m_layLink p1 p2 p3 Z = m_layLink_j27 p1 p2 p3 Z w27), ∀ (H : Heap) (locs : List Loc) (ls : Array Slot), EW D A s.heap (MW m ar cs Z) H locs → lv_has ls 6 [(0, .ref m), (3, .int p3), (4, .int (nI ((8 * p1) + p2)))] → W p l e R s mid args below meth c H locs 0 0 Q (F0 mid 27 ls [.int w27]) := by
    intro w27 hR H locs ls hE hl
    have hR : m_layLink p1 p2 p3 Z = (m_layLink_j59 p1 p2 p3 Z w27 (if w27 = 0 then Z.1 24 ((8 * p1) + p2) else (0 : Int32))) := hR
    refine lv_istore (lv' := [(5, .int w27), (0, .ref m), (3, .int p3), (4, .int (nI ((8 * p1) + p2)))]) hx hb dX1_layLink_27 hl (by decide) rfl (fun ls hl => ?_)
    refine lv_aload_n hx hb dX1_layLink_29 rfl (lv_at hl 1 rfl) ?_
    refine mg_23 hx hb hts hown hK hE dX1_layLink_30 ?_
    refine lv_iload hx hb dX1_layLink_33 (lv_at hl 3 rfl) ?_
    refine lv_iload_n hx hb dX1_layLink_35 rfl (lv_at hl 2 rfl) ?_
    refine ms_23 (n := ((8 * p1) + p2)) (by omega) hx hb hK hE dX1_layLink_36 (fun H locs hE => ?_)
    refine lv_aload_n hx hb dX1_layLink_37 rfl (lv_at hl 1 rfl) ?_
    refine mg_24 hx hb hts hown hK hE dX1_layLink_38 ?_
    refine lv_iload hx hb dX1_layLink_41 (lv_at hl 3 rfl) ?_
    refine lv_iload hx hb dX1_layLink_43 (lv_at hl 0 rfl) ?_
    have hJ59 : ∀ (w59 : Int32) (hR : m_layLink p1 p2 p3 Z = m_layLink_j59 p1 p2 p3 Z w27 w59), ∀ (H : Heap) (locs : List Loc) (ls : Array Slot), EW D A s.heap (MW m ar cs (sI Z 23 ((8 * p1) + p2) p3)) H locs → lv_has ls 6 [(0, .ref m), (4, .int (nI ((8 * p1) + p2))), (5, .int w27)] → W p l e R s mid args below meth c H locs 0 0 Q (F0 mid 59 ls [.int w59, .int (nI ((8 * p1) + p2)), .ref (ar 24)]) := by
      intro w59 hR H locs ls hE hl
      have hR : m_layLink p1 p2 p3 Z = (if w27 = 0 then sI (sI (sI Z 23 ((8 * p1) + p2) p3) 24 ((8 * p1) + p2) w59) 25 ((8 * p1) + p2) (Z.1 25 ((8 * p1) + p2)) else sI (sI (sI Z 23 ((8 * p1) + p2) p3) 24 ((8 * p1) + p2) w59) 25 ((8 * p1) + p2) (1000 : Int32)) := hR
      refine ms_24 (n := ((8 * p1) + p2)) (by omega) hx hb hK hE dX1_layLink_59 (fun H locs hE => ?_)
      refine lv_aload_n hx hb dX1_layLink_60 rfl (lv_at hl 0 rfl) ?_
      refine mg_25 hx hb hts hown hK hE dX1_layLink_61 ?_
      refine lv_iload hx hb dX1_layLink_64 (lv_at hl 1 rfl) ?_
      refine lv_iload hx hb dX1_layLink_66 (lv_at hl 2 rfl) ?_
      refine lv_if_eq (tgt := 77) hx hb dX1_layLink_68 (by decide) (fun c68 => ?_) (fun c68 => ?_)
      · have hR : m_layLink p1 p2 p3 Z = (sI (sI (sI Z 23 ((8 * p1) + p2) p3) 24 ((8 * p1) + p2) w59) 25 ((8 * p1) + p2) (Z.1 25 ((8 * p1) + p2))) := hR.trans (congrArg (fun z => z) (if_pos c68))
        refine lv_aload_n hx hb dX1_layLink_77 rfl (lv_at hl 0 rfl) ?_
        refine mg_25 hx hb hts hown hK hE dX1_layLink_78 ?_
        refine lv_iload hx hb dX1_layLink_81 (lv_at hl 1 rfl) ?_
        refine ma_25 (n := ((8 * p1) + p2)) (by omega) hx hb hK hE dX1_layLink_83 ?_
        refine ms_25 (n := ((8 * p1) + p2)) (by omega) hx hb hK hE dX1_layLink_84 (fun H locs hE => ?_)
        exact hret (sI (sI (sI Z 23 ((8 * p1) + p2) p3) 24 ((8 * p1) + p2) w59) 25 ((8 * p1) + p2) (Z.1 25 ((8 * p1) + p2))) hR hE (Nat.le_refl 0) (Nat.le_refl 0) dX1_layLink_85
      · have hR : m_layLink p1 p2 p3 Z = (sI (sI (sI Z 23 ((8 * p1) + p2) p3) 24 ((8 * p1) + p2) w59) 25 ((8 * p1) + p2) (1000 : Int32)) := hR.trans (congrArg (fun z => z) (if_neg c68))
        refine lv_sipush (v := 1000) hx hb dX1_layLink_71 rfl ?_
        refine lv_goto (tgt := 84) hx hb dX1_layLink_74 (by decide) ?_
        refine ms_25 (n := ((8 * p1) + p2)) (by omega) hx hb hK hE dX1_layLink_84 (fun H locs hE => ?_)
        exact hret (sI (sI (sI Z 23 ((8 * p1) + p2) p3) 24 ((8 * p1) + p2) w59) 25 ((8 * p1) + p2) (1000 : Int32)) hR hE (Nat.le_refl 0) (Nat.le_refl 0) dX1_layLink_85
    refine lv_if_eq (tgt := 52) hx hb dX1_layLink_45 (by decide) (fun c45 => ?_) (fun c45 => ?_)
    · have hR : m_layLink p1 p2 p3 Z = m_layLink_j59 p1 p2 p3 Z w27 (Z.1 24 ((8 * p1) + p2)) := hR.trans (congrArg (fun z => m_layLink_j59 p1 p2 p3 Z w27 z) (if_pos c45))
      refine lv_aload_n hx hb dX1_layLink_52 rfl (lv_at hl 1 rfl) ?_
      refine mg_24 hx hb hts hown hK hE dX1_layLink_53 ?_
      refine lv_iload hx hb dX1_layLink_56 (lv_at hl 3 rfl) ?_
      refine ma_24 (n := ((8 * p1) + p2)) (by omega) hx hb hK hE dX1_layLink_58 ?_
      exact hJ59 (Z.1 24 ((8 * p1) + p2))  hR _ _ _ hE (lv_sub hl [1, 3, 0] rfl)
    · have hR : m_layLink p1 p2 p3 Z = m_layLink_j59 p1 p2 p3 Z w27 (0 : Int32) := hR.trans (congrArg (fun z => m_layLink_j59 p1 p2 p3 Z w27 z) (if_neg c45))
      refine lv_iconst (v := 0) hx hb dX1_layLink_48 rfl ?_
      refine lv_goto (tgt := 59) hx hb dX1_layLink_49 (by decide) ?_
      exact hJ59 (0 : Int32)  hR _ _ _ hE (lv_sub hl [1, 3, 0] rfl)
  refine lv_if_eq (tgt := 22) hx hb dX1_layLink_15 (by decide) (fun c15 => ?_) (fun c15 => ?_)
  · have hR : m_layLink p1 p2 p3 Z = m_layLink_j27 p1 p2 p3 Z (1 : Int32) := hR.trans (congrArg (fun z => m_layLink_j27 p1 p2 p3 Z z) (if_pos c15))
    refine lv_iconst (v := 1) hx hb dX1_layLink_22 rfl ?_
    refine lv_goto (tgt := 27) hx hb dX1_layLink_23 (by decide) ?_
    exact hJ27 (1 : Int32)  hR _ _ _ hE (lv_sub hl [1, 4, 0] rfl)
  · have hR : m_layLink p1 p2 p3 Z = m_layLink_j27 p1 p2 p3 Z (if p3 = 0 then (1 : Int32) else (0 : Int32)) := hR.trans (congrArg (fun z => m_layLink_j27 p1 p2 p3 Z z) (if_neg c15))
    refine lv_iload_n hx hb dX1_layLink_18 rfl (lv_at hl 4 rfl) ?_
    refine lv_if_ne (tgt := 26) hx hb dX1_layLink_19 (by decide) (fun c19 => ?_) (fun c19 => ?_)
    · have hR : m_layLink p1 p2 p3 Z = m_layLink_j27 p1 p2 p3 Z (0 : Int32) := hR.trans (congrArg (fun z => m_layLink_j27 p1 p2 p3 Z z) (if_neg c19))
      refine lv_iconst (v := 0) hx hb dX1_layLink_26 rfl ?_
      exact hJ27 (0 : Int32)  hR _ _ _ hE (lv_sub hl [1, 4, 0] rfl)
    · have hR : m_layLink p1 p2 p3 Z = m_layLink_j27 p1 p2 p3 Z (1 : Int32) := hR.trans (congrArg (fun z => m_layLink_j27 p1 p2 p3 Z z) (if_pos c19))
      refine lv_iconst (v := 1) hx hb dX1_layLink_22 rfl ?_
      refine lv_goto (tgt := 27) hx hb dX1_layLink_23 (by decide) ?_
      exact hJ27 (1 : Int32)  hR _ _ _ hE (lv_sub hl [1, 4, 0] rfl)
section C_layLink
variable {p : Program} {l : Launch} {e : Env} {R : Room} {s : State} {mid : MethodId} {args : Array Value} {below : List Frame} {meth : Method} {c : Code} {H : Heap} {locs : List Loc} {Q : State → Prop} {cc : ByteArray} {pc : Nat} {ls : Array Slot} {rest : List Value} {D : va_G} {A : Nat → Prop} {m : Nat} {ar : Nat → Nat} {cs : Nat → ClassId} {Z : ZT} {nL : Nat}
theorem call_m_layLink (hx : p.tables.exec = Jvm.exec) (hb : c.code = cc) (hml : c.maxLocals = nL) (hown : s.vm.findClass RX1 = some mid.cls) (hts : ∀ w ∈ lw_all, w.before args s = true) (hK : KK D cs s) (hA : ∀ q : Nat, s.heap.size ≤ q → A q) (hE : EW D A s.heap (MW m ar cs Z) H locs) (hls : ls.size = nL) (p1 : Nat) (p2 : Nat) (p3 : Int32) (hn1 : p1 < 8) (hn2 : p2 < 8) (h1 : 1 ≤ R.frames) (h2 : 25 ≤ R.locals) (h3 : (rest.map fun v => v.category).sum ≤ 8) (hd : decode cc pc = .ok (.invokevirtual 171, 3)) (kk : ∀ (H1 : Heap) (locs1 : List Loc), EW D A s.heap (MW m ar cs (m_layLink p1 p2 p3 Z)) H1 locs1 → W p l e R s mid args below meth c H1 locs1 0 0 Q (F0 mid (pc + 3) ls (rest))) : W p l e R s mid args below meth c H locs 0 0 Q (F0 mid pc ls (.int p3 :: .int (nI p2) :: .int (nI p1) :: .ref m :: rest)) :=
  gCall_v (As := [.int (nI p1), .int (nI p2), .int p3]) (rest := rest) (q0 := 0) (ci := 1) (fs := MF ar Z) (T' := TX1) (N' := 52) hx hb hml hown hts hK hA hE hls (met_m_layLink l D cs m ar Z H.size p1 p2 p3 hn1 hn2) (cwV 3 hts (lw_V q1168 q1170 qs50 q85 q1171) rfl rfl rfl (by decide +kernel) ⟨h1, h2⟩) rfl rfl rfl rfl h3 hd ⟨Nat.zero_le _, Nat.zero_le _⟩ (fun u H1 locs1 hp _ hE => by subst hp; exact kk H1 locs1 hE)
end C_layLink
def m_unlink_c19 (wc19 : ZT) : ZT := wc19
def m_unlink_c12 (p1 : Nat) (i2 : Nat) (wc12 : ZT) : ZT := m_unlink_c19 (m_layLink i2 p1 (0 : Int32) wc12)
def m_unlink_b2 (p1 : Nat) (i2 : Nat) (w2 : ZT) : ZT := m_unlink_c12 p1 i2 (m_layLink p1 i2 (0 : Int32) w2)
def m_unlink_e2 (w2 : ZT) : ZT := w2
def m_unlink (p1 : Nat) (Z : ZT) : ZT := m_unlink_e2 (itR (m_unlink_b2 p1) 0 8 Z)
set_option maxHeartbeats 4000000 in
set_option maxRecDepth 100000 in
theorem met_m_unlink (l : Launch) (D : va_G) (cs : Nat → ClassId) (m : Nat) (ar : Nat → Nat) (Z : ZT) (sz : Nat) (p1 : Nat) (hn1 : p1 < 8) : Met l yX1_unlink (ws_ yX1_unlink cX1_unlink 3 none) ({ frames := 1, cells := 0, slots := 0, locals := 25 }) (va_Pc [.ref m, .int (nI p1)] (wSt D cs (MW m ar cs Z) sz)) (cQv (fun (u : ZT) => m_unlink p1 Z = u) D (fun u => MW m ar cs u) (MW m ar cs Z) sz) 0 0 (va_A (MW m ar cs Z) sz) := by
  refine gStart_v (C := RX1) rfl rfl (Nat.le_of_ble_eq_true rfl) ?_
  intro p e s mid args below meth c R Q A hx hb hml hown hts hK hA hRf hRl hRc hRs hnm hret hE ls hl
  have hRf : 1 ≤ R.frames := hRf
  have hRl : 25 ≤ R.locals := hRl
  have hl : lv_has ls 3 [(0, .ref m), (1, .int (nI p1))] := hl
  have hR : m_unlink p1 Z = (m_unlink_e2 (itR (m_unlink_b2 p1) 0 8 Z)) := rfl
  refine lv_iconst (v := 0) hx hb dX1_unlink_0 rfl ?_
  refine lv_istore_n (lv' := [(2, .int (0 : Int32)), (0, .ref m), (1, .int (nI p1))]) hx hb dX1_unlink_1 rfl hl (by decide) rfl (fun ls hl => ?_)
  have hL2 : ∀ (k i2 : Nat) (w2 : ZT) (hi2 : i2 + k = 8) (hR : m_unlink p1 Z = m_unlink_e2 (itR (m_unlink_b2 p1) i2 k w2)), ∀ (H : Heap) (locs : List Loc) (ls : Array Slot), EW D A s.heap (MW m ar cs w2) H locs → lv_has ls 3 [(0, .ref m), (1, .int (nI p1)), (2, .int (nI i2))] → W p l e R s mid args below meth c H locs 0 0 Q (F0 mid 2 ls []) := by
    intro k
    induction k with
    | zero =>
      intro i2 w2 hi2 hR H locs ls hE hl
      have hie2 : i2 = 8 := by omega
      have hR : m_unlink p1 Z = w2 := hR
      refine lv_iload_n hx hb dX1_unlink_2 rfl (lv_at hl 2 rfl) ?_
      refine lv_bipush (v := 8) hx hb dX1_unlink_3 rfl ?_
      refine n_geT (a := i2) (b := 8) (by omega) (by omega) hx hb dX1_unlink_5 (tgt := 28) (by decide) ?_
      have hl := lv_sub (l' := [(0, .ref m), (1, .int (nI p1))]) hl [0, 1] rfl
      exact hret w2 hR hE (Nat.le_refl 0) (Nat.le_refl 0) dX1_unlink_28
    | succ k ih2 =>
      intro i2 w2 hi2 hR H locs ls hE hl
      have hlt2 : i2 < 8 := by omega
      have hB2 : m_unlink_b2 p1 i2 w2 = m_unlink_c12 p1 i2 (m_layLink p1 i2 (0 : Int32) w2) := rfl
      refine lv_iload_n hx hb dX1_unlink_2 rfl (lv_at hl 2 rfl) ?_
      refine lv_bipush (v := 8) hx hb dX1_unlink_3 rfl ?_
      refine n_geF (a := i2) (b := 8) (by omega) (by omega) hx hb dX1_unlink_5 (tgt := 28) (by decide) ?_
      refine lv_aload_n hx hb dX1_unlink_8 rfl (lv_at hl 0 rfl) ?_
      refine lv_iload_n hx hb dX1_unlink_9 rfl (lv_at hl 1 rfl) ?_
      refine lv_iload_n hx hb dX1_unlink_10 rfl (lv_at hl 2 rfl) ?_
      refine lv_iconst (v := 0) hx hb dX1_unlink_11 rfl ?_
      refine call_m_layLink hx hb hml hown hts hK hA hE hl.1 p1 i2 (0 : Int32) (by omega) (by omega) (lz (show 1 ≤ 1 by decide) hRf) (lz (show 25 ≤ 25 by decide) hRl) (Nat.le_of_ble_eq_true rfl) dX1_unlink_12 (fun H locs hE => ?_)
      have hNc12 : ∀ (wc12 : ZT) (hB2 : m_unlink_b2 p1 i2 w2 = m_unlink_c12 p1 i2 wc12), ∀ (H : Heap) (locs : List Loc) (ls : Array Slot), EW D A s.heap (MW m ar cs wc12) H locs → lv_has ls 3 [(0, .ref m), (1, .int (nI p1)), (2, .int (nI i2))] → W p l e R s mid args below meth c H locs 0 0 Q (F0 mid 15 ls []) := by
        intro wc12 hB2 H locs ls hE hl
        have hB2 : m_unlink_b2 p1 i2 w2 = (m_unlink_c19 (m_layLink i2 p1 (0 : Int32) wc12)) := hB2
        refine lv_aload_n hx hb dX1_unlink_15 rfl (lv_at hl 0 rfl) ?_
        refine lv_iload_n hx hb dX1_unlink_16 rfl (lv_at hl 2 rfl) ?_
        refine lv_iload_n hx hb dX1_unlink_17 rfl (lv_at hl 1 rfl) ?_
        refine lv_iconst (v := 0) hx hb dX1_unlink_18 rfl ?_
        refine call_m_layLink hx hb hml hown hts hK hA hE hl.1 i2 p1 (0 : Int32) (by omega) (by omega) (lz (show 1 ≤ 1 by decide) hRf) (lz (show 25 ≤ 25 by decide) hRl) (Nat.le_of_ble_eq_true rfl) dX1_unlink_19 (fun H locs hE => ?_)
        have hNc19 : ∀ (wc19 : ZT) (hB2 : m_unlink_b2 p1 i2 w2 = m_unlink_c19 wc19), ∀ (H : Heap) (locs : List Loc) (ls : Array Slot), EW D A s.heap (MW m ar cs wc19) H locs → lv_has ls 3 [(0, .ref m), (1, .int (nI p1)), (2, .int (nI i2))] → W p l e R s mid args below meth c H locs 0 0 Q (F0 mid 22 ls []) := by
          intro wc19 hB2 H locs ls hE hl
          have hB2 : m_unlink_b2 p1 i2 w2 = wc19 := hB2
          refine n_inc (lv' := [(2, .int (nI (i2 + 1))), (0, .ref m), (1, .int (nI p1))]) hx hb dX1_unlink_22 hl (k := 2) rfl (by decide) rfl (fun ls hl => ?_)
          refine lv_goto (tgt := 2) hx hb dX1_unlink_25 (by decide) ?_
          exact ih2 (i2 + 1) wc19 (by omega) (hR.trans (congrArg (fun z => m_unlink_e2 (itR (m_unlink_b2 p1) (i2 + 1) k z)) hB2)) _ _ _ hE (lv_sub hl [1, 2, 0] rfl)
        exact hNc19 (m_layLink i2 p1 (0 : Int32) wc12) hB2 _ _ _ hE (lv_sub hl [0, 1, 2] rfl)
      exact hNc12 (m_layLink p1 i2 (0 : Int32) w2) hB2 _ _ _ hE (lv_sub hl [0, 1, 2] rfl)
  exact hL2 8 0 Z (by omega) hR _ _ _ hE (lv_sub hl [1, 2, 0] rfl)
section C_unlink
variable {p : Program} {l : Launch} {e : Env} {R : Room} {s : State} {mid : MethodId} {args : Array Value} {below : List Frame} {meth : Method} {c : Code} {H : Heap} {locs : List Loc} {Q : State → Prop} {cc : ByteArray} {pc : Nat} {ls : Array Slot} {rest : List Value} {D : va_G} {A : Nat → Prop} {m : Nat} {ar : Nat → Nat} {cs : Nat → ClassId} {Z : ZT} {nL : Nat}
theorem call_m_unlink (hx : p.tables.exec = Jvm.exec) (hb : c.code = cc) (hml : c.maxLocals = nL) (hown : s.vm.findClass RX1 = some mid.cls) (hts : ∀ w ∈ lw_all, w.before args s = true) (hK : KK D cs s) (hA : ∀ q : Nat, s.heap.size ≤ q → A q) (hE : EW D A s.heap (MW m ar cs Z) H locs) (hls : ls.size = nL) (p1 : Nat) (hn1 : p1 < 8) (h1 : 2 ≤ R.frames) (h2 : 47 ≤ R.locals) (h3 : (rest.map fun v => v.category).sum ≤ 8) (hd : decode cc pc = .ok (.invokevirtual 175, 3)) (kk : ∀ (H1 : Heap) (locs1 : List Loc), EW D A s.heap (MW m ar cs (m_unlink p1 Z)) H1 locs1 → W p l e R s mid args below meth c H1 locs1 0 0 Q (F0 mid (pc + 3) ls (rest))) : W p l e R s mid args below meth c H locs 0 0 Q (F0 mid pc ls (.int (nI p1) :: .ref m :: rest)) :=
  gCall_v (As := [.int (nI p1)]) (rest := rest) (q0 := 0) (ci := 1) (fs := MF ar Z) (T' := TX1) (N' := 52) hx hb hml hown hts hK hA hE hls (met_m_unlink l D cs m ar Z H.size p1 hn1) (cwV 1 hts (lw_V q1164 q1166 qs49 q85 q1167) rfl rfl rfl (by decide +kernel) ⟨h1, h2⟩) rfl rfl rfl rfl h3 hd ⟨Nat.zero_le _, Nat.zero_le _⟩ (fun u H1 locs1 hp _ hE => by subst hp; exact kk H1 locs1 hE)
end C_unlink
def m_begin_j130 (p1 : Nat) (i83 : Nat) (w83 : ZT) (w109 : Int32) (w130 : Int32) : ZT := sI (sI w83 27 ((8 * p1) + i83) w109) 27 ((8 * i83) + p1) w130
def m_begin_j109 (p1 : Nat) (i83 : Nat) (w83 : ZT) (w109 : Int32) : ZT := m_begin_j130 p1 i83 w83 w109 (if i83 = p1 then (-1 : Int32) else (0 : Int32))
def m_begin_b83 (p1 : Nat) (i83 : Nat) (w83 : ZT) : ZT := m_begin_j109 p1 i83 w83 (if i83 = p1 then (-1 : Int32) else (0 : Int32))
def m_begin_j166 (p1 : Nat) (i139 : Nat) (w139 : ZT) (w166 : Int32) : ZT := sI w139 26 ((4 * p1) + i139) w166
def m_begin_b139 (p1 : Nat) (i139 : Nat) (w139 : ZT) : ZT := m_begin_j166 p1 i139 w139 (if ((nI i139) - (nI i139) / (2 : Int32) * (2 : Int32)) = 0 then (0 : Int32) else (1000 : Int32))
def m_begin_e139 (w139 : ZT) : ZT := w139
def m_begin_e83 (p1 : Nat) (w83 : ZT) : ZT := m_begin_e139 (itR (m_begin_b139 p1) 0 4 w83)
def m_begin_c2 (p1 : Nat) (p2 : Int32) (wc2 : ZT) : ZT := m_begin_e83 p1 (itR (m_begin_b83 p1) 0 8 (sI (sI (sI (sI (sI (sI (sI (sI (sI (sI wc2 13 p1 (vp_nar .boolean (1 : Int32))) 14 p1 p2) 15 p1 (0 : Int32)) 16 p1 (0 : Int32)) 17 p1 (100 : Int32)) 18 p1 (1000 : Int32)) 19 p1 (50 : Int32)) 20 p1 (20 : Int32)) 21 p1 (-9 : Int32)) 22 p1 (0 : Int32)))
def m_begin (p1 : Nat) (p2 : Int32) (Z : ZT) : ZT := m_begin_c2 p1 p2 (m_unlink p1 Z)
set_option maxHeartbeats 4000000 in
set_option maxRecDepth 100000 in
theorem met_m_begin (l : Launch) (D : va_G) (cs : Nat → ClassId) (m : Nat) (ar : Nat → Nat) (Z : ZT) (sz : Nat) (p1 : Nat) (p2 : Int32) (hn1 : p1 < 8) : Met l yX1_begin (ws_ yX1_begin cX1_begin 4 none) ({ frames := 2, cells := 0, slots := 0, locals := 47 }) (va_Pc [.ref m, .int (nI p1), .int p2] (wSt D cs (MW m ar cs Z) sz)) (cQv (fun (u : ZT) => m_begin p1 p2 Z = u) D (fun u => MW m ar cs u) (MW m ar cs Z) sz) 0 0 (va_A (MW m ar cs Z) sz) := by
  refine gStart_v (C := RX1) rfl rfl (Nat.le_of_ble_eq_true rfl) ?_
  intro p e s mid args below meth c R Q A hx hb hml hown hts hK hA hRf hRl hRc hRs hnm hret hE ls hl
  have hRf : 2 ≤ R.frames := hRf
  have hRl : 47 ≤ R.locals := hRl
  have hl : lv_has ls 4 [(0, .ref m), (1, .int (nI p1)), (2, .int p2)] := hl
  have hR : m_begin p1 p2 Z = (m_begin_c2 p1 p2 (m_unlink p1 Z)) := rfl
  refine lv_aload_n hx hb dX1_begin_0 rfl (lv_at hl 0 rfl) ?_
  refine lv_iload_n hx hb dX1_begin_1 rfl (lv_at hl 1 rfl) ?_
  refine call_m_unlink hx hb hml hown hts hK hA hE hl.1 p1 (by omega) (lz (show 2 ≤ 2 by decide) hRf) (lz (show 47 ≤ 47 by decide) hRl) (Nat.le_of_ble_eq_true rfl) dX1_begin_2 (fun H locs hE => ?_)
  have hNc2 : ∀ (wc2 : ZT) (hR : m_begin p1 p2 Z = m_begin_c2 p1 p2 wc2), ∀ (H : Heap) (locs : List Loc) (ls : Array Slot), EW D A s.heap (MW m ar cs wc2) H locs → lv_has ls 4 [(0, .ref m), (1, .int (nI p1)), (2, .int p2)] → W p l e R s mid args below meth c H locs 0 0 Q (F0 mid 5 ls []) := by
    intro wc2 hR H locs ls hE hl
    have hR : m_begin p1 p2 Z = (m_begin_e83 p1 (itR (m_begin_b83 p1) 0 8 (sI (sI (sI (sI (sI (sI (sI (sI (sI (sI wc2 13 p1 (vp_nar .boolean (1 : Int32))) 14 p1 p2) 15 p1 (0 : Int32)) 16 p1 (0 : Int32)) 17 p1 (100 : Int32)) 18 p1 (1000 : Int32)) 19 p1 (50 : Int32)) 20 p1 (20 : Int32)) 21 p1 (-9 : Int32)) 22 p1 (0 : Int32)))) := hR
    refine lv_aload_n hx hb dX1_begin_5 rfl (lv_at hl 0 rfl) ?_
    refine mg_13 hx hb hts hown hK hE dX1_begin_6 ?_
    refine lv_iload_n hx hb dX1_begin_9 rfl (lv_at hl 1 rfl) ?_
    refine lv_iconst (v := 1) hx hb dX1_begin_10 rfl ?_
    refine ms_13 (n := p1) (by omega) hx hb hK hE dX1_begin_11 (fun H locs hE => ?_)
    refine lv_aload_n hx hb dX1_begin_12 rfl (lv_at hl 0 rfl) ?_
    refine mg_14 hx hb hts hown hK hE dX1_begin_13 ?_
    refine lv_iload_n hx hb dX1_begin_16 rfl (lv_at hl 1 rfl) ?_
    refine lv_iload_n hx hb dX1_begin_17 rfl (lv_at hl 2 rfl) ?_
    refine ms_14 (n := p1) (by omega) hx hb hK hE dX1_begin_18 (fun H locs hE => ?_)
    refine lv_aload_n hx hb dX1_begin_19 rfl (lv_at hl 0 rfl) ?_
    refine mg_15 hx hb hts hown hK hE dX1_begin_20 ?_
    refine lv_iload_n hx hb dX1_begin_23 rfl (lv_at hl 1 rfl) ?_
    refine lv_iconst (v := 0) hx hb dX1_begin_24 rfl ?_
    refine ms_15 (n := p1) (by omega) hx hb hK hE dX1_begin_25 (fun H locs hE => ?_)
    refine lv_aload_n hx hb dX1_begin_26 rfl (lv_at hl 0 rfl) ?_
    refine mg_16 hx hb hts hown hK hE dX1_begin_27 ?_
    refine lv_iload_n hx hb dX1_begin_30 rfl (lv_at hl 1 rfl) ?_
    refine lv_iconst (v := 0) hx hb dX1_begin_31 rfl ?_
    refine ms_16 (n := p1) (by omega) hx hb hK hE dX1_begin_32 (fun H locs hE => ?_)
    refine lv_aload_n hx hb dX1_begin_33 rfl (lv_at hl 0 rfl) ?_
    refine mg_17 hx hb hts hown hK hE dX1_begin_34 ?_
    refine lv_iload_n hx hb dX1_begin_37 rfl (lv_at hl 1 rfl) ?_
    refine lv_bipush (v := 100) hx hb dX1_begin_38 rfl ?_
    refine ms_17 (n := p1) (by omega) hx hb hK hE dX1_begin_40 (fun H locs hE => ?_)
    refine lv_aload_n hx hb dX1_begin_41 rfl (lv_at hl 0 rfl) ?_
    refine mg_18 hx hb hts hown hK hE dX1_begin_42 ?_
    refine lv_iload_n hx hb dX1_begin_45 rfl (lv_at hl 1 rfl) ?_
    refine lv_sipush (v := 1000) hx hb dX1_begin_46 rfl ?_
    refine ms_18 (n := p1) (by omega) hx hb hK hE dX1_begin_49 (fun H locs hE => ?_)
    refine lv_aload_n hx hb dX1_begin_50 rfl (lv_at hl 0 rfl) ?_
    refine mg_19 hx hb hts hown hK hE dX1_begin_51 ?_
    refine lv_iload_n hx hb dX1_begin_54 rfl (lv_at hl 1 rfl) ?_
    refine lv_bipush (v := 50) hx hb dX1_begin_55 rfl ?_
    refine ms_19 (n := p1) (by omega) hx hb hK hE dX1_begin_57 (fun H locs hE => ?_)
    refine lv_aload_n hx hb dX1_begin_58 rfl (lv_at hl 0 rfl) ?_
    refine mg_20 hx hb hts hown hK hE dX1_begin_59 ?_
    refine lv_iload_n hx hb dX1_begin_62 rfl (lv_at hl 1 rfl) ?_
    refine lv_bipush (v := 20) hx hb dX1_begin_63 rfl ?_
    refine ms_20 (n := p1) (by omega) hx hb hK hE dX1_begin_65 (fun H locs hE => ?_)
    refine lv_aload_n hx hb dX1_begin_66 rfl (lv_at hl 0 rfl) ?_
    refine mg_21 hx hb hts hown hK hE dX1_begin_67 ?_
    refine lv_iload_n hx hb dX1_begin_70 rfl (lv_at hl 1 rfl) ?_
    refine lv_bipush (v := -9) hx hb dX1_begin_71 rfl ?_
    refine ms_21 (n := p1) (by omega) hx hb hK hE dX1_begin_73 (fun H locs hE => ?_)
    refine lv_aload_n hx hb dX1_begin_74 rfl (lv_at hl 0 rfl) ?_
    refine mg_22 hx hb hts hown hK hE dX1_begin_75 ?_
    refine lv_iload_n hx hb dX1_begin_78 rfl (lv_at hl 1 rfl) ?_
    refine lv_iconst (v := 0) hx hb dX1_begin_79 rfl ?_
    refine ms_22 (n := p1) (by omega) hx hb hK hE dX1_begin_80 (fun H locs hE => ?_)
    refine lv_iconst (v := 0) hx hb dX1_begin_81 rfl ?_
    refine lv_istore_n (lv' := [(3, .int (0 : Int32)), (0, .ref m), (1, .int (nI p1)), (2, .int p2)]) hx hb dX1_begin_82 rfl hl (by decide) rfl (fun ls hl => ?_)
    have hL83 : ∀ (k i83 : Nat) (w83 : ZT) (hi83 : i83 + k = 8) (hR : m_begin p1 p2 Z = m_begin_e83 p1 (itR (m_begin_b83 p1) i83 k w83)), ∀ (H : Heap) (locs : List Loc) (ls : Array Slot), EW D A s.heap (MW m ar cs w83) H locs → lv_has ls 4 [(0, .ref m), (1, .int (nI p1)), (3, .int (nI i83))] → W p l e R s mid args below meth c H locs 0 0 Q (F0 mid 83 ls []) := by
      intro k
      induction k with
      | zero =>
        intro i83 w83 hi83 hR H locs ls hE hl
        have hie83 : i83 = 8 := by omega
        have hR : m_begin p1 p2 Z = (m_begin_e139 (itR (m_begin_b139 p1) 0 4 w83)) := hR
        refine lv_iload_n hx hb dX1_begin_83 rfl (lv_at hl 2 rfl) ?_
        refine lv_bipush (v := 8) hx hb dX1_begin_84 rfl ?_
        refine n_geT (a := i83) (b := 8) (by omega) (by omega) hx hb dX1_begin_86 (tgt := 137) (by decide) ?_
        have hl := lv_sub (l' := [(0, .ref m), (1, .int (nI p1))]) hl [0, 1] rfl
        refine lv_iconst (v := 0) hx hb dX1_begin_137 rfl ?_
        refine lv_istore_n (lv' := [(3, .int (0 : Int32)), (0, .ref m), (1, .int (nI p1))]) hx hb dX1_begin_138 rfl hl (by decide) rfl (fun ls hl => ?_)
        have hL139 : ∀ (k i139 : Nat) (w139 : ZT) (hi139 : i139 + k = 4) (hR : m_begin p1 p2 Z = m_begin_e139 (itR (m_begin_b139 p1) i139 k w139)), ∀ (H : Heap) (locs : List Loc) (ls : Array Slot), EW D A s.heap (MW m ar cs w139) H locs → lv_has ls 4 [(0, .ref m), (1, .int (nI p1)), (3, .int (nI i139))] → W p l e R s mid args below meth c H locs 0 0 Q (F0 mid 139 ls []) := by
          intro k
          induction k with
          | zero =>
            intro i139 w139 hi139 hR H locs ls hE hl
            have hie139 : i139 = 4 := by omega
            have hR : m_begin p1 p2 Z = w139 := hR
            refine lv_iload_n hx hb dX1_begin_139 rfl (lv_at hl 2 rfl) ?_
            refine lv_iconst (v := 4) hx hb dX1_begin_140 rfl ?_
            refine n_geT (a := i139) (b := 4) (by omega) (by omega) hx hb dX1_begin_141 (tgt := 173) (by decide) ?_
            have hl := lv_sub (l' := [(0, .ref m), (1, .int (nI p1))]) hl [0, 1] rfl
            exact hret w139 hR hE (Nat.le_refl 0) (Nat.le_refl 0) dX1_begin_173
          | succ k ih139 =>
            intro i139 w139 hi139 hR H locs ls hE hl
            have hlt139 : i139 < 4 := by omega
            have hB139 : m_begin_b139 p1 i139 w139 = m_begin_j166 p1 i139 w139 (if ((nI i139) - (nI i139) / (2 : Int32) * (2 : Int32)) = 0 then (0 : Int32) else (1000 : Int32)) := rfl
            refine lv_iload_n hx hb dX1_begin_139 rfl (lv_at hl 2 rfl) ?_
            refine lv_iconst (v := 4) hx hb dX1_begin_140 rfl ?_
            refine n_geF (a := i139) (b := 4) (by omega) (by omega) hx hb dX1_begin_141 (tgt := 173) (by decide) ?_
            refine lv_aload_n hx hb dX1_begin_144 rfl (lv_at hl 0 rfl) ?_
            refine mg_26 hx hb hts hown hK hE dX1_begin_145 ?_
            refine lv_iconst (v := 4) hx hb dX1_begin_148 rfl ?_
            refine lv_iload_n hx hb dX1_begin_149 rfl (lv_at hl 1 rfl) ?_
            refine n_mul (a := 4) (b := p1) hx hb dX1_begin_150 ?_
            refine lv_iload_n hx hb dX1_begin_151 rfl (lv_at hl 2 rfl) ?_
            refine n_add (a := (4 * p1)) (b := i139) hx hb dX1_begin_152 ?_
            refine lv_iload_n hx hb dX1_begin_153 rfl (lv_at hl 2 rfl) ?_
            refine lv_iconst (v := 2) hx hb dX1_begin_154 rfl ?_
            refine lv_irem hx hb dX1_begin_155 (by decide) ?_
            have hJ166 : ∀ (w166 : Int32) (hB139 : m_begin_b139 p1 i139 w139 = m_begin_j166 p1 i139 w139 w166), ∀ (H : Heap) (locs : List Loc) (ls : Array Slot), EW D A s.heap (MW m ar cs w139) H locs → lv_has ls 4 [(0, .ref m), (1, .int (nI p1)), (3, .int (nI i139))] → W p l e R s mid args below meth c H locs 0 0 Q (F0 mid 166 ls [.int w166, .int (nI ((4 * p1) + i139)), .ref (ar 26)]) := by
              intro w166 hB139 H locs ls hE hl
              have hB139 : m_begin_b139 p1 i139 w139 = (sI w139 26 ((4 * p1) + i139) w166) := hB139
              refine ms_26 (n := ((4 * p1) + i139)) (by omega) hx hb hK hE dX1_begin_166 (fun H locs hE => ?_)
              refine n_inc (lv' := [(3, .int (nI (i139 + 1))), (0, .ref m), (1, .int (nI p1))]) hx hb dX1_begin_167 hl (k := 2) rfl (by decide) rfl (fun ls hl => ?_)
              refine lv_goto (tgt := 139) hx hb dX1_begin_170 (by decide) ?_
              exact ih139 (i139 + 1) (sI w139 26 ((4 * p1) + i139) w166) (by omega) (hR.trans (congrArg (fun z => m_begin_e139 (itR (m_begin_b139 p1) (i139 + 1) k z)) hB139)) _ _ _ hE (lv_sub hl [1, 2, 0] rfl)
            refine lv_if_ne (tgt := 163) hx hb dX1_begin_156 (by decide) (fun c156 => ?_) (fun c156 => ?_)
            · have hB139 : m_begin_b139 p1 i139 w139 = m_begin_j166 p1 i139 w139 (1000 : Int32) := hB139.trans (congrArg (fun z => m_begin_j166 p1 i139 w139 z) (if_neg c156))
              refine lv_sipush (v := 1000) hx hb dX1_begin_163 rfl ?_
              exact hJ166 (1000 : Int32)  hB139 _ _ _ hE (lv_sub hl [0, 1, 2] rfl)
            · have hB139 : m_begin_b139 p1 i139 w139 = m_begin_j166 p1 i139 w139 (0 : Int32) := hB139.trans (congrArg (fun z => m_begin_j166 p1 i139 w139 z) (if_pos c156))
              refine lv_iconst (v := 0) hx hb dX1_begin_159 rfl ?_
              refine lv_goto (tgt := 166) hx hb dX1_begin_160 (by decide) ?_
              exact hJ166 (0 : Int32)  hB139 _ _ _ hE (lv_sub hl [0, 1, 2] rfl)
        exact hL139 4 0 w83 (by omega) hR _ _ _ hE (lv_sub hl [1, 2, 0] rfl)
      | succ k ih83 =>
        intro i83 w83 hi83 hR H locs ls hE hl
        have hlt83 : i83 < 8 := by omega
        have hB83 : m_begin_b83 p1 i83 w83 = m_begin_j109 p1 i83 w83 (if i83 = p1 then (-1 : Int32) else (0 : Int32)) := rfl
        refine lv_iload_n hx hb dX1_begin_83 rfl (lv_at hl 2 rfl) ?_
        refine lv_bipush (v := 8) hx hb dX1_begin_84 rfl ?_
        refine n_geF (a := i83) (b := 8) (by omega) (by omega) hx hb dX1_begin_86 (tgt := 137) (by decide) ?_
        refine lv_aload_n hx hb dX1_begin_89 rfl (lv_at hl 0 rfl) ?_
        refine mg_27 hx hb hts hown hK hE dX1_begin_90 ?_
        refine lv_bipush (v := 8) hx hb dX1_begin_93 rfl ?_
        refine lv_iload_n hx hb dX1_begin_95 rfl (lv_at hl 1 rfl) ?_
        refine n_mul (a := 8) (b := p1) hx hb dX1_begin_96 ?_
        refine lv_iload_n hx hb dX1_begin_97 rfl (lv_at hl 2 rfl) ?_
        refine n_add (a := (8 * p1)) (b := i83) hx hb dX1_begin_98 ?_
        refine lv_iload_n hx hb dX1_begin_99 rfl (lv_at hl 2 rfl) ?_
        refine lv_iload_n hx hb dX1_begin_100 rfl (lv_at hl 1 rfl) ?_
        have hJ109 : ∀ (w109 : Int32) (hB83 : m_begin_b83 p1 i83 w83 = m_begin_j109 p1 i83 w83 w109), ∀ (H : Heap) (locs : List Loc) (ls : Array Slot), EW D A s.heap (MW m ar cs w83) H locs → lv_has ls 4 [(0, .ref m), (1, .int (nI p1)), (3, .int (nI i83))] → W p l e R s mid args below meth c H locs 0 0 Q (F0 mid 109 ls [.int w109, .int (nI ((8 * p1) + i83)), .ref (ar 27)]) := by
          intro w109 hB83 H locs ls hE hl
          have hB83 : m_begin_b83 p1 i83 w83 = (m_begin_j130 p1 i83 w83 w109 (if i83 = p1 then (-1 : Int32) else (0 : Int32))) := hB83
          refine ms_27 (n := ((8 * p1) + i83)) (by omega) hx hb hK hE dX1_begin_109 (fun H locs hE => ?_)
          refine lv_aload_n hx hb dX1_begin_110 rfl (lv_at hl 0 rfl) ?_
          refine mg_27 hx hb hts hown hK hE dX1_begin_111 ?_
          refine lv_bipush (v := 8) hx hb dX1_begin_114 rfl ?_
          refine lv_iload_n hx hb dX1_begin_116 rfl (lv_at hl 2 rfl) ?_
          refine n_mul (a := 8) (b := i83) hx hb dX1_begin_117 ?_
          refine lv_iload_n hx hb dX1_begin_118 rfl (lv_at hl 1 rfl) ?_
          refine n_add (a := (8 * i83)) (b := p1) hx hb dX1_begin_119 ?_
          refine lv_iload_n hx hb dX1_begin_120 rfl (lv_at hl 2 rfl) ?_
          refine lv_iload_n hx hb dX1_begin_121 rfl (lv_at hl 1 rfl) ?_
          have hJ130 : ∀ (w130 : Int32) (hB83 : m_begin_b83 p1 i83 w83 = m_begin_j130 p1 i83 w83 w109 w130), ∀ (H : Heap) (locs : List Loc) (ls : Array Slot), EW D A s.heap (MW m ar cs (sI w83 27 ((8 * p1) + i83) w109)) H locs → lv_has ls 4 [(0, .ref m), (1, .int (nI p1)), (3, .int (nI i83))] → W p l e R s mid args below meth c H locs 0 0 Q (F0 mid 130 ls [.int w130, .int (nI ((8 * i83) + p1)), .ref (ar 27)]) := by
            intro w130 hB83 H locs ls hE hl
            have hB83 : m_begin_b83 p1 i83 w83 = (sI (sI w83 27 ((8 * p1) + i83) w109) 27 ((8 * i83) + p1) w130) := hB83
            refine ms_27 (n := ((8 * i83) + p1)) (by omega) hx hb hK hE dX1_begin_130 (fun H locs hE => ?_)
            refine n_inc (lv' := [(3, .int (nI (i83 + 1))), (0, .ref m), (1, .int (nI p1))]) hx hb dX1_begin_131 hl (k := 2) rfl (by decide) rfl (fun ls hl => ?_)
            refine lv_goto (tgt := 83) hx hb dX1_begin_134 (by decide) ?_
            exact ih83 (i83 + 1) (sI (sI w83 27 ((8 * p1) + i83) w109) 27 ((8 * i83) + p1) w130) (by omega) (hR.trans (congrArg (fun z => m_begin_e83 p1 (itR (m_begin_b83 p1) (i83 + 1) k z)) hB83)) _ _ _ hE (lv_sub hl [1, 2, 0] rfl)
          refine n_icmp_ne (a := i83) (b := p1) (tgt := 129) (by omega) (by omega) hx hb dX1_begin_122 (by decide) (fun c122 => ?_) (fun c122 => ?_)
          · have hB83 : m_begin_b83 p1 i83 w83 = m_begin_j130 p1 i83 w83 w109 (0 : Int32) := hB83.trans (congrArg (fun z => m_begin_j130 p1 i83 w83 w109 z) (if_neg c122))
            refine lv_iconst (v := 0) hx hb dX1_begin_129 rfl ?_
            exact hJ130 (0 : Int32)  hB83 _ _ _ hE (lv_sub hl [0, 1, 2] rfl)
          · have hB83 : m_begin_b83 p1 i83 w83 = m_begin_j130 p1 i83 w83 w109 (-1 : Int32) := hB83.trans (congrArg (fun z => m_begin_j130 p1 i83 w83 w109 z) (if_pos c122))
            refine lv_iconst (v := -1) hx hb dX1_begin_125 rfl ?_
            refine lv_goto (tgt := 130) hx hb dX1_begin_126 (by decide) ?_
            exact hJ130 (-1 : Int32)  hB83 _ _ _ hE (lv_sub hl [0, 1, 2] rfl)
        refine n_icmp_ne (a := i83) (b := p1) (tgt := 108) (by omega) (by omega) hx hb dX1_begin_101 (by decide) (fun c101 => ?_) (fun c101 => ?_)
        · have hB83 : m_begin_b83 p1 i83 w83 = m_begin_j109 p1 i83 w83 (0 : Int32) := hB83.trans (congrArg (fun z => m_begin_j109 p1 i83 w83 z) (if_neg c101))
          refine lv_iconst (v := 0) hx hb dX1_begin_108 rfl ?_
          exact hJ109 (0 : Int32)  hB83 _ _ _ hE (lv_sub hl [0, 1, 2] rfl)
        · have hB83 : m_begin_b83 p1 i83 w83 = m_begin_j109 p1 i83 w83 (-1 : Int32) := hB83.trans (congrArg (fun z => m_begin_j109 p1 i83 w83 z) (if_pos c101))
          refine lv_iconst (v := -1) hx hb dX1_begin_104 rfl ?_
          refine lv_goto (tgt := 109) hx hb dX1_begin_105 (by decide) ?_
          exact hJ109 (-1 : Int32)  hB83 _ _ _ hE (lv_sub hl [0, 1, 2] rfl)
    exact hL83 8 0 (sI (sI (sI (sI (sI (sI (sI (sI (sI (sI wc2 13 p1 (vp_nar .boolean (1 : Int32))) 14 p1 p2) 15 p1 (0 : Int32)) 16 p1 (0 : Int32)) 17 p1 (100 : Int32)) 18 p1 (1000 : Int32)) 19 p1 (50 : Int32)) 20 p1 (20 : Int32)) 21 p1 (-9 : Int32)) 22 p1 (0 : Int32)) (by omega) hR _ _ _ hE (lv_sub hl [1, 2, 0] rfl)
  exact hNc2 (m_unlink p1 Z) hR _ _ _ hE (lv_sub hl [0, 1, 2] rfl)
section C_begin
variable {p : Program} {l : Launch} {e : Env} {R : Room} {s : State} {mid : MethodId} {args : Array Value} {below : List Frame} {meth : Method} {c : Code} {H : Heap} {locs : List Loc} {Q : State → Prop} {cc : ByteArray} {pc : Nat} {ls : Array Slot} {rest : List Value} {D : va_G} {A : Nat → Prop} {m : Nat} {ar : Nat → Nat} {cs : Nat → ClassId} {Z : ZT} {nL : Nat}
theorem call_m_begin (hx : p.tables.exec = Jvm.exec) (hb : c.code = cc) (hml : c.maxLocals = nL) (hown : s.vm.findClass RX1 = some mid.cls) (hts : ∀ w ∈ lw_all, w.before args s = true) (hK : KK D cs s) (hA : ∀ q : Nat, s.heap.size ≤ q → A q) (hE : EW D A s.heap (MW m ar cs Z) H locs) (hls : ls.size = nL) (p1 : Nat) (p2 : Int32) (hn1 : p1 < 8) (h1 : 3 ≤ R.frames) (h2 : 70 ≤ R.locals) (h3 : (rest.map fun v => v.category).sum ≤ 8) (hd : decode cc pc = .ok (.invokevirtual 164, 3)) (kk : ∀ (H1 : Heap) (locs1 : List Loc), EW D A s.heap (MW m ar cs (m_begin p1 p2 Z)) H1 locs1 → W p l e R s mid args below meth c H1 locs1 0 0 Q (F0 mid (pc + 3) ls (rest))) : W p l e R s mid args below meth c H locs 0 0 Q (F0 mid pc ls (.int p2 :: .int (nI p1) :: .ref m :: rest)) :=
  gCall_v (As := [.int (nI p1), .int p2]) (rest := rest) (q0 := 0) (ci := 1) (fs := MF ar Z) (T' := TX1) (N' := 52) hx hb hml hown hts hK hA hE hls (met_m_begin l D cs m ar Z H.size p1 p2 hn1) (cwV 2 hts (lw_V q1160 q1162 qs48 q85 q1163) rfl rfl rfl (by decide +kernel) ⟨h1, h2⟩) rfl rfl rfl rfl h3 hd ⟨Nat.zero_le _, Nat.zero_le _⟩ (fun u H1 locs1 hp _ hE => by subst hp; exact kk H1 locs1 hE)
end C_begin
def m_being_c36 (w32 : Int32) (wc36 : ZT) : Int32 × ZT := (w32, wc36)
def m_being_j32 (p1 : Int32) (p2 : Int32) (Z : ZT) (w32 : Int32) : Int32 × ZT := m_being_c36 w32 (m_begin (ix p1) p2 Z)
def m_being (p1 : Int32) (p2 : Int32) (Z : ZT) : Int32 × ZT := (if (m_isPlace p1) = 0 then ((-1 : Int32), Z) else (if (m_in p2 (0 : Int32) (3 : Int32)) = 0 then ((-1 : Int32), Z) else m_being_j32 p1 p2 Z (if Z.1 13 (ix p1) = 0 then (0 : Int32) else (1 : Int32))))
set_option maxHeartbeats 4000000 in
set_option maxRecDepth 100000 in
theorem met_m_being (l : Launch) (D : va_G) (cs : Nat → ClassId) (m : Nat) (ar : Nat → Nat) (Z : ZT) (sz : Nat) (p1 : Int32) (p2 : Int32) : Met l yX1_being (ws_ yX1_being cX1_being 4 (some .int)) ({ frames := 3, cells := 0, slots := 0, locals := 70 }) (va_Pc [.ref m, .int p1, .int p2] (wSt D cs (MW m ar cs Z) sz)) (cQi (fun (v : Int32) (u : ZT) => m_being p1 p2 Z = (v, u)) D (fun u => MW m ar cs u) (MW m ar cs Z) sz) 0 0 (va_A (MW m ar cs Z) sz) := by
  refine gStart_i (C := RX1) rfl rfl (Nat.le_of_ble_eq_true rfl) ?_
  intro p e s mid args below meth c R Q A hx hb hml hown hts hK hA hRf hRl hRc hRs hret hE ls hl
  have hRf : 3 ≤ R.frames := hRf
  have hRl : 70 ≤ R.locals := hRl
  have hl : lv_has ls 4 [(0, .ref m), (1, .int p1), (2, .int p2)] := hl
  have hR : m_being p1 p2 Z = (if (m_isPlace p1) = 0 then ((-1 : Int32), Z) else (if (m_in p2 (0 : Int32) (3 : Int32)) = 0 then ((-1 : Int32), Z) else m_being_j32 p1 p2 Z (if Z.1 13 (ix p1) = 0 then (0 : Int32) else (1 : Int32)))) := rfl
  refine lv_iload_n hx hb dX1_being_0 rfl (lv_at hl 1 rfl) ?_
  refine call_m_isPlace hx hb hml hown hts hK hA hE hl.1 p1 (lz (show 2 ≤ 3 by decide) hRf) (lz (show 42 ≤ 70 by decide) hRl) (Nat.le_of_ble_eq_true rfl) dX1_being_1 (fun H locs hE => ?_)
  refine lv_if_eq (tgt := 16) hx hb dX1_being_4 (by decide) (fun c4 => ?_) (fun c4 => ?_)
  · have hR : m_being p1 p2 Z = ((-1 : Int32), Z) := hR.trans (congrArg (fun z => z) (if_pos c4))
    refine lv_iconst (v := -1) hx hb dX1_being_16 rfl ?_
    exact hret (-1 : Int32) Z hR rfl hE (Nat.le_refl 0) (Nat.le_refl 0) dX1_being_17
  · have hR : m_being p1 p2 Z = (if (m_in p2 (0 : Int32) (3 : Int32)) = 0 then ((-1 : Int32), Z) else m_being_j32 p1 p2 Z (if Z.1 13 (ix p1) = 0 then (0 : Int32) else (1 : Int32))) := hR.trans (congrArg (fun z => z) (if_neg c4))
    refine lv_iload_n hx hb dX1_being_7 rfl (lv_at hl 2 rfl) ?_
    refine lv_iconst (v := 0) hx hb dX1_being_8 rfl ?_
    refine lv_iconst (v := 3) hx hb dX1_being_9 rfl ?_
    refine call_m_in hx hb hml hown hts hK hA hE hl.1 p2 (0 : Int32) (3 : Int32) (lz (show 1 ≤ 3 by decide) hRf) (lz (show 22 ≤ 70 by decide) hRl) (Nat.le_of_ble_eq_true rfl) dX1_being_10 (fun H locs hE => ?_)
    refine lv_if_ne (tgt := 18) hx hb dX1_being_13 (by decide) (fun c13 => ?_) (fun c13 => ?_)
    · have hR : m_being p1 p2 Z = (m_being_j32 p1 p2 Z (if Z.1 13 (ix p1) = 0 then (0 : Int32) else (1 : Int32))) := hR.trans (congrArg (fun z => z) (if_neg c13))
      have hnp1 := vp_ix (x := p1) (N := 8) (isPlace_vp c4) (by decide)
      have hbnp1 := hnp1.2
      refine lv_aload_n hx hb dX1_being_18 rfl (lv_at hl 0 rfl) ?_
      refine mg_13 hx hb hts hown hK hE dX1_being_19 ?_
      refine lv_iload_n hx hb dX1_being_22 rfl (lv_at hl 1 rfl) ?_
      refine top_nat hnp1.1 ?_
      refine ma_13 (n := (ix p1)) (by omega) hx hb hK hE dX1_being_23 ?_
      have hJ32 : ∀ (w32 : Int32) (hR : m_being p1 p2 Z = m_being_j32 p1 p2 Z w32), ∀ (H : Heap) (locs : List Loc) (ls : Array Slot), EW D A s.heap (MW m ar cs Z) H locs → lv_has ls 4 [(0, .ref m), (1, .int p1), (2, .int p2)] → W p l e R s mid args below meth c H locs 0 0 Q (F0 mid 32 ls [.int w32]) := by
        intro w32 hR H locs ls hE hl
        have hR : m_being p1 p2 Z = (m_being_c36 w32 (m_begin (ix p1) p2 Z)) := hR
        refine lv_istore_n (lv' := [(3, .int w32), (0, .ref m), (1, .int p1), (2, .int p2)]) hx hb dX1_being_32 rfl hl (by decide) rfl (fun ls hl => ?_)
        refine lv_aload_n hx hb dX1_being_33 rfl (lv_at hl 1 rfl) ?_
        refine lv_iload_n hx hb dX1_being_34 rfl (lv_at hl 2 rfl) ?_
        refine top_nat hnp1.1 ?_
        refine lv_iload_n hx hb dX1_being_35 rfl (lv_at hl 3 rfl) ?_
        refine call_m_begin hx hb hml hown hts hK hA hE hl.1 (ix p1) p2 (by omega) (lz (show 3 ≤ 3 by decide) hRf) (lz (show 70 ≤ 70 by decide) hRl) (Nat.le_of_ble_eq_true rfl) dX1_being_36 (fun H locs hE => ?_)
        have hNc36 : ∀ (wc36 : ZT) (hR : m_being p1 p2 Z = m_being_c36 w32 wc36), ∀ (H : Heap) (locs : List Loc) (ls : Array Slot), EW D A s.heap (MW m ar cs wc36) H locs → lv_has ls 4 [(3, .int w32)] → W p l e R s mid args below meth c H locs 0 0 Q (F0 mid 39 ls []) := by
          intro wc36 hR H locs ls hE hl
          have hR : m_being p1 p2 Z = (w32, wc36) := hR
          refine lv_iload_n hx hb dX1_being_39 rfl (lv_at hl 0 rfl) ?_
          exact hret w32 wc36 hR rfl hE (Nat.le_refl 0) (Nat.le_refl 0) dX1_being_40
        exact hNc36 (m_begin (ix p1) p2 Z) hR _ _ _ hE (lv_sub hl [0] rfl)
      refine lv_if_eq (tgt := 31) hx hb dX1_being_24 (by decide) (fun c24 => ?_) (fun c24 => ?_)
      · have hR : m_being p1 p2 Z = m_being_j32 p1 p2 Z (0 : Int32) := hR.trans (congrArg (fun z => m_being_j32 p1 p2 Z z) (if_pos c24))
        refine lv_iconst (v := 0) hx hb dX1_being_31 rfl ?_
        exact hJ32 (0 : Int32)  hR _ _ _ hE (lv_sub hl [0, 1, 2] rfl)
      · have hR : m_being p1 p2 Z = m_being_j32 p1 p2 Z (1 : Int32) := hR.trans (congrArg (fun z => m_being_j32 p1 p2 Z z) (if_neg c24))
        refine lv_iconst (v := 1) hx hb dX1_being_27 rfl ?_
        refine lv_goto (tgt := 32) hx hb dX1_being_28 (by decide) ?_
        exact hJ32 (1 : Int32)  hR _ _ _ hE (lv_sub hl [0, 1, 2] rfl)
    · have hR : m_being p1 p2 Z = ((-1 : Int32), Z) := hR.trans (congrArg (fun z => z) (if_pos c13))
      refine lv_iconst (v := -1) hx hb dX1_being_16 rfl ?_
      exact hret (-1 : Int32) Z hR rfl hE (Nat.le_refl 0) (Nat.le_refl 0) dX1_being_17
def m_need_k11 (Z : ZT) : Int32 × ZT := ((-1 : Int32), Z)
def m_need (p1 : Int32) (p2 : Int32) (Z : ZT) : Int32 × ZT := (if (m_isPlace p2) = 0 then m_need_k11 Z else (if p1 = 0 then m_need_k11 Z else (if Z.1 13 (ix p2) = 0 then (m_meets 1 Z) else ((0 : Int32), Z))))
set_option maxHeartbeats 4000000 in
set_option maxRecDepth 100000 in
theorem met_m_need (l : Launch) (D : va_G) (cs : Nat → ClassId) (m : Nat) (ar : Nat → Nat) (Z : ZT) (sz : Nat) (p1 : Int32) (p2 : Int32) : Met l yX1_need (ws_ yX1_need cX1_need 3 (some .int)) ({ frames := 2, cells := 0, slots := 0, locals := 42 }) (va_Pc [.ref m, .int p1, .int p2] (wSt D cs (MW m ar cs Z) sz)) (cQi (fun (v : Int32) (u : ZT) => m_need p1 p2 Z = (v, u)) D (fun u => MW m ar cs u) (MW m ar cs Z) sz) 0 0 (va_A (MW m ar cs Z) sz) := by
  refine gStart_i (C := RX1) rfl rfl (Nat.le_of_ble_eq_true rfl) ?_
  intro p e s mid args below meth c R Q A hx hb hml hown hts hK hA hRf hRl hRc hRs hret hE ls hl
  have hRf : 2 ≤ R.frames := hRf
  have hRl : 42 ≤ R.locals := hRl
  have hl : lv_has ls 3 [(0, .ref m), (1, .int p1), (2, .int p2)] := hl
  have hR : m_need p1 p2 Z = (if (m_isPlace p2) = 0 then m_need_k11 Z else (if p1 = 0 then m_need_k11 Z else (if Z.1 13 (ix p2) = 0 then (m_meets 1 Z) else ((0 : Int32), Z)))) := rfl
  refine lv_iload_n hx hb dX1_need_0 rfl (lv_at hl 2 rfl) ?_
  refine call_m_isPlace hx hb hml hown hts hK hA hE hl.1 p2 (lz (show 2 ≤ 2 by decide) hRf) (lz (show 42 ≤ 42 by decide) hRl) (Nat.le_of_ble_eq_true rfl) dX1_need_1 (fun H locs hE => ?_)
  have hJ11 : ∀ (hR : m_need p1 p2 Z = m_need_k11 Z), ∀ (H : Heap) (locs : List Loc) (ls : Array Slot), EW D A s.heap (MW m ar cs Z) H locs → lv_has ls 3 [] → W p l e R s mid args below meth c H locs 0 0 Q (F0 mid 11 ls []) := by
    intro hR H locs ls hE hl
    have hR : m_need p1 p2 Z = ((-1 : Int32), Z) := hR
    refine lv_iconst (v := -1) hx hb dX1_need_11 rfl ?_
    refine lv_goto (tgt := 33) hx hb dX1_need_12 (by decide) ?_
    exact hret (-1 : Int32) Z hR rfl hE (Nat.le_refl 0) (Nat.le_refl 0) dX1_need_33
  refine lv_if_eq (tgt := 11) hx hb dX1_need_4 (by decide) (fun c4 => ?_) (fun c4 => ?_)
  · have hR : m_need p1 p2 Z = (m_need_k11 Z) := hR.trans (congrArg (fun z => z) (if_pos c4))
    exact hJ11  hR _ _ _ hE (lv_sub hl [] rfl)
  · have hR : m_need p1 p2 Z = (if p1 = 0 then m_need_k11 Z else (if Z.1 13 (ix p2) = 0 then (m_meets 1 Z) else ((0 : Int32), Z))) := hR.trans (congrArg (fun z => z) (if_neg c4))
    refine lv_iload_n hx hb dX1_need_7 rfl (lv_at hl 1 rfl) ?_
    refine lv_if_ne (tgt := 15) hx hb dX1_need_8 (by decide) (fun c8 => ?_) (fun c8 => ?_)
    · have hR : m_need p1 p2 Z = (if Z.1 13 (ix p2) = 0 then (m_meets 1 Z) else ((0 : Int32), Z)) := hR.trans (congrArg (fun z => z) (if_neg c8))
      refine lv_aload_n hx hb dX1_need_15 rfl (lv_at hl 0 rfl) ?_
      refine mg_13 hx hb hts hown hK hE dX1_need_16 ?_
      refine lv_iload_n hx hb dX1_need_19 rfl (lv_at hl 2 rfl) ?_
      refine mr_13 (i := p2) (isPlace_vp c4) hx hb hK hE dX1_need_20 ?_
      refine lv_if_eq (tgt := 28) hx hb dX1_need_21 (by decide) (fun c21 => ?_) (fun c21 => ?_)
      · have hR : m_need p1 p2 Z = (m_meets 1 Z) := hR.trans (congrArg (fun z => z) (if_pos c21))
        refine lv_aload_n hx hb dX1_need_28 rfl (lv_at hl 0 rfl) ?_
        refine lv_iconst (v := 1) hx hb dX1_need_29 rfl ?_
        refine call_m_meets hx hb hml hown hts hK hA hE hl.1 1 (by omega) (lz (show 1 ≤ 2 by decide) hRf) (lz (show 21 ≤ 42 by decide) hRl) (Nat.le_of_ble_eq_true rfl) dX1_need_30 (fun H locs hE => ?_)
        exact hret ((m_meets 1 Z).1) ((m_meets 1 Z).2) hR rfl hE (Nat.le_refl 0) (Nat.le_refl 0) dX1_need_33
      · have hR : m_need p1 p2 Z = ((0 : Int32), Z) := hR.trans (congrArg (fun z => z) (if_neg c21))
        refine lv_iconst (v := 0) hx hb dX1_need_24 rfl ?_
        refine lv_goto (tgt := 33) hx hb dX1_need_25 (by decide) ?_
        exact hret (0 : Int32) Z hR rfl hE (Nat.le_refl 0) (Nat.le_refl 0) dX1_need_33
    · have hR : m_need p1 p2 Z = (m_need_k11 Z) := hR.trans (congrArg (fun z => z) (if_pos c8))
      exact hJ11  hR _ _ _ hE (lv_sub hl [] rfl)
section C_need
variable {p : Program} {l : Launch} {e : Env} {R : Room} {s : State} {mid : MethodId} {args : Array Value} {below : List Frame} {meth : Method} {c : Code} {H : Heap} {locs : List Loc} {Q : State → Prop} {cc : ByteArray} {pc : Nat} {ls : Array Slot} {rest : List Value} {D : va_G} {A : Nat → Prop} {m : Nat} {ar : Nat → Nat} {cs : Nat → ClassId} {Z : ZT} {nL : Nat}
theorem call_m_need (hx : p.tables.exec = Jvm.exec) (hb : c.code = cc) (hml : c.maxLocals = nL) (hown : s.vm.findClass RX1 = some mid.cls) (hts : ∀ w ∈ lw_all, w.before args s = true) (hK : KK D cs s) (hA : ∀ q : Nat, s.heap.size ≤ q → A q) (hE : EW D A s.heap (MW m ar cs Z) H locs) (hls : ls.size = nL) (p1 : Int32) (p2 : Int32) (h1 : 3 ≤ R.frames) (h2 : 64 ≤ R.locals) (h3 : (rest.map fun v => v.category).sum ≤ 8) (hd : decode cc pc = .ok (.invokevirtual 182, 3)) (kk : ∀ (H1 : Heap) (locs1 : List Loc), EW D A s.heap (MW m ar cs (m_need p1 p2 Z).2) H1 locs1 → W p l e R s mid args below meth c H1 locs1 0 0 Q (F0 mid (pc + 3) ls (.int (m_need p1 p2 Z).1 :: rest))) : W p l e R s mid args below meth c H locs 0 0 Q (F0 mid pc ls (.int p2 :: .int p1 :: .ref m :: rest)) :=
  gCall_i (As := [.int p1, .int p2]) (rest := rest) (q0 := 0) (ci := 1) (fs := MF ar Z) (T' := TX1) (N' := 52) hx hb hml hown hts hK hA hE hls (met_m_need l D cs m ar Z H.size p1 p2) (cwV 2 hts (lw_V q1187 q1189 qs52 q85 q1190) rfl rfl rfl (by decide +kernel) ⟨h1, h2⟩) rfl rfl rfl rfl h3 hd ⟨Nat.zero_le _, Nat.zero_le _⟩ (fun v u H1 locs1 hp _ hE => by rw [hp] at kk; exact kk H1 locs1 hE)
end C_need
def m_needTwo_k18 (Z : ZT) : Int32 × ZT := ((-1 : Int32), Z)
def m_needTwo_k44 (Z : ZT) : Int32 × ZT := (m_meets 1 Z)
def m_needTwo (p1 : Int32) (p2 : Int32) (p3 : Int32) (Z : ZT) : Int32 × ZT := (if (m_isPlace p2) = 0 then m_needTwo_k18 Z else (if (m_isPlace p3) = 0 then m_needTwo_k18 Z else (if p1 = 0 then m_needTwo_k18 Z else (if Z.1 13 (ix p2) = 0 then m_needTwo_k44 Z else (if Z.1 13 (ix p3) = 0 then m_needTwo_k44 Z else ((0 : Int32), Z))))))
set_option maxHeartbeats 4000000 in
set_option maxRecDepth 100000 in
theorem met_m_needTwo (l : Launch) (D : va_G) (cs : Nat → ClassId) (m : Nat) (ar : Nat → Nat) (Z : ZT) (sz : Nat) (p1 : Int32) (p2 : Int32) (p3 : Int32) : Met l yX1_needTwo (ws_ yX1_needTwo cX1_needTwo 4 (some .int)) ({ frames := 2, cells := 0, slots := 0, locals := 42 }) (va_Pc [.ref m, .int p1, .int p2, .int p3] (wSt D cs (MW m ar cs Z) sz)) (cQi (fun (v : Int32) (u : ZT) => m_needTwo p1 p2 p3 Z = (v, u)) D (fun u => MW m ar cs u) (MW m ar cs Z) sz) 0 0 (va_A (MW m ar cs Z) sz) := by
  refine gStart_i (C := RX1) rfl rfl (Nat.le_of_ble_eq_true rfl) ?_
  intro p e s mid args below meth c R Q A hx hb hml hown hts hK hA hRf hRl hRc hRs hret hE ls hl
  have hRf : 2 ≤ R.frames := hRf
  have hRl : 42 ≤ R.locals := hRl
  have hl : lv_has ls 4 [(0, .ref m), (1, .int p1), (2, .int p2), (3, .int p3)] := hl
  have hR : m_needTwo p1 p2 p3 Z = (if (m_isPlace p2) = 0 then m_needTwo_k18 Z else (if (m_isPlace p3) = 0 then m_needTwo_k18 Z else (if p1 = 0 then m_needTwo_k18 Z else (if Z.1 13 (ix p2) = 0 then m_needTwo_k44 Z else (if Z.1 13 (ix p3) = 0 then m_needTwo_k44 Z else ((0 : Int32), Z)))))) := rfl
  refine lv_iload_n hx hb dX1_needTwo_0 rfl (lv_at hl 2 rfl) ?_
  refine call_m_isPlace hx hb hml hown hts hK hA hE hl.1 p2 (lz (show 2 ≤ 2 by decide) hRf) (lz (show 42 ≤ 42 by decide) hRl) (Nat.le_of_ble_eq_true rfl) dX1_needTwo_1 (fun H locs hE => ?_)
  have hJ18 : ∀ (hR : m_needTwo p1 p2 p3 Z = m_needTwo_k18 Z), ∀ (H : Heap) (locs : List Loc) (ls : Array Slot), EW D A s.heap (MW m ar cs Z) H locs → lv_has ls 4 [] → W p l e R s mid args below meth c H locs 0 0 Q (F0 mid 18 ls []) := by
    intro hR H locs ls hE hl
    have hR : m_needTwo p1 p2 p3 Z = ((-1 : Int32), Z) := hR
    refine lv_iconst (v := -1) hx hb dX1_needTwo_18 rfl ?_
    refine lv_goto (tgt := 49) hx hb dX1_needTwo_19 (by decide) ?_
    exact hret (-1 : Int32) Z hR rfl hE (Nat.le_refl 0) (Nat.le_refl 0) dX1_needTwo_49
  refine lv_if_eq (tgt := 18) hx hb dX1_needTwo_4 (by decide) (fun c4 => ?_) (fun c4 => ?_)
  · have hR : m_needTwo p1 p2 p3 Z = (m_needTwo_k18 Z) := hR.trans (congrArg (fun z => z) (if_pos c4))
    exact hJ18  hR _ _ _ hE (lv_sub hl [] rfl)
  · have hR : m_needTwo p1 p2 p3 Z = (if (m_isPlace p3) = 0 then m_needTwo_k18 Z else (if p1 = 0 then m_needTwo_k18 Z else (if Z.1 13 (ix p2) = 0 then m_needTwo_k44 Z else (if Z.1 13 (ix p3) = 0 then m_needTwo_k44 Z else ((0 : Int32), Z))))) := hR.trans (congrArg (fun z => z) (if_neg c4))
    refine lv_iload_n hx hb dX1_needTwo_7 rfl (lv_at hl 3 rfl) ?_
    refine call_m_isPlace hx hb hml hown hts hK hA hE hl.1 p3 (lz (show 2 ≤ 2 by decide) hRf) (lz (show 42 ≤ 42 by decide) hRl) (Nat.le_of_ble_eq_true rfl) dX1_needTwo_8 (fun H locs hE => ?_)
    refine lv_if_eq (tgt := 18) hx hb dX1_needTwo_11 (by decide) (fun c11 => ?_) (fun c11 => ?_)
    · have hR : m_needTwo p1 p2 p3 Z = (m_needTwo_k18 Z) := hR.trans (congrArg (fun z => z) (if_pos c11))
      exact hJ18  hR _ _ _ hE (lv_sub hl [] rfl)
    · have hR : m_needTwo p1 p2 p3 Z = (if p1 = 0 then m_needTwo_k18 Z else (if Z.1 13 (ix p2) = 0 then m_needTwo_k44 Z else (if Z.1 13 (ix p3) = 0 then m_needTwo_k44 Z else ((0 : Int32), Z)))) := hR.trans (congrArg (fun z => z) (if_neg c11))
      refine lv_iload_n hx hb dX1_needTwo_14 rfl (lv_at hl 1 rfl) ?_
      refine lv_if_ne (tgt := 22) hx hb dX1_needTwo_15 (by decide) (fun c15 => ?_) (fun c15 => ?_)
      · have hR : m_needTwo p1 p2 p3 Z = (if Z.1 13 (ix p2) = 0 then m_needTwo_k44 Z else (if Z.1 13 (ix p3) = 0 then m_needTwo_k44 Z else ((0 : Int32), Z))) := hR.trans (congrArg (fun z => z) (if_neg c15))
        refine lv_aload_n hx hb dX1_needTwo_22 rfl (lv_at hl 0 rfl) ?_
        refine mg_13 hx hb hts hown hK hE dX1_needTwo_23 ?_
        refine lv_iload_n hx hb dX1_needTwo_26 rfl (lv_at hl 2 rfl) ?_
        refine mr_13 (i := p2) (isPlace_vp c4) hx hb hK hE dX1_needTwo_27 ?_
        have hJ44 : ∀ (hR : m_needTwo p1 p2 p3 Z = m_needTwo_k44 Z), ∀ (H : Heap) (locs : List Loc) (ls : Array Slot), EW D A s.heap (MW m ar cs Z) H locs → lv_has ls 4 [(0, .ref m)] → W p l e R s mid args below meth c H locs 0 0 Q (F0 mid 44 ls []) := by
          intro hR H locs ls hE hl
          have hR : m_needTwo p1 p2 p3 Z = (m_meets 1 Z) := hR
          refine lv_aload_n hx hb dX1_needTwo_44 rfl (lv_at hl 0 rfl) ?_
          refine lv_iconst (v := 1) hx hb dX1_needTwo_45 rfl ?_
          refine call_m_meets hx hb hml hown hts hK hA hE hl.1 1 (by omega) (lz (show 1 ≤ 2 by decide) hRf) (lz (show 21 ≤ 42 by decide) hRl) (Nat.le_of_ble_eq_true rfl) dX1_needTwo_46 (fun H locs hE => ?_)
          exact hret ((m_meets 1 Z).1) ((m_meets 1 Z).2) hR rfl hE (Nat.le_refl 0) (Nat.le_refl 0) dX1_needTwo_49
        refine lv_if_eq (tgt := 44) hx hb dX1_needTwo_28 (by decide) (fun c28 => ?_) (fun c28 => ?_)
        · have hR : m_needTwo p1 p2 p3 Z = (m_needTwo_k44 Z) := hR.trans (congrArg (fun z => z) (if_pos c28))
          exact hJ44  hR _ _ _ hE (lv_sub hl [0] rfl)
        · have hR : m_needTwo p1 p2 p3 Z = (if Z.1 13 (ix p3) = 0 then m_needTwo_k44 Z else ((0 : Int32), Z)) := hR.trans (congrArg (fun z => z) (if_neg c28))
          refine lv_aload_n hx hb dX1_needTwo_31 rfl (lv_at hl 0 rfl) ?_
          refine mg_13 hx hb hts hown hK hE dX1_needTwo_32 ?_
          refine lv_iload_n hx hb dX1_needTwo_35 rfl (lv_at hl 3 rfl) ?_
          refine mr_13 (i := p3) (isPlace_vp c11) hx hb hK hE dX1_needTwo_36 ?_
          refine lv_if_eq (tgt := 44) hx hb dX1_needTwo_37 (by decide) (fun c37 => ?_) (fun c37 => ?_)
          · have hR : m_needTwo p1 p2 p3 Z = (m_needTwo_k44 Z) := hR.trans (congrArg (fun z => z) (if_pos c37))
            exact hJ44  hR _ _ _ hE (lv_sub hl [0] rfl)
          · have hR : m_needTwo p1 p2 p3 Z = ((0 : Int32), Z) := hR.trans (congrArg (fun z => z) (if_neg c37))
            refine lv_iconst (v := 0) hx hb dX1_needTwo_40 rfl ?_
            refine lv_goto (tgt := 49) hx hb dX1_needTwo_41 (by decide) ?_
            exact hret (0 : Int32) Z hR rfl hE (Nat.le_refl 0) (Nat.le_refl 0) dX1_needTwo_49
      · have hR : m_needTwo p1 p2 p3 Z = (m_needTwo_k18 Z) := hR.trans (congrArg (fun z => z) (if_pos c15))
        exact hJ18  hR _ _ _ hE (lv_sub hl [] rfl)
section C_needTwo
variable {p : Program} {l : Launch} {e : Env} {R : Room} {s : State} {mid : MethodId} {args : Array Value} {below : List Frame} {meth : Method} {c : Code} {H : Heap} {locs : List Loc} {Q : State → Prop} {cc : ByteArray} {pc : Nat} {ls : Array Slot} {rest : List Value} {D : va_G} {A : Nat → Prop} {m : Nat} {ar : Nat → Nat} {cs : Nat → ClassId} {Z : ZT} {nL : Nat}
theorem call_m_needTwo (hx : p.tables.exec = Jvm.exec) (hb : c.code = cc) (hml : c.maxLocals = nL) (hown : s.vm.findClass RX1 = some mid.cls) (hts : ∀ w ∈ lw_all, w.before args s = true) (hK : KK D cs s) (hA : ∀ q : Nat, s.heap.size ≤ q → A q) (hE : EW D A s.heap (MW m ar cs Z) H locs) (hls : ls.size = nL) (p1 : Int32) (p2 : Int32) (p3 : Int32) (h1 : 3 ≤ R.frames) (h2 : 65 ≤ R.locals) (h3 : (rest.map fun v => v.category).sum ≤ 8) (hd : decode cc pc = .ok (.invokevirtual 186, 3)) (kk : ∀ (H1 : Heap) (locs1 : List Loc), EW D A s.heap (MW m ar cs (m_needTwo p1 p2 p3 Z).2) H1 locs1 → W p l e R s mid args below meth c H1 locs1 0 0 Q (F0 mid (pc + 3) ls (.int (m_needTwo p1 p2 p3 Z).1 :: rest))) : W p l e R s mid args below meth c H locs 0 0 Q (F0 mid pc ls (.int p3 :: .int p2 :: .int p1 :: .ref m :: rest)) :=
  gCall_i (As := [.int p1, .int p2, .int p3]) (rest := rest) (q0 := 0) (ci := 1) (fs := MF ar Z) (T' := TX1) (N' := 52) hx hb hml hown hts hK hA hE hls (met_m_needTwo l D cs m ar Z H.size p1 p2 p3) (cwV 3 hts (lw_V q1207 q1209 qs53 q85 q1210) rfl rfl rfl (by decide +kernel) ⟨h1, h2⟩) rfl rfl rfl rfl h3 hd ⟨Nat.zero_le _, Nat.zero_le _⟩ (fun v u H1 locs1 hp _ hE => by rw [hp] at kk; exact kk H1 locs1 hE)
end C_needTwo
def m_isLink (p1 : Nat) (p2 : Nat) (Z : ZT) : Int32 := (if Z.1 23 ((8 * p1) + p2) ≤ 0 then (0 : Int32) else (1 : Int32))
set_option maxHeartbeats 4000000 in
set_option maxRecDepth 100000 in
theorem met_m_isLink (l : Launch) (D : va_G) (cs : Nat → ClassId) (m : Nat) (ar : Nat → Nat) (Z : ZT) (sz : Nat) (p1 : Nat) (p2 : Nat) (hn1 : p1 < 8) (hn2 : p2 < 8) : Met l yX1_isLink (ws_ yX1_isLink cX1_isLink 3 (some .boolean)) ({ frames := 0, cells := 0, slots := 0, locals := 0 }) (va_Pc [.ref m, .int (nI p1), .int (nI p2)] (wSt D cs (MW m ar cs Z) sz)) (cQi (fun (v : Int32) (_ : Unit) => m_isLink p1 p2 Z = v) D (fun _ => (MW m ar cs Z)) (MW m ar cs Z) sz) 0 0 (va_A (MW m ar cs Z) sz) := by
  refine gStart_i (C := RX1) rfl rfl (Nat.le_of_ble_eq_true rfl) ?_
  intro p e s mid args below meth c R Q A hx hb hml hown hts hK hA hRf hRl hRc hRs hret hE ls hl
  have hRf : 0 ≤ R.frames := hRf
  have hRl : 0 ≤ R.locals := hRl
  have hl : lv_has ls 3 [(0, .ref m), (1, .int (nI p1)), (2, .int (nI p2))] := hl
  have hR : m_isLink p1 p2 Z = (if Z.1 23 ((8 * p1) + p2) ≤ 0 then (0 : Int32) else (1 : Int32)) := rfl
  refine lv_aload_n hx hb dX1_isLink_0 rfl (lv_at hl 0 rfl) ?_
  refine mg_23 hx hb hts hown hK hE dX1_isLink_1 ?_
  refine lv_bipush (v := 8) hx hb dX1_isLink_4 rfl ?_
  refine lv_iload_n hx hb dX1_isLink_6 rfl (lv_at hl 1 rfl) ?_
  refine n_mul (a := 8) (b := p1) hx hb dX1_isLink_7 ?_
  refine lv_iload_n hx hb dX1_isLink_8 rfl (lv_at hl 2 rfl) ?_
  refine n_add (a := (8 * p1)) (b := p2) hx hb dX1_isLink_9 ?_
  refine ma_23 (n := ((8 * p1) + p2)) (by omega) hx hb hK hE dX1_isLink_10 ?_
  refine lv_if_le (tgt := 18) hx hb dX1_isLink_11 (by decide) (fun c11 => ?_) (fun c11 => ?_)
  · have hR : m_isLink p1 p2 Z = (0 : Int32) := hR.trans (congrArg (fun z => z) (if_pos c11))
    refine lv_iconst (v := 0) hx hb dX1_isLink_18 rfl ?_
    exact hret (0 : Int32) () hR rfl hE (Nat.le_refl 0) (Nat.le_refl 0) dX1_isLink_19
  · have hR : m_isLink p1 p2 Z = (1 : Int32) := hR.trans (congrArg (fun z => z) (if_neg c11))
    refine lv_iconst (v := 1) hx hb dX1_isLink_14 rfl ?_
    refine lv_goto (tgt := 19) hx hb dX1_isLink_15 (by decide) ?_
    exact hret (1 : Int32) () hR rfl hE (Nat.le_refl 0) (Nat.le_refl 0) dX1_isLink_19
section C_isLink
variable {p : Program} {l : Launch} {e : Env} {R : Room} {s : State} {mid : MethodId} {args : Array Value} {below : List Frame} {meth : Method} {c : Code} {H : Heap} {locs : List Loc} {Q : State → Prop} {cc : ByteArray} {pc : Nat} {ls : Array Slot} {rest : List Value} {D : va_G} {A : Nat → Prop} {m : Nat} {ar : Nat → Nat} {cs : Nat → ClassId} {Z : ZT} {nL : Nat}
theorem call_m_isLink (hx : p.tables.exec = Jvm.exec) (hb : c.code = cc) (hml : c.maxLocals = nL) (hown : s.vm.findClass RX1 = some mid.cls) (hts : ∀ w ∈ lw_all, w.before args s = true) (hK : KK D cs s) (hA : ∀ q : Nat, s.heap.size ≤ q → A q) (hE : EW D A s.heap (MW m ar cs Z) H locs) (hls : ls.size = nL) (p1 : Nat) (p2 : Nat) (hn1 : p1 < 8) (hn2 : p2 < 8) (h1 : 1 ≤ R.frames) (h2 : 22 ≤ R.locals) (h3 : (rest.map fun v => v.category).sum ≤ 8) (hd : decode cc pc = .ok (.invokevirtual 190, 3)) (kk : ∀ (H1 : Heap) (locs1 : List Loc), EW D A s.heap (MW m ar cs Z) H1 locs1 → W p l e R s mid args below meth c H1 locs1 0 0 Q (F0 mid (pc + 3) ls (.int (m_isLink p1 p2 Z) :: rest))) : W p l e R s mid args below meth c H locs 0 0 Q (F0 mid pc ls (.int (nI p2) :: .int (nI p1) :: .ref m :: rest)) :=
  gCall_i (As := [.int (nI p1), .int (nI p2)]) (rest := rest) (q0 := 0) (ci := 1) (fs := MF ar Z) (T' := TX1) (N' := 52) hx hb hml hown hts hK hA hE hls (met_m_isLink l D cs m ar Z H.size p1 p2 hn1 hn2) (cwV 2 hts (lw_V q1227 q1229 qs56 q85 q1230) rfl rfl rfl (by decide +kernel) ⟨h1, h2⟩) rfl rfl rfl rfl h3 hd ⟨Nat.zero_le _, Nat.zero_le _⟩ (fun v u H1 locs1 hp _ hE => by subst hp; exact kk H1 locs1 hE)
end C_isLink
def m_linksOf_j45 (w5 : Int32) (w45 : Int32) : Int32 := (w5 + w45)
def m_linksOf_b5 (p1 : Nat) (p2 : Int32) (Z : ZT) (i5 : Nat) (w5 : Int32) : Int32 := m_linksOf_j45 w5 (if p2 = 0 then (if (m_isLink i5 p1 Z) = 0 then (0 : Int32) else (1 : Int32)) else (if (m_isLink p1 i5 Z) = 0 then (0 : Int32) else (1 : Int32)))
def m_linksOf_e5 (w5 : Int32) : Int32 := w5
def m_linksOf (p1 : Nat) (p2 : Int32) (Z : ZT) : Int32 := m_linksOf_e5 (itR (m_linksOf_b5 p1 p2 Z) 0 8 (0 : Int32))
set_option maxHeartbeats 4000000 in
set_option maxRecDepth 100000 in
theorem met_m_linksOf (l : Launch) (D : va_G) (cs : Nat → ClassId) (m : Nat) (ar : Nat → Nat) (Z : ZT) (sz : Nat) (p1 : Nat) (p2 : Int32) (hn1 : p1 < 8) : Met l yX1_linksOf (ws_ yX1_linksOf cX1_linksOf 5 (some .int)) ({ frames := 1, cells := 0, slots := 0, locals := 22 }) (va_Pc [.ref m, .int (nI p1), .int p2] (wSt D cs (MW m ar cs Z) sz)) (cQi (fun (v : Int32) (_ : Unit) => m_linksOf p1 p2 Z = v) D (fun _ => (MW m ar cs Z)) (MW m ar cs Z) sz) 0 0 (va_A (MW m ar cs Z) sz) := by
  refine gStart_i (C := RX1) rfl rfl (Nat.le_of_ble_eq_true rfl) ?_
  intro p e s mid args below meth c R Q A hx hb hml hown hts hK hA hRf hRl hRc hRs hret hE ls hl
  have hRf : 1 ≤ R.frames := hRf
  have hRl : 22 ≤ R.locals := hRl
  have hl : lv_has ls 5 [(0, .ref m), (1, .int (nI p1)), (2, .int p2)] := hl
  have hR : m_linksOf p1 p2 Z = (m_linksOf_e5 (itR (m_linksOf_b5 p1 p2 Z) 0 8 (0 : Int32))) := rfl
  refine lv_iconst (v := 0) hx hb dX1_linksOf_0 rfl ?_
  refine lv_istore_n (lv' := [(3, .int (0 : Int32)), (0, .ref m), (1, .int (nI p1)), (2, .int p2)]) hx hb dX1_linksOf_1 rfl hl (by decide) rfl (fun ls hl => ?_)
  refine lv_iconst (v := 0) hx hb dX1_linksOf_2 rfl ?_
  refine lv_istore (lv' := [(4, .int (0 : Int32)), (3, .int (0 : Int32)), (0, .ref m), (1, .int (nI p1)), (2, .int p2)]) hx hb dX1_linksOf_3 hl (by decide) rfl (fun ls hl => ?_)
  have hL5 : ∀ (k i5 : Nat) (w5 : Int32) (hi5 : i5 + k = 8) (hR : m_linksOf p1 p2 Z = m_linksOf_e5 (itR (m_linksOf_b5 p1 p2 Z) i5 k w5)), ∀ (H : Heap) (locs : List Loc) (ls : Array Slot), EW D A s.heap (MW m ar cs Z) H locs → lv_has ls 5 [(0, .ref m), (1, .int (nI p1)), (2, .int p2), (3, .int w5), (4, .int (nI i5))] → W p l e R s mid args below meth c H locs 0 0 Q (F0 mid 5 ls []) := by
    intro k
    induction k with
    | zero =>
      intro i5 w5 hi5 hR H locs ls hE hl
      have hie5 : i5 = 8 := by omega
      have hR : m_linksOf p1 p2 Z = w5 := hR
      refine lv_iload hx hb dX1_linksOf_5 (lv_at hl 4 rfl) ?_
      refine lv_bipush (v := 8) hx hb dX1_linksOf_7 rfl ?_
      refine n_geT (a := i5) (b := 8) (by omega) (by omega) hx hb dX1_linksOf_9 (tgt := 53) (by decide) ?_
      have hl := lv_sub (l' := [(0, .ref m), (1, .int (nI p1)), (2, .int p2), (3, .int w5)]) hl [0, 1, 2, 3] rfl
      refine lv_iload_n hx hb dX1_linksOf_53 rfl (lv_at hl 3 rfl) ?_
      exact hret w5 () hR rfl hE (Nat.le_refl 0) (Nat.le_refl 0) dX1_linksOf_54
    | succ k ih5 =>
      intro i5 w5 hi5 hR H locs ls hE hl
      have hlt5 : i5 < 8 := by omega
      have hB5 : m_linksOf_b5 p1 p2 Z i5 w5 = m_linksOf_j45 w5 (if p2 = 0 then (if (m_isLink i5 p1 Z) = 0 then (0 : Int32) else (1 : Int32)) else (if (m_isLink p1 i5 Z) = 0 then (0 : Int32) else (1 : Int32))) := rfl
      refine lv_iload hx hb dX1_linksOf_5 (lv_at hl 4 rfl) ?_
      refine lv_bipush (v := 8) hx hb dX1_linksOf_7 rfl ?_
      refine n_geF (a := i5) (b := 8) (by omega) (by omega) hx hb dX1_linksOf_9 (tgt := 53) (by decide) ?_
      refine lv_iload_n hx hb dX1_linksOf_12 rfl (lv_at hl 3 rfl) ?_
      refine lv_iload_n hx hb dX1_linksOf_13 rfl (lv_at hl 2 rfl) ?_
      have hJ45 : ∀ (w45 : Int32) (hB5 : m_linksOf_b5 p1 p2 Z i5 w5 = m_linksOf_j45 w5 w45), ∀ (H : Heap) (locs : List Loc) (ls : Array Slot), EW D A s.heap (MW m ar cs Z) H locs → lv_has ls 5 [(0, .ref m), (1, .int (nI p1)), (2, .int p2), (4, .int (nI i5))] → W p l e R s mid args below meth c H locs 0 0 Q (F0 mid 45 ls [.int w45, .int w5]) := by
        intro w45 hB5 H locs ls hE hl
        have hB5 : m_linksOf_b5 p1 p2 Z i5 w5 = (w5 + w45) := hB5
        refine lv_iadd hx hb dX1_linksOf_45 ?_
        refine lv_istore_n (lv' := [(3, .int (w5 + w45)), (0, .ref m), (1, .int (nI p1)), (2, .int p2), (4, .int (nI i5))]) hx hb dX1_linksOf_46 rfl hl (by decide) rfl (fun ls hl => ?_)
        refine n_inc (lv' := [(4, .int (nI (i5 + 1))), (3, .int (w5 + w45)), (0, .ref m), (1, .int (nI p1)), (2, .int p2)]) hx hb dX1_linksOf_47 hl (k := 4) rfl (by decide) rfl (fun ls hl => ?_)
        refine lv_goto (tgt := 5) hx hb dX1_linksOf_50 (by decide) ?_
        exact ih5 (i5 + 1) (w5 + w45) (by omega) (hR.trans (congrArg (fun z => m_linksOf_e5 (itR (m_linksOf_b5 p1 p2 Z) (i5 + 1) k z)) hB5)) _ _ _ hE (lv_sub hl [2, 3, 4, 1, 0] rfl)
      refine lv_if_eq (tgt := 30) hx hb dX1_linksOf_14 (by decide) (fun c14 => ?_) (fun c14 => ?_)
      · have hB5 : m_linksOf_b5 p1 p2 Z i5 w5 = m_linksOf_j45 w5 (if (m_isLink i5 p1 Z) = 0 then (0 : Int32) else (1 : Int32)) := hB5.trans (congrArg (fun z => m_linksOf_j45 w5 z) (if_pos c14))
        refine lv_aload_n hx hb dX1_linksOf_30 rfl (lv_at hl 0 rfl) ?_
        refine lv_iload hx hb dX1_linksOf_31 (lv_at hl 4 rfl) ?_
        refine lv_iload_n hx hb dX1_linksOf_33 rfl (lv_at hl 1 rfl) ?_
        refine call_m_isLink hx hb hml hown hts hK hA hE hl.1 i5 p1 (by omega) (by omega) (lz (show 1 ≤ 1 by decide) hRf) (lz (show 22 ≤ 22 by decide) hRl) (Nat.le_of_ble_eq_true rfl) dX1_linksOf_34 (fun H locs hE => ?_)
        refine lv_if_eq (tgt := 44) hx hb dX1_linksOf_37 (by decide) (fun c37 => ?_) (fun c37 => ?_)
        · have hB5 : m_linksOf_b5 p1 p2 Z i5 w5 = m_linksOf_j45 w5 (0 : Int32) := hB5.trans (congrArg (fun z => m_linksOf_j45 w5 z) (if_pos c37))
          refine lv_iconst (v := 0) hx hb dX1_linksOf_44 rfl ?_
          exact hJ45 (0 : Int32)  hB5 _ _ _ hE (lv_sub hl [0, 1, 2, 4] rfl)
        · have hB5 : m_linksOf_b5 p1 p2 Z i5 w5 = m_linksOf_j45 w5 (1 : Int32) := hB5.trans (congrArg (fun z => m_linksOf_j45 w5 z) (if_neg c37))
          refine lv_iconst (v := 1) hx hb dX1_linksOf_40 rfl ?_
          refine lv_goto (tgt := 45) hx hb dX1_linksOf_41 (by decide) ?_
          exact hJ45 (1 : Int32)  hB5 _ _ _ hE (lv_sub hl [0, 1, 2, 4] rfl)
      · have hB5 : m_linksOf_b5 p1 p2 Z i5 w5 = m_linksOf_j45 w5 (if (m_isLink p1 i5 Z) = 0 then (0 : Int32) else (1 : Int32)) := hB5.trans (congrArg (fun z => m_linksOf_j45 w5 z) (if_neg c14))
        refine lv_aload_n hx hb dX1_linksOf_17 rfl (lv_at hl 0 rfl) ?_
        refine lv_iload_n hx hb dX1_linksOf_18 rfl (lv_at hl 1 rfl) ?_
        refine lv_iload hx hb dX1_linksOf_19 (lv_at hl 4 rfl) ?_
        refine call_m_isLink hx hb hml hown hts hK hA hE hl.1 p1 i5 (by omega) (by omega) (lz (show 1 ≤ 1 by decide) hRf) (lz (show 22 ≤ 22 by decide) hRl) (Nat.le_of_ble_eq_true rfl) dX1_linksOf_21 (fun H locs hE => ?_)
        refine lv_if_eq (tgt := 44) hx hb dX1_linksOf_24 (by decide) (fun c24 => ?_) (fun c24 => ?_)
        · have hB5 : m_linksOf_b5 p1 p2 Z i5 w5 = m_linksOf_j45 w5 (0 : Int32) := hB5.trans (congrArg (fun z => m_linksOf_j45 w5 z) (if_pos c24))
          refine lv_iconst (v := 0) hx hb dX1_linksOf_44 rfl ?_
          exact hJ45 (0 : Int32)  hB5 _ _ _ hE (lv_sub hl [0, 1, 2, 4] rfl)
        · have hB5 : m_linksOf_b5 p1 p2 Z i5 w5 = m_linksOf_j45 w5 (1 : Int32) := hB5.trans (congrArg (fun z => m_linksOf_j45 w5 z) (if_neg c24))
          refine lv_goto (tgt := 40) hx hb dX1_linksOf_27 (by decide) ?_
          refine lv_iconst (v := 1) hx hb dX1_linksOf_40 rfl ?_
          refine lv_goto (tgt := 45) hx hb dX1_linksOf_41 (by decide) ?_
          exact hJ45 (1 : Int32)  hB5 _ _ _ hE (lv_sub hl [0, 1, 2, 4] rfl)
  exact hL5 8 0 (0 : Int32) (by omega) hR _ _ _ hE (lv_sub hl [2, 3, 4, 1, 0] rfl)
section C_linksOf
variable {p : Program} {l : Launch} {e : Env} {R : Room} {s : State} {mid : MethodId} {args : Array Value} {below : List Frame} {meth : Method} {c : Code} {H : Heap} {locs : List Loc} {Q : State → Prop} {cc : ByteArray} {pc : Nat} {ls : Array Slot} {rest : List Value} {D : va_G} {A : Nat → Prop} {m : Nat} {ar : Nat → Nat} {cs : Nat → ClassId} {Z : ZT} {nL : Nat}
theorem call_m_linksOf (hx : p.tables.exec = Jvm.exec) (hb : c.code = cc) (hml : c.maxLocals = nL) (hown : s.vm.findClass RX1 = some mid.cls) (hts : ∀ w ∈ lw_all, w.before args s = true) (hK : KK D cs s) (hA : ∀ q : Nat, s.heap.size ≤ q → A q) (hE : EW D A s.heap (MW m ar cs Z) H locs) (hls : ls.size = nL) (p1 : Nat) (p2 : Int32) (hn1 : p1 < 8) (h1 : 2 ≤ R.frames) (h2 : 46 ≤ R.locals) (h3 : (rest.map fun v => v.category).sum ≤ 8) (hd : decode cc pc = .ok (.invokevirtual 193, 3)) (kk : ∀ (H1 : Heap) (locs1 : List Loc), EW D A s.heap (MW m ar cs Z) H1 locs1 → W p l e R s mid args below meth c H1 locs1 0 0 Q (F0 mid (pc + 3) ls (.int (m_linksOf p1 p2 Z) :: rest))) : W p l e R s mid args below meth c H locs 0 0 Q (F0 mid pc ls (.int p2 :: .int (nI p1) :: .ref m :: rest)) :=
  gCall_i (As := [.int (nI p1), .int p2]) (rest := rest) (q0 := 0) (ci := 1) (fs := MF ar Z) (T' := TX1) (N' := 52) hx hb hml hown hts hK hA hE hls (met_m_linksOf l D cs m ar Z H.size p1 p2 hn1) (cwV 2 hts (lw_V q1223 q1225 qs55 q85 q1226) rfl rfl rfl (by decide +kernel) ⟨h1, h2⟩) rfl rfl rfl rfl h3 hd ⟨Nat.zero_le _, Nat.zero_le _⟩ (fun v u H1 locs1 hp _ hE => by subst hp; exact kk H1 locs1 hE)
end C_linksOf
def m_toldOf (p1 : Nat) (p2 : Int32) (Z : ZT) : Int32 := (if p2 = 0 then Z.1 14 p1 else (if p2 = 1 then Z.1 15 p1 else (if p2 = 2 then Z.1 16 p1 else (if p2 = 3 then (m_linksOf p1 (1 : Int32) Z) else (if p2 = 4 then (m_linksOf p1 (0 : Int32) Z) else Z.1 21 p1)))))
set_option maxHeartbeats 4000000 in
set_option maxRecDepth 100000 in
theorem met_m_toldOf (l : Launch) (D : va_G) (cs : Nat → ClassId) (m : Nat) (ar : Nat → Nat) (Z : ZT) (sz : Nat) (p1 : Nat) (p2 : Int32) (hn1 : p1 < 8) : Met l yX1_toldOf (ws_ yX1_toldOf cX1_toldOf 3 (some .int)) ({ frames := 2, cells := 0, slots := 0, locals := 46 }) (va_Pc [.ref m, .int (nI p1), .int p2] (wSt D cs (MW m ar cs Z) sz)) (cQi (fun (v : Int32) (_ : Unit) => m_toldOf p1 p2 Z = v) D (fun _ => (MW m ar cs Z)) (MW m ar cs Z) sz) 0 0 (va_A (MW m ar cs Z) sz) := by
  refine gStart_i (C := RX1) rfl rfl (Nat.le_of_ble_eq_true rfl) ?_
  intro p e s mid args below meth c R Q A hx hb hml hown hts hK hA hRf hRl hRc hRs hret hE ls hl
  have hRf : 2 ≤ R.frames := hRf
  have hRl : 46 ≤ R.locals := hRl
  have hl : lv_has ls 3 [(0, .ref m), (1, .int (nI p1)), (2, .int p2)] := hl
  have hR : m_toldOf p1 p2 Z = (if p2 = 0 then Z.1 14 p1 else (if p2 = 1 then Z.1 15 p1 else (if p2 = 2 then Z.1 16 p1 else (if p2 = 3 then (m_linksOf p1 (1 : Int32) Z) else (if p2 = 4 then (m_linksOf p1 (0 : Int32) Z) else Z.1 21 p1))))) := rfl
  refine lv_iload_n hx hb dX1_toldOf_0 rfl (lv_at hl 2 rfl) ?_
  by_cases c1_0 : p2 = 0
  · have hR : m_toldOf p1 p2 Z = (Z.1 14 p1) := hR.trans (congrArg (fun z => z) (if_pos c1_0))
    refine lv_tableIn (off := 35) (tgt := 36) hx hb dX1_toldOf_1 (by rw [c1_0]; decide) (by rw [c1_0]; decide) (by rw [c1_0]; rfl) (by decide) ?_
    refine lv_aload_n hx hb dX1_toldOf_36 rfl (lv_at hl 0 rfl) ?_
    refine mg_14 hx hb hts hown hK hE dX1_toldOf_37 ?_
    refine lv_iload_n hx hb dX1_toldOf_40 rfl (lv_at hl 1 rfl) ?_
    refine ma_14 (n := p1) (by omega) hx hb hK hE dX1_toldOf_41 ?_
    exact hret (Z.1 14 p1) () hR rfl hE (Nat.le_refl 0) (Nat.le_refl 0) dX1_toldOf_42
  · have hR : m_toldOf p1 p2 Z = (if p2 = 1 then Z.1 15 p1 else (if p2 = 2 then Z.1 16 p1 else (if p2 = 3 then (m_linksOf p1 (1 : Int32) Z) else (if p2 = 4 then (m_linksOf p1 (0 : Int32) Z) else Z.1 21 p1)))) := hR.trans (congrArg (fun z => z) (if_neg c1_0))
    by_cases c1_1 : p2 = 1
    · have hR : m_toldOf p1 p2 Z = (Z.1 15 p1) := hR.trans (congrArg (fun z => z) (if_pos c1_1))
      refine lv_tableIn (off := 42) (tgt := 43) hx hb dX1_toldOf_1 (by rw [c1_1]; decide) (by rw [c1_1]; decide) (by rw [c1_1]; rfl) (by decide) ?_
      refine lv_aload_n hx hb dX1_toldOf_43 rfl (lv_at hl 0 rfl) ?_
      refine mg_15 hx hb hts hown hK hE dX1_toldOf_44 ?_
      refine lv_iload_n hx hb dX1_toldOf_47 rfl (lv_at hl 1 rfl) ?_
      refine ma_15 (n := p1) (by omega) hx hb hK hE dX1_toldOf_48 ?_
      exact hret (Z.1 15 p1) () hR rfl hE (Nat.le_refl 0) (Nat.le_refl 0) dX1_toldOf_49
    · have hR : m_toldOf p1 p2 Z = (if p2 = 2 then Z.1 16 p1 else (if p2 = 3 then (m_linksOf p1 (1 : Int32) Z) else (if p2 = 4 then (m_linksOf p1 (0 : Int32) Z) else Z.1 21 p1))) := hR.trans (congrArg (fun z => z) (if_neg c1_1))
      by_cases c1_2 : p2 = 2
      · have hR : m_toldOf p1 p2 Z = (Z.1 16 p1) := hR.trans (congrArg (fun z => z) (if_pos c1_2))
        refine lv_tableIn (off := 49) (tgt := 50) hx hb dX1_toldOf_1 (by rw [c1_2]; decide) (by rw [c1_2]; decide) (by rw [c1_2]; rfl) (by decide) ?_
        refine lv_aload_n hx hb dX1_toldOf_50 rfl (lv_at hl 0 rfl) ?_
        refine mg_16 hx hb hts hown hK hE dX1_toldOf_51 ?_
        refine lv_iload_n hx hb dX1_toldOf_54 rfl (lv_at hl 1 rfl) ?_
        refine ma_16 (n := p1) (by omega) hx hb hK hE dX1_toldOf_55 ?_
        exact hret (Z.1 16 p1) () hR rfl hE (Nat.le_refl 0) (Nat.le_refl 0) dX1_toldOf_56
      · have hR : m_toldOf p1 p2 Z = (if p2 = 3 then (m_linksOf p1 (1 : Int32) Z) else (if p2 = 4 then (m_linksOf p1 (0 : Int32) Z) else Z.1 21 p1)) := hR.trans (congrArg (fun z => z) (if_neg c1_2))
        by_cases c1_3 : p2 = 3
        · have hR : m_toldOf p1 p2 Z = (m_linksOf p1 (1 : Int32) Z) := hR.trans (congrArg (fun z => z) (if_pos c1_3))
          refine lv_tableIn (off := 56) (tgt := 57) hx hb dX1_toldOf_1 (by rw [c1_3]; decide) (by rw [c1_3]; decide) (by rw [c1_3]; rfl) (by decide) ?_
          refine lv_aload_n hx hb dX1_toldOf_57 rfl (lv_at hl 0 rfl) ?_
          refine lv_iload_n hx hb dX1_toldOf_58 rfl (lv_at hl 1 rfl) ?_
          refine lv_iconst (v := 1) hx hb dX1_toldOf_59 rfl ?_
          refine call_m_linksOf hx hb hml hown hts hK hA hE hl.1 p1 (1 : Int32) (by omega) (lz (show 2 ≤ 2 by decide) hRf) (lz (show 46 ≤ 46 by decide) hRl) (Nat.le_of_ble_eq_true rfl) dX1_toldOf_60 (fun H locs hE => ?_)
          exact hret (m_linksOf p1 (1 : Int32) Z) () hR rfl hE (Nat.le_refl 0) (Nat.le_refl 0) dX1_toldOf_63
        · have hR : m_toldOf p1 p2 Z = (if p2 = 4 then (m_linksOf p1 (0 : Int32) Z) else Z.1 21 p1) := hR.trans (congrArg (fun z => z) (if_neg c1_3))
          by_cases c1_4 : p2 = 4
          · have hR : m_toldOf p1 p2 Z = (m_linksOf p1 (0 : Int32) Z) := hR.trans (congrArg (fun z => z) (if_pos c1_4))
            refine lv_tableIn (off := 63) (tgt := 64) hx hb dX1_toldOf_1 (by rw [c1_4]; decide) (by rw [c1_4]; decide) (by rw [c1_4]; rfl) (by decide) ?_
            refine lv_aload_n hx hb dX1_toldOf_64 rfl (lv_at hl 0 rfl) ?_
            refine lv_iload_n hx hb dX1_toldOf_65 rfl (lv_at hl 1 rfl) ?_
            refine lv_iconst (v := 0) hx hb dX1_toldOf_66 rfl ?_
            refine call_m_linksOf hx hb hml hown hts hK hA hE hl.1 p1 (0 : Int32) (by omega) (lz (show 2 ≤ 2 by decide) hRf) (lz (show 46 ≤ 46 by decide) hRl) (Nat.le_of_ble_eq_true rfl) dX1_toldOf_67 (fun H locs hE => ?_)
            exact hret (m_linksOf p1 (0 : Int32) Z) () hR rfl hE (Nat.le_refl 0) (Nat.le_refl 0) dX1_toldOf_70
          · have hR : m_toldOf p1 p2 Z = (Z.1 21 p1) := hR.trans (congrArg (fun z => z) (if_neg c1_4))
            refine lv_tableOut (tgt := 71) hx hb dX1_toldOf_1 (sw_out4 c1_0 c1_1 c1_2 c1_3 c1_4) (by decide) ?_
            refine lv_aload_n hx hb dX1_toldOf_71 rfl (lv_at hl 0 rfl) ?_
            refine mg_21 hx hb hts hown hK hE dX1_toldOf_72 ?_
            refine lv_iload_n hx hb dX1_toldOf_75 rfl (lv_at hl 1 rfl) ?_
            refine ma_21 (n := p1) (by omega) hx hb hK hE dX1_toldOf_76 ?_
            exact hret (Z.1 21 p1) () hR rfl hE (Nat.le_refl 0) (Nat.le_refl 0) dX1_toldOf_77
section C_toldOf
variable {p : Program} {l : Launch} {e : Env} {R : Room} {s : State} {mid : MethodId} {args : Array Value} {below : List Frame} {meth : Method} {c : Code} {H : Heap} {locs : List Loc} {Q : State → Prop} {cc : ByteArray} {pc : Nat} {ls : Array Slot} {rest : List Value} {D : va_G} {A : Nat → Prop} {m : Nat} {ar : Nat → Nat} {cs : Nat → ClassId} {Z : ZT} {nL : Nat}
theorem call_m_toldOf (hx : p.tables.exec = Jvm.exec) (hb : c.code = cc) (hml : c.maxLocals = nL) (hown : s.vm.findClass RX1 = some mid.cls) (hts : ∀ w ∈ lw_all, w.before args s = true) (hK : KK D cs s) (hA : ∀ q : Nat, s.heap.size ≤ q → A q) (hE : EW D A s.heap (MW m ar cs Z) H locs) (hls : ls.size = nL) (p1 : Nat) (p2 : Int32) (hn1 : p1 < 8) (h1 : 3 ≤ R.frames) (h2 : 68 ≤ R.locals) (h3 : (rest.map fun v => v.category).sum ≤ 8) (hd : decode cc pc = .ok (.invokevirtual 197, 3)) (kk : ∀ (H1 : Heap) (locs1 : List Loc), EW D A s.heap (MW m ar cs Z) H1 locs1 → W p l e R s mid args below meth c H1 locs1 0 0 Q (F0 mid (pc + 3) ls (.int (m_toldOf p1 p2 Z) :: rest))) : W p l e R s mid args below meth c H locs 0 0 Q (F0 mid pc ls (.int p2 :: .int (nI p1) :: .ref m :: rest)) :=
  gCall_i (As := [.int (nI p1), .int p2]) (rest := rest) (q0 := 0) (ci := 1) (fs := MF ar Z) (T' := TX1) (N' := 52) hx hb hml hown hts hK hA hE hls (met_m_toldOf l D cs m ar Z H.size p1 p2 hn1) (cwV 2 hts (lw_V q1219 q1221 qs54 q85 q1222) rfl rfl rfl (by decide +kernel) ⟨h1, h2⟩) rfl rfl rfl rfl h3 hd ⟨Nat.zero_le _, Nat.zero_le _⟩ (fun v u H1 locs1 hp _ hE => by subst hp; exact kk H1 locs1 hE)
end C_toldOf
def m_there_j25 (w4 : Int32) (w25 : Int32) : Int32 := (w4 + w25)
def m_there_b4 (Z : ZT) (i4 : Nat) (w4 : Int32) : Int32 := m_there_j25 w4 (if Z.1 13 i4 = 0 then (0 : Int32) else (1 : Int32))
def m_there_e4 (w4 : Int32) : Int32 := w4
def m_there (Z : ZT) : Int32 := m_there_e4 (itR (m_there_b4 Z) 0 8 (0 : Int32))
set_option maxHeartbeats 4000000 in
set_option maxRecDepth 100000 in
theorem met_m_there (l : Launch) (D : va_G) (cs : Nat → ClassId) (m : Nat) (ar : Nat → Nat) (Z : ZT) (sz : Nat)  : Met l yX1_there (ws_ yX1_there cX1_there 3 (some .int)) ({ frames := 0, cells := 0, slots := 0, locals := 0 }) (va_Pc [.ref m] (wSt D cs (MW m ar cs Z) sz)) (cQi (fun (v : Int32) (_ : Unit) => m_there Z = v) D (fun _ => (MW m ar cs Z)) (MW m ar cs Z) sz) 0 0 (va_A (MW m ar cs Z) sz) := by
  refine gStart_i (C := RX1) rfl rfl (Nat.le_of_ble_eq_true rfl) ?_
  intro p e s mid args below meth c R Q A hx hb hml hown hts hK hA hRf hRl hRc hRs hret hE ls hl
  have hRf : 0 ≤ R.frames := hRf
  have hRl : 0 ≤ R.locals := hRl
  have hl : lv_has ls 3 [(0, .ref m)] := hl
  have hR : m_there Z = (m_there_e4 (itR (m_there_b4 Z) 0 8 (0 : Int32))) := rfl
  refine lv_iconst (v := 0) hx hb dX1_there_0 rfl ?_
  refine lv_istore_n (lv' := [(1, .int (0 : Int32)), (0, .ref m)]) hx hb dX1_there_1 rfl hl (by decide) rfl (fun ls hl => ?_)
  refine lv_iconst (v := 0) hx hb dX1_there_2 rfl ?_
  refine lv_istore_n (lv' := [(2, .int (0 : Int32)), (1, .int (0 : Int32)), (0, .ref m)]) hx hb dX1_there_3 rfl hl (by decide) rfl (fun ls hl => ?_)
  have hL4 : ∀ (k i4 : Nat) (w4 : Int32) (hi4 : i4 + k = 8) (hR : m_there Z = m_there_e4 (itR (m_there_b4 Z) i4 k w4)), ∀ (H : Heap) (locs : List Loc) (ls : Array Slot), EW D A s.heap (MW m ar cs Z) H locs → lv_has ls 3 [(0, .ref m), (1, .int w4), (2, .int (nI i4))] → W p l e R s mid args below meth c H locs 0 0 Q (F0 mid 4 ls []) := by
    intro k
    induction k with
    | zero =>
      intro i4 w4 hi4 hR H locs ls hE hl
      have hie4 : i4 = 8 := by omega
      have hR : m_there Z = w4 := hR
      refine lv_iload_n hx hb dX1_there_4 rfl (lv_at hl 2 rfl) ?_
      refine lv_bipush (v := 8) hx hb dX1_there_5 rfl ?_
      refine n_geT (a := i4) (b := 8) (by omega) (by omega) hx hb dX1_there_7 (tgt := 33) (by decide) ?_
      have hl := lv_sub (l' := [(0, .ref m), (1, .int w4)]) hl [0, 1] rfl
      refine lv_iload_n hx hb dX1_there_33 rfl (lv_at hl 1 rfl) ?_
      exact hret w4 () hR rfl hE (Nat.le_refl 0) (Nat.le_refl 0) dX1_there_34
    | succ k ih4 =>
      intro i4 w4 hi4 hR H locs ls hE hl
      have hlt4 : i4 < 8 := by omega
      have hB4 : m_there_b4 Z i4 w4 = m_there_j25 w4 (if Z.1 13 i4 = 0 then (0 : Int32) else (1 : Int32)) := rfl
      refine lv_iload_n hx hb dX1_there_4 rfl (lv_at hl 2 rfl) ?_
      refine lv_bipush (v := 8) hx hb dX1_there_5 rfl ?_
      refine n_geF (a := i4) (b := 8) (by omega) (by omega) hx hb dX1_there_7 (tgt := 33) (by decide) ?_
      refine lv_iload_n hx hb dX1_there_10 rfl (lv_at hl 1 rfl) ?_
      refine lv_aload_n hx hb dX1_there_11 rfl (lv_at hl 0 rfl) ?_
      refine mg_13 hx hb hts hown hK hE dX1_there_12 ?_
      refine lv_iload_n hx hb dX1_there_15 rfl (lv_at hl 2 rfl) ?_
      refine ma_13 (n := i4) (by omega) hx hb hK hE dX1_there_16 ?_
      have hJ25 : ∀ (w25 : Int32) (hB4 : m_there_b4 Z i4 w4 = m_there_j25 w4 w25), ∀ (H : Heap) (locs : List Loc) (ls : Array Slot), EW D A s.heap (MW m ar cs Z) H locs → lv_has ls 3 [(0, .ref m), (2, .int (nI i4))] → W p l e R s mid args below meth c H locs 0 0 Q (F0 mid 25 ls [.int w25, .int w4]) := by
        intro w25 hB4 H locs ls hE hl
        have hB4 : m_there_b4 Z i4 w4 = (w4 + w25) := hB4
        refine lv_iadd hx hb dX1_there_25 ?_
        refine lv_istore_n (lv' := [(1, .int (w4 + w25)), (0, .ref m), (2, .int (nI i4))]) hx hb dX1_there_26 rfl hl (by decide) rfl (fun ls hl => ?_)
        refine n_inc (lv' := [(2, .int (nI (i4 + 1))), (1, .int (w4 + w25)), (0, .ref m)]) hx hb dX1_there_27 hl (k := 2) rfl (by decide) rfl (fun ls hl => ?_)
        refine lv_goto (tgt := 4) hx hb dX1_there_30 (by decide) ?_
        exact ih4 (i4 + 1) (w4 + w25) (by omega) (hR.trans (congrArg (fun z => m_there_e4 (itR (m_there_b4 Z) (i4 + 1) k z)) hB4)) _ _ _ hE (lv_sub hl [2, 1, 0] rfl)
      refine lv_if_eq (tgt := 24) hx hb dX1_there_17 (by decide) (fun c17 => ?_) (fun c17 => ?_)
      · have hB4 : m_there_b4 Z i4 w4 = m_there_j25 w4 (0 : Int32) := hB4.trans (congrArg (fun z => m_there_j25 w4 z) (if_pos c17))
        refine lv_iconst (v := 0) hx hb dX1_there_24 rfl ?_
        exact hJ25 (0 : Int32)  hB4 _ _ _ hE (lv_sub hl [0, 2] rfl)
      · have hB4 : m_there_b4 Z i4 w4 = m_there_j25 w4 (1 : Int32) := hB4.trans (congrArg (fun z => m_there_j25 w4 z) (if_neg c17))
        refine lv_iconst (v := 1) hx hb dX1_there_20 rfl ?_
        refine lv_goto (tgt := 25) hx hb dX1_there_21 (by decide) ?_
        exact hJ25 (1 : Int32)  hB4 _ _ _ hE (lv_sub hl [0, 2] rfl)
  exact hL4 8 0 (0 : Int32) (by omega) hR _ _ _ hE (lv_sub hl [2, 1, 0] rfl)
section C_there
variable {p : Program} {l : Launch} {e : Env} {R : Room} {s : State} {mid : MethodId} {args : Array Value} {below : List Frame} {meth : Method} {c : Code} {H : Heap} {locs : List Loc} {Q : State → Prop} {cc : ByteArray} {pc : Nat} {ls : Array Slot} {rest : List Value} {D : va_G} {A : Nat → Prop} {m : Nat} {ar : Nat → Nat} {cs : Nat → ClassId} {Z : ZT} {nL : Nat}
theorem call_m_there (hx : p.tables.exec = Jvm.exec) (hb : c.code = cc) (hml : c.maxLocals = nL) (hown : s.vm.findClass RX1 = some mid.cls) (hts : ∀ w ∈ lw_all, w.before args s = true) (hK : KK D cs s) (hA : ∀ q : Nat, s.heap.size ≤ q → A q) (hE : EW D A s.heap (MW m ar cs Z) H locs) (hls : ls.size = nL)  (h1 : 1 ≤ R.frames) (h2 : 22 ≤ R.locals) (h3 : (rest.map fun v => v.category).sum ≤ 8) (hd : decode cc pc = .ok (.invokevirtual 200, 3)) (kk : ∀ (H1 : Heap) (locs1 : List Loc), EW D A s.heap (MW m ar cs Z) H1 locs1 → W p l e R s mid args below meth c H1 locs1 0 0 Q (F0 mid (pc + 3) ls (.int (m_there Z) :: rest))) : W p l e R s mid args below meth c H locs 0 0 Q (F0 mid pc ls (.ref m :: rest)) :=
  gCall_i (As := []) (rest := rest) (q0 := 0) (ci := 1) (fs := MF ar Z) (T' := TX1) (N' := 52) hx hb hml hown hts hK hA hE hls (met_m_there l D cs m ar Z H.size ) (cwV 0 hts (lw_V q1239 q1241 qs57 q85 q1242) rfl rfl rfl (by decide +kernel) ⟨h1, h2⟩) rfl rfl rfl rfl h3 hd ⟨Nat.zero_le _, Nat.zero_le _⟩ (fun v u H1 locs1 hp _ hE => by subst hp; exact kk H1 locs1 hE)
end C_there
def m_allStocks_j30 (w4 : Int32) (w30 : Int32) : Int32 := (w4 + w30)
def m_allStocks_b4 (Z : ZT) (i4 : Nat) (w4 : Int32) : Int32 := m_allStocks_j30 w4 (if Z.1 13 i4 = 0 then (0 : Int32) else Z.1 15 i4)
def m_allStocks_e4 (w4 : Int32) : Int32 := w4
def m_allStocks (Z : ZT) : Int32 := m_allStocks_e4 (itR (m_allStocks_b4 Z) 0 8 (0 : Int32))
set_option maxHeartbeats 4000000 in
set_option maxRecDepth 100000 in
theorem met_m_allStocks (l : Launch) (D : va_G) (cs : Nat → ClassId) (m : Nat) (ar : Nat → Nat) (Z : ZT) (sz : Nat)  : Met l yX1_allStocks (ws_ yX1_allStocks cX1_allStocks 3 (some .int)) ({ frames := 0, cells := 0, slots := 0, locals := 0 }) (va_Pc [.ref m] (wSt D cs (MW m ar cs Z) sz)) (cQi (fun (v : Int32) (_ : Unit) => m_allStocks Z = v) D (fun _ => (MW m ar cs Z)) (MW m ar cs Z) sz) 0 0 (va_A (MW m ar cs Z) sz) := by
  refine gStart_i (C := RX1) rfl rfl (Nat.le_of_ble_eq_true rfl) ?_
  intro p e s mid args below meth c R Q A hx hb hml hown hts hK hA hRf hRl hRc hRs hret hE ls hl
  have hRf : 0 ≤ R.frames := hRf
  have hRl : 0 ≤ R.locals := hRl
  have hl : lv_has ls 3 [(0, .ref m)] := hl
  have hR : m_allStocks Z = (m_allStocks_e4 (itR (m_allStocks_b4 Z) 0 8 (0 : Int32))) := rfl
  refine lv_iconst (v := 0) hx hb dX1_allStocks_0 rfl ?_
  refine lv_istore_n (lv' := [(1, .int (0 : Int32)), (0, .ref m)]) hx hb dX1_allStocks_1 rfl hl (by decide) rfl (fun ls hl => ?_)
  refine lv_iconst (v := 0) hx hb dX1_allStocks_2 rfl ?_
  refine lv_istore_n (lv' := [(2, .int (0 : Int32)), (1, .int (0 : Int32)), (0, .ref m)]) hx hb dX1_allStocks_3 rfl hl (by decide) rfl (fun ls hl => ?_)
  have hL4 : ∀ (k i4 : Nat) (w4 : Int32) (hi4 : i4 + k = 8) (hR : m_allStocks Z = m_allStocks_e4 (itR (m_allStocks_b4 Z) i4 k w4)), ∀ (H : Heap) (locs : List Loc) (ls : Array Slot), EW D A s.heap (MW m ar cs Z) H locs → lv_has ls 3 [(0, .ref m), (1, .int w4), (2, .int (nI i4))] → W p l e R s mid args below meth c H locs 0 0 Q (F0 mid 4 ls []) := by
    intro k
    induction k with
    | zero =>
      intro i4 w4 hi4 hR H locs ls hE hl
      have hie4 : i4 = 8 := by omega
      have hR : m_allStocks Z = w4 := hR
      refine lv_iload_n hx hb dX1_allStocks_4 rfl (lv_at hl 2 rfl) ?_
      refine lv_bipush (v := 8) hx hb dX1_allStocks_5 rfl ?_
      refine n_geT (a := i4) (b := 8) (by omega) (by omega) hx hb dX1_allStocks_7 (tgt := 38) (by decide) ?_
      have hl := lv_sub (l' := [(0, .ref m), (1, .int w4)]) hl [0, 1] rfl
      refine lv_iload_n hx hb dX1_allStocks_38 rfl (lv_at hl 1 rfl) ?_
      exact hret w4 () hR rfl hE (Nat.le_refl 0) (Nat.le_refl 0) dX1_allStocks_39
    | succ k ih4 =>
      intro i4 w4 hi4 hR H locs ls hE hl
      have hlt4 : i4 < 8 := by omega
      have hB4 : m_allStocks_b4 Z i4 w4 = m_allStocks_j30 w4 (if Z.1 13 i4 = 0 then (0 : Int32) else Z.1 15 i4) := rfl
      refine lv_iload_n hx hb dX1_allStocks_4 rfl (lv_at hl 2 rfl) ?_
      refine lv_bipush (v := 8) hx hb dX1_allStocks_5 rfl ?_
      refine n_geF (a := i4) (b := 8) (by omega) (by omega) hx hb dX1_allStocks_7 (tgt := 38) (by decide) ?_
      refine lv_iload_n hx hb dX1_allStocks_10 rfl (lv_at hl 1 rfl) ?_
      refine lv_aload_n hx hb dX1_allStocks_11 rfl (lv_at hl 0 rfl) ?_
      refine mg_13 hx hb hts hown hK hE dX1_allStocks_12 ?_
      refine lv_iload_n hx hb dX1_allStocks_15 rfl (lv_at hl 2 rfl) ?_
      refine ma_13 (n := i4) (by omega) hx hb hK hE dX1_allStocks_16 ?_
      have hJ30 : ∀ (w30 : Int32) (hB4 : m_allStocks_b4 Z i4 w4 = m_allStocks_j30 w4 w30), ∀ (H : Heap) (locs : List Loc) (ls : Array Slot), EW D A s.heap (MW m ar cs Z) H locs → lv_has ls 3 [(0, .ref m), (2, .int (nI i4))] → W p l e R s mid args below meth c H locs 0 0 Q (F0 mid 30 ls [.int w30, .int w4]) := by
        intro w30 hB4 H locs ls hE hl
        have hB4 : m_allStocks_b4 Z i4 w4 = (w4 + w30) := hB4
        refine lv_iadd hx hb dX1_allStocks_30 ?_
        refine lv_istore_n (lv' := [(1, .int (w4 + w30)), (0, .ref m), (2, .int (nI i4))]) hx hb dX1_allStocks_31 rfl hl (by decide) rfl (fun ls hl => ?_)
        refine n_inc (lv' := [(2, .int (nI (i4 + 1))), (1, .int (w4 + w30)), (0, .ref m)]) hx hb dX1_allStocks_32 hl (k := 2) rfl (by decide) rfl (fun ls hl => ?_)
        refine lv_goto (tgt := 4) hx hb dX1_allStocks_35 (by decide) ?_
        exact ih4 (i4 + 1) (w4 + w30) (by omega) (hR.trans (congrArg (fun z => m_allStocks_e4 (itR (m_allStocks_b4 Z) (i4 + 1) k z)) hB4)) _ _ _ hE (lv_sub hl [2, 1, 0] rfl)
      refine lv_if_eq (tgt := 29) hx hb dX1_allStocks_17 (by decide) (fun c17 => ?_) (fun c17 => ?_)
      · have hB4 : m_allStocks_b4 Z i4 w4 = m_allStocks_j30 w4 (0 : Int32) := hB4.trans (congrArg (fun z => m_allStocks_j30 w4 z) (if_pos c17))
        refine lv_iconst (v := 0) hx hb dX1_allStocks_29 rfl ?_
        exact hJ30 (0 : Int32)  hB4 _ _ _ hE (lv_sub hl [0, 2] rfl)
      · have hB4 : m_allStocks_b4 Z i4 w4 = m_allStocks_j30 w4 (Z.1 15 i4) := hB4.trans (congrArg (fun z => m_allStocks_j30 w4 z) (if_neg c17))
        refine lv_aload_n hx hb dX1_allStocks_20 rfl (lv_at hl 0 rfl) ?_
        refine mg_15 hx hb hts hown hK hE dX1_allStocks_21 ?_
        refine lv_iload_n hx hb dX1_allStocks_24 rfl (lv_at hl 2 rfl) ?_
        refine ma_15 (n := i4) (by omega) hx hb hK hE dX1_allStocks_25 ?_
        refine lv_goto (tgt := 30) hx hb dX1_allStocks_26 (by decide) ?_
        exact hJ30 (Z.1 15 i4)  hB4 _ _ _ hE (lv_sub hl [0, 2] rfl)
  exact hL4 8 0 (0 : Int32) (by omega) hR _ _ _ hE (lv_sub hl [2, 1, 0] rfl)
section C_allStocks
variable {p : Program} {l : Launch} {e : Env} {R : Room} {s : State} {mid : MethodId} {args : Array Value} {below : List Frame} {meth : Method} {c : Code} {H : Heap} {locs : List Loc} {Q : State → Prop} {cc : ByteArray} {pc : Nat} {ls : Array Slot} {rest : List Value} {D : va_G} {A : Nat → Prop} {m : Nat} {ar : Nat → Nat} {cs : Nat → ClassId} {Z : ZT} {nL : Nat}
theorem call_m_allStocks (hx : p.tables.exec = Jvm.exec) (hb : c.code = cc) (hml : c.maxLocals = nL) (hown : s.vm.findClass RX1 = some mid.cls) (hts : ∀ w ∈ lw_all, w.before args s = true) (hK : KK D cs s) (hA : ∀ q : Nat, s.heap.size ≤ q → A q) (hE : EW D A s.heap (MW m ar cs Z) H locs) (hls : ls.size = nL)  (h1 : 1 ≤ R.frames) (h2 : 22 ≤ R.locals) (h3 : (rest.map fun v => v.category).sum ≤ 8) (hd : decode cc pc = .ok (.invokevirtual 204, 3)) (kk : ∀ (H1 : Heap) (locs1 : List Loc), EW D A s.heap (MW m ar cs Z) H1 locs1 → W p l e R s mid args below meth c H1 locs1 0 0 Q (F0 mid (pc + 3) ls (.int (m_allStocks Z) :: rest))) : W p l e R s mid args below meth c H locs 0 0 Q (F0 mid pc ls (.ref m :: rest)) :=
  gCall_i (As := []) (rest := rest) (q0 := 0) (ci := 1) (fs := MF ar Z) (T' := TX1) (N' := 52) hx hb hml hown hts hK hA hE hls (met_m_allStocks l D cs m ar Z H.size ) (cwV 0 hts (lw_V q1243 q1245 qs58 q85 q1246) rfl rfl rfl (by decide +kernel) ⟨h1, h2⟩) rfl rfl rfl rfl h3 hd ⟨Nat.zero_le _, Nat.zero_le _⟩ (fun v u H1 locs1 hp _ hE => by subst hp; exact kk H1 locs1 hE)
end C_allStocks
def m_thereSet_j27 (w4 : Int32) (w27 : Int32) : Int32 := (w4 ||| w27)
def m_thereSet_b4 (Z : ZT) (i4 : Nat) (w4 : Int32) : Int32 := m_thereSet_j27 w4 (if Z.1 13 i4 = 0 then (0 : Int32) else ((1 : Int32) <<< ((nI i4) &&& 31)))
def m_thereSet_e4 (w4 : Int32) : Int32 := w4
def m_thereSet (Z : ZT) : Int32 := m_thereSet_e4 (itR (m_thereSet_b4 Z) 0 8 (0 : Int32))
set_option maxHeartbeats 4000000 in
set_option maxRecDepth 100000 in
theorem met_m_thereSet (l : Launch) (D : va_G) (cs : Nat → ClassId) (m : Nat) (ar : Nat → Nat) (Z : ZT) (sz : Nat)  : Met l yX1_thereSet (ws_ yX1_thereSet cX1_thereSet 3 (some .int)) ({ frames := 0, cells := 0, slots := 0, locals := 0 }) (va_Pc [.ref m] (wSt D cs (MW m ar cs Z) sz)) (cQi (fun (v : Int32) (_ : Unit) => m_thereSet Z = v) D (fun _ => (MW m ar cs Z)) (MW m ar cs Z) sz) 0 0 (va_A (MW m ar cs Z) sz) := by
  refine gStart_i (C := RX1) rfl rfl (Nat.le_of_ble_eq_true rfl) ?_
  intro p e s mid args below meth c R Q A hx hb hml hown hts hK hA hRf hRl hRc hRs hret hE ls hl
  have hRf : 0 ≤ R.frames := hRf
  have hRl : 0 ≤ R.locals := hRl
  have hl : lv_has ls 3 [(0, .ref m)] := hl
  have hR : m_thereSet Z = (m_thereSet_e4 (itR (m_thereSet_b4 Z) 0 8 (0 : Int32))) := rfl
  refine lv_iconst (v := 0) hx hb dX1_thereSet_0 rfl ?_
  refine lv_istore_n (lv' := [(1, .int (0 : Int32)), (0, .ref m)]) hx hb dX1_thereSet_1 rfl hl (by decide) rfl (fun ls hl => ?_)
  refine lv_iconst (v := 0) hx hb dX1_thereSet_2 rfl ?_
  refine lv_istore_n (lv' := [(2, .int (0 : Int32)), (1, .int (0 : Int32)), (0, .ref m)]) hx hb dX1_thereSet_3 rfl hl (by decide) rfl (fun ls hl => ?_)
  have hL4 : ∀ (k i4 : Nat) (w4 : Int32) (hi4 : i4 + k = 8) (hR : m_thereSet Z = m_thereSet_e4 (itR (m_thereSet_b4 Z) i4 k w4)), ∀ (H : Heap) (locs : List Loc) (ls : Array Slot), EW D A s.heap (MW m ar cs Z) H locs → lv_has ls 3 [(0, .ref m), (1, .int w4), (2, .int (nI i4))] → W p l e R s mid args below meth c H locs 0 0 Q (F0 mid 4 ls []) := by
    intro k
    induction k with
    | zero =>
      intro i4 w4 hi4 hR H locs ls hE hl
      have hie4 : i4 = 8 := by omega
      have hR : m_thereSet Z = w4 := hR
      refine lv_iload_n hx hb dX1_thereSet_4 rfl (lv_at hl 2 rfl) ?_
      refine lv_bipush (v := 8) hx hb dX1_thereSet_5 rfl ?_
      refine n_geT (a := i4) (b := 8) (by omega) (by omega) hx hb dX1_thereSet_7 (tgt := 35) (by decide) ?_
      have hl := lv_sub (l' := [(0, .ref m), (1, .int w4)]) hl [0, 1] rfl
      refine lv_iload_n hx hb dX1_thereSet_35 rfl (lv_at hl 1 rfl) ?_
      exact hret w4 () hR rfl hE (Nat.le_refl 0) (Nat.le_refl 0) dX1_thereSet_36
    | succ k ih4 =>
      intro i4 w4 hi4 hR H locs ls hE hl
      have hlt4 : i4 < 8 := by omega
      have hB4 : m_thereSet_b4 Z i4 w4 = m_thereSet_j27 w4 (if Z.1 13 i4 = 0 then (0 : Int32) else ((1 : Int32) <<< ((nI i4) &&& 31))) := rfl
      refine lv_iload_n hx hb dX1_thereSet_4 rfl (lv_at hl 2 rfl) ?_
      refine lv_bipush (v := 8) hx hb dX1_thereSet_5 rfl ?_
      refine n_geF (a := i4) (b := 8) (by omega) (by omega) hx hb dX1_thereSet_7 (tgt := 35) (by decide) ?_
      refine lv_iload_n hx hb dX1_thereSet_10 rfl (lv_at hl 1 rfl) ?_
      refine lv_aload_n hx hb dX1_thereSet_11 rfl (lv_at hl 0 rfl) ?_
      refine mg_13 hx hb hts hown hK hE dX1_thereSet_12 ?_
      refine lv_iload_n hx hb dX1_thereSet_15 rfl (lv_at hl 2 rfl) ?_
      refine ma_13 (n := i4) (by omega) hx hb hK hE dX1_thereSet_16 ?_
      have hJ27 : ∀ (w27 : Int32) (hB4 : m_thereSet_b4 Z i4 w4 = m_thereSet_j27 w4 w27), ∀ (H : Heap) (locs : List Loc) (ls : Array Slot), EW D A s.heap (MW m ar cs Z) H locs → lv_has ls 3 [(0, .ref m), (2, .int (nI i4))] → W p l e R s mid args below meth c H locs 0 0 Q (F0 mid 27 ls [.int w27, .int w4]) := by
        intro w27 hB4 H locs ls hE hl
        have hB4 : m_thereSet_b4 Z i4 w4 = (w4 ||| w27) := hB4
        refine lv_ior hx hb dX1_thereSet_27 ?_
        refine lv_istore_n (lv' := [(1, .int (w4 ||| w27)), (0, .ref m), (2, .int (nI i4))]) hx hb dX1_thereSet_28 rfl hl (by decide) rfl (fun ls hl => ?_)
        refine n_inc (lv' := [(2, .int (nI (i4 + 1))), (1, .int (w4 ||| w27)), (0, .ref m)]) hx hb dX1_thereSet_29 hl (k := 2) rfl (by decide) rfl (fun ls hl => ?_)
        refine lv_goto (tgt := 4) hx hb dX1_thereSet_32 (by decide) ?_
        exact ih4 (i4 + 1) (w4 ||| w27) (by omega) (hR.trans (congrArg (fun z => m_thereSet_e4 (itR (m_thereSet_b4 Z) (i4 + 1) k z)) hB4)) _ _ _ hE (lv_sub hl [2, 1, 0] rfl)
      refine lv_if_eq (tgt := 26) hx hb dX1_thereSet_17 (by decide) (fun c17 => ?_) (fun c17 => ?_)
      · have hB4 : m_thereSet_b4 Z i4 w4 = m_thereSet_j27 w4 (0 : Int32) := hB4.trans (congrArg (fun z => m_thereSet_j27 w4 z) (if_pos c17))
        refine lv_iconst (v := 0) hx hb dX1_thereSet_26 rfl ?_
        exact hJ27 (0 : Int32)  hB4 _ _ _ hE (lv_sub hl [0, 2] rfl)
      · have hB4 : m_thereSet_b4 Z i4 w4 = m_thereSet_j27 w4 ((1 : Int32) <<< ((nI i4) &&& 31)) := hB4.trans (congrArg (fun z => m_thereSet_j27 w4 z) (if_neg c17))
        refine lv_iconst (v := 1) hx hb dX1_thereSet_20 rfl ?_
        refine lv_iload_n hx hb dX1_thereSet_21 rfl (lv_at hl 2 rfl) ?_
        refine lv_ishl hx hb dX1_thereSet_22 ?_
        refine lv_goto (tgt := 27) hx hb dX1_thereSet_23 (by decide) ?_
        exact hJ27 ((1 : Int32) <<< ((nI i4) &&& 31))  hB4 _ _ _ hE (lv_sub hl [0, 2] rfl)
  exact hL4 8 0 (0 : Int32) (by omega) hR _ _ _ hE (lv_sub hl [2, 1, 0] rfl)
section C_thereSet
variable {p : Program} {l : Launch} {e : Env} {R : Room} {s : State} {mid : MethodId} {args : Array Value} {below : List Frame} {meth : Method} {c : Code} {H : Heap} {locs : List Loc} {Q : State → Prop} {cc : ByteArray} {pc : Nat} {ls : Array Slot} {rest : List Value} {D : va_G} {A : Nat → Prop} {m : Nat} {ar : Nat → Nat} {cs : Nat → ClassId} {Z : ZT} {nL : Nat}
theorem call_m_thereSet (hx : p.tables.exec = Jvm.exec) (hb : c.code = cc) (hml : c.maxLocals = nL) (hown : s.vm.findClass RX1 = some mid.cls) (hts : ∀ w ∈ lw_all, w.before args s = true) (hK : KK D cs s) (hA : ∀ q : Nat, s.heap.size ≤ q → A q) (hE : EW D A s.heap (MW m ar cs Z) H locs) (hls : ls.size = nL)  (h1 : 1 ≤ R.frames) (h2 : 22 ≤ R.locals) (h3 : (rest.map fun v => v.category).sum ≤ 8) (hd : decode cc pc = .ok (.invokevirtual 252, 3)) (kk : ∀ (H1 : Heap) (locs1 : List Loc), EW D A s.heap (MW m ar cs Z) H1 locs1 → W p l e R s mid args below meth c H1 locs1 0 0 Q (F0 mid (pc + 3) ls (.int (m_thereSet Z) :: rest))) : W p l e R s mid args below meth c H locs 0 0 Q (F0 mid pc ls (.ref m :: rest)) :=
  gCall_i (As := []) (rest := rest) (q0 := 0) (ci := 1) (fs := MF ar Z) (T' := TX1) (N' := 52) hx hb hml hown hts hK hA hE hls (met_m_thereSet l D cs m ar Z H.size ) (cwV 0 hts (lw_V q1307 q1309 qs66 q85 q1310) rfl rfl rfl (by decide +kernel) ⟨h1, h2⟩) rfl rfl rfl rfl h3 hd ⟨Nat.zero_le _, Nat.zero_le _⟩ (fun v u H1 locs1 hp _ hE => by subst hp; exact kk H1 locs1 hE)
end C_thereSet
