/-! the twin: weeks -/
set_option maxRecDepth 100000
theorem lwnz {x : Int64} {r : Int32} (h : ¬ x ≤ r.toInt64) (h0 : 0 ≤ r.toInt) : ¬ x = 0 := by
  intro e
  subst e
  apply h
  rw [Int64.le_iff_toInt_le, Int32.toInt_toInt64]
  exact h0
theorem capnz {x : Int32} (h : 1 ≤ x.toInt ∧ x.toInt ≤ 100000) : ¬ (1000 : Int64) * x.toInt64 = 0 := by
  intro e
  have e2 := congrArg Int64.toInt e
  rw [Int64.toInt_mul, Int32.toInt_toInt64, show (1000 : Int64).toInt = 1000 from rfl, show (0 : Int64).toInt = 0 from rfl, Int.bmod_eq_of_le (by omega) (by omega)] at e2
  omega
def m_wantOf (rk : Nat) (p1 : Nat) (p2 : Nat) (Z : ZT) : Int64 := (if Z.1 13 p1 = 0 then (0 : Int64) else (if Z.1 13 p2 = 0 then (0 : Int64) else (if (m_isLink p1 p2 Z) = 0 then (0 : Int64) else (((((Z.1 23 ((8 * p1) + p2)).toInt64) * ((Z.1 rk p1).toInt64)) * ((Z.1 rk p2).toInt64)) / (100000 : Int64)))))
set_option maxHeartbeats 4000000 in
set_option maxRecDepth 100000 in
theorem met_m_wantOf_15 (l : Launch) (D : va_G) (cs : Nat → ClassId) (m : Nat) (ar : Nat → Nat) (Z : ZT) (sz : Nat) (p1 : Nat) (p2 : Nat) (hn1 : p1 < 8) (hn2 : p2 < 8) : Met l yX1_wantOf (ws_ yX1_wantOf cX1_wantOf 4 (some .long)) ({ frames := 1, cells := 0, slots := 0, locals := 22 }) (va_Pc [.ref m, .int (nI p1), .int (nI p2), .ref (ar 15)] (wSt D cs (MW m ar cs Z) sz)) (cQl (fun (v : Int64) (_ : Unit) => m_wantOf 15 p1 p2 Z = v) D (fun _ => (MW m ar cs Z)) (MW m ar cs Z) sz) 0 0 (va_A (MW m ar cs Z) sz) := by
  refine gStart_l (C := RX1) rfl rfl (Nat.le_of_ble_eq_true rfl) ?_
  intro p e s mid args below meth c R Q A hx hb hml hown hts hK hA hRf hRl hRc hRs hret hE ls hl
  have hRf : 1 ≤ R.frames := hRf
  have hRl : 22 ≤ R.locals := hRl
  have hl : lv_has ls 4 [(0, .ref m), (1, .int (nI p1)), (2, .int (nI p2)), (3, .ref (ar 15))] := hl
  have hR : m_wantOf 15 p1 p2 Z = (if Z.1 13 p1 = 0 then (0 : Int64) else (if Z.1 13 p2 = 0 then (0 : Int64) else (if (m_isLink p1 p2 Z) = 0 then (0 : Int64) else (((((Z.1 23 ((8 * p1) + p2)).toInt64) * ((Z.1 15 p1).toInt64)) * ((Z.1 15 p2).toInt64)) / (100000 : Int64))))) := rfl
  refine lv_aload_n hx hb dX1_wantOf_0 rfl (lv_at hl 0 rfl) ?_
  refine mg_13 hx hb hts hown hK hE dX1_wantOf_1 ?_
  refine lv_iload_n hx hb dX1_wantOf_4 rfl (lv_at hl 1 rfl) ?_
  refine ma_13 (n := p1) (by omega) hx hb hK hE dX1_wantOf_5 ?_
  refine lv_if_eq (tgt := 56) hx hb dX1_wantOf_6 (by decide) (fun c6 => ?_) (fun c6 => ?_)
  · have hR : m_wantOf 15 p1 p2 Z = (0 : Int64) := hR.trans (congrArg (fun z => z) (if_pos c6))
    refine lv_lconst (v := 0) hx hb dX1_wantOf_56 rfl ?_
    exact hret (0 : Int64) () hR hE (Nat.le_refl 0) (Nat.le_refl 0) dX1_wantOf_57
  · have hR : m_wantOf 15 p1 p2 Z = (if Z.1 13 p2 = 0 then (0 : Int64) else (if (m_isLink p1 p2 Z) = 0 then (0 : Int64) else (((((Z.1 23 ((8 * p1) + p2)).toInt64) * ((Z.1 15 p1).toInt64)) * ((Z.1 15 p2).toInt64)) / (100000 : Int64)))) := hR.trans (congrArg (fun z => z) (if_neg c6))
    refine lv_aload_n hx hb dX1_wantOf_9 rfl (lv_at hl 0 rfl) ?_
    refine mg_13 hx hb hts hown hK hE dX1_wantOf_10 ?_
    refine lv_iload_n hx hb dX1_wantOf_13 rfl (lv_at hl 2 rfl) ?_
    refine ma_13 (n := p2) (by omega) hx hb hK hE dX1_wantOf_14 ?_
    refine lv_if_eq (tgt := 56) hx hb dX1_wantOf_15 (by decide) (fun c15 => ?_) (fun c15 => ?_)
    · have hR : m_wantOf 15 p1 p2 Z = (0 : Int64) := hR.trans (congrArg (fun z => z) (if_pos c15))
      refine lv_lconst (v := 0) hx hb dX1_wantOf_56 rfl ?_
      exact hret (0 : Int64) () hR hE (Nat.le_refl 0) (Nat.le_refl 0) dX1_wantOf_57
    · have hR : m_wantOf 15 p1 p2 Z = (if (m_isLink p1 p2 Z) = 0 then (0 : Int64) else (((((Z.1 23 ((8 * p1) + p2)).toInt64) * ((Z.1 15 p1).toInt64)) * ((Z.1 15 p2).toInt64)) / (100000 : Int64))) := hR.trans (congrArg (fun z => z) (if_neg c15))
      refine lv_aload_n hx hb dX1_wantOf_18 rfl (lv_at hl 0 rfl) ?_
      refine lv_iload_n hx hb dX1_wantOf_19 rfl (lv_at hl 1 rfl) ?_
      refine lv_iload_n hx hb dX1_wantOf_20 rfl (lv_at hl 2 rfl) ?_
      refine call_m_isLink hx hb hml hown hts hK hA hE hl.1 p1 p2 (by omega) (by omega) (lz (show 1 ≤ 1 by decide) hRf) (lz (show 22 ≤ 22 by decide) hRl) (Nat.le_of_ble_eq_true rfl) dX1_wantOf_21 (fun H locs hE => ?_)
      refine lv_if_eq (tgt := 56) hx hb dX1_wantOf_24 (by decide) (fun c24 => ?_) (fun c24 => ?_)
      · have hR : m_wantOf 15 p1 p2 Z = (0 : Int64) := hR.trans (congrArg (fun z => z) (if_pos c24))
        refine lv_lconst (v := 0) hx hb dX1_wantOf_56 rfl ?_
        exact hret (0 : Int64) () hR hE (Nat.le_refl 0) (Nat.le_refl 0) dX1_wantOf_57
      · have hR : m_wantOf 15 p1 p2 Z = (((((Z.1 23 ((8 * p1) + p2)).toInt64) * ((Z.1 15 p1).toInt64)) * ((Z.1 15 p2).toInt64)) / (100000 : Int64)) := hR.trans (congrArg (fun z => z) (if_neg c24))
        refine lv_aload_n hx hb dX1_wantOf_27 rfl (lv_at hl 0 rfl) ?_
        refine mg_23 hx hb hts hown hK hE dX1_wantOf_28 ?_
        refine lv_bipush (v := 8) hx hb dX1_wantOf_31 rfl ?_
        refine lv_iload_n hx hb dX1_wantOf_33 rfl (lv_at hl 1 rfl) ?_
        refine n_mul (a := 8) (b := p1) hx hb dX1_wantOf_34 ?_
        refine lv_iload_n hx hb dX1_wantOf_35 rfl (lv_at hl 2 rfl) ?_
        refine n_add (a := (8 * p1)) (b := p2) hx hb dX1_wantOf_36 ?_
        refine ma_23 (n := ((8 * p1) + p2)) (by omega) hx hb hK hE dX1_wantOf_37 ?_
        refine lv_i2l hx hb dX1_wantOf_38 rfl ?_
        refine lv_aload_n hx hb dX1_wantOf_39 rfl (lv_at hl 3 rfl) ?_
        refine lv_iload_n hx hb dX1_wantOf_40 rfl (lv_at hl 1 rfl) ?_
        refine ma_15 (n := p1) (by omega) hx hb hK hE dX1_wantOf_41 ?_
        refine lv_i2l hx hb dX1_wantOf_42 rfl ?_
        refine lv_lmul hx hb dX1_wantOf_43 ?_
        refine lv_aload_n hx hb dX1_wantOf_44 rfl (lv_at hl 3 rfl) ?_
        refine lv_iload_n hx hb dX1_wantOf_45 rfl (lv_at hl 2 rfl) ?_
        refine ma_15 (n := p2) (by omega) hx hb hK hE dX1_wantOf_46 ?_
        refine lv_i2l hx hb dX1_wantOf_47 rfl ?_
        refine lv_lmul hx hb dX1_wantOf_48 ?_
        refine lv_ldc2 (v := 100000) hx hb hown (hts _ q1264) dX1_wantOf_49 ?_
        refine lv_ldiv hx hb dX1_wantOf_52 (by decide) ?_
        refine lv_goto (tgt := 57) hx hb dX1_wantOf_53 (by decide) ?_
        exact hret (((((Z.1 23 ((8 * p1) + p2)).toInt64) * ((Z.1 15 p1).toInt64)) * ((Z.1 15 p2).toInt64)) / (100000 : Int64)) () hR hE (Nat.le_refl 0) (Nat.le_refl 0) dX1_wantOf_57
section C_wantOf
variable {p : Program} {l : Launch} {e : Env} {R : Room} {s : State} {mid : MethodId} {args : Array Value} {below : List Frame} {meth : Method} {c : Code} {H : Heap} {locs : List Loc} {Q : State → Prop} {cc : ByteArray} {pc : Nat} {ls : Array Slot} {rest : List Value} {D : va_G} {A : Nat → Prop} {m : Nat} {ar : Nat → Nat} {cs : Nat → ClassId} {Z : ZT} {nL : Nat}
theorem call_m_wantOf_15 (hx : p.tables.exec = Jvm.exec) (hb : c.code = cc) (hml : c.maxLocals = nL) (hown : s.vm.findClass RX1 = some mid.cls) (hts : ∀ w ∈ lw_all, w.before args s = true) (hK : KK D cs s) (hA : ∀ q : Nat, s.heap.size ≤ q → A q) (hE : EW D A s.heap (MW m ar cs Z) H locs) (hls : ls.size = nL) (p1 : Nat) (p2 : Nat) (hn1 : p1 < 8) (hn2 : p2 < 8) (h1 : 2 ≤ R.frames) (h2 : 45 ≤ R.locals) (h3 : (rest.map fun v => v.category).sum ≤ 8) (hd : decode cc pc = .ok (.invokevirtual 209, 3)) (kk : ∀ (H1 : Heap) (locs1 : List Loc), EW D A s.heap (MW m ar cs Z) H1 locs1 → W p l e R s mid args below meth c H1 locs1 0 0 Q (F0 mid (pc + 3) ls (.long (m_wantOf 15 p1 p2 Z) :: rest))) : W p l e R s mid args below meth c H locs 0 0 Q (F0 mid pc ls (.ref (ar 15) :: .int (nI p2) :: .int (nI p1) :: .ref m :: rest)) :=
  gCall_l (As := [.int (nI p1), .int (nI p2), .ref (ar 15)]) (rest := rest) (q0 := 0) (ci := 1) (fs := MF ar Z) (T' := TX1) (N' := 52) hx hb hml hown hts hK hA hE hls (met_m_wantOf_15 l D cs m ar Z H.size p1 p2 hn1 hn2) (cwV 3 hts (lw_V q1260 q1262 qs61 q85 q1263) rfl rfl rfl (by decide +kernel) ⟨h1, h2⟩) rfl rfl rfl rfl h3 hd ⟨Nat.zero_le _, Nat.zero_le _⟩ (fun v u H1 locs1 hp _ hE => by subst hp; exact kk H1 locs1 hE)
end C_wantOf
set_option maxHeartbeats 4000000 in
set_option maxRecDepth 100000 in
theorem met_m_wantOf_34 (l : Launch) (D : va_G) (cs : Nat → ClassId) (m : Nat) (ar : Nat → Nat) (Z : ZT) (sz : Nat) (p1 : Nat) (p2 : Nat) (hn1 : p1 < 8) (hn2 : p2 < 8) : Met l yX1_wantOf (ws_ yX1_wantOf cX1_wantOf 4 (some .long)) ({ frames := 1, cells := 0, slots := 0, locals := 22 }) (va_Pc [.ref m, .int (nI p1), .int (nI p2), .ref (ar 34)] (wSt D cs (MW m ar cs Z) sz)) (cQl (fun (v : Int64) (_ : Unit) => m_wantOf 34 p1 p2 Z = v) D (fun _ => (MW m ar cs Z)) (MW m ar cs Z) sz) 0 0 (va_A (MW m ar cs Z) sz) := by
  refine gStart_l (C := RX1) rfl rfl (Nat.le_of_ble_eq_true rfl) ?_
  intro p e s mid args below meth c R Q A hx hb hml hown hts hK hA hRf hRl hRc hRs hret hE ls hl
  have hRf : 1 ≤ R.frames := hRf
  have hRl : 22 ≤ R.locals := hRl
  have hl : lv_has ls 4 [(0, .ref m), (1, .int (nI p1)), (2, .int (nI p2)), (3, .ref (ar 34))] := hl
  have hR : m_wantOf 34 p1 p2 Z = (if Z.1 13 p1 = 0 then (0 : Int64) else (if Z.1 13 p2 = 0 then (0 : Int64) else (if (m_isLink p1 p2 Z) = 0 then (0 : Int64) else (((((Z.1 23 ((8 * p1) + p2)).toInt64) * ((Z.1 34 p1).toInt64)) * ((Z.1 34 p2).toInt64)) / (100000 : Int64))))) := rfl
  refine lv_aload_n hx hb dX1_wantOf_0 rfl (lv_at hl 0 rfl) ?_
  refine mg_13 hx hb hts hown hK hE dX1_wantOf_1 ?_
  refine lv_iload_n hx hb dX1_wantOf_4 rfl (lv_at hl 1 rfl) ?_
  refine ma_13 (n := p1) (by omega) hx hb hK hE dX1_wantOf_5 ?_
  refine lv_if_eq (tgt := 56) hx hb dX1_wantOf_6 (by decide) (fun c6 => ?_) (fun c6 => ?_)
  · have hR : m_wantOf 34 p1 p2 Z = (0 : Int64) := hR.trans (congrArg (fun z => z) (if_pos c6))
    refine lv_lconst (v := 0) hx hb dX1_wantOf_56 rfl ?_
    exact hret (0 : Int64) () hR hE (Nat.le_refl 0) (Nat.le_refl 0) dX1_wantOf_57
  · have hR : m_wantOf 34 p1 p2 Z = (if Z.1 13 p2 = 0 then (0 : Int64) else (if (m_isLink p1 p2 Z) = 0 then (0 : Int64) else (((((Z.1 23 ((8 * p1) + p2)).toInt64) * ((Z.1 34 p1).toInt64)) * ((Z.1 34 p2).toInt64)) / (100000 : Int64)))) := hR.trans (congrArg (fun z => z) (if_neg c6))
    refine lv_aload_n hx hb dX1_wantOf_9 rfl (lv_at hl 0 rfl) ?_
    refine mg_13 hx hb hts hown hK hE dX1_wantOf_10 ?_
    refine lv_iload_n hx hb dX1_wantOf_13 rfl (lv_at hl 2 rfl) ?_
    refine ma_13 (n := p2) (by omega) hx hb hK hE dX1_wantOf_14 ?_
    refine lv_if_eq (tgt := 56) hx hb dX1_wantOf_15 (by decide) (fun c15 => ?_) (fun c15 => ?_)
    · have hR : m_wantOf 34 p1 p2 Z = (0 : Int64) := hR.trans (congrArg (fun z => z) (if_pos c15))
      refine lv_lconst (v := 0) hx hb dX1_wantOf_56 rfl ?_
      exact hret (0 : Int64) () hR hE (Nat.le_refl 0) (Nat.le_refl 0) dX1_wantOf_57
    · have hR : m_wantOf 34 p1 p2 Z = (if (m_isLink p1 p2 Z) = 0 then (0 : Int64) else (((((Z.1 23 ((8 * p1) + p2)).toInt64) * ((Z.1 34 p1).toInt64)) * ((Z.1 34 p2).toInt64)) / (100000 : Int64))) := hR.trans (congrArg (fun z => z) (if_neg c15))
      refine lv_aload_n hx hb dX1_wantOf_18 rfl (lv_at hl 0 rfl) ?_
      refine lv_iload_n hx hb dX1_wantOf_19 rfl (lv_at hl 1 rfl) ?_
      refine lv_iload_n hx hb dX1_wantOf_20 rfl (lv_at hl 2 rfl) ?_
      refine call_m_isLink hx hb hml hown hts hK hA hE hl.1 p1 p2 (by omega) (by omega) (lz (show 1 ≤ 1 by decide) hRf) (lz (show 22 ≤ 22 by decide) hRl) (Nat.le_of_ble_eq_true rfl) dX1_wantOf_21 (fun H locs hE => ?_)
      refine lv_if_eq (tgt := 56) hx hb dX1_wantOf_24 (by decide) (fun c24 => ?_) (fun c24 => ?_)
      · have hR : m_wantOf 34 p1 p2 Z = (0 : Int64) := hR.trans (congrArg (fun z => z) (if_pos c24))
        refine lv_lconst (v := 0) hx hb dX1_wantOf_56 rfl ?_
        exact hret (0 : Int64) () hR hE (Nat.le_refl 0) (Nat.le_refl 0) dX1_wantOf_57
      · have hR : m_wantOf 34 p1 p2 Z = (((((Z.1 23 ((8 * p1) + p2)).toInt64) * ((Z.1 34 p1).toInt64)) * ((Z.1 34 p2).toInt64)) / (100000 : Int64)) := hR.trans (congrArg (fun z => z) (if_neg c24))
        refine lv_aload_n hx hb dX1_wantOf_27 rfl (lv_at hl 0 rfl) ?_
        refine mg_23 hx hb hts hown hK hE dX1_wantOf_28 ?_
        refine lv_bipush (v := 8) hx hb dX1_wantOf_31 rfl ?_
        refine lv_iload_n hx hb dX1_wantOf_33 rfl (lv_at hl 1 rfl) ?_
        refine n_mul (a := 8) (b := p1) hx hb dX1_wantOf_34 ?_
        refine lv_iload_n hx hb dX1_wantOf_35 rfl (lv_at hl 2 rfl) ?_
        refine n_add (a := (8 * p1)) (b := p2) hx hb dX1_wantOf_36 ?_
        refine ma_23 (n := ((8 * p1) + p2)) (by omega) hx hb hK hE dX1_wantOf_37 ?_
        refine lv_i2l hx hb dX1_wantOf_38 rfl ?_
        refine lv_aload_n hx hb dX1_wantOf_39 rfl (lv_at hl 3 rfl) ?_
        refine lv_iload_n hx hb dX1_wantOf_40 rfl (lv_at hl 1 rfl) ?_
        refine ma_34 (n := p1) (by omega) hx hb hK hE dX1_wantOf_41 ?_
        refine lv_i2l hx hb dX1_wantOf_42 rfl ?_
        refine lv_lmul hx hb dX1_wantOf_43 ?_
        refine lv_aload_n hx hb dX1_wantOf_44 rfl (lv_at hl 3 rfl) ?_
        refine lv_iload_n hx hb dX1_wantOf_45 rfl (lv_at hl 2 rfl) ?_
        refine ma_34 (n := p2) (by omega) hx hb hK hE dX1_wantOf_46 ?_
        refine lv_i2l hx hb dX1_wantOf_47 rfl ?_
        refine lv_lmul hx hb dX1_wantOf_48 ?_
        refine lv_ldc2 (v := 100000) hx hb hown (hts _ q1264) dX1_wantOf_49 ?_
        refine lv_ldiv hx hb dX1_wantOf_52 (by decide) ?_
        refine lv_goto (tgt := 57) hx hb dX1_wantOf_53 (by decide) ?_
        exact hret (((((Z.1 23 ((8 * p1) + p2)).toInt64) * ((Z.1 34 p1).toInt64)) * ((Z.1 34 p2).toInt64)) / (100000 : Int64)) () hR hE (Nat.le_refl 0) (Nat.le_refl 0) dX1_wantOf_57
section C_wantOf
variable {p : Program} {l : Launch} {e : Env} {R : Room} {s : State} {mid : MethodId} {args : Array Value} {below : List Frame} {meth : Method} {c : Code} {H : Heap} {locs : List Loc} {Q : State → Prop} {cc : ByteArray} {pc : Nat} {ls : Array Slot} {rest : List Value} {D : va_G} {A : Nat → Prop} {m : Nat} {ar : Nat → Nat} {cs : Nat → ClassId} {Z : ZT} {nL : Nat}
theorem call_m_wantOf_34 (hx : p.tables.exec = Jvm.exec) (hb : c.code = cc) (hml : c.maxLocals = nL) (hown : s.vm.findClass RX1 = some mid.cls) (hts : ∀ w ∈ lw_all, w.before args s = true) (hK : KK D cs s) (hA : ∀ q : Nat, s.heap.size ≤ q → A q) (hE : EW D A s.heap (MW m ar cs Z) H locs) (hls : ls.size = nL) (p1 : Nat) (p2 : Nat) (hn1 : p1 < 8) (hn2 : p2 < 8) (h1 : 2 ≤ R.frames) (h2 : 45 ≤ R.locals) (h3 : (rest.map fun v => v.category).sum ≤ 8) (hd : decode cc pc = .ok (.invokevirtual 209, 3)) (kk : ∀ (H1 : Heap) (locs1 : List Loc), EW D A s.heap (MW m ar cs Z) H1 locs1 → W p l e R s mid args below meth c H1 locs1 0 0 Q (F0 mid (pc + 3) ls (.long (m_wantOf 34 p1 p2 Z) :: rest))) : W p l e R s mid args below meth c H locs 0 0 Q (F0 mid pc ls (.ref (ar 34) :: .int (nI p2) :: .int (nI p1) :: .ref m :: rest)) :=
  gCall_l (As := [.int (nI p1), .int (nI p2), .ref (ar 34)]) (rest := rest) (q0 := 0) (ci := 1) (fs := MF ar Z) (T' := TX1) (N' := 52) hx hb hml hown hts hK hA hE hls (met_m_wantOf_34 l D cs m ar Z H.size p1 p2 hn1 hn2) (cwV 3 hts (lw_V q1260 q1262 qs61 q85 q1263) rfl rfl rfl (by decide +kernel) ⟨h1, h2⟩) rfl rfl rfl rfl h3 hd ⟨Nat.zero_le _, Nat.zero_le _⟩ (fun v u H1 locs1 hp _ hE => by subst hp; exact kk H1 locs1 hE)
end C_wantOf
def m_layWants_b13 (rk : Nat) (i2 : Nat) (i13 : Nat) (w13 : Int64 × ZT) : Int64 × ZT := ((w13.1 + ((sL w13.2 30 ((8 * i13) + i2) (m_wantOf rk i13 i2 w13.2)).2 30 ((8 * i13) + i2))), sL w13.2 30 ((8 * i13) + i2) (m_wantOf rk i13 i2 w13.2))
def m_layWants_j117 (w117 : ZT) : ZT := w117
def m_layWants_b73 (rk : Nat) (i2 : Nat) (w13 : Int64 × ZT) (i73 : Nat) (w73 : ZT) : ZT := sL w73 30 ((8 * i73) + i2) (((w73.2 30 ((8 * i73) + i2)) * ((w73.1 rk i2).toInt64)) / w13.1)
def m_layWants_e73 (w73 : ZT) : ZT := w73
def m_layWants_e13 (rk : Nat) (i2 : Nat) (w13 : Int64 × ZT) : ZT := m_layWants_j117 (if w13.1 ≤ (w13.2.1 rk i2).toInt64 then w13.2 else m_layWants_e73 (itR (m_layWants_b73 rk i2 w13) 0 8 w13.2))
def m_layWants_b2 (rk : Nat) (i2 : Nat) (w2 : ZT) : ZT := m_layWants_e13 rk i2 (itR (m_layWants_b13 rk i2) 0 8 ((0 : Int64), w2))
def m_layWants_e2 (w2 : ZT) : ZT := w2
def m_layWants (rk : Nat) (Z : ZT) : ZT := m_layWants_e2 (itR (m_layWants_b2 rk) 0 8 Z)
set_option maxHeartbeats 4000000 in
set_option maxRecDepth 100000 in
theorem met_m_layWants_15 (l : Launch) (D : va_G) (cs : Nat → ClassId) (m : Nat) (ar : Nat → Nat) (Z : ZT) (sz : Nat) (hrow : ∀ b : Nat, b < 8 → 0 ≤ (Z.1 15 b).toInt) : Met l yX1_layWants (ws_ yX1_layWants cX1_layWants 6 none) ({ frames := 2, cells := 0, slots := 0, locals := 45 }) (va_Pc [.ref m, .ref (ar 15)] (wSt D cs (MW m ar cs Z) sz)) (cQv (fun (u : ZT) => m_layWants 15 Z = u) D (fun u => MW m ar cs u) (MW m ar cs Z) sz) 0 0 (va_A (MW m ar cs Z) sz) := by
  refine gStart_v (C := RX1) rfl rfl (Nat.le_of_ble_eq_true rfl) ?_
  intro p e s mid args below meth c R Q A hx hb hml hown hts hK hA hRf hRl hRc hRs hnm hret hE ls hl
  have hRf : 2 ≤ R.frames := hRf
  have hRl : 45 ≤ R.locals := hRl
  have hl : lv_has ls 6 [(0, .ref m), (1, .ref (ar 15))] := hl
  have hR : m_layWants 15 Z = (m_layWants_e2 (itR (m_layWants_b2 15) 0 8 Z)) := rfl
  refine lv_iconst (v := 0) hx hb dX1_layWants_0 rfl ?_
  refine lv_istore_n (lv' := [(2, .int (0 : Int32)), (0, .ref m), (1, .ref (ar 15))]) hx hb dX1_layWants_1 rfl hl (by decide) rfl (fun ls hl => ?_)
  have hL2 : ∀ (k i2 : Nat) (w2 : ZT) (hi2 : i2 + k = 8) (hr2 : ∀ b : Nat, b < 8 → 0 ≤ (w2.1 15 b).toInt) (hR : m_layWants 15 Z = m_layWants_e2 (itR (m_layWants_b2 15) i2 k w2)), ∀ (H : Heap) (locs : List Loc) (ls : Array Slot), EW D A s.heap (MW m ar cs w2) H locs → lv_has ls 6 [(0, .ref m), (1, .ref (ar 15)), (2, .int (nI i2))] → W p l e R s mid args below meth c H locs 0 0 Q (F0 mid 2 ls []) := by
    intro k
    induction k with
    | zero =>
      intro i2 w2 hi2 hr2 hR H locs ls hE hl
      have hie2 : i2 = 8 := by omega
      have hR : m_layWants 15 Z = w2 := hR
      refine lv_iload_n hx hb dX1_layWants_2 rfl (lv_at hl 2 rfl) ?_
      refine lv_bipush (v := 8) hx hb dX1_layWants_3 rfl ?_
      refine n_geT (a := i2) (b := 8) (by omega) (by omega) hx hb dX1_layWants_5 (tgt := 123) (by decide) ?_
      have hl := lv_sub (l' := [(0, .ref m), (1, .ref (ar 15))]) hl [0, 1] rfl
      exact hret w2 hR hE (Nat.le_refl 0) (Nat.le_refl 0) dX1_layWants_123
    | succ k ih2 =>
      intro i2 w2 hi2 hr2 hR H locs ls hE hl
      have hlt2 : i2 < 8 := by omega
      have hB2 : m_layWants_b2 15 i2 w2 = m_layWants_e13 15 i2 (itR (m_layWants_b13 15 i2) 0 8 ((0 : Int64), w2)) := rfl
      refine lv_iload_n hx hb dX1_layWants_2 rfl (lv_at hl 2 rfl) ?_
      refine lv_bipush (v := 8) hx hb dX1_layWants_3 rfl ?_
      refine n_geF (a := i2) (b := 8) (by omega) (by omega) hx hb dX1_layWants_5 (tgt := 123) (by decide) ?_
      refine lv_lconst (v := 0) hx hb dX1_layWants_8 rfl ?_
      refine lv_lstore_n (lv' := [(3, .long (0 : Int64)), (0, .ref m), (1, .ref (ar 15)), (2, .int (nI i2))]) hx hb dX1_layWants_9 rfl hl (by decide) rfl (fun ls hl => ?_)
      refine lv_iconst (v := 0) hx hb dX1_layWants_10 rfl ?_
      refine lv_istore (lv' := [(5, .int (0 : Int32)), (3, .long (0 : Int64)), (0, .ref m), (1, .ref (ar 15)), (2, .int (nI i2))]) hx hb dX1_layWants_11 hl (by decide) rfl (fun ls hl => ?_)
      have hL13 : ∀ (k i13 : Nat) (w13 : Int64 × ZT) (hi13 : i13 + k = 8) (hr13 : ∀ b : Nat, b < 8 → 0 ≤ (w13.2.1 15 b).toInt) (hB2 : m_layWants_b2 15 i2 w2 = m_layWants_e13 15 i2 (itR (m_layWants_b13 15 i2) i13 k w13)), ∀ (H : Heap) (locs : List Loc) (ls : Array Slot), EW D A s.heap (MW m ar cs w13.2) H locs → lv_has ls 6 [(0, .ref m), (1, .ref (ar 15)), (2, .int (nI i2)), (3, .long w13.1), (5, .int (nI i13))] → W p l e R s mid args below meth c H locs 0 0 Q (F0 mid 13 ls []) := by
        intro k
        induction k with
        | zero =>
          intro i13 w13 hi13 hr13 hB2 H locs ls hE hl
          have hie13 : i13 = 8 := by omega
          have hB2 : m_layWants_b2 15 i2 w2 = (m_layWants_j117 (if w13.1 ≤ (w13.2.1 15 i2).toInt64 then w13.2 else m_layWants_e73 (itR (m_layWants_b73 15 i2 w13) 0 8 w13.2))) := hB2
          refine lv_iload hx hb dX1_layWants_13 (lv_at hl 4 rfl) ?_
          refine lv_bipush (v := 8) hx hb dX1_layWants_15 rfl ?_
          refine n_geT (a := i13) (b := 8) (by omega) (by omega) hx hb dX1_layWants_17 (tgt := 61) (by decide) ?_
          have hl := lv_sub (l' := [(0, .ref m), (1, .ref (ar 15)), (2, .int (nI i2)), (3, .long w13.1)]) hl [0, 1, 2, 3] rfl
          refine lv_lload_n hx hb dX1_layWants_61 rfl (lv_at hl 3 rfl) ?_
          refine lv_aload_n hx hb dX1_layWants_62 rfl (lv_at hl 1 rfl) ?_
          refine lv_iload_n hx hb dX1_layWants_63 rfl (lv_at hl 2 rfl) ?_
          refine ma_15 (n := i2) (by omega) hx hb hK hE dX1_layWants_64 ?_
          refine lv_i2l hx hb dX1_layWants_65 rfl ?_
          have hJ117 : ∀ (w117 : ZT) (hw117 : ∀ b : Nat, b < 8 → 0 ≤ (w117.1 15 b).toInt) (hB2 : m_layWants_b2 15 i2 w2 = m_layWants_j117 w117), ∀ (H : Heap) (locs : List Loc) (ls : Array Slot), EW D A s.heap (MW m ar cs w117) H locs → lv_has ls 6 [(0, .ref m), (1, .ref (ar 15)), (2, .int (nI i2))] → W p l e R s mid args below meth c H locs 0 0 Q (F0 mid 117 ls []) := by
            intro w117 hw117 hB2 H locs ls hE hl
            have hB2 : m_layWants_b2 15 i2 w2 = w117 := hB2
            refine n_inc (lv' := [(2, .int (nI (i2 + 1))), (0, .ref m), (1, .ref (ar 15))]) hx hb dX1_layWants_117 hl (k := 2) rfl (by decide) rfl (fun ls hl => ?_)
            refine lv_goto (tgt := 2) hx hb dX1_layWants_120 (by decide) ?_
            exact ih2 (i2 + 1) w117 (by omega) (by exact hw117) (hR.trans (congrArg (fun z => m_layWants_e2 (itR (m_layWants_b2 15) (i2 + 1) k z)) hB2)) _ _ _ hE (lv_sub hl [1, 2, 0] rfl)
          refine l_le (tgt := 117) hx hb dX1_layWants_66 dX1_layWants_67 (by decide) (fun c66 => ?_) (fun c66 => ?_)
          · have hB2 : m_layWants_b2 15 i2 w2 = m_layWants_j117 w13.2 := hB2.trans (congrArg (fun z => m_layWants_j117 z) (if_pos c66))
            exact hJ117 w13.2  (by first | exact hr73 | exact hr13) hB2 _ _ _ hE (lv_sub hl [0, 1, 2] rfl)
          · have hB2 : m_layWants_b2 15 i2 w2 = m_layWants_j117 (m_layWants_e73 (itR (m_layWants_b73 15 i2 w13) 0 8 w13.2)) := hB2.trans (congrArg (fun z => m_layWants_j117 z) (if_neg c66))
            refine lv_iconst (v := 0) hx hb dX1_layWants_70 rfl ?_
            refine lv_istore (lv' := [(5, .int (0 : Int32)), (0, .ref m), (1, .ref (ar 15)), (2, .int (nI i2)), (3, .long w13.1)]) hx hb dX1_layWants_71 hl (by decide) rfl (fun ls hl => ?_)
            have hL73 : ∀ (k i73 : Nat) (w73 : ZT) (hi73 : i73 + k = 8) (hr73 : ∀ b : Nat, b < 8 → 0 ≤ (w73.1 15 b).toInt) (hB2 : m_layWants_b2 15 i2 w2 = m_layWants_j117 (m_layWants_e73 (itR (m_layWants_b73 15 i2 w13) i73 k w73))), ∀ (H : Heap) (locs : List Loc) (ls : Array Slot), EW D A s.heap (MW m ar cs w73) H locs → lv_has ls 6 [(0, .ref m), (1, .ref (ar 15)), (2, .int (nI i2)), (3, .long w13.1), (5, .int (nI i73))] → W p l e R s mid args below meth c H locs 0 0 Q (F0 mid 73 ls []) := by
              intro k
              induction k with
              | zero =>
                intro i73 w73 hi73 hr73 hB2 H locs ls hE hl
                have hie73 : i73 = 8 := by omega
                have hB2 : m_layWants_b2 15 i2 w2 = m_layWants_j117 w73 := hB2
                refine lv_iload hx hb dX1_layWants_73 (lv_at hl 4 rfl) ?_
                refine lv_bipush (v := 8) hx hb dX1_layWants_75 rfl ?_
                refine n_geT (a := i73) (b := 8) (by omega) (by omega) hx hb dX1_layWants_77 (tgt := 117) (by decide) ?_
                have hl := lv_sub (l' := [(0, .ref m), (1, .ref (ar 15)), (2, .int (nI i2)), (3, .long w13.1)]) hl [0, 1, 2, 3] rfl
                exact hJ117 w73  (by first | exact hr73 | exact hr13) hB2 _ _ _ hE (lv_sub hl [0, 1, 2] rfl)
              | succ k ih73 =>
                intro i73 w73 hi73 hr73 hB2 H locs ls hE hl
                have hlt73 : i73 < 8 := by omega
                have hB73 : m_layWants_b73 15 i2 w13 i73 w73 = sL w73 30 ((8 * i73) + i2) (((w73.2 30 ((8 * i73) + i2)) * ((w73.1 15 i2).toInt64)) / w13.1) := rfl
                refine lv_iload hx hb dX1_layWants_73 (lv_at hl 4 rfl) ?_
                refine lv_bipush (v := 8) hx hb dX1_layWants_75 rfl ?_
                refine n_geF (a := i73) (b := 8) (by omega) (by omega) hx hb dX1_layWants_77 (tgt := 117) (by decide) ?_
                refine lv_aload_n hx hb dX1_layWants_80 rfl (lv_at hl 0 rfl) ?_
                refine mg_30 hx hb hts hown hK hE dX1_layWants_81 ?_
                refine lv_bipush (v := 8) hx hb dX1_layWants_84 rfl ?_
                refine lv_iload hx hb dX1_layWants_86 (lv_at hl 4 rfl) ?_
                refine n_mul (a := 8) (b := i73) hx hb dX1_layWants_88 ?_
                refine lv_iload_n hx hb dX1_layWants_89 rfl (lv_at hl 2 rfl) ?_
                refine n_add (a := (8 * i73)) (b := i2) hx hb dX1_layWants_90 ?_
                refine lv_aload_n hx hb dX1_layWants_91 rfl (lv_at hl 0 rfl) ?_
                refine mg_30 hx hb hts hown hK hE dX1_layWants_92 ?_
                refine lv_bipush (v := 8) hx hb dX1_layWants_95 rfl ?_
                refine lv_iload hx hb dX1_layWants_97 (lv_at hl 4 rfl) ?_
                refine n_mul (a := 8) (b := i73) hx hb dX1_layWants_99 ?_
                refine lv_iload_n hx hb dX1_layWants_100 rfl (lv_at hl 2 rfl) ?_
                refine n_add (a := (8 * i73)) (b := i2) hx hb dX1_layWants_101 ?_
                refine ma_30 (n := ((8 * i73) + i2)) (by omega) hx hb hK hE dX1_layWants_102 ?_
                refine lv_aload_n hx hb dX1_layWants_103 rfl (lv_at hl 1 rfl) ?_
                refine lv_iload_n hx hb dX1_layWants_104 rfl (lv_at hl 2 rfl) ?_
                refine ma_15 (n := i2) (by omega) hx hb hK hE dX1_layWants_105 ?_
                refine lv_i2l hx hb dX1_layWants_106 rfl ?_
                refine lv_lmul hx hb dX1_layWants_107 ?_
                refine lv_lload_n hx hb dX1_layWants_108 rfl (lv_at hl 3 rfl) ?_
                refine lv_ldiv hx hb dX1_layWants_109 (lwnz c66 (hr13 _ hlt2)) ?_
                refine ms_30 (n := ((8 * i73) + i2)) (by omega) hx hb hK hE dX1_layWants_110 (fun H locs hE => ?_)
                refine n_inc (lv' := [(5, .int (nI (i73 + 1))), (0, .ref m), (1, .ref (ar 15)), (2, .int (nI i2)), (3, .long w13.1)]) hx hb dX1_layWants_111 hl (k := 4) rfl (by decide) rfl (fun ls hl => ?_)
                refine lv_goto (tgt := 73) hx hb dX1_layWants_114 (by decide) ?_
                exact ih73 (i73 + 1) (sL w73 30 ((8 * i73) + i2) (((w73.2 30 ((8 * i73) + i2)) * ((w73.1 15 i2).toInt64)) / w13.1)) (by omega) (by exact hr73) (hB2.trans (congrArg (fun z => m_layWants_j117 (m_layWants_e73 (itR (m_layWants_b73 15 i2 w13) (i73 + 1) k z))) hB73)) _ _ _ hE (lv_sub hl [1, 2, 3, 4, 0] rfl)
            exact hL73 8 0 w13.2 (by omega) (by exact hr13) hB2 _ _ _ hE (lv_sub hl [1, 2, 3, 4, 0] rfl)
        | succ k ih13 =>
          intro i13 w13 hi13 hr13 hB2 H locs ls hE hl
          have hlt13 : i13 < 8 := by omega
          have hB13 : m_layWants_b13 15 i2 i13 w13 = ((w13.1 + ((sL w13.2 30 ((8 * i13) + i2) (m_wantOf 15 i13 i2 w13.2)).2 30 ((8 * i13) + i2))), sL w13.2 30 ((8 * i13) + i2) (m_wantOf 15 i13 i2 w13.2)) := rfl
          refine lv_iload hx hb dX1_layWants_13 (lv_at hl 4 rfl) ?_
          refine lv_bipush (v := 8) hx hb dX1_layWants_15 rfl ?_
          refine n_geF (a := i13) (b := 8) (by omega) (by omega) hx hb dX1_layWants_17 (tgt := 61) (by decide) ?_
          refine lv_aload_n hx hb dX1_layWants_20 rfl (lv_at hl 0 rfl) ?_
          refine mg_30 hx hb hts hown hK hE dX1_layWants_21 ?_
          refine lv_bipush (v := 8) hx hb dX1_layWants_24 rfl ?_
          refine lv_iload hx hb dX1_layWants_26 (lv_at hl 4 rfl) ?_
          refine n_mul (a := 8) (b := i13) hx hb dX1_layWants_28 ?_
          refine lv_iload_n hx hb dX1_layWants_29 rfl (lv_at hl 2 rfl) ?_
          refine n_add (a := (8 * i13)) (b := i2) hx hb dX1_layWants_30 ?_
          refine lv_aload_n hx hb dX1_layWants_31 rfl (lv_at hl 0 rfl) ?_
          refine lv_iload hx hb dX1_layWants_32 (lv_at hl 4 rfl) ?_
          refine lv_iload_n hx hb dX1_layWants_34 rfl (lv_at hl 2 rfl) ?_
          refine lv_aload_n hx hb dX1_layWants_35 rfl (lv_at hl 1 rfl) ?_
          refine call_m_wantOf_15 hx hb hml hown hts hK hA hE hl.1 i13 i2 (by omega) (by omega) (lz (show 2 ≤ 2 by decide) hRf) (lz (show 45 ≤ 45 by decide) hRl) (Nat.le_of_ble_eq_true rfl) dX1_layWants_36 (fun H locs hE => ?_)
          refine ms_30 (n := ((8 * i13) + i2)) (by omega) hx hb hK hE dX1_layWants_39 (fun H locs hE => ?_)
          refine lv_lload_n hx hb dX1_layWants_40 rfl (lv_at hl 3 rfl) ?_
          refine lv_aload_n hx hb dX1_layWants_41 rfl (lv_at hl 0 rfl) ?_
          refine mg_30 hx hb hts hown hK hE dX1_layWants_42 ?_
          refine lv_bipush (v := 8) hx hb dX1_layWants_45 rfl ?_
          refine lv_iload hx hb dX1_layWants_47 (lv_at hl 4 rfl) ?_
          refine n_mul (a := 8) (b := i13) hx hb dX1_layWants_49 ?_
          refine lv_iload_n hx hb dX1_layWants_50 rfl (lv_at hl 2 rfl) ?_
          refine n_add (a := (8 * i13)) (b := i2) hx hb dX1_layWants_51 ?_
          refine ma_30 (n := ((8 * i13) + i2)) (by omega) hx hb hK hE dX1_layWants_52 ?_
          refine lv_ladd hx hb dX1_layWants_53 ?_
          refine lv_lstore_n (lv' := [(3, .long (w13.1 + ((sL w13.2 30 ((8 * i13) + i2) (m_wantOf 15 i13 i2 w13.2)).2 30 ((8 * i13) + i2)))), (0, .ref m), (1, .ref (ar 15)), (2, .int (nI i2)), (5, .int (nI i13))]) hx hb dX1_layWants_54 rfl hl (by decide) rfl (fun ls hl => ?_)
          refine n_inc (lv' := [(5, .int (nI (i13 + 1))), (3, .long (w13.1 + ((sL w13.2 30 ((8 * i13) + i2) (m_wantOf 15 i13 i2 w13.2)).2 30 ((8 * i13) + i2)))), (0, .ref m), (1, .ref (ar 15)), (2, .int (nI i2))]) hx hb dX1_layWants_55 hl (k := 4) rfl (by decide) rfl (fun ls hl => ?_)
          refine lv_goto (tgt := 13) hx hb dX1_layWants_58 (by decide) ?_
          exact ih13 (i13 + 1) ((w13.1 + ((sL w13.2 30 ((8 * i13) + i2) (m_wantOf 15 i13 i2 w13.2)).2 30 ((8 * i13) + i2))), sL w13.2 30 ((8 * i13) + i2) (m_wantOf 15 i13 i2 w13.2)) (by omega) (by first | exact hr13) (hB2.trans (congrArg (fun z => m_layWants_e13 15 i2 (itR (m_layWants_b13 15 i2) (i13 + 1) k z)) hB13)) _ _ _ hE (lv_sub hl [2, 3, 4, 1, 0] rfl)
      exact hL13 8 0 ((0 : Int64), w2) (by omega) (by exact hr2) hB2 _ _ _ hE (lv_sub hl [2, 3, 4, 1, 0] rfl)
  exact hL2 8 0 Z (by omega) (by exact hrow) hR _ _ _ hE (lv_sub hl [1, 2, 0] rfl)
section C_layWants
variable {p : Program} {l : Launch} {e : Env} {R : Room} {s : State} {mid : MethodId} {args : Array Value} {below : List Frame} {meth : Method} {c : Code} {H : Heap} {locs : List Loc} {Q : State → Prop} {cc : ByteArray} {pc : Nat} {ls : Array Slot} {rest : List Value} {D : va_G} {A : Nat → Prop} {m : Nat} {ar : Nat → Nat} {cs : Nat → ClassId} {Z : ZT} {nL : Nat}
theorem call_m_layWants_15 (hx : p.tables.exec = Jvm.exec) (hb : c.code = cc) (hml : c.maxLocals = nL) (hown : s.vm.findClass RX1 = some mid.cls) (hts : ∀ w ∈ lw_all, w.before args s = true) (hK : KK D cs s) (hA : ∀ q : Nat, s.heap.size ≤ q → A q) (hE : EW D A s.heap (MW m ar cs Z) H locs) (hls : ls.size = nL) (hrow : ∀ b : Nat, b < 8 → 0 ≤ (Z.1 15 b).toInt) (h1 : 3 ≤ R.frames) (h2 : 70 ≤ R.locals) (h3 : (rest.map fun v => v.category).sum ≤ 8) (hd : decode cc pc = .ok (.invokevirtual 219, 3)) (kk : ∀ (H1 : Heap) (locs1 : List Loc), EW D A s.heap (MW m ar cs (m_layWants 15 Z)) H1 locs1 → W p l e R s mid args below meth c H1 locs1 0 0 Q (F0 mid (pc + 3) ls (rest))) : W p l e R s mid args below meth c H locs 0 0 Q (F0 mid pc ls (.ref (ar 15) :: .ref m :: rest)) :=
  gCall_v (As := [.ref (ar 15)]) (rest := rest) (q0 := 0) (ci := 1) (fs := MF ar Z) (T' := TX1) (N' := 52) hx hb hml hown hts hK hA hE hls (met_m_layWants_15 l D cs m ar Z H.size hrow) (cwV 1 hts (lw_V q1256 q1258 qs60 q85 q1259) rfl rfl rfl (by decide +kernel) ⟨h1, h2⟩) rfl rfl rfl rfl h3 hd ⟨Nat.zero_le _, Nat.zero_le _⟩ (fun u H1 locs1 hp _ hE => by subst hp; exact kk H1 locs1 hE)
end C_layWants
set_option maxHeartbeats 4000000 in
set_option maxRecDepth 100000 in
theorem met_m_layWants_34 (l : Launch) (D : va_G) (cs : Nat → ClassId) (m : Nat) (ar : Nat → Nat) (Z : ZT) (sz : Nat) (hrow : ∀ b : Nat, b < 8 → 0 ≤ (Z.1 34 b).toInt) : Met l yX1_layWants (ws_ yX1_layWants cX1_layWants 6 none) ({ frames := 2, cells := 0, slots := 0, locals := 45 }) (va_Pc [.ref m, .ref (ar 34)] (wSt D cs (MW m ar cs Z) sz)) (cQv (fun (u : ZT) => m_layWants 34 Z = u) D (fun u => MW m ar cs u) (MW m ar cs Z) sz) 0 0 (va_A (MW m ar cs Z) sz) := by
  refine gStart_v (C := RX1) rfl rfl (Nat.le_of_ble_eq_true rfl) ?_
  intro p e s mid args below meth c R Q A hx hb hml hown hts hK hA hRf hRl hRc hRs hnm hret hE ls hl
  have hRf : 2 ≤ R.frames := hRf
  have hRl : 45 ≤ R.locals := hRl
  have hl : lv_has ls 6 [(0, .ref m), (1, .ref (ar 34))] := hl
  have hR : m_layWants 34 Z = (m_layWants_e2 (itR (m_layWants_b2 34) 0 8 Z)) := rfl
  refine lv_iconst (v := 0) hx hb dX1_layWants_0 rfl ?_
  refine lv_istore_n (lv' := [(2, .int (0 : Int32)), (0, .ref m), (1, .ref (ar 34))]) hx hb dX1_layWants_1 rfl hl (by decide) rfl (fun ls hl => ?_)
  have hL2 : ∀ (k i2 : Nat) (w2 : ZT) (hi2 : i2 + k = 8) (hr2 : ∀ b : Nat, b < 8 → 0 ≤ (w2.1 34 b).toInt) (hR : m_layWants 34 Z = m_layWants_e2 (itR (m_layWants_b2 34) i2 k w2)), ∀ (H : Heap) (locs : List Loc) (ls : Array Slot), EW D A s.heap (MW m ar cs w2) H locs → lv_has ls 6 [(0, .ref m), (1, .ref (ar 34)), (2, .int (nI i2))] → W p l e R s mid args below meth c H locs 0 0 Q (F0 mid 2 ls []) := by
    intro k
    induction k with
    | zero =>
      intro i2 w2 hi2 hr2 hR H locs ls hE hl
      have hie2 : i2 = 8 := by omega
      have hR : m_layWants 34 Z = w2 := hR
      refine lv_iload_n hx hb dX1_layWants_2 rfl (lv_at hl 2 rfl) ?_
      refine lv_bipush (v := 8) hx hb dX1_layWants_3 rfl ?_
      refine n_geT (a := i2) (b := 8) (by omega) (by omega) hx hb dX1_layWants_5 (tgt := 123) (by decide) ?_
      have hl := lv_sub (l' := [(0, .ref m), (1, .ref (ar 34))]) hl [0, 1] rfl
      exact hret w2 hR hE (Nat.le_refl 0) (Nat.le_refl 0) dX1_layWants_123
    | succ k ih2 =>
      intro i2 w2 hi2 hr2 hR H locs ls hE hl
      have hlt2 : i2 < 8 := by omega
      have hB2 : m_layWants_b2 34 i2 w2 = m_layWants_e13 34 i2 (itR (m_layWants_b13 34 i2) 0 8 ((0 : Int64), w2)) := rfl
      refine lv_iload_n hx hb dX1_layWants_2 rfl (lv_at hl 2 rfl) ?_
      refine lv_bipush (v := 8) hx hb dX1_layWants_3 rfl ?_
      refine n_geF (a := i2) (b := 8) (by omega) (by omega) hx hb dX1_layWants_5 (tgt := 123) (by decide) ?_
      refine lv_lconst (v := 0) hx hb dX1_layWants_8 rfl ?_
      refine lv_lstore_n (lv' := [(3, .long (0 : Int64)), (0, .ref m), (1, .ref (ar 34)), (2, .int (nI i2))]) hx hb dX1_layWants_9 rfl hl (by decide) rfl (fun ls hl => ?_)
      refine lv_iconst (v := 0) hx hb dX1_layWants_10 rfl ?_
      refine lv_istore (lv' := [(5, .int (0 : Int32)), (3, .long (0 : Int64)), (0, .ref m), (1, .ref (ar 34)), (2, .int (nI i2))]) hx hb dX1_layWants_11 hl (by decide) rfl (fun ls hl => ?_)
      have hL13 : ∀ (k i13 : Nat) (w13 : Int64 × ZT) (hi13 : i13 + k = 8) (hr13 : ∀ b : Nat, b < 8 → 0 ≤ (w13.2.1 34 b).toInt) (hB2 : m_layWants_b2 34 i2 w2 = m_layWants_e13 34 i2 (itR (m_layWants_b13 34 i2) i13 k w13)), ∀ (H : Heap) (locs : List Loc) (ls : Array Slot), EW D A s.heap (MW m ar cs w13.2) H locs → lv_has ls 6 [(0, .ref m), (1, .ref (ar 34)), (2, .int (nI i2)), (3, .long w13.1), (5, .int (nI i13))] → W p l e R s mid args below meth c H locs 0 0 Q (F0 mid 13 ls []) := by
        intro k
        induction k with
        | zero =>
          intro i13 w13 hi13 hr13 hB2 H locs ls hE hl
          have hie13 : i13 = 8 := by omega
          have hB2 : m_layWants_b2 34 i2 w2 = (m_layWants_j117 (if w13.1 ≤ (w13.2.1 34 i2).toInt64 then w13.2 else m_layWants_e73 (itR (m_layWants_b73 34 i2 w13) 0 8 w13.2))) := hB2
          refine lv_iload hx hb dX1_layWants_13 (lv_at hl 4 rfl) ?_
          refine lv_bipush (v := 8) hx hb dX1_layWants_15 rfl ?_
          refine n_geT (a := i13) (b := 8) (by omega) (by omega) hx hb dX1_layWants_17 (tgt := 61) (by decide) ?_
          have hl := lv_sub (l' := [(0, .ref m), (1, .ref (ar 34)), (2, .int (nI i2)), (3, .long w13.1)]) hl [0, 1, 2, 3] rfl
          refine lv_lload_n hx hb dX1_layWants_61 rfl (lv_at hl 3 rfl) ?_
          refine lv_aload_n hx hb dX1_layWants_62 rfl (lv_at hl 1 rfl) ?_
          refine lv_iload_n hx hb dX1_layWants_63 rfl (lv_at hl 2 rfl) ?_
          refine ma_34 (n := i2) (by omega) hx hb hK hE dX1_layWants_64 ?_
          refine lv_i2l hx hb dX1_layWants_65 rfl ?_
          have hJ117 : ∀ (w117 : ZT) (hw117 : ∀ b : Nat, b < 8 → 0 ≤ (w117.1 34 b).toInt) (hB2 : m_layWants_b2 34 i2 w2 = m_layWants_j117 w117), ∀ (H : Heap) (locs : List Loc) (ls : Array Slot), EW D A s.heap (MW m ar cs w117) H locs → lv_has ls 6 [(0, .ref m), (1, .ref (ar 34)), (2, .int (nI i2))] → W p l e R s mid args below meth c H locs 0 0 Q (F0 mid 117 ls []) := by
            intro w117 hw117 hB2 H locs ls hE hl
            have hB2 : m_layWants_b2 34 i2 w2 = w117 := hB2
            refine n_inc (lv' := [(2, .int (nI (i2 + 1))), (0, .ref m), (1, .ref (ar 34))]) hx hb dX1_layWants_117 hl (k := 2) rfl (by decide) rfl (fun ls hl => ?_)
            refine lv_goto (tgt := 2) hx hb dX1_layWants_120 (by decide) ?_
            exact ih2 (i2 + 1) w117 (by omega) (by exact hw117) (hR.trans (congrArg (fun z => m_layWants_e2 (itR (m_layWants_b2 34) (i2 + 1) k z)) hB2)) _ _ _ hE (lv_sub hl [1, 2, 0] rfl)
          refine l_le (tgt := 117) hx hb dX1_layWants_66 dX1_layWants_67 (by decide) (fun c66 => ?_) (fun c66 => ?_)
          · have hB2 : m_layWants_b2 34 i2 w2 = m_layWants_j117 w13.2 := hB2.trans (congrArg (fun z => m_layWants_j117 z) (if_pos c66))
            exact hJ117 w13.2  (by first | exact hr73 | exact hr13) hB2 _ _ _ hE (lv_sub hl [0, 1, 2] rfl)
          · have hB2 : m_layWants_b2 34 i2 w2 = m_layWants_j117 (m_layWants_e73 (itR (m_layWants_b73 34 i2 w13) 0 8 w13.2)) := hB2.trans (congrArg (fun z => m_layWants_j117 z) (if_neg c66))
            refine lv_iconst (v := 0) hx hb dX1_layWants_70 rfl ?_
            refine lv_istore (lv' := [(5, .int (0 : Int32)), (0, .ref m), (1, .ref (ar 34)), (2, .int (nI i2)), (3, .long w13.1)]) hx hb dX1_layWants_71 hl (by decide) rfl (fun ls hl => ?_)
            have hL73 : ∀ (k i73 : Nat) (w73 : ZT) (hi73 : i73 + k = 8) (hr73 : ∀ b : Nat, b < 8 → 0 ≤ (w73.1 34 b).toInt) (hB2 : m_layWants_b2 34 i2 w2 = m_layWants_j117 (m_layWants_e73 (itR (m_layWants_b73 34 i2 w13) i73 k w73))), ∀ (H : Heap) (locs : List Loc) (ls : Array Slot), EW D A s.heap (MW m ar cs w73) H locs → lv_has ls 6 [(0, .ref m), (1, .ref (ar 34)), (2, .int (nI i2)), (3, .long w13.1), (5, .int (nI i73))] → W p l e R s mid args below meth c H locs 0 0 Q (F0 mid 73 ls []) := by
              intro k
              induction k with
              | zero =>
                intro i73 w73 hi73 hr73 hB2 H locs ls hE hl
                have hie73 : i73 = 8 := by omega
                have hB2 : m_layWants_b2 34 i2 w2 = m_layWants_j117 w73 := hB2
                refine lv_iload hx hb dX1_layWants_73 (lv_at hl 4 rfl) ?_
                refine lv_bipush (v := 8) hx hb dX1_layWants_75 rfl ?_
                refine n_geT (a := i73) (b := 8) (by omega) (by omega) hx hb dX1_layWants_77 (tgt := 117) (by decide) ?_
                have hl := lv_sub (l' := [(0, .ref m), (1, .ref (ar 34)), (2, .int (nI i2)), (3, .long w13.1)]) hl [0, 1, 2, 3] rfl
                exact hJ117 w73  (by first | exact hr73 | exact hr13) hB2 _ _ _ hE (lv_sub hl [0, 1, 2] rfl)
              | succ k ih73 =>
                intro i73 w73 hi73 hr73 hB2 H locs ls hE hl
                have hlt73 : i73 < 8 := by omega
                have hB73 : m_layWants_b73 34 i2 w13 i73 w73 = sL w73 30 ((8 * i73) + i2) (((w73.2 30 ((8 * i73) + i2)) * ((w73.1 34 i2).toInt64)) / w13.1) := rfl
                refine lv_iload hx hb dX1_layWants_73 (lv_at hl 4 rfl) ?_
                refine lv_bipush (v := 8) hx hb dX1_layWants_75 rfl ?_
                refine n_geF (a := i73) (b := 8) (by omega) (by omega) hx hb dX1_layWants_77 (tgt := 117) (by decide) ?_
                refine lv_aload_n hx hb dX1_layWants_80 rfl (lv_at hl 0 rfl) ?_
                refine mg_30 hx hb hts hown hK hE dX1_layWants_81 ?_
                refine lv_bipush (v := 8) hx hb dX1_layWants_84 rfl ?_
                refine lv_iload hx hb dX1_layWants_86 (lv_at hl 4 rfl) ?_
                refine n_mul (a := 8) (b := i73) hx hb dX1_layWants_88 ?_
                refine lv_iload_n hx hb dX1_layWants_89 rfl (lv_at hl 2 rfl) ?_
                refine n_add (a := (8 * i73)) (b := i2) hx hb dX1_layWants_90 ?_
                refine lv_aload_n hx hb dX1_layWants_91 rfl (lv_at hl 0 rfl) ?_
                refine mg_30 hx hb hts hown hK hE dX1_layWants_92 ?_
                refine lv_bipush (v := 8) hx hb dX1_layWants_95 rfl ?_
                refine lv_iload hx hb dX1_layWants_97 (lv_at hl 4 rfl) ?_
                refine n_mul (a := 8) (b := i73) hx hb dX1_layWants_99 ?_
                refine lv_iload_n hx hb dX1_layWants_100 rfl (lv_at hl 2 rfl) ?_
                refine n_add (a := (8 * i73)) (b := i2) hx hb dX1_layWants_101 ?_
                refine ma_30 (n := ((8 * i73) + i2)) (by omega) hx hb hK hE dX1_layWants_102 ?_
                refine lv_aload_n hx hb dX1_layWants_103 rfl (lv_at hl 1 rfl) ?_
                refine lv_iload_n hx hb dX1_layWants_104 rfl (lv_at hl 2 rfl) ?_
                refine ma_34 (n := i2) (by omega) hx hb hK hE dX1_layWants_105 ?_
                refine lv_i2l hx hb dX1_layWants_106 rfl ?_
                refine lv_lmul hx hb dX1_layWants_107 ?_
                refine lv_lload_n hx hb dX1_layWants_108 rfl (lv_at hl 3 rfl) ?_
                refine lv_ldiv hx hb dX1_layWants_109 (lwnz c66 (hr13 _ hlt2)) ?_
                refine ms_30 (n := ((8 * i73) + i2)) (by omega) hx hb hK hE dX1_layWants_110 (fun H locs hE => ?_)
                refine n_inc (lv' := [(5, .int (nI (i73 + 1))), (0, .ref m), (1, .ref (ar 34)), (2, .int (nI i2)), (3, .long w13.1)]) hx hb dX1_layWants_111 hl (k := 4) rfl (by decide) rfl (fun ls hl => ?_)
                refine lv_goto (tgt := 73) hx hb dX1_layWants_114 (by decide) ?_
                exact ih73 (i73 + 1) (sL w73 30 ((8 * i73) + i2) (((w73.2 30 ((8 * i73) + i2)) * ((w73.1 34 i2).toInt64)) / w13.1)) (by omega) (by exact hr73) (hB2.trans (congrArg (fun z => m_layWants_j117 (m_layWants_e73 (itR (m_layWants_b73 34 i2 w13) (i73 + 1) k z))) hB73)) _ _ _ hE (lv_sub hl [1, 2, 3, 4, 0] rfl)
            exact hL73 8 0 w13.2 (by omega) (by exact hr13) hB2 _ _ _ hE (lv_sub hl [1, 2, 3, 4, 0] rfl)
        | succ k ih13 =>
          intro i13 w13 hi13 hr13 hB2 H locs ls hE hl
          have hlt13 : i13 < 8 := by omega
          have hB13 : m_layWants_b13 34 i2 i13 w13 = ((w13.1 + ((sL w13.2 30 ((8 * i13) + i2) (m_wantOf 34 i13 i2 w13.2)).2 30 ((8 * i13) + i2))), sL w13.2 30 ((8 * i13) + i2) (m_wantOf 34 i13 i2 w13.2)) := rfl
          refine lv_iload hx hb dX1_layWants_13 (lv_at hl 4 rfl) ?_
          refine lv_bipush (v := 8) hx hb dX1_layWants_15 rfl ?_
          refine n_geF (a := i13) (b := 8) (by omega) (by omega) hx hb dX1_layWants_17 (tgt := 61) (by decide) ?_
          refine lv_aload_n hx hb dX1_layWants_20 rfl (lv_at hl 0 rfl) ?_
          refine mg_30 hx hb hts hown hK hE dX1_layWants_21 ?_
          refine lv_bipush (v := 8) hx hb dX1_layWants_24 rfl ?_
          refine lv_iload hx hb dX1_layWants_26 (lv_at hl 4 rfl) ?_
          refine n_mul (a := 8) (b := i13) hx hb dX1_layWants_28 ?_
          refine lv_iload_n hx hb dX1_layWants_29 rfl (lv_at hl 2 rfl) ?_
          refine n_add (a := (8 * i13)) (b := i2) hx hb dX1_layWants_30 ?_
          refine lv_aload_n hx hb dX1_layWants_31 rfl (lv_at hl 0 rfl) ?_
          refine lv_iload hx hb dX1_layWants_32 (lv_at hl 4 rfl) ?_
          refine lv_iload_n hx hb dX1_layWants_34 rfl (lv_at hl 2 rfl) ?_
          refine lv_aload_n hx hb dX1_layWants_35 rfl (lv_at hl 1 rfl) ?_
          refine call_m_wantOf_34 hx hb hml hown hts hK hA hE hl.1 i13 i2 (by omega) (by omega) (lz (show 2 ≤ 2 by decide) hRf) (lz (show 45 ≤ 45 by decide) hRl) (Nat.le_of_ble_eq_true rfl) dX1_layWants_36 (fun H locs hE => ?_)
          refine ms_30 (n := ((8 * i13) + i2)) (by omega) hx hb hK hE dX1_layWants_39 (fun H locs hE => ?_)
          refine lv_lload_n hx hb dX1_layWants_40 rfl (lv_at hl 3 rfl) ?_
          refine lv_aload_n hx hb dX1_layWants_41 rfl (lv_at hl 0 rfl) ?_
          refine mg_30 hx hb hts hown hK hE dX1_layWants_42 ?_
          refine lv_bipush (v := 8) hx hb dX1_layWants_45 rfl ?_
          refine lv_iload hx hb dX1_layWants_47 (lv_at hl 4 rfl) ?_
          refine n_mul (a := 8) (b := i13) hx hb dX1_layWants_49 ?_
          refine lv_iload_n hx hb dX1_layWants_50 rfl (lv_at hl 2 rfl) ?_
          refine n_add (a := (8 * i13)) (b := i2) hx hb dX1_layWants_51 ?_
          refine ma_30 (n := ((8 * i13) + i2)) (by omega) hx hb hK hE dX1_layWants_52 ?_
          refine lv_ladd hx hb dX1_layWants_53 ?_
          refine lv_lstore_n (lv' := [(3, .long (w13.1 + ((sL w13.2 30 ((8 * i13) + i2) (m_wantOf 34 i13 i2 w13.2)).2 30 ((8 * i13) + i2)))), (0, .ref m), (1, .ref (ar 34)), (2, .int (nI i2)), (5, .int (nI i13))]) hx hb dX1_layWants_54 rfl hl (by decide) rfl (fun ls hl => ?_)
          refine n_inc (lv' := [(5, .int (nI (i13 + 1))), (3, .long (w13.1 + ((sL w13.2 30 ((8 * i13) + i2) (m_wantOf 34 i13 i2 w13.2)).2 30 ((8 * i13) + i2)))), (0, .ref m), (1, .ref (ar 34)), (2, .int (nI i2))]) hx hb dX1_layWants_55 hl (k := 4) rfl (by decide) rfl (fun ls hl => ?_)
          refine lv_goto (tgt := 13) hx hb dX1_layWants_58 (by decide) ?_
          exact ih13 (i13 + 1) ((w13.1 + ((sL w13.2 30 ((8 * i13) + i2) (m_wantOf 34 i13 i2 w13.2)).2 30 ((8 * i13) + i2))), sL w13.2 30 ((8 * i13) + i2) (m_wantOf 34 i13 i2 w13.2)) (by omega) (by first | exact hr13) (hB2.trans (congrArg (fun z => m_layWants_e13 34 i2 (itR (m_layWants_b13 34 i2) (i13 + 1) k z)) hB13)) _ _ _ hE (lv_sub hl [2, 3, 4, 1, 0] rfl)
      exact hL13 8 0 ((0 : Int64), w2) (by omega) (by exact hr2) hB2 _ _ _ hE (lv_sub hl [2, 3, 4, 1, 0] rfl)
  exact hL2 8 0 Z (by omega) (by exact hrow) hR _ _ _ hE (lv_sub hl [1, 2, 0] rfl)
section C_layWants
variable {p : Program} {l : Launch} {e : Env} {R : Room} {s : State} {mid : MethodId} {args : Array Value} {below : List Frame} {meth : Method} {c : Code} {H : Heap} {locs : List Loc} {Q : State → Prop} {cc : ByteArray} {pc : Nat} {ls : Array Slot} {rest : List Value} {D : va_G} {A : Nat → Prop} {m : Nat} {ar : Nat → Nat} {cs : Nat → ClassId} {Z : ZT} {nL : Nat}
theorem call_m_layWants_34 (hx : p.tables.exec = Jvm.exec) (hb : c.code = cc) (hml : c.maxLocals = nL) (hown : s.vm.findClass RX1 = some mid.cls) (hts : ∀ w ∈ lw_all, w.before args s = true) (hK : KK D cs s) (hA : ∀ q : Nat, s.heap.size ≤ q → A q) (hE : EW D A s.heap (MW m ar cs Z) H locs) (hls : ls.size = nL) (hrow : ∀ b : Nat, b < 8 → 0 ≤ (Z.1 34 b).toInt) (h1 : 3 ≤ R.frames) (h2 : 70 ≤ R.locals) (h3 : (rest.map fun v => v.category).sum ≤ 8) (hd : decode cc pc = .ok (.invokevirtual 219, 3)) (kk : ∀ (H1 : Heap) (locs1 : List Loc), EW D A s.heap (MW m ar cs (m_layWants 34 Z)) H1 locs1 → W p l e R s mid args below meth c H1 locs1 0 0 Q (F0 mid (pc + 3) ls (rest))) : W p l e R s mid args below meth c H locs 0 0 Q (F0 mid pc ls (.ref (ar 34) :: .ref m :: rest)) :=
  gCall_v (As := [.ref (ar 34)]) (rest := rest) (q0 := 0) (ci := 1) (fs := MF ar Z) (T' := TX1) (N' := 52) hx hb hml hown hts hK hA hE hls (met_m_layWants_34 l D cs m ar Z H.size hrow) (cwV 1 hts (lw_V q1256 q1258 qs60 q85 q1259) rfl rfl rfl (by decide +kernel) ⟨h1, h2⟩) rfl rfl rfl rfl h3 hd ⟨Nat.zero_le _, Nat.zero_le _⟩ (fun u H1 locs1 hp _ hE => by subst hp; exact kk H1 locs1 hE)
end C_layWants
def m_layChanges_b25 (i9 : Nat) (w9 : Int64 × Int32 × ZT) (i25 : Nat) (w25 : Int64 × Int64) : Int64 × Int64 := ((w25.1 + (w9.2.2.2 30 ((8 * i9) + i25))), (w25.2 + (w9.2.2.2 30 ((8 * i25) + i9))))
def m_layChanges_j276 (w242 : Int64 × ZT) (w276 : Int32) : Int64 × Int32 × ZT := (w242.1, w276, w242.2)
def m_layChanges_j242 (i9 : Nat) (w9 : Int64 × Int32 × ZT) (w242 : Int64 × ZT) : Int64 × Int32 × ZT := m_layChanges_j276 w242 (if w9.2.1 = (-9 : Int32) then (if w242.2.1 13 i9 = 0 then w9.2.1 else (if w242.2.1 14 i9 = 0 then nI i9 else w9.2.1)) else w9.2.1)
def m_layChanges_j156 (rk : Nat) (i9 : Nat) (w9 : Int64 × Int32 × ZT) (w25 : Int64 × Int64) (w156 : ZT) : Int64 × Int32 × ZT := m_layChanges_j242 i9 w9 (if w156.1 13 i9 = 0 then (w9.1, w156) else (if (m_eats i9 w156) = 0 then (w9.1, w156) else ((w9.1 + ((w25.1 - ((w25.1 * ((w156.1 20 i9).toInt64)) / (100 : Int64))) + (((((w156.1 19 i9).toInt64) * ((w156.1 rk i9).toInt64)) + (999 : Int64)) / (1000 : Int64)))), sL w156 31 i9 ((w156.2 31 i9) + (((w25.1 * ((w156.1 20 i9).toInt64)) / (100 : Int64)) - (((((w156.1 19 i9).toInt64) * ((w156.1 rk i9).toInt64)) + (999 : Int64)) / (1000 : Int64)))))))
def m_layChanges_e25 (rk : Nat) (i9 : Nat) (w9 : Int64 × Int32 × ZT) (w25 : Int64 × Int64) : Int64 × Int32 × ZT := m_layChanges_j156 rk i9 w9 w25 (if w9.2.2.1 13 i9 = 0 then sL w9.2.2 31 i9 (-w25.2) else (if w9.2.2.1 14 i9 = (1 : Int32) then sL (sL w9.2.2 31 i9 (-w25.2)) 31 i9 (((sL w9.2.2 31 i9 (-w25.2)).2 31 i9) + (((((w9.2.2.1 17 i9).toInt64) * ((w9.2.2.1 rk i9).toInt64)) * (((w9.2.2.1 18 i9) - (w9.2.2.1 rk i9)).toInt64)) / ((1000 : Int64) * ((w9.2.2.1 18 i9).toInt64)))) else sL w9.2.2 31 i9 (-w25.2)))
def m_layChanges_b9 (rk : Nat) (i9 : Nat) (w9 : Int64 × Int32 × ZT) : Int64 × Int32 × ZT := m_layChanges_e25 rk i9 w9 (itR (m_layChanges_b25 i9 w9) 0 8 ((0 : Int64), (0 : Int64)))
def m_layChanges_e9 (w9 : Int64 × Int32 × ZT) : ZT := (if w9.2.1 = (-9 : Int32) then w9.2.2 else sL w9.2.2 31 (ix w9.2.1) ((w9.2.2.2 31 (ix w9.2.1)) + w9.1))
def m_layChanges (rk : Nat) (Z : ZT) : ZT := m_layChanges_e9 (itR (m_layChanges_b9 rk) 0 8 ((0 : Int64), (-9 : Int32), Z))
set_option maxHeartbeats 4000000 in
set_option maxRecDepth 100000 in
theorem met_m_layChanges_15 (l : Launch) (D : va_G) (cs : Nat → ClassId) (m : Nat) (ar : Nat → Nat) (Z : ZT) (sz : Nat) (hcap : ∀ b : Nat, b < 8 → 1 ≤ (Z.1 18 b).toInt ∧ (Z.1 18 b).toInt ≤ 100000) : Met l yX1_layChanges (ws_ yX1_layChanges cX1_layChanges 14 none) ({ frames := 1, cells := 0, slots := 0, locals := 21 }) (va_Pc [.ref m, .ref (ar 15)] (wSt D cs (MW m ar cs Z) sz)) (cQv (fun (u : ZT) => m_layChanges 15 Z = u) D (fun u => MW m ar cs u) (MW m ar cs Z) sz) 0 0 (va_A (MW m ar cs Z) sz) := by
  refine gStart_v (C := RX1) rfl rfl (Nat.le_of_ble_eq_true rfl) ?_
  intro p e s mid args below meth c R Q A hx hb hml hown hts hK hA hRf hRl hRc hRs hnm hret hE ls hl
  have hRf : 1 ≤ R.frames := hRf
  have hRl : 21 ≤ R.locals := hRl
  have hl : lv_has ls 14 [(0, .ref m), (1, .ref (ar 15))] := hl
  have hR : m_layChanges 15 Z = (m_layChanges_e9 (itR (m_layChanges_b9 15) 0 8 ((0 : Int64), (-9 : Int32), Z))) := rfl
  refine lv_lconst (v := 0) hx hb dX1_layChanges_0 rfl ?_
  refine lv_lstore_n (lv' := [(2, .long (0 : Int64)), (0, .ref m), (1, .ref (ar 15))]) hx hb dX1_layChanges_1 rfl hl (by decide) rfl (fun ls hl => ?_)
  refine lv_bipush (v := -9) hx hb dX1_layChanges_2 rfl ?_
  refine lv_istore (lv' := [(4, .int (-9 : Int32)), (2, .long (0 : Int64)), (0, .ref m), (1, .ref (ar 15))]) hx hb dX1_layChanges_4 hl (by decide) rfl (fun ls hl => ?_)
  refine lv_iconst (v := 0) hx hb dX1_layChanges_6 rfl ?_
  refine lv_istore (lv' := [(5, .int (0 : Int32)), (4, .int (-9 : Int32)), (2, .long (0 : Int64)), (0, .ref m), (1, .ref (ar 15))]) hx hb dX1_layChanges_7 hl (by decide) rfl (fun ls hl => ?_)
  have hL9 : ∀ (k i9 : Nat) (w9 : Int64 × Int32 × ZT) (hi9 : i9 + k = 8) (hc9 : ∀ b : Nat, b < 8 → 1 ≤ (w9.2.2.1 18 b).toInt ∧ (w9.2.2.1 18 b).toInt ≤ 100000) (hj9 : w9.2.1 = -9 ∨ vp_in w9.2.1 8) (hR : m_layChanges 15 Z = m_layChanges_e9 (itR (m_layChanges_b9 15) i9 k w9)), ∀ (H : Heap) (locs : List Loc) (ls : Array Slot), EW D A s.heap (MW m ar cs w9.2.2) H locs → lv_has ls 14 [(0, .ref m), (1, .ref (ar 15)), (2, .long w9.1), (4, .int w9.2.1), (5, .int (nI i9))] → W p l e R s mid args below meth c H locs 0 0 Q (F0 mid 9 ls []) := by
    intro k
    induction k with
    | zero =>
      intro i9 w9 hi9 hc9 hj9 hR H locs ls hE hl
      have hie9 : i9 = 8 := by omega
      have hR : m_layChanges 15 Z = (if w9.2.1 = (-9 : Int32) then w9.2.2 else sL w9.2.2 31 (ix w9.2.1) ((w9.2.2.2 31 (ix w9.2.1)) + w9.1)) := hR
      refine lv_iload hx hb dX1_layChanges_9 (lv_at hl 4 rfl) ?_
      refine lv_bipush (v := 8) hx hb dX1_layChanges_11 rfl ?_
      refine n_geT (a := i9) (b := 8) (by omega) (by omega) hx hb dX1_layChanges_13 (tgt := 284) (by decide) ?_
      have hl := lv_sub (l' := [(0, .ref m), (1, .ref (ar 15)), (2, .long w9.1), (4, .int w9.2.1)]) hl [0, 1, 2, 3] rfl
      refine lv_iload hx hb dX1_layChanges_284 (lv_at hl 3 rfl) ?_
      refine lv_bipush (v := -9) hx hb dX1_layChanges_286 rfl ?_
      refine lv_icmp_eq (tgt := 302) hx hb dX1_layChanges_288 (by decide) (fun c288 => ?_) (fun c288 => ?_)
      · have hR : m_layChanges 15 Z = w9.2.2 := hR.trans (congrArg (fun z => z) (if_pos c288))
        exact hret w9.2.2 hR hE (Nat.le_refl 0) (Nat.le_refl 0) dX1_layChanges_302
      · have hR : m_layChanges 15 Z = (sL w9.2.2 31 (ix w9.2.1) ((w9.2.2.2 31 (ix w9.2.1)) + w9.1)) := hR.trans (congrArg (fun z => z) (if_neg c288))
        refine lv_aload_n hx hb dX1_layChanges_291 rfl (lv_at hl 0 rfl) ?_
        refine mg_31 hx hb hts hown hK hE dX1_layChanges_292 ?_
        refine lv_iload hx hb dX1_layChanges_295 (lv_at hl 3 rfl) ?_
        refine lv_dup2_11 hx hb dX1_layChanges_297 rfl rfl ?_
        refine mr_31 (i := w9.2.1) (Or.resolve_left hj9 c288) hx hb hK hE dX1_layChanges_298 ?_
        refine lv_lload_n hx hb dX1_layChanges_299 rfl (lv_at hl 2 rfl) ?_
        refine lv_ladd hx hb dX1_layChanges_300 ?_
        refine mq_31 (i := w9.2.1) (Or.resolve_left hj9 c288) hx hb hK hE dX1_layChanges_301 (fun H locs hE => ?_)
        exact hret (sL w9.2.2 31 (ix w9.2.1) ((w9.2.2.2 31 (ix w9.2.1)) + w9.1)) hR hE (Nat.le_refl 0) (Nat.le_refl 0) dX1_layChanges_302
    | succ k ih9 =>
      intro i9 w9 hi9 hc9 hj9 hR H locs ls hE hl
      have hlt9 : i9 < 8 := by omega
      have hB9 : m_layChanges_b9 15 i9 w9 = m_layChanges_e25 15 i9 w9 (itR (m_layChanges_b25 i9 w9) 0 8 ((0 : Int64), (0 : Int64))) := rfl
      refine lv_iload hx hb dX1_layChanges_9 (lv_at hl 4 rfl) ?_
      refine lv_bipush (v := 8) hx hb dX1_layChanges_11 rfl ?_
      refine n_geF (a := i9) (b := 8) (by omega) (by omega) hx hb dX1_layChanges_13 (tgt := 284) (by decide) ?_
      refine lv_lconst (v := 0) hx hb dX1_layChanges_16 rfl ?_
      refine lv_lstore (lv' := [(6, .long (0 : Int64)), (0, .ref m), (1, .ref (ar 15)), (2, .long w9.1), (4, .int w9.2.1), (5, .int (nI i9))]) hx hb dX1_layChanges_17 hl (by decide) rfl (fun ls hl => ?_)
      refine lv_lconst (v := 0) hx hb dX1_layChanges_19 rfl ?_
      refine lv_lstore (lv' := [(8, .long (0 : Int64)), (6, .long (0 : Int64)), (0, .ref m), (1, .ref (ar 15)), (2, .long w9.1), (4, .int w9.2.1), (5, .int (nI i9))]) hx hb dX1_layChanges_20 hl (by decide) rfl (fun ls hl => ?_)
      refine lv_iconst (v := 0) hx hb dX1_layChanges_22 rfl ?_
      refine lv_istore (lv' := [(10, .int (0 : Int32)), (8, .long (0 : Int64)), (6, .long (0 : Int64)), (0, .ref m), (1, .ref (ar 15)), (2, .long w9.1), (4, .int w9.2.1), (5, .int (nI i9))]) hx hb dX1_layChanges_23 hl (by decide) rfl (fun ls hl => ?_)
      have hL25 : ∀ (k i25 : Nat) (w25 : Int64 × Int64) (hi25 : i25 + k = 8) (hB9 : m_layChanges_b9 15 i9 w9 = m_layChanges_e25 15 i9 w9 (itR (m_layChanges_b25 i9 w9) i25 k w25)), ∀ (H : Heap) (locs : List Loc) (ls : Array Slot), EW D A s.heap (MW m ar cs w9.2.2) H locs → lv_has ls 14 [(0, .ref m), (1, .ref (ar 15)), (2, .long w9.1), (4, .int w9.2.1), (5, .int (nI i9)), (6, .long w25.1), (8, .long w25.2), (10, .int (nI i25))] → W p l e R s mid args below meth c H locs 0 0 Q (F0 mid 25 ls []) := by
        intro k
        induction k with
        | zero =>
          intro i25 w25 hi25 hB9 H locs ls hE hl
          have hie25 : i25 = 8 := by omega
          have hB9 : m_layChanges_b9 15 i9 w9 = (m_layChanges_j156 15 i9 w9 w25 (if w9.2.2.1 13 i9 = 0 then sL w9.2.2 31 i9 (-w25.2) else (if w9.2.2.1 14 i9 = (1 : Int32) then sL (sL w9.2.2 31 i9 (-w25.2)) 31 i9 (((sL w9.2.2 31 i9 (-w25.2)).2 31 i9) + (((((w9.2.2.1 17 i9).toInt64) * ((w9.2.2.1 15 i9).toInt64)) * (((w9.2.2.1 18 i9) - (w9.2.2.1 15 i9)).toInt64)) / ((1000 : Int64) * ((w9.2.2.1 18 i9).toInt64)))) else sL w9.2.2 31 i9 (-w25.2)))) := hB9
          refine lv_iload hx hb dX1_layChanges_25 (lv_at hl 7 rfl) ?_
          refine lv_bipush (v := 8) hx hb dX1_layChanges_27 rfl ?_
          refine n_geT (a := i25) (b := 8) (by omega) (by omega) hx hb dX1_layChanges_29 (tgt := 74) (by decide) ?_
          have hl := lv_sub (l' := [(0, .ref m), (1, .ref (ar 15)), (2, .long w9.1), (4, .int w9.2.1), (5, .int (nI i9)), (6, .long w25.1), (8, .long w25.2)]) hl [0, 1, 2, 3, 4, 5, 6] rfl
          refine lv_aload_n hx hb dX1_layChanges_74 rfl (lv_at hl 0 rfl) ?_
          refine mg_31 hx hb hts hown hK hE dX1_layChanges_75 ?_
          refine lv_iload hx hb dX1_layChanges_78 (lv_at hl 4 rfl) ?_
          refine lv_lload hx hb dX1_layChanges_80 (lv_at hl 6 rfl) ?_
          refine lv_lneg hx hb dX1_layChanges_82 ?_
          refine ms_31 (n := i9) (by omega) hx hb hK hE dX1_layChanges_83 (fun H locs hE => ?_)
          refine lv_aload_n hx hb dX1_layChanges_84 rfl (lv_at hl 0 rfl) ?_
          refine mg_13 hx hb hts hown hK hE dX1_layChanges_85 ?_
          refine lv_iload hx hb dX1_layChanges_88 (lv_at hl 4 rfl) ?_
          refine ma_13 (n := i9) (by omega) hx hb hK hE dX1_layChanges_90 ?_
          have hJ156 : ∀ (w156 : ZT) (hw156 : ∀ b : Nat, b < 8 → 1 ≤ (w156.1 18 b).toInt ∧ (w156.1 18 b).toInt ≤ 100000) (hB9 : m_layChanges_b9 15 i9 w9 = m_layChanges_j156 15 i9 w9 w25 w156), ∀ (H : Heap) (locs : List Loc) (ls : Array Slot), EW D A s.heap (MW m ar cs w156) H locs → lv_has ls 14 [(0, .ref m), (1, .ref (ar 15)), (2, .long w9.1), (4, .int w9.2.1), (5, .int (nI i9)), (6, .long w25.1)] → W p l e R s mid args below meth c H locs 0 0 Q (F0 mid 156 ls []) := by
            intro w156 hw156 hB9 H locs ls hE hl
            have hB9 : m_layChanges_b9 15 i9 w9 = (m_layChanges_j242 i9 w9 (if w156.1 13 i9 = 0 then (w9.1, w156) else (if (m_eats i9 w156) = 0 then (w9.1, w156) else ((w9.1 + ((w25.1 - ((w25.1 * ((w156.1 20 i9).toInt64)) / (100 : Int64))) + (((((w156.1 19 i9).toInt64) * ((w156.1 15 i9).toInt64)) + (999 : Int64)) / (1000 : Int64)))), sL w156 31 i9 ((w156.2 31 i9) + (((w25.1 * ((w156.1 20 i9).toInt64)) / (100 : Int64)) - (((((w156.1 19 i9).toInt64) * ((w156.1 15 i9).toInt64)) + (999 : Int64)) / (1000 : Int64)))))))) := hB9
            refine lv_aload_n hx hb dX1_layChanges_156 rfl (lv_at hl 0 rfl) ?_
            refine mg_13 hx hb hts hown hK hE dX1_layChanges_157 ?_
            refine lv_iload hx hb dX1_layChanges_160 (lv_at hl 4 rfl) ?_
            refine ma_13 (n := i9) (by omega) hx hb hK hE dX1_layChanges_162 ?_
            have hJ242 : ∀ (w242 : Int64 × ZT) (hw242 : ∀ b : Nat, b < 8 → 1 ≤ (w242.2.1 18 b).toInt ∧ (w242.2.1 18 b).toInt ≤ 100000) (hB9 : m_layChanges_b9 15 i9 w9 = m_layChanges_j242 i9 w9 w242), ∀ (H : Heap) (locs : List Loc) (ls : Array Slot), EW D A s.heap (MW m ar cs w242.2) H locs → lv_has ls 14 [(0, .ref m), (1, .ref (ar 15)), (2, .long w242.1), (4, .int w9.2.1), (5, .int (nI i9))] → W p l e R s mid args below meth c H locs 0 0 Q (F0 mid 242 ls []) := by
              intro w242 hw242 hB9 H locs ls hE hl
              have hB9 : m_layChanges_b9 15 i9 w9 = (m_layChanges_j276 w242 (if w9.2.1 = (-9 : Int32) then (if w242.2.1 13 i9 = 0 then w9.2.1 else (if w242.2.1 14 i9 = 0 then nI i9 else w9.2.1)) else w9.2.1)) := hB9
              refine lv_iload hx hb dX1_layChanges_242 (lv_at hl 3 rfl) ?_
              refine lv_bipush (v := -9) hx hb dX1_layChanges_244 rfl ?_
              have hJ276 : ∀ (w276 : Int32) (hw276 : w276 = -9 ∨ vp_in w276 8) (hB9 : m_layChanges_b9 15 i9 w9 = m_layChanges_j276 w242 w276), ∀ (H : Heap) (locs : List Loc) (ls : Array Slot), EW D A s.heap (MW m ar cs w242.2) H locs → lv_has ls 14 [(0, .ref m), (1, .ref (ar 15)), (2, .long w242.1), (5, .int (nI i9))] → W p l e R s mid args below meth c H locs 0 0 Q (F0 mid 276 ls [.int w276]) := by
                intro w276 hw276 hB9 H locs ls hE hl
                have hB9 : m_layChanges_b9 15 i9 w9 = (w242.1, w276, w242.2) := hB9
                refine lv_istore (lv' := [(4, .int w276), (0, .ref m), (1, .ref (ar 15)), (2, .long w242.1), (5, .int (nI i9))]) hx hb dX1_layChanges_276 hl (by decide) rfl (fun ls hl => ?_)
                refine n_inc (lv' := [(5, .int (nI (i9 + 1))), (4, .int w276), (0, .ref m), (1, .ref (ar 15)), (2, .long w242.1)]) hx hb dX1_layChanges_278 hl (k := 4) rfl (by decide) rfl (fun ls hl => ?_)
                refine lv_goto (tgt := 9) hx hb dX1_layChanges_281 (by decide) ?_
                exact ih9 (i9 + 1) (w242.1, w276, w242.2) (by omega) (by exact hw242) (by exact hw276) (hR.trans (congrArg (fun z => m_layChanges_e9 (itR (m_layChanges_b9 15) (i9 + 1) k z)) hB9)) _ _ _ hE (lv_sub hl [2, 3, 4, 1, 0] rfl)
              refine lv_icmp_ne (tgt := 274) hx hb dX1_layChanges_246 (by decide) (fun c246 => ?_) (fun c246 => ?_)
              · have hB9 : m_layChanges_b9 15 i9 w9 = m_layChanges_j276 w242 w9.2.1 := hB9.trans (congrArg (fun z => m_layChanges_j276 w242 z) (if_neg c246))
                refine lv_iload hx hb dX1_layChanges_274 (lv_at hl 3 rfl) ?_
                exact hJ276 w9.2.1  (by first | exact hj9 | exact Or.inr (vp_in_nI hlt9 (by decide))) hB9 _ _ _ hE (lv_sub hl [0, 1, 2, 4] rfl)
              · have hB9 : m_layChanges_b9 15 i9 w9 = m_layChanges_j276 w242 (if w242.2.1 13 i9 = 0 then w9.2.1 else (if w242.2.1 14 i9 = 0 then nI i9 else w9.2.1)) := hB9.trans (congrArg (fun z => m_layChanges_j276 w242 z) (if_pos c246))
                refine lv_aload_n hx hb dX1_layChanges_249 rfl (lv_at hl 0 rfl) ?_
                refine mg_13 hx hb hts hown hK hE dX1_layChanges_250 ?_
                refine lv_iload hx hb dX1_layChanges_253 (lv_at hl 4 rfl) ?_
                refine ma_13 (n := i9) (by omega) hx hb hK hE dX1_layChanges_255 ?_
                refine lv_if_eq (tgt := 274) hx hb dX1_layChanges_256 (by decide) (fun c256 => ?_) (fun c256 => ?_)
                · have hB9 : m_layChanges_b9 15 i9 w9 = m_layChanges_j276 w242 w9.2.1 := hB9.trans (congrArg (fun z => m_layChanges_j276 w242 z) (if_pos c256))
                  refine lv_iload hx hb dX1_layChanges_274 (lv_at hl 3 rfl) ?_
                  exact hJ276 w9.2.1  (by first | exact hj9 | exact Or.inr (vp_in_nI hlt9 (by decide))) hB9 _ _ _ hE (lv_sub hl [0, 1, 2, 4] rfl)
                · have hB9 : m_layChanges_b9 15 i9 w9 = m_layChanges_j276 w242 (if w242.2.1 14 i9 = 0 then nI i9 else w9.2.1) := hB9.trans (congrArg (fun z => m_layChanges_j276 w242 z) (if_neg c256))
                  refine lv_aload_n hx hb dX1_layChanges_259 rfl (lv_at hl 0 rfl) ?_
                  refine mg_14 hx hb hts hown hK hE dX1_layChanges_260 ?_
                  refine lv_iload hx hb dX1_layChanges_263 (lv_at hl 4 rfl) ?_
                  refine ma_14 (n := i9) (by omega) hx hb hK hE dX1_layChanges_265 ?_
                  refine lv_if_ne (tgt := 274) hx hb dX1_layChanges_266 (by decide) (fun c266 => ?_) (fun c266 => ?_)
                  · have hB9 : m_layChanges_b9 15 i9 w9 = m_layChanges_j276 w242 w9.2.1 := hB9.trans (congrArg (fun z => m_layChanges_j276 w242 z) (if_neg c266))
                    refine lv_iload hx hb dX1_layChanges_274 (lv_at hl 3 rfl) ?_
                    exact hJ276 w9.2.1  (by first | exact hj9 | exact Or.inr (vp_in_nI hlt9 (by decide))) hB9 _ _ _ hE (lv_sub hl [0, 1, 2, 4] rfl)
                  · have hB9 : m_layChanges_b9 15 i9 w9 = m_layChanges_j276 w242 (nI i9) := hB9.trans (congrArg (fun z => m_layChanges_j276 w242 z) (if_pos c266))
                    refine lv_iload hx hb dX1_layChanges_269 (lv_at hl 4 rfl) ?_
                    refine lv_goto (tgt := 276) hx hb dX1_layChanges_271 (by decide) ?_
                    exact hJ276 (nI i9)  (by first | exact hj9 | exact Or.inr (vp_in_nI hlt9 (by decide))) hB9 _ _ _ hE (lv_sub hl [0, 1, 2, 4] rfl)
            refine lv_if_eq (tgt := 242) hx hb dX1_layChanges_163 (by decide) (fun c163 => ?_) (fun c163 => ?_)
            · have hB9 : m_layChanges_b9 15 i9 w9 = m_layChanges_j242 i9 w9 (w9.1, w156) := hB9.trans (congrArg (fun z => m_layChanges_j242 i9 w9 z) (if_pos c163))
              exact hJ242 (w9.1, w156)  (by exact hw156) hB9 _ _ _ hE (lv_sub hl [0, 1, 2, 3, 4] rfl)
            · have hB9 : m_layChanges_b9 15 i9 w9 = m_layChanges_j242 i9 w9 (if (m_eats i9 w156) = 0 then (w9.1, w156) else ((w9.1 + ((w25.1 - ((w25.1 * ((w156.1 20 i9).toInt64)) / (100 : Int64))) + (((((w156.1 19 i9).toInt64) * ((w156.1 15 i9).toInt64)) + (999 : Int64)) / (1000 : Int64)))), sL w156 31 i9 ((w156.2 31 i9) + (((w25.1 * ((w156.1 20 i9).toInt64)) / (100 : Int64)) - (((((w156.1 19 i9).toInt64) * ((w156.1 15 i9).toInt64)) + (999 : Int64)) / (1000 : Int64)))))) := hB9.trans (congrArg (fun z => m_layChanges_j242 i9 w9 z) (if_neg c163))
              refine lv_aload_n hx hb dX1_layChanges_166 rfl (lv_at hl 0 rfl) ?_
              refine lv_iload hx hb dX1_layChanges_167 (lv_at hl 4 rfl) ?_
              refine call_m_eats hx hb hml hown hts hK hA hE hl.1 i9 (by omega) (lz (show 1 ≤ 1 by decide) hRf) (lz (show 21 ≤ 21 by decide) hRl) (Nat.le_of_ble_eq_true rfl) dX1_layChanges_169 (fun H locs hE => ?_)
              refine lv_if_eq (tgt := 242) hx hb dX1_layChanges_172 (by decide) (fun c172 => ?_) (fun c172 => ?_)
              · have hB9 : m_layChanges_b9 15 i9 w9 = m_layChanges_j242 i9 w9 (w9.1, w156) := hB9.trans (congrArg (fun z => m_layChanges_j242 i9 w9 z) (if_pos c172))
                exact hJ242 (w9.1, w156)  (by exact hw156) hB9 _ _ _ hE (lv_sub hl [0, 1, 2, 3, 4] rfl)
              · have hB9 : m_layChanges_b9 15 i9 w9 = m_layChanges_j242 i9 w9 ((w9.1 + ((w25.1 - ((w25.1 * ((w156.1 20 i9).toInt64)) / (100 : Int64))) + (((((w156.1 19 i9).toInt64) * ((w156.1 15 i9).toInt64)) + (999 : Int64)) / (1000 : Int64)))), sL w156 31 i9 ((w156.2 31 i9) + (((w25.1 * ((w156.1 20 i9).toInt64)) / (100 : Int64)) - (((((w156.1 19 i9).toInt64) * ((w156.1 15 i9).toInt64)) + (999 : Int64)) / (1000 : Int64))))) := hB9.trans (congrArg (fun z => m_layChanges_j242 i9 w9 z) (if_neg c172))
                refine lv_lload hx hb dX1_layChanges_175 (lv_at hl 5 rfl) ?_
                refine lv_aload_n hx hb dX1_layChanges_177 rfl (lv_at hl 0 rfl) ?_
                refine mg_20 hx hb hts hown hK hE dX1_layChanges_178 ?_
                refine lv_iload hx hb dX1_layChanges_181 (lv_at hl 4 rfl) ?_
                refine ma_20 (n := i9) (by omega) hx hb hK hE dX1_layChanges_183 ?_
                refine lv_i2l hx hb dX1_layChanges_184 rfl ?_
                refine lv_lmul hx hb dX1_layChanges_185 ?_
                refine lv_ldc2 (v := 100) hx hb hown (hts _ q1270) dX1_layChanges_186 ?_
                refine lv_ldiv hx hb dX1_layChanges_189 (by decide) ?_
                refine lv_lstore (lv' := [(10, .long ((w25.1 * ((w156.1 20 i9).toInt64)) / (100 : Int64))), (0, .ref m), (1, .ref (ar 15)), (2, .long w9.1), (4, .int w9.2.1), (5, .int (nI i9)), (6, .long w25.1)]) hx hb dX1_layChanges_190 hl (by decide) rfl (fun ls hl => ?_)
                refine lv_aload_n hx hb dX1_layChanges_192 rfl (lv_at hl 1 rfl) ?_
                refine mg_19 hx hb hts hown hK hE dX1_layChanges_193 ?_
                refine lv_iload hx hb dX1_layChanges_196 (lv_at hl 5 rfl) ?_
                refine ma_19 (n := i9) (by omega) hx hb hK hE dX1_layChanges_198 ?_
                refine lv_i2l hx hb dX1_layChanges_199 rfl ?_
                refine lv_aload_n hx hb dX1_layChanges_200 rfl (lv_at hl 2 rfl) ?_
                refine lv_iload hx hb dX1_layChanges_201 (lv_at hl 5 rfl) ?_
                refine ma_15 (n := i9) (by omega) hx hb hK hE dX1_layChanges_203 ?_
                refine lv_i2l hx hb dX1_layChanges_204 rfl ?_
                refine lv_lmul hx hb dX1_layChanges_205 ?_
                refine lv_ldc2 (v := 999) hx hb hown (hts _ q1271) dX1_layChanges_206 ?_
                refine lv_ladd hx hb dX1_layChanges_209 ?_
                refine lv_ldc2 (v := 1000) hx hb hown (hts _ q1269) dX1_layChanges_210 ?_
                refine lv_ldiv hx hb dX1_layChanges_213 (by decide) ?_
                refine lv_lstore (lv' := [(12, .long (((((w156.1 19 i9).toInt64) * ((w156.1 15 i9).toInt64)) + (999 : Int64)) / (1000 : Int64))), (10, .long ((w25.1 * ((w156.1 20 i9).toInt64)) / (100 : Int64))), (0, .ref m), (1, .ref (ar 15)), (2, .long w9.1), (4, .int w9.2.1), (5, .int (nI i9)), (6, .long w25.1)]) hx hb dX1_layChanges_214 hl (by decide) rfl (fun ls hl => ?_)
                refine lv_aload_n hx hb dX1_layChanges_216 rfl (lv_at hl 2 rfl) ?_
                refine mg_31 hx hb hts hown hK hE dX1_layChanges_217 ?_
                refine lv_iload hx hb dX1_layChanges_220 (lv_at hl 6 rfl) ?_
                refine lv_dup2_11 hx hb dX1_layChanges_222 rfl rfl ?_
                refine ma_31 (n := i9) (by omega) hx hb hK hE dX1_layChanges_223 ?_
                refine lv_lload hx hb dX1_layChanges_224 (lv_at hl 1 rfl) ?_
                refine lv_lload hx hb dX1_layChanges_226 (lv_at hl 0 rfl) ?_
                refine lv_lsub hx hb dX1_layChanges_228 ?_
                refine lv_ladd hx hb dX1_layChanges_229 ?_
                refine ms_31 (n := i9) (by omega) hx hb hK hE dX1_layChanges_230 (fun H locs hE => ?_)
                refine lv_lload_n hx hb dX1_layChanges_231 rfl (lv_at hl 4 rfl) ?_
                refine lv_lload hx hb dX1_layChanges_232 (lv_at hl 7 rfl) ?_
                refine lv_lload hx hb dX1_layChanges_234 (lv_at hl 1 rfl) ?_
                refine lv_lsub hx hb dX1_layChanges_236 ?_
                refine lv_lload hx hb dX1_layChanges_237 (lv_at hl 0 rfl) ?_
                refine lv_ladd hx hb dX1_layChanges_239 ?_
                refine lv_ladd hx hb dX1_layChanges_240 ?_
                refine lv_lstore_n (lv' := [(2, .long (w9.1 + ((w25.1 - ((w25.1 * ((w156.1 20 i9).toInt64)) / (100 : Int64))) + (((((w156.1 19 i9).toInt64) * ((w156.1 15 i9).toInt64)) + (999 : Int64)) / (1000 : Int64))))), (12, .long (((((w156.1 19 i9).toInt64) * ((w156.1 15 i9).toInt64)) + (999 : Int64)) / (1000 : Int64))), (10, .long ((w25.1 * ((w156.1 20 i9).toInt64)) / (100 : Int64))), (0, .ref m), (1, .ref (ar 15)), (4, .int w9.2.1), (5, .int (nI i9)), (6, .long w25.1)]) hx hb dX1_layChanges_241 rfl hl (by decide) rfl (fun ls hl => ?_)
                exact hJ242 ((w9.1 + ((w25.1 - ((w25.1 * ((w156.1 20 i9).toInt64)) / (100 : Int64))) + (((((w156.1 19 i9).toInt64) * ((w156.1 15 i9).toInt64)) + (999 : Int64)) / (1000 : Int64)))), sL w156 31 i9 ((w156.2 31 i9) + (((w25.1 * ((w156.1 20 i9).toInt64)) / (100 : Int64)) - (((((w156.1 19 i9).toInt64) * ((w156.1 15 i9).toInt64)) + (999 : Int64)) / (1000 : Int64)))))  (by exact hw156) hB9 _ _ _ hE (lv_sub hl [3, 4, 0, 5, 6] rfl)
          refine lv_if_eq (tgt := 156) hx hb dX1_layChanges_91 (by decide) (fun c91 => ?_) (fun c91 => ?_)
          · have hB9 : m_layChanges_b9 15 i9 w9 = m_layChanges_j156 15 i9 w9 w25 (sL w9.2.2 31 i9 (-w25.2)) := hB9.trans (congrArg (fun z => m_layChanges_j156 15 i9 w9 w25 z) (if_pos c91))
            exact hJ156 (sL w9.2.2 31 i9 (-w25.2))  (by exact hc9) hB9 _ _ _ hE (lv_sub hl [0, 1, 2, 3, 4, 5] rfl)
          · have hB9 : m_layChanges_b9 15 i9 w9 = m_layChanges_j156 15 i9 w9 w25 (if w9.2.2.1 14 i9 = (1 : Int32) then sL (sL w9.2.2 31 i9 (-w25.2)) 31 i9 (((sL w9.2.2 31 i9 (-w25.2)).2 31 i9) + (((((w9.2.2.1 17 i9).toInt64) * ((w9.2.2.1 15 i9).toInt64)) * (((w9.2.2.1 18 i9) - (w9.2.2.1 15 i9)).toInt64)) / ((1000 : Int64) * ((w9.2.2.1 18 i9).toInt64)))) else sL w9.2.2 31 i9 (-w25.2)) := hB9.trans (congrArg (fun z => m_layChanges_j156 15 i9 w9 w25 z) (if_neg c91))
            refine lv_aload_n hx hb dX1_layChanges_94 rfl (lv_at hl 0 rfl) ?_
            refine mg_14 hx hb hts hown hK hE dX1_layChanges_95 ?_
            refine lv_iload hx hb dX1_layChanges_98 (lv_at hl 4 rfl) ?_
            refine ma_14 (n := i9) (by omega) hx hb hK hE dX1_layChanges_100 ?_
            refine lv_iconst (v := 1) hx hb dX1_layChanges_101 rfl ?_
            refine lv_icmp_ne (tgt := 156) hx hb dX1_layChanges_102 (by decide) (fun c102 => ?_) (fun c102 => ?_)
            · have hB9 : m_layChanges_b9 15 i9 w9 = m_layChanges_j156 15 i9 w9 w25 (sL w9.2.2 31 i9 (-w25.2)) := hB9.trans (congrArg (fun z => m_layChanges_j156 15 i9 w9 w25 z) (if_neg c102))
              exact hJ156 (sL w9.2.2 31 i9 (-w25.2))  (by exact hc9) hB9 _ _ _ hE (lv_sub hl [0, 1, 2, 3, 4, 5] rfl)
            · have hB9 : m_layChanges_b9 15 i9 w9 = m_layChanges_j156 15 i9 w9 w25 (sL (sL w9.2.2 31 i9 (-w25.2)) 31 i9 (((sL w9.2.2 31 i9 (-w25.2)).2 31 i9) + (((((w9.2.2.1 17 i9).toInt64) * ((w9.2.2.1 15 i9).toInt64)) * (((w9.2.2.1 18 i9) - (w9.2.2.1 15 i9)).toInt64)) / ((1000 : Int64) * ((w9.2.2.1 18 i9).toInt64))))) := hB9.trans (congrArg (fun z => m_layChanges_j156 15 i9 w9 w25 z) (if_pos c102))
              refine lv_aload_n hx hb dX1_layChanges_105 rfl (lv_at hl 0 rfl) ?_
              refine mg_31 hx hb hts hown hK hE dX1_layChanges_106 ?_
              refine lv_iload hx hb dX1_layChanges_109 (lv_at hl 4 rfl) ?_
              refine lv_dup2_11 hx hb dX1_layChanges_111 rfl rfl ?_
              refine ma_31 (n := i9) (by omega) hx hb hK hE dX1_layChanges_112 ?_
              refine lv_aload_n hx hb dX1_layChanges_113 rfl (lv_at hl 0 rfl) ?_
              refine mg_17 hx hb hts hown hK hE dX1_layChanges_114 ?_
              refine lv_iload hx hb dX1_layChanges_117 (lv_at hl 4 rfl) ?_
              refine ma_17 (n := i9) (by omega) hx hb hK hE dX1_layChanges_119 ?_
              refine lv_i2l hx hb dX1_layChanges_120 rfl ?_
              refine lv_aload_n hx hb dX1_layChanges_121 rfl (lv_at hl 1 rfl) ?_
              refine lv_iload hx hb dX1_layChanges_122 (lv_at hl 4 rfl) ?_
              refine ma_15 (n := i9) (by omega) hx hb hK hE dX1_layChanges_124 ?_
              refine lv_i2l hx hb dX1_layChanges_125 rfl ?_
              refine lv_lmul hx hb dX1_layChanges_126 ?_
              refine lv_aload_n hx hb dX1_layChanges_127 rfl (lv_at hl 0 rfl) ?_
              refine mg_18 hx hb hts hown hK hE dX1_layChanges_128 ?_
              refine lv_iload hx hb dX1_layChanges_131 (lv_at hl 4 rfl) ?_
              refine ma_18 (n := i9) (by omega) hx hb hK hE dX1_layChanges_133 ?_
              refine lv_aload_n hx hb dX1_layChanges_134 rfl (lv_at hl 1 rfl) ?_
              refine lv_iload hx hb dX1_layChanges_135 (lv_at hl 4 rfl) ?_
              refine ma_15 (n := i9) (by omega) hx hb hK hE dX1_layChanges_137 ?_
              refine lv_isub hx hb dX1_layChanges_138 ?_
              refine lv_i2l hx hb dX1_layChanges_139 rfl ?_
              refine lv_lmul hx hb dX1_layChanges_140 ?_
              refine lv_ldc2 (v := 1000) hx hb hown (hts _ q1269) dX1_layChanges_141 ?_
              refine lv_aload_n hx hb dX1_layChanges_144 rfl (lv_at hl 0 rfl) ?_
              refine mg_18 hx hb hts hown hK hE dX1_layChanges_145 ?_
              refine lv_iload hx hb dX1_layChanges_148 (lv_at hl 4 rfl) ?_
              refine ma_18 (n := i9) (by omega) hx hb hK hE dX1_layChanges_150 ?_
              refine lv_i2l hx hb dX1_layChanges_151 rfl ?_
              refine lv_lmul hx hb dX1_layChanges_152 ?_
              refine lv_ldiv hx hb dX1_layChanges_153 (capnz (hc9 _ hlt9)) ?_
              refine lv_ladd hx hb dX1_layChanges_154 ?_
              refine ms_31 (n := i9) (by omega) hx hb hK hE dX1_layChanges_155 (fun H locs hE => ?_)
              exact hJ156 (sL (sL w9.2.2 31 i9 (-w25.2)) 31 i9 (((sL w9.2.2 31 i9 (-w25.2)).2 31 i9) + (((((w9.2.2.1 17 i9).toInt64) * ((w9.2.2.1 15 i9).toInt64)) * (((w9.2.2.1 18 i9) - (w9.2.2.1 15 i9)).toInt64)) / ((1000 : Int64) * ((w9.2.2.1 18 i9).toInt64)))))  (by exact hc9) hB9 _ _ _ hE (lv_sub hl [0, 1, 2, 3, 4, 5] rfl)
        | succ k ih25 =>
          intro i25 w25 hi25 hB9 H locs ls hE hl
          have hlt25 : i25 < 8 := by omega
          have hB25 : m_layChanges_b25 i9 w9 i25 w25 = ((w25.1 + (w9.2.2.2 30 ((8 * i9) + i25))), (w25.2 + (w9.2.2.2 30 ((8 * i25) + i9)))) := rfl
          refine lv_iload hx hb dX1_layChanges_25 (lv_at hl 7 rfl) ?_
          refine lv_bipush (v := 8) hx hb dX1_layChanges_27 rfl ?_
          refine n_geF (a := i25) (b := 8) (by omega) (by omega) hx hb dX1_layChanges_29 (tgt := 74) (by decide) ?_
          refine lv_lload hx hb dX1_layChanges_32 (lv_at hl 5 rfl) ?_
          refine lv_aload_n hx hb dX1_layChanges_34 rfl (lv_at hl 0 rfl) ?_
          refine mg_30 hx hb hts hown hK hE dX1_layChanges_35 ?_
          refine lv_bipush (v := 8) hx hb dX1_layChanges_38 rfl ?_
          refine lv_iload hx hb dX1_layChanges_40 (lv_at hl 4 rfl) ?_
          refine n_mul (a := 8) (b := i9) hx hb dX1_layChanges_42 ?_
          refine lv_iload hx hb dX1_layChanges_43 (lv_at hl 7 rfl) ?_
          refine n_add (a := (8 * i9)) (b := i25) hx hb dX1_layChanges_45 ?_
          refine ma_30 (n := ((8 * i9) + i25)) (by omega) hx hb hK hE dX1_layChanges_46 ?_
          refine lv_ladd hx hb dX1_layChanges_47 ?_
          refine lv_lstore (lv' := [(6, .long (w25.1 + (w9.2.2.2 30 ((8 * i9) + i25)))), (0, .ref m), (1, .ref (ar 15)), (2, .long w9.1), (4, .int w9.2.1), (5, .int (nI i9)), (8, .long w25.2), (10, .int (nI i25))]) hx hb dX1_layChanges_48 hl (by decide) rfl (fun ls hl => ?_)
          refine lv_lload hx hb dX1_layChanges_50 (lv_at hl 6 rfl) ?_
          refine lv_aload_n hx hb dX1_layChanges_52 rfl (lv_at hl 1 rfl) ?_
          refine mg_30 hx hb hts hown hK hE dX1_layChanges_53 ?_
          refine lv_bipush (v := 8) hx hb dX1_layChanges_56 rfl ?_
          refine lv_iload hx hb dX1_layChanges_58 (lv_at hl 7 rfl) ?_
          refine n_mul (a := 8) (b := i25) hx hb dX1_layChanges_60 ?_
          refine lv_iload hx hb dX1_layChanges_61 (lv_at hl 5 rfl) ?_
          refine n_add (a := (8 * i25)) (b := i9) hx hb dX1_layChanges_63 ?_
          refine ma_30 (n := ((8 * i25) + i9)) (by omega) hx hb hK hE dX1_layChanges_64 ?_
          refine lv_ladd hx hb dX1_layChanges_65 ?_
          refine lv_lstore (lv' := [(8, .long (w25.2 + (w9.2.2.2 30 ((8 * i25) + i9)))), (6, .long (w25.1 + (w9.2.2.2 30 ((8 * i9) + i25)))), (0, .ref m), (1, .ref (ar 15)), (2, .long w9.1), (4, .int w9.2.1), (5, .int (nI i9)), (10, .int (nI i25))]) hx hb dX1_layChanges_66 hl (by decide) rfl (fun ls hl => ?_)
          refine n_inc (lv' := [(10, .int (nI (i25 + 1))), (8, .long (w25.2 + (w9.2.2.2 30 ((8 * i25) + i9)))), (6, .long (w25.1 + (w9.2.2.2 30 ((8 * i9) + i25)))), (0, .ref m), (1, .ref (ar 15)), (2, .long w9.1), (4, .int w9.2.1), (5, .int (nI i9))]) hx hb dX1_layChanges_68 hl (k := 7) rfl (by decide) rfl (fun ls hl => ?_)
          refine lv_goto (tgt := 25) hx hb dX1_layChanges_71 (by decide) ?_
          exact ih25 (i25 + 1) ((w25.1 + (w9.2.2.2 30 ((8 * i9) + i25))), (w25.2 + (w9.2.2.2 30 ((8 * i25) + i9)))) (by omega) (hB9.trans (congrArg (fun z => m_layChanges_e25 15 i9 w9 (itR (m_layChanges_b25 i9 w9) (i25 + 1) k z)) hB25)) _ _ _ hE (lv_sub hl [3, 4, 5, 6, 7, 2, 1, 0] rfl)
      exact hL25 8 0 ((0 : Int64), (0 : Int64)) (by omega) hB9 _ _ _ hE (lv_sub hl [3, 4, 5, 6, 7, 2, 1, 0] rfl)
  exact hL9 8 0 ((0 : Int64), (-9 : Int32), Z) (by omega) (by exact hcap) (by exact Or.inl rfl) hR _ _ _ hE (lv_sub hl [3, 4, 2, 1, 0] rfl)
section C_layChanges
variable {p : Program} {l : Launch} {e : Env} {R : Room} {s : State} {mid : MethodId} {args : Array Value} {below : List Frame} {meth : Method} {c : Code} {H : Heap} {locs : List Loc} {Q : State → Prop} {cc : ByteArray} {pc : Nat} {ls : Array Slot} {rest : List Value} {D : va_G} {A : Nat → Prop} {m : Nat} {ar : Nat → Nat} {cs : Nat → ClassId} {Z : ZT} {nL : Nat}
theorem call_m_layChanges_15 (hx : p.tables.exec = Jvm.exec) (hb : c.code = cc) (hml : c.maxLocals = nL) (hown : s.vm.findClass RX1 = some mid.cls) (hts : ∀ w ∈ lw_all, w.before args s = true) (hK : KK D cs s) (hA : ∀ q : Nat, s.heap.size ≤ q → A q) (hE : EW D A s.heap (MW m ar cs Z) H locs) (hls : ls.size = nL) (hcap : ∀ b : Nat, b < 8 → 1 ≤ (Z.1 18 b).toInt ∧ (Z.1 18 b).toInt ≤ 100000) (h1 : 2 ≤ R.frames) (h2 : 54 ≤ R.locals) (h3 : (rest.map fun v => v.category).sum ≤ 8) (hd : decode cc pc = .ok (.invokevirtual 223, 3)) (kk : ∀ (H1 : Heap) (locs1 : List Loc), EW D A s.heap (MW m ar cs (m_layChanges 15 Z)) H1 locs1 → W p l e R s mid args below meth c H1 locs1 0 0 Q (F0 mid (pc + 3) ls (rest))) : W p l e R s mid args below meth c H locs 0 0 Q (F0 mid pc ls (.ref (ar 15) :: .ref m :: rest)) :=
  gCall_v (As := [.ref (ar 15)]) (rest := rest) (q0 := 0) (ci := 1) (fs := MF ar Z) (T' := TX1) (N' := 52) hx hb hml hown hts hK hA hE hls (met_m_layChanges_15 l D cs m ar Z H.size hcap) (cwV 1 hts (lw_V q1265 q1267 qs62 q85 q1268) rfl rfl rfl (by decide +kernel) ⟨h1, h2⟩) rfl rfl rfl rfl h3 hd ⟨Nat.zero_le _, Nat.zero_le _⟩ (fun u H1 locs1 hp _ hE => by subst hp; exact kk H1 locs1 hE)
end C_layChanges
set_option maxHeartbeats 4000000 in
set_option maxRecDepth 100000 in
theorem met_m_layChanges_34 (l : Launch) (D : va_G) (cs : Nat → ClassId) (m : Nat) (ar : Nat → Nat) (Z : ZT) (sz : Nat) (hcap : ∀ b : Nat, b < 8 → 1 ≤ (Z.1 18 b).toInt ∧ (Z.1 18 b).toInt ≤ 100000) : Met l yX1_layChanges (ws_ yX1_layChanges cX1_layChanges 14 none) ({ frames := 1, cells := 0, slots := 0, locals := 21 }) (va_Pc [.ref m, .ref (ar 34)] (wSt D cs (MW m ar cs Z) sz)) (cQv (fun (u : ZT) => m_layChanges 34 Z = u) D (fun u => MW m ar cs u) (MW m ar cs Z) sz) 0 0 (va_A (MW m ar cs Z) sz) := by
  refine gStart_v (C := RX1) rfl rfl (Nat.le_of_ble_eq_true rfl) ?_
  intro p e s mid args below meth c R Q A hx hb hml hown hts hK hA hRf hRl hRc hRs hnm hret hE ls hl
  have hRf : 1 ≤ R.frames := hRf
  have hRl : 21 ≤ R.locals := hRl
  have hl : lv_has ls 14 [(0, .ref m), (1, .ref (ar 34))] := hl
  have hR : m_layChanges 34 Z = (m_layChanges_e9 (itR (m_layChanges_b9 34) 0 8 ((0 : Int64), (-9 : Int32), Z))) := rfl
  refine lv_lconst (v := 0) hx hb dX1_layChanges_0 rfl ?_
  refine lv_lstore_n (lv' := [(2, .long (0 : Int64)), (0, .ref m), (1, .ref (ar 34))]) hx hb dX1_layChanges_1 rfl hl (by decide) rfl (fun ls hl => ?_)
  refine lv_bipush (v := -9) hx hb dX1_layChanges_2 rfl ?_
  refine lv_istore (lv' := [(4, .int (-9 : Int32)), (2, .long (0 : Int64)), (0, .ref m), (1, .ref (ar 34))]) hx hb dX1_layChanges_4 hl (by decide) rfl (fun ls hl => ?_)
  refine lv_iconst (v := 0) hx hb dX1_layChanges_6 rfl ?_
  refine lv_istore (lv' := [(5, .int (0 : Int32)), (4, .int (-9 : Int32)), (2, .long (0 : Int64)), (0, .ref m), (1, .ref (ar 34))]) hx hb dX1_layChanges_7 hl (by decide) rfl (fun ls hl => ?_)
  have hL9 : ∀ (k i9 : Nat) (w9 : Int64 × Int32 × ZT) (hi9 : i9 + k = 8) (hc9 : ∀ b : Nat, b < 8 → 1 ≤ (w9.2.2.1 18 b).toInt ∧ (w9.2.2.1 18 b).toInt ≤ 100000) (hj9 : w9.2.1 = -9 ∨ vp_in w9.2.1 8) (hR : m_layChanges 34 Z = m_layChanges_e9 (itR (m_layChanges_b9 34) i9 k w9)), ∀ (H : Heap) (locs : List Loc) (ls : Array Slot), EW D A s.heap (MW m ar cs w9.2.2) H locs → lv_has ls 14 [(0, .ref m), (1, .ref (ar 34)), (2, .long w9.1), (4, .int w9.2.1), (5, .int (nI i9))] → W p l e R s mid args below meth c H locs 0 0 Q (F0 mid 9 ls []) := by
    intro k
    induction k with
    | zero =>
      intro i9 w9 hi9 hc9 hj9 hR H locs ls hE hl
      have hie9 : i9 = 8 := by omega
      have hR : m_layChanges 34 Z = (if w9.2.1 = (-9 : Int32) then w9.2.2 else sL w9.2.2 31 (ix w9.2.1) ((w9.2.2.2 31 (ix w9.2.1)) + w9.1)) := hR
      refine lv_iload hx hb dX1_layChanges_9 (lv_at hl 4 rfl) ?_
      refine lv_bipush (v := 8) hx hb dX1_layChanges_11 rfl ?_
      refine n_geT (a := i9) (b := 8) (by omega) (by omega) hx hb dX1_layChanges_13 (tgt := 284) (by decide) ?_
      have hl := lv_sub (l' := [(0, .ref m), (1, .ref (ar 34)), (2, .long w9.1), (4, .int w9.2.1)]) hl [0, 1, 2, 3] rfl
      refine lv_iload hx hb dX1_layChanges_284 (lv_at hl 3 rfl) ?_
      refine lv_bipush (v := -9) hx hb dX1_layChanges_286 rfl ?_
      refine lv_icmp_eq (tgt := 302) hx hb dX1_layChanges_288 (by decide) (fun c288 => ?_) (fun c288 => ?_)
      · have hR : m_layChanges 34 Z = w9.2.2 := hR.trans (congrArg (fun z => z) (if_pos c288))
        exact hret w9.2.2 hR hE (Nat.le_refl 0) (Nat.le_refl 0) dX1_layChanges_302
      · have hR : m_layChanges 34 Z = (sL w9.2.2 31 (ix w9.2.1) ((w9.2.2.2 31 (ix w9.2.1)) + w9.1)) := hR.trans (congrArg (fun z => z) (if_neg c288))
        refine lv_aload_n hx hb dX1_layChanges_291 rfl (lv_at hl 0 rfl) ?_
        refine mg_31 hx hb hts hown hK hE dX1_layChanges_292 ?_
        refine lv_iload hx hb dX1_layChanges_295 (lv_at hl 3 rfl) ?_
        refine lv_dup2_11 hx hb dX1_layChanges_297 rfl rfl ?_
        refine mr_31 (i := w9.2.1) (Or.resolve_left hj9 c288) hx hb hK hE dX1_layChanges_298 ?_
        refine lv_lload_n hx hb dX1_layChanges_299 rfl (lv_at hl 2 rfl) ?_
        refine lv_ladd hx hb dX1_layChanges_300 ?_
        refine mq_31 (i := w9.2.1) (Or.resolve_left hj9 c288) hx hb hK hE dX1_layChanges_301 (fun H locs hE => ?_)
        exact hret (sL w9.2.2 31 (ix w9.2.1) ((w9.2.2.2 31 (ix w9.2.1)) + w9.1)) hR hE (Nat.le_refl 0) (Nat.le_refl 0) dX1_layChanges_302
    | succ k ih9 =>
      intro i9 w9 hi9 hc9 hj9 hR H locs ls hE hl
      have hlt9 : i9 < 8 := by omega
      have hB9 : m_layChanges_b9 34 i9 w9 = m_layChanges_e25 34 i9 w9 (itR (m_layChanges_b25 i9 w9) 0 8 ((0 : Int64), (0 : Int64))) := rfl
      refine lv_iload hx hb dX1_layChanges_9 (lv_at hl 4 rfl) ?_
      refine lv_bipush (v := 8) hx hb dX1_layChanges_11 rfl ?_
      refine n_geF (a := i9) (b := 8) (by omega) (by omega) hx hb dX1_layChanges_13 (tgt := 284) (by decide) ?_
      refine lv_lconst (v := 0) hx hb dX1_layChanges_16 rfl ?_
      refine lv_lstore (lv' := [(6, .long (0 : Int64)), (0, .ref m), (1, .ref (ar 34)), (2, .long w9.1), (4, .int w9.2.1), (5, .int (nI i9))]) hx hb dX1_layChanges_17 hl (by decide) rfl (fun ls hl => ?_)
      refine lv_lconst (v := 0) hx hb dX1_layChanges_19 rfl ?_
      refine lv_lstore (lv' := [(8, .long (0 : Int64)), (6, .long (0 : Int64)), (0, .ref m), (1, .ref (ar 34)), (2, .long w9.1), (4, .int w9.2.1), (5, .int (nI i9))]) hx hb dX1_layChanges_20 hl (by decide) rfl (fun ls hl => ?_)
      refine lv_iconst (v := 0) hx hb dX1_layChanges_22 rfl ?_
      refine lv_istore (lv' := [(10, .int (0 : Int32)), (8, .long (0 : Int64)), (6, .long (0 : Int64)), (0, .ref m), (1, .ref (ar 34)), (2, .long w9.1), (4, .int w9.2.1), (5, .int (nI i9))]) hx hb dX1_layChanges_23 hl (by decide) rfl (fun ls hl => ?_)
      have hL25 : ∀ (k i25 : Nat) (w25 : Int64 × Int64) (hi25 : i25 + k = 8) (hB9 : m_layChanges_b9 34 i9 w9 = m_layChanges_e25 34 i9 w9 (itR (m_layChanges_b25 i9 w9) i25 k w25)), ∀ (H : Heap) (locs : List Loc) (ls : Array Slot), EW D A s.heap (MW m ar cs w9.2.2) H locs → lv_has ls 14 [(0, .ref m), (1, .ref (ar 34)), (2, .long w9.1), (4, .int w9.2.1), (5, .int (nI i9)), (6, .long w25.1), (8, .long w25.2), (10, .int (nI i25))] → W p l e R s mid args below meth c H locs 0 0 Q (F0 mid 25 ls []) := by
        intro k
        induction k with
        | zero =>
          intro i25 w25 hi25 hB9 H locs ls hE hl
          have hie25 : i25 = 8 := by omega
          have hB9 : m_layChanges_b9 34 i9 w9 = (m_layChanges_j156 34 i9 w9 w25 (if w9.2.2.1 13 i9 = 0 then sL w9.2.2 31 i9 (-w25.2) else (if w9.2.2.1 14 i9 = (1 : Int32) then sL (sL w9.2.2 31 i9 (-w25.2)) 31 i9 (((sL w9.2.2 31 i9 (-w25.2)).2 31 i9) + (((((w9.2.2.1 17 i9).toInt64) * ((w9.2.2.1 34 i9).toInt64)) * (((w9.2.2.1 18 i9) - (w9.2.2.1 34 i9)).toInt64)) / ((1000 : Int64) * ((w9.2.2.1 18 i9).toInt64)))) else sL w9.2.2 31 i9 (-w25.2)))) := hB9
          refine lv_iload hx hb dX1_layChanges_25 (lv_at hl 7 rfl) ?_
          refine lv_bipush (v := 8) hx hb dX1_layChanges_27 rfl ?_
          refine n_geT (a := i25) (b := 8) (by omega) (by omega) hx hb dX1_layChanges_29 (tgt := 74) (by decide) ?_
          have hl := lv_sub (l' := [(0, .ref m), (1, .ref (ar 34)), (2, .long w9.1), (4, .int w9.2.1), (5, .int (nI i9)), (6, .long w25.1), (8, .long w25.2)]) hl [0, 1, 2, 3, 4, 5, 6] rfl
          refine lv_aload_n hx hb dX1_layChanges_74 rfl (lv_at hl 0 rfl) ?_
          refine mg_31 hx hb hts hown hK hE dX1_layChanges_75 ?_
          refine lv_iload hx hb dX1_layChanges_78 (lv_at hl 4 rfl) ?_
          refine lv_lload hx hb dX1_layChanges_80 (lv_at hl 6 rfl) ?_
          refine lv_lneg hx hb dX1_layChanges_82 ?_
          refine ms_31 (n := i9) (by omega) hx hb hK hE dX1_layChanges_83 (fun H locs hE => ?_)
          refine lv_aload_n hx hb dX1_layChanges_84 rfl (lv_at hl 0 rfl) ?_
          refine mg_13 hx hb hts hown hK hE dX1_layChanges_85 ?_
          refine lv_iload hx hb dX1_layChanges_88 (lv_at hl 4 rfl) ?_
          refine ma_13 (n := i9) (by omega) hx hb hK hE dX1_layChanges_90 ?_
          have hJ156 : ∀ (w156 : ZT) (hw156 : ∀ b : Nat, b < 8 → 1 ≤ (w156.1 18 b).toInt ∧ (w156.1 18 b).toInt ≤ 100000) (hB9 : m_layChanges_b9 34 i9 w9 = m_layChanges_j156 34 i9 w9 w25 w156), ∀ (H : Heap) (locs : List Loc) (ls : Array Slot), EW D A s.heap (MW m ar cs w156) H locs → lv_has ls 14 [(0, .ref m), (1, .ref (ar 34)), (2, .long w9.1), (4, .int w9.2.1), (5, .int (nI i9)), (6, .long w25.1)] → W p l e R s mid args below meth c H locs 0 0 Q (F0 mid 156 ls []) := by
            intro w156 hw156 hB9 H locs ls hE hl
            have hB9 : m_layChanges_b9 34 i9 w9 = (m_layChanges_j242 i9 w9 (if w156.1 13 i9 = 0 then (w9.1, w156) else (if (m_eats i9 w156) = 0 then (w9.1, w156) else ((w9.1 + ((w25.1 - ((w25.1 * ((w156.1 20 i9).toInt64)) / (100 : Int64))) + (((((w156.1 19 i9).toInt64) * ((w156.1 34 i9).toInt64)) + (999 : Int64)) / (1000 : Int64)))), sL w156 31 i9 ((w156.2 31 i9) + (((w25.1 * ((w156.1 20 i9).toInt64)) / (100 : Int64)) - (((((w156.1 19 i9).toInt64) * ((w156.1 34 i9).toInt64)) + (999 : Int64)) / (1000 : Int64)))))))) := hB9
            refine lv_aload_n hx hb dX1_layChanges_156 rfl (lv_at hl 0 rfl) ?_
            refine mg_13 hx hb hts hown hK hE dX1_layChanges_157 ?_
            refine lv_iload hx hb dX1_layChanges_160 (lv_at hl 4 rfl) ?_
            refine ma_13 (n := i9) (by omega) hx hb hK hE dX1_layChanges_162 ?_
            have hJ242 : ∀ (w242 : Int64 × ZT) (hw242 : ∀ b : Nat, b < 8 → 1 ≤ (w242.2.1 18 b).toInt ∧ (w242.2.1 18 b).toInt ≤ 100000) (hB9 : m_layChanges_b9 34 i9 w9 = m_layChanges_j242 i9 w9 w242), ∀ (H : Heap) (locs : List Loc) (ls : Array Slot), EW D A s.heap (MW m ar cs w242.2) H locs → lv_has ls 14 [(0, .ref m), (1, .ref (ar 34)), (2, .long w242.1), (4, .int w9.2.1), (5, .int (nI i9))] → W p l e R s mid args below meth c H locs 0 0 Q (F0 mid 242 ls []) := by
              intro w242 hw242 hB9 H locs ls hE hl
              have hB9 : m_layChanges_b9 34 i9 w9 = (m_layChanges_j276 w242 (if w9.2.1 = (-9 : Int32) then (if w242.2.1 13 i9 = 0 then w9.2.1 else (if w242.2.1 14 i9 = 0 then nI i9 else w9.2.1)) else w9.2.1)) := hB9
              refine lv_iload hx hb dX1_layChanges_242 (lv_at hl 3 rfl) ?_
              refine lv_bipush (v := -9) hx hb dX1_layChanges_244 rfl ?_
              have hJ276 : ∀ (w276 : Int32) (hw276 : w276 = -9 ∨ vp_in w276 8) (hB9 : m_layChanges_b9 34 i9 w9 = m_layChanges_j276 w242 w276), ∀ (H : Heap) (locs : List Loc) (ls : Array Slot), EW D A s.heap (MW m ar cs w242.2) H locs → lv_has ls 14 [(0, .ref m), (1, .ref (ar 34)), (2, .long w242.1), (5, .int (nI i9))] → W p l e R s mid args below meth c H locs 0 0 Q (F0 mid 276 ls [.int w276]) := by
                intro w276 hw276 hB9 H locs ls hE hl
                have hB9 : m_layChanges_b9 34 i9 w9 = (w242.1, w276, w242.2) := hB9
                refine lv_istore (lv' := [(4, .int w276), (0, .ref m), (1, .ref (ar 34)), (2, .long w242.1), (5, .int (nI i9))]) hx hb dX1_layChanges_276 hl (by decide) rfl (fun ls hl => ?_)
                refine n_inc (lv' := [(5, .int (nI (i9 + 1))), (4, .int w276), (0, .ref m), (1, .ref (ar 34)), (2, .long w242.1)]) hx hb dX1_layChanges_278 hl (k := 4) rfl (by decide) rfl (fun ls hl => ?_)
                refine lv_goto (tgt := 9) hx hb dX1_layChanges_281 (by decide) ?_
                exact ih9 (i9 + 1) (w242.1, w276, w242.2) (by omega) (by exact hw242) (by exact hw276) (hR.trans (congrArg (fun z => m_layChanges_e9 (itR (m_layChanges_b9 34) (i9 + 1) k z)) hB9)) _ _ _ hE (lv_sub hl [2, 3, 4, 1, 0] rfl)
              refine lv_icmp_ne (tgt := 274) hx hb dX1_layChanges_246 (by decide) (fun c246 => ?_) (fun c246 => ?_)
              · have hB9 : m_layChanges_b9 34 i9 w9 = m_layChanges_j276 w242 w9.2.1 := hB9.trans (congrArg (fun z => m_layChanges_j276 w242 z) (if_neg c246))
                refine lv_iload hx hb dX1_layChanges_274 (lv_at hl 3 rfl) ?_
                exact hJ276 w9.2.1  (by first | exact hj9 | exact Or.inr (vp_in_nI hlt9 (by decide))) hB9 _ _ _ hE (lv_sub hl [0, 1, 2, 4] rfl)
              · have hB9 : m_layChanges_b9 34 i9 w9 = m_layChanges_j276 w242 (if w242.2.1 13 i9 = 0 then w9.2.1 else (if w242.2.1 14 i9 = 0 then nI i9 else w9.2.1)) := hB9.trans (congrArg (fun z => m_layChanges_j276 w242 z) (if_pos c246))
                refine lv_aload_n hx hb dX1_layChanges_249 rfl (lv_at hl 0 rfl) ?_
                refine mg_13 hx hb hts hown hK hE dX1_layChanges_250 ?_
                refine lv_iload hx hb dX1_layChanges_253 (lv_at hl 4 rfl) ?_
                refine ma_13 (n := i9) (by omega) hx hb hK hE dX1_layChanges_255 ?_
                refine lv_if_eq (tgt := 274) hx hb dX1_layChanges_256 (by decide) (fun c256 => ?_) (fun c256 => ?_)
                · have hB9 : m_layChanges_b9 34 i9 w9 = m_layChanges_j276 w242 w9.2.1 := hB9.trans (congrArg (fun z => m_layChanges_j276 w242 z) (if_pos c256))
                  refine lv_iload hx hb dX1_layChanges_274 (lv_at hl 3 rfl) ?_
                  exact hJ276 w9.2.1  (by first | exact hj9 | exact Or.inr (vp_in_nI hlt9 (by decide))) hB9 _ _ _ hE (lv_sub hl [0, 1, 2, 4] rfl)
                · have hB9 : m_layChanges_b9 34 i9 w9 = m_layChanges_j276 w242 (if w242.2.1 14 i9 = 0 then nI i9 else w9.2.1) := hB9.trans (congrArg (fun z => m_layChanges_j276 w242 z) (if_neg c256))
                  refine lv_aload_n hx hb dX1_layChanges_259 rfl (lv_at hl 0 rfl) ?_
                  refine mg_14 hx hb hts hown hK hE dX1_layChanges_260 ?_
                  refine lv_iload hx hb dX1_layChanges_263 (lv_at hl 4 rfl) ?_
                  refine ma_14 (n := i9) (by omega) hx hb hK hE dX1_layChanges_265 ?_
                  refine lv_if_ne (tgt := 274) hx hb dX1_layChanges_266 (by decide) (fun c266 => ?_) (fun c266 => ?_)
                  · have hB9 : m_layChanges_b9 34 i9 w9 = m_layChanges_j276 w242 w9.2.1 := hB9.trans (congrArg (fun z => m_layChanges_j276 w242 z) (if_neg c266))
                    refine lv_iload hx hb dX1_layChanges_274 (lv_at hl 3 rfl) ?_
                    exact hJ276 w9.2.1  (by first | exact hj9 | exact Or.inr (vp_in_nI hlt9 (by decide))) hB9 _ _ _ hE (lv_sub hl [0, 1, 2, 4] rfl)
                  · have hB9 : m_layChanges_b9 34 i9 w9 = m_layChanges_j276 w242 (nI i9) := hB9.trans (congrArg (fun z => m_layChanges_j276 w242 z) (if_pos c266))
                    refine lv_iload hx hb dX1_layChanges_269 (lv_at hl 4 rfl) ?_
                    refine lv_goto (tgt := 276) hx hb dX1_layChanges_271 (by decide) ?_
                    exact hJ276 (nI i9)  (by first | exact hj9 | exact Or.inr (vp_in_nI hlt9 (by decide))) hB9 _ _ _ hE (lv_sub hl [0, 1, 2, 4] rfl)
            refine lv_if_eq (tgt := 242) hx hb dX1_layChanges_163 (by decide) (fun c163 => ?_) (fun c163 => ?_)
            · have hB9 : m_layChanges_b9 34 i9 w9 = m_layChanges_j242 i9 w9 (w9.1, w156) := hB9.trans (congrArg (fun z => m_layChanges_j242 i9 w9 z) (if_pos c163))
              exact hJ242 (w9.1, w156)  (by exact hw156) hB9 _ _ _ hE (lv_sub hl [0, 1, 2, 3, 4] rfl)
            · have hB9 : m_layChanges_b9 34 i9 w9 = m_layChanges_j242 i9 w9 (if (m_eats i9 w156) = 0 then (w9.1, w156) else ((w9.1 + ((w25.1 - ((w25.1 * ((w156.1 20 i9).toInt64)) / (100 : Int64))) + (((((w156.1 19 i9).toInt64) * ((w156.1 34 i9).toInt64)) + (999 : Int64)) / (1000 : Int64)))), sL w156 31 i9 ((w156.2 31 i9) + (((w25.1 * ((w156.1 20 i9).toInt64)) / (100 : Int64)) - (((((w156.1 19 i9).toInt64) * ((w156.1 34 i9).toInt64)) + (999 : Int64)) / (1000 : Int64)))))) := hB9.trans (congrArg (fun z => m_layChanges_j242 i9 w9 z) (if_neg c163))
              refine lv_aload_n hx hb dX1_layChanges_166 rfl (lv_at hl 0 rfl) ?_
              refine lv_iload hx hb dX1_layChanges_167 (lv_at hl 4 rfl) ?_
              refine call_m_eats hx hb hml hown hts hK hA hE hl.1 i9 (by omega) (lz (show 1 ≤ 1 by decide) hRf) (lz (show 21 ≤ 21 by decide) hRl) (Nat.le_of_ble_eq_true rfl) dX1_layChanges_169 (fun H locs hE => ?_)
              refine lv_if_eq (tgt := 242) hx hb dX1_layChanges_172 (by decide) (fun c172 => ?_) (fun c172 => ?_)
              · have hB9 : m_layChanges_b9 34 i9 w9 = m_layChanges_j242 i9 w9 (w9.1, w156) := hB9.trans (congrArg (fun z => m_layChanges_j242 i9 w9 z) (if_pos c172))
                exact hJ242 (w9.1, w156)  (by exact hw156) hB9 _ _ _ hE (lv_sub hl [0, 1, 2, 3, 4] rfl)
              · have hB9 : m_layChanges_b9 34 i9 w9 = m_layChanges_j242 i9 w9 ((w9.1 + ((w25.1 - ((w25.1 * ((w156.1 20 i9).toInt64)) / (100 : Int64))) + (((((w156.1 19 i9).toInt64) * ((w156.1 34 i9).toInt64)) + (999 : Int64)) / (1000 : Int64)))), sL w156 31 i9 ((w156.2 31 i9) + (((w25.1 * ((w156.1 20 i9).toInt64)) / (100 : Int64)) - (((((w156.1 19 i9).toInt64) * ((w156.1 34 i9).toInt64)) + (999 : Int64)) / (1000 : Int64))))) := hB9.trans (congrArg (fun z => m_layChanges_j242 i9 w9 z) (if_neg c172))
                refine lv_lload hx hb dX1_layChanges_175 (lv_at hl 5 rfl) ?_
                refine lv_aload_n hx hb dX1_layChanges_177 rfl (lv_at hl 0 rfl) ?_
                refine mg_20 hx hb hts hown hK hE dX1_layChanges_178 ?_
                refine lv_iload hx hb dX1_layChanges_181 (lv_at hl 4 rfl) ?_
                refine ma_20 (n := i9) (by omega) hx hb hK hE dX1_layChanges_183 ?_
                refine lv_i2l hx hb dX1_layChanges_184 rfl ?_
                refine lv_lmul hx hb dX1_layChanges_185 ?_
                refine lv_ldc2 (v := 100) hx hb hown (hts _ q1270) dX1_layChanges_186 ?_
                refine lv_ldiv hx hb dX1_layChanges_189 (by decide) ?_
                refine lv_lstore (lv' := [(10, .long ((w25.1 * ((w156.1 20 i9).toInt64)) / (100 : Int64))), (0, .ref m), (1, .ref (ar 34)), (2, .long w9.1), (4, .int w9.2.1), (5, .int (nI i9)), (6, .long w25.1)]) hx hb dX1_layChanges_190 hl (by decide) rfl (fun ls hl => ?_)
                refine lv_aload_n hx hb dX1_layChanges_192 rfl (lv_at hl 1 rfl) ?_
                refine mg_19 hx hb hts hown hK hE dX1_layChanges_193 ?_
                refine lv_iload hx hb dX1_layChanges_196 (lv_at hl 5 rfl) ?_
                refine ma_19 (n := i9) (by omega) hx hb hK hE dX1_layChanges_198 ?_
                refine lv_i2l hx hb dX1_layChanges_199 rfl ?_
                refine lv_aload_n hx hb dX1_layChanges_200 rfl (lv_at hl 2 rfl) ?_
                refine lv_iload hx hb dX1_layChanges_201 (lv_at hl 5 rfl) ?_
                refine ma_34 (n := i9) (by omega) hx hb hK hE dX1_layChanges_203 ?_
                refine lv_i2l hx hb dX1_layChanges_204 rfl ?_
                refine lv_lmul hx hb dX1_layChanges_205 ?_
                refine lv_ldc2 (v := 999) hx hb hown (hts _ q1271) dX1_layChanges_206 ?_
                refine lv_ladd hx hb dX1_layChanges_209 ?_
                refine lv_ldc2 (v := 1000) hx hb hown (hts _ q1269) dX1_layChanges_210 ?_
                refine lv_ldiv hx hb dX1_layChanges_213 (by decide) ?_
                refine lv_lstore (lv' := [(12, .long (((((w156.1 19 i9).toInt64) * ((w156.1 34 i9).toInt64)) + (999 : Int64)) / (1000 : Int64))), (10, .long ((w25.1 * ((w156.1 20 i9).toInt64)) / (100 : Int64))), (0, .ref m), (1, .ref (ar 34)), (2, .long w9.1), (4, .int w9.2.1), (5, .int (nI i9)), (6, .long w25.1)]) hx hb dX1_layChanges_214 hl (by decide) rfl (fun ls hl => ?_)
                refine lv_aload_n hx hb dX1_layChanges_216 rfl (lv_at hl 2 rfl) ?_
                refine mg_31 hx hb hts hown hK hE dX1_layChanges_217 ?_
                refine lv_iload hx hb dX1_layChanges_220 (lv_at hl 6 rfl) ?_
                refine lv_dup2_11 hx hb dX1_layChanges_222 rfl rfl ?_
                refine ma_31 (n := i9) (by omega) hx hb hK hE dX1_layChanges_223 ?_
                refine lv_lload hx hb dX1_layChanges_224 (lv_at hl 1 rfl) ?_
                refine lv_lload hx hb dX1_layChanges_226 (lv_at hl 0 rfl) ?_
                refine lv_lsub hx hb dX1_layChanges_228 ?_
                refine lv_ladd hx hb dX1_layChanges_229 ?_
                refine ms_31 (n := i9) (by omega) hx hb hK hE dX1_layChanges_230 (fun H locs hE => ?_)
                refine lv_lload_n hx hb dX1_layChanges_231 rfl (lv_at hl 4 rfl) ?_
                refine lv_lload hx hb dX1_layChanges_232 (lv_at hl 7 rfl) ?_
                refine lv_lload hx hb dX1_layChanges_234 (lv_at hl 1 rfl) ?_
                refine lv_lsub hx hb dX1_layChanges_236 ?_
                refine lv_lload hx hb dX1_layChanges_237 (lv_at hl 0 rfl) ?_
                refine lv_ladd hx hb dX1_layChanges_239 ?_
                refine lv_ladd hx hb dX1_layChanges_240 ?_
                refine lv_lstore_n (lv' := [(2, .long (w9.1 + ((w25.1 - ((w25.1 * ((w156.1 20 i9).toInt64)) / (100 : Int64))) + (((((w156.1 19 i9).toInt64) * ((w156.1 34 i9).toInt64)) + (999 : Int64)) / (1000 : Int64))))), (12, .long (((((w156.1 19 i9).toInt64) * ((w156.1 34 i9).toInt64)) + (999 : Int64)) / (1000 : Int64))), (10, .long ((w25.1 * ((w156.1 20 i9).toInt64)) / (100 : Int64))), (0, .ref m), (1, .ref (ar 34)), (4, .int w9.2.1), (5, .int (nI i9)), (6, .long w25.1)]) hx hb dX1_layChanges_241 rfl hl (by decide) rfl (fun ls hl => ?_)
                exact hJ242 ((w9.1 + ((w25.1 - ((w25.1 * ((w156.1 20 i9).toInt64)) / (100 : Int64))) + (((((w156.1 19 i9).toInt64) * ((w156.1 34 i9).toInt64)) + (999 : Int64)) / (1000 : Int64)))), sL w156 31 i9 ((w156.2 31 i9) + (((w25.1 * ((w156.1 20 i9).toInt64)) / (100 : Int64)) - (((((w156.1 19 i9).toInt64) * ((w156.1 34 i9).toInt64)) + (999 : Int64)) / (1000 : Int64)))))  (by exact hw156) hB9 _ _ _ hE (lv_sub hl [3, 4, 0, 5, 6] rfl)
          refine lv_if_eq (tgt := 156) hx hb dX1_layChanges_91 (by decide) (fun c91 => ?_) (fun c91 => ?_)
          · have hB9 : m_layChanges_b9 34 i9 w9 = m_layChanges_j156 34 i9 w9 w25 (sL w9.2.2 31 i9 (-w25.2)) := hB9.trans (congrArg (fun z => m_layChanges_j156 34 i9 w9 w25 z) (if_pos c91))
            exact hJ156 (sL w9.2.2 31 i9 (-w25.2))  (by exact hc9) hB9 _ _ _ hE (lv_sub hl [0, 1, 2, 3, 4, 5] rfl)
          · have hB9 : m_layChanges_b9 34 i9 w9 = m_layChanges_j156 34 i9 w9 w25 (if w9.2.2.1 14 i9 = (1 : Int32) then sL (sL w9.2.2 31 i9 (-w25.2)) 31 i9 (((sL w9.2.2 31 i9 (-w25.2)).2 31 i9) + (((((w9.2.2.1 17 i9).toInt64) * ((w9.2.2.1 34 i9).toInt64)) * (((w9.2.2.1 18 i9) - (w9.2.2.1 34 i9)).toInt64)) / ((1000 : Int64) * ((w9.2.2.1 18 i9).toInt64)))) else sL w9.2.2 31 i9 (-w25.2)) := hB9.trans (congrArg (fun z => m_layChanges_j156 34 i9 w9 w25 z) (if_neg c91))
            refine lv_aload_n hx hb dX1_layChanges_94 rfl (lv_at hl 0 rfl) ?_
            refine mg_14 hx hb hts hown hK hE dX1_layChanges_95 ?_
            refine lv_iload hx hb dX1_layChanges_98 (lv_at hl 4 rfl) ?_
            refine ma_14 (n := i9) (by omega) hx hb hK hE dX1_layChanges_100 ?_
            refine lv_iconst (v := 1) hx hb dX1_layChanges_101 rfl ?_
            refine lv_icmp_ne (tgt := 156) hx hb dX1_layChanges_102 (by decide) (fun c102 => ?_) (fun c102 => ?_)
            · have hB9 : m_layChanges_b9 34 i9 w9 = m_layChanges_j156 34 i9 w9 w25 (sL w9.2.2 31 i9 (-w25.2)) := hB9.trans (congrArg (fun z => m_layChanges_j156 34 i9 w9 w25 z) (if_neg c102))
              exact hJ156 (sL w9.2.2 31 i9 (-w25.2))  (by exact hc9) hB9 _ _ _ hE (lv_sub hl [0, 1, 2, 3, 4, 5] rfl)
            · have hB9 : m_layChanges_b9 34 i9 w9 = m_layChanges_j156 34 i9 w9 w25 (sL (sL w9.2.2 31 i9 (-w25.2)) 31 i9 (((sL w9.2.2 31 i9 (-w25.2)).2 31 i9) + (((((w9.2.2.1 17 i9).toInt64) * ((w9.2.2.1 34 i9).toInt64)) * (((w9.2.2.1 18 i9) - (w9.2.2.1 34 i9)).toInt64)) / ((1000 : Int64) * ((w9.2.2.1 18 i9).toInt64))))) := hB9.trans (congrArg (fun z => m_layChanges_j156 34 i9 w9 w25 z) (if_pos c102))
              refine lv_aload_n hx hb dX1_layChanges_105 rfl (lv_at hl 0 rfl) ?_
              refine mg_31 hx hb hts hown hK hE dX1_layChanges_106 ?_
              refine lv_iload hx hb dX1_layChanges_109 (lv_at hl 4 rfl) ?_
              refine lv_dup2_11 hx hb dX1_layChanges_111 rfl rfl ?_
              refine ma_31 (n := i9) (by omega) hx hb hK hE dX1_layChanges_112 ?_
              refine lv_aload_n hx hb dX1_layChanges_113 rfl (lv_at hl 0 rfl) ?_
              refine mg_17 hx hb hts hown hK hE dX1_layChanges_114 ?_
              refine lv_iload hx hb dX1_layChanges_117 (lv_at hl 4 rfl) ?_
              refine ma_17 (n := i9) (by omega) hx hb hK hE dX1_layChanges_119 ?_
              refine lv_i2l hx hb dX1_layChanges_120 rfl ?_
              refine lv_aload_n hx hb dX1_layChanges_121 rfl (lv_at hl 1 rfl) ?_
              refine lv_iload hx hb dX1_layChanges_122 (lv_at hl 4 rfl) ?_
              refine ma_34 (n := i9) (by omega) hx hb hK hE dX1_layChanges_124 ?_
              refine lv_i2l hx hb dX1_layChanges_125 rfl ?_
              refine lv_lmul hx hb dX1_layChanges_126 ?_
              refine lv_aload_n hx hb dX1_layChanges_127 rfl (lv_at hl 0 rfl) ?_
              refine mg_18 hx hb hts hown hK hE dX1_layChanges_128 ?_
              refine lv_iload hx hb dX1_layChanges_131 (lv_at hl 4 rfl) ?_
              refine ma_18 (n := i9) (by omega) hx hb hK hE dX1_layChanges_133 ?_
              refine lv_aload_n hx hb dX1_layChanges_134 rfl (lv_at hl 1 rfl) ?_
              refine lv_iload hx hb dX1_layChanges_135 (lv_at hl 4 rfl) ?_
              refine ma_34 (n := i9) (by omega) hx hb hK hE dX1_layChanges_137 ?_
              refine lv_isub hx hb dX1_layChanges_138 ?_
              refine lv_i2l hx hb dX1_layChanges_139 rfl ?_
              refine lv_lmul hx hb dX1_layChanges_140 ?_
              refine lv_ldc2 (v := 1000) hx hb hown (hts _ q1269) dX1_layChanges_141 ?_
              refine lv_aload_n hx hb dX1_layChanges_144 rfl (lv_at hl 0 rfl) ?_
              refine mg_18 hx hb hts hown hK hE dX1_layChanges_145 ?_
              refine lv_iload hx hb dX1_layChanges_148 (lv_at hl 4 rfl) ?_
              refine ma_18 (n := i9) (by omega) hx hb hK hE dX1_layChanges_150 ?_
              refine lv_i2l hx hb dX1_layChanges_151 rfl ?_
              refine lv_lmul hx hb dX1_layChanges_152 ?_
              refine lv_ldiv hx hb dX1_layChanges_153 (capnz (hc9 _ hlt9)) ?_
              refine lv_ladd hx hb dX1_layChanges_154 ?_
              refine ms_31 (n := i9) (by omega) hx hb hK hE dX1_layChanges_155 (fun H locs hE => ?_)
              exact hJ156 (sL (sL w9.2.2 31 i9 (-w25.2)) 31 i9 (((sL w9.2.2 31 i9 (-w25.2)).2 31 i9) + (((((w9.2.2.1 17 i9).toInt64) * ((w9.2.2.1 34 i9).toInt64)) * (((w9.2.2.1 18 i9) - (w9.2.2.1 34 i9)).toInt64)) / ((1000 : Int64) * ((w9.2.2.1 18 i9).toInt64)))))  (by exact hc9) hB9 _ _ _ hE (lv_sub hl [0, 1, 2, 3, 4, 5] rfl)
        | succ k ih25 =>
          intro i25 w25 hi25 hB9 H locs ls hE hl
          have hlt25 : i25 < 8 := by omega
          have hB25 : m_layChanges_b25 i9 w9 i25 w25 = ((w25.1 + (w9.2.2.2 30 ((8 * i9) + i25))), (w25.2 + (w9.2.2.2 30 ((8 * i25) + i9)))) := rfl
          refine lv_iload hx hb dX1_layChanges_25 (lv_at hl 7 rfl) ?_
          refine lv_bipush (v := 8) hx hb dX1_layChanges_27 rfl ?_
          refine n_geF (a := i25) (b := 8) (by omega) (by omega) hx hb dX1_layChanges_29 (tgt := 74) (by decide) ?_
          refine lv_lload hx hb dX1_layChanges_32 (lv_at hl 5 rfl) ?_
          refine lv_aload_n hx hb dX1_layChanges_34 rfl (lv_at hl 0 rfl) ?_
          refine mg_30 hx hb hts hown hK hE dX1_layChanges_35 ?_
          refine lv_bipush (v := 8) hx hb dX1_layChanges_38 rfl ?_
          refine lv_iload hx hb dX1_layChanges_40 (lv_at hl 4 rfl) ?_
          refine n_mul (a := 8) (b := i9) hx hb dX1_layChanges_42 ?_
          refine lv_iload hx hb dX1_layChanges_43 (lv_at hl 7 rfl) ?_
          refine n_add (a := (8 * i9)) (b := i25) hx hb dX1_layChanges_45 ?_
          refine ma_30 (n := ((8 * i9) + i25)) (by omega) hx hb hK hE dX1_layChanges_46 ?_
          refine lv_ladd hx hb dX1_layChanges_47 ?_
          refine lv_lstore (lv' := [(6, .long (w25.1 + (w9.2.2.2 30 ((8 * i9) + i25)))), (0, .ref m), (1, .ref (ar 34)), (2, .long w9.1), (4, .int w9.2.1), (5, .int (nI i9)), (8, .long w25.2), (10, .int (nI i25))]) hx hb dX1_layChanges_48 hl (by decide) rfl (fun ls hl => ?_)
          refine lv_lload hx hb dX1_layChanges_50 (lv_at hl 6 rfl) ?_
          refine lv_aload_n hx hb dX1_layChanges_52 rfl (lv_at hl 1 rfl) ?_
          refine mg_30 hx hb hts hown hK hE dX1_layChanges_53 ?_
          refine lv_bipush (v := 8) hx hb dX1_layChanges_56 rfl ?_
          refine lv_iload hx hb dX1_layChanges_58 (lv_at hl 7 rfl) ?_
          refine n_mul (a := 8) (b := i25) hx hb dX1_layChanges_60 ?_
          refine lv_iload hx hb dX1_layChanges_61 (lv_at hl 5 rfl) ?_
          refine n_add (a := (8 * i25)) (b := i9) hx hb dX1_layChanges_63 ?_
          refine ma_30 (n := ((8 * i25) + i9)) (by omega) hx hb hK hE dX1_layChanges_64 ?_
          refine lv_ladd hx hb dX1_layChanges_65 ?_
          refine lv_lstore (lv' := [(8, .long (w25.2 + (w9.2.2.2 30 ((8 * i25) + i9)))), (6, .long (w25.1 + (w9.2.2.2 30 ((8 * i9) + i25)))), (0, .ref m), (1, .ref (ar 34)), (2, .long w9.1), (4, .int w9.2.1), (5, .int (nI i9)), (10, .int (nI i25))]) hx hb dX1_layChanges_66 hl (by decide) rfl (fun ls hl => ?_)
          refine n_inc (lv' := [(10, .int (nI (i25 + 1))), (8, .long (w25.2 + (w9.2.2.2 30 ((8 * i25) + i9)))), (6, .long (w25.1 + (w9.2.2.2 30 ((8 * i9) + i25)))), (0, .ref m), (1, .ref (ar 34)), (2, .long w9.1), (4, .int w9.2.1), (5, .int (nI i9))]) hx hb dX1_layChanges_68 hl (k := 7) rfl (by decide) rfl (fun ls hl => ?_)
          refine lv_goto (tgt := 25) hx hb dX1_layChanges_71 (by decide) ?_
          exact ih25 (i25 + 1) ((w25.1 + (w9.2.2.2 30 ((8 * i9) + i25))), (w25.2 + (w9.2.2.2 30 ((8 * i25) + i9)))) (by omega) (hB9.trans (congrArg (fun z => m_layChanges_e25 34 i9 w9 (itR (m_layChanges_b25 i9 w9) (i25 + 1) k z)) hB25)) _ _ _ hE (lv_sub hl [3, 4, 5, 6, 7, 2, 1, 0] rfl)
      exact hL25 8 0 ((0 : Int64), (0 : Int64)) (by omega) hB9 _ _ _ hE (lv_sub hl [3, 4, 5, 6, 7, 2, 1, 0] rfl)
  exact hL9 8 0 ((0 : Int64), (-9 : Int32), Z) (by omega) (by exact hcap) (by exact Or.inl rfl) hR _ _ _ hE (lv_sub hl [3, 4, 2, 1, 0] rfl)
section C_layChanges
variable {p : Program} {l : Launch} {e : Env} {R : Room} {s : State} {mid : MethodId} {args : Array Value} {below : List Frame} {meth : Method} {c : Code} {H : Heap} {locs : List Loc} {Q : State → Prop} {cc : ByteArray} {pc : Nat} {ls : Array Slot} {rest : List Value} {D : va_G} {A : Nat → Prop} {m : Nat} {ar : Nat → Nat} {cs : Nat → ClassId} {Z : ZT} {nL : Nat}
theorem call_m_layChanges_34 (hx : p.tables.exec = Jvm.exec) (hb : c.code = cc) (hml : c.maxLocals = nL) (hown : s.vm.findClass RX1 = some mid.cls) (hts : ∀ w ∈ lw_all, w.before args s = true) (hK : KK D cs s) (hA : ∀ q : Nat, s.heap.size ≤ q → A q) (hE : EW D A s.heap (MW m ar cs Z) H locs) (hls : ls.size = nL) (hcap : ∀ b : Nat, b < 8 → 1 ≤ (Z.1 18 b).toInt ∧ (Z.1 18 b).toInt ≤ 100000) (h1 : 2 ≤ R.frames) (h2 : 54 ≤ R.locals) (h3 : (rest.map fun v => v.category).sum ≤ 8) (hd : decode cc pc = .ok (.invokevirtual 223, 3)) (kk : ∀ (H1 : Heap) (locs1 : List Loc), EW D A s.heap (MW m ar cs (m_layChanges 34 Z)) H1 locs1 → W p l e R s mid args below meth c H1 locs1 0 0 Q (F0 mid (pc + 3) ls (rest))) : W p l e R s mid args below meth c H locs 0 0 Q (F0 mid pc ls (.ref (ar 34) :: .ref m :: rest)) :=
  gCall_v (As := [.ref (ar 34)]) (rest := rest) (q0 := 0) (ci := 1) (fs := MF ar Z) (T' := TX1) (N' := 52) hx hb hml hown hts hK hA hE hls (met_m_layChanges_34 l D cs m ar Z H.size hcap) (cwV 1 hts (lw_V q1265 q1267 qs62 q85 q1268) rfl rfl rfl (by decide +kernel) ⟨h1, h2⟩) rfl rfl rfl rfl h3 hd ⟨Nat.zero_le _, Nat.zero_le _⟩ (fun u H1 locs1 hp _ hE => by subst hp; exact kk H1 locs1 hE)
end C_layChanges
