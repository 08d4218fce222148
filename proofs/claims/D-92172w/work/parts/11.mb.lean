/-! the twin: texts and beings by hand -/
set_option maxRecDepth 100000
theorem need_ok {g b : Int32} {Z : ZT} (h : 0 ≤ (m_need g b Z).1) : vp_in b 8 ∧ ¬ g = 0 ∧ ¬ Z.1 13 (ix b) = 0 ∧ m_need g b Z = (0, Z) := by
  unfold m_need m_need_k11 m_meets at h ⊢
  split at h
  · exact absurd (show (0 : Int32) ≤ -1 from h) (by decide)
  · split at h
    · exact absurd (show (0 : Int32) ≤ -1 from h) (by decide)
    · split at h
      · exact absurd (show (0 : Int32) ≤ -3 from h) (by decide)
      · rename_i h1 h2 h3
        exact ⟨isPlace_vp h1, h2, h3, by rw [if_neg h1, if_neg h2, if_neg h3]⟩
theorem needTwo_ok {g a b : Int32} {Z : ZT} (h : 0 ≤ (m_needTwo g a b Z).1) : vp_in a 8 ∧ vp_in b 8 ∧ ¬ g = 0 ∧ ¬ Z.1 13 (ix a) = 0 ∧ ¬ Z.1 13 (ix b) = 0 ∧ m_needTwo g a b Z = (0, Z) := by
  unfold m_needTwo m_needTwo_k18 m_needTwo_k44 m_meets at h ⊢
  split at h
  · exact absurd (show (0 : Int32) ≤ -1 from h) (by decide)
  · split at h
    · exact absurd (show (0 : Int32) ≤ -1 from h) (by decide)
    · split at h
      · exact absurd (show (0 : Int32) ≤ -1 from h) (by decide)
      · split at h
        · exact absurd (show (0 : Int32) ≤ -3 from h) (by decide)
        · split at h
          · exact absurd (show (0 : Int32) ≤ -3 from h) (by decide)
          · rename_i h1 h2 h3 h4 h5
            exact ⟨isPlace_vp h1, isPlace_vp h2, h3, h4, h5, by rw [if_neg h1, if_neg h2, if_neg h3, if_neg h4, if_neg h5]⟩
theorem nlt_of {x : Int32} {n B : Nat} (h : ¬ x ≤ nI n) (hn : n < 2 ^ 31) (hx : x.toInt ≤ B) : n < B := by
  rw [Int32.le_iff_toInt_le, nI_toInt hn] at h
  omega
theorem lay_vp {v s : Int32} (h : ¬ m_in v 0 (s - 1) = 0) (hs : s.toInt ≤ 60) (h0 : 0 ≤ s) : vp_in v 60 := by
  have hb := m_in_bd h
  rw [Int32.le_iff_toInt_le] at h0
  have h0 : 0 ≤ s.toInt := h0
  have e : (s - 1).toInt = s.toInt - 1 := by
    rw [Int32.toInt_sub, show (1 : Int32).toInt = 1 from rfl, Int.bmod_eq_of_le (by omega) (by omega)]
  rw [e, show (0 : Int32).toInt = 0 from rfl] at hb
  exact vp_in_iff.mpr ⟨by omega, by omega⟩
theorem ix_toInt {x : Int32} (h : 0 ≤ x.toInt) : (ix x : Int) = x.toInt := Int.toNat_of_nonneg h
theorem copy_vp {a n s : Int32} (ha : ¬ a < 0) (hn : ¬ n < 0) (h : ¬ s.toInt64 < a.toInt64 + n.toInt64) (hs : s.toInt ≤ 60) : vp_in a 61 ∧ vp_in n 61 ∧ ix a + ix n ≤ 60 := by
  rw [Int32.lt_iff_toInt_lt, show (0 : Int32).toInt = 0 from rfl] at ha hn
  rw [Int64.lt_iff_toInt_lt, Int64.toInt_add, Int32.toInt_toInt64, Int32.toInt_toInt64, Int32.toInt_toInt64] at h
  have la := a.toInt_lt
  have ln := n.toInt_lt
  rw [Int.bmod_eq_of_le (by omega) (by omega)] at h
  have ea := ix_toInt (x := a) (by omega)
  have en := ix_toInt (x := n) (by omega)
  exact ⟨vp_in_iff.mpr ⟨by omega, by omega⟩, vp_in_iff.mpr ⟨by omega, by omega⟩, by omega⟩
theorem copy_vp2 {a n s : Int32} (ha : ¬ a < 0) (hn : ¬ n < 0) (h : a.toInt64 + n.toInt64 ≤ s.toInt64) (hs : s.toInt ≤ 60) : vp_in a 61 ∧ vp_in n 61 ∧ ix a + ix n ≤ 60 := copy_vp ha hn (by
  rw [Int64.le_iff_toInt_le] at h
  rw [Int64.lt_iff_toInt_lt]
  omega) hs
def m_text_b34 (p1 : Int32) (i34 : Nat) (w34 : ZT) : ZT := sI w34 6 ((60 * (ix p1)) + i34) (vp_nar .byte (32 : Int32))
def m_text_e34 (p2 : Int32) (w34 : ZT) : Int32 × ZT := (p2, w34)
def m_text (p1 : Int32) (p2 : Int32) (Z : ZT) : Int32 × ZT := (if (m_isText p1) = 0 then ((-1 : Int32), Z) else (if p2 ≤ (60 : Int32) then (if 0 ≤ p2 then m_text_e34 p2 (itR (m_text_b34 p1) 0 60 (sI Z 5 (ix p1) p2)) else (m_meets 5 Z)) else ((-1 : Int32), Z)))
set_option maxHeartbeats 4000000 in
set_option maxRecDepth 100000 in
theorem met_m_text (l : Launch) (D : va_G) (cs : Nat → ClassId) (m : Nat) (ar : Nat → Nat) (Z : ZT) (sz : Nat) (p1 : Int32) (p2 : Int32) : Met l yX1_text (ws_ yX1_text cX1_text 4 (some .int)) ({ frames := 2, cells := 0, slots := 0, locals := 42 }) (va_Pc [.ref m, .int p1, .int p2] (wSt D cs (MW m ar cs Z) sz)) (cQi (fun (v : Int32) (u : ZT) => m_text p1 p2 Z = (v, u)) D (fun u => MW m ar cs u) (MW m ar cs Z) sz) 0 0 (va_A (MW m ar cs Z) sz) := by
  refine gStart_i (C := RX1) rfl rfl (Nat.le_of_ble_eq_true rfl) ?_
  intro p e s mid args below meth c R Q A hx hb hml hown hts hK hA hRf hRl hRc hRs hret hE ls hl
  have hRf : 2 ≤ R.frames := hRf
  have hRl : 42 ≤ R.locals := hRl
  have hl : lv_has ls 4 [(0, .ref m), (1, .int p1), (2, .int p2)] := hl
  have hR : m_text p1 p2 Z = (if (m_isText p1) = 0 then ((-1 : Int32), Z) else (if p2 ≤ (60 : Int32) then (if 0 ≤ p2 then m_text_e34 p2 (itR (m_text_b34 p1) 0 60 (sI Z 5 (ix p1) p2)) else (m_meets 5 Z)) else ((-1 : Int32), Z))) := rfl
  refine lv_iload_n hx hb dX1_text_0 rfl (lv_at hl 1 rfl) ?_
  refine call_m_isText hx hb hml hown hts hK hA hE hl.1 p1 (lz (show 2 ≤ 2 by decide) hRf) (lz (show 42 ≤ 42 by decide) hRl) (Nat.le_of_ble_eq_true rfl) dX1_text_1 (fun H locs hE => ?_)
  refine lv_if_eq (tgt := 13) hx hb dX1_text_4 (by decide) (fun c4 => ?_) (fun c4 => ?_)
  · have hR : m_text p1 p2 Z = ((-1 : Int32), Z) := hR.trans (congrArg (fun z => z) (if_pos c4))
    refine lv_iconst (v := -1) hx hb dX1_text_13 rfl ?_
    exact hret (-1 : Int32) Z hR rfl hE (Nat.le_refl 0) (Nat.le_refl 0) dX1_text_14
  · have hR : m_text p1 p2 Z = (if p2 ≤ (60 : Int32) then (if 0 ≤ p2 then m_text_e34 p2 (itR (m_text_b34 p1) 0 60 (sI Z 5 (ix p1) p2)) else (m_meets 5 Z)) else ((-1 : Int32), Z)) := hR.trans (congrArg (fun z => z) (if_neg c4))
    refine lv_iload_n hx hb dX1_text_7 rfl (lv_at hl 2 rfl) ?_
    refine lv_bipush (v := 60) hx hb dX1_text_8 rfl ?_
    refine lv_icmp_le (tgt := 15) hx hb dX1_text_10 (by decide) (fun c10 => ?_) (fun c10 => ?_)
    · have hR : m_text p1 p2 Z = (if 0 ≤ p2 then m_text_e34 p2 (itR (m_text_b34 p1) 0 60 (sI Z 5 (ix p1) p2)) else (m_meets 5 Z)) := hR.trans (congrArg (fun z => z) (if_pos c10))
      have hnp1 := vp_ix (x := p1) (N := 4) (isText_vp c4) (by decide)
      have hbnp1 := hnp1.2
      refine lv_iload_n hx hb dX1_text_15 rfl (lv_at hl 2 rfl) ?_
      refine lv_if_ge (tgt := 25) hx hb dX1_text_16 (by decide) (fun c16 => ?_) (fun c16 => ?_)
      · have hR : m_text p1 p2 Z = (m_text_e34 p2 (itR (m_text_b34 p1) 0 60 (sI Z 5 (ix p1) p2))) := hR.trans (congrArg (fun z => z) (if_pos c16))
        refine lv_aload_n hx hb dX1_text_25 rfl (lv_at hl 0 rfl) ?_
        refine mg_5 hx hb hts hown hK hE dX1_text_26 ?_
        refine lv_iload_n hx hb dX1_text_29 rfl (lv_at hl 1 rfl) ?_
        refine top_nat hnp1.1 ?_
        refine lv_iload_n hx hb dX1_text_30 rfl (lv_at hl 2 rfl) ?_
        refine ms_5 (n := (ix p1)) (by omega) hx hb hK hE dX1_text_31 (fun H locs hE => ?_)
        refine lv_iconst (v := 0) hx hb dX1_text_32 rfl ?_
        refine lv_istore_n (lv' := [(3, .int (0 : Int32)), (0, .ref m), (1, .int p1), (2, .int p2)]) hx hb dX1_text_33 rfl hl (by decide) rfl (fun ls hl => ?_)
        have hL34 : ∀ (k i34 : Nat) (w34 : ZT) (hi34 : i34 + k = 60) (hR : m_text p1 p2 Z = m_text_e34 p2 (itR (m_text_b34 p1) i34 k w34)), ∀ (H : Heap) (locs : List Loc) (ls : Array Slot), EW D A s.heap (MW m ar cs w34) H locs → lv_has ls 4 [(0, .ref m), (1, .int p1), (2, .int p2), (3, .int (nI i34))] → W p l e R s mid args below meth c H locs 0 0 Q (F0 mid 34 ls []) := by
          intro k
          induction k with
          | zero =>
            intro i34 w34 hi34 hR H locs ls hE hl
            have hie34 : i34 = 60 := by omega
            have hR : m_text p1 p2 Z = (p2, w34) := hR
            refine lv_iload_n hx hb dX1_text_34 rfl (lv_at hl 3 rfl) ?_
            refine lv_bipush (v := 60) hx hb dX1_text_35 rfl ?_
            refine n_geT (a := i34) (b := 60) (by omega) (by omega) hx hb dX1_text_37 (tgt := 59) (by decide) ?_
            have hl := lv_sub (l' := [(0, .ref m), (1, .int p1), (2, .int p2)]) hl [0, 1, 2] rfl
            refine lv_iload_n hx hb dX1_text_59 rfl (lv_at hl 2 rfl) ?_
            exact hret p2 w34 hR rfl hE (Nat.le_refl 0) (Nat.le_refl 0) dX1_text_60
          | succ k ih34 =>
            intro i34 w34 hi34 hR H locs ls hE hl
            have hlt34 : i34 < 60 := by omega
            have hB34 : m_text_b34 p1 i34 w34 = sI w34 6 ((60 * (ix p1)) + i34) (vp_nar .byte (32 : Int32)) := rfl
            refine lv_iload_n hx hb dX1_text_34 rfl (lv_at hl 3 rfl) ?_
            refine lv_bipush (v := 60) hx hb dX1_text_35 rfl ?_
            refine n_geF (a := i34) (b := 60) (by omega) (by omega) hx hb dX1_text_37 (tgt := 59) (by decide) ?_
            refine lv_aload_n hx hb dX1_text_40 rfl (lv_at hl 0 rfl) ?_
            refine mg_6 hx hb hts hown hK hE dX1_text_41 ?_
            refine lv_bipush (v := 60) hx hb dX1_text_44 rfl ?_
            refine lv_iload_n hx hb dX1_text_46 rfl (lv_at hl 1 rfl) ?_
            refine top_nat hnp1.1 ?_
            refine n_mul (a := 60) (b := (ix p1)) hx hb dX1_text_47 ?_
            refine lv_iload_n hx hb dX1_text_48 rfl (lv_at hl 3 rfl) ?_
            refine n_add (a := (60 * (ix p1))) (b := i34) hx hb dX1_text_49 ?_
            refine lv_bipush (v := 32) hx hb dX1_text_50 rfl ?_
            refine ms_6 (n := ((60 * (ix p1)) + i34)) (by omega) hx hb hK hE dX1_text_52 (fun H locs hE => ?_)
            refine n_inc (lv' := [(3, .int (nI (i34 + 1))), (0, .ref m), (1, .int p1), (2, .int p2)]) hx hb dX1_text_53 hl (k := 3) rfl (by decide) rfl (fun ls hl => ?_)
            refine lv_goto (tgt := 34) hx hb dX1_text_56 (by decide) ?_
            exact ih34 (i34 + 1) (sI w34 6 ((60 * (ix p1)) + i34) (vp_nar .byte (32 : Int32))) (by omega) (hR.trans (congrArg (fun z => m_text_e34 p2 (itR (m_text_b34 p1) (i34 + 1) k z)) hB34)) _ _ _ hE (lv_sub hl [1, 2, 3, 0] rfl)
        exact hL34 60 0 (sI Z 5 (ix p1) p2) (by omega) hR _ _ _ hE (lv_sub hl [1, 2, 3, 0] rfl)
      · have hR : m_text p1 p2 Z = (m_meets 5 Z) := hR.trans (congrArg (fun z => z) (if_neg c16))
        refine lv_aload_n hx hb dX1_text_19 rfl (lv_at hl 0 rfl) ?_
        refine lv_iconst (v := 5) hx hb dX1_text_20 rfl ?_
        refine call_m_meets hx hb hml hown hts hK hA hE hl.1 5 (by omega) (lz (show 1 ≤ 2 by decide) hRf) (lz (show 21 ≤ 42 by decide) hRl) (Nat.le_of_ble_eq_true rfl) dX1_text_21 (fun H locs hE => ?_)
        exact hret ((m_meets 5 Z).1) ((m_meets 5 Z).2) hR rfl hE (Nat.le_refl 0) (Nat.le_refl 0) dX1_text_24
    · have hR : m_text p1 p2 Z = ((-1 : Int32), Z) := hR.trans (congrArg (fun z => z) (if_neg c10))
      refine lv_iconst (v := -1) hx hb dX1_text_13 rfl ?_
      exact hret (-1 : Int32) Z hR rfl hE (Nat.le_refl 0) (Nat.le_refl 0) dX1_text_14
def m_lay (p1 : Int32) (p2 : Int32) (p3 : Int32) (Z : ZT) : Int32 × ZT := (if (m_isText p1) = 0 then ((-1 : Int32), Z) else (if 0 ≤ Z.1 5 (ix p1) then (if (m_in p2 (0 : Int32) ((Z.1 5 (ix p1)) - (1 : Int32))) = 0 then (m_meets 2 Z) else (((1000 : Int32) + (Z.1 6 ((60 * (ix p1)) + (ix p2)))), sI Z 6 ((60 * (ix p1)) + (ix p2)) (vp_nar .byte p3.toInt8.toInt32))) else (m_meets 1 Z)))
set_option maxHeartbeats 4000000 in
set_option maxRecDepth 100000 in
theorem met_m_lay (l : Launch) (D : va_G) (cs : Nat → ClassId) (m : Nat) (ar : Nat → Nat) (Z : ZT) (sz : Nat) (p1 : Int32) (p2 : Int32) (p3 : Int32) (hT : ∀ t : Nat, t < 4 → (Z.1 5 t).toInt ≤ 60) : Met l yX1_lay (ws_ yX1_lay cX1_lay 5 (some .int)) ({ frames := 2, cells := 0, slots := 0, locals := 42 }) (va_Pc [.ref m, .int p1, .int p2, .int p3] (wSt D cs (MW m ar cs Z) sz)) (cQi (fun (v : Int32) (u : ZT) => m_lay p1 p2 p3 Z = (v, u)) D (fun u => MW m ar cs u) (MW m ar cs Z) sz) 0 0 (va_A (MW m ar cs Z) sz) := by
  refine gStart_i (C := RX1) rfl rfl (Nat.le_of_ble_eq_true rfl) ?_
  intro p e s mid args below meth c R Q A hx hb hml hown hts hK hA hRf hRl hRc hRs hret hE ls hl
  have hRf : 2 ≤ R.frames := hRf
  have hRl : 42 ≤ R.locals := hRl
  have hl : lv_has ls 5 [(0, .ref m), (1, .int p1), (2, .int p2), (3, .int p3)] := hl
  have hR : m_lay p1 p2 p3 Z = (if (m_isText p1) = 0 then ((-1 : Int32), Z) else (if 0 ≤ Z.1 5 (ix p1) then (if (m_in p2 (0 : Int32) ((Z.1 5 (ix p1)) - (1 : Int32))) = 0 then (m_meets 2 Z) else (((1000 : Int32) + (Z.1 6 ((60 * (ix p1)) + (ix p2)))), sI Z 6 ((60 * (ix p1)) + (ix p2)) (vp_nar .byte p3.toInt8.toInt32))) else (m_meets 1 Z))) := rfl
  refine lv_iload_n hx hb dX1_lay_0 rfl (lv_at hl 1 rfl) ?_
  refine call_m_isText hx hb hml hown hts hK hA hE hl.1 p1 (lz (show 2 ≤ 2 by decide) hRf) (lz (show 42 ≤ 42 by decide) hRl) (Nat.le_of_ble_eq_true rfl) dX1_lay_1 (fun H locs hE => ?_)
  refine lv_if_ne (tgt := 9) hx hb dX1_lay_4 (by decide) (fun c4 => ?_) (fun c4 => ?_)
  · have hR : m_lay p1 p2 p3 Z = (if 0 ≤ Z.1 5 (ix p1) then (if (m_in p2 (0 : Int32) ((Z.1 5 (ix p1)) - (1 : Int32))) = 0 then (m_meets 2 Z) else (((1000 : Int32) + (Z.1 6 ((60 * (ix p1)) + (ix p2)))), sI Z 6 ((60 * (ix p1)) + (ix p2)) (vp_nar .byte p3.toInt8.toInt32))) else (m_meets 1 Z)) := hR.trans (congrArg (fun z => z) (if_neg c4))
    have hnp1 := vp_ix (x := p1) (N := 4) (isText_vp c4) (by decide)
    have hbnp1 := hnp1.2
    refine lv_aload_n hx hb dX1_lay_9 rfl (lv_at hl 0 rfl) ?_
    refine mg_5 hx hb hts hown hK hE dX1_lay_10 ?_
    refine lv_iload_n hx hb dX1_lay_13 rfl (lv_at hl 1 rfl) ?_
    refine top_nat hnp1.1 ?_
    refine ma_5 (n := (ix p1)) (by omega) hx hb hK hE dX1_lay_14 ?_
    refine lv_if_ge (tgt := 24) hx hb dX1_lay_15 (by decide) (fun c15 => ?_) (fun c15 => ?_)
    · have hR : m_lay p1 p2 p3 Z = (if (m_in p2 (0 : Int32) ((Z.1 5 (ix p1)) - (1 : Int32))) = 0 then (m_meets 2 Z) else (((1000 : Int32) + (Z.1 6 ((60 * (ix p1)) + (ix p2)))), sI Z 6 ((60 * (ix p1)) + (ix p2)) (vp_nar .byte p3.toInt8.toInt32))) := hR.trans (congrArg (fun z => z) (if_pos c15))
      refine lv_iload_n hx hb dX1_lay_24 rfl (lv_at hl 2 rfl) ?_
      refine lv_iconst (v := 0) hx hb dX1_lay_25 rfl ?_
      refine lv_aload_n hx hb dX1_lay_26 rfl (lv_at hl 0 rfl) ?_
      refine mg_5 hx hb hts hown hK hE dX1_lay_27 ?_
      refine lv_iload_n hx hb dX1_lay_30 rfl (lv_at hl 1 rfl) ?_
      refine top_nat hnp1.1 ?_
      refine ma_5 (n := (ix p1)) (by omega) hx hb hK hE dX1_lay_31 ?_
      refine lv_iconst (v := 1) hx hb dX1_lay_32 rfl ?_
      refine lv_isub hx hb dX1_lay_33 ?_
      refine call_m_in hx hb hml hown hts hK hA hE hl.1 p2 (0 : Int32) ((Z.1 5 (ix p1)) - (1 : Int32)) (lz (show 1 ≤ 2 by decide) hRf) (lz (show 22 ≤ 42 by decide) hRl) (Nat.le_of_ble_eq_true rfl) dX1_lay_34 (fun H locs hE => ?_)
      refine lv_if_ne (tgt := 46) hx hb dX1_lay_37 (by decide) (fun c37 => ?_) (fun c37 => ?_)
      · have hR : m_lay p1 p2 p3 Z = (((1000 : Int32) + (Z.1 6 ((60 * (ix p1)) + (ix p2)))), sI Z 6 ((60 * (ix p1)) + (ix p2)) (vp_nar .byte p3.toInt8.toInt32)) := hR.trans (congrArg (fun z => z) (if_neg c37))
        have hnp2 := vp_ix (x := p2) (N := 60) (lay_vp c37 (hT _ hbnp1) c15) (by decide)
        have hbnp2 := hnp2.2
        refine lv_aload_n hx hb dX1_lay_46 rfl (lv_at hl 0 rfl) ?_
        refine mg_6 hx hb hts hown hK hE dX1_lay_47 ?_
        refine lv_bipush (v := 60) hx hb dX1_lay_50 rfl ?_
        refine lv_iload_n hx hb dX1_lay_52 rfl (lv_at hl 1 rfl) ?_
        refine top_nat hnp1.1 ?_
        refine n_mul (a := 60) (b := (ix p1)) hx hb dX1_lay_53 ?_
        refine lv_iload_n hx hb dX1_lay_54 rfl (lv_at hl 2 rfl) ?_
        refine top_nat hnp2.1 ?_
        refine n_add (a := (60 * (ix p1))) (b := (ix p2)) hx hb dX1_lay_55 ?_
        refine ma_6 (n := ((60 * (ix p1)) + (ix p2))) (by omega) hx hb hK hE dX1_lay_56 ?_
        refine lv_istore (lv' := [(4, .int (Z.1 6 ((60 * (ix p1)) + (ix p2)))), (0, .ref m), (1, .int p1), (2, .int p2), (3, .int p3)]) hx hb dX1_lay_57 hl (by decide) rfl (fun ls hl => ?_)
        refine lv_aload_n hx hb dX1_lay_59 rfl (lv_at hl 1 rfl) ?_
        refine mg_6 hx hb hts hown hK hE dX1_lay_60 ?_
        refine lv_bipush (v := 60) hx hb dX1_lay_63 rfl ?_
        refine lv_iload_n hx hb dX1_lay_65 rfl (lv_at hl 2 rfl) ?_
        refine top_nat hnp1.1 ?_
        refine n_mul (a := 60) (b := (ix p1)) hx hb dX1_lay_66 ?_
        refine lv_iload_n hx hb dX1_lay_67 rfl (lv_at hl 3 rfl) ?_
        refine top_nat hnp2.1 ?_
        refine n_add (a := (60 * (ix p1))) (b := (ix p2)) hx hb dX1_lay_68 ?_
        refine lv_iload_n hx hb dX1_lay_69 rfl (lv_at hl 4 rfl) ?_
        refine lv_i2b hx hb dX1_lay_70 rfl ?_
        refine ms_6 (n := ((60 * (ix p1)) + (ix p2))) (by omega) hx hb hK hE dX1_lay_71 (fun H locs hE => ?_)
        refine lv_sipush (v := 1000) hx hb dX1_lay_72 rfl ?_
        refine lv_iload hx hb dX1_lay_75 (lv_at hl 0 rfl) ?_
        refine lv_iadd hx hb dX1_lay_77 ?_
        exact hret ((1000 : Int32) + (Z.1 6 ((60 * (ix p1)) + (ix p2)))) (sI Z 6 ((60 * (ix p1)) + (ix p2)) (vp_nar .byte p3.toInt8.toInt32)) hR rfl hE (Nat.le_refl 0) (Nat.le_refl 0) dX1_lay_78
      · have hR : m_lay p1 p2 p3 Z = (m_meets 2 Z) := hR.trans (congrArg (fun z => z) (if_pos c37))
        refine lv_aload_n hx hb dX1_lay_40 rfl (lv_at hl 0 rfl) ?_
        refine lv_iconst (v := 2) hx hb dX1_lay_41 rfl ?_
        refine call_m_meets hx hb hml hown hts hK hA hE hl.1 2 (by omega) (lz (show 1 ≤ 2 by decide) hRf) (lz (show 21 ≤ 42 by decide) hRl) (Nat.le_of_ble_eq_true rfl) dX1_lay_42 (fun H locs hE => ?_)
        exact hret ((m_meets 2 Z).1) ((m_meets 2 Z).2) hR rfl hE (Nat.le_refl 0) (Nat.le_refl 0) dX1_lay_45
    · have hR : m_lay p1 p2 p3 Z = (m_meets 1 Z) := hR.trans (congrArg (fun z => z) (if_neg c15))
      refine lv_aload_n hx hb dX1_lay_18 rfl (lv_at hl 0 rfl) ?_
      refine lv_iconst (v := 1) hx hb dX1_lay_19 rfl ?_
      refine call_m_meets hx hb hml hown hts hK hA hE hl.1 1 (by omega) (lz (show 1 ≤ 2 by decide) hRf) (lz (show 21 ≤ 42 by decide) hRl) (Nat.le_of_ble_eq_true rfl) dX1_lay_20 (fun H locs hE => ?_)
      exact hret ((m_meets 1 Z).1) ((m_meets 1 Z).2) hR rfl hE (Nat.le_refl 0) (Nat.le_refl 0) dX1_lay_23
  · have hR : m_lay p1 p2 p3 Z = ((-1 : Int32), Z) := hR.trans (congrArg (fun z => z) (if_pos c4))
    refine lv_iconst (v := -1) hx hb dX1_lay_7 rfl ?_
    exact hret (-1 : Int32) Z hR rfl hE (Nat.le_refl 0) (Nat.le_refl 0) dX1_lay_8
def m_burn (p1 : Int32) (Z : ZT) : Int32 × ZT := (if (m_isText p1) = 0 then ((-1 : Int32), Z) else (if 0 ≤ Z.1 5 (ix p1) then ((1 : Int32), sI Z 5 (ix p1) (-1 : Int32)) else (m_meets 1 Z)))
set_option maxHeartbeats 4000000 in
set_option maxRecDepth 100000 in
theorem met_m_burn (l : Launch) (D : va_G) (cs : Nat → ClassId) (m : Nat) (ar : Nat → Nat) (Z : ZT) (sz : Nat) (p1 : Int32) : Met l yX1_burn (ws_ yX1_burn cX1_burn 2 (some .int)) ({ frames := 2, cells := 0, slots := 0, locals := 42 }) (va_Pc [.ref m, .int p1] (wSt D cs (MW m ar cs Z) sz)) (cQi (fun (v : Int32) (u : ZT) => m_burn p1 Z = (v, u)) D (fun u => MW m ar cs u) (MW m ar cs Z) sz) 0 0 (va_A (MW m ar cs Z) sz) := by
  refine gStart_i (C := RX1) rfl rfl (Nat.le_of_ble_eq_true rfl) ?_
  intro p e s mid args below meth c R Q A hx hb hml hown hts hK hA hRf hRl hRc hRs hret hE ls hl
  have hRf : 2 ≤ R.frames := hRf
  have hRl : 42 ≤ R.locals := hRl
  have hl : lv_has ls 2 [(0, .ref m), (1, .int p1)] := hl
  have hR : m_burn p1 Z = (if (m_isText p1) = 0 then ((-1 : Int32), Z) else (if 0 ≤ Z.1 5 (ix p1) then ((1 : Int32), sI Z 5 (ix p1) (-1 : Int32)) else (m_meets 1 Z))) := rfl
  refine lv_iload_n hx hb dX1_burn_0 rfl (lv_at hl 1 rfl) ?_
  refine call_m_isText hx hb hml hown hts hK hA hE hl.1 p1 (lz (show 2 ≤ 2 by decide) hRf) (lz (show 42 ≤ 42 by decide) hRl) (Nat.le_of_ble_eq_true rfl) dX1_burn_1 (fun H locs hE => ?_)
  refine lv_if_ne (tgt := 9) hx hb dX1_burn_4 (by decide) (fun c4 => ?_) (fun c4 => ?_)
  · have hR : m_burn p1 Z = (if 0 ≤ Z.1 5 (ix p1) then ((1 : Int32), sI Z 5 (ix p1) (-1 : Int32)) else (m_meets 1 Z)) := hR.trans (congrArg (fun z => z) (if_neg c4))
    have hnp1 := vp_ix (x := p1) (N := 4) (isText_vp c4) (by decide)
    have hbnp1 := hnp1.2
    refine lv_aload_n hx hb dX1_burn_9 rfl (lv_at hl 0 rfl) ?_
    refine mg_5 hx hb hts hown hK hE dX1_burn_10 ?_
    refine lv_iload_n hx hb dX1_burn_13 rfl (lv_at hl 1 rfl) ?_
    refine top_nat hnp1.1 ?_
    refine ma_5 (n := (ix p1)) (by omega) hx hb hK hE dX1_burn_14 ?_
    refine lv_if_ge (tgt := 24) hx hb dX1_burn_15 (by decide) (fun c15 => ?_) (fun c15 => ?_)
    · have hR : m_burn p1 Z = ((1 : Int32), sI Z 5 (ix p1) (-1 : Int32)) := hR.trans (congrArg (fun z => z) (if_pos c15))
      refine lv_aload_n hx hb dX1_burn_24 rfl (lv_at hl 0 rfl) ?_
      refine mg_5 hx hb hts hown hK hE dX1_burn_25 ?_
      refine lv_iload_n hx hb dX1_burn_28 rfl (lv_at hl 1 rfl) ?_
      refine top_nat hnp1.1 ?_
      refine lv_iconst (v := -1) hx hb dX1_burn_29 rfl ?_
      refine ms_5 (n := (ix p1)) (by omega) hx hb hK hE dX1_burn_30 (fun H locs hE => ?_)
      refine lv_iconst (v := 1) hx hb dX1_burn_31 rfl ?_
      exact hret (1 : Int32) (sI Z 5 (ix p1) (-1 : Int32)) hR rfl hE (Nat.le_refl 0) (Nat.le_refl 0) dX1_burn_32
    · have hR : m_burn p1 Z = (m_meets 1 Z) := hR.trans (congrArg (fun z => z) (if_neg c15))
      refine lv_aload_n hx hb dX1_burn_18 rfl (lv_at hl 0 rfl) ?_
      refine lv_iconst (v := 1) hx hb dX1_burn_19 rfl ?_
      refine call_m_meets hx hb hml hown hts hK hA hE hl.1 1 (by omega) (lz (show 1 ≤ 2 by decide) hRf) (lz (show 21 ≤ 42 by decide) hRl) (Nat.le_of_ble_eq_true rfl) dX1_burn_20 (fun H locs hE => ?_)
      exact hret ((m_meets 1 Z).1) ((m_meets 1 Z).2) hR rfl hE (Nat.le_refl 0) (Nat.le_refl 0) dX1_burn_23
  · have hR : m_burn p1 Z = ((-1 : Int32), Z) := hR.trans (congrArg (fun z => z) (if_pos c4))
    refine lv_iconst (v := -1) hx hb dX1_burn_7 rfl ?_
    exact hret (-1 : Int32) Z hR rfl hE (Nat.le_refl 0) (Nat.le_refl 0) dX1_burn_8
def m_copy_k34 (Z : ZT) : Int32 × ZT := (m_meets 1 Z)
def m_copy_k89 (Z : ZT) : Int32 × ZT := (m_meets 2 Z)
def m_copy_b98 (p1 : Int32) (p2 : Int32) (i98 : Nat) (w98 : ZT) : ZT := sI w98 7 i98 (vp_nar .byte (w98.1 6 (((60 * (ix p1)) + (ix p2)) + i98)))
def m_copy_b135 (p3 : Int32) (p4 : Int32) (i135 : Nat) (w135 : ZT) : ZT := sI w135 6 (((60 * (ix p3)) + (ix p4)) + i135) (vp_nar .byte (w135.1 7 i135))
def m_copy_e135 (w135 : ZT) : Int32 × ZT := ((1 : Int32), w135)
def m_copy_e98 (p3 : Int32) (p4 : Int32) (p5 : Int32) (w98 : ZT) : Int32 × ZT := m_copy_e135 (itR (m_copy_b135 p3 p4) 0 (ix p5) w98)
def m_copy (p1 : Int32) (p2 : Int32) (p3 : Int32) (p4 : Int32) (p5 : Int32) (Z : ZT) : Int32 × ZT := (if (m_isText p1) = 0 then ((-1 : Int32), Z) else (if (m_isText p3) = 0 then ((-1 : Int32), Z) else (if Z.1 5 (ix p1) < 0 then m_copy_k34 Z else (if 0 ≤ Z.1 5 (ix p3) then (if p2 < 0 then m_copy_k89 Z else (if p4 < 0 then m_copy_k89 Z else (if p5 < 0 then m_copy_k89 Z else (if (Z.1 5 (ix p1)).toInt64 < (p2.toInt64 + p5.toInt64) then m_copy_k89 Z else (if (p4.toInt64 + p5.toInt64) ≤ (Z.1 5 (ix p3)).toInt64 then m_copy_e98 p3 p4 p5 (itR (m_copy_b98 p1 p2) 0 (ix p5) Z) else m_copy_k89 Z))))) else m_copy_k34 Z))))
set_option maxHeartbeats 4000000 in
set_option maxRecDepth 100000 in
theorem met_m_copy (l : Launch) (D : va_G) (cs : Nat → ClassId) (m : Nat) (ar : Nat → Nat) (Z : ZT) (sz : Nat) (p1 : Int32) (p2 : Int32) (p3 : Int32) (p4 : Int32) (p5 : Int32) (hT : ∀ t : Nat, t < 4 → (Z.1 5 t).toInt ≤ 60) : Met l yX1_copy (ws_ yX1_copy cX1_copy 7 (some .int)) ({ frames := 2, cells := 0, slots := 0, locals := 42 }) (va_Pc [.ref m, .int p1, .int p2, .int p3, .int p4, .int p5] (wSt D cs (MW m ar cs Z) sz)) (cQi (fun (v : Int32) (u : ZT) => m_copy p1 p2 p3 p4 p5 Z = (v, u)) D (fun u => MW m ar cs u) (MW m ar cs Z) sz) 0 0 (va_A (MW m ar cs Z) sz) := by
  refine gStart_i (C := RX1) rfl rfl (Nat.le_of_ble_eq_true rfl) ?_
  intro p e s mid args below meth c R Q A hx hb hml hown hts hK hA hRf hRl hRc hRs hret hE ls hl
  have hRf : 2 ≤ R.frames := hRf
  have hRl : 42 ≤ R.locals := hRl
  have hl : lv_has ls 7 [(0, .ref m), (1, .int p1), (2, .int p2), (3, .int p3), (4, .int p4), (5, .int p5)] := hl
  have hR : m_copy p1 p2 p3 p4 p5 Z = (if (m_isText p1) = 0 then ((-1 : Int32), Z) else (if (m_isText p3) = 0 then ((-1 : Int32), Z) else (if Z.1 5 (ix p1) < 0 then m_copy_k34 Z else (if 0 ≤ Z.1 5 (ix p3) then (if p2 < 0 then m_copy_k89 Z else (if p4 < 0 then m_copy_k89 Z else (if p5 < 0 then m_copy_k89 Z else (if (Z.1 5 (ix p1)).toInt64 < (p2.toInt64 + p5.toInt64) then m_copy_k89 Z else (if (p4.toInt64 + p5.toInt64) ≤ (Z.1 5 (ix p3)).toInt64 then m_copy_e98 p3 p4 p5 (itR (m_copy_b98 p1 p2) 0 (ix p5) Z) else m_copy_k89 Z))))) else m_copy_k34 Z)))) := rfl
  refine lv_iload_n hx hb dX1_copy_0 rfl (lv_at hl 1 rfl) ?_
  refine call_m_isText hx hb hml hown hts hK hA hE hl.1 p1 (lz (show 2 ≤ 2 by decide) hRf) (lz (show 42 ≤ 42 by decide) hRl) (Nat.le_of_ble_eq_true rfl) dX1_copy_1 (fun H locs hE => ?_)
  refine lv_if_eq (tgt := 14) hx hb dX1_copy_4 (by decide) (fun c4 => ?_) (fun c4 => ?_)
  · have hR : m_copy p1 p2 p3 p4 p5 Z = ((-1 : Int32), Z) := hR.trans (congrArg (fun z => z) (if_pos c4))
    refine lv_iconst (v := -1) hx hb dX1_copy_14 rfl ?_
    exact hret (-1 : Int32) Z hR rfl hE (Nat.le_refl 0) (Nat.le_refl 0) dX1_copy_15
  · have hR : m_copy p1 p2 p3 p4 p5 Z = (if (m_isText p3) = 0 then ((-1 : Int32), Z) else (if Z.1 5 (ix p1) < 0 then m_copy_k34 Z else (if 0 ≤ Z.1 5 (ix p3) then (if p2 < 0 then m_copy_k89 Z else (if p4 < 0 then m_copy_k89 Z else (if p5 < 0 then m_copy_k89 Z else (if (Z.1 5 (ix p1)).toInt64 < (p2.toInt64 + p5.toInt64) then m_copy_k89 Z else (if (p4.toInt64 + p5.toInt64) ≤ (Z.1 5 (ix p3)).toInt64 then m_copy_e98 p3 p4 p5 (itR (m_copy_b98 p1 p2) 0 (ix p5) Z) else m_copy_k89 Z))))) else m_copy_k34 Z))) := hR.trans (congrArg (fun z => z) (if_neg c4))
    refine lv_iload_n hx hb dX1_copy_7 rfl (lv_at hl 3 rfl) ?_
    refine call_m_isText hx hb hml hown hts hK hA hE hl.1 p3 (lz (show 2 ≤ 2 by decide) hRf) (lz (show 42 ≤ 42 by decide) hRl) (Nat.le_of_ble_eq_true rfl) dX1_copy_8 (fun H locs hE => ?_)
    refine lv_if_ne (tgt := 16) hx hb dX1_copy_11 (by decide) (fun c11 => ?_) (fun c11 => ?_)
    · have hR : m_copy p1 p2 p3 p4 p5 Z = (if Z.1 5 (ix p1) < 0 then m_copy_k34 Z else (if 0 ≤ Z.1 5 (ix p3) then (if p2 < 0 then m_copy_k89 Z else (if p4 < 0 then m_copy_k89 Z else (if p5 < 0 then m_copy_k89 Z else (if (Z.1 5 (ix p1)).toInt64 < (p2.toInt64 + p5.toInt64) then m_copy_k89 Z else (if (p4.toInt64 + p5.toInt64) ≤ (Z.1 5 (ix p3)).toInt64 then m_copy_e98 p3 p4 p5 (itR (m_copy_b98 p1 p2) 0 (ix p5) Z) else m_copy_k89 Z))))) else m_copy_k34 Z)) := hR.trans (congrArg (fun z => z) (if_neg c11))
      have hnp1 := vp_ix (x := p1) (N := 4) (isText_vp c4) (by decide)
      have hbnp1 := hnp1.2
      have hnp3 := vp_ix (x := p3) (N := 4) (isText_vp c11) (by decide)
      have hbnp3 := hnp3.2
      refine lv_aload_n hx hb dX1_copy_16 rfl (lv_at hl 0 rfl) ?_
      refine mg_5 hx hb hts hown hK hE dX1_copy_17 ?_
      refine lv_iload_n hx hb dX1_copy_20 rfl (lv_at hl 1 rfl) ?_
      refine top_nat hnp1.1 ?_
      refine ma_5 (n := (ix p1)) (by omega) hx hb hK hE dX1_copy_21 ?_
      have hJ34 : ∀ (hR : m_copy p1 p2 p3 p4 p5 Z = m_copy_k34 Z), ∀ (H : Heap) (locs : List Loc) (ls : Array Slot), EW D A s.heap (MW m ar cs Z) H locs → lv_has ls 7 [(0, .ref m)] → W p l e R s mid args below meth c H locs 0 0 Q (F0 mid 34 ls []) := by
        intro hR H locs ls hE hl
        have hR : m_copy p1 p2 p3 p4 p5 Z = (m_meets 1 Z) := hR
        refine lv_aload_n hx hb dX1_copy_34 rfl (lv_at hl 0 rfl) ?_
        refine lv_iconst (v := 1) hx hb dX1_copy_35 rfl ?_
        refine call_m_meets hx hb hml hown hts hK hA hE hl.1 1 (by omega) (lz (show 1 ≤ 2 by decide) hRf) (lz (show 21 ≤ 42 by decide) hRl) (Nat.le_of_ble_eq_true rfl) dX1_copy_36 (fun H locs hE => ?_)
        exact hret ((m_meets 1 Z).1) ((m_meets 1 Z).2) hR rfl hE (Nat.le_refl 0) (Nat.le_refl 0) dX1_copy_39
      refine lv_if_lt (tgt := 34) hx hb dX1_copy_22 (by decide) (fun c22 => ?_) (fun c22 => ?_)
      · have hR : m_copy p1 p2 p3 p4 p5 Z = (m_copy_k34 Z) := hR.trans (congrArg (fun z => z) (if_pos c22))
        exact hJ34  hR _ _ _ hE (lv_sub hl [0] rfl)
      · have hR : m_copy p1 p2 p3 p4 p5 Z = (if 0 ≤ Z.1 5 (ix p3) then (if p2 < 0 then m_copy_k89 Z else (if p4 < 0 then m_copy_k89 Z else (if p5 < 0 then m_copy_k89 Z else (if (Z.1 5 (ix p1)).toInt64 < (p2.toInt64 + p5.toInt64) then m_copy_k89 Z else (if (p4.toInt64 + p5.toInt64) ≤ (Z.1 5 (ix p3)).toInt64 then m_copy_e98 p3 p4 p5 (itR (m_copy_b98 p1 p2) 0 (ix p5) Z) else m_copy_k89 Z))))) else m_copy_k34 Z) := hR.trans (congrArg (fun z => z) (if_neg c22))
        refine lv_aload_n hx hb dX1_copy_25 rfl (lv_at hl 0 rfl) ?_
        refine mg_5 hx hb hts hown hK hE dX1_copy_26 ?_
        refine lv_iload_n hx hb dX1_copy_29 rfl (lv_at hl 3 rfl) ?_
        refine top_nat hnp3.1 ?_
        refine ma_5 (n := (ix p3)) (by omega) hx hb hK hE dX1_copy_30 ?_
        refine lv_if_ge (tgt := 40) hx hb dX1_copy_31 (by decide) (fun c31 => ?_) (fun c31 => ?_)
        · have hR : m_copy p1 p2 p3 p4 p5 Z = (if p2 < 0 then m_copy_k89 Z else (if p4 < 0 then m_copy_k89 Z else (if p5 < 0 then m_copy_k89 Z else (if (Z.1 5 (ix p1)).toInt64 < (p2.toInt64 + p5.toInt64) then m_copy_k89 Z else (if (p4.toInt64 + p5.toInt64) ≤ (Z.1 5 (ix p3)).toInt64 then m_copy_e98 p3 p4 p5 (itR (m_copy_b98 p1 p2) 0 (ix p5) Z) else m_copy_k89 Z))))) := hR.trans (congrArg (fun z => z) (if_pos c31))
          refine lv_iload_n hx hb dX1_copy_40 rfl (lv_at hl 2 rfl) ?_
          have hJ89 : ∀ (hR : m_copy p1 p2 p3 p4 p5 Z = m_copy_k89 Z), ∀ (H : Heap) (locs : List Loc) (ls : Array Slot), EW D A s.heap (MW m ar cs Z) H locs → lv_has ls 7 [(0, .ref m)] → W p l e R s mid args below meth c H locs 0 0 Q (F0 mid 89 ls []) := by
            intro hR H locs ls hE hl
            have hR : m_copy p1 p2 p3 p4 p5 Z = (m_meets 2 Z) := hR
            refine lv_aload_n hx hb dX1_copy_89 rfl (lv_at hl 0 rfl) ?_
            refine lv_iconst (v := 2) hx hb dX1_copy_90 rfl ?_
            refine call_m_meets hx hb hml hown hts hK hA hE hl.1 2 (by omega) (lz (show 1 ≤ 2 by decide) hRf) (lz (show 21 ≤ 42 by decide) hRl) (Nat.le_of_ble_eq_true rfl) dX1_copy_91 (fun H locs hE => ?_)
            exact hret ((m_meets 2 Z).1) ((m_meets 2 Z).2) hR rfl hE (Nat.le_refl 0) (Nat.le_refl 0) dX1_copy_94
          refine lv_if_lt (tgt := 89) hx hb dX1_copy_41 (by decide) (fun c41 => ?_) (fun c41 => ?_)
          · have hR : m_copy p1 p2 p3 p4 p5 Z = (m_copy_k89 Z) := hR.trans (congrArg (fun z => z) (if_pos c41))
            exact hJ89  hR _ _ _ hE (lv_sub hl [0] rfl)
          · have hR : m_copy p1 p2 p3 p4 p5 Z = (if p4 < 0 then m_copy_k89 Z else (if p5 < 0 then m_copy_k89 Z else (if (Z.1 5 (ix p1)).toInt64 < (p2.toInt64 + p5.toInt64) then m_copy_k89 Z else (if (p4.toInt64 + p5.toInt64) ≤ (Z.1 5 (ix p3)).toInt64 then m_copy_e98 p3 p4 p5 (itR (m_copy_b98 p1 p2) 0 (ix p5) Z) else m_copy_k89 Z)))) := hR.trans (congrArg (fun z => z) (if_neg c41))
            refine lv_iload hx hb dX1_copy_44 (lv_at hl 4 rfl) ?_
            refine lv_if_lt (tgt := 89) hx hb dX1_copy_46 (by decide) (fun c46 => ?_) (fun c46 => ?_)
            · have hR : m_copy p1 p2 p3 p4 p5 Z = (m_copy_k89 Z) := hR.trans (congrArg (fun z => z) (if_pos c46))
              exact hJ89  hR _ _ _ hE (lv_sub hl [0] rfl)
            · have hR : m_copy p1 p2 p3 p4 p5 Z = (if p5 < 0 then m_copy_k89 Z else (if (Z.1 5 (ix p1)).toInt64 < (p2.toInt64 + p5.toInt64) then m_copy_k89 Z else (if (p4.toInt64 + p5.toInt64) ≤ (Z.1 5 (ix p3)).toInt64 then m_copy_e98 p3 p4 p5 (itR (m_copy_b98 p1 p2) 0 (ix p5) Z) else m_copy_k89 Z))) := hR.trans (congrArg (fun z => z) (if_neg c46))
              refine lv_iload hx hb dX1_copy_49 (lv_at hl 5 rfl) ?_
              refine lv_if_lt (tgt := 89) hx hb dX1_copy_51 (by decide) (fun c51 => ?_) (fun c51 => ?_)
              · have hR : m_copy p1 p2 p3 p4 p5 Z = (m_copy_k89 Z) := hR.trans (congrArg (fun z => z) (if_pos c51))
                exact hJ89  hR _ _ _ hE (lv_sub hl [0] rfl)
              · have hR : m_copy p1 p2 p3 p4 p5 Z = (if (Z.1 5 (ix p1)).toInt64 < (p2.toInt64 + p5.toInt64) then m_copy_k89 Z else (if (p4.toInt64 + p5.toInt64) ≤ (Z.1 5 (ix p3)).toInt64 then m_copy_e98 p3 p4 p5 (itR (m_copy_b98 p1 p2) 0 (ix p5) Z) else m_copy_k89 Z)) := hR.trans (congrArg (fun z => z) (if_neg c51))
                refine lv_iload_n hx hb dX1_copy_54 rfl (lv_at hl 2 rfl) ?_
                refine lv_i2l hx hb dX1_copy_55 rfl ?_
                refine lv_iload hx hb dX1_copy_56 (lv_at hl 5 rfl) ?_
                refine lv_i2l hx hb dX1_copy_58 rfl ?_
                refine lv_ladd hx hb dX1_copy_59 ?_
                refine lv_aload_n hx hb dX1_copy_60 rfl (lv_at hl 0 rfl) ?_
                refine mg_5 hx hb hts hown hK hE dX1_copy_61 ?_
                refine lv_iload_n hx hb dX1_copy_64 rfl (lv_at hl 1 rfl) ?_
                refine top_nat hnp1.1 ?_
                refine ma_5 (n := (ix p1)) (by omega) hx hb hK hE dX1_copy_65 ?_
                refine lv_i2l hx hb dX1_copy_66 rfl ?_
                refine l_gt (tgt := 89) hx hb dX1_copy_67 dX1_copy_68 (by decide) (fun c67 => ?_) (fun c67 => ?_)
                · have hR : m_copy p1 p2 p3 p4 p5 Z = (m_copy_k89 Z) := hR.trans (congrArg (fun z => z) (if_pos c67))
                  exact hJ89  hR _ _ _ hE (lv_sub hl [0] rfl)
                · have hR : m_copy p1 p2 p3 p4 p5 Z = (if (p4.toInt64 + p5.toInt64) ≤ (Z.1 5 (ix p3)).toInt64 then m_copy_e98 p3 p4 p5 (itR (m_copy_b98 p1 p2) 0 (ix p5) Z) else m_copy_k89 Z) := hR.trans (congrArg (fun z => z) (if_neg c67))
                  refine lv_iload hx hb dX1_copy_71 (lv_at hl 4 rfl) ?_
                  refine lv_i2l hx hb dX1_copy_73 rfl ?_
                  refine lv_iload hx hb dX1_copy_74 (lv_at hl 5 rfl) ?_
                  refine lv_i2l hx hb dX1_copy_76 rfl ?_
                  refine lv_ladd hx hb dX1_copy_77 ?_
                  refine lv_aload_n hx hb dX1_copy_78 rfl (lv_at hl 0 rfl) ?_
                  refine mg_5 hx hb hts hown hK hE dX1_copy_79 ?_
                  refine lv_iload_n hx hb dX1_copy_82 rfl (lv_at hl 3 rfl) ?_
                  refine top_nat hnp3.1 ?_
                  refine ma_5 (n := (ix p3)) (by omega) hx hb hK hE dX1_copy_83 ?_
                  refine lv_i2l hx hb dX1_copy_84 rfl ?_
                  refine l_le (tgt := 95) hx hb dX1_copy_85 dX1_copy_86 (by decide) (fun c85 => ?_) (fun c85 => ?_)
                  · have hR : m_copy p1 p2 p3 p4 p5 Z = (m_copy_e98 p3 p4 p5 (itR (m_copy_b98 p1 p2) 0 (ix p5) Z)) := hR.trans (congrArg (fun z => z) (if_pos c85))
                    have hc1 := (copy_vp c41 c51 c67 (hT _ hbnp1)).2.2
                    have hc2 := (copy_vp2 c46 c51 c85 (hT _ hbnp3)).2.2
                    have hnp2 := vp_ix (x := p2) (N := 61) ((copy_vp c41 c51 c67 (hT _ hbnp1)).1) (by decide)
                    have hbnp2 := hnp2.2
                    have hnp5 := vp_ix (x := p5) (N := 61) ((copy_vp c41 c51 c67 (hT _ hbnp1)).2.1) (by decide)
                    have hbnp5 := hnp5.2
                    have hnp4 := vp_ix (x := p4) (N := 61) ((copy_vp2 c46 c51 c85 (hT _ hbnp3)).1) (by decide)
                    have hbnp4 := hnp4.2
                    refine lv_iconst (v := 0) hx hb dX1_copy_95 rfl ?_
                    refine lv_istore (lv' := [(6, .int (0 : Int32)), (0, .ref m), (1, .int p1), (2, .int p2), (3, .int p3), (4, .int p4), (5, .int p5)]) hx hb dX1_copy_96 hl (by decide) rfl (fun ls hl => ?_)
                    have hL98 : ∀ (k i98 : Nat) (w98 : ZT) (hi98 : i98 + k = (ix p5)) (hR : m_copy p1 p2 p3 p4 p5 Z = m_copy_e98 p3 p4 p5 (itR (m_copy_b98 p1 p2) i98 k w98)), ∀ (H : Heap) (locs : List Loc) (ls : Array Slot), EW D A s.heap (MW m ar cs w98) H locs → lv_has ls 7 [(0, .ref m), (1, .int p1), (2, .int p2), (3, .int p3), (4, .int p4), (5, .int p5), (6, .int (nI i98))] → W p l e R s mid args below meth c H locs 0 0 Q (F0 mid 98 ls []) := by
                      intro k
                      induction k with
                      | zero =>
                        intro i98 w98 hi98 hR H locs ls hE hl
                        have hie98 : i98 = (ix p5) := by omega
                        have hR : m_copy p1 p2 p3 p4 p5 Z = (m_copy_e135 (itR (m_copy_b135 p3 p4) 0 (ix p5) w98)) := hR
                        refine lv_iload hx hb dX1_copy_98 (lv_at hl 6 rfl) ?_
                        refine lv_iload hx hb dX1_copy_100 (lv_at hl 5 rfl) ?_
                        refine top_nat hnp5.1 ?_
                        refine n_geT (a := i98) (b := (ix p5)) (by omega) (by omega) hx hb dX1_copy_102 (tgt := 132) (by decide) ?_
                        have hl := lv_sub (l' := [(0, .ref m), (1, .int p1), (2, .int p2), (3, .int p3), (4, .int p4), (5, .int p5)]) hl [0, 1, 2, 3, 4, 5] rfl
                        refine lv_iconst (v := 0) hx hb dX1_copy_132 rfl ?_
                        refine lv_istore (lv' := [(6, .int (0 : Int32)), (0, .ref m), (1, .int p1), (2, .int p2), (3, .int p3), (4, .int p4), (5, .int p5)]) hx hb dX1_copy_133 hl (by decide) rfl (fun ls hl => ?_)
                        have hL135 : ∀ (k i135 : Nat) (w135 : ZT) (hi135 : i135 + k = (ix p5)) (hR : m_copy p1 p2 p3 p4 p5 Z = m_copy_e135 (itR (m_copy_b135 p3 p4) i135 k w135)), ∀ (H : Heap) (locs : List Loc) (ls : Array Slot), EW D A s.heap (MW m ar cs w135) H locs → lv_has ls 7 [(0, .ref m), (3, .int p3), (4, .int p4), (5, .int p5), (6, .int (nI i135))] → W p l e R s mid args below meth c H locs 0 0 Q (F0 mid 135 ls []) := by
                          intro k
                          induction k with
                          | zero =>
                            intro i135 w135 hi135 hR H locs ls hE hl
                            have hie135 : i135 = (ix p5) := by omega
                            have hR : m_copy p1 p2 p3 p4 p5 Z = ((1 : Int32), w135) := hR
                            refine lv_iload hx hb dX1_copy_135 (lv_at hl 4 rfl) ?_
                            refine lv_iload hx hb dX1_copy_137 (lv_at hl 3 rfl) ?_
                            refine top_nat hnp5.1 ?_
                            refine n_geT (a := i135) (b := (ix p5)) (by omega) (by omega) hx hb dX1_copy_139 (tgt := 170) (by decide) ?_
                            have hl := lv_sub (l' := [(0, .ref m), (3, .int p3), (4, .int p4), (5, .int p5)]) hl [0, 1, 2, 3] rfl
                            refine lv_iconst (v := 1) hx hb dX1_copy_170 rfl ?_
                            exact hret (1 : Int32) w135 hR rfl hE (Nat.le_refl 0) (Nat.le_refl 0) dX1_copy_171
                          | succ k ih135 =>
                            intro i135 w135 hi135 hR H locs ls hE hl
                            have hlt135 : i135 < (ix p5) := by omega
                            have hB135 : m_copy_b135 p3 p4 i135 w135 = sI w135 6 (((60 * (ix p3)) + (ix p4)) + i135) (vp_nar .byte (w135.1 7 i135)) := rfl
                            refine lv_iload hx hb dX1_copy_135 (lv_at hl 4 rfl) ?_
                            refine lv_iload hx hb dX1_copy_137 (lv_at hl 3 rfl) ?_
                            refine top_nat hnp5.1 ?_
                            refine n_geF (a := i135) (b := (ix p5)) (by omega) (by omega) hx hb dX1_copy_139 (tgt := 170) (by decide) ?_
                            refine lv_aload_n hx hb dX1_copy_142 rfl (lv_at hl 0 rfl) ?_
                            refine mg_6 hx hb hts hown hK hE dX1_copy_143 ?_
                            refine lv_bipush (v := 60) hx hb dX1_copy_146 rfl ?_
                            refine lv_iload_n hx hb dX1_copy_148 rfl (lv_at hl 1 rfl) ?_
                            refine top_nat hnp3.1 ?_
                            refine n_mul (a := 60) (b := (ix p3)) hx hb dX1_copy_149 ?_
                            refine lv_iload hx hb dX1_copy_150 (lv_at hl 2 rfl) ?_
                            refine top_nat hnp4.1 ?_
                            refine n_add (a := (60 * (ix p3))) (b := (ix p4)) hx hb dX1_copy_152 ?_
                            refine lv_iload hx hb dX1_copy_153 (lv_at hl 4 rfl) ?_
                            refine n_add (a := ((60 * (ix p3)) + (ix p4))) (b := i135) hx hb dX1_copy_155 ?_
                            refine lv_aload_n hx hb dX1_copy_156 rfl (lv_at hl 0 rfl) ?_
                            refine mg_7 hx hb hts hown hK hE dX1_copy_157 ?_
                            refine lv_iload hx hb dX1_copy_160 (lv_at hl 4 rfl) ?_
                            refine ma_7 (n := i135) (by omega) hx hb hK hE dX1_copy_162 ?_
                            refine ms_6 (n := (((60 * (ix p3)) + (ix p4)) + i135)) (by omega) hx hb hK hE dX1_copy_163 (fun H locs hE => ?_)
                            refine n_inc (lv' := [(6, .int (nI (i135 + 1))), (0, .ref m), (3, .int p3), (4, .int p4), (5, .int p5)]) hx hb dX1_copy_164 hl (k := 4) rfl (by decide) rfl (fun ls hl => ?_)
                            refine lv_goto (tgt := 135) hx hb dX1_copy_167 (by decide) ?_
                            exact ih135 (i135 + 1) (sI w135 6 (((60 * (ix p3)) + (ix p4)) + i135) (vp_nar .byte (w135.1 7 i135))) (by omega) (hR.trans (congrArg (fun z => m_copy_e135 (itR (m_copy_b135 p3 p4) (i135 + 1) k z)) hB135)) _ _ _ hE (lv_sub hl [1, 2, 3, 4, 0] rfl)
                        exact hL135 (ix p5) 0 w98 (by omega) hR _ _ _ hE (lv_sub hl [1, 4, 5, 6, 0] rfl)
                      | succ k ih98 =>
                        intro i98 w98 hi98 hR H locs ls hE hl
                        have hlt98 : i98 < (ix p5) := by omega
                        have hB98 : m_copy_b98 p1 p2 i98 w98 = sI w98 7 i98 (vp_nar .byte (w98.1 6 (((60 * (ix p1)) + (ix p2)) + i98))) := rfl
                        refine lv_iload hx hb dX1_copy_98 (lv_at hl 6 rfl) ?_
                        refine lv_iload hx hb dX1_copy_100 (lv_at hl 5 rfl) ?_
                        refine top_nat hnp5.1 ?_
                        refine n_geF (a := i98) (b := (ix p5)) (by omega) (by omega) hx hb dX1_copy_102 (tgt := 132) (by decide) ?_
                        refine lv_aload_n hx hb dX1_copy_105 rfl (lv_at hl 0 rfl) ?_
                        refine mg_7 hx hb hts hown hK hE dX1_copy_106 ?_
                        refine lv_iload hx hb dX1_copy_109 (lv_at hl 6 rfl) ?_
                        refine lv_aload_n hx hb dX1_copy_111 rfl (lv_at hl 0 rfl) ?_
                        refine mg_6 hx hb hts hown hK hE dX1_copy_112 ?_
                        refine lv_bipush (v := 60) hx hb dX1_copy_115 rfl ?_
                        refine lv_iload_n hx hb dX1_copy_117 rfl (lv_at hl 1 rfl) ?_
                        refine top_nat hnp1.1 ?_
                        refine n_mul (a := 60) (b := (ix p1)) hx hb dX1_copy_118 ?_
                        refine lv_iload_n hx hb dX1_copy_119 rfl (lv_at hl 2 rfl) ?_
                        refine top_nat hnp2.1 ?_
                        refine n_add (a := (60 * (ix p1))) (b := (ix p2)) hx hb dX1_copy_120 ?_
                        refine lv_iload hx hb dX1_copy_121 (lv_at hl 6 rfl) ?_
                        refine n_add (a := ((60 * (ix p1)) + (ix p2))) (b := i98) hx hb dX1_copy_123 ?_
                        refine ma_6 (n := (((60 * (ix p1)) + (ix p2)) + i98)) (by omega) hx hb hK hE dX1_copy_124 ?_
                        refine ms_7 (n := i98) (by omega) hx hb hK hE dX1_copy_125 (fun H locs hE => ?_)
                        refine n_inc (lv' := [(6, .int (nI (i98 + 1))), (0, .ref m), (1, .int p1), (2, .int p2), (3, .int p3), (4, .int p4), (5, .int p5)]) hx hb dX1_copy_126 hl (k := 6) rfl (by decide) rfl (fun ls hl => ?_)
                        refine lv_goto (tgt := 98) hx hb dX1_copy_129 (by decide) ?_
                        exact ih98 (i98 + 1) (sI w98 7 i98 (vp_nar .byte (w98.1 6 (((60 * (ix p1)) + (ix p2)) + i98)))) (by omega) (hR.trans (congrArg (fun z => m_copy_e98 p3 p4 p5 (itR (m_copy_b98 p1 p2) (i98 + 1) k z)) hB98)) _ _ _ hE (lv_sub hl [1, 2, 3, 4, 5, 6, 0] rfl)
                    exact hL98 (ix p5) 0 Z (by omega) hR _ _ _ hE (lv_sub hl [1, 2, 3, 4, 5, 6, 0] rfl)
                  · have hR : m_copy p1 p2 p3 p4 p5 Z = (m_copy_k89 Z) := hR.trans (congrArg (fun z => z) (if_neg c85))
                    exact hJ89  hR _ _ _ hE (lv_sub hl [0] rfl)
        · have hR : m_copy p1 p2 p3 p4 p5 Z = (m_copy_k34 Z) := hR.trans (congrArg (fun z => z) (if_neg c31))
          exact hJ34  hR _ _ _ hE (lv_sub hl [0] rfl)
    · have hR : m_copy p1 p2 p3 p4 p5 Z = ((-1 : Int32), Z) := hR.trans (congrArg (fun z => z) (if_pos c11))
      refine lv_iconst (v := -1) hx hb dX1_copy_14 rfl ?_
      exact hret (-1 : Int32) Z hR rfl hE (Nat.le_refl 0) (Nat.le_refl 0) dX1_copy_15
def m_at (p1 : Nat) (p2 : Nat) (Z : ZT) : Int32 := (if Z.1 5 p1 ≤ nI p2 then (0 : Int32) else Z.1 6 ((60 * p1) + p2))
set_option maxHeartbeats 4000000 in
set_option maxRecDepth 100000 in
theorem met_m_at (l : Launch) (D : va_G) (cs : Nat → ClassId) (m : Nat) (ar : Nat → Nat) (Z : ZT) (sz : Nat) (p1 : Nat) (p2 : Nat) (hn1 : p1 < 4) (hn2 : p2 < 1000) (hT : (Z.1 5 p1).toInt ≤ 60) : Met l yX1_at (ws_ yX1_at cX1_at 3 (some .int)) ({ frames := 0, cells := 0, slots := 0, locals := 0 }) (va_Pc [.ref m, .int (nI p1), .int (nI p2)] (wSt D cs (MW m ar cs Z) sz)) (cQi (fun (v : Int32) (_ : Unit) => m_at p1 p2 Z = v) D (fun _ => (MW m ar cs Z)) (MW m ar cs Z) sz) 0 0 (va_A (MW m ar cs Z) sz) := by
  refine gStart_i (C := RX1) rfl rfl (Nat.le_of_ble_eq_true rfl) ?_
  intro p e s mid args below meth c R Q A hx hb hml hown hts hK hA hRf hRl hRc hRs hret hE ls hl
  have hRf : 0 ≤ R.frames := hRf
  have hRl : 0 ≤ R.locals := hRl
  have hl : lv_has ls 3 [(0, .ref m), (1, .int (nI p1)), (2, .int (nI p2))] := hl
  have hR : m_at p1 p2 Z = (if Z.1 5 p1 ≤ nI p2 then (0 : Int32) else Z.1 6 ((60 * p1) + p2)) := rfl
  refine lv_iload_n hx hb dX1_at_0 rfl (lv_at hl 2 rfl) ?_
  refine lv_aload_n hx hb dX1_at_1 rfl (lv_at hl 0 rfl) ?_
  refine mg_5 hx hb hts hown hK hE dX1_at_2 ?_
  refine lv_iload_n hx hb dX1_at_5 rfl (lv_at hl 1 rfl) ?_
  refine ma_5 (n := p1) (by omega) hx hb hK hE dX1_at_6 ?_
  refine lv_icmp_ge (tgt := 24) hx hb dX1_at_7 (by decide) (fun c7 => ?_) (fun c7 => ?_)
  · have hR : m_at p1 p2 Z = (0 : Int32) := hR.trans (congrArg (fun z => z) (if_pos c7))
    refine lv_iconst (v := 0) hx hb dX1_at_24 rfl ?_
    exact hret (0 : Int32) () hR rfl hE (Nat.le_refl 0) (Nat.le_refl 0) dX1_at_25
  · have hR : m_at p1 p2 Z = (Z.1 6 ((60 * p1) + p2)) := hR.trans (congrArg (fun z => z) (if_neg c7))
    have hb2 : p2 < 60 := nlt_of c7 (by omega) hT
    refine lv_aload_n hx hb dX1_at_10 rfl (lv_at hl 0 rfl) ?_
    refine mg_6 hx hb hts hown hK hE dX1_at_11 ?_
    refine lv_bipush (v := 60) hx hb dX1_at_14 rfl ?_
    refine lv_iload_n hx hb dX1_at_16 rfl (lv_at hl 1 rfl) ?_
    refine n_mul (a := 60) (b := p1) hx hb dX1_at_17 ?_
    refine lv_iload_n hx hb dX1_at_18 rfl (lv_at hl 2 rfl) ?_
    refine n_add (a := (60 * p1)) (b := p2) hx hb dX1_at_19 ?_
    refine ma_6 (n := ((60 * p1) + p2)) (by omega) hx hb hK hE dX1_at_20 ?_
    refine lv_goto (tgt := 25) hx hb dX1_at_21 (by decide) ?_
    exact hret (Z.1 6 ((60 * p1) + p2)) () hR rfl hE (Nat.le_refl 0) (Nat.le_refl 0) dX1_at_25
section C_at
variable {p : Program} {l : Launch} {e : Env} {R : Room} {s : State} {mid : MethodId} {args : Array Value} {below : List Frame} {meth : Method} {c : Code} {H : Heap} {locs : List Loc} {Q : State → Prop} {cc : ByteArray} {pc : Nat} {ls : Array Slot} {rest : List Value} {D : va_G} {A : Nat → Prop} {m : Nat} {ar : Nat → Nat} {cs : Nat → ClassId} {Z : ZT} {nL : Nat}
theorem call_m_at (hx : p.tables.exec = Jvm.exec) (hb : c.code = cc) (hml : c.maxLocals = nL) (hown : s.vm.findClass RX1 = some mid.cls) (hts : ∀ w ∈ lw_all, w.before args s = true) (hK : KK D cs s) (hA : ∀ q : Nat, s.heap.size ≤ q → A q) (hE : EW D A s.heap (MW m ar cs Z) H locs) (hls : ls.size = nL) (p1 : Nat) (p2 : Nat) (hn1 : p1 < 4) (hn2 : p2 < 1000) (hT : (Z.1 5 p1).toInt ≤ 60) (h1 : 1 ≤ R.frames) (h2 : 22 ≤ R.locals) (h3 : (rest.map fun v => v.category).sum ≤ 8) (hd : decode cc pc = .ok (.invokevirtual 123, 3)) (kk : ∀ (H1 : Heap) (locs1 : List Loc), EW D A s.heap (MW m ar cs Z) H1 locs1 → W p l e R s mid args below meth c H1 locs1 0 0 Q (F0 mid (pc + 3) ls (.int (m_at p1 p2 Z) :: rest))) : W p l e R s mid args below meth c H locs 0 0 Q (F0 mid pc ls (.int (nI p2) :: .int (nI p1) :: .ref m :: rest)) :=
  gCall_i (As := [.int (nI p1), .int (nI p2)]) (rest := rest) (q0 := 0) (ci := 1) (fs := MF ar Z) (T' := TX1) (N' := 52) hx hb hml hown hts hK hA hE hls (met_m_at l D cs m ar Z H.size p1 p2 hn1 hn2 hT) (cwV 2 hts (lw_V q1131 q1133 qs42 q85 q1134) rfl rfl rfl (by decide +kernel) ⟨h1, h2⟩) rfl rfl rfl rfl h3 hd ⟨Nat.zero_le _, Nat.zero_le _⟩ (fun v u H1 locs1 hp _ hE => by subst hp; exact kk H1 locs1 hE)
end C_at
def m_isLetter (p1 : Nat) (p2 : Nat) (Z : ZT) : Int32 := (m_in (m_at p1 p2 Z) (97 : Int32) (104 : Int32))
set_option maxHeartbeats 4000000 in
set_option maxRecDepth 100000 in
theorem met_m_isLetter (l : Launch) (D : va_G) (cs : Nat → ClassId) (m : Nat) (ar : Nat → Nat) (Z : ZT) (sz : Nat) (p1 : Nat) (p2 : Nat) (hn1 : p1 < 4) (hn2 : p2 < 1000) (hT : (Z.1 5 p1).toInt ≤ 60) : Met l yX1_isLetter (ws_ yX1_isLetter cX1_isLetter 3 (some .boolean)) ({ frames := 1, cells := 0, slots := 0, locals := 22 }) (va_Pc [.ref m, .int (nI p1), .int (nI p2)] (wSt D cs (MW m ar cs Z) sz)) (cQi (fun (v : Int32) (_ : Unit) => m_isLetter p1 p2 Z = v) D (fun _ => (MW m ar cs Z)) (MW m ar cs Z) sz) 0 0 (va_A (MW m ar cs Z) sz) := by
  refine gStart_i (C := RX1) rfl rfl (Nat.le_of_ble_eq_true rfl) ?_
  intro p e s mid args below meth c R Q A hx hb hml hown hts hK hA hRf hRl hRc hRs hret hE ls hl
  have hRf : 1 ≤ R.frames := hRf
  have hRl : 22 ≤ R.locals := hRl
  have hl : lv_has ls 3 [(0, .ref m), (1, .int (nI p1)), (2, .int (nI p2))] := hl
  have hR : m_isLetter p1 p2 Z = (m_in (m_at p1 p2 Z) (97 : Int32) (104 : Int32)) := rfl
  refine lv_aload_n hx hb dX1_isLetter_0 rfl (lv_at hl 0 rfl) ?_
  refine lv_iload_n hx hb dX1_isLetter_1 rfl (lv_at hl 1 rfl) ?_
  refine lv_iload_n hx hb dX1_isLetter_2 rfl (lv_at hl 2 rfl) ?_
  refine call_m_at hx hb hml hown hts hK hA hE hl.1 p1 p2 (by omega) (by omega) (by assumption) (lz (show 1 ≤ 1 by decide) hRf) (lz (show 22 ≤ 22 by decide) hRl) (Nat.le_of_ble_eq_true rfl) dX1_isLetter_3 (fun H locs hE => ?_)
  refine lv_bipush (v := 97) hx hb dX1_isLetter_6 rfl ?_
  refine lv_bipush (v := 104) hx hb dX1_isLetter_8 rfl ?_
  refine call_m_in hx hb hml hown hts hK hA hE hl.1 (m_at p1 p2 Z) (97 : Int32) (104 : Int32) (lz (show 1 ≤ 1 by decide) hRf) (lz (show 22 ≤ 22 by decide) hRl) (Nat.le_of_ble_eq_true rfl) dX1_isLetter_10 (fun H locs hE => ?_)
  exact hret (m_in (m_at p1 p2 Z) (97 : Int32) (104 : Int32)) () hR (nrw_bool (by first | assumption | exact m_in_01 _ _ _)) hE (Nat.le_refl 0) (Nat.le_refl 0) dX1_isLetter_13
section C_isLetter
variable {p : Program} {l : Launch} {e : Env} {R : Room} {s : State} {mid : MethodId} {args : Array Value} {below : List Frame} {meth : Method} {c : Code} {H : Heap} {locs : List Loc} {Q : State → Prop} {cc : ByteArray} {pc : Nat} {ls : Array Slot} {rest : List Value} {D : va_G} {A : Nat → Prop} {m : Nat} {ar : Nat → Nat} {cs : Nat → ClassId} {Z : ZT} {nL : Nat}
theorem call_m_isLetter (hx : p.tables.exec = Jvm.exec) (hb : c.code = cc) (hml : c.maxLocals = nL) (hown : s.vm.findClass RX1 = some mid.cls) (hts : ∀ w ∈ lw_all, w.before args s = true) (hK : KK D cs s) (hA : ∀ q : Nat, s.heap.size ≤ q → A q) (hE : EW D A s.heap (MW m ar cs Z) H locs) (hls : ls.size = nL) (p1 : Nat) (p2 : Nat) (hn1 : p1 < 4) (hn2 : p2 < 1000) (hT : (Z.1 5 p1).toInt ≤ 60) (h1 : 2 ≤ R.frames) (h2 : 44 ≤ R.locals) (h3 : (rest.map fun v => v.category).sum ≤ 8) (hd : decode cc pc = .ok (.invokevirtual 134, 3)) (kk : ∀ (H1 : Heap) (locs1 : List Loc), EW D A s.heap (MW m ar cs Z) H1 locs1 → W p l e R s mid args below meth c H1 locs1 0 0 Q (F0 mid (pc + 3) ls (.int (m_isLetter p1 p2 Z) :: rest))) : W p l e R s mid args below meth c H locs 0 0 Q (F0 mid pc ls (.int (nI p2) :: .int (nI p1) :: .ref m :: rest)) :=
  gCall_i (As := [.int (nI p1), .int (nI p2)]) (rest := rest) (q0 := 0) (ci := 1) (fs := MF ar Z) (T' := TX1) (N' := 52) hx hb hml hown hts hK hA hE hls (met_m_isLetter l D cs m ar Z H.size p1 p2 hn1 hn2 hT) (cwV 2 hts (lw_V q1139 q1141 qs44 q85 q1142) rfl rfl rfl (by decide +kernel) ⟨h1, h2⟩) rfl rfl rfl rfl h3 hd ⟨Nat.zero_le _, Nat.zero_le _⟩ (fun v u H1 locs1 hp _ hE => by subst hp; exact kk H1 locs1 hE)
end C_isLetter
def m_isDigit (p1 : Nat) (p2 : Nat) (Z : ZT) : Int32 := (m_in (m_at p1 p2 Z) (48 : Int32) (57 : Int32))
set_option maxHeartbeats 4000000 in
set_option maxRecDepth 100000 in
theorem met_m_isDigit (l : Launch) (D : va_G) (cs : Nat → ClassId) (m : Nat) (ar : Nat → Nat) (Z : ZT) (sz : Nat) (p1 : Nat) (p2 : Nat) (hn1 : p1 < 4) (hn2 : p2 < 1000) (hT : (Z.1 5 p1).toInt ≤ 60) : Met l yX1_isDigit (ws_ yX1_isDigit cX1_isDigit 3 (some .boolean)) ({ frames := 1, cells := 0, slots := 0, locals := 22 }) (va_Pc [.ref m, .int (nI p1), .int (nI p2)] (wSt D cs (MW m ar cs Z) sz)) (cQi (fun (v : Int32) (_ : Unit) => m_isDigit p1 p2 Z = v) D (fun _ => (MW m ar cs Z)) (MW m ar cs Z) sz) 0 0 (va_A (MW m ar cs Z) sz) := by
  refine gStart_i (C := RX1) rfl rfl (Nat.le_of_ble_eq_true rfl) ?_
  intro p e s mid args below meth c R Q A hx hb hml hown hts hK hA hRf hRl hRc hRs hret hE ls hl
  have hRf : 1 ≤ R.frames := hRf
  have hRl : 22 ≤ R.locals := hRl
  have hl : lv_has ls 3 [(0, .ref m), (1, .int (nI p1)), (2, .int (nI p2))] := hl
  have hR : m_isDigit p1 p2 Z = (m_in (m_at p1 p2 Z) (48 : Int32) (57 : Int32)) := rfl
  refine lv_aload_n hx hb dX1_isDigit_0 rfl (lv_at hl 0 rfl) ?_
  refine lv_iload_n hx hb dX1_isDigit_1 rfl (lv_at hl 1 rfl) ?_
  refine lv_iload_n hx hb dX1_isDigit_2 rfl (lv_at hl 2 rfl) ?_
  refine call_m_at hx hb hml hown hts hK hA hE hl.1 p1 p2 (by omega) (by omega) (by assumption) (lz (show 1 ≤ 1 by decide) hRf) (lz (show 22 ≤ 22 by decide) hRl) (Nat.le_of_ble_eq_true rfl) dX1_isDigit_3 (fun H locs hE => ?_)
  refine lv_bipush (v := 48) hx hb dX1_isDigit_6 rfl ?_
  refine lv_bipush (v := 57) hx hb dX1_isDigit_8 rfl ?_
  refine call_m_in hx hb hml hown hts hK hA hE hl.1 (m_at p1 p2 Z) (48 : Int32) (57 : Int32) (lz (show 1 ≤ 1 by decide) hRf) (lz (show 22 ≤ 22 by decide) hRl) (Nat.le_of_ble_eq_true rfl) dX1_isDigit_10 (fun H locs hE => ?_)
  exact hret (m_in (m_at p1 p2 Z) (48 : Int32) (57 : Int32)) () hR (nrw_bool (by first | assumption | exact m_in_01 _ _ _)) hE (Nat.le_refl 0) (Nat.le_refl 0) dX1_isDigit_13
section C_isDigit
variable {p : Program} {l : Launch} {e : Env} {R : Room} {s : State} {mid : MethodId} {args : Array Value} {below : List Frame} {meth : Method} {c : Code} {H : Heap} {locs : List Loc} {Q : State → Prop} {cc : ByteArray} {pc : Nat} {ls : Array Slot} {rest : List Value} {D : va_G} {A : Nat → Prop} {m : Nat} {ar : Nat → Nat} {cs : Nat → ClassId} {Z : ZT} {nL : Nat}
theorem call_m_isDigit (hx : p.tables.exec = Jvm.exec) (hb : c.code = cc) (hml : c.maxLocals = nL) (hown : s.vm.findClass RX1 = some mid.cls) (hts : ∀ w ∈ lw_all, w.before args s = true) (hK : KK D cs s) (hA : ∀ q : Nat, s.heap.size ≤ q → A q) (hE : EW D A s.heap (MW m ar cs Z) H locs) (hls : ls.size = nL) (p1 : Nat) (p2 : Nat) (hn1 : p1 < 4) (hn2 : p2 < 1000) (hT : (Z.1 5 p1).toInt ≤ 60) (h1 : 2 ≤ R.frames) (h2 : 44 ≤ R.locals) (h3 : (rest.map fun v => v.category).sum ≤ 8) (hd : decode cc pc = .ok (.invokevirtual 130, 3)) (kk : ∀ (H1 : Heap) (locs1 : List Loc), EW D A s.heap (MW m ar cs Z) H1 locs1 → W p l e R s mid args below meth c H1 locs1 0 0 Q (F0 mid (pc + 3) ls (.int (m_isDigit p1 p2 Z) :: rest))) : W p l e R s mid args below meth c H locs 0 0 Q (F0 mid pc ls (.int (nI p2) :: .int (nI p1) :: .ref m :: rest)) :=
  gCall_i (As := [.int (nI p1), .int (nI p2)]) (rest := rest) (q0 := 0) (ci := 1) (fs := MF ar Z) (T' := TX1) (N' := 52) hx hb hml hown hts hK hA hE hls (met_m_isDigit l D cs m ar Z H.size p1 p2 hn1 hn2 hT) (cwV 2 hts (lw_V q1147 q1149 qs46 q85 q1150) rfl rfl rfl (by decide +kernel) ⟨h1, h2⟩) rfl rfl rfl rfl h3 hd ⟨Nat.zero_le _, Nat.zero_le _⟩ (fun v u H1 locs1 hp _ hE => by subst hp; exact kk H1 locs1 hE)
end C_isDigit
def m_drop_c15 (p1 : Int32) (wc15 : ZT) : Int32 × ZT := ((1 : Int32), sI wc15 13 (ix p1) (vp_nar .boolean (0 : Int32)))
def m_drop_c3 (p1 : Int32) (wc3 : Int32 × ZT) : Int32 × ZT := (if 0 ≤ wc3.1 then m_drop_c15 p1 (m_unlink (ix p1) wc3.2) else (wc3.1, wc3.2))
def m_drop (p1 : Int32) (Z : ZT) : Int32 × ZT := m_drop_c3 p1 (m_need (1 : Int32) p1 Z)
set_option maxHeartbeats 4000000 in
set_option maxRecDepth 100000 in
theorem met_m_drop (l : Launch) (D : va_G) (cs : Nat → ClassId) (m : Nat) (ar : Nat → Nat) (Z : ZT) (sz : Nat) (p1 : Int32) : Met l yX1_drop (ws_ yX1_drop cX1_drop 3 (some .int)) ({ frames := 3, cells := 0, slots := 0, locals := 64 }) (va_Pc [.ref m, .int p1] (wSt D cs (MW m ar cs Z) sz)) (cQi (fun (v : Int32) (u : ZT) => m_drop p1 Z = (v, u)) D (fun u => MW m ar cs u) (MW m ar cs Z) sz) 0 0 (va_A (MW m ar cs Z) sz) := by
  refine gStart_i (C := RX1) rfl rfl (Nat.le_of_ble_eq_true rfl) ?_
  intro p e s mid args below meth c R Q A hx hb hml hown hts hK hA hRf hRl hRc hRs hret hE ls hl
  have hRf : 3 ≤ R.frames := hRf
  have hRl : 64 ≤ R.locals := hRl
  have hl : lv_has ls 3 [(0, .ref m), (1, .int p1)] := hl
  have hR : m_drop p1 Z = (m_drop_c3 p1 (m_need (1 : Int32) p1 Z)) := rfl
  refine lv_aload_n hx hb dX1_drop_0 rfl (lv_at hl 0 rfl) ?_
  refine lv_iconst (v := 1) hx hb dX1_drop_1 rfl ?_
  refine lv_iload_n hx hb dX1_drop_2 rfl (lv_at hl 1 rfl) ?_
  refine call_m_need hx hb hml hown hts hK hA hE hl.1 (1 : Int32) p1 (lz (show 3 ≤ 3 by decide) hRf) (lz (show 64 ≤ 64 by decide) hRl) (Nat.le_of_ble_eq_true rfl) dX1_drop_3 (fun H locs hE => ?_)
  have hNc3 : ∀ (wc3 : Int32 × ZT) (hewc3 : wc3 = m_need (1 : Int32) p1 Z) (hR : m_drop p1 Z = m_drop_c3 p1 wc3), ∀ (H : Heap) (locs : List Loc) (ls : Array Slot), EW D A s.heap (MW m ar cs wc3.2) H locs → lv_has ls 3 [(0, .ref m), (1, .int p1)] → W p l e R s mid args below meth c H locs 0 0 Q (F0 mid 6 ls [.int wc3.1]) := by
    intro wc3 hewc3 hR H locs ls hE hl
    have hR : m_drop p1 Z = (if 0 ≤ wc3.1 then m_drop_c15 p1 (m_unlink (ix p1) wc3.2) else (wc3.1, wc3.2)) := hR
    refine lv_istore_n (lv' := [(2, .int wc3.1), (0, .ref m), (1, .int p1)]) hx hb dX1_drop_6 rfl hl (by decide) rfl (fun ls hl => ?_)
    refine lv_iload_n hx hb dX1_drop_7 rfl (lv_at hl 0 rfl) ?_
    refine lv_if_ge (tgt := 13) hx hb dX1_drop_8 (by decide) (fun c8 => ?_) (fun c8 => ?_)
    · have hR : m_drop p1 Z = (m_drop_c15 p1 (m_unlink (ix p1) wc3.2)) := hR.trans (congrArg (fun z => z) (if_pos c8))
      have hnp1 := vp_ix (x := p1) (N := 8) ((need_ok (by rw [← hewc3]; exact c8)).1) (by decide)
      have hbnp1 := hnp1.2
      refine lv_aload_n hx hb dX1_drop_13 rfl (lv_at hl 1 rfl) ?_
      refine lv_iload_n hx hb dX1_drop_14 rfl (lv_at hl 2 rfl) ?_
      refine top_nat hnp1.1 ?_
      refine call_m_unlink hx hb hml hown hts hK hA hE hl.1 (ix p1) (by omega) (lz (show 2 ≤ 3 by decide) hRf) (lz (show 47 ≤ 64 by decide) hRl) (Nat.le_of_ble_eq_true rfl) dX1_drop_15 (fun H locs hE => ?_)
      have hNc15 : ∀ (wc15 : ZT) (hewc15 : wc15 = m_unlink (ix p1) wc3.2) (hR : m_drop p1 Z = m_drop_c15 p1 wc15), ∀ (H : Heap) (locs : List Loc) (ls : Array Slot), EW D A s.heap (MW m ar cs wc15) H locs → lv_has ls 3 [(0, .ref m), (1, .int p1)] → W p l e R s mid args below meth c H locs 0 0 Q (F0 mid 18 ls []) := by
        intro wc15 hewc15 hR H locs ls hE hl
        have hR : m_drop p1 Z = ((1 : Int32), sI wc15 13 (ix p1) (vp_nar .boolean (0 : Int32))) := hR
        refine lv_aload_n hx hb dX1_drop_18 rfl (lv_at hl 0 rfl) ?_
        refine mg_13 hx hb hts hown hK hE dX1_drop_19 ?_
        refine lv_iload_n hx hb dX1_drop_22 rfl (lv_at hl 1 rfl) ?_
        refine top_nat hnp1.1 ?_
        refine lv_iconst (v := 0) hx hb dX1_drop_23 rfl ?_
        refine ms_13 (n := (ix p1)) (by omega) hx hb hK hE dX1_drop_24 (fun H locs hE => ?_)
        refine lv_iconst (v := 1) hx hb dX1_drop_25 rfl ?_
        exact hret (1 : Int32) (sI wc15 13 (ix p1) (vp_nar .boolean (0 : Int32))) hR rfl hE (Nat.le_refl 0) (Nat.le_refl 0) dX1_drop_26
      exact hNc15 (m_unlink (ix p1) wc3.2) rfl hR _ _ _ hE (lv_sub hl [1, 2] rfl)
    · have hR : m_drop p1 Z = (wc3.1, wc3.2) := hR.trans (congrArg (fun z => z) (if_neg c8))
      refine lv_iload_n hx hb dX1_drop_11 rfl (lv_at hl 0 rfl) ?_
      exact hret wc3.1 wc3.2 hR rfl hE (Nat.le_refl 0) (Nat.le_refl 0) dX1_drop_12
  exact hNc3 (m_need (1 : Int32) p1 Z) rfl hR _ _ _ hE (lv_sub hl [0, 1] rfl)
def m_stock_c9 (p1 : Int32) (p2 : Int32) (wc9 : Int32 × ZT) : Int32 × ZT := (if 0 ≤ wc9.1 then (wc9.2.1 15 (ix p1), sI wc9.2 15 (ix p1) p2) else (wc9.1, wc9.2))
def m_stock (p1 : Int32) (p2 : Int32) (Z : ZT) : Int32 × ZT := m_stock_c9 p1 p2 (m_need (m_in p2 (0 : Int32) (100000 : Int32)) p1 Z)
set_option maxHeartbeats 4000000 in
set_option maxRecDepth 100000 in
theorem met_m_stock (l : Launch) (D : va_G) (cs : Nat → ClassId) (m : Nat) (ar : Nat → Nat) (Z : ZT) (sz : Nat) (p1 : Int32) (p2 : Int32) : Met l yX1_stock (ws_ yX1_stock cX1_stock 5 (some .int)) ({ frames := 3, cells := 0, slots := 0, locals := 64 }) (va_Pc [.ref m, .int p1, .int p2] (wSt D cs (MW m ar cs Z) sz)) (cQi (fun (v : Int32) (u : ZT) => m_stock p1 p2 Z = (v, u)) D (fun u => MW m ar cs u) (MW m ar cs Z) sz) 0 0 (va_A (MW m ar cs Z) sz) := by
  refine gStart_i (C := RX1) rfl rfl (Nat.le_of_ble_eq_true rfl) ?_
  intro p e s mid args below meth c R Q A hx hb hml hown hts hK hA hRf hRl hRc hRs hret hE ls hl
  have hRf : 3 ≤ R.frames := hRf
  have hRl : 64 ≤ R.locals := hRl
  have hl : lv_has ls 5 [(0, .ref m), (1, .int p1), (2, .int p2)] := hl
  have hR : m_stock p1 p2 Z = (m_stock_c9 p1 p2 (m_need (m_in p2 (0 : Int32) (100000 : Int32)) p1 Z)) := rfl
  refine lv_aload_n hx hb dX1_stock_0 rfl (lv_at hl 0 rfl) ?_
  refine lv_iload_n hx hb dX1_stock_1 rfl (lv_at hl 2 rfl) ?_
  refine lv_iconst (v := 0) hx hb dX1_stock_2 rfl ?_
  refine lv_ldc (v := 100000) hx hb hown (hts _ q1151) dX1_stock_3 ?_
  refine call_m_in hx hb hml hown hts hK hA hE hl.1 p2 (0 : Int32) (100000 : Int32) (lz (show 1 ≤ 3 by decide) hRf) (lz (show 22 ≤ 64 by decide) hRl) (Nat.le_of_ble_eq_true rfl) dX1_stock_5 (fun H locs hE => ?_)
  refine lv_iload_n hx hb dX1_stock_8 rfl (lv_at hl 1 rfl) ?_
  refine call_m_need hx hb hml hown hts hK hA hE hl.1 (m_in p2 (0 : Int32) (100000 : Int32)) p1 (lz (show 3 ≤ 3 by decide) hRf) (lz (show 64 ≤ 64 by decide) hRl) (Nat.le_of_ble_eq_true rfl) dX1_stock_9 (fun H locs hE => ?_)
  have hNc9 : ∀ (wc9 : Int32 × ZT) (hewc9 : wc9 = m_need (m_in p2 (0 : Int32) (100000 : Int32)) p1 Z) (hR : m_stock p1 p2 Z = m_stock_c9 p1 p2 wc9), ∀ (H : Heap) (locs : List Loc) (ls : Array Slot), EW D A s.heap (MW m ar cs wc9.2) H locs → lv_has ls 5 [(0, .ref m), (1, .int p1), (2, .int p2)] → W p l e R s mid args below meth c H locs 0 0 Q (F0 mid 12 ls [.int wc9.1]) := by
    intro wc9 hewc9 hR H locs ls hE hl
    have hR : m_stock p1 p2 Z = (if 0 ≤ wc9.1 then (wc9.2.1 15 (ix p1), sI wc9.2 15 (ix p1) p2) else (wc9.1, wc9.2)) := hR
    refine lv_istore_n (lv' := [(3, .int wc9.1), (0, .ref m), (1, .int p1), (2, .int p2)]) hx hb dX1_stock_12 rfl hl (by decide) rfl (fun ls hl => ?_)
    refine lv_iload_n hx hb dX1_stock_13 rfl (lv_at hl 0 rfl) ?_
    refine lv_if_ge (tgt := 19) hx hb dX1_stock_14 (by decide) (fun c14 => ?_) (fun c14 => ?_)
    · have hR : m_stock p1 p2 Z = (wc9.2.1 15 (ix p1), sI wc9.2 15 (ix p1) p2) := hR.trans (congrArg (fun z => z) (if_pos c14))
      have hnp1 := vp_ix (x := p1) (N := 8) ((need_ok (by rw [← hewc9]; exact c14)).1) (by decide)
      have hbnp1 := hnp1.2
      refine lv_aload_n hx hb dX1_stock_19 rfl (lv_at hl 1 rfl) ?_
      refine mg_15 hx hb hts hown hK hE dX1_stock_20 ?_
      refine lv_iload_n hx hb dX1_stock_23 rfl (lv_at hl 2 rfl) ?_
      refine top_nat hnp1.1 ?_
      refine ma_15 (n := (ix p1)) (by omega) hx hb hK hE dX1_stock_24 ?_
      refine lv_istore (lv' := [(4, .int (wc9.2.1 15 (ix p1))), (3, .int wc9.1), (0, .ref m), (1, .int p1), (2, .int p2)]) hx hb dX1_stock_25 hl (by decide) rfl (fun ls hl => ?_)
      refine lv_aload_n hx hb dX1_stock_27 rfl (lv_at hl 2 rfl) ?_
      refine mg_15 hx hb hts hown hK hE dX1_stock_28 ?_
      refine lv_iload_n hx hb dX1_stock_31 rfl (lv_at hl 3 rfl) ?_
      refine top_nat hnp1.1 ?_
      refine lv_iload_n hx hb dX1_stock_32 rfl (lv_at hl 4 rfl) ?_
      refine ms_15 (n := (ix p1)) (by omega) hx hb hK hE dX1_stock_33 (fun H locs hE => ?_)
      refine lv_iload hx hb dX1_stock_34 (lv_at hl 0 rfl) ?_
      exact hret (wc9.2.1 15 (ix p1)) (sI wc9.2 15 (ix p1) p2) hR rfl hE (Nat.le_refl 0) (Nat.le_refl 0) dX1_stock_36
    · have hR : m_stock p1 p2 Z = (wc9.1, wc9.2) := hR.trans (congrArg (fun z => z) (if_neg c14))
      refine lv_iload_n hx hb dX1_stock_17 rfl (lv_at hl 0 rfl) ?_
      exact hret wc9.1 wc9.2 hR rfl hE (Nat.le_refl 0) (Nat.le_refl 0) dX1_stock_18
  exact hNc9 (m_need (m_in p2 (0 : Int32) (100000 : Int32)) p1 Z) rfl hR _ _ _ hE (lv_sub hl [0, 1, 2] rfl)
def m_plant_c28 (p1 : Int32) (p2 : Int32) (p3 : Int32) (wc28 : Int32 × ZT) : Int32 × ZT := (if 0 ≤ wc28.1 then (if wc28.2.1 14 (ix p1) = (1 : Int32) then ((1 : Int32), sI (sI wc28.2 17 (ix p1) p2) 18 (ix p1) p3) else (m_meets 3 wc28.2)) else (wc28.1, wc28.2))
def m_plant_j27 (p1 : Int32) (p2 : Int32) (p3 : Int32) (Z : ZT) (w27 : Int32) : Int32 × ZT := m_plant_c28 p1 p2 p3 (m_need w27 p1 Z)
def m_plant (p1 : Int32) (p2 : Int32) (p3 : Int32) (Z : ZT) : Int32 × ZT := m_plant_j27 p1 p2 p3 Z (if (m_in p2 (0 : Int32) (1000 : Int32)) = 0 then (0 : Int32) else (if (m_in p3 (1 : Int32) (100000 : Int32)) = 0 then (0 : Int32) else (1 : Int32)))
set_option maxHeartbeats 4000000 in
set_option maxRecDepth 100000 in
theorem met_m_plant (l : Launch) (D : va_G) (cs : Nat → ClassId) (m : Nat) (ar : Nat → Nat) (Z : ZT) (sz : Nat) (p1 : Int32) (p2 : Int32) (p3 : Int32) : Met l yX1_plant (ws_ yX1_plant cX1_plant 5 (some .int)) ({ frames := 3, cells := 0, slots := 0, locals := 64 }) (va_Pc [.ref m, .int p1, .int p2, .int p3] (wSt D cs (MW m ar cs Z) sz)) (cQi (fun (v : Int32) (u : ZT) => m_plant p1 p2 p3 Z = (v, u)) D (fun u => MW m ar cs u) (MW m ar cs Z) sz) 0 0 (va_A (MW m ar cs Z) sz) := by
  refine gStart_i (C := RX1) rfl rfl (Nat.le_of_ble_eq_true rfl) ?_
  intro p e s mid args below meth c R Q A hx hb hml hown hts hK hA hRf hRl hRc hRs hret hE ls hl
  have hRf : 3 ≤ R.frames := hRf
  have hRl : 64 ≤ R.locals := hRl
  have hl : lv_has ls 5 [(0, .ref m), (1, .int p1), (2, .int p2), (3, .int p3)] := hl
  have hR : m_plant p1 p2 p3 Z = (m_plant_j27 p1 p2 p3 Z (if (m_in p2 (0 : Int32) (1000 : Int32)) = 0 then (0 : Int32) else (if (m_in p3 (1 : Int32) (100000 : Int32)) = 0 then (0 : Int32) else (1 : Int32)))) := rfl
  refine lv_aload_n hx hb dX1_plant_0 rfl (lv_at hl 0 rfl) ?_
  refine lv_iload_n hx hb dX1_plant_1 rfl (lv_at hl 2 rfl) ?_
  refine lv_iconst (v := 0) hx hb dX1_plant_2 rfl ?_
  refine lv_sipush (v := 1000) hx hb dX1_plant_3 rfl ?_
  refine call_m_in hx hb hml hown hts hK hA hE hl.1 p2 (0 : Int32) (1000 : Int32) (lz (show 1 ≤ 3 by decide) hRf) (lz (show 22 ≤ 64 by decide) hRl) (Nat.le_of_ble_eq_true rfl) dX1_plant_6 (fun H locs hE => ?_)
  have hJ27 : ∀ (w27 : Int32) (hR : m_plant p1 p2 p3 Z = m_plant_j27 p1 p2 p3 Z w27), ∀ (H : Heap) (locs : List Loc) (ls : Array Slot), EW D A s.heap (MW m ar cs Z) H locs → lv_has ls 5 [(0, .ref m), (1, .int p1), (2, .int p2), (3, .int p3)] → W p l e R s mid args below meth c H locs 0 0 Q (F0 mid 27 ls [.int w27, .ref m]) := by
    intro w27 hR H locs ls hE hl
    have hR : m_plant p1 p2 p3 Z = (m_plant_c28 p1 p2 p3 (m_need w27 p1 Z)) := hR
    refine lv_iload_n hx hb dX1_plant_27 rfl (lv_at hl 1 rfl) ?_
    refine call_m_need hx hb hml hown hts hK hA hE hl.1 w27 p1 (lz (show 3 ≤ 3 by decide) hRf) (lz (show 64 ≤ 64 by decide) hRl) (Nat.le_of_ble_eq_true rfl) dX1_plant_28 (fun H locs hE => ?_)
    have hNc28 : ∀ (wc28 : Int32 × ZT) (hewc28 : wc28 = m_need w27 p1 Z) (hR : m_plant p1 p2 p3 Z = m_plant_c28 p1 p2 p3 wc28), ∀ (H : Heap) (locs : List Loc) (ls : Array Slot), EW D A s.heap (MW m ar cs wc28.2) H locs → lv_has ls 5 [(0, .ref m), (1, .int p1), (2, .int p2), (3, .int p3)] → W p l e R s mid args below meth c H locs 0 0 Q (F0 mid 31 ls [.int wc28.1]) := by
      intro wc28 hewc28 hR H locs ls hE hl
      have hR : m_plant p1 p2 p3 Z = (if 0 ≤ wc28.1 then (if wc28.2.1 14 (ix p1) = (1 : Int32) then ((1 : Int32), sI (sI wc28.2 17 (ix p1) p2) 18 (ix p1) p3) else (m_meets 3 wc28.2)) else (wc28.1, wc28.2)) := hR
      refine lv_istore (lv' := [(4, .int wc28.1), (0, .ref m), (1, .int p1), (2, .int p2), (3, .int p3)]) hx hb dX1_plant_31 hl (by decide) rfl (fun ls hl => ?_)
      refine lv_iload hx hb dX1_plant_33 (lv_at hl 0 rfl) ?_
      refine lv_if_ge (tgt := 41) hx hb dX1_plant_35 (by decide) (fun c35 => ?_) (fun c35 => ?_)
      · have hR : m_plant p1 p2 p3 Z = (if wc28.2.1 14 (ix p1) = (1 : Int32) then ((1 : Int32), sI (sI wc28.2 17 (ix p1) p2) 18 (ix p1) p3) else (m_meets 3 wc28.2)) := hR.trans (congrArg (fun z => z) (if_pos c35))
        have hnp1 := vp_ix (x := p1) (N := 8) ((need_ok (by rw [← hewc28]; exact c35)).1) (by decide)
        have hbnp1 := hnp1.2
        refine lv_aload_n hx hb dX1_plant_41 rfl (lv_at hl 1 rfl) ?_
        refine mg_14 hx hb hts hown hK hE dX1_plant_42 ?_
        refine lv_iload_n hx hb dX1_plant_45 rfl (lv_at hl 2 rfl) ?_
        refine top_nat hnp1.1 ?_
        refine ma_14 (n := (ix p1)) (by omega) hx hb hK hE dX1_plant_46 ?_
        refine lv_iconst (v := 1) hx hb dX1_plant_47 rfl ?_
        refine lv_icmp_eq (tgt := 57) hx hb dX1_plant_48 (by decide) (fun c48 => ?_) (fun c48 => ?_)
        · have hR : m_plant p1 p2 p3 Z = ((1 : Int32), sI (sI wc28.2 17 (ix p1) p2) 18 (ix p1) p3) := hR.trans (congrArg (fun z => z) (if_pos c48))
          refine lv_aload_n hx hb dX1_plant_57 rfl (lv_at hl 1 rfl) ?_
          refine mg_17 hx hb hts hown hK hE dX1_plant_58 ?_
          refine lv_iload_n hx hb dX1_plant_61 rfl (lv_at hl 2 rfl) ?_
          refine top_nat hnp1.1 ?_
          refine lv_iload_n hx hb dX1_plant_62 rfl (lv_at hl 3 rfl) ?_
          refine ms_17 (n := (ix p1)) (by omega) hx hb hK hE dX1_plant_63 (fun H locs hE => ?_)
          refine lv_aload_n hx hb dX1_plant_64 rfl (lv_at hl 1 rfl) ?_
          refine mg_18 hx hb hts hown hK hE dX1_plant_65 ?_
          refine lv_iload_n hx hb dX1_plant_68 rfl (lv_at hl 2 rfl) ?_
          refine top_nat hnp1.1 ?_
          refine lv_iload_n hx hb dX1_plant_69 rfl (lv_at hl 4 rfl) ?_
          refine ms_18 (n := (ix p1)) (by omega) hx hb hK hE dX1_plant_70 (fun H locs hE => ?_)
          refine lv_iconst (v := 1) hx hb dX1_plant_71 rfl ?_
          exact hret (1 : Int32) (sI (sI wc28.2 17 (ix p1) p2) 18 (ix p1) p3) hR rfl hE (Nat.le_refl 0) (Nat.le_refl 0) dX1_plant_72
        · have hR : m_plant p1 p2 p3 Z = (m_meets 3 wc28.2) := hR.trans (congrArg (fun z => z) (if_neg c48))
          refine lv_aload_n hx hb dX1_plant_51 rfl (lv_at hl 1 rfl) ?_
          refine lv_iconst (v := 3) hx hb dX1_plant_52 rfl ?_
          refine call_m_meets hx hb hml hown hts hK hA hE hl.1 3 (by omega) (lz (show 1 ≤ 3 by decide) hRf) (lz (show 21 ≤ 64 by decide) hRl) (Nat.le_of_ble_eq_true rfl) dX1_plant_53 (fun H locs hE => ?_)
          exact hret ((m_meets 3 wc28.2).1) ((m_meets 3 wc28.2).2) hR rfl hE (Nat.le_refl 0) (Nat.le_refl 0) dX1_plant_56
      · have hR : m_plant p1 p2 p3 Z = (wc28.1, wc28.2) := hR.trans (congrArg (fun z => z) (if_neg c35))
        refine lv_iload hx hb dX1_plant_38 (lv_at hl 0 rfl) ?_
        exact hret wc28.1 wc28.2 hR rfl hE (Nat.le_refl 0) (Nat.le_refl 0) dX1_plant_40
    exact hNc28 (m_need w27 p1 Z) rfl hR _ _ _ hE (lv_sub hl [0, 1, 2, 3] rfl)
  refine lv_if_eq (tgt := 26) hx hb dX1_plant_9 (by decide) (fun c9 => ?_) (fun c9 => ?_)
  · have hR : m_plant p1 p2 p3 Z = m_plant_j27 p1 p2 p3 Z (0 : Int32) := hR.trans (congrArg (fun z => m_plant_j27 p1 p2 p3 Z z) (if_pos c9))
    refine lv_iconst (v := 0) hx hb dX1_plant_26 rfl ?_
    exact hJ27 (0 : Int32)  hR _ _ _ hE (lv_sub hl [0, 1, 2, 3] rfl)
  · have hR : m_plant p1 p2 p3 Z = m_plant_j27 p1 p2 p3 Z (if (m_in p3 (1 : Int32) (100000 : Int32)) = 0 then (0 : Int32) else (1 : Int32)) := hR.trans (congrArg (fun z => m_plant_j27 p1 p2 p3 Z z) (if_neg c9))
    refine lv_iload_n hx hb dX1_plant_12 rfl (lv_at hl 3 rfl) ?_
    refine lv_iconst (v := 1) hx hb dX1_plant_13 rfl ?_
    refine lv_ldc (v := 100000) hx hb hown (hts _ q1151) dX1_plant_14 ?_
    refine call_m_in hx hb hml hown hts hK hA hE hl.1 p3 (1 : Int32) (100000 : Int32) (lz (show 1 ≤ 3 by decide) hRf) (lz (show 22 ≤ 64 by decide) hRl) (Nat.le_of_ble_eq_true rfl) dX1_plant_16 (fun H locs hE => ?_)
    refine lv_if_eq (tgt := 26) hx hb dX1_plant_19 (by decide) (fun c19 => ?_) (fun c19 => ?_)
    · have hR : m_plant p1 p2 p3 Z = m_plant_j27 p1 p2 p3 Z (0 : Int32) := hR.trans (congrArg (fun z => m_plant_j27 p1 p2 p3 Z z) (if_pos c19))
      refine lv_iconst (v := 0) hx hb dX1_plant_26 rfl ?_
      exact hJ27 (0 : Int32)  hR _ _ _ hE (lv_sub hl [0, 1, 2, 3] rfl)
    · have hR : m_plant p1 p2 p3 Z = m_plant_j27 p1 p2 p3 Z (1 : Int32) := hR.trans (congrArg (fun z => m_plant_j27 p1 p2 p3 Z z) (if_neg c19))
      refine lv_iconst (v := 1) hx hb dX1_plant_22 rfl ?_
      refine lv_goto (tgt := 27) hx hb dX1_plant_23 (by decide) ?_
      exact hJ27 (1 : Int32)  hR _ _ _ hE (lv_sub hl [0, 1, 2, 3] rfl)
def m_eater_c28 (p1 : Int32) (p2 : Int32) (p3 : Int32) (wc28 : Int32 × ZT) : Int32 × ZT := (if 0 ≤ wc28.1 then (if (m_eats (ix p1) wc28.2) = 0 then (m_meets 3 wc28.2) else ((1 : Int32), sI (sI wc28.2 19 (ix p1) p2) 20 (ix p1) p3)) else (wc28.1, wc28.2))
def m_eater_j27 (p1 : Int32) (p2 : Int32) (p3 : Int32) (Z : ZT) (w27 : Int32) : Int32 × ZT := m_eater_c28 p1 p2 p3 (m_need w27 p1 Z)
def m_eater (p1 : Int32) (p2 : Int32) (p3 : Int32) (Z : ZT) : Int32 × ZT := m_eater_j27 p1 p2 p3 Z (if (m_in p2 (0 : Int32) (1000 : Int32)) = 0 then (0 : Int32) else (if (m_in p3 (0 : Int32) (100 : Int32)) = 0 then (0 : Int32) else (1 : Int32)))
set_option maxHeartbeats 4000000 in
set_option maxRecDepth 100000 in
theorem met_m_eater (l : Launch) (D : va_G) (cs : Nat → ClassId) (m : Nat) (ar : Nat → Nat) (Z : ZT) (sz : Nat) (p1 : Int32) (p2 : Int32) (p3 : Int32) : Met l yX1_eater (ws_ yX1_eater cX1_eater 5 (some .int)) ({ frames := 3, cells := 0, slots := 0, locals := 64 }) (va_Pc [.ref m, .int p1, .int p2, .int p3] (wSt D cs (MW m ar cs Z) sz)) (cQi (fun (v : Int32) (u : ZT) => m_eater p1 p2 p3 Z = (v, u)) D (fun u => MW m ar cs u) (MW m ar cs Z) sz) 0 0 (va_A (MW m ar cs Z) sz) := by
  refine gStart_i (C := RX1) rfl rfl (Nat.le_of_ble_eq_true rfl) ?_
  intro p e s mid args below meth c R Q A hx hb hml hown hts hK hA hRf hRl hRc hRs hret hE ls hl
  have hRf : 3 ≤ R.frames := hRf
  have hRl : 64 ≤ R.locals := hRl
  have hl : lv_has ls 5 [(0, .ref m), (1, .int p1), (2, .int p2), (3, .int p3)] := hl
  have hR : m_eater p1 p2 p3 Z = (m_eater_j27 p1 p2 p3 Z (if (m_in p2 (0 : Int32) (1000 : Int32)) = 0 then (0 : Int32) else (if (m_in p3 (0 : Int32) (100 : Int32)) = 0 then (0 : Int32) else (1 : Int32)))) := rfl
  refine lv_aload_n hx hb dX1_eater_0 rfl (lv_at hl 0 rfl) ?_
  refine lv_iload_n hx hb dX1_eater_1 rfl (lv_at hl 2 rfl) ?_
  refine lv_iconst (v := 0) hx hb dX1_eater_2 rfl ?_
  refine lv_sipush (v := 1000) hx hb dX1_eater_3 rfl ?_
  refine call_m_in hx hb hml hown hts hK hA hE hl.1 p2 (0 : Int32) (1000 : Int32) (lz (show 1 ≤ 3 by decide) hRf) (lz (show 22 ≤ 64 by decide) hRl) (Nat.le_of_ble_eq_true rfl) dX1_eater_6 (fun H locs hE => ?_)
  have hJ27 : ∀ (w27 : Int32) (hR : m_eater p1 p2 p3 Z = m_eater_j27 p1 p2 p3 Z w27), ∀ (H : Heap) (locs : List Loc) (ls : Array Slot), EW D A s.heap (MW m ar cs Z) H locs → lv_has ls 5 [(0, .ref m), (1, .int p1), (2, .int p2), (3, .int p3)] → W p l e R s mid args below meth c H locs 0 0 Q (F0 mid 27 ls [.int w27, .ref m]) := by
    intro w27 hR H locs ls hE hl
    have hR : m_eater p1 p2 p3 Z = (m_eater_c28 p1 p2 p3 (m_need w27 p1 Z)) := hR
    refine lv_iload_n hx hb dX1_eater_27 rfl (lv_at hl 1 rfl) ?_
    refine call_m_need hx hb hml hown hts hK hA hE hl.1 w27 p1 (lz (show 3 ≤ 3 by decide) hRf) (lz (show 64 ≤ 64 by decide) hRl) (Nat.le_of_ble_eq_true rfl) dX1_eater_28 (fun H locs hE => ?_)
    have hNc28 : ∀ (wc28 : Int32 × ZT) (hewc28 : wc28 = m_need w27 p1 Z) (hR : m_eater p1 p2 p3 Z = m_eater_c28 p1 p2 p3 wc28), ∀ (H : Heap) (locs : List Loc) (ls : Array Slot), EW D A s.heap (MW m ar cs wc28.2) H locs → lv_has ls 5 [(0, .ref m), (1, .int p1), (2, .int p2), (3, .int p3)] → W p l e R s mid args below meth c H locs 0 0 Q (F0 mid 31 ls [.int wc28.1]) := by
      intro wc28 hewc28 hR H locs ls hE hl
      have hR : m_eater p1 p2 p3 Z = (if 0 ≤ wc28.1 then (if (m_eats (ix p1) wc28.2) = 0 then (m_meets 3 wc28.2) else ((1 : Int32), sI (sI wc28.2 19 (ix p1) p2) 20 (ix p1) p3)) else (wc28.1, wc28.2)) := hR
      refine lv_istore (lv' := [(4, .int wc28.1), (0, .ref m), (1, .int p1), (2, .int p2), (3, .int p3)]) hx hb dX1_eater_31 hl (by decide) rfl (fun ls hl => ?_)
      refine lv_iload hx hb dX1_eater_33 (lv_at hl 0 rfl) ?_
      refine lv_if_ge (tgt := 41) hx hb dX1_eater_35 (by decide) (fun c35 => ?_) (fun c35 => ?_)
      · have hR : m_eater p1 p2 p3 Z = (if (m_eats (ix p1) wc28.2) = 0 then (m_meets 3 wc28.2) else ((1 : Int32), sI (sI wc28.2 19 (ix p1) p2) 20 (ix p1) p3)) := hR.trans (congrArg (fun z => z) (if_pos c35))
        have hnp1 := vp_ix (x := p1) (N := 8) ((need_ok (by rw [← hewc28]; exact c35)).1) (by decide)
        have hbnp1 := hnp1.2
        refine lv_aload_n hx hb dX1_eater_41 rfl (lv_at hl 1 rfl) ?_
        refine lv_iload_n hx hb dX1_eater_42 rfl (lv_at hl 2 rfl) ?_
        refine top_nat hnp1.1 ?_
        refine call_m_eats hx hb hml hown hts hK hA hE hl.1 (ix p1) (by omega) (lz (show 1 ≤ 3 by decide) hRf) (lz (show 21 ≤ 64 by decide) hRl) (Nat.le_of_ble_eq_true rfl) dX1_eater_43 (fun H locs hE => ?_)
        refine lv_if_ne (tgt := 55) hx hb dX1_eater_46 (by decide) (fun c46 => ?_) (fun c46 => ?_)
        · have hR : m_eater p1 p2 p3 Z = ((1 : Int32), sI (sI wc28.2 19 (ix p1) p2) 20 (ix p1) p3) := hR.trans (congrArg (fun z => z) (if_neg c46))
          refine lv_aload_n hx hb dX1_eater_55 rfl (lv_at hl 1 rfl) ?_
          refine mg_19 hx hb hts hown hK hE dX1_eater_56 ?_
          refine lv_iload_n hx hb dX1_eater_59 rfl (lv_at hl 2 rfl) ?_
          refine top_nat hnp1.1 ?_
          refine lv_iload_n hx hb dX1_eater_60 rfl (lv_at hl 3 rfl) ?_
          refine ms_19 (n := (ix p1)) (by omega) hx hb hK hE dX1_eater_61 (fun H locs hE => ?_)
          refine lv_aload_n hx hb dX1_eater_62 rfl (lv_at hl 1 rfl) ?_
          refine mg_20 hx hb hts hown hK hE dX1_eater_63 ?_
          refine lv_iload_n hx hb dX1_eater_66 rfl (lv_at hl 2 rfl) ?_
          refine top_nat hnp1.1 ?_
          refine lv_iload_n hx hb dX1_eater_67 rfl (lv_at hl 4 rfl) ?_
          refine ms_20 (n := (ix p1)) (by omega) hx hb hK hE dX1_eater_68 (fun H locs hE => ?_)
          refine lv_iconst (v := 1) hx hb dX1_eater_69 rfl ?_
          exact hret (1 : Int32) (sI (sI wc28.2 19 (ix p1) p2) 20 (ix p1) p3) hR rfl hE (Nat.le_refl 0) (Nat.le_refl 0) dX1_eater_70
        · have hR : m_eater p1 p2 p3 Z = (m_meets 3 wc28.2) := hR.trans (congrArg (fun z => z) (if_pos c46))
          refine lv_aload_n hx hb dX1_eater_49 rfl (lv_at hl 1 rfl) ?_
          refine lv_iconst (v := 3) hx hb dX1_eater_50 rfl ?_
          refine call_m_meets hx hb hml hown hts hK hA hE hl.1 3 (by omega) (lz (show 1 ≤ 3 by decide) hRf) (lz (show 21 ≤ 64 by decide) hRl) (Nat.le_of_ble_eq_true rfl) dX1_eater_51 (fun H locs hE => ?_)
          exact hret ((m_meets 3 wc28.2).1) ((m_meets 3 wc28.2).2) hR rfl hE (Nat.le_refl 0) (Nat.le_refl 0) dX1_eater_54
      · have hR : m_eater p1 p2 p3 Z = (wc28.1, wc28.2) := hR.trans (congrArg (fun z => z) (if_neg c35))
        refine lv_iload hx hb dX1_eater_38 (lv_at hl 0 rfl) ?_
        exact hret wc28.1 wc28.2 hR rfl hE (Nat.le_refl 0) (Nat.le_refl 0) dX1_eater_40
    exact hNc28 (m_need w27 p1 Z) rfl hR _ _ _ hE (lv_sub hl [0, 1, 2, 3] rfl)
  refine lv_if_eq (tgt := 26) hx hb dX1_eater_9 (by decide) (fun c9 => ?_) (fun c9 => ?_)
  · have hR : m_eater p1 p2 p3 Z = m_eater_j27 p1 p2 p3 Z (0 : Int32) := hR.trans (congrArg (fun z => m_eater_j27 p1 p2 p3 Z z) (if_pos c9))
    refine lv_iconst (v := 0) hx hb dX1_eater_26 rfl ?_
    exact hJ27 (0 : Int32)  hR _ _ _ hE (lv_sub hl [0, 1, 2, 3] rfl)
  · have hR : m_eater p1 p2 p3 Z = m_eater_j27 p1 p2 p3 Z (if (m_in p3 (0 : Int32) (100 : Int32)) = 0 then (0 : Int32) else (1 : Int32)) := hR.trans (congrArg (fun z => m_eater_j27 p1 p2 p3 Z z) (if_neg c9))
    refine lv_iload_n hx hb dX1_eater_12 rfl (lv_at hl 3 rfl) ?_
    refine lv_iconst (v := 0) hx hb dX1_eater_13 rfl ?_
    refine lv_bipush (v := 100) hx hb dX1_eater_14 rfl ?_
    refine call_m_in hx hb hml hown hts hK hA hE hl.1 p3 (0 : Int32) (100 : Int32) (lz (show 1 ≤ 3 by decide) hRf) (lz (show 22 ≤ 64 by decide) hRl) (Nat.le_of_ble_eq_true rfl) dX1_eater_16 (fun H locs hE => ?_)
    refine lv_if_eq (tgt := 26) hx hb dX1_eater_19 (by decide) (fun c19 => ?_) (fun c19 => ?_)
    · have hR : m_eater p1 p2 p3 Z = m_eater_j27 p1 p2 p3 Z (0 : Int32) := hR.trans (congrArg (fun z => m_eater_j27 p1 p2 p3 Z z) (if_pos c19))
      refine lv_iconst (v := 0) hx hb dX1_eater_26 rfl ?_
      exact hJ27 (0 : Int32)  hR _ _ _ hE (lv_sub hl [0, 1, 2, 3] rfl)
    · have hR : m_eater p1 p2 p3 Z = m_eater_j27 p1 p2 p3 Z (1 : Int32) := hR.trans (congrArg (fun z => m_eater_j27 p1 p2 p3 Z z) (if_neg c19))
      refine lv_iconst (v := 1) hx hb dX1_eater_22 rfl ?_
      refine lv_goto (tgt := 27) hx hb dX1_eater_23 (by decide) ?_
      exact hJ27 (1 : Int32)  hR _ _ _ hE (lv_sub hl [0, 1, 2, 3] rfl)
def m_link_k41 (wc10 : Int32 × ZT) : Int32 × ZT := (m_meets 3 wc10.2)
def m_link_c64 (p1 : Int32) (p2 : Int32) (wc10 : Int32 × ZT) (wc64 : ZT) : Int32 × ZT := (wc10.2.1 23 ((8 * (ix p1)) + (ix p2)), wc64)
def m_link_c10 (p1 : Int32) (p2 : Int32) (p3 : Int32) (wc10 : Int32 × ZT) : Int32 × ZT := (if 0 ≤ wc10.1 then (if (m_eats (ix p1) wc10.2) = 0 then m_link_k41 wc10 else (if wc10.2.1 14 (ix p2) = (3 : Int32) then m_link_k41 wc10 else m_link_c64 p1 p2 wc10 (m_layLink (ix p1) (ix p2) p3 wc10.2))) else (wc10.1, wc10.2))
def m_link (p1 : Int32) (p2 : Int32) (p3 : Int32) (Z : ZT) : Int32 × ZT := m_link_c10 p1 p2 p3 (m_needTwo (m_in p3 (0 : Int32) (99 : Int32)) p1 p2 Z)
set_option maxHeartbeats 4000000 in
set_option maxRecDepth 100000 in
theorem met_m_link (l : Launch) (D : va_G) (cs : Nat → ClassId) (m : Nat) (ar : Nat → Nat) (Z : ZT) (sz : Nat) (p1 : Int32) (p2 : Int32) (p3 : Int32) : Met l yX1_link (ws_ yX1_link cX1_link 6 (some .int)) ({ frames := 3, cells := 0, slots := 0, locals := 65 }) (va_Pc [.ref m, .int p1, .int p2, .int p3] (wSt D cs (MW m ar cs Z) sz)) (cQi (fun (v : Int32) (u : ZT) => m_link p1 p2 p3 Z = (v, u)) D (fun u => MW m ar cs u) (MW m ar cs Z) sz) 0 0 (va_A (MW m ar cs Z) sz) := by
  refine gStart_i (C := RX1) rfl rfl (Nat.le_of_ble_eq_true rfl) ?_
  intro p e s mid args below meth c R Q A hx hb hml hown hts hK hA hRf hRl hRc hRs hret hE ls hl
  have hRf : 3 ≤ R.frames := hRf
  have hRl : 65 ≤ R.locals := hRl
  have hl : lv_has ls 6 [(0, .ref m), (1, .int p1), (2, .int p2), (3, .int p3)] := hl
  have hR : m_link p1 p2 p3 Z = (m_link_c10 p1 p2 p3 (m_needTwo (m_in p3 (0 : Int32) (99 : Int32)) p1 p2 Z)) := rfl
  refine lv_aload_n hx hb dX1_link_0 rfl (lv_at hl 0 rfl) ?_
  refine lv_iload_n hx hb dX1_link_1 rfl (lv_at hl 3 rfl) ?_
  refine lv_iconst (v := 0) hx hb dX1_link_2 rfl ?_
  refine lv_bipush (v := 99) hx hb dX1_link_3 rfl ?_
  refine call_m_in hx hb hml hown hts hK hA hE hl.1 p3 (0 : Int32) (99 : Int32) (lz (show 1 ≤ 3 by decide) hRf) (lz (show 22 ≤ 65 by decide) hRl) (Nat.le_of_ble_eq_true rfl) dX1_link_5 (fun H locs hE => ?_)
  refine lv_iload_n hx hb dX1_link_8 rfl (lv_at hl 1 rfl) ?_
  refine lv_iload_n hx hb dX1_link_9 rfl (lv_at hl 2 rfl) ?_
  refine call_m_needTwo hx hb hml hown hts hK hA hE hl.1 (m_in p3 (0 : Int32) (99 : Int32)) p1 p2 (lz (show 3 ≤ 3 by decide) hRf) (lz (show 65 ≤ 65 by decide) hRl) (Nat.le_of_ble_eq_true rfl) dX1_link_10 (fun H locs hE => ?_)
  have hNc10 : ∀ (wc10 : Int32 × ZT) (hewc10 : wc10 = m_needTwo (m_in p3 (0 : Int32) (99 : Int32)) p1 p2 Z) (hR : m_link p1 p2 p3 Z = m_link_c10 p1 p2 p3 wc10), ∀ (H : Heap) (locs : List Loc) (ls : Array Slot), EW D A s.heap (MW m ar cs wc10.2) H locs → lv_has ls 6 [(0, .ref m), (1, .int p1), (2, .int p2), (3, .int p3)] → W p l e R s mid args below meth c H locs 0 0 Q (F0 mid 13 ls [.int wc10.1]) := by
    intro wc10 hewc10 hR H locs ls hE hl
    have hR : m_link p1 p2 p3 Z = (if 0 ≤ wc10.1 then (if (m_eats (ix p1) wc10.2) = 0 then m_link_k41 wc10 else (if wc10.2.1 14 (ix p2) = (3 : Int32) then m_link_k41 wc10 else m_link_c64 p1 p2 wc10 (m_layLink (ix p1) (ix p2) p3 wc10.2))) else (wc10.1, wc10.2)) := hR
    refine lv_istore (lv' := [(4, .int wc10.1), (0, .ref m), (1, .int p1), (2, .int p2), (3, .int p3)]) hx hb dX1_link_13 hl (by decide) rfl (fun ls hl => ?_)
    refine lv_iload hx hb dX1_link_15 (lv_at hl 0 rfl) ?_
    refine lv_if_ge (tgt := 23) hx hb dX1_link_17 (by decide) (fun c17 => ?_) (fun c17 => ?_)
    · have hR : m_link p1 p2 p3 Z = (if (m_eats (ix p1) wc10.2) = 0 then m_link_k41 wc10 else (if wc10.2.1 14 (ix p2) = (3 : Int32) then m_link_k41 wc10 else m_link_c64 p1 p2 wc10 (m_layLink (ix p1) (ix p2) p3 wc10.2))) := hR.trans (congrArg (fun z => z) (if_pos c17))
      have hnp1 := vp_ix (x := p1) (N := 8) ((needTwo_ok (by rw [← hewc10]; exact c17)).1) (by decide)
      have hbnp1 := hnp1.2
      have hnp2 := vp_ix (x := p2) (N := 8) ((needTwo_ok (by rw [← hewc10]; exact c17)).2.1) (by decide)
      have hbnp2 := hnp2.2
      refine lv_aload_n hx hb dX1_link_23 rfl (lv_at hl 1 rfl) ?_
      refine lv_iload_n hx hb dX1_link_24 rfl (lv_at hl 2 rfl) ?_
      refine top_nat hnp1.1 ?_
      refine call_m_eats hx hb hml hown hts hK hA hE hl.1 (ix p1) (by omega) (lz (show 1 ≤ 3 by decide) hRf) (lz (show 21 ≤ 65 by decide) hRl) (Nat.le_of_ble_eq_true rfl) dX1_link_25 (fun H locs hE => ?_)
      have hJ41 : ∀ (hR : m_link p1 p2 p3 Z = m_link_k41 wc10), ∀ (H : Heap) (locs : List Loc) (ls : Array Slot), EW D A s.heap (MW m ar cs wc10.2) H locs → lv_has ls 6 [(0, .ref m)] → W p l e R s mid args below meth c H locs 0 0 Q (F0 mid 41 ls []) := by
        intro hR H locs ls hE hl
        have hR : m_link p1 p2 p3 Z = (m_meets 3 wc10.2) := hR
        refine lv_aload_n hx hb dX1_link_41 rfl (lv_at hl 0 rfl) ?_
        refine lv_iconst (v := 3) hx hb dX1_link_42 rfl ?_
        refine call_m_meets hx hb hml hown hts hK hA hE hl.1 3 (by omega) (lz (show 1 ≤ 3 by decide) hRf) (lz (show 21 ≤ 65 by decide) hRl) (Nat.le_of_ble_eq_true rfl) dX1_link_43 (fun H locs hE => ?_)
        exact hret ((m_meets 3 wc10.2).1) ((m_meets 3 wc10.2).2) hR rfl hE (Nat.le_refl 0) (Nat.le_refl 0) dX1_link_46
      refine lv_if_eq (tgt := 41) hx hb dX1_link_28 (by decide) (fun c28 => ?_) (fun c28 => ?_)
      · have hR : m_link p1 p2 p3 Z = (m_link_k41 wc10) := hR.trans (congrArg (fun z => z) (if_pos c28))
        exact hJ41  hR _ _ _ hE (lv_sub hl [1] rfl)
      · have hR : m_link p1 p2 p3 Z = (if wc10.2.1 14 (ix p2) = (3 : Int32) then m_link_k41 wc10 else m_link_c64 p1 p2 wc10 (m_layLink (ix p1) (ix p2) p3 wc10.2)) := hR.trans (congrArg (fun z => z) (if_neg c28))
        refine lv_aload_n hx hb dX1_link_31 rfl (lv_at hl 1 rfl) ?_
        refine mg_14 hx hb hts hown hK hE dX1_link_32 ?_
        refine lv_iload_n hx hb dX1_link_35 rfl (lv_at hl 3 rfl) ?_
        refine top_nat hnp2.1 ?_
        refine ma_14 (n := (ix p2)) (by omega) hx hb hK hE dX1_link_36 ?_
        refine lv_iconst (v := 3) hx hb dX1_link_37 rfl ?_
        refine lv_icmp_ne (tgt := 47) hx hb dX1_link_38 (by decide) (fun c38 => ?_) (fun c38 => ?_)
        · have hR : m_link p1 p2 p3 Z = (m_link_c64 p1 p2 wc10 (m_layLink (ix p1) (ix p2) p3 wc10.2)) := hR.trans (congrArg (fun z => z) (if_neg c38))
          refine lv_aload_n hx hb dX1_link_47 rfl (lv_at hl 1 rfl) ?_
          refine mg_23 hx hb hts hown hK hE dX1_link_48 ?_
          refine lv_bipush (v := 8) hx hb dX1_link_51 rfl ?_
          refine lv_iload_n hx hb dX1_link_53 rfl (lv_at hl 2 rfl) ?_
          refine top_nat hnp1.1 ?_
          refine n_mul (a := 8) (b := (ix p1)) hx hb dX1_link_54 ?_
          refine lv_iload_n hx hb dX1_link_55 rfl (lv_at hl 3 rfl) ?_
          refine top_nat hnp2.1 ?_
          refine n_add (a := (8 * (ix p1))) (b := (ix p2)) hx hb dX1_link_56 ?_
          refine ma_23 (n := ((8 * (ix p1)) + (ix p2))) (by omega) hx hb hK hE dX1_link_57 ?_
          refine lv_istore (lv' := [(5, .int (wc10.2.1 23 ((8 * (ix p1)) + (ix p2)))), (4, .int wc10.1), (0, .ref m), (1, .int p1), (2, .int p2), (3, .int p3)]) hx hb dX1_link_58 hl (by decide) rfl (fun ls hl => ?_)
          refine lv_aload_n hx hb dX1_link_60 rfl (lv_at hl 2 rfl) ?_
          refine lv_iload_n hx hb dX1_link_61 rfl (lv_at hl 3 rfl) ?_
          refine top_nat hnp1.1 ?_
          refine lv_iload_n hx hb dX1_link_62 rfl (lv_at hl 4 rfl) ?_
          refine top_nat hnp2.1 ?_
          refine lv_iload_n hx hb dX1_link_63 rfl (lv_at hl 5 rfl) ?_
          refine call_m_layLink hx hb hml hown hts hK hA hE hl.1 (ix p1) (ix p2) p3 (by omega) (by omega) (lz (show 1 ≤ 3 by decide) hRf) (lz (show 25 ≤ 65 by decide) hRl) (Nat.le_of_ble_eq_true rfl) dX1_link_64 (fun H locs hE => ?_)
          have hNc64 : ∀ (wc64 : ZT) (hewc64 : wc64 = m_layLink (ix p1) (ix p2) p3 wc10.2) (hR : m_link p1 p2 p3 Z = m_link_c64 p1 p2 wc10 wc64), ∀ (H : Heap) (locs : List Loc) (ls : Array Slot), EW D A s.heap (MW m ar cs wc64) H locs → lv_has ls 6 [(5, .int (wc10.2.1 23 ((8 * (ix p1)) + (ix p2))))] → W p l e R s mid args below meth c H locs 0 0 Q (F0 mid 67 ls []) := by
            intro wc64 hewc64 hR H locs ls hE hl
            have hR : m_link p1 p2 p3 Z = (wc10.2.1 23 ((8 * (ix p1)) + (ix p2)), wc64) := hR
            refine lv_iload hx hb dX1_link_67 (lv_at hl 0 rfl) ?_
            exact hret (wc10.2.1 23 ((8 * (ix p1)) + (ix p2))) wc64 hR rfl hE (Nat.le_refl 0) (Nat.le_refl 0) dX1_link_69
          exact hNc64 (m_layLink (ix p1) (ix p2) p3 wc10.2) rfl hR _ _ _ hE (lv_sub hl [0] rfl)
        · have hR : m_link p1 p2 p3 Z = (m_link_k41 wc10) := hR.trans (congrArg (fun z => z) (if_pos c38))
          exact hJ41  hR _ _ _ hE (lv_sub hl [1] rfl)
    · have hR : m_link p1 p2 p3 Z = (wc10.1, wc10.2) := hR.trans (congrArg (fun z => z) (if_neg c17))
      refine lv_iload hx hb dX1_link_20 (lv_at hl 0 rfl) ?_
      exact hret wc10.1 wc10.2 hR rfl hE (Nat.le_refl 0) (Nat.le_refl 0) dX1_link_22
  exact hNc10 (m_needTwo (m_in p3 (0 : Int32) (99 : Int32)) p1 p2 Z) rfl hR _ _ _ hE (lv_sub hl [0, 1, 2, 3] rfl)
def m_take_c9 (p1 : Int32) (p2 : Int32) (wc9 : Int32 × ZT) : Int32 × ZT := (if 0 ≤ wc9.1 then (wc9.2.1 16 (ix p1), sI wc9.2 16 (ix p1) p2) else (wc9.1, wc9.2))
def m_take (p1 : Int32) (p2 : Int32) (Z : ZT) : Int32 × ZT := m_take_c9 p1 p2 (m_need (m_in p2 (0 : Int32) (100000 : Int32)) p1 Z)
set_option maxHeartbeats 4000000 in
set_option maxRecDepth 100000 in
theorem met_m_take (l : Launch) (D : va_G) (cs : Nat → ClassId) (m : Nat) (ar : Nat → Nat) (Z : ZT) (sz : Nat) (p1 : Int32) (p2 : Int32) : Met l yX1_take (ws_ yX1_take cX1_take 5 (some .int)) ({ frames := 3, cells := 0, slots := 0, locals := 64 }) (va_Pc [.ref m, .int p1, .int p2] (wSt D cs (MW m ar cs Z) sz)) (cQi (fun (v : Int32) (u : ZT) => m_take p1 p2 Z = (v, u)) D (fun u => MW m ar cs u) (MW m ar cs Z) sz) 0 0 (va_A (MW m ar cs Z) sz) := by
  refine gStart_i (C := RX1) rfl rfl (Nat.le_of_ble_eq_true rfl) ?_
  intro p e s mid args below meth c R Q A hx hb hml hown hts hK hA hRf hRl hRc hRs hret hE ls hl
  have hRf : 3 ≤ R.frames := hRf
  have hRl : 64 ≤ R.locals := hRl
  have hl : lv_has ls 5 [(0, .ref m), (1, .int p1), (2, .int p2)] := hl
  have hR : m_take p1 p2 Z = (m_take_c9 p1 p2 (m_need (m_in p2 (0 : Int32) (100000 : Int32)) p1 Z)) := rfl
  refine lv_aload_n hx hb dX1_take_0 rfl (lv_at hl 0 rfl) ?_
  refine lv_iload_n hx hb dX1_take_1 rfl (lv_at hl 2 rfl) ?_
  refine lv_iconst (v := 0) hx hb dX1_take_2 rfl ?_
  refine lv_ldc (v := 100000) hx hb hown (hts _ q1151) dX1_take_3 ?_
  refine call_m_in hx hb hml hown hts hK hA hE hl.1 p2 (0 : Int32) (100000 : Int32) (lz (show 1 ≤ 3 by decide) hRf) (lz (show 22 ≤ 64 by decide) hRl) (Nat.le_of_ble_eq_true rfl) dX1_take_5 (fun H locs hE => ?_)
  refine lv_iload_n hx hb dX1_take_8 rfl (lv_at hl 1 rfl) ?_
  refine call_m_need hx hb hml hown hts hK hA hE hl.1 (m_in p2 (0 : Int32) (100000 : Int32)) p1 (lz (show 3 ≤ 3 by decide) hRf) (lz (show 64 ≤ 64 by decide) hRl) (Nat.le_of_ble_eq_true rfl) dX1_take_9 (fun H locs hE => ?_)
  have hNc9 : ∀ (wc9 : Int32 × ZT) (hewc9 : wc9 = m_need (m_in p2 (0 : Int32) (100000 : Int32)) p1 Z) (hR : m_take p1 p2 Z = m_take_c9 p1 p2 wc9), ∀ (H : Heap) (locs : List Loc) (ls : Array Slot), EW D A s.heap (MW m ar cs wc9.2) H locs → lv_has ls 5 [(0, .ref m), (1, .int p1), (2, .int p2)] → W p l e R s mid args below meth c H locs 0 0 Q (F0 mid 12 ls [.int wc9.1]) := by
    intro wc9 hewc9 hR H locs ls hE hl
    have hR : m_take p1 p2 Z = (if 0 ≤ wc9.1 then (wc9.2.1 16 (ix p1), sI wc9.2 16 (ix p1) p2) else (wc9.1, wc9.2)) := hR
    refine lv_istore_n (lv' := [(3, .int wc9.1), (0, .ref m), (1, .int p1), (2, .int p2)]) hx hb dX1_take_12 rfl hl (by decide) rfl (fun ls hl => ?_)
    refine lv_iload_n hx hb dX1_take_13 rfl (lv_at hl 0 rfl) ?_
    refine lv_if_ge (tgt := 19) hx hb dX1_take_14 (by decide) (fun c14 => ?_) (fun c14 => ?_)
    · have hR : m_take p1 p2 Z = (wc9.2.1 16 (ix p1), sI wc9.2 16 (ix p1) p2) := hR.trans (congrArg (fun z => z) (if_pos c14))
      have hnp1 := vp_ix (x := p1) (N := 8) ((need_ok (by rw [← hewc9]; exact c14)).1) (by decide)
      have hbnp1 := hnp1.2
      refine lv_aload_n hx hb dX1_take_19 rfl (lv_at hl 1 rfl) ?_
      refine mg_16 hx hb hts hown hK hE dX1_take_20 ?_
      refine lv_iload_n hx hb dX1_take_23 rfl (lv_at hl 2 rfl) ?_
      refine top_nat hnp1.1 ?_
      refine ma_16 (n := (ix p1)) (by omega) hx hb hK hE dX1_take_24 ?_
      refine lv_istore (lv' := [(4, .int (wc9.2.1 16 (ix p1))), (3, .int wc9.1), (0, .ref m), (1, .int p1), (2, .int p2)]) hx hb dX1_take_25 hl (by decide) rfl (fun ls hl => ?_)
      refine lv_aload_n hx hb dX1_take_27 rfl (lv_at hl 2 rfl) ?_
      refine mg_16 hx hb hts hown hK hE dX1_take_28 ?_
      refine lv_iload_n hx hb dX1_take_31 rfl (lv_at hl 3 rfl) ?_
      refine top_nat hnp1.1 ?_
      refine lv_iload_n hx hb dX1_take_32 rfl (lv_at hl 4 rfl) ?_
      refine ms_16 (n := (ix p1)) (by omega) hx hb hK hE dX1_take_33 (fun H locs hE => ?_)
      refine lv_iload hx hb dX1_take_34 (lv_at hl 0 rfl) ?_
      exact hret (wc9.2.1 16 (ix p1)) (sI wc9.2 16 (ix p1) p2) hR rfl hE (Nat.le_refl 0) (Nat.le_refl 0) dX1_take_36
    · have hR : m_take p1 p2 Z = (wc9.1, wc9.2) := hR.trans (congrArg (fun z => z) (if_neg c14))
      refine lv_iload_n hx hb dX1_take_17 rfl (lv_at hl 0 rfl) ?_
      exact hret wc9.1 wc9.2 hR rfl hE (Nat.le_refl 0) (Nat.le_refl 0) dX1_take_18
  exact hNc9 (m_need (m_in p2 (0 : Int32) (100000 : Int32)) p1 Z) rfl hR _ _ _ hE (lv_sub hl [0, 1, 2] rfl)
def m_told_c8 (p1 : Int32) (p2 : Int32) (wc8 : Int32 × ZT) : Int32 × ZT := (if 0 ≤ wc8.1 then ((m_toldOf (ix p1) p2 wc8.2), wc8.2) else (wc8.1, wc8.2))
def m_told (p1 : Int32) (p2 : Int32) (Z : ZT) : Int32 × ZT := m_told_c8 p1 p2 (m_need (m_in p2 (0 : Int32) (5 : Int32)) p1 Z)
set_option maxHeartbeats 4000000 in
set_option maxRecDepth 100000 in
theorem met_m_told (l : Launch) (D : va_G) (cs : Nat → ClassId) (m : Nat) (ar : Nat → Nat) (Z : ZT) (sz : Nat) (p1 : Int32) (p2 : Int32) : Met l yX1_told (ws_ yX1_told cX1_told 4 (some .int)) ({ frames := 3, cells := 0, slots := 0, locals := 68 }) (va_Pc [.ref m, .int p1, .int p2] (wSt D cs (MW m ar cs Z) sz)) (cQi (fun (v : Int32) (u : ZT) => m_told p1 p2 Z = (v, u)) D (fun u => MW m ar cs u) (MW m ar cs Z) sz) 0 0 (va_A (MW m ar cs Z) sz) := by
  refine gStart_i (C := RX1) rfl rfl (Nat.le_of_ble_eq_true rfl) ?_
  intro p e s mid args below meth c R Q A hx hb hml hown hts hK hA hRf hRl hRc hRs hret hE ls hl
  have hRf : 3 ≤ R.frames := hRf
  have hRl : 68 ≤ R.locals := hRl
  have hl : lv_has ls 4 [(0, .ref m), (1, .int p1), (2, .int p2)] := hl
  have hR : m_told p1 p2 Z = (m_told_c8 p1 p2 (m_need (m_in p2 (0 : Int32) (5 : Int32)) p1 Z)) := rfl
  refine lv_aload_n hx hb dX1_told_0 rfl (lv_at hl 0 rfl) ?_
  refine lv_iload_n hx hb dX1_told_1 rfl (lv_at hl 2 rfl) ?_
  refine lv_iconst (v := 0) hx hb dX1_told_2 rfl ?_
  refine lv_iconst (v := 5) hx hb dX1_told_3 rfl ?_
  refine call_m_in hx hb hml hown hts hK hA hE hl.1 p2 (0 : Int32) (5 : Int32) (lz (show 1 ≤ 3 by decide) hRf) (lz (show 22 ≤ 68 by decide) hRl) (Nat.le_of_ble_eq_true rfl) dX1_told_4 (fun H locs hE => ?_)
  refine lv_iload_n hx hb dX1_told_7 rfl (lv_at hl 1 rfl) ?_
  refine call_m_need hx hb hml hown hts hK hA hE hl.1 (m_in p2 (0 : Int32) (5 : Int32)) p1 (lz (show 3 ≤ 3 by decide) hRf) (lz (show 64 ≤ 68 by decide) hRl) (Nat.le_of_ble_eq_true rfl) dX1_told_8 (fun H locs hE => ?_)
  have hNc8 : ∀ (wc8 : Int32 × ZT) (hewc8 : wc8 = m_need (m_in p2 (0 : Int32) (5 : Int32)) p1 Z) (hR : m_told p1 p2 Z = m_told_c8 p1 p2 wc8), ∀ (H : Heap) (locs : List Loc) (ls : Array Slot), EW D A s.heap (MW m ar cs wc8.2) H locs → lv_has ls 4 [(0, .ref m), (1, .int p1), (2, .int p2)] → W p l e R s mid args below meth c H locs 0 0 Q (F0 mid 11 ls [.int wc8.1]) := by
    intro wc8 hewc8 hR H locs ls hE hl
    have hR : m_told p1 p2 Z = (if 0 ≤ wc8.1 then ((m_toldOf (ix p1) p2 wc8.2), wc8.2) else (wc8.1, wc8.2)) := hR
    refine lv_istore_n (lv' := [(3, .int wc8.1), (0, .ref m), (1, .int p1), (2, .int p2)]) hx hb dX1_told_11 rfl hl (by decide) rfl (fun ls hl => ?_)
    refine lv_iload_n hx hb dX1_told_12 rfl (lv_at hl 0 rfl) ?_
    refine lv_if_ge (tgt := 20) hx hb dX1_told_13 (by decide) (fun c13 => ?_) (fun c13 => ?_)
    · have hR : m_told p1 p2 Z = ((m_toldOf (ix p1) p2 wc8.2), wc8.2) := hR.trans (congrArg (fun z => z) (if_pos c13))
      have hnp1 := vp_ix (x := p1) (N := 8) ((need_ok (by rw [← hewc8]; exact c13)).1) (by decide)
      have hbnp1 := hnp1.2
      refine lv_aload_n hx hb dX1_told_20 rfl (lv_at hl 1 rfl) ?_
      refine lv_iload_n hx hb dX1_told_21 rfl (lv_at hl 2 rfl) ?_
      refine top_nat hnp1.1 ?_
      refine lv_iload_n hx hb dX1_told_22 rfl (lv_at hl 3 rfl) ?_
      refine call_m_toldOf hx hb hml hown hts hK hA hE hl.1 (ix p1) p2 (by omega) (lz (show 3 ≤ 3 by decide) hRf) (lz (show 68 ≤ 68 by decide) hRl) (Nat.le_of_ble_eq_true rfl) dX1_told_23 (fun H locs hE => ?_)
      exact hret (m_toldOf (ix p1) p2 wc8.2) wc8.2 hR rfl hE (Nat.le_refl 0) (Nat.le_refl 0) dX1_told_26
    · have hR : m_told p1 p2 Z = (wc8.1, wc8.2) := hR.trans (congrArg (fun z => z) (if_neg c13))
      refine lv_iload_n hx hb dX1_told_16 rfl (lv_at hl 0 rfl) ?_
      refine lv_goto (tgt := 26) hx hb dX1_told_17 (by decide) ?_
      exact hret wc8.1 wc8.2 hR rfl hE (Nat.le_refl 0) (Nat.le_refl 0) dX1_told_26
  exact hNc8 (m_need (m_in p2 (0 : Int32) (5 : Int32)) p1 Z) rfl hR _ _ _ hE (lv_sub hl [0, 1, 2] rfl)
def m_mark_j52 (p1 : Int32) (p2 : Int32) (wc8 : Int32 × ZT) (w52 : Int32) : Int32 × ZT := (if w52 = 0 then (m_meets 3 wc8.2) else (if p2 = 0 then (wc8.2.1 15 (ix p1), wc8.2) else (if p2 = (1 : Int32) then (wc8.2.1 18 (ix p1), wc8.2) else (if p2 = (2 : Int32) then (wc8.2.1 20 (ix p1), wc8.2) else (wc8.2.1 22 (ix p1), wc8.2)))))
def m_mark_k51 : Int32 := (0 : Int32)
def m_mark_c8 (p1 : Int32) (p2 : Int32) (wc8 : Int32 × ZT) : Int32 × ZT := (if 0 ≤ wc8.1 then m_mark_j52 p1 p2 wc8 (if p2 = 0 then (1 : Int32) else (if wc8.2.1 14 (ix p1) = p2 then (1 : Int32) else (if p2 = (2 : Int32) then (if wc8.2.1 14 (ix p1) = (3 : Int32) then (1 : Int32) else m_mark_k51) else m_mark_k51))) else (wc8.1, wc8.2))
def m_mark (p1 : Int32) (p2 : Int32) (Z : ZT) : Int32 × ZT := m_mark_c8 p1 p2 (m_need (m_in p2 (0 : Int32) (3 : Int32)) p1 Z)
set_option maxHeartbeats 4000000 in
set_option maxRecDepth 100000 in
theorem met_m_mark (l : Launch) (D : va_G) (cs : Nat → ClassId) (m : Nat) (ar : Nat → Nat) (Z : ZT) (sz : Nat) (p1 : Int32) (p2 : Int32) : Met l yX1_mark (ws_ yX1_mark cX1_mark 5 (some .int)) ({ frames := 3, cells := 0, slots := 0, locals := 64 }) (va_Pc [.ref m, .int p1, .int p2] (wSt D cs (MW m ar cs Z) sz)) (cQi (fun (v : Int32) (u : ZT) => m_mark p1 p2 Z = (v, u)) D (fun u => MW m ar cs u) (MW m ar cs Z) sz) 0 0 (va_A (MW m ar cs Z) sz) := by
  refine gStart_i (C := RX1) rfl rfl (Nat.le_of_ble_eq_true rfl) ?_
  intro p e s mid args below meth c R Q A hx hb hml hown hts hK hA hRf hRl hRc hRs hret hE ls hl
  have hRf : 3 ≤ R.frames := hRf
  have hRl : 64 ≤ R.locals := hRl
  have hl : lv_has ls 5 [(0, .ref m), (1, .int p1), (2, .int p2)] := hl
  have hR : m_mark p1 p2 Z = (m_mark_c8 p1 p2 (m_need (m_in p2 (0 : Int32) (3 : Int32)) p1 Z)) := rfl
  refine lv_aload_n hx hb dX1_mark_0 rfl (lv_at hl 0 rfl) ?_
  refine lv_iload_n hx hb dX1_mark_1 rfl (lv_at hl 2 rfl) ?_
  refine lv_iconst (v := 0) hx hb dX1_mark_2 rfl ?_
  refine lv_iconst (v := 3) hx hb dX1_mark_3 rfl ?_
  refine call_m_in hx hb hml hown hts hK hA hE hl.1 p2 (0 : Int32) (3 : Int32) (lz (show 1 ≤ 3 by decide) hRf) (lz (show 22 ≤ 64 by decide) hRl) (Nat.le_of_ble_eq_true rfl) dX1_mark_4 (fun H locs hE => ?_)
  refine lv_iload_n hx hb dX1_mark_7 rfl (lv_at hl 1 rfl) ?_
  refine call_m_need hx hb hml hown hts hK hA hE hl.1 (m_in p2 (0 : Int32) (3 : Int32)) p1 (lz (show 3 ≤ 3 by decide) hRf) (lz (show 64 ≤ 64 by decide) hRl) (Nat.le_of_ble_eq_true rfl) dX1_mark_8 (fun H locs hE => ?_)
  have hNc8 : ∀ (wc8 : Int32 × ZT) (hewc8 : wc8 = m_need (m_in p2 (0 : Int32) (3 : Int32)) p1 Z) (hR : m_mark p1 p2 Z = m_mark_c8 p1 p2 wc8), ∀ (H : Heap) (locs : List Loc) (ls : Array Slot), EW D A s.heap (MW m ar cs wc8.2) H locs → lv_has ls 5 [(0, .ref m), (1, .int p1), (2, .int p2)] → W p l e R s mid args below meth c H locs 0 0 Q (F0 mid 11 ls [.int wc8.1]) := by
    intro wc8 hewc8 hR H locs ls hE hl
    have hR : m_mark p1 p2 Z = (if 0 ≤ wc8.1 then m_mark_j52 p1 p2 wc8 (if p2 = 0 then (1 : Int32) else (if wc8.2.1 14 (ix p1) = p2 then (1 : Int32) else (if p2 = (2 : Int32) then (if wc8.2.1 14 (ix p1) = (3 : Int32) then (1 : Int32) else m_mark_k51) else m_mark_k51))) else (wc8.1, wc8.2)) := hR
    refine lv_istore_n (lv' := [(3, .int wc8.1), (0, .ref m), (1, .int p1), (2, .int p2)]) hx hb dX1_mark_11 rfl hl (by decide) rfl (fun ls hl => ?_)
    refine lv_iload_n hx hb dX1_mark_12 rfl (lv_at hl 0 rfl) ?_
    refine lv_if_ge (tgt := 18) hx hb dX1_mark_13 (by decide) (fun c13 => ?_) (fun c13 => ?_)
    · have hR : m_mark p1 p2 Z = (m_mark_j52 p1 p2 wc8 (if p2 = 0 then (1 : Int32) else (if wc8.2.1 14 (ix p1) = p2 then (1 : Int32) else (if p2 = (2 : Int32) then (if wc8.2.1 14 (ix p1) = (3 : Int32) then (1 : Int32) else m_mark_k51) else m_mark_k51)))) := hR.trans (congrArg (fun z => z) (if_pos c13))
      have hnp1 := vp_ix (x := p1) (N := 8) ((need_ok (by rw [← hewc8]; exact c13)).1) (by decide)
      have hbnp1 := hnp1.2
      refine lv_iload_n hx hb dX1_mark_18 rfl (lv_at hl 3 rfl) ?_
      have hJ52 : ∀ (w52 : Int32) (hR : m_mark p1 p2 Z = m_mark_j52 p1 p2 wc8 w52), ∀ (H : Heap) (locs : List Loc) (ls : Array Slot), EW D A s.heap (MW m ar cs wc8.2) H locs → lv_has ls 5 [(0, .ref m), (1, .int p1), (2, .int p2)] → W p l e R s mid args below meth c H locs 0 0 Q (F0 mid 52 ls [.int w52]) := by
        intro w52 hR H locs ls hE hl
        have hR : m_mark p1 p2 Z = (if w52 = 0 then (m_meets 3 wc8.2) else (if p2 = 0 then (wc8.2.1 15 (ix p1), wc8.2) else (if p2 = (1 : Int32) then (wc8.2.1 18 (ix p1), wc8.2) else (if p2 = (2 : Int32) then (wc8.2.1 20 (ix p1), wc8.2) else (wc8.2.1 22 (ix p1), wc8.2))))) := hR
        refine lv_istore (lv' := [(4, .int w52), (0, .ref m), (1, .int p1), (2, .int p2)]) hx hb dX1_mark_52 hl (by decide) rfl (fun ls hl => ?_)
        refine lv_iload hx hb dX1_mark_54 (lv_at hl 0 rfl) ?_
        refine lv_if_ne (tgt := 65) hx hb dX1_mark_56 (by decide) (fun c56 => ?_) (fun c56 => ?_)
        · have hR : m_mark p1 p2 Z = (if p2 = 0 then (wc8.2.1 15 (ix p1), wc8.2) else (if p2 = (1 : Int32) then (wc8.2.1 18 (ix p1), wc8.2) else (if p2 = (2 : Int32) then (wc8.2.1 20 (ix p1), wc8.2) else (wc8.2.1 22 (ix p1), wc8.2)))) := hR.trans (congrArg (fun z => z) (if_neg c56))
          refine lv_iload_n hx hb dX1_mark_65 rfl (lv_at hl 3 rfl) ?_
          refine lv_if_ne (tgt := 78) hx hb dX1_mark_66 (by decide) (fun c66 => ?_) (fun c66 => ?_)
          · have hR : m_mark p1 p2 Z = (if p2 = (1 : Int32) then (wc8.2.1 18 (ix p1), wc8.2) else (if p2 = (2 : Int32) then (wc8.2.1 20 (ix p1), wc8.2) else (wc8.2.1 22 (ix p1), wc8.2))) := hR.trans (congrArg (fun z => z) (if_neg c66))
            refine lv_iload_n hx hb dX1_mark_78 rfl (lv_at hl 3 rfl) ?_
            refine lv_iconst (v := 1) hx hb dX1_mark_79 rfl ?_
            refine lv_icmp_ne (tgt := 92) hx hb dX1_mark_80 (by decide) (fun c80 => ?_) (fun c80 => ?_)
            · have hR : m_mark p1 p2 Z = (if p2 = (2 : Int32) then (wc8.2.1 20 (ix p1), wc8.2) else (wc8.2.1 22 (ix p1), wc8.2)) := hR.trans (congrArg (fun z => z) (if_neg c80))
              refine lv_iload_n hx hb dX1_mark_92 rfl (lv_at hl 3 rfl) ?_
              refine lv_iconst (v := 2) hx hb dX1_mark_93 rfl ?_
              refine lv_icmp_ne (tgt := 106) hx hb dX1_mark_94 (by decide) (fun c94 => ?_) (fun c94 => ?_)
              · have hR : m_mark p1 p2 Z = (wc8.2.1 22 (ix p1), wc8.2) := hR.trans (congrArg (fun z => z) (if_neg c94))
                refine lv_aload_n hx hb dX1_mark_106 rfl (lv_at hl 1 rfl) ?_
                refine mg_22 hx hb hts hown hK hE dX1_mark_107 ?_
                refine lv_iload_n hx hb dX1_mark_110 rfl (lv_at hl 2 rfl) ?_
                refine top_nat hnp1.1 ?_
                refine ma_22 (n := (ix p1)) (by omega) hx hb hK hE dX1_mark_111 ?_
                exact hret (wc8.2.1 22 (ix p1)) wc8.2 hR rfl hE (Nat.le_refl 0) (Nat.le_refl 0) dX1_mark_112
              · have hR : m_mark p1 p2 Z = (wc8.2.1 20 (ix p1), wc8.2) := hR.trans (congrArg (fun z => z) (if_pos c94))
                refine lv_aload_n hx hb dX1_mark_97 rfl (lv_at hl 1 rfl) ?_
                refine mg_20 hx hb hts hown hK hE dX1_mark_98 ?_
                refine lv_iload_n hx hb dX1_mark_101 rfl (lv_at hl 2 rfl) ?_
                refine top_nat hnp1.1 ?_
                refine ma_20 (n := (ix p1)) (by omega) hx hb hK hE dX1_mark_102 ?_
                refine lv_goto (tgt := 112) hx hb dX1_mark_103 (by decide) ?_
                exact hret (wc8.2.1 20 (ix p1)) wc8.2 hR rfl hE (Nat.le_refl 0) (Nat.le_refl 0) dX1_mark_112
            · have hR : m_mark p1 p2 Z = (wc8.2.1 18 (ix p1), wc8.2) := hR.trans (congrArg (fun z => z) (if_pos c80))
              refine lv_aload_n hx hb dX1_mark_83 rfl (lv_at hl 1 rfl) ?_
              refine mg_18 hx hb hts hown hK hE dX1_mark_84 ?_
              refine lv_iload_n hx hb dX1_mark_87 rfl (lv_at hl 2 rfl) ?_
              refine top_nat hnp1.1 ?_
              refine ma_18 (n := (ix p1)) (by omega) hx hb hK hE dX1_mark_88 ?_
              refine lv_goto (tgt := 112) hx hb dX1_mark_89 (by decide) ?_
              exact hret (wc8.2.1 18 (ix p1)) wc8.2 hR rfl hE (Nat.le_refl 0) (Nat.le_refl 0) dX1_mark_112
          · have hR : m_mark p1 p2 Z = (wc8.2.1 15 (ix p1), wc8.2) := hR.trans (congrArg (fun z => z) (if_pos c66))
            refine lv_aload_n hx hb dX1_mark_69 rfl (lv_at hl 1 rfl) ?_
            refine mg_15 hx hb hts hown hK hE dX1_mark_70 ?_
            refine lv_iload_n hx hb dX1_mark_73 rfl (lv_at hl 2 rfl) ?_
            refine top_nat hnp1.1 ?_
            refine ma_15 (n := (ix p1)) (by omega) hx hb hK hE dX1_mark_74 ?_
            refine lv_goto (tgt := 112) hx hb dX1_mark_75 (by decide) ?_
            exact hret (wc8.2.1 15 (ix p1)) wc8.2 hR rfl hE (Nat.le_refl 0) (Nat.le_refl 0) dX1_mark_112
        · have hR : m_mark p1 p2 Z = (m_meets 3 wc8.2) := hR.trans (congrArg (fun z => z) (if_pos c56))
          refine lv_aload_n hx hb dX1_mark_59 rfl (lv_at hl 1 rfl) ?_
          refine lv_iconst (v := 3) hx hb dX1_mark_60 rfl ?_
          refine call_m_meets hx hb hml hown hts hK hA hE hl.1 3 (by omega) (lz (show 1 ≤ 3 by decide) hRf) (lz (show 21 ≤ 64 by decide) hRl) (Nat.le_of_ble_eq_true rfl) dX1_mark_61 (fun H locs hE => ?_)
          exact hret ((m_meets 3 wc8.2).1) ((m_meets 3 wc8.2).2) hR rfl hE (Nat.le_refl 0) (Nat.le_refl 0) dX1_mark_64
      refine lv_if_eq (tgt := 47) hx hb dX1_mark_19 (by decide) (fun c19 => ?_) (fun c19 => ?_)
      · have hR : m_mark p1 p2 Z = m_mark_j52 p1 p2 wc8 (1 : Int32) := hR.trans (congrArg (fun z => m_mark_j52 p1 p2 wc8 z) (if_pos c19))
        refine lv_iconst (v := 1) hx hb dX1_mark_47 rfl ?_
        refine lv_goto (tgt := 52) hx hb dX1_mark_48 (by decide) ?_
        exact hJ52 (1 : Int32)  hR _ _ _ hE (lv_sub hl [1, 2, 3] rfl)
      · have hR : m_mark p1 p2 Z = m_mark_j52 p1 p2 wc8 (if wc8.2.1 14 (ix p1) = p2 then (1 : Int32) else (if p2 = (2 : Int32) then (if wc8.2.1 14 (ix p1) = (3 : Int32) then (1 : Int32) else m_mark_k51) else m_mark_k51)) := hR.trans (congrArg (fun z => m_mark_j52 p1 p2 wc8 z) (if_neg c19))
        refine lv_aload_n hx hb dX1_mark_22 rfl (lv_at hl 1 rfl) ?_
        refine mg_14 hx hb hts hown hK hE dX1_mark_23 ?_
        refine lv_iload_n hx hb dX1_mark_26 rfl (lv_at hl 2 rfl) ?_
        refine top_nat hnp1.1 ?_
        refine ma_14 (n := (ix p1)) (by omega) hx hb hK hE dX1_mark_27 ?_
        refine lv_iload_n hx hb dX1_mark_28 rfl (lv_at hl 3 rfl) ?_
        refine lv_icmp_eq (tgt := 47) hx hb dX1_mark_29 (by decide) (fun c29 => ?_) (fun c29 => ?_)
        · have hR : m_mark p1 p2 Z = m_mark_j52 p1 p2 wc8 (1 : Int32) := hR.trans (congrArg (fun z => m_mark_j52 p1 p2 wc8 z) (if_pos c29))
          refine lv_iconst (v := 1) hx hb dX1_mark_47 rfl ?_
          refine lv_goto (tgt := 52) hx hb dX1_mark_48 (by decide) ?_
          exact hJ52 (1 : Int32)  hR _ _ _ hE (lv_sub hl [1, 2, 3] rfl)
        · have hR : m_mark p1 p2 Z = m_mark_j52 p1 p2 wc8 (if p2 = (2 : Int32) then (if wc8.2.1 14 (ix p1) = (3 : Int32) then (1 : Int32) else m_mark_k51) else m_mark_k51) := hR.trans (congrArg (fun z => m_mark_j52 p1 p2 wc8 z) (if_neg c29))
          refine lv_iload_n hx hb dX1_mark_32 rfl (lv_at hl 3 rfl) ?_
          refine lv_iconst (v := 2) hx hb dX1_mark_33 rfl ?_
          have hJ51 : ∀ (hR : m_mark p1 p2 Z = m_mark_j52 p1 p2 wc8 m_mark_k51), ∀ (H : Heap) (locs : List Loc) (ls : Array Slot), EW D A s.heap (MW m ar cs wc8.2) H locs → lv_has ls 5 [(0, .ref m), (1, .int p1), (2, .int p2)] → W p l e R s mid args below meth c H locs 0 0 Q (F0 mid 51 ls []) := by
            intro hR H locs ls hE hl
            have hR : m_mark p1 p2 Z = m_mark_j52 p1 p2 wc8 (0 : Int32) := hR
            refine lv_iconst (v := 0) hx hb dX1_mark_51 rfl ?_
            exact hJ52 (0 : Int32)  hR _ _ _ hE (lv_sub hl [0, 1, 2] rfl)
          refine lv_icmp_ne (tgt := 51) hx hb dX1_mark_34 (by decide) (fun c34 => ?_) (fun c34 => ?_)
          · have hR : m_mark p1 p2 Z = m_mark_j52 p1 p2 wc8 m_mark_k51 := hR.trans (congrArg (fun z => m_mark_j52 p1 p2 wc8 z) (if_neg c34))
            exact hJ51  hR _ _ _ hE (lv_sub hl [1, 2, 3] rfl)
          · have hR : m_mark p1 p2 Z = m_mark_j52 p1 p2 wc8 (if wc8.2.1 14 (ix p1) = (3 : Int32) then (1 : Int32) else m_mark_k51) := hR.trans (congrArg (fun z => m_mark_j52 p1 p2 wc8 z) (if_pos c34))
            refine lv_aload_n hx hb dX1_mark_37 rfl (lv_at hl 1 rfl) ?_
            refine mg_14 hx hb hts hown hK hE dX1_mark_38 ?_
            refine lv_iload_n hx hb dX1_mark_41 rfl (lv_at hl 2 rfl) ?_
            refine top_nat hnp1.1 ?_
            refine ma_14 (n := (ix p1)) (by omega) hx hb hK hE dX1_mark_42 ?_
            refine lv_iconst (v := 3) hx hb dX1_mark_43 rfl ?_
            refine lv_icmp_ne (tgt := 51) hx hb dX1_mark_44 (by decide) (fun c44 => ?_) (fun c44 => ?_)
            · have hR : m_mark p1 p2 Z = m_mark_j52 p1 p2 wc8 m_mark_k51 := hR.trans (congrArg (fun z => m_mark_j52 p1 p2 wc8 z) (if_neg c44))
              exact hJ51  hR _ _ _ hE (lv_sub hl [1, 2, 3] rfl)
            · have hR : m_mark p1 p2 Z = m_mark_j52 p1 p2 wc8 (1 : Int32) := hR.trans (congrArg (fun z => m_mark_j52 p1 p2 wc8 z) (if_pos c44))
              refine lv_iconst (v := 1) hx hb dX1_mark_47 rfl ?_
              refine lv_goto (tgt := 52) hx hb dX1_mark_48 (by decide) ?_
              exact hJ52 (1 : Int32)  hR _ _ _ hE (lv_sub hl [1, 2, 3] rfl)
    · have hR : m_mark p1 p2 Z = (wc8.1, wc8.2) := hR.trans (congrArg (fun z => z) (if_neg c13))
      refine lv_iload_n hx hb dX1_mark_16 rfl (lv_at hl 0 rfl) ?_
      exact hret wc8.1 wc8.2 hR rfl hE (Nat.le_refl 0) (Nat.le_refl 0) dX1_mark_17
  exact hNc8 (m_need (m_in p2 (0 : Int32) (3 : Int32)) p1 Z) rfl hR _ _ _ hE (lv_sub hl [0, 1, 2] rfl)
def m_mean_c9 (wc9 : Int32 × ZT) : Int32 × ZT := (wc9.1, wc9.2)
def m_mean (Z : ZT) : Int32 × ZT := (if (m_there Z) = 0 then m_mean_c9 (m_meets 4 Z) else (((m_allStocks Z) / (m_there Z)), Z))
set_option maxHeartbeats 4000000 in
set_option maxRecDepth 100000 in
theorem met_m_mean (l : Launch) (D : va_G) (cs : Nat → ClassId) (m : Nat) (ar : Nat → Nat) (Z : ZT) (sz : Nat)  : Met l yX1_mean (ws_ yX1_mean cX1_mean 1 (some .int)) ({ frames := 1, cells := 0, slots := 0, locals := 22 }) (va_Pc [.ref m] (wSt D cs (MW m ar cs Z) sz)) (cQi (fun (v : Int32) (u : ZT) => m_mean Z = (v, u)) D (fun u => MW m ar cs u) (MW m ar cs Z) sz) 0 0 (va_A (MW m ar cs Z) sz) := by
  refine gStart_i (C := RX1) rfl rfl (Nat.le_of_ble_eq_true rfl) ?_
  intro p e s mid args below meth c R Q A hx hb hml hown hts hK hA hRf hRl hRc hRs hret hE ls hl
  have hRf : 1 ≤ R.frames := hRf
  have hRl : 22 ≤ R.locals := hRl
  have hl : lv_has ls 1 [(0, .ref m)] := hl
  have hR : m_mean Z = (if (m_there Z) = 0 then m_mean_c9 (m_meets 4 Z) else (((m_allStocks Z) / (m_there Z)), Z)) := rfl
  refine lv_aload_n hx hb dX1_mean_0 rfl (lv_at hl 0 rfl) ?_
  refine call_m_there hx hb hml hown hts hK hA hE hl.1 (lz (show 1 ≤ 1 by decide) hRf) (lz (show 22 ≤ 22 by decide) hRl) (Nat.le_of_ble_eq_true rfl) dX1_mean_1 (fun H locs hE => ?_)
  refine lv_if_ne (tgt := 15) hx hb dX1_mean_4 (by decide) (fun c4 => ?_) (fun c4 => ?_)
  · have hR : m_mean Z = (((m_allStocks Z) / (m_there Z)), Z) := hR.trans (congrArg (fun z => z) (if_neg c4))
    refine lv_aload_n hx hb dX1_mean_15 rfl (lv_at hl 0 rfl) ?_
    refine call_m_allStocks hx hb hml hown hts hK hA hE hl.1 (lz (show 1 ≤ 1 by decide) hRf) (lz (show 22 ≤ 22 by decide) hRl) (Nat.le_of_ble_eq_true rfl) dX1_mean_16 (fun H locs hE => ?_)
    refine lv_aload_n hx hb dX1_mean_19 rfl (lv_at hl 0 rfl) ?_
    refine call_m_there hx hb hml hown hts hK hA hE hl.1 (lz (show 1 ≤ 1 by decide) hRf) (lz (show 22 ≤ 22 by decide) hRl) (Nat.le_of_ble_eq_true rfl) dX1_mean_20 (fun H locs hE => ?_)
    refine lv_idiv hx hb dX1_mean_23 (c4) ?_
    exact hret ((m_allStocks Z) / (m_there Z)) Z hR rfl hE (Nat.le_refl 0) (Nat.le_refl 0) dX1_mean_24
  · have hR : m_mean Z = (m_mean_c9 (m_meets 4 Z)) := hR.trans (congrArg (fun z => z) (if_pos c4))
    refine lv_aload_n hx hb dX1_mean_7 rfl (lv_at hl 0 rfl) ?_
    refine lv_iconst (v := 4) hx hb dX1_mean_8 rfl ?_
    refine call_m_meets hx hb hml hown hts hK hA hE hl.1 4 (by omega) (lz (show 1 ≤ 1 by decide) hRf) (lz (show 21 ≤ 22 by decide) hRl) (Nat.le_of_ble_eq_true rfl) dX1_mean_9 (fun H locs hE => ?_)
    have hNc9 : ∀ (wc9 : Int32 × ZT) (hR : m_mean Z = m_mean_c9 wc9), ∀ (H : Heap) (locs : List Loc) (ls : Array Slot), EW D A s.heap (MW m ar cs wc9.2) H locs → lv_has ls 1 [] → W p l e R s mid args below meth c H locs 0 0 Q (F0 mid 12 ls [.int wc9.1]) := by
      intro wc9 hR H locs ls hE hl
      have hR : m_mean Z = (wc9.1, wc9.2) := hR
      refine lv_goto (tgt := 24) hx hb dX1_mean_12 (by decide) ?_
      exact hret wc9.1 wc9.2 hR rfl hE (Nat.le_refl 0) (Nat.le_refl 0) dX1_mean_24
    exact hNc9 (m_meets 4 Z) hR _ _ _ hE (lv_sub hl [] rfl)
