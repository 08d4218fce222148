/-! the twin: tables, what is told -/
set_option maxRecDepth 100000
theorem lt_step {Z : ZT} {i j : Nat} (ha : j ≤ i) (hb : Z.1 43 0 = nI j) (hc : ∀ k : Nat, k < j → vp_in (Z.1 44 k) 8) (hi : i < 8) : ∃ j' : Nat, j' ≤ i + 1 ∧ (sI (sI Z 44 (ix (Z.1 43 0)) (nI i)) 43 0 (nI (ix (Z.1 43 0) + 1))).1 43 0 = nI j' ∧ ∀ k : Nat, k < j' → vp_in ((sI (sI Z 44 (ix (Z.1 43 0)) (nI i)) 43 0 (nI (ix (Z.1 43 0) + 1))).1 44 k) 8 := by
  have e : ix (Z.1 43 0) = j := by rw [hb]; exact ix_nI (by omega)
  rw [e]
  refine ⟨j + 1, by omega, rfl, fun k hk => ?_⟩
  show vp_in (upd (Z.1 44) j (nI i) k) 8
  unfold upd
  split
  · exact vp_in_nI hi (by decide)
  · exact hc k (by omega)
def m_layTable_j42 (w42 : ZT) : ZT := w42
def m_layTable_b7 (i7 : Nat) (w7 : ZT) : ZT := m_layTable_j42 (if w7.1 13 i7 = 0 then w7 else sI (sI w7 44 (ix (w7.1 43 0)) (nI i7)) 43 0 (nI ((ix (w7.1 43 0)) + 1)))
def m_layTable_b60 (i50 : Nat) (i60 : Nat) (w60 : ZT) : ZT := sL w60 45 ((8 * i50) + i60) ((-(w60.1 27 ((8 * (ix (w60.1 44 i50))) + (ix (w60.1 44 i60))))).toInt64)
def m_layTable_e60 (w60 : ZT) : ZT := w60
def m_layTable_b50 (w7 : ZT) (i50 : Nat) (w50 : ZT) : ZT := m_layTable_e60 (itR (m_layTable_b60 i50) 0 (ix (w7.1 43 0)) w50)
def m_layTable_e50 (w50 : ZT) : ZT := w50
def m_layTable_e7 (w7 : ZT) : ZT := m_layTable_e50 (itR (m_layTable_b50 w7) 0 (ix (w7.1 43 0)) w7)
def m_layTable (Z : ZT) : ZT := m_layTable_e7 (itR m_layTable_b7 0 8 (sI Z 43 0 (0 : Int32)))
set_option maxHeartbeats 4000000 in
set_option maxRecDepth 100000 in
theorem met_m_layTable (l : Launch) (D : va_G) (cs : Nat → ClassId) (m : Nat) (ar : Nat → Nat) (Z : ZT) (sz : Nat)  : Met l yX1_layTable (ws_ yX1_layTable cX1_layTable 3 none) ({ frames := 0, cells := 0, slots := 0, locals := 0 }) (va_Pc [.ref m] (wSt D cs (MW m ar cs Z) sz)) (cQv (fun (u : ZT) => m_layTable Z = u) D (fun u => MW m ar cs u) (MW m ar cs Z) sz) 0 0 (va_A (MW m ar cs Z) sz) := by
  refine gStart_v (C := RX1) rfl rfl (Nat.le_of_ble_eq_true rfl) ?_
  intro p e s mid args below meth c R Q A hx hb hml hown hts hK hA hRf hRl hRc hRs hnm hret hE ls hl
  have hRf : 0 ≤ R.frames := hRf
  have hRl : 0 ≤ R.locals := hRl
  have hl : lv_has ls 3 [(0, .ref m)] := hl
  have hR : m_layTable Z = (m_layTable_e7 (itR m_layTable_b7 0 8 (sI Z 43 0 (0 : Int32)))) := rfl
  refine lv_aload_n hx hb dX1_layTable_0 rfl (lv_at hl 0 rfl) ?_
  refine lv_iconst (v := 0) hx hb dX1_layTable_1 rfl ?_
  refine mp_43 hx hb hts hown hK hE dX1_layTable_2 (fun H locs hE => ?_)
  refine lv_iconst (v := 0) hx hb dX1_layTable_5 rfl ?_
  refine lv_istore_n (lv' := [(1, .int (0 : Int32)), (0, .ref m)]) hx hb dX1_layTable_6 rfl hl (by decide) rfl (fun ls hl => ?_)
  have hL7 : ∀ (k i7 : Nat) (w7 : ZT) (hi7 : i7 + k = 8) (hj7 : ∃ j : Nat, j ≤ i7 ∧ w7.1 43 0 = nI j ∧ ∀ k : Nat, k < j → vp_in (w7.1 44 k) 8) (hR : m_layTable Z = m_layTable_e7 (itR m_layTable_b7 i7 k w7)), ∀ (H : Heap) (locs : List Loc) (ls : Array Slot), EW D A s.heap (MW m ar cs w7) H locs → lv_has ls 3 [(0, .ref m), (1, .int (nI i7))] → W p l e R s mid args below meth c H locs 0 0 Q (F0 mid 7 ls []) := by
    intro k
    induction k with
    | zero =>
      intro i7 w7 hi7 hj7 hR H locs ls hE hl
      have hie7 : i7 = 8 := by omega
      obtain ⟨j7, hj7a, hj7b, hj7c⟩ := hj7
      have hjx7 : ix (w7.1 43 0) = j7 := by rw [hj7b]; exact ix_nI (by omega)
      have hR : m_layTable Z = (m_layTable_e50 (itR (m_layTable_b50 w7) 0 (ix (w7.1 43 0)) w7)) := hR
      refine lv_iload_n hx hb dX1_layTable_7 rfl (lv_at hl 1 rfl) ?_
      refine lv_bipush (v := 8) hx hb dX1_layTable_8 rfl ?_
      refine n_geT (a := i7) (b := 8) (by omega) (by omega) hx hb dX1_layTable_10 (tgt := 48) (by decide) ?_
      have hl := lv_sub (l' := [(0, .ref m)]) hl [0] rfl
      refine lv_iconst (v := 0) hx hb dX1_layTable_48 rfl ?_
      refine lv_istore_n (lv' := [(1, .int (0 : Int32)), (0, .ref m)]) hx hb dX1_layTable_49 rfl hl (by decide) rfl (fun ls hl => ?_)
      have hL50 : ∀ (k i50 : Nat) (w50 : ZT) (hi50 : i50 + k = (ix (w7.1 43 0))) (hz50 : w50.1 = w7.1) (hR : m_layTable Z = m_layTable_e50 (itR (m_layTable_b50 w7) i50 k w50)), ∀ (H : Heap) (locs : List Loc) (ls : Array Slot), EW D A s.heap (MW m ar cs w50) H locs → lv_has ls 3 [(0, .ref m), (1, .int (nI i50))] → W p l e R s mid args below meth c H locs 0 0 Q (F0 mid 50 ls []) := by
        intro k
        induction k with
        | zero =>
          intro i50 w50 hi50 hz50 hR H locs ls hE hl
          have hie50 : i50 = (ix (w7.1 43 0)) := by omega
          have hbx50 : ix (w50.1 43 0) = ix (w7.1 43 0) := by rw [hz50]
          have vw50 : vp_in (w50.1 43 0) 9 := by rw [hz50, hj7b]; exact vp_in_nI (by omega) (by decide)
          have hR : m_layTable Z = w50 := hR
          refine lv_iload_n hx hb dX1_layTable_50 rfl (lv_at hl 1 rfl) ?_
          refine lv_aload_n hx hb dX1_layTable_51 rfl (lv_at hl 0 rfl) ?_
          refine mg_43 hx hb hts hown hK hE dX1_layTable_52 ?_
          have hna52 := vp_ix (x := w50.1 43 0) (N := 9) (vw50) (by decide)
          have hna52b := hna52.2
          refine top_nat hna52.1 ?_
          refine n_geT (a := i50) (b := (ix (w50.1 43 0))) (by omega) (by omega) hx hb dX1_layTable_55 (tgt := 114) (by decide) ?_
          have hl := lv_sub (l' := [(0, .ref m)]) hl [0] rfl
          exact hret w50 hR hE (Nat.le_refl 0) (Nat.le_refl 0) dX1_layTable_114
        | succ k ih50 =>
          intro i50 w50 hi50 hz50 hR H locs ls hE hl
          have hlt50 : i50 < (ix (w7.1 43 0)) := by omega
          have hbx50 : ix (w50.1 43 0) = ix (w7.1 43 0) := by rw [hz50]
          have vw50 : vp_in (w50.1 43 0) 9 := by rw [hz50, hj7b]; exact vp_in_nI (by omega) (by decide)
          have hB50 : m_layTable_b50 w7 i50 w50 = m_layTable_e60 (itR (m_layTable_b60 i50) 0 (ix (w7.1 43 0)) w50) := rfl
          refine lv_iload_n hx hb dX1_layTable_50 rfl (lv_at hl 1 rfl) ?_
          refine lv_aload_n hx hb dX1_layTable_51 rfl (lv_at hl 0 rfl) ?_
          refine mg_43 hx hb hts hown hK hE dX1_layTable_52 ?_
          have hna52 := vp_ix (x := w50.1 43 0) (N := 9) (vw50) (by decide)
          have hna52b := hna52.2
          refine top_nat hna52.1 ?_
          refine n_geF (a := i50) (b := (ix (w50.1 43 0))) (by omega) (by omega) hx hb dX1_layTable_55 (tgt := 114) (by decide) ?_
          refine lv_iconst (v := 0) hx hb dX1_layTable_58 rfl ?_
          refine lv_istore_n (lv' := [(2, .int (0 : Int32)), (0, .ref m), (1, .int (nI i50))]) hx hb dX1_layTable_59 rfl hl (by decide) rfl (fun ls hl => ?_)
          have hL60 : ∀ (k i60 : Nat) (w60 : ZT) (hi60 : i60 + k = (ix (w7.1 43 0))) (hz60 : w60.1 = w7.1) (hB50 : m_layTable_b50 w7 i50 w50 = m_layTable_e60 (itR (m_layTable_b60 i50) i60 k w60)), ∀ (H : Heap) (locs : List Loc) (ls : Array Slot), EW D A s.heap (MW m ar cs w60) H locs → lv_has ls 3 [(0, .ref m), (1, .int (nI i50)), (2, .int (nI i60))] → W p l e R s mid args below meth c H locs 0 0 Q (F0 mid 60 ls []) := by
            intro k
            induction k with
            | zero =>
              intro i60 w60 hi60 hz60 hB50 H locs ls hE hl
              have hie60 : i60 = (ix (w7.1 43 0)) := by omega
              have hbx60 : ix (w60.1 43 0) = ix (w7.1 43 0) := by rw [hz60]
              have vw60 : vp_in (w60.1 43 0) 9 := by rw [hz60, hj7b]; exact vp_in_nI (by omega) (by decide)
              have hB50 : m_layTable_b50 w7 i50 w50 = w60 := hB50
              refine lv_iload_n hx hb dX1_layTable_60 rfl (lv_at hl 2 rfl) ?_
              refine lv_aload_n hx hb dX1_layTable_61 rfl (lv_at hl 0 rfl) ?_
              refine mg_43 hx hb hts hown hK hE dX1_layTable_62 ?_
              have hna62 := vp_ix (x := w60.1 43 0) (N := 9) (vw60) (by decide)
              have hna62b := hna62.2
              refine top_nat hna62.1 ?_
              refine n_geT (a := i60) (b := (ix (w60.1 43 0))) (by omega) (by omega) hx hb dX1_layTable_65 (tgt := 108) (by decide) ?_
              have hl := lv_sub (l' := [(0, .ref m), (1, .int (nI i50))]) hl [0, 1] rfl
              refine n_inc (lv' := [(1, .int (nI (i50 + 1))), (0, .ref m)]) hx hb dX1_layTable_108 hl (k := 1) rfl (by decide) rfl (fun ls hl => ?_)
              refine lv_goto (tgt := 50) hx hb dX1_layTable_111 (by decide) ?_
              exact ih50 (i50 + 1) w60 (by omega) (by exact hz60) (hR.trans (congrArg (fun z => m_layTable_e50 (itR (m_layTable_b50 w7) (i50 + 1) k z)) hB50)) _ _ _ hE (lv_sub hl [1, 0] rfl)
            | succ k ih60 =>
              intro i60 w60 hi60 hz60 hB50 H locs ls hE hl
              have hlt60 : i60 < (ix (w7.1 43 0)) := by omega
              have hbx60 : ix (w60.1 43 0) = ix (w7.1 43 0) := by rw [hz60]
              have vw60 : vp_in (w60.1 43 0) 9 := by rw [hz60, hj7b]; exact vp_in_nI (by omega) (by decide)
              have hB60 : m_layTable_b60 i50 i60 w60 = sL w60 45 ((8 * i50) + i60) ((-(w60.1 27 ((8 * (ix (w60.1 44 i50))) + (ix (w60.1 44 i60))))).toInt64) := rfl
              refine lv_iload_n hx hb dX1_layTable_60 rfl (lv_at hl 2 rfl) ?_
              refine lv_aload_n hx hb dX1_layTable_61 rfl (lv_at hl 0 rfl) ?_
              refine mg_43 hx hb hts hown hK hE dX1_layTable_62 ?_
              have hna62 := vp_ix (x := w60.1 43 0) (N := 9) (vw60) (by decide)
              have hna62b := hna62.2
              refine top_nat hna62.1 ?_
              refine n_geF (a := i60) (b := (ix (w60.1 43 0))) (by omega) (by omega) hx hb dX1_layTable_65 (tgt := 108) (by decide) ?_
              refine lv_aload_n hx hb dX1_layTable_68 rfl (lv_at hl 0 rfl) ?_
              refine mg_45 hx hb hts hown hK hE dX1_layTable_69 ?_
              refine lv_bipush (v := 8) hx hb dX1_layTable_72 rfl ?_
              refine lv_iload_n hx hb dX1_layTable_74 rfl (lv_at hl 1 rfl) ?_
              refine n_mul (a := 8) (b := i50) hx hb dX1_layTable_75 ?_
              refine lv_iload_n hx hb dX1_layTable_76 rfl (lv_at hl 2 rfl) ?_
              refine n_add (a := (8 * i50)) (b := i60) hx hb dX1_layTable_77 ?_
              refine lv_aload_n hx hb dX1_layTable_78 rfl (lv_at hl 0 rfl) ?_
              refine mg_27 hx hb hts hown hK hE dX1_layTable_79 ?_
              refine lv_bipush (v := 8) hx hb dX1_layTable_82 rfl ?_
              refine lv_aload_n hx hb dX1_layTable_84 rfl (lv_at hl 0 rfl) ?_
              refine mg_44 hx hb hts hown hK hE dX1_layTable_85 ?_
              refine lv_iload_n hx hb dX1_layTable_88 rfl (lv_at hl 1 rfl) ?_
              refine ma_44 (n := i50) (by omega) hx hb hK hE dX1_layTable_89 ?_
              have hna89 := vp_ix (x := w60.1 44 i50) (N := 8) (by rw [hz60]; exact hj7c _ (by omega)) (by decide)
              have hna89b := hna89.2
              refine top_nat hna89.1 ?_
              refine n_mul (a := 8) (b := (ix (w60.1 44 i50))) hx hb dX1_layTable_90 ?_
              refine lv_aload_n hx hb dX1_layTable_91 rfl (lv_at hl 0 rfl) ?_
              refine mg_44 hx hb hts hown hK hE dX1_layTable_92 ?_
              refine lv_iload_n hx hb dX1_layTable_95 rfl (lv_at hl 2 rfl) ?_
              refine ma_44 (n := i60) (by omega) hx hb hK hE dX1_layTable_96 ?_
              have hna96 := vp_ix (x := w60.1 44 i60) (N := 8) (by rw [hz60]; exact hj7c _ (by omega)) (by decide)
              have hna96b := hna96.2
              refine top_nat hna96.1 ?_
              refine n_add (a := (8 * (ix (w60.1 44 i50)))) (b := (ix (w60.1 44 i60))) hx hb dX1_layTable_97 ?_
              refine ma_27 (n := ((8 * (ix (w60.1 44 i50))) + (ix (w60.1 44 i60)))) (by omega) hx hb hK hE dX1_layTable_98 ?_
              refine lv_ineg hx hb dX1_layTable_99 ?_
              refine lv_i2l hx hb dX1_layTable_100 rfl ?_
              refine ms_45 (n := ((8 * i50) + i60)) (by omega) hx hb hK hE dX1_layTable_101 (fun H locs hE => ?_)
              refine n_inc (lv' := [(2, .int (nI (i60 + 1))), (0, .ref m), (1, .int (nI i50))]) hx hb dX1_layTable_102 hl (k := 2) rfl (by decide) rfl (fun ls hl => ?_)
              refine lv_goto (tgt := 60) hx hb dX1_layTable_105 (by decide) ?_
              exact ih60 (i60 + 1) (sL w60 45 ((8 * i50) + i60) ((-(w60.1 27 ((8 * (ix (w60.1 44 i50))) + (ix (w60.1 44 i60))))).toInt64)) (by omega) (by exact hz60) (hB50.trans (congrArg (fun z => m_layTable_e60 (itR (m_layTable_b60 i50) (i60 + 1) k z)) hB60)) _ _ _ hE (lv_sub hl [1, 2, 0] rfl)
          exact hL60 (ix (w7.1 43 0)) 0 w50 (by omega) (by exact hz50) hB50 _ _ _ hE (lv_sub hl [1, 2, 0] rfl)
      exact hL50 (ix (w7.1 43 0)) 0 w7 (by omega) (by exact rfl) hR _ _ _ hE (lv_sub hl [1, 0] rfl)
    | succ k ih7 =>
      intro i7 w7 hi7 hj7 hR H locs ls hE hl
      have hlt7 : i7 < 8 := by omega
      obtain ⟨j7, hj7a, hj7b, hj7c⟩ := hj7
      have hjx7 : ix (w7.1 43 0) = j7 := by rw [hj7b]; exact ix_nI (by omega)
      have hv7 : vp_in (w7.1 43 0) 8 := by rw [hj7b]; exact vp_in_nI (by omega) (by decide)
      have hB7 : m_layTable_b7 i7 w7 = m_layTable_j42 (if w7.1 13 i7 = 0 then w7 else sI (sI w7 44 (ix (w7.1 43 0)) (nI i7)) 43 0 (nI ((ix (w7.1 43 0)) + 1))) := rfl
      refine lv_iload_n hx hb dX1_layTable_7 rfl (lv_at hl 1 rfl) ?_
      refine lv_bipush (v := 8) hx hb dX1_layTable_8 rfl ?_
      refine n_geF (a := i7) (b := 8) (by omega) (by omega) hx hb dX1_layTable_10 (tgt := 48) (by decide) ?_
      refine lv_aload_n hx hb dX1_layTable_13 rfl (lv_at hl 0 rfl) ?_
      refine mg_13 hx hb hts hown hK hE dX1_layTable_14 ?_
      refine lv_iload_n hx hb dX1_layTable_17 rfl (lv_at hl 1 rfl) ?_
      refine ma_13 (n := i7) (by omega) hx hb hK hE dX1_layTable_18 ?_
      have hJ42 : ∀ (w42 : ZT) (hj42 : ∃ j : Nat, j ≤ i7 + 1 ∧ w42.1 43 0 = nI j ∧ ∀ k : Nat, k < j → vp_in (w42.1 44 k) 8) (hB7 : m_layTable_b7 i7 w7 = m_layTable_j42 w42), ∀ (H : Heap) (locs : List Loc) (ls : Array Slot), EW D A s.heap (MW m ar cs w42) H locs → lv_has ls 3 [(0, .ref m), (1, .int (nI i7))] → W p l e R s mid args below meth c H locs 0 0 Q (F0 mid 42 ls []) := by
        intro w42 hj42 hB7 H locs ls hE hl
        have hB7 : m_layTable_b7 i7 w7 = w42 := hB7
        refine n_inc (lv' := [(1, .int (nI (i7 + 1))), (0, .ref m)]) hx hb dX1_layTable_42 hl (k := 1) rfl (by decide) rfl (fun ls hl => ?_)
        refine lv_goto (tgt := 7) hx hb dX1_layTable_45 (by decide) ?_
        exact ih7 (i7 + 1) w42 (by omega) (by exact hj42) (hR.trans (congrArg (fun z => m_layTable_e7 (itR m_layTable_b7 (i7 + 1) k z)) hB7)) _ _ _ hE (lv_sub hl [1, 0] rfl)
      refine lv_if_eq (tgt := 42) hx hb dX1_layTable_19 (by decide) (fun c19 => ?_) (fun c19 => ?_)
      · have hB7 : m_layTable_b7 i7 w7 = m_layTable_j42 w7 := hB7.trans (congrArg (fun z => m_layTable_j42 z) (if_pos c19))
        exact hJ42 w7  (by first | exact ⟨j7, by omega, hj7b, hj7c⟩ | exact lt_step hj7a hj7b hj7c hlt7) hB7 _ _ _ hE (lv_sub hl [0, 1] rfl)
      · have hB7 : m_layTable_b7 i7 w7 = m_layTable_j42 (sI (sI w7 44 (ix (w7.1 43 0)) (nI i7)) 43 0 (nI ((ix (w7.1 43 0)) + 1))) := hB7.trans (congrArg (fun z => m_layTable_j42 z) (if_neg c19))
        refine lv_aload_n hx hb dX1_layTable_22 rfl (lv_at hl 0 rfl) ?_
        refine mg_44 hx hb hts hown hK hE dX1_layTable_23 ?_
        refine lv_aload_n hx hb dX1_layTable_26 rfl (lv_at hl 0 rfl) ?_
        refine mg_43 hx hb hts hown hK hE dX1_layTable_27 ?_
        have hna27 := vp_ix (x := w7.1 43 0) (N := 8) (hv7) (by decide)
        have hna27b := hna27.2
        refine top_nat hna27.1 ?_
        refine lv_iload_n hx hb dX1_layTable_30 rfl (lv_at hl 1 rfl) ?_
        refine ms_44 (n := (ix (w7.1 43 0))) (by omega) hx hb hK hE dX1_layTable_31 (fun H locs hE => ?_)
        refine lv_aload_n hx hb dX1_layTable_32 rfl (lv_at hl 0 rfl) ?_
        refine lv_dup hx hb dX1_layTable_33 rfl ?_
        refine mg_43 hx hb hts hown hK hE dX1_layTable_34 ?_
        have hna34 := vp_ix (x := w7.1 43 0) (N := 8) (hv7) (by decide)
        have hna34b := hna34.2
        refine top_nat hna34.1 ?_
        refine lv_iconst (v := 1) hx hb dX1_layTable_37 rfl ?_
        refine n_add (a := (ix (w7.1 43 0))) (b := 1) hx hb dX1_layTable_38 ?_
        refine mp_43 hx hb hts hown hK hE dX1_layTable_39 (fun H locs hE => ?_)
        exact hJ42 (sI (sI w7 44 (ix (w7.1 43 0)) (nI i7)) 43 0 (nI ((ix (w7.1 43 0)) + 1)))  (by first | exact ⟨j7, by omega, hj7b, hj7c⟩ | exact lt_step hj7a hj7b hj7c hlt7) hB7 _ _ _ hE (lv_sub hl [0, 1] rfl)
  exact hL7 8 0 (sI Z 43 0 (0 : Int32)) (by omega) (by exact ⟨0, Nat.zero_le _, rfl, fun k h => absurd h (Nat.not_lt_zero _)⟩) hR _ _ _ hE (lv_sub hl [1, 0] rfl)
section C_layTable
variable {p : Program} {l : Launch} {e : Env} {R : Room} {s : State} {mid : MethodId} {args : Array Value} {below : List Frame} {meth : Method} {c : Code} {H : Heap} {locs : List Loc} {Q : State → Prop} {cc : ByteArray} {pc : Nat} {ls : Array Slot} {rest : List Value} {D : va_G} {A : Nat → Prop} {m : Nat} {ar : Nat → Nat} {cs : Nat → ClassId} {Z : ZT} {nL : Nat}
theorem call_m_layTable (hx : p.tables.exec = Jvm.exec) (hb : c.code = cc) (hml : c.maxLocals = nL) (hown : s.vm.findClass RX1 = some mid.cls) (hts : ∀ w ∈ lw_all, w.before args s = true) (hK : KK D cs s) (hA : ∀ q : Nat, s.heap.size ≤ q → A q) (hE : EW D A s.heap (MW m ar cs Z) H locs) (hls : ls.size = nL)  (h1 : 1 ≤ R.frames) (h2 : 22 ≤ R.locals) (h3 : (rest.map fun v => v.category).sum ≤ 8) (hd : decode cc pc = .ok (.invokevirtual 313, 3)) (kk : ∀ (H1 : Heap) (locs1 : List Loc), EW D A s.heap (MW m ar cs (m_layTable Z)) H1 locs1 → W p l e R s mid args below meth c H1 locs1 0 0 Q (F0 mid (pc + 3) ls (rest))) : W p l e R s mid args below meth c H locs 0 0 Q (F0 mid pc ls (.ref m :: rest)) :=
  gCall_v (As := []) (rest := rest) (q0 := 0) (ci := 1) (fs := MF ar Z) (T' := TX1) (N' := 52) hx hb hml hown hts hK hA hE hls (met_m_layTable l D cs m ar Z H.size ) (cwV 0 hts (lw_V q1382 q1384 qs72 q85 q1385) rfl rfl rfl (by decide +kernel) ⟨h1, h2⟩) rfl rfl rfl rfl h3 hd ⟨Nat.zero_le _, Nat.zero_le _⟩ (fun u H1 locs1 hp _ hE => by subst hp; exact kk H1 locs1 hE)
end C_layTable
def m_placeOf_j24 (w4 : Int32) (w24 : Int32) : Int32 := (w4 + w24)
def m_placeOf_b4 (Z : ZT) (i4 : Nat) (w4 : Int32) : Int32 := m_placeOf_j24 w4 (if Z.1 13 i4 = 0 then (0 : Int32) else (1 : Int32))
def m_placeOf_e4 (w4 : Int32) : Int32 := w4
def m_placeOf (p1 : Nat) (Z : ZT) : Int32 := m_placeOf_e4 (itR (m_placeOf_b4 Z) 0 p1 (0 : Int32))
set_option maxHeartbeats 4000000 in
set_option maxRecDepth 100000 in
theorem met_m_placeOf (l : Launch) (D : va_G) (cs : Nat → ClassId) (m : Nat) (ar : Nat → Nat) (Z : ZT) (sz : Nat) (p1 : Nat) (hn1 : p1 < 8) : Met l yX1_placeOf (ws_ yX1_placeOf cX1_placeOf 4 (some .int)) ({ frames := 0, cells := 0, slots := 0, locals := 0 }) (va_Pc [.ref m, .int (nI p1)] (wSt D cs (MW m ar cs Z) sz)) (cQi (fun (v : Int32) (_ : Unit) => m_placeOf p1 Z = v) D (fun _ => (MW m ar cs Z)) (MW m ar cs Z) sz) 0 0 (va_A (MW m ar cs Z) sz) := by
  refine gStart_i (C := RX1) rfl rfl (Nat.le_of_ble_eq_true rfl) ?_
  intro p e s mid args below meth c R Q A hx hb hml hown hts hK hA hRf hRl hRc hRs hret hE ls hl
  have hRf : 0 ≤ R.frames := hRf
  have hRl : 0 ≤ R.locals := hRl
  have hl : lv_has ls 4 [(0, .ref m), (1, .int (nI p1))] := hl
  have hR : m_placeOf p1 Z = (m_placeOf_e4 (itR (m_placeOf_b4 Z) 0 p1 (0 : Int32))) := rfl
  refine lv_iconst (v := 0) hx hb dX1_placeOf_0 rfl ?_
  refine lv_istore_n (lv' := [(2, .int (0 : Int32)), (0, .ref m), (1, .int (nI p1))]) hx hb dX1_placeOf_1 rfl hl (by decide) rfl (fun ls hl => ?_)
  refine lv_iconst (v := 0) hx hb dX1_placeOf_2 rfl ?_
  refine lv_istore_n (lv' := [(3, .int (0 : Int32)), (2, .int (0 : Int32)), (0, .ref m), (1, .int (nI p1))]) hx hb dX1_placeOf_3 rfl hl (by decide) rfl (fun ls hl => ?_)
  have hL4 : ∀ (k i4 : Nat) (w4 : Int32) (hi4 : i4 + k = p1) (hR : m_placeOf p1 Z = m_placeOf_e4 (itR (m_placeOf_b4 Z) i4 k w4)), ∀ (H : Heap) (locs : List Loc) (ls : Array Slot), EW D A s.heap (MW m ar cs Z) H locs → lv_has ls 4 [(0, .ref m), (1, .int (nI p1)), (2, .int w4), (3, .int (nI i4))] → W p l e R s mid args below meth c H locs 0 0 Q (F0 mid 4 ls []) := by
    intro k
    induction k with
    | zero =>
      intro i4 w4 hi4 hR H locs ls hE hl
      have hie4 : i4 = p1 := by omega
      have hR : m_placeOf p1 Z = w4 := hR
      refine lv_iload_n hx hb dX1_placeOf_4 rfl (lv_at hl 3 rfl) ?_
      refine lv_iload_n hx hb dX1_placeOf_5 rfl (lv_at hl 1 rfl) ?_
      refine n_geT (a := i4) (b := p1) (by omega) (by omega) hx hb dX1_placeOf_6 (tgt := 32) (by decide) ?_
      have hl := lv_sub (l' := [(0, .ref m), (1, .int (nI p1)), (2, .int w4)]) hl [0, 1, 2] rfl
      refine lv_iload_n hx hb dX1_placeOf_32 rfl (lv_at hl 2 rfl) ?_
      exact hret w4 () hR rfl hE (Nat.le_refl 0) (Nat.le_refl 0) dX1_placeOf_33
    | succ k ih4 =>
      intro i4 w4 hi4 hR H locs ls hE hl
      have hlt4 : i4 < p1 := by omega
      have hB4 : m_placeOf_b4 Z i4 w4 = m_placeOf_j24 w4 (if Z.1 13 i4 = 0 then (0 : Int32) else (1 : Int32)) := rfl
      refine lv_iload_n hx hb dX1_placeOf_4 rfl (lv_at hl 3 rfl) ?_
      refine lv_iload_n hx hb dX1_placeOf_5 rfl (lv_at hl 1 rfl) ?_
      refine n_geF (a := i4) (b := p1) (by omega) (by omega) hx hb dX1_placeOf_6 (tgt := 32) (by decide) ?_
      refine lv_iload_n hx hb dX1_placeOf_9 rfl (lv_at hl 2 rfl) ?_
      refine lv_aload_n hx hb dX1_placeOf_10 rfl (lv_at hl 0 rfl) ?_
      refine mg_13 hx hb hts hown hK hE dX1_placeOf_11 ?_
      refine lv_iload_n hx hb dX1_placeOf_14 rfl (lv_at hl 3 rfl) ?_
      refine ma_13 (n := i4) (by omega) hx hb hK hE dX1_placeOf_15 ?_
      have hJ24 : ∀ (w24 : Int32) (hB4 : m_placeOf_b4 Z i4 w4 = m_placeOf_j24 w4 w24), ∀ (H : Heap) (locs : List Loc) (ls : Array Slot), EW D A s.heap (MW m ar cs Z) H locs → lv_has ls 4 [(0, .ref m), (1, .int (nI p1)), (3, .int (nI i4))] → W p l e R s mid args below meth c H locs 0 0 Q (F0 mid 24 ls [.int w24, .int w4]) := by
        intro w24 hB4 H locs ls hE hl
        have hB4 : m_placeOf_b4 Z i4 w4 = (w4 + w24) := hB4
        refine lv_iadd hx hb dX1_placeOf_24 ?_
        refine lv_istore_n (lv' := [(2, .int (w4 + w24)), (0, .ref m), (1, .int (nI p1)), (3, .int (nI i4))]) hx hb dX1_placeOf_25 rfl hl (by decide) rfl (fun ls hl => ?_)
        refine n_inc (lv' := [(3, .int (nI (i4 + 1))), (2, .int (w4 + w24)), (0, .ref m), (1, .int (nI p1))]) hx hb dX1_placeOf_26 hl (k := 3) rfl (by decide) rfl (fun ls hl => ?_)
        refine lv_goto (tgt := 4) hx hb dX1_placeOf_29 (by decide) ?_
        exact ih4 (i4 + 1) (w4 + w24) (by omega) (hR.trans (congrArg (fun z => m_placeOf_e4 (itR (m_placeOf_b4 Z) (i4 + 1) k z)) hB4)) _ _ _ hE (lv_sub hl [2, 3, 1, 0] rfl)
      refine lv_if_eq (tgt := 23) hx hb dX1_placeOf_16 (by decide) (fun c16 => ?_) (fun c16 => ?_)
      · have hB4 : m_placeOf_b4 Z i4 w4 = m_placeOf_j24 w4 (0 : Int32) := hB4.trans (congrArg (fun z => m_placeOf_j24 w4 z) (if_pos c16))
        refine lv_iconst (v := 0) hx hb dX1_placeOf_23 rfl ?_
        exact hJ24 (0 : Int32)  hB4 _ _ _ hE (lv_sub hl [0, 1, 3] rfl)
      · have hB4 : m_placeOf_b4 Z i4 w4 = m_placeOf_j24 w4 (1 : Int32) := hB4.trans (congrArg (fun z => m_placeOf_j24 w4 z) (if_neg c16))
        refine lv_iconst (v := 1) hx hb dX1_placeOf_19 rfl ?_
        refine lv_goto (tgt := 24) hx hb dX1_placeOf_20 (by decide) ?_
        exact hJ24 (1 : Int32)  hB4 _ _ _ hE (lv_sub hl [0, 1, 3] rfl)
  exact hL4 p1 0 (0 : Int32) (by omega) hR _ _ _ hE (lv_sub hl [2, 3, 1, 0] rfl)
section C_placeOf
variable {p : Program} {l : Launch} {e : Env} {R : Room} {s : State} {mid : MethodId} {args : Array Value} {below : List Frame} {meth : Method} {c : Code} {H : Heap} {locs : List Loc} {Q : State → Prop} {cc : ByteArray} {pc : Nat} {ls : Array Slot} {rest : List Value} {D : va_G} {A : Nat → Prop} {m : Nat} {ar : Nat → Nat} {cs : Nat → ClassId} {Z : ZT} {nL : Nat}
theorem call_m_placeOf (hx : p.tables.exec = Jvm.exec) (hb : c.code = cc) (hml : c.maxLocals = nL) (hown : s.vm.findClass RX1 = some mid.cls) (hts : ∀ w ∈ lw_all, w.before args s = true) (hK : KK D cs s) (hA : ∀ q : Nat, s.heap.size ≤ q → A q) (hE : EW D A s.heap (MW m ar cs Z) H locs) (hls : ls.size = nL) (p1 : Nat) (hn1 : p1 < 8) (h1 : 1 ≤ R.frames) (h2 : 23 ≤ R.locals) (h3 : (rest.map fun v => v.category).sum ≤ 8) (hd : decode cc pc = .ok (.invokevirtual 320, 3)) (kk : ∀ (H1 : Heap) (locs1 : List Loc), EW D A s.heap (MW m ar cs Z) H1 locs1 → W p l e R s mid args below meth c H1 locs1 0 0 Q (F0 mid (pc + 3) ls (.int (m_placeOf p1 Z) :: rest))) : W p l e R s mid args below meth c H locs 0 0 Q (F0 mid pc ls (.int (nI p1) :: .ref m :: rest)) :=
  gCall_i (As := [.int (nI p1)]) (rest := rest) (q0 := 0) (ci := 1) (fs := MF ar Z) (T' := TX1) (N' := 52) hx hb hml hown hts hK hA hE hls (met_m_placeOf l D cs m ar Z H.size p1 hn1) (cwV 1 hts (lw_V q1395 q1397 qs75 q85 q1398) rfl rfl rfl (by decide +kernel) ⟨h1, h2⟩) rfl rfl rfl rfl h3 hd ⟨Nat.zero_le _, Nat.zero_le _⟩ (fun v u H1 locs1 hp _ hE => by subst hp; exact kk H1 locs1 hE)
end C_placeOf
def m_effect_c11 (p1 : Int32) (p2 : Int32) (p3 : Int32) (wc11 : Int32 × ZT) : Int32 × ZT := (if 0 ≤ wc11.1 then (m_tells (wc11.2.1 27 ((8 * (ix p1)) + (ix p2))) (1 : Int32) (sI wc11.2 27 ((8 * (ix p1)) + (ix p2)) p3)) else (wc11.1, wc11.2))
def m_effect (p1 : Int32) (p2 : Int32) (p3 : Int32) (Z : ZT) : Int32 × ZT := m_effect_c11 p1 p2 p3 (m_needTwo (m_in p3 (-20 : Int32) (20 : Int32)) p1 p2 Z)
set_option maxHeartbeats 4000000 in
set_option maxRecDepth 100000 in
theorem met_m_effect (l : Launch) (D : va_G) (cs : Nat → ClassId) (m : Nat) (ar : Nat → Nat) (Z : ZT) (sz : Nat) (p1 : Int32) (p2 : Int32) (p3 : Int32) : Met l yX1_effect (ws_ yX1_effect cX1_effect 6 (some .int)) ({ frames := 3, cells := 0, slots := 0, locals := 65 }) (va_Pc [.ref m, .int p1, .int p2, .int p3] (wSt D cs (MW m ar cs Z) sz)) (cQi (fun (v : Int32) (u : ZT) => m_effect p1 p2 p3 Z = (v, u)) D (fun u => MW m ar cs u) (MW m ar cs Z) sz) 0 0 (va_A (MW m ar cs Z) sz) := by
  refine gStart_i (C := RX1) rfl rfl (Nat.le_of_ble_eq_true rfl) ?_
  intro p e s mid args below meth c R Q A hx hb hml hown hts hK hA hRf hRl hRc hRs hret hE ls hl
  have hRf : 3 ≤ R.frames := hRf
  have hRl : 65 ≤ R.locals := hRl
  have hl : lv_has ls 6 [(0, .ref m), (1, .int p1), (2, .int p2), (3, .int p3)] := hl
  have hR : m_effect p1 p2 p3 Z = (m_effect_c11 p1 p2 p3 (m_needTwo (m_in p3 (-20 : Int32) (20 : Int32)) p1 p2 Z)) := rfl
  refine lv_aload_n hx hb dX1_effect_0 rfl (lv_at hl 0 rfl) ?_
  refine lv_iload_n hx hb dX1_effect_1 rfl (lv_at hl 3 rfl) ?_
  refine lv_bipush (v := -20) hx hb dX1_effect_2 rfl ?_
  refine lv_bipush (v := 20) hx hb dX1_effect_4 rfl ?_
  refine call_m_in hx hb hml hown hts hK hA hE hl.1 p3 (-20 : Int32) (20 : Int32) (lz (show 1 ≤ 3 by decide) hRf) (lz (show 22 ≤ 65 by decide) hRl) (Nat.le_of_ble_eq_true rfl) dX1_effect_6 (fun H locs hE => ?_)
  refine lv_iload_n hx hb dX1_effect_9 rfl (lv_at hl 1 rfl) ?_
  refine lv_iload_n hx hb dX1_effect_10 rfl (lv_at hl 2 rfl) ?_
  refine call_m_needTwo hx hb hml hown hts hK hA hE hl.1 (m_in p3 (-20 : Int32) (20 : Int32)) p1 p2 (lz (show 3 ≤ 3 by decide) hRf) (lz (show 65 ≤ 65 by decide) hRl) (Nat.le_of_ble_eq_true rfl) dX1_effect_11 (fun H locs hE => ?_)
  have hNc11 : ∀ (wc11 : Int32 × ZT) (hewc11 : wc11 = m_needTwo (m_in p3 (-20 : Int32) (20 : Int32)) p1 p2 Z) (hR : m_effect p1 p2 p3 Z = m_effect_c11 p1 p2 p3 wc11), ∀ (H : Heap) (locs : List Loc) (ls : Array Slot), EW D A s.heap (MW m ar cs wc11.2) H locs → lv_has ls 6 [(0, .ref m), (1, .int p1), (2, .int p2), (3, .int p3)] → W p l e R s mid args below meth c H locs 0 0 Q (F0 mid 14 ls [.int wc11.1]) := by
    intro wc11 hewc11 hR H locs ls hE hl
    have hR : m_effect p1 p2 p3 Z = (if 0 ≤ wc11.1 then (m_tells (wc11.2.1 27 ((8 * (ix p1)) + (ix p2))) (1 : Int32) (sI wc11.2 27 ((8 * (ix p1)) + (ix p2)) p3)) else (wc11.1, wc11.2)) := hR
    refine lv_istore (lv' := [(4, .int wc11.1), (0, .ref m), (1, .int p1), (2, .int p2), (3, .int p3)]) hx hb dX1_effect_14 hl (by decide) rfl (fun ls hl => ?_)
    refine lv_iload hx hb dX1_effect_16 (lv_at hl 0 rfl) ?_
    refine lv_if_ge (tgt := 24) hx hb dX1_effect_18 (by decide) (fun c18 => ?_) (fun c18 => ?_)
    · have hR : m_effect p1 p2 p3 Z = (m_tells (wc11.2.1 27 ((8 * (ix p1)) + (ix p2))) (1 : Int32) (sI wc11.2 27 ((8 * (ix p1)) + (ix p2)) p3)) := hR.trans (congrArg (fun z => z) (if_pos c18))
      have hnp1 := vp_ix (x := p1) (N := 8) ((needTwo_ok (by rw [← hewc11]; exact c18)).1) (by decide)
      have hbnp1 := hnp1.2
      have hnp2 := vp_ix (x := p2) (N := 8) ((needTwo_ok (by rw [← hewc11]; exact c18)).2.1) (by decide)
      have hbnp2 := hnp2.2
      refine lv_aload_n hx hb dX1_effect_24 rfl (lv_at hl 1 rfl) ?_
      refine mg_27 hx hb hts hown hK hE dX1_effect_25 ?_
      refine lv_bipush (v := 8) hx hb dX1_effect_28 rfl ?_
      refine lv_iload_n hx hb dX1_effect_30 rfl (lv_at hl 2 rfl) ?_
      refine top_nat hnp1.1 ?_
      refine n_mul (a := 8) (b := (ix p1)) hx hb dX1_effect_31 ?_
      refine lv_iload_n hx hb dX1_effect_32 rfl (lv_at hl 3 rfl) ?_
      refine top_nat hnp2.1 ?_
      refine n_add (a := (8 * (ix p1))) (b := (ix p2)) hx hb dX1_effect_33 ?_
      refine ma_27 (n := ((8 * (ix p1)) + (ix p2))) (by omega) hx hb hK hE dX1_effect_34 ?_
      refine lv_istore (lv' := [(5, .int (wc11.2.1 27 ((8 * (ix p1)) + (ix p2)))), (4, .int wc11.1), (0, .ref m), (1, .int p1), (2, .int p2), (3, .int p3)]) hx hb dX1_effect_35 hl (by decide) rfl (fun ls hl => ?_)
      refine lv_aload_n hx hb dX1_effect_37 rfl (lv_at hl 2 rfl) ?_
      refine mg_27 hx hb hts hown hK hE dX1_effect_38 ?_
      refine lv_bipush (v := 8) hx hb dX1_effect_41 rfl ?_
      refine lv_iload_n hx hb dX1_effect_43 rfl (lv_at hl 3 rfl) ?_
      refine top_nat hnp1.1 ?_
      refine n_mul (a := 8) (b := (ix p1)) hx hb dX1_effect_44 ?_
      refine lv_iload_n hx hb dX1_effect_45 rfl (lv_at hl 4 rfl) ?_
      refine top_nat hnp2.1 ?_
      refine n_add (a := (8 * (ix p1))) (b := (ix p2)) hx hb dX1_effect_46 ?_
      refine lv_iload_n hx hb dX1_effect_47 rfl (lv_at hl 5 rfl) ?_
      refine ms_27 (n := ((8 * (ix p1)) + (ix p2))) (by omega) hx hb hK hE dX1_effect_48 (fun H locs hE => ?_)
      refine lv_aload_n hx hb dX1_effect_49 rfl (lv_at hl 2 rfl) ?_
      refine lv_iload hx hb dX1_effect_50 (lv_at hl 0 rfl) ?_
      refine lv_iconst (v := 1) hx hb dX1_effect_52 rfl ?_
      refine call_m_tells hx hb hml hown hts hK hA hE hl.1 (wc11.2.1 27 ((8 * (ix p1)) + (ix p2))) (1 : Int32) (lz (show 1 ≤ 3 by decide) hRf) (lz (show 22 ≤ 65 by decide) hRl) (Nat.le_of_ble_eq_true rfl) dX1_effect_53 (fun H locs hE => ?_)
      exact hret ((m_tells (wc11.2.1 27 ((8 * (ix p1)) + (ix p2))) (1 : Int32) (sI wc11.2 27 ((8 * (ix p1)) + (ix p2)) p3)).1) ((m_tells (wc11.2.1 27 ((8 * (ix p1)) + (ix p2))) (1 : Int32) (sI wc11.2 27 ((8 * (ix p1)) + (ix p2)) p3)).2) hR rfl hE (Nat.le_refl 0) (Nat.le_refl 0) dX1_effect_56
    · have hR : m_effect p1 p2 p3 Z = (wc11.1, wc11.2) := hR.trans (congrArg (fun z => z) (if_neg c18))
      refine lv_iload hx hb dX1_effect_21 (lv_at hl 0 rfl) ?_
      exact hret wc11.1 wc11.2 hR rfl hE (Nat.le_refl 0) (Nat.le_refl 0) dX1_effect_23
  exact hNc11 (m_needTwo (m_in p3 (-20 : Int32) (20 : Int32)) p1 p2 Z) rfl hR _ _ _ hE (lv_sub hl [0, 1, 2, 3] rfl)
def m_needPush_c4 (wc4 : Int32 × ZT) : Int32 × ZT := (if 0 ≤ wc4.1 then (if (m_there wc4.2) ≤ (6 : Int32) then ((0 : Int32), wc4.2) else ((-4 : Int32), wc4.2)) else (wc4.1, wc4.2))
def m_needPush (p1 : Int32) (p2 : Int32) (Z : ZT) : Int32 × ZT := m_needPush_c4 (m_needTwo (1 : Int32) p1 p2 Z)
set_option maxHeartbeats 4000000 in
set_option maxRecDepth 100000 in
theorem met_m_needPush (l : Launch) (D : va_G) (cs : Nat → ClassId) (m : Nat) (ar : Nat → Nat) (Z : ZT) (sz : Nat) (p1 : Int32) (p2 : Int32) : Met l yX1_needPush (ws_ yX1_needPush cX1_needPush 4 (some .int)) ({ frames := 3, cells := 0, slots := 0, locals := 65 }) (va_Pc [.ref m, .int p1, .int p2] (wSt D cs (MW m ar cs Z) sz)) (cQi (fun (v : Int32) (u : ZT) => m_needPush p1 p2 Z = (v, u)) D (fun u => MW m ar cs u) (MW m ar cs Z) sz) 0 0 (va_A (MW m ar cs Z) sz) := by
  refine gStart_i (C := RX1) rfl rfl (Nat.le_of_ble_eq_true rfl) ?_
  intro p e s mid args below meth c R Q A hx hb hml hown hts hK hA hRf hRl hRc hRs hret hE ls hl
  have hRf : 3 ≤ R.frames := hRf
  have hRl : 65 ≤ R.locals := hRl
  have hl : lv_has ls 4 [(0, .ref m), (1, .int p1), (2, .int p2)] := hl
  have hR : m_needPush p1 p2 Z = (m_needPush_c4 (m_needTwo (1 : Int32) p1 p2 Z)) := rfl
  refine lv_aload_n hx hb dX1_needPush_0 rfl (lv_at hl 0 rfl) ?_
  refine lv_iconst (v := 1) hx hb dX1_needPush_1 rfl ?_
  refine lv_iload_n hx hb dX1_needPush_2 rfl (lv_at hl 1 rfl) ?_
  refine lv_iload_n hx hb dX1_needPush_3 rfl (lv_at hl 2 rfl) ?_
  refine call_m_needTwo hx hb hml hown hts hK hA hE hl.1 (1 : Int32) p1 p2 (lz (show 3 ≤ 3 by decide) hRf) (lz (show 65 ≤ 65 by decide) hRl) (Nat.le_of_ble_eq_true rfl) dX1_needPush_4 (fun H locs hE => ?_)
  have hNc4 : ∀ (wc4 : Int32 × ZT) (hR : m_needPush p1 p2 Z = m_needPush_c4 wc4), ∀ (H : Heap) (locs : List Loc) (ls : Array Slot), EW D A s.heap (MW m ar cs wc4.2) H locs → lv_has ls 4 [(0, .ref m)] → W p l e R s mid args below meth c H locs 0 0 Q (F0 mid 7 ls [.int wc4.1]) := by
    intro wc4 hR H locs ls hE hl
    have hR : m_needPush p1 p2 Z = (if 0 ≤ wc4.1 then (if (m_there wc4.2) ≤ (6 : Int32) then ((0 : Int32), wc4.2) else ((-4 : Int32), wc4.2)) else (wc4.1, wc4.2)) := hR
    refine lv_istore_n (lv' := [(3, .int wc4.1), (0, .ref m)]) hx hb dX1_needPush_7 rfl hl (by decide) rfl (fun ls hl => ?_)
    refine lv_iload_n hx hb dX1_needPush_8 rfl (lv_at hl 0 rfl) ?_
    refine lv_if_ge (tgt := 16) hx hb dX1_needPush_9 (by decide) (fun c9 => ?_) (fun c9 => ?_)
    · have hR : m_needPush p1 p2 Z = (if (m_there wc4.2) ≤ (6 : Int32) then ((0 : Int32), wc4.2) else ((-4 : Int32), wc4.2)) := hR.trans (congrArg (fun z => z) (if_pos c9))
      refine lv_aload_n hx hb dX1_needPush_16 rfl (lv_at hl 1 rfl) ?_
      refine call_m_there hx hb hml hown hts hK hA hE hl.1 (lz (show 1 ≤ 3 by decide) hRf) (lz (show 22 ≤ 65 by decide) hRl) (Nat.le_of_ble_eq_true rfl) dX1_needPush_17 (fun H locs hE => ?_)
      refine lv_bipush (v := 6) hx hb dX1_needPush_20 rfl ?_
      refine lv_icmp_le (tgt := 30) hx hb dX1_needPush_22 (by decide) (fun c22 => ?_) (fun c22 => ?_)
      · have hR : m_needPush p1 p2 Z = ((0 : Int32), wc4.2) := hR.trans (congrArg (fun z => z) (if_pos c22))
        refine lv_iconst (v := 0) hx hb dX1_needPush_30 rfl ?_
        exact hret (0 : Int32) wc4.2 hR rfl hE (Nat.le_refl 0) (Nat.le_refl 0) dX1_needPush_31
      · have hR : m_needPush p1 p2 Z = ((-4 : Int32), wc4.2) := hR.trans (congrArg (fun z => z) (if_neg c22))
        refine lv_bipush (v := -4) hx hb dX1_needPush_25 rfl ?_
        refine lv_goto (tgt := 31) hx hb dX1_needPush_27 (by decide) ?_
        exact hret (-4 : Int32) wc4.2 hR rfl hE (Nat.le_refl 0) (Nat.le_refl 0) dX1_needPush_31
    · have hR : m_needPush p1 p2 Z = (wc4.1, wc4.2) := hR.trans (congrArg (fun z => z) (if_neg c9))
      refine lv_iload_n hx hb dX1_needPush_12 rfl (lv_at hl 0 rfl) ?_
      refine lv_goto (tgt := 31) hx hb dX1_needPush_13 (by decide) ?_
      exact hret wc4.1 wc4.2 hR rfl hE (Nat.le_refl 0) (Nat.le_refl 0) dX1_needPush_31
  exact hNc4 (m_needTwo (1 : Int32) p1 p2 Z) hR _ _ _ hE (lv_sub hl [0] rfl)
section C_needPush
variable {p : Program} {l : Launch} {e : Env} {R : Room} {s : State} {mid : MethodId} {args : Array Value} {below : List Frame} {meth : Method} {c : Code} {H : Heap} {locs : List Loc} {Q : State → Prop} {cc : ByteArray} {pc : Nat} {ls : Array Slot} {rest : List Value} {D : va_G} {A : Nat → Prop} {m : Nat} {ar : Nat → Nat} {cs : Nat → ClassId} {Z : ZT} {nL : Nat}
theorem call_m_needPush (hx : p.tables.exec = Jvm.exec) (hb : c.code = cc) (hml : c.maxLocals = nL) (hown : s.vm.findClass RX1 = some mid.cls) (hts : ∀ w ∈ lw_all, w.before args s = true) (hK : KK D cs s) (hA : ∀ q : Nat, s.heap.size ≤ q → A q) (hE : EW D A s.heap (MW m ar cs Z) H locs) (hls : ls.size = nL) (p1 : Int32) (p2 : Int32) (h1 : 4 ≤ R.frames) (h2 : 88 ≤ R.locals) (h3 : (rest.map fun v => v.category).sum ≤ 8) (hd : decode cc pc = .ok (.invokevirtual 310, 3)) (kk : ∀ (H1 : Heap) (locs1 : List Loc), EW D A s.heap (MW m ar cs (m_needPush p1 p2 Z).2) H1 locs1 → W p l e R s mid args below meth c H1 locs1 0 0 Q (F0 mid (pc + 3) ls (.int (m_needPush p1 p2 Z).1 :: rest))) : W p l e R s mid args below meth c H locs 0 0 Q (F0 mid pc ls (.int p2 :: .int p1 :: .ref m :: rest)) :=
  gCall_i (As := [.int p1, .int p2]) (rest := rest) (q0 := 0) (ci := 1) (fs := MF ar Z) (T' := TX1) (N' := 52) hx hb hml hown hts hK hA hE hls (met_m_needPush l D cs m ar Z H.size p1 p2) (cwV 2 hts (lw_V q1378 q1380 qs71 q85 q1381) rfl rfl rfl (by decide +kernel) ⟨h1, h2⟩) rfl rfl rfl rfl h3 hd ⟨Nat.zero_le _, Nat.zero_le _⟩ (fun v u H1 locs1 hp _ hE => by rw [hp] at kk; exact kk H1 locs1 hE)
end C_needPush
def m_tellsCount_j70 (w49 : Int32) (w70 : Int32) : Int32 := (w49 + w70)
def m_tellsCount_b49 (Z : ZT) (i49 : Nat) (w49 : Int32) : Int32 := m_tellsCount_j70 w49 (if Z.1 23 i49 ≤ 0 then (0 : Int32) else (1 : Int32))
def m_tellsCount_e49 (w49 : Int32) : Int32 := w49
def m_tellsCount_j102 (w82 : Int32) (w102 : Int32) : Int32 := (w82 + w102)
def m_tellsCount_b82 (Z : ZT) (i82 : Nat) (w82 : Int32) : Int32 := m_tellsCount_j102 w82 (if 0 ≤ Z.1 5 i82 then (1 : Int32) else (0 : Int32))
def m_tellsCount_e82 (w82 : Int32) : Int32 := w82
def m_tellsCount (p1 : Int32) (Z : ZT) : Int32 := (if p1 = 0 then Z.1 28 0 else (if p1 = 1 then (m_there Z) else (if p1 = 2 then (m_allStocks Z) else (if p1 = 3 then m_tellsCount_e49 (itR (m_tellsCount_b49 Z) 0 64 (0 : Int32)) else m_tellsCount_e82 (itR (m_tellsCount_b82 Z) 0 4 (0 : Int32))))))
set_option maxHeartbeats 4000000 in
set_option maxRecDepth 100000 in
theorem met_m_tellsCount (l : Launch) (D : va_G) (cs : Nat → ClassId) (m : Nat) (ar : Nat → Nat) (Z : ZT) (sz : Nat) (p1 : Int32) : Met l yX1_tellsCount (ws_ yX1_tellsCount cX1_tellsCount 4 (some .int)) ({ frames := 1, cells := 0, slots := 0, locals := 22 }) (va_Pc [.ref m, .int p1] (wSt D cs (MW m ar cs Z) sz)) (cQi (fun (v : Int32) (_ : Unit) => m_tellsCount p1 Z = v) D (fun _ => (MW m ar cs Z)) (MW m ar cs Z) sz) 0 0 (va_A (MW m ar cs Z) sz) := by
  refine gStart_i (C := RX1) rfl rfl (Nat.le_of_ble_eq_true rfl) ?_
  intro p e s mid args below meth c R Q A hx hb hml hown hts hK hA hRf hRl hRc hRs hret hE ls hl
  have hRf : 1 ≤ R.frames := hRf
  have hRl : 22 ≤ R.locals := hRl
  have hl : lv_has ls 4 [(0, .ref m), (1, .int p1)] := hl
  have hR : m_tellsCount p1 Z = (if p1 = 0 then Z.1 28 0 else (if p1 = 1 then (m_there Z) else (if p1 = 2 then (m_allStocks Z) else (if p1 = 3 then m_tellsCount_e49 (itR (m_tellsCount_b49 Z) 0 64 (0 : Int32)) else m_tellsCount_e82 (itR (m_tellsCount_b82 Z) 0 4 (0 : Int32)))))) := rfl
  refine lv_iconst (v := 0) hx hb dX1_tellsCount_0 rfl ?_
  refine lv_istore_n (lv' := [(2, .int (0 : Int32)), (0, .ref m), (1, .int p1)]) hx hb dX1_tellsCount_1 rfl hl (by decide) rfl (fun ls hl => ?_)
  refine lv_iload_n hx hb dX1_tellsCount_2 rfl (lv_at hl 2 rfl) ?_
  by_cases c3_0 : p1 = 0
  · have hR : m_tellsCount p1 Z = (Z.1 28 0) := hR.trans (congrArg (fun z => z) (if_pos c3_0))
    refine lv_tableIn (off := 29) (tgt := 32) hx hb dX1_tellsCount_3 (by rw [c3_0]; decide) (by rw [c3_0]; decide) (by rw [c3_0]; rfl) (by decide) ?_
    refine lv_aload_n hx hb dX1_tellsCount_32 rfl (lv_at hl 1 rfl) ?_
    refine mg_28 hx hb hts hown hK hE dX1_tellsCount_33 ?_
    exact hret (Z.1 28 0) () hR rfl hE (Nat.le_refl 0) (Nat.le_refl 0) dX1_tellsCount_36
  · have hR : m_tellsCount p1 Z = (if p1 = 1 then (m_there Z) else (if p1 = 2 then (m_allStocks Z) else (if p1 = 3 then m_tellsCount_e49 (itR (m_tellsCount_b49 Z) 0 64 (0 : Int32)) else m_tellsCount_e82 (itR (m_tellsCount_b82 Z) 0 4 (0 : Int32))))) := hR.trans (congrArg (fun z => z) (if_neg c3_0))
    by_cases c3_1 : p1 = 1
    · have hR : m_tellsCount p1 Z = (m_there Z) := hR.trans (congrArg (fun z => z) (if_pos c3_1))
      refine lv_tableIn (off := 34) (tgt := 37) hx hb dX1_tellsCount_3 (by rw [c3_1]; decide) (by rw [c3_1]; decide) (by rw [c3_1]; rfl) (by decide) ?_
      refine lv_aload_n hx hb dX1_tellsCount_37 rfl (lv_at hl 1 rfl) ?_
      refine call_m_there hx hb hml hown hts hK hA hE hl.1 (lz (show 1 ≤ 1 by decide) hRf) (lz (show 22 ≤ 22 by decide) hRl) (Nat.le_of_ble_eq_true rfl) dX1_tellsCount_38 (fun H locs hE => ?_)
      exact hret (m_there Z) () hR rfl hE (Nat.le_refl 0) (Nat.le_refl 0) dX1_tellsCount_41
    · have hR : m_tellsCount p1 Z = (if p1 = 2 then (m_allStocks Z) else (if p1 = 3 then m_tellsCount_e49 (itR (m_tellsCount_b49 Z) 0 64 (0 : Int32)) else m_tellsCount_e82 (itR (m_tellsCount_b82 Z) 0 4 (0 : Int32)))) := hR.trans (congrArg (fun z => z) (if_neg c3_1))
      by_cases c3_2 : p1 = 2
      · have hR : m_tellsCount p1 Z = (m_allStocks Z) := hR.trans (congrArg (fun z => z) (if_pos c3_2))
        refine lv_tableIn (off := 39) (tgt := 42) hx hb dX1_tellsCount_3 (by rw [c3_2]; decide) (by rw [c3_2]; decide) (by rw [c3_2]; rfl) (by decide) ?_
        refine lv_aload_n hx hb dX1_tellsCount_42 rfl (lv_at hl 1 rfl) ?_
        refine call_m_allStocks hx hb hml hown hts hK hA hE hl.1 (lz (show 1 ≤ 1 by decide) hRf) (lz (show 22 ≤ 22 by decide) hRl) (Nat.le_of_ble_eq_true rfl) dX1_tellsCount_43 (fun H locs hE => ?_)
        exact hret (m_allStocks Z) () hR rfl hE (Nat.le_refl 0) (Nat.le_refl 0) dX1_tellsCount_46
      · have hR : m_tellsCount p1 Z = (if p1 = 3 then m_tellsCount_e49 (itR (m_tellsCount_b49 Z) 0 64 (0 : Int32)) else m_tellsCount_e82 (itR (m_tellsCount_b82 Z) 0 4 (0 : Int32))) := hR.trans (congrArg (fun z => z) (if_neg c3_2))
        by_cases c3_3 : p1 = 3
        · have hR : m_tellsCount p1 Z = (m_tellsCount_e49 (itR (m_tellsCount_b49 Z) 0 64 (0 : Int32))) := hR.trans (congrArg (fun z => z) (if_pos c3_3))
          refine lv_tableIn (off := 44) (tgt := 47) hx hb dX1_tellsCount_3 (by rw [c3_3]; decide) (by rw [c3_3]; decide) (by rw [c3_3]; rfl) (by decide) ?_
          refine lv_iconst (v := 0) hx hb dX1_tellsCount_47 rfl ?_
          refine lv_istore_n (lv' := [(3, .int (0 : Int32)), (2, .int (0 : Int32)), (0, .ref m), (1, .int p1)]) hx hb dX1_tellsCount_48 rfl hl (by decide) rfl (fun ls hl => ?_)
          have hL49 : ∀ (k i49 : Nat) (w49 : Int32) (hi49 : i49 + k = 64) (hR : m_tellsCount p1 Z = m_tellsCount_e49 (itR (m_tellsCount_b49 Z) i49 k w49)), ∀ (H : Heap) (locs : List Loc) (ls : Array Slot), EW D A s.heap (MW m ar cs Z) H locs → lv_has ls 4 [(0, .ref m), (2, .int w49), (3, .int (nI i49))] → W p l e R s mid args below meth c H locs 0 0 Q (F0 mid 49 ls []) := by
            intro k
            induction k with
            | zero =>
              intro i49 w49 hi49 hR H locs ls hE hl
              have hie49 : i49 = 64 := by omega
              have hR : m_tellsCount p1 Z = w49 := hR
              refine lv_iload_n hx hb dX1_tellsCount_49 rfl (lv_at hl 2 rfl) ?_
              refine lv_bipush (v := 64) hx hb dX1_tellsCount_50 rfl ?_
              refine n_geT (a := i49) (b := 64) (by omega) (by omega) hx hb dX1_tellsCount_52 (tgt := 78) (by decide) ?_
              have hl := lv_sub (l' := [(0, .ref m), (2, .int w49)]) hl [0, 1] rfl
              refine lv_iload_n hx hb dX1_tellsCount_78 rfl (lv_at hl 1 rfl) ?_
              exact hret w49 () hR rfl hE (Nat.le_refl 0) (Nat.le_refl 0) dX1_tellsCount_79
            | succ k ih49 =>
              intro i49 w49 hi49 hR H locs ls hE hl
              have hlt49 : i49 < 64 := by omega
              have hB49 : m_tellsCount_b49 Z i49 w49 = m_tellsCount_j70 w49 (if Z.1 23 i49 ≤ 0 then (0 : Int32) else (1 : Int32)) := rfl
              refine lv_iload_n hx hb dX1_tellsCount_49 rfl (lv_at hl 2 rfl) ?_
              refine lv_bipush (v := 64) hx hb dX1_tellsCount_50 rfl ?_
              refine n_geF (a := i49) (b := 64) (by omega) (by omega) hx hb dX1_tellsCount_52 (tgt := 78) (by decide) ?_
              refine lv_iload_n hx hb dX1_tellsCount_55 rfl (lv_at hl 1 rfl) ?_
              refine lv_aload_n hx hb dX1_tellsCount_56 rfl (lv_at hl 0 rfl) ?_
              refine mg_23 hx hb hts hown hK hE dX1_tellsCount_57 ?_
              refine lv_iload_n hx hb dX1_tellsCount_60 rfl (lv_at hl 2 rfl) ?_
              refine ma_23 (n := i49) (by omega) hx hb hK hE dX1_tellsCount_61 ?_
              have hJ70 : ∀ (w70 : Int32) (hB49 : m_tellsCount_b49 Z i49 w49 = m_tellsCount_j70 w49 w70), ∀ (H : Heap) (locs : List Loc) (ls : Array Slot), EW D A s.heap (MW m ar cs Z) H locs → lv_has ls 4 [(0, .ref m), (3, .int (nI i49))] → W p l e R s mid args below meth c H locs 0 0 Q (F0 mid 70 ls [.int w70, .int w49]) := by
                intro w70 hB49 H locs ls hE hl
                have hB49 : m_tellsCount_b49 Z i49 w49 = (w49 + w70) := hB49
                refine lv_iadd hx hb dX1_tellsCount_70 ?_
                refine lv_istore_n (lv' := [(2, .int (w49 + w70)), (0, .ref m), (3, .int (nI i49))]) hx hb dX1_tellsCount_71 rfl hl (by decide) rfl (fun ls hl => ?_)
                refine n_inc (lv' := [(3, .int (nI (i49 + 1))), (2, .int (w49 + w70)), (0, .ref m)]) hx hb dX1_tellsCount_72 hl (k := 2) rfl (by decide) rfl (fun ls hl => ?_)
                refine lv_goto (tgt := 49) hx hb dX1_tellsCount_75 (by decide) ?_
                exact ih49 (i49 + 1) (w49 + w70) (by omega) (hR.trans (congrArg (fun z => m_tellsCount_e49 (itR (m_tellsCount_b49 Z) (i49 + 1) k z)) hB49)) _ _ _ hE (lv_sub hl [2, 1, 0] rfl)
              refine lv_if_le (tgt := 69) hx hb dX1_tellsCount_62 (by decide) (fun c62 => ?_) (fun c62 => ?_)
              · have hB49 : m_tellsCount_b49 Z i49 w49 = m_tellsCount_j70 w49 (0 : Int32) := hB49.trans (congrArg (fun z => m_tellsCount_j70 w49 z) (if_pos c62))
                refine lv_iconst (v := 0) hx hb dX1_tellsCount_69 rfl ?_
                exact hJ70 (0 : Int32)  hB49 _ _ _ hE (lv_sub hl [0, 2] rfl)
              · have hB49 : m_tellsCount_b49 Z i49 w49 = m_tellsCount_j70 w49 (1 : Int32) := hB49.trans (congrArg (fun z => m_tellsCount_j70 w49 z) (if_neg c62))
                refine lv_iconst (v := 1) hx hb dX1_tellsCount_65 rfl ?_
                refine lv_goto (tgt := 70) hx hb dX1_tellsCount_66 (by decide) ?_
                exact hJ70 (1 : Int32)  hB49 _ _ _ hE (lv_sub hl [0, 2] rfl)
          exact hL49 64 0 (0 : Int32) (by omega) hR _ _ _ hE (lv_sub hl [2, 1, 0] rfl)
        · have hR : m_tellsCount p1 Z = (m_tellsCount_e82 (itR (m_tellsCount_b82 Z) 0 4 (0 : Int32))) := hR.trans (congrArg (fun z => z) (if_neg c3_3))
          refine lv_tableOut (tgt := 80) hx hb dX1_tellsCount_3 (sw_out3 c3_0 c3_1 c3_2 c3_3) (by decide) ?_
          refine lv_iconst (v := 0) hx hb dX1_tellsCount_80 rfl ?_
          refine lv_istore_n (lv' := [(3, .int (0 : Int32)), (2, .int (0 : Int32)), (0, .ref m), (1, .int p1)]) hx hb dX1_tellsCount_81 rfl hl (by decide) rfl (fun ls hl => ?_)
          have hL82 : ∀ (k i82 : Nat) (w82 : Int32) (hi82 : i82 + k = 4) (hR : m_tellsCount p1 Z = m_tellsCount_e82 (itR (m_tellsCount_b82 Z) i82 k w82)), ∀ (H : Heap) (locs : List Loc) (ls : Array Slot), EW D A s.heap (MW m ar cs Z) H locs → lv_has ls 4 [(0, .ref m), (2, .int w82), (3, .int (nI i82))] → W p l e R s mid args below meth c H locs 0 0 Q (F0 mid 82 ls []) := by
            intro k
            induction k with
            | zero =>
              intro i82 w82 hi82 hR H locs ls hE hl
              have hie82 : i82 = 4 := by omega
              have hR : m_tellsCount p1 Z = w82 := hR
              refine lv_iload_n hx hb dX1_tellsCount_82 rfl (lv_at hl 2 rfl) ?_
              refine lv_iconst (v := 4) hx hb dX1_tellsCount_83 rfl ?_
              refine n_geT (a := i82) (b := 4) (by omega) (by omega) hx hb dX1_tellsCount_84 (tgt := 110) (by decide) ?_
              have hl := lv_sub (l' := [(0, .ref m), (2, .int w82)]) hl [0, 1] rfl
              refine lv_iload_n hx hb dX1_tellsCount_110 rfl (lv_at hl 1 rfl) ?_
              exact hret w82 () hR rfl hE (Nat.le_refl 0) (Nat.le_refl 0) dX1_tellsCount_111
            | succ k ih82 =>
              intro i82 w82 hi82 hR H locs ls hE hl
              have hlt82 : i82 < 4 := by omega
              have hB82 : m_tellsCount_b82 Z i82 w82 = m_tellsCount_j102 w82 (if 0 ≤ Z.1 5 i82 then (1 : Int32) else (0 : Int32)) := rfl
              refine lv_iload_n hx hb dX1_tellsCount_82 rfl (lv_at hl 2 rfl) ?_
              refine lv_iconst (v := 4) hx hb dX1_tellsCount_83 rfl ?_
              refine n_geF (a := i82) (b := 4) (by omega) (by omega) hx hb dX1_tellsCount_84 (tgt := 110) (by decide) ?_
              refine lv_iload_n hx hb dX1_tellsCount_87 rfl (lv_at hl 1 rfl) ?_
              refine lv_aload_n hx hb dX1_tellsCount_88 rfl (lv_at hl 0 rfl) ?_
              refine mg_5 hx hb hts hown hK hE dX1_tellsCount_89 ?_
              refine lv_iload_n hx hb dX1_tellsCount_92 rfl (lv_at hl 2 rfl) ?_
              refine ma_5 (n := i82) (by omega) hx hb hK hE dX1_tellsCount_93 ?_
              have hJ102 : ∀ (w102 : Int32) (hB82 : m_tellsCount_b82 Z i82 w82 = m_tellsCount_j102 w82 w102), ∀ (H : Heap) (locs : List Loc) (ls : Array Slot), EW D A s.heap (MW m ar cs Z) H locs → lv_has ls 4 [(0, .ref m), (3, .int (nI i82))] → W p l e R s mid args below meth c H locs 0 0 Q (F0 mid 102 ls [.int w102, .int w82]) := by
                intro w102 hB82 H locs ls hE hl
                have hB82 : m_tellsCount_b82 Z i82 w82 = (w82 + w102) := hB82
                refine lv_iadd hx hb dX1_tellsCount_102 ?_
                refine lv_istore_n (lv' := [(2, .int (w82 + w102)), (0, .ref m), (3, .int (nI i82))]) hx hb dX1_tellsCount_103 rfl hl (by decide) rfl (fun ls hl => ?_)
                refine n_inc (lv' := [(3, .int (nI (i82 + 1))), (2, .int (w82 + w102)), (0, .ref m)]) hx hb dX1_tellsCount_104 hl (k := 2) rfl (by decide) rfl (fun ls hl => ?_)
                refine lv_goto (tgt := 82) hx hb dX1_tellsCount_107 (by decide) ?_
                exact ih82 (i82 + 1) (w82 + w102) (by omega) (hR.trans (congrArg (fun z => m_tellsCount_e82 (itR (m_tellsCount_b82 Z) (i82 + 1) k z)) hB82)) _ _ _ hE (lv_sub hl [2, 1, 0] rfl)
              refine lv_if_ge (tgt := 101) hx hb dX1_tellsCount_94 (by decide) (fun c94 => ?_) (fun c94 => ?_)
              · have hB82 : m_tellsCount_b82 Z i82 w82 = m_tellsCount_j102 w82 (1 : Int32) := hB82.trans (congrArg (fun z => m_tellsCount_j102 w82 z) (if_pos c94))
                refine lv_iconst (v := 1) hx hb dX1_tellsCount_101 rfl ?_
                exact hJ102 (1 : Int32)  hB82 _ _ _ hE (lv_sub hl [0, 2] rfl)
              · have hB82 : m_tellsCount_b82 Z i82 w82 = m_tellsCount_j102 w82 (0 : Int32) := hB82.trans (congrArg (fun z => m_tellsCount_j102 w82 z) (if_neg c94))
                refine lv_iconst (v := 0) hx hb dX1_tellsCount_97 rfl ?_
                refine lv_goto (tgt := 102) hx hb dX1_tellsCount_98 (by decide) ?_
                exact hJ102 (0 : Int32)  hB82 _ _ _ hE (lv_sub hl [0, 2] rfl)
          exact hL82 4 0 (0 : Int32) (by omega) hR _ _ _ hE (lv_sub hl [2, 1, 0] rfl)
section C_tellsCount
variable {p : Program} {l : Launch} {e : Env} {R : Room} {s : State} {mid : MethodId} {args : Array Value} {below : List Frame} {meth : Method} {c : Code} {H : Heap} {locs : List Loc} {Q : State → Prop} {cc : ByteArray} {pc : Nat} {ls : Array Slot} {rest : List Value} {D : va_G} {A : Nat → Prop} {m : Nat} {ar : Nat → Nat} {cs : Nat → ClassId} {Z : ZT} {nL : Nat}
theorem call_m_tellsCount (hx : p.tables.exec = Jvm.exec) (hb : c.code = cc) (hml : c.maxLocals = nL) (hown : s.vm.findClass RX1 = some mid.cls) (hts : ∀ w ∈ lw_all, w.before args s = true) (hK : KK D cs s) (hA : ∀ q : Nat, s.heap.size ≤ q → A q) (hE : EW D A s.heap (MW m ar cs Z) H locs) (hls : ls.size = nL) (p1 : Int32) (h1 : 2 ≤ R.frames) (h2 : 45 ≤ R.locals) (h3 : (rest.map fun v => v.category).sum ≤ 8) (hd : decode cc pc = .ok (.invokevirtual 338, 3)) (kk : ∀ (H1 : Heap) (locs1 : List Loc), EW D A s.heap (MW m ar cs Z) H1 locs1 → W p l e R s mid args below meth c H1 locs1 0 0 Q (F0 mid (pc + 3) ls (.int (m_tellsCount p1 Z) :: rest))) : W p l e R s mid args below meth c H locs 0 0 Q (F0 mid pc ls (.int p1 :: .ref m :: rest)) :=
  gCall_i (As := [.int p1]) (rest := rest) (q0 := 0) (ci := 1) (fs := MF ar Z) (T' := TX1) (N' := 52) hx hb hml hown hts hK hA hE hls (met_m_tellsCount l D cs m ar Z H.size p1) (cwV 1 hts (lw_V q1427 q1429 qs80 q85 q1430) rfl rfl rfl (by decide +kernel) ⟨h1, h2⟩) rfl rfl rfl rfl h3 hd ⟨Nat.zero_le _, Nat.zero_le _⟩ (fun v u H1 locs1 hp _ hE => by subst hp; exact kk H1 locs1 hE)
end C_tellsCount
def m_count (p1 : Int32) (Z : ZT) : Int32 := (if (m_in p1 (0 : Int32) (4 : Int32)) = 0 then (-1 : Int32) else (m_tellsCount p1 Z))
set_option maxHeartbeats 4000000 in
set_option maxRecDepth 100000 in
theorem met_m_count (l : Launch) (D : va_G) (cs : Nat → ClassId) (m : Nat) (ar : Nat → Nat) (Z : ZT) (sz : Nat) (p1 : Int32) : Met l yX1_count (ws_ yX1_count cX1_count 2 (some .int)) ({ frames := 2, cells := 0, slots := 0, locals := 45 }) (va_Pc [.ref m, .int p1] (wSt D cs (MW m ar cs Z) sz)) (cQi (fun (v : Int32) (_ : Unit) => m_count p1 Z = v) D (fun _ => (MW m ar cs Z)) (MW m ar cs Z) sz) 0 0 (va_A (MW m ar cs Z) sz) := by
  refine gStart_i (C := RX1) rfl rfl (Nat.le_of_ble_eq_true rfl) ?_
  intro p e s mid args below meth c R Q A hx hb hml hown hts hK hA hRf hRl hRc hRs hret hE ls hl
  have hRf : 2 ≤ R.frames := hRf
  have hRl : 45 ≤ R.locals := hRl
  have hl : lv_has ls 2 [(0, .ref m), (1, .int p1)] := hl
  have hR : m_count p1 Z = (if (m_in p1 (0 : Int32) (4 : Int32)) = 0 then (-1 : Int32) else (m_tellsCount p1 Z)) := rfl
  refine lv_iload_n hx hb dX1_count_0 rfl (lv_at hl 1 rfl) ?_
  refine lv_iconst (v := 0) hx hb dX1_count_1 rfl ?_
  refine lv_iconst (v := 4) hx hb dX1_count_2 rfl ?_
  refine call_m_in hx hb hml hown hts hK hA hE hl.1 p1 (0 : Int32) (4 : Int32) (lz (show 1 ≤ 2 by decide) hRf) (lz (show 22 ≤ 45 by decide) hRl) (Nat.le_of_ble_eq_true rfl) dX1_count_3 (fun H locs hE => ?_)
  refine lv_if_eq (tgt := 17) hx hb dX1_count_6 (by decide) (fun c6 => ?_) (fun c6 => ?_)
  · have hR : m_count p1 Z = (-1 : Int32) := hR.trans (congrArg (fun z => z) (if_pos c6))
    refine lv_iconst (v := -1) hx hb dX1_count_17 rfl ?_
    exact hret (-1 : Int32) () hR rfl hE (Nat.le_refl 0) (Nat.le_refl 0) dX1_count_18
  · have hR : m_count p1 Z = (m_tellsCount p1 Z) := hR.trans (congrArg (fun z => z) (if_neg c6))
    refine lv_aload_n hx hb dX1_count_9 rfl (lv_at hl 0 rfl) ?_
    refine lv_iload_n hx hb dX1_count_10 rfl (lv_at hl 1 rfl) ?_
    refine call_m_tellsCount hx hb hml hown hts hK hA hE hl.1 p1 (lz (show 2 ≤ 2 by decide) hRf) (lz (show 45 ≤ 45 by decide) hRl) (Nat.le_of_ble_eq_true rfl) dX1_count_11 (fun H locs hE => ?_)
    refine lv_goto (tgt := 18) hx hb dX1_count_14 (by decide) ?_
    exact hret (m_tellsCount p1 Z) () hR rfl hE (Nat.le_refl 0) (Nat.le_refl 0) dX1_count_18
def m_tell (p1 : Int64) (Z : ZT) : ZT := sL Z 51 0 (((31 : Int64) * (Z.2 51 0)) + p1)
set_option maxHeartbeats 4000000 in
set_option maxRecDepth 100000 in
theorem met_m_tell (l : Launch) (D : va_G) (cs : Nat → ClassId) (m : Nat) (ar : Nat → Nat) (Z : ZT) (sz : Nat) (p1 : Int64) : Met l yX1_tell (ws_ yX1_tell cX1_tell 3 none) ({ frames := 0, cells := 0, slots := 0, locals := 0 }) (va_Pc [.ref m, .long p1] (wSt D cs (MW m ar cs Z) sz)) (cQv (fun (u : ZT) => m_tell p1 Z = u) D (fun u => MW m ar cs u) (MW m ar cs Z) sz) 0 0 (va_A (MW m ar cs Z) sz) := by
  refine gStart_v (C := RX1) rfl rfl (Nat.le_of_ble_eq_true rfl) ?_
  intro p e s mid args below meth c R Q A hx hb hml hown hts hK hA hRf hRl hRc hRs hnm hret hE ls hl
  have hRf : 0 ≤ R.frames := hRf
  have hRl : 0 ≤ R.locals := hRl
  have hl : lv_has ls 3 [(0, .ref m), (1, .long p1)] := hl
  have hR : m_tell p1 Z = (sL Z 51 0 (((31 : Int64) * (Z.2 51 0)) + p1)) := rfl
  refine lv_aload_n hx hb dX1_tell_0 rfl (lv_at hl 0 rfl) ?_
  refine lv_ldc2 (v := 31) hx hb hown (hts _ q1440) dX1_tell_1 ?_
  refine lv_aload_n hx hb dX1_tell_4 rfl (lv_at hl 0 rfl) ?_
  refine mg_51 hx hb hts hown hK hE dX1_tell_5 ?_
  refine lv_lmul hx hb dX1_tell_8 ?_
  refine lv_lload_n hx hb dX1_tell_9 rfl (lv_at hl 1 rfl) ?_
  refine lv_ladd hx hb dX1_tell_10 ?_
  refine mp_51 hx hb hts hown hK hE dX1_tell_11 (fun H locs hE => ?_)
  exact hret (sL Z 51 0 (((31 : Int64) * (Z.2 51 0)) + p1)) hR hE (Nat.le_refl 0) (Nat.le_refl 0) dX1_tell_14
section C_tell
variable {p : Program} {l : Launch} {e : Env} {R : Room} {s : State} {mid : MethodId} {args : Array Value} {below : List Frame} {meth : Method} {c : Code} {H : Heap} {locs : List Loc} {Q : State → Prop} {cc : ByteArray} {pc : Nat} {ls : Array Slot} {rest : List Value} {D : va_G} {A : Nat → Prop} {m : Nat} {ar : Nat → Nat} {cs : Nat → ClassId} {Z : ZT} {nL : Nat}
theorem call_m_tell (hx : p.tables.exec = Jvm.exec) (hb : c.code = cc) (hml : c.maxLocals = nL) (hown : s.vm.findClass RX1 = some mid.cls) (hts : ∀ w ∈ lw_all, w.before args s = true) (hK : KK D cs s) (hA : ∀ q : Nat, s.heap.size ≤ q → A q) (hE : EW D A s.heap (MW m ar cs Z) H locs) (hls : ls.size = nL) (p1 : Int64) (h1 : 1 ≤ R.frames) (h2 : 22 ≤ R.locals) (h3 : (rest.map fun v => v.category).sum ≤ 8) (hd : decode cc pc = .ok (.invokevirtual 346, 3)) (kk : ∀ (H1 : Heap) (locs1 : List Loc), EW D A s.heap (MW m ar cs (m_tell p1 Z)) H1 locs1 → W p l e R s mid args below meth c H1 locs1 0 0 Q (F0 mid (pc + 3) ls (rest))) : W p l e R s mid args below meth c H locs 0 0 Q (F0 mid pc ls (.long p1 :: .ref m :: rest)) :=
  gCall_v (As := [.long p1]) (rest := rest) (q0 := 0) (ci := 1) (fs := MF ar Z) (T' := TX1) (N' := 52) hx hb hml hown hts hK hA hE hls (met_m_tell l D cs m ar Z H.size p1) (cwV 1 hts (lw_V q1436 q1438 qs81 q85 q1439) rfl rfl rfl (by decide +kernel) ⟨h1, h2⟩) rfl rfl rfl rfl h3 hd ⟨Nat.zero_le _, Nat.zero_le _⟩ (fun u H1 locs1 hp _ hE => by subst hp; exact kk H1 locs1 hE)
end C_tell
def m_tellBeing_c16 (wc16 : ZT) : ZT := wc16
def m_tellBeing_b2 (p1 : Nat) (i2 : Nat) (w2 : ZT) : ZT := m_tellBeing_c16 (m_tell ((m_toldOf p1 (nI i2) w2).toInt64) w2)
def m_tellBeing_c106 (wc106 : ZT) : ZT := wc106
def m_tellBeing_b89 (p1 : Nat) (i89 : Nat) (w89 : ZT) : ZT := m_tellBeing_c106 (m_tell ((w89.1 26 ((4 * p1) + i89)).toInt64) w89)
def m_tellBeing_j172 (w172 : ZT) : ZT := w172
def m_tellBeing_c158 (p1 : Nat) (i117 : Nat) (wc158 : ZT) : ZT := m_tell ((wc158.1 25 ((8 * p1) + i117)).toInt64) wc158
def m_tellBeing_c138 (p1 : Nat) (i117 : Nat) (wc138 : ZT) : ZT := m_tellBeing_j172 (if wc138.1 23 ((8 * p1) + i117) ≤ 0 then wc138 else m_tellBeing_c158 p1 i117 (m_tell ((wc138.1 24 ((8 * p1) + i117)).toInt64) wc138))
def m_tellBeing_b117 (p1 : Nat) (i117 : Nat) (w117 : ZT) : ZT := m_tellBeing_c138 p1 i117 (m_tell ((w117.1 23 ((8 * p1) + i117)).toInt64) w117)
def m_tellBeing_j211 (w211 : ZT) : ZT := w211
def m_tellBeing_b180 (p1 : Nat) (i180 : Nat) (w180 : ZT) : ZT := m_tellBeing_j211 (if w180.1 13 i180 = 0 then w180 else m_tell ((w180.1 27 ((8 * p1) + i180)).toInt64) w180)
def m_tellBeing_e180 (w180 : ZT) : ZT := w180
def m_tellBeing_e117 (p1 : Nat) (w117 : ZT) : ZT := m_tellBeing_e180 (itR (m_tellBeing_b180 p1) 0 8 w117)
def m_tellBeing_e89 (p1 : Nat) (w89 : ZT) : ZT := m_tellBeing_e117 p1 (itR (m_tellBeing_b117 p1) 0 8 w89)
def m_tellBeing_j87 (p1 : Nat) (w87 : ZT) : ZT := m_tellBeing_e89 p1 (itR (m_tellBeing_b89 p1) 0 4 w87)
def m_tellBeing_c73 (p1 : Nat) (wc73 : ZT) : ZT := m_tell ((wc73.1 20 p1).toInt64) wc73
def m_tellBeing_j57 (p1 : Nat) (w57 : ZT) : ZT := m_tellBeing_j87 p1 (if (m_eats p1 w57) = 0 then w57 else m_tellBeing_c73 p1 (m_tell ((w57.1 19 p1).toInt64) w57))
def m_tellBeing_c43 (p1 : Nat) (wc43 : ZT) : ZT := m_tell ((wc43.1 18 p1).toInt64) wc43
def m_tellBeing_e2 (p1 : Nat) (w2 : ZT) : ZT := m_tellBeing_j57 p1 (if w2.1 14 p1 = (1 : Int32) then m_tellBeing_c43 p1 (m_tell ((w2.1 17 p1).toInt64) w2) else w2)
def m_tellBeing (p1 : Nat) (Z : ZT) : ZT := m_tellBeing_e2 p1 (itR (m_tellBeing_b2 p1) 0 6 Z)
set_option maxHeartbeats 4000000 in
set_option maxRecDepth 100000 in
theorem met_m_tellBeing (l : Launch) (D : va_G) (cs : Nat → ClassId) (m : Nat) (ar : Nat → Nat) (Z : ZT) (sz : Nat) (p1 : Nat) (hn1 : p1 < 8) : Met l yX1_tellBeing (ws_ yX1_tellBeing cX1_tellBeing 4 none) ({ frames := 3, cells := 0, slots := 0, locals := 68 }) (va_Pc [.ref m, .int (nI p1)] (wSt D cs (MW m ar cs Z) sz)) (cQv (fun (u : ZT) => m_tellBeing p1 Z = u) D (fun u => MW m ar cs u) (MW m ar cs Z) sz) 0 0 (va_A (MW m ar cs Z) sz) := by
  refine gStart_v (C := RX1) rfl rfl (Nat.le_of_ble_eq_true rfl) ?_
  intro p e s mid args below meth c R Q A hx hb hml hown hts hK hA hRf hRl hRc hRs hnm hret hE ls hl
  have hRf : 3 ≤ R.frames := hRf
  have hRl : 68 ≤ R.locals := hRl
  have hl : lv_has ls 4 [(0, .ref m), (1, .int (nI p1))] := hl
  have hR : m_tellBeing p1 Z = (m_tellBeing_e2 p1 (itR (m_tellBeing_b2 p1) 0 6 Z)) := rfl
  refine lv_iconst (v := 0) hx hb dX1_tellBeing_0 rfl ?_
  refine lv_istore_n (lv' := [(2, .int (0 : Int32)), (0, .ref m), (1, .int (nI p1))]) hx hb dX1_tellBeing_1 rfl hl (by decide) rfl (fun ls hl => ?_)
  have hL2 : ∀ (k i2 : Nat) (w2 : ZT) (hi2 : i2 + k = 6) (hR : m_tellBeing p1 Z = m_tellBeing_e2 p1 (itR (m_tellBeing_b2 p1) i2 k w2)), ∀ (H : Heap) (locs : List Loc) (ls : Array Slot), EW D A s.heap (MW m ar cs w2) H locs → lv_has ls 4 [(0, .ref m), (1, .int (nI p1)), (2, .int (nI i2))] → W p l e R s mid args below meth c H locs 0 0 Q (F0 mid 2 ls []) := by
    intro k
    induction k with
    | zero =>
      intro i2 w2 hi2 hR H locs ls hE hl
      have hie2 : i2 = 6 := by omega
      have hR : m_tellBeing p1 Z = (m_tellBeing_j57 p1 (if w2.1 14 p1 = (1 : Int32) then m_tellBeing_c43 p1 (m_tell ((w2.1 17 p1).toInt64) w2) else w2)) := hR
      refine lv_iload_n hx hb dX1_tellBeing_2 rfl (lv_at hl 2 rfl) ?_
      refine lv_bipush (v := 6) hx hb dX1_tellBeing_3 rfl ?_
      refine n_geT (a := i2) (b := 6) (by omega) (by omega) hx hb dX1_tellBeing_5 (tgt := 25) (by decide) ?_
      have hl := lv_sub (l' := [(0, .ref m), (1, .int (nI p1))]) hl [0, 1] rfl
      refine lv_aload_n hx hb dX1_tellBeing_25 rfl (lv_at hl 0 rfl) ?_
      refine mg_14 hx hb hts hown hK hE dX1_tellBeing_26 ?_
      refine lv_iload_n hx hb dX1_tellBeing_29 rfl (lv_at hl 1 rfl) ?_
      refine ma_14 (n := p1) (by omega) hx hb hK hE dX1_tellBeing_30 ?_
      refine lv_iconst (v := 1) hx hb dX1_tellBeing_31 rfl ?_
      have hJ57 : ∀ (w57 : ZT) (hR : m_tellBeing p1 Z = m_tellBeing_j57 p1 w57), ∀ (H : Heap) (locs : List Loc) (ls : Array Slot), EW D A s.heap (MW m ar cs w57) H locs → lv_has ls 4 [(0, .ref m), (1, .int (nI p1))] → W p l e R s mid args below meth c H locs 0 0 Q (F0 mid 57 ls []) := by
        intro w57 hR H locs ls hE hl
        have hR : m_tellBeing p1 Z = (m_tellBeing_j87 p1 (if (m_eats p1 w57) = 0 then w57 else m_tellBeing_c73 p1 (m_tell ((w57.1 19 p1).toInt64) w57))) := hR
        refine lv_aload_n hx hb dX1_tellBeing_57 rfl (lv_at hl 0 rfl) ?_
        refine lv_iload_n hx hb dX1_tellBeing_58 rfl (lv_at hl 1 rfl) ?_
        refine call_m_eats hx hb hml hown hts hK hA hE hl.1 p1 (by omega) (lz (show 1 ≤ 3 by decide) hRf) (lz (show 21 ≤ 68 by decide) hRl) (Nat.le_of_ble_eq_true rfl) dX1_tellBeing_59 (fun H locs hE => ?_)
        have hJ87 : ∀ (w87 : ZT) (hR : m_tellBeing p1 Z = m_tellBeing_j87 p1 w87), ∀ (H : Heap) (locs : List Loc) (ls : Array Slot), EW D A s.heap (MW m ar cs w87) H locs → lv_has ls 4 [(0, .ref m), (1, .int (nI p1))] → W p l e R s mid args below meth c H locs 0 0 Q (F0 mid 87 ls []) := by
          intro w87 hR H locs ls hE hl
          have hR : m_tellBeing p1 Z = (m_tellBeing_e89 p1 (itR (m_tellBeing_b89 p1) 0 4 w87)) := hR
          refine lv_iconst (v := 0) hx hb dX1_tellBeing_87 rfl ?_
          refine lv_istore_n (lv' := [(2, .int (0 : Int32)), (0, .ref m), (1, .int (nI p1))]) hx hb dX1_tellBeing_88 rfl hl (by decide) rfl (fun ls hl => ?_)
          have hL89 : ∀ (k i89 : Nat) (w89 : ZT) (hi89 : i89 + k = 4) (hR : m_tellBeing p1 Z = m_tellBeing_e89 p1 (itR (m_tellBeing_b89 p1) i89 k w89)), ∀ (H : Heap) (locs : List Loc) (ls : Array Slot), EW D A s.heap (MW m ar cs w89) H locs → lv_has ls 4 [(0, .ref m), (1, .int (nI p1)), (2, .int (nI i89))] → W p l e R s mid args below meth c H locs 0 0 Q (F0 mid 89 ls []) := by
            intro k
            induction k with
            | zero =>
              intro i89 w89 hi89 hR H locs ls hE hl
              have hie89 : i89 = 4 := by omega
              have hR : m_tellBeing p1 Z = (m_tellBeing_e117 p1 (itR (m_tellBeing_b117 p1) 0 8 w89)) := hR
              refine lv_iload_n hx hb dX1_tellBeing_89 rfl (lv_at hl 2 rfl) ?_
              refine lv_iconst (v := 4) hx hb dX1_tellBeing_90 rfl ?_
              refine n_geT (a := i89) (b := 4) (by omega) (by omega) hx hb dX1_tellBeing_91 (tgt := 115) (by decide) ?_
              have hl := lv_sub (l' := [(0, .ref m), (1, .int (nI p1))]) hl [0, 1] rfl
              refine lv_iconst (v := 0) hx hb dX1_tellBeing_115 rfl ?_
              refine lv_istore_n (lv' := [(2, .int (0 : Int32)), (0, .ref m), (1, .int (nI p1))]) hx hb dX1_tellBeing_116 rfl hl (by decide) rfl (fun ls hl => ?_)
              have hL117 : ∀ (k i117 : Nat) (w117 : ZT) (hi117 : i117 + k = 8) (hR : m_tellBeing p1 Z = m_tellBeing_e117 p1 (itR (m_tellBeing_b117 p1) i117 k w117)), ∀ (H : Heap) (locs : List Loc) (ls : Array Slot), EW D A s.heap (MW m ar cs w117) H locs → lv_has ls 4 [(0, .ref m), (1, .int (nI p1)), (2, .int (nI i117))] → W p l e R s mid args below meth c H locs 0 0 Q (F0 mid 117 ls []) := by
                intro k
                induction k with
                | zero =>
                  intro i117 w117 hi117 hR H locs ls hE hl
                  have hie117 : i117 = 8 := by omega
                  have hR : m_tellBeing p1 Z = (m_tellBeing_e180 (itR (m_tellBeing_b180 p1) 0 8 w117)) := hR
                  refine lv_iload_n hx hb dX1_tellBeing_117 rfl (lv_at hl 2 rfl) ?_
                  refine lv_bipush (v := 8) hx hb dX1_tellBeing_118 rfl ?_
                  refine n_geT (a := i117) (b := 8) (by omega) (by omega) hx hb dX1_tellBeing_120 (tgt := 178) (by decide) ?_
                  have hl := lv_sub (l' := [(0, .ref m), (1, .int (nI p1))]) hl [0, 1] rfl
                  refine lv_iconst (v := 0) hx hb dX1_tellBeing_178 rfl ?_
                  refine lv_istore_n (lv' := [(2, .int (0 : Int32)), (0, .ref m), (1, .int (nI p1))]) hx hb dX1_tellBeing_179 rfl hl (by decide) rfl (fun ls hl => ?_)
                  have hL180 : ∀ (k i180 : Nat) (w180 : ZT) (hi180 : i180 + k = 8) (hR : m_tellBeing p1 Z = m_tellBeing_e180 (itR (m_tellBeing_b180 p1) i180 k w180)), ∀ (H : Heap) (locs : List Loc) (ls : Array Slot), EW D A s.heap (MW m ar cs w180) H locs → lv_has ls 4 [(0, .ref m), (1, .int (nI p1)), (2, .int (nI i180))] → W p l e R s mid args below meth c H locs 0 0 Q (F0 mid 180 ls []) := by
                    intro k
                    induction k with
                    | zero =>
                      intro i180 w180 hi180 hR H locs ls hE hl
                      have hie180 : i180 = 8 := by omega
                      have hR : m_tellBeing p1 Z = w180 := hR
                      refine lv_iload_n hx hb dX1_tellBeing_180 rfl (lv_at hl 2 rfl) ?_
                      refine lv_bipush (v := 8) hx hb dX1_tellBeing_181 rfl ?_
                      refine n_geT (a := i180) (b := 8) (by omega) (by omega) hx hb dX1_tellBeing_183 (tgt := 217) (by decide) ?_
                      have hl := lv_sub (l' := [(0, .ref m), (1, .int (nI p1))]) hl [0, 1] rfl
                      exact hret w180 hR hE (Nat.le_refl 0) (Nat.le_refl 0) dX1_tellBeing_217
                    | succ k ih180 =>
                      intro i180 w180 hi180 hR H locs ls hE hl
                      have hlt180 : i180 < 8 := by omega
                      have hB180 : m_tellBeing_b180 p1 i180 w180 = m_tellBeing_j211 (if w180.1 13 i180 = 0 then w180 else m_tell ((w180.1 27 ((8 * p1) + i180)).toInt64) w180) := rfl
                      refine lv_iload_n hx hb dX1_tellBeing_180 rfl (lv_at hl 2 rfl) ?_
                      refine lv_bipush (v := 8) hx hb dX1_tellBeing_181 rfl ?_
                      refine n_geF (a := i180) (b := 8) (by omega) (by omega) hx hb dX1_tellBeing_183 (tgt := 217) (by decide) ?_
                      refine lv_aload_n hx hb dX1_tellBeing_186 rfl (lv_at hl 0 rfl) ?_
                      refine mg_13 hx hb hts hown hK hE dX1_tellBeing_187 ?_
                      refine lv_iload_n hx hb dX1_tellBeing_190 rfl (lv_at hl 2 rfl) ?_
                      refine ma_13 (n := i180) (by omega) hx hb hK hE dX1_tellBeing_191 ?_
                      have hJ211 : ∀ (w211 : ZT) (hB180 : m_tellBeing_b180 p1 i180 w180 = m_tellBeing_j211 w211), ∀ (H : Heap) (locs : List Loc) (ls : Array Slot), EW D A s.heap (MW m ar cs w211) H locs → lv_has ls 4 [(0, .ref m), (1, .int (nI p1)), (2, .int (nI i180))] → W p l e R s mid args below meth c H locs 0 0 Q (F0 mid 211 ls []) := by
                        intro w211 hB180 H locs ls hE hl
                        have hB180 : m_tellBeing_b180 p1 i180 w180 = w211 := hB180
                        refine n_inc (lv' := [(2, .int (nI (i180 + 1))), (0, .ref m), (1, .int (nI p1))]) hx hb dX1_tellBeing_211 hl (k := 2) rfl (by decide) rfl (fun ls hl => ?_)
                        refine lv_goto (tgt := 180) hx hb dX1_tellBeing_214 (by decide) ?_
                        exact ih180 (i180 + 1) w211 (by omega) (hR.trans (congrArg (fun z => m_tellBeing_e180 (itR (m_tellBeing_b180 p1) (i180 + 1) k z)) hB180)) _ _ _ hE (lv_sub hl [1, 2, 0] rfl)
                      refine lv_if_eq (tgt := 211) hx hb dX1_tellBeing_192 (by decide) (fun c192 => ?_) (fun c192 => ?_)
                      · have hB180 : m_tellBeing_b180 p1 i180 w180 = m_tellBeing_j211 w180 := hB180.trans (congrArg (fun z => m_tellBeing_j211 z) (if_pos c192))
                        exact hJ211 w180  hB180 _ _ _ hE (lv_sub hl [0, 1, 2] rfl)
                      · have hB180 : m_tellBeing_b180 p1 i180 w180 = m_tellBeing_j211 (m_tell ((w180.1 27 ((8 * p1) + i180)).toInt64) w180) := hB180.trans (congrArg (fun z => m_tellBeing_j211 z) (if_neg c192))
                        refine lv_aload_n hx hb dX1_tellBeing_195 rfl (lv_at hl 0 rfl) ?_
                        refine lv_aload_n hx hb dX1_tellBeing_196 rfl (lv_at hl 0 rfl) ?_
                        refine mg_27 hx hb hts hown hK hE dX1_tellBeing_197 ?_
                        refine lv_bipush (v := 8) hx hb dX1_tellBeing_200 rfl ?_
                        refine lv_iload_n hx hb dX1_tellBeing_202 rfl (lv_at hl 1 rfl) ?_
                        refine n_mul (a := 8) (b := p1) hx hb dX1_tellBeing_203 ?_
                        refine lv_iload_n hx hb dX1_tellBeing_204 rfl (lv_at hl 2 rfl) ?_
                        refine n_add (a := (8 * p1)) (b := i180) hx hb dX1_tellBeing_205 ?_
                        refine ma_27 (n := ((8 * p1) + i180)) (by omega) hx hb hK hE dX1_tellBeing_206 ?_
                        refine lv_i2l hx hb dX1_tellBeing_207 rfl ?_
                        refine call_m_tell hx hb hml hown hts hK hA hE hl.1 ((w180.1 27 ((8 * p1) + i180)).toInt64) (lz (show 1 ≤ 3 by decide) hRf) (lz (show 22 ≤ 68 by decide) hRl) (Nat.le_of_ble_eq_true rfl) dX1_tellBeing_208 (fun H locs hE => ?_)
                        exact hJ211 (m_tell ((w180.1 27 ((8 * p1) + i180)).toInt64) w180)  hB180 _ _ _ hE (lv_sub hl [0, 1, 2] rfl)
                  exact hL180 8 0 w117 (by omega) hR _ _ _ hE (lv_sub hl [1, 2, 0] rfl)
                | succ k ih117 =>
                  intro i117 w117 hi117 hR H locs ls hE hl
                  have hlt117 : i117 < 8 := by omega
                  have hB117 : m_tellBeing_b117 p1 i117 w117 = m_tellBeing_c138 p1 i117 (m_tell ((w117.1 23 ((8 * p1) + i117)).toInt64) w117) := rfl
                  refine lv_iload_n hx hb dX1_tellBeing_117 rfl (lv_at hl 2 rfl) ?_
                  refine lv_bipush (v := 8) hx hb dX1_tellBeing_118 rfl ?_
                  refine n_geF (a := i117) (b := 8) (by omega) (by omega) hx hb dX1_tellBeing_120 (tgt := 178) (by decide) ?_
                  refine lv_bipush (v := 8) hx hb dX1_tellBeing_123 rfl ?_
                  refine lv_iload_n hx hb dX1_tellBeing_125 rfl (lv_at hl 1 rfl) ?_
                  refine n_mul (a := 8) (b := p1) hx hb dX1_tellBeing_126 ?_
                  refine lv_iload_n hx hb dX1_tellBeing_127 rfl (lv_at hl 2 rfl) ?_
                  refine n_add (a := (8 * p1)) (b := i117) hx hb dX1_tellBeing_128 ?_
                  refine lv_istore_n (lv' := [(3, .int (nI ((8 * p1) + i117))), (0, .ref m), (1, .int (nI p1)), (2, .int (nI i117))]) hx hb dX1_tellBeing_129 rfl hl (by decide) rfl (fun ls hl => ?_)
                  refine lv_aload_n hx hb dX1_tellBeing_130 rfl (lv_at hl 1 rfl) ?_
                  refine lv_aload_n hx hb dX1_tellBeing_131 rfl (lv_at hl 1 rfl) ?_
                  refine mg_23 hx hb hts hown hK hE dX1_tellBeing_132 ?_
                  refine lv_iload_n hx hb dX1_tellBeing_135 rfl (lv_at hl 0 rfl) ?_
                  refine ma_23 (n := ((8 * p1) + i117)) (by omega) hx hb hK hE dX1_tellBeing_136 ?_
                  refine lv_i2l hx hb dX1_tellBeing_137 rfl ?_
                  refine call_m_tell hx hb hml hown hts hK hA hE hl.1 ((w117.1 23 ((8 * p1) + i117)).toInt64) (lz (show 1 ≤ 3 by decide) hRf) (lz (show 22 ≤ 68 by decide) hRl) (Nat.le_of_ble_eq_true rfl) dX1_tellBeing_138 (fun H locs hE => ?_)
                  have hNc138 : ∀ (wc138 : ZT) (hB117 : m_tellBeing_b117 p1 i117 w117 = m_tellBeing_c138 p1 i117 wc138), ∀ (H : Heap) (locs : List Loc) (ls : Array Slot), EW D A s.heap (MW m ar cs wc138) H locs → lv_has ls 4 [(0, .ref m), (1, .int (nI p1)), (2, .int (nI i117)), (3, .int (nI ((8 * p1) + i117)))] → W p l e R s mid args below meth c H locs 0 0 Q (F0 mid 141 ls []) := by
                    intro wc138 hB117 H locs ls hE hl
                    have hB117 : m_tellBeing_b117 p1 i117 w117 = (m_tellBeing_j172 (if wc138.1 23 ((8 * p1) + i117) ≤ 0 then wc138 else m_tellBeing_c158 p1 i117 (m_tell ((wc138.1 24 ((8 * p1) + i117)).toInt64) wc138))) := hB117
                    refine lv_aload_n hx hb dX1_tellBeing_141 rfl (lv_at hl 0 rfl) ?_
                    refine mg_23 hx hb hts hown hK hE dX1_tellBeing_142 ?_
                    refine lv_iload_n hx hb dX1_tellBeing_145 rfl (lv_at hl 3 rfl) ?_
                    refine ma_23 (n := ((8 * p1) + i117)) (by omega) hx hb hK hE dX1_tellBeing_146 ?_
                    have hJ172 : ∀ (w172 : ZT) (hB117 : m_tellBeing_b117 p1 i117 w117 = m_tellBeing_j172 w172), ∀ (H : Heap) (locs : List Loc) (ls : Array Slot), EW D A s.heap (MW m ar cs w172) H locs → lv_has ls 4 [(0, .ref m), (1, .int (nI p1)), (2, .int (nI i117))] → W p l e R s mid args below meth c H locs 0 0 Q (F0 mid 172 ls []) := by
                      intro w172 hB117 H locs ls hE hl
                      have hB117 : m_tellBeing_b117 p1 i117 w117 = w172 := hB117
                      refine n_inc (lv' := [(2, .int (nI (i117 + 1))), (0, .ref m), (1, .int (nI p1))]) hx hb dX1_tellBeing_172 hl (k := 2) rfl (by decide) rfl (fun ls hl => ?_)
                      refine lv_goto (tgt := 117) hx hb dX1_tellBeing_175 (by decide) ?_
                      exact ih117 (i117 + 1) w172 (by omega) (hR.trans (congrArg (fun z => m_tellBeing_e117 p1 (itR (m_tellBeing_b117 p1) (i117 + 1) k z)) hB117)) _ _ _ hE (lv_sub hl [1, 2, 0] rfl)
                    refine lv_if_le (tgt := 172) hx hb dX1_tellBeing_147 (by decide) (fun c147 => ?_) (fun c147 => ?_)
                    · have hB117 : m_tellBeing_b117 p1 i117 w117 = m_tellBeing_j172 wc138 := hB117.trans (congrArg (fun z => m_tellBeing_j172 z) (if_pos c147))
                      exact hJ172 wc138  hB117 _ _ _ hE (lv_sub hl [0, 1, 2] rfl)
                    · have hB117 : m_tellBeing_b117 p1 i117 w117 = m_tellBeing_j172 (m_tellBeing_c158 p1 i117 (m_tell ((wc138.1 24 ((8 * p1) + i117)).toInt64) wc138)) := hB117.trans (congrArg (fun z => m_tellBeing_j172 z) (if_neg c147))
                      refine lv_aload_n hx hb dX1_tellBeing_150 rfl (lv_at hl 0 rfl) ?_
                      refine lv_aload_n hx hb dX1_tellBeing_151 rfl (lv_at hl 0 rfl) ?_
                      refine mg_24 hx hb hts hown hK hE dX1_tellBeing_152 ?_
                      refine lv_iload_n hx hb dX1_tellBeing_155 rfl (lv_at hl 3 rfl) ?_
                      refine ma_24 (n := ((8 * p1) + i117)) (by omega) hx hb hK hE dX1_tellBeing_156 ?_
                      refine lv_i2l hx hb dX1_tellBeing_157 rfl ?_
                      refine call_m_tell hx hb hml hown hts hK hA hE hl.1 ((wc138.1 24 ((8 * p1) + i117)).toInt64) (lz (show 1 ≤ 3 by decide) hRf) (lz (show 22 ≤ 68 by decide) hRl) (Nat.le_of_ble_eq_true rfl) dX1_tellBeing_158 (fun H locs hE => ?_)
                      have hNc158 : ∀ (wc158 : ZT) (hB117 : m_tellBeing_b117 p1 i117 w117 = m_tellBeing_j172 (m_tellBeing_c158 p1 i117 wc158)), ∀ (H : Heap) (locs : List Loc) (ls : Array Slot), EW D A s.heap (MW m ar cs wc158) H locs → lv_has ls 4 [(0, .ref m), (1, .int (nI p1)), (2, .int (nI i117)), (3, .int (nI ((8 * p1) + i117)))] → W p l e R s mid args below meth c H locs 0 0 Q (F0 mid 161 ls []) := by
                        intro wc158 hB117 H locs ls hE hl
                        have hB117 : m_tellBeing_b117 p1 i117 w117 = m_tellBeing_j172 (m_tell ((wc158.1 25 ((8 * p1) + i117)).toInt64) wc158) := hB117
                        refine lv_aload_n hx hb dX1_tellBeing_161 rfl (lv_at hl 0 rfl) ?_
                        refine lv_aload_n hx hb dX1_tellBeing_162 rfl (lv_at hl 0 rfl) ?_
                        refine mg_25 hx hb hts hown hK hE dX1_tellBeing_163 ?_
                        refine lv_iload_n hx hb dX1_tellBeing_166 rfl (lv_at hl 3 rfl) ?_
                        refine ma_25 (n := ((8 * p1) + i117)) (by omega) hx hb hK hE dX1_tellBeing_167 ?_
                        refine lv_i2l hx hb dX1_tellBeing_168 rfl ?_
                        refine call_m_tell hx hb hml hown hts hK hA hE hl.1 ((wc158.1 25 ((8 * p1) + i117)).toInt64) (lz (show 1 ≤ 3 by decide) hRf) (lz (show 22 ≤ 68 by decide) hRl) (Nat.le_of_ble_eq_true rfl) dX1_tellBeing_169 (fun H locs hE => ?_)
                        exact hJ172 (m_tell ((wc158.1 25 ((8 * p1) + i117)).toInt64) wc158)  hB117 _ _ _ hE (lv_sub hl [0, 1, 2] rfl)
                      exact hNc158 (m_tell ((wc138.1 24 ((8 * p1) + i117)).toInt64) wc138) hB117 _ _ _ hE (lv_sub hl [0, 1, 2, 3] rfl)
                  exact hNc138 (m_tell ((w117.1 23 ((8 * p1) + i117)).toInt64) w117) hB117 _ _ _ hE (lv_sub hl [1, 2, 3, 0] rfl)
              exact hL117 8 0 w89 (by omega) hR _ _ _ hE (lv_sub hl [1, 2, 0] rfl)
            | succ k ih89 =>
              intro i89 w89 hi89 hR H locs ls hE hl
              have hlt89 : i89 < 4 := by omega
              have hB89 : m_tellBeing_b89 p1 i89 w89 = m_tellBeing_c106 (m_tell ((w89.1 26 ((4 * p1) + i89)).toInt64) w89) := rfl
              refine lv_iload_n hx hb dX1_tellBeing_89 rfl (lv_at hl 2 rfl) ?_
              refine lv_iconst (v := 4) hx hb dX1_tellBeing_90 rfl ?_
              refine n_geF (a := i89) (b := 4) (by omega) (by omega) hx hb dX1_tellBeing_91 (tgt := 115) (by decide) ?_
              refine lv_aload_n hx hb dX1_tellBeing_94 rfl (lv_at hl 0 rfl) ?_
              refine lv_aload_n hx hb dX1_tellBeing_95 rfl (lv_at hl 0 rfl) ?_
              refine mg_26 hx hb hts hown hK hE dX1_tellBeing_96 ?_
              refine lv_iconst (v := 4) hx hb dX1_tellBeing_99 rfl ?_
              refine lv_iload_n hx hb dX1_tellBeing_100 rfl (lv_at hl 1 rfl) ?_
              refine n_mul (a := 4) (b := p1) hx hb dX1_tellBeing_101 ?_
              refine lv_iload_n hx hb dX1_tellBeing_102 rfl (lv_at hl 2 rfl) ?_
              refine n_add (a := (4 * p1)) (b := i89) hx hb dX1_tellBeing_103 ?_
              refine ma_26 (n := ((4 * p1) + i89)) (by omega) hx hb hK hE dX1_tellBeing_104 ?_
              refine lv_i2l hx hb dX1_tellBeing_105 rfl ?_
              refine call_m_tell hx hb hml hown hts hK hA hE hl.1 ((w89.1 26 ((4 * p1) + i89)).toInt64) (lz (show 1 ≤ 3 by decide) hRf) (lz (show 22 ≤ 68 by decide) hRl) (Nat.le_of_ble_eq_true rfl) dX1_tellBeing_106 (fun H locs hE => ?_)
              have hNc106 : ∀ (wc106 : ZT) (hB89 : m_tellBeing_b89 p1 i89 w89 = m_tellBeing_c106 wc106), ∀ (H : Heap) (locs : List Loc) (ls : Array Slot), EW D A s.heap (MW m ar cs wc106) H locs → lv_has ls 4 [(0, .ref m), (1, .int (nI p1)), (2, .int (nI i89))] → W p l e R s mid args below meth c H locs 0 0 Q (F0 mid 109 ls []) := by
                intro wc106 hB89 H locs ls hE hl
                have hB89 : m_tellBeing_b89 p1 i89 w89 = wc106 := hB89
                refine n_inc (lv' := [(2, .int (nI (i89 + 1))), (0, .ref m), (1, .int (nI p1))]) hx hb dX1_tellBeing_109 hl (k := 2) rfl (by decide) rfl (fun ls hl => ?_)
                refine lv_goto (tgt := 89) hx hb dX1_tellBeing_112 (by decide) ?_
                exact ih89 (i89 + 1) wc106 (by omega) (hR.trans (congrArg (fun z => m_tellBeing_e89 p1 (itR (m_tellBeing_b89 p1) (i89 + 1) k z)) hB89)) _ _ _ hE (lv_sub hl [1, 2, 0] rfl)
              exact hNc106 (m_tell ((w89.1 26 ((4 * p1) + i89)).toInt64) w89) hB89 _ _ _ hE (lv_sub hl [0, 1, 2] rfl)
          exact hL89 4 0 w87 (by omega) hR _ _ _ hE (lv_sub hl [1, 2, 0] rfl)
        refine lv_if_eq (tgt := 87) hx hb dX1_tellBeing_62 (by decide) (fun c62 => ?_) (fun c62 => ?_)
        · have hR : m_tellBeing p1 Z = m_tellBeing_j87 p1 w57 := hR.trans (congrArg (fun z => m_tellBeing_j87 p1 z) (if_pos c62))
          exact hJ87 w57  hR _ _ _ hE (lv_sub hl [0, 1] rfl)
        · have hR : m_tellBeing p1 Z = m_tellBeing_j87 p1 (m_tellBeing_c73 p1 (m_tell ((w57.1 19 p1).toInt64) w57)) := hR.trans (congrArg (fun z => m_tellBeing_j87 p1 z) (if_neg c62))
          refine lv_aload_n hx hb dX1_tellBeing_65 rfl (lv_at hl 0 rfl) ?_
          refine lv_aload_n hx hb dX1_tellBeing_66 rfl (lv_at hl 0 rfl) ?_
          refine mg_19 hx hb hts hown hK hE dX1_tellBeing_67 ?_
          refine lv_iload_n hx hb dX1_tellBeing_70 rfl (lv_at hl 1 rfl) ?_
          refine ma_19 (n := p1) (by omega) hx hb hK hE dX1_tellBeing_71 ?_
          refine lv_i2l hx hb dX1_tellBeing_72 rfl ?_
          refine call_m_tell hx hb hml hown hts hK hA hE hl.1 ((w57.1 19 p1).toInt64) (lz (show 1 ≤ 3 by decide) hRf) (lz (show 22 ≤ 68 by decide) hRl) (Nat.le_of_ble_eq_true rfl) dX1_tellBeing_73 (fun H locs hE => ?_)
          have hNc73 : ∀ (wc73 : ZT) (hR : m_tellBeing p1 Z = m_tellBeing_j87 p1 (m_tellBeing_c73 p1 wc73)), ∀ (H : Heap) (locs : List Loc) (ls : Array Slot), EW D A s.heap (MW m ar cs wc73) H locs → lv_has ls 4 [(0, .ref m), (1, .int (nI p1))] → W p l e R s mid args below meth c H locs 0 0 Q (F0 mid 76 ls []) := by
            intro wc73 hR H locs ls hE hl
            have hR : m_tellBeing p1 Z = m_tellBeing_j87 p1 (m_tell ((wc73.1 20 p1).toInt64) wc73) := hR
            refine lv_aload_n hx hb dX1_tellBeing_76 rfl (lv_at hl 0 rfl) ?_
            refine lv_aload_n hx hb dX1_tellBeing_77 rfl (lv_at hl 0 rfl) ?_
            refine mg_20 hx hb hts hown hK hE dX1_tellBeing_78 ?_
            refine lv_iload_n hx hb dX1_tellBeing_81 rfl (lv_at hl 1 rfl) ?_
            refine ma_20 (n := p1) (by omega) hx hb hK hE dX1_tellBeing_82 ?_
            refine lv_i2l hx hb dX1_tellBeing_83 rfl ?_
            refine call_m_tell hx hb hml hown hts hK hA hE hl.1 ((wc73.1 20 p1).toInt64) (lz (show 1 ≤ 3 by decide) hRf) (lz (show 22 ≤ 68 by decide) hRl) (Nat.le_of_ble_eq_true rfl) dX1_tellBeing_84 (fun H locs hE => ?_)
            exact hJ87 (m_tell ((wc73.1 20 p1).toInt64) wc73)  hR _ _ _ hE (lv_sub hl [0, 1] rfl)
          exact hNc73 (m_tell ((w57.1 19 p1).toInt64) w57) hR _ _ _ hE (lv_sub hl [0, 1] rfl)
      refine lv_icmp_ne (tgt := 57) hx hb dX1_tellBeing_32 (by decide) (fun c32 => ?_) (fun c32 => ?_)
      · have hR : m_tellBeing p1 Z = m_tellBeing_j57 p1 w2 := hR.trans (congrArg (fun z => m_tellBeing_j57 p1 z) (if_neg c32))
        exact hJ57 w2  hR _ _ _ hE (lv_sub hl [0, 1] rfl)
      · have hR : m_tellBeing p1 Z = m_tellBeing_j57 p1 (m_tellBeing_c43 p1 (m_tell ((w2.1 17 p1).toInt64) w2)) := hR.trans (congrArg (fun z => m_tellBeing_j57 p1 z) (if_pos c32))
        refine lv_aload_n hx hb dX1_tellBeing_35 rfl (lv_at hl 0 rfl) ?_
        refine lv_aload_n hx hb dX1_tellBeing_36 rfl (lv_at hl 0 rfl) ?_
        refine mg_17 hx hb hts hown hK hE dX1_tellBeing_37 ?_
        refine lv_iload_n hx hb dX1_tellBeing_40 rfl (lv_at hl 1 rfl) ?_
        refine ma_17 (n := p1) (by omega) hx hb hK hE dX1_tellBeing_41 ?_
        refine lv_i2l hx hb dX1_tellBeing_42 rfl ?_
        refine call_m_tell hx hb hml hown hts hK hA hE hl.1 ((w2.1 17 p1).toInt64) (lz (show 1 ≤ 3 by decide) hRf) (lz (show 22 ≤ 68 by decide) hRl) (Nat.le_of_ble_eq_true rfl) dX1_tellBeing_43 (fun H locs hE => ?_)
        have hNc43 : ∀ (wc43 : ZT) (hR : m_tellBeing p1 Z = m_tellBeing_j57 p1 (m_tellBeing_c43 p1 wc43)), ∀ (H : Heap) (locs : List Loc) (ls : Array Slot), EW D A s.heap (MW m ar cs wc43) H locs → lv_has ls 4 [(0, .ref m), (1, .int (nI p1))] → W p l e R s mid args below meth c H locs 0 0 Q (F0 mid 46 ls []) := by
          intro wc43 hR H locs ls hE hl
          have hR : m_tellBeing p1 Z = m_tellBeing_j57 p1 (m_tell ((wc43.1 18 p1).toInt64) wc43) := hR
          refine lv_aload_n hx hb dX1_tellBeing_46 rfl (lv_at hl 0 rfl) ?_
          refine lv_aload_n hx hb dX1_tellBeing_47 rfl (lv_at hl 0 rfl) ?_
          refine mg_18 hx hb hts hown hK hE dX1_tellBeing_48 ?_
          refine lv_iload_n hx hb dX1_tellBeing_51 rfl (lv_at hl 1 rfl) ?_
          refine ma_18 (n := p1) (by omega) hx hb hK hE dX1_tellBeing_52 ?_
          refine lv_i2l hx hb dX1_tellBeing_53 rfl ?_
          refine call_m_tell hx hb hml hown hts hK hA hE hl.1 ((wc43.1 18 p1).toInt64) (lz (show 1 ≤ 3 by decide) hRf) (lz (show 22 ≤ 68 by decide) hRl) (Nat.le_of_ble_eq_true rfl) dX1_tellBeing_54 (fun H locs hE => ?_)
          exact hJ57 (m_tell ((wc43.1 18 p1).toInt64) wc43)  hR _ _ _ hE (lv_sub hl [0, 1] rfl)
        exact hNc43 (m_tell ((w2.1 17 p1).toInt64) w2) hR _ _ _ hE (lv_sub hl [0, 1] rfl)
    | succ k ih2 =>
      intro i2 w2 hi2 hR H locs ls hE hl
      have hlt2 : i2 < 6 := by omega
      have hB2 : m_tellBeing_b2 p1 i2 w2 = m_tellBeing_c16 (m_tell ((m_toldOf p1 (nI i2) w2).toInt64) w2) := rfl
      refine lv_iload_n hx hb dX1_tellBeing_2 rfl (lv_at hl 2 rfl) ?_
      refine lv_bipush (v := 6) hx hb dX1_tellBeing_3 rfl ?_
      refine n_geF (a := i2) (b := 6) (by omega) (by omega) hx hb dX1_tellBeing_5 (tgt := 25) (by decide) ?_
      refine lv_aload_n hx hb dX1_tellBeing_8 rfl (lv_at hl 0 rfl) ?_
      refine lv_aload_n hx hb dX1_tellBeing_9 rfl (lv_at hl 0 rfl) ?_
      refine lv_iload_n hx hb dX1_tellBeing_10 rfl (lv_at hl 1 rfl) ?_
      refine lv_iload_n hx hb dX1_tellBeing_11 rfl (lv_at hl 2 rfl) ?_
      refine call_m_toldOf hx hb hml hown hts hK hA hE hl.1 p1 (nI i2) (by omega) (lz (show 3 ≤ 3 by decide) hRf) (lz (show 68 ≤ 68 by decide) hRl) (Nat.le_of_ble_eq_true rfl) dX1_tellBeing_12 (fun H locs hE => ?_)
      refine lv_i2l hx hb dX1_tellBeing_15 rfl ?_
      refine call_m_tell hx hb hml hown hts hK hA hE hl.1 ((m_toldOf p1 (nI i2) w2).toInt64) (lz (show 1 ≤ 3 by decide) hRf) (lz (show 22 ≤ 68 by decide) hRl) (Nat.le_of_ble_eq_true rfl) dX1_tellBeing_16 (fun H locs hE => ?_)
      have hNc16 : ∀ (wc16 : ZT) (hB2 : m_tellBeing_b2 p1 i2 w2 = m_tellBeing_c16 wc16), ∀ (H : Heap) (locs : List Loc) (ls : Array Slot), EW D A s.heap (MW m ar cs wc16) H locs → lv_has ls 4 [(0, .ref m), (1, .int (nI p1)), (2, .int (nI i2))] → W p l e R s mid args below meth c H locs 0 0 Q (F0 mid 19 ls []) := by
        intro wc16 hB2 H locs ls hE hl
        have hB2 : m_tellBeing_b2 p1 i2 w2 = wc16 := hB2
        refine n_inc (lv' := [(2, .int (nI (i2 + 1))), (0, .ref m), (1, .int (nI p1))]) hx hb dX1_tellBeing_19 hl (k := 2) rfl (by decide) rfl (fun ls hl => ?_)
        refine lv_goto (tgt := 2) hx hb dX1_tellBeing_22 (by decide) ?_
        exact ih2 (i2 + 1) wc16 (by omega) (hR.trans (congrArg (fun z => m_tellBeing_e2 p1 (itR (m_tellBeing_b2 p1) (i2 + 1) k z)) hB2)) _ _ _ hE (lv_sub hl [1, 2, 0] rfl)
      exact hNc16 (m_tell ((m_toldOf p1 (nI i2) w2).toInt64) w2) hB2 _ _ _ hE (lv_sub hl [0, 1, 2] rfl)
  exact hL2 6 0 Z (by omega) hR _ _ _ hE (lv_sub hl [1, 2, 0] rfl)
section C_tellBeing
variable {p : Program} {l : Launch} {e : Env} {R : Room} {s : State} {mid : MethodId} {args : Array Value} {below : List Frame} {meth : Method} {c : Code} {H : Heap} {locs : List Loc} {Q : State → Prop} {cc : ByteArray} {pc : Nat} {ls : Array Slot} {rest : List Value} {D : va_G} {A : Nat → Prop} {m : Nat} {ar : Nat → Nat} {cs : Nat → ClassId} {Z : ZT} {nL : Nat}
theorem call_m_tellBeing (hx : p.tables.exec = Jvm.exec) (hb : c.code = cc) (hml : c.maxLocals = nL) (hown : s.vm.findClass RX1 = some mid.cls) (hts : ∀ w ∈ lw_all, w.before args s = true) (hK : KK D cs s) (hA : ∀ q : Nat, s.heap.size ≤ q → A q) (hE : EW D A s.heap (MW m ar cs Z) H locs) (hls : ls.size = nL) (p1 : Nat) (hn1 : p1 < 8) (h1 : 4 ≤ R.frames) (h2 : 91 ≤ R.locals) (h3 : (rest.map fun v => v.category).sum ≤ 8) (hd : decode cc pc = .ok (.invokevirtual 352, 3)) (kk : ∀ (H1 : Heap) (locs1 : List Loc), EW D A s.heap (MW m ar cs (m_tellBeing p1 Z)) H1 locs1 → W p l e R s mid args below meth c H1 locs1 0 0 Q (F0 mid (pc + 3) ls (rest))) : W p l e R s mid args below meth c H locs 0 0 Q (F0 mid pc ls (.int (nI p1) :: .ref m :: rest)) :=
  gCall_v (As := [.int (nI p1)]) (rest := rest) (q0 := 0) (ci := 1) (fs := MF ar Z) (T' := TX1) (N' := 52) hx hb hml hown hts hK hA hE hls (met_m_tellBeing l D cs m ar Z H.size p1 hn1) (cwV 1 hts (lw_V q1441 q1443 qs82 q85 q1444) rfl rfl rfl (by decide +kernel) ⟨h1, h2⟩) rfl rfl rfl rfl h3 hd ⟨Nat.zero_le _, Nat.zero_le _⟩ (fun u H1 locs1 hp _ hE => by subst hp; exact kk H1 locs1 hE)
end C_tellBeing
