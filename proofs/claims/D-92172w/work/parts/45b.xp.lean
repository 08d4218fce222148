/-! the component's items against the plain law -/
set_option maxRecDepth 100000
theorem xitem_spec {t i : Nat} {Z : ZT} (h : RD t Z) (hi : ix (Z.1 42 0) = i) : xOut (pItem (xch t Z) i) (x_isItem t Z) := by
  have h60 := rd_60 h
  have hbe : r_isBeing t Z = m_in (xch t Z i) 97 104 := by rw [← hi]; exact here_m h (by decide) (by decide)
  unfold x_isItem pItem
  by_cases c4 : m_in (xch t Z i) 97 104 = 0
  · rw [if_pos c4, if_pos (hbe.trans c4)]
    exact ⟨rfl, by show Z.1 42 0 = _; rw [rd_nI h, hi]⟩
  rw [if_neg c4, if_neg (show ¬ r_isBeing t Z = 0 from by rw [hbe]; exact c4)]
  have l0 := rd_b h (by rw [hbe]; exact c4)
  have hh : r_here t Z = xch t Z i := by rw [here_eq h l0, hi]
  have R30 : RD t (sI (sI Z 7 0 (r_here t Z - 97)) 42 0 (Z.1 42 0 + 1)) := RD_up h l0 rfl rfl
  have a30 : ix ((sI (sI Z 7 0 (r_here t Z - 97)) 42 0 (Z.1 42 0 + 1)).1 42 0) = i + 1 := by rw [← hi]; exact rd_ix h l0
  have b30 : (sI (sI Z 7 0 (r_here t Z - 97)) 42 0 (Z.1 42 0 + 1)).1 7 0 = xch t Z i - 97 := by rw [← hh]; rfl
  have x30 : xch t (sI (sI Z 7 0 (r_here t Z - 97)) 42 0 (Z.1 42 0 + 1)) = xch t Z := xch_congr rfl rfl
  generalize sI (sI Z 7 0 (r_here t Z - 97)) 42 0 (Z.1 42 0 + 1) = w at R30 a30 b30 x30
  have hsg : ∀ v : Int32, ¬ (-1 : Int32) = v → ¬ (0 : Int32) = v → (r_here t w = v ↔ xch t Z (i + 1) = v) := fun v v1 v0 => by rw [here_e R30 v1 v0, x30, a30]
  have e33 := hsg 33 (by decide) (by decide)
  have e42 := hsg 42 (by decide) (by decide)
  have e62 := hsg 62 (by decide) (by decide)
  have s8 : ∀ v : Int32, (sI w 8 0 (r_here t w)).1 8 0 = v ↔ r_here t w = v := fun v => by rw [sI_at, if_pos rfl]
  unfold x_isItem_m30
  simp only [s8, e33, e42, e62]
  have key : ix (w.1 42 0) < ix (w.1 40 t) → RD t (sI (sI w 8 0 (r_here t w)) 42 0 (w.1 42 0 + 1)) ∧ ix ((sI (sI w 8 0 (r_here t w)) 42 0 (w.1 42 0 + 1)).1 42 0) = i + 2 ∧ (sI (sI w 8 0 (r_here t w)) 42 0 (w.1 42 0 + 1)).1 7 0 = xch t Z i - 97 ∧ (sI (sI w 8 0 (r_here t w)) 42 0 (w.1 42 0 + 1)).1 8 0 = r_here t w ∧ xch t (sI (sI w 8 0 (r_here t w)) 42 0 (w.1 42 0 + 1)) = xch t Z := fun l1 =>
    ⟨RD_up R30 l1 rfl rfl, by show ix (w.1 42 0 + 1) = _; rw [rd_ix R30 l1, a30], b30, rfl, (xch_congr rfl rfl).trans x30⟩
  by_cases c33 : xch t Z (i + 1) = 33
  · rw [if_pos c33, if_pos c33]
    have hv := e33.mpr c33
    obtain ⟨R77, a77, b77, s77, x77⟩ := key (rd_lt R30 (by rw [hv]; decide))
    unfold x_isItem_k67
    generalize sI (sI w 8 0 (r_here t w)) 42 0 (w.1 42 0 + 1) = u at R77 a77 b77 s77 x77
    unfold x_isItem_m77
    rw [s77, hv, if_neg (show ¬ (33 : Int32) = 62 by decide), if_pos (rfl : (33 : Int32) = 33)]
    unfold x_isItem_c98
    obtain ⟨r1, r2, r3⟩ := reads_spec (n := 1) (m := 3) R77 a77 (by decide)
    have fr := (reads_facts (n := 1) (m := 3) R77).2.1
    rw [x77] at r1 r2 r3
    generalize r_reads t 1 3 u = o at r1 r2 r3 fr ⊢
    by_cases hd : m_in (xch t Z (i + 2)) 48 57 = 0
    · have hk : pdg (xch t Z) (i + 2) 1 = 0 := by simp only [pdg]; rw [if_pos hd]
      have h51 : m_in (xch t Z (i + 2)) 48 51 = 0 := by
        apply Classical.byContradiction
        intro q
        have hb := m_in_bd q
        unfold m_in at hd
        have h48 : (48 : Int32).toInt = 48 := rfl
        have h51 : (51 : Int32).toInt = 51 := rfl
        have h57 : (57 : Int32).toInt = 57 := rfl
        rw [if_neg (by rw [Int32.lt_iff_toInt_lt]; omega), if_neg (by rw [Int32.lt_iff_toInt_lt]; omega)] at hd
        exact absurd hd (by decide)
      rw [if_pos h51]
      exact r1 hk
    · have hk : pdg (xch t Z) (i + 2) 1 = 1 := by simp only [pdg]; rw [if_neg hd]
      rw [hk] at r2 r3
      have hpv : pvl (xch t Z) (i + 2) 1 0 = 10 * 0 + xch t Z (i + 2) - 48 := rfl
      rw [hpv] at r2 r3
      by_cases h51 : m_in (xch t Z (i + 2)) 48 51 = 0
      · rw [if_pos h51]
        exact r2 (by decide) ((in_51 hd).mp h51)
      · rw [if_neg h51]
        have hle : (10 * 0 + xch t Z (i + 2) - 48 : Int32) ≤ 3 := Classical.byContradiction fun q => h51 ((in_51 hd).mpr q)
        obtain ⟨q1, q2, q3⟩ := r3 (by decide) hle
        refine ⟨q1, ?_, ?_, Or.inl rfl, ?_, q2⟩
        · rw [fr 8 (by decide) (by decide), s77, hv]
        · rw [fr 7 (by decide) (by decide), b77]
        · rw [q3, Int32.mul_zero, Int32.zero_add]
  rw [if_neg c33, if_neg c33]
  by_cases c42 : xch t Z (i + 1) = 42
  · rw [if_pos c42, if_pos c42]
    have hv := e42.mpr c42
    obtain ⟨R77, a77, b77, s77, x77⟩ := key (rd_lt R30 (by rw [hv]; decide))
    unfold x_isItem_k67
    generalize sI (sI w 8 0 (r_here t w)) 42 0 (w.1 42 0 + 1) = u at R77 a77 b77 s77 x77
    unfold x_isItem_m77
    rw [s77, hv, if_neg (show ¬ (42 : Int32) = 62 by decide), if_neg (show ¬ (42 : Int32) = 33 by decide)]
    obtain ⟨r1, r2, r3⟩ := reads_spec (n := 6) (m := 100000) R77 a77 (by decide)
    have fr := (reads_facts (n := 6) (m := 100000) R77).2.1
    rw [x77] at r1 r2 r3
    generalize r_reads t 6 100000 u = o at r1 r2 r3 fr ⊢
    by_cases hk : pdg (xch t Z) (i + 2) 6 = 0
    · rw [if_pos hk]
      exact r1 hk
    · rw [if_neg hk]
      by_cases hle : pvl (xch t Z) (i + 2) (pdg (xch t Z) (i + 2) 6) 0 ≤ 100000
      · rw [if_pos hle]
        obtain ⟨q1, q2, q3⟩ := r3 hk hle
        refine ⟨q1, ?_, ?_, Or.inr (Or.inl rfl), q3, q2⟩
        · rw [fr 8 (by decide) (by decide), s77, hv]
        · rw [fr 7 (by decide) (by decide), b77]
      · rw [if_neg hle]
        exact r2 hk hle
  rw [if_neg c42, if_neg c42]
  by_cases c62 : xch t Z (i + 1) = 62
  · rw [if_pos c62, if_pos c62]
    have hv := e62.mpr c62
    obtain ⟨R77, a77, b77, s77, x77⟩ := key (rd_lt R30 (by rw [hv]; decide))
    unfold x_isItem_k67
    generalize sI (sI w 8 0 (r_here t w)) 42 0 (w.1 42 0 + 1) = u at R77 a77 b77 s77 x77
    unfold x_isItem_m77
    rw [s77, hv, if_pos (rfl : (62 : Int32) = 62)]
    have hb2 : r_isBeing t u = m_in (xch t Z (i + 2)) 97 104 := by rw [← x77, ← a77]; exact here_m R77 (by decide) (by decide)
    rw [hb2]
    by_cases cb : m_in (xch t Z (i + 2)) 97 104 = 0
    · rw [if_pos cb, if_pos cb]
      exact ⟨rfl, by show u.1 42 0 = _; rw [rd_nI R77, a77]⟩
    rw [if_neg cb, if_neg cb]
    have l2 := rd_b R77 (by rw [hb2]; exact cb)
    have hh2 : r_here t u = xch t Z (i + 2) := by rw [here_eq R77 l2, a77, x77]
    have R143 : RD t (sI (sI u 9 0 (r_here t u - 97)) 42 0 (u.1 42 0 + 1)) := RD_up R77 l2 rfl rfl
    have a143 : ix ((sI (sI u 9 0 (r_here t u - 97)) 42 0 (u.1 42 0 + 1)).1 42 0) = i + 3 := by show ix (u.1 42 0 + 1) = _; rw [rd_ix R77 l2, a77]
    have x143 : xch t (sI (sI u 9 0 (r_here t u - 97)) 42 0 (u.1 42 0 + 1)) = xch t Z := (xch_congr rfl rfl).trans x77
    have b143 : (sI (sI u 9 0 (r_here t u - 97)) 42 0 (u.1 42 0 + 1)).1 7 0 = xch t Z i - 97 := b77
    have s143 : (sI (sI u 9 0 (r_here t u - 97)) 42 0 (u.1 42 0 + 1)).1 8 0 = 62 := s77.trans hv
    have o143 : (sI (sI u 9 0 (r_here t u - 97)) 42 0 (u.1 42 0 + 1)).1 9 0 = xch t Z (i + 2) - 97 := by rw [← hh2]; rfl
    unfold x_isItem_m143
    generalize sI (sI u 9 0 (r_here t u - 97)) 42 0 (u.1 42 0 + 1) = y at R143 a143 x143 b143 s143 o143
    obtain ⟨r1, r2, r3⟩ := reads_spec (n := 2) (m := 99) R143 a143 (by decide)
    have fr := (reads_facts (n := 2) (m := 99) R143).2.1
    rw [x143] at r1 r2 r3
    generalize r_reads t 2 99 y = o at r1 r2 r3 fr ⊢
    by_cases hk : pdg (xch t Z) (i + 3) 2 = 0
    · rw [if_pos hk]
      exact r1 hk
    · rw [if_neg hk]
      have h99 := two_99 (c := xch t Z) (i := i + 3) hk
      rw [if_pos h99.2]
      obtain ⟨q1, q2, q3⟩ := r3 hk h99.1
      refine ⟨q1, ?_, ?_, Or.inr (Or.inr ?_), q3, q2⟩
      · rw [fr 8 (by decide) (by decide), s143]
      · rw [fr 7 (by decide) (by decide), b143]
      · rw [fr 9 (by decide) (by decide), o143]
  rw [if_neg c62, if_neg c62]
  exact ⟨rfl, by show w.1 42 0 = _; rw [rd_nI R30, a30]⟩
