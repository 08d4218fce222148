/-! faults of texts against the plain law -/
set_option maxRecDepth 100000
theorem rd_le {t : Nat} {Z : ZT} (h : RD t Z) : ix (Z.1 42 0) ≤ ix (Z.1 40 t) ∧ ix (Z.1 40 t) ≤ 60 := by
  have e3 : (ix (Z.1 42 0) : Int) = (Z.1 42 0).toInt := Int.toNat_of_nonneg h.2.2.2.2.1
  have e4 : (ix (Z.1 40 t) : Int) = (Z.1 40 t).toInt := Int.toNat_of_nonneg h.2.2.1
  have := h.2.2.2.2.2
  have := h.2.2.2.1
  omega
theorem skip_run {t : Nat} : ∀ (f : Nat) (s : ZT), RD t s → 60 - ix (s.1 42 0) < f → ∃ d : Nat, ix ((wlR (r_skip_b0 t) f s).1 42 0) = ix (s.1 42 0) + d ∧ (∀ e, e < d → xch t s (ix (s.1 42 0) + e) = 32 ∧ ix (s.1 42 0) + e < ix (s.1 40 t)) ∧ (ix (s.1 42 0) + d = ix (s.1 40 t) ∨ ¬ xch t s (ix (s.1 42 0) + d) = 32) := by
  intro f
  induction f with
  | zero => intro s _ h; exact absurd h (Nat.not_lt_zero _)
  | succ f ih =>
    intro s hs hf
    by_cases c : r_here t s = 32
    · have hb : r_skip_b0 t s = (true, sI s 42 0 (s.1 42 0 + 1)) := by
        unfold r_skip_b0
        rw [if_pos c]
      have hl := rd_lt hs (by rw [c]; decide)
      have hx := rd_ix hs hl
      have hc : xch t s (ix (s.1 42 0)) = 32 := by rw [← here_eq hs hl]; exact c
      have h60 := rd_le hs
      obtain ⟨d, h1, h2, h3⟩ := ih (sI s 42 0 (s.1 42 0 + 1)) (RD_up hs hl rfl rfl) (by show 60 - ix (s.1 42 0 + 1) < f; rw [hx]; omega)
      have hx2 : ix ((sI s 42 0 (s.1 42 0 + 1)).1 42 0) = ix (s.1 42 0) + 1 := hx
      rw [hx2] at h1 h2 h3
      rw [wl_t hb]
      refine ⟨d + 1, by rw [h1]; omega, fun e he => ?_, ?_⟩
      · by_cases e0 : e = 0
        · subst e0
          exact ⟨hc, hl⟩
        · have h4 := h2 (e - 1) (by omega)
          rw [show ix (s.1 42 0) + 1 + (e - 1) = ix (s.1 42 0) + e by omega] at h4
          exact h4
      · rw [show ix (s.1 42 0) + 1 + d = ix (s.1 42 0) + (d + 1) by omega] at h3
        exact h3
    · have hb : r_skip_b0 t s = (false, s) := by
        unfold r_skip_b0
        rw [if_neg c]
      rw [wl_f hb]
      refine ⟨0, rfl, fun e he => absurd he (Nat.not_lt_zero _), ?_⟩
      have h60 := rd_le hs
      rcases Nat.lt_or_ge (ix (s.1 42 0)) (ix (s.1 40 t)) with q | q
      · refine Or.inr (fun z => c ?_)
        rw [here_eq hs q]
        exact z
      · exact Or.inl (by omega)
theorem skip_spec {t : Nat} {Z : ZT} (h : RD t Z) : ∃ d : Nat, ix ((r_skip t Z).1 42 0) = ix (Z.1 42 0) + d ∧ (∀ e, e < d → xch t Z (ix (Z.1 42 0) + e) = 32 ∧ ix (Z.1 42 0) + e < ix (Z.1 40 t)) ∧ (ix (Z.1 42 0) + d = ix (Z.1 40 t) ∨ ¬ xch t Z (ix (Z.1 42 0) + d) = 32) := skip_run 62 Z h (by omega)
theorem sz_le {v : Int32} (h : 0 ≤ v.toInt ∧ v.toInt ≤ 60) {i : Nat} (hi : i ≤ 60) : v ≤ nI i ↔ ix v ≤ i := by
  have e : (ix v : Int) = v.toInt := Int.toNat_of_nonneg h.1
  rw [Int32.le_iff_toInt_le, nI_toInt (by omega)]
  omega
theorem pFt_end {c : Nat → Int32} {sz : Int32} {f i : Nat} (h : sz ≤ nI i) : pFt c sz (f + 1) i = none := if_pos h
theorem pFt_skip {c : Nat → Int32} {sz : Int32} (hz : 0 ≤ sz.toInt ∧ sz.toInt ≤ 60) : ∀ (d f i : Nat), (∀ e, e < d → c (i + e) = 32 ∧ i + e < ix sz) → pFt c sz (f + d) i = pFt c sz f (i + d) := by
  intro d
  induction d with
  | zero => intro f i _; rfl
  | succ d ih =>
    intro f i h
    have h0 := h 0 (by omega)
    rw [Nat.add_zero] at h0
    have e : (ix sz : Int) = sz.toInt := Int.toNat_of_nonneg hz.1
    show pFt c sz ((f + d) + 1) i = _
    simp only [pFt]
    rw [if_neg (by rw [sz_le hz (by omega)]; omega), if_pos h0.1, ih f (i + 1) (fun e he => by
      have h1 := h (e + 1) (by omega)
      rw [show i + 1 + e = i + (e + 1) by omega]
      exact h1)]
    rw [show i + 1 + d = i + (d + 1) by omega]
theorem xch_end {t : Nat} {Z : ZT} : ∀ j, ix (Z.1 40 t) ≤ j → xch t Z j = 0 := fun j hj => by
  unfold xch
  rw [if_neg (by omega)]
theorem pFt_fuel {c : Nat → Int32} {sz : Int32} (hz : 0 ≤ sz.toInt ∧ sz.toInt ≤ 60) (hc : ∀ j, ix sz ≤ j → c j = 0) : ∀ (f g i : Nat), 60 < f + i → 60 < g + i → i ≤ 60 → pFt c sz f i = pFt c sz g i := by
  have e0 : (ix sz : Int) = sz.toInt := Int.toNat_of_nonneg hz.1
  intro f
  induction f with
  | zero => intro g i h1 _ h3; omega
  | succ f ih =>
    intro g i h1 h2 h3
    obtain ⟨g, rfl⟩ : ∃ k, g = k + 1 := ⟨g - 1, by omega⟩
    simp only [pFt]
    by_cases ha : sz ≤ nI i
    · rw [if_pos ha, if_pos ha]
    rw [if_neg ha, if_neg ha]
    rw [sz_le hz h3] at ha
    by_cases h32 : c i = 32
    · rw [if_pos h32, if_pos h32]
      exact ih g (i + 1) (by omega) (by omega) (by omega)
    rw [if_neg h32, if_neg h32]
    cases hp : pItem c i with
    | inl p => rfl
    | inr q =>
      obtain ⟨w, b, x, v, e⟩ := q
      have hin := pItem_in (n := ix sz) (fun j hj _ => hc j hj) hp
      exact ih g e (by omega) (by omega) (by omega)
/-- what the loop of faultOf answers, from a place on -/
theorem xfault_run {t : Nat} {Z : ZT} (hT : t < 4 ∧ ¬ Z.1 40 t = -1 ∧ 0 ≤ (Z.1 40 t).toInt ∧ (Z.1 40 t).toInt ≤ 60) : ∀ (f : Nat) (s : ZT), RD t s → s.1 40 = Z.1 40 → s.1 41 = Z.1 41 → 60 - ix (s.1 42 0) < f → (ix (s.1 42 0) = ix (Z.1 40 t) ∨ ¬ xch t Z (ix (s.1 42 0)) = 32) →
    (wrR (x_faultOf_b13 t) x_faultOf_e13 f s).1 = (match pFt (xch t Z) (Z.1 40 t) 62 (ix (s.1 42 0)) with | none => (-9 : Int32) | some p => nI p) ∧ (∀ k, k ≠ 7 → k ≠ 8 → k ≠ 9 → k ≠ 42 → k ≠ 43 → (wrR (x_faultOf_b13 t) x_faultOf_e13 f s).2.1 k = s.1 k) ∧ (wrR (x_faultOf_b13 t) x_faultOf_e13 f s).2.2 = s.2 := by
  have hz := hT.2.2
  have e0 : (ix (Z.1 40 t) : Int) = (Z.1 40 t).toInt := Int.toNat_of_nonneg hz.1
  intro f
  induction f with
  | zero => intro s _ _ _ h; exact absurd h (Nat.not_lt_zero _)
  | succ f ih =>
    intro s hs h40 h41 hf hns
    have hle := rd_le hs
    rw [h40] at hle
    have hx : xch t s = xch t Z := xch_congr h40 h41
    by_cases he : s.1 42 0 = s.1 40 t
    · have hb : x_faultOf_b13 t s = .inr (false, s) := by
        unfold x_faultOf_b13 r_isEnd
        rw [if_pos he, if_neg (by decide)]
      rw [wr_f hb]
      refine ⟨?_, fun _ _ _ _ _ _ => rfl, rfl⟩
      have hi : ix (s.1 42 0) = ix (Z.1 40 t) := by rw [he, h40]
      rw [pFt_end (by rw [sz_le hz (by omega)]; omega)]
      rfl
    · have hlt : ix (s.1 42 0) < ix (Z.1 40 t) := by
        rcases Nat.lt_or_ge (ix (s.1 42 0)) (ix (Z.1 40 t)) with q | q
        · exact q
        · have e3 : (ix (s.1 42 0) : Int) = (s.1 42 0).toInt := Int.toNat_of_nonneg hs.2.2.2.2.1
          have e5 := hs.2.2.2.2.2
          rw [h40] at e5 he
          exact absurd (Int32.toInt_inj.mp (by omega)) he
      have h32 : ¬ xch t Z (ix (s.1 42 0)) = 32 := hns.resolve_left (by omega)
      have hb : x_faultOf_b13 t s = x_faultOf_c22 t (x_isItem t s) := by
        unfold x_faultOf_b13 r_isEnd
        rw [if_neg he, if_pos rfl]
      have ho := xitem_spec hs rfl
      have hfc := isItem_facts hs
      rw [hx] at ho
      have hpf : pFt (xch t Z) (Z.1 40 t) 62 (ix (s.1 42 0)) = (match pItem (xch t Z) (ix (s.1 42 0)) with | .inl p => some p | .inr q => pFt (xch t Z) (Z.1 40 t) 61 q.2.2.2.2) := by
        have e9 : ∀ f9 i9, ¬ Z.1 40 t ≤ nI i9 → ¬ xch t Z i9 = 32 → pFt (xch t Z) (Z.1 40 t) (f9 + 1) i9 = (match pItem (xch t Z) i9 with | .inl p => some p | .inr q => pFt (xch t Z) (Z.1 40 t) f9 q.2.2.2.2) := fun f9 i9 a9 b9 => by
          rw [pFt, if_neg a9, if_neg b9]
          cases pItem (xch t Z) i9 <;> rfl
        exact e9 61 _ (by rw [sz_le hz (by omega)]; omega) h32
      rw [hpf]
      generalize x_isItem t s = o at hb ho hfc
      cases hp : pItem (xch t Z) (ix (s.1 42 0)) with
      | inl p =>
        rw [hp] at ho
        obtain ⟨o1, o2⟩ := ho
        have hb2 : x_faultOf_b13 t s = .inl (o.2.1 42 0, o.2) := by
          rw [hb]
          unfold x_faultOf_c22
          rw [if_pos o1]
        rw [wr_r hb2]
        exact ⟨o2, hfc.2.1, hfc.2.2.1⟩
      | inr q =>
        obtain ⟨w, b, x, v, e⟩ := q
        rw [hp] at ho
        obtain ⟨o1, -, -, -, -, o6⟩ := ho
        have hin := pItem_in (n := ix (Z.1 40 t)) (fun j hj _ => xch_end j hj) hp
        have hb2 : x_faultOf_b13 t s = .inr (true, r_skip t o.2) := by
          rw [hb]
          unfold x_faultOf_c22 x_faultOf_c34
          rw [if_neg (by rw [o1]; decide)]
        have hae : ix (o.2.1 42 0) = e := by rw [o6]; exact ix_nI (by omega)
        have k40 : o.2.1 40 = Z.1 40 := (hfc.2.1 40 (by decide) (by decide) (by decide) (by decide) (by decide)).trans h40
        have k41 : o.2.1 41 = Z.1 41 := (hfc.2.1 41 (by decide) (by decide) (by decide) (by decide) (by decide)).trans h41
        obtain ⟨d, d1, d2, d3⟩ := skip_spec hfc.1
        have hsf := skip_facts hfc.1
        have hxo : xch t o.2 = xch t Z := xch_congr k40 k41
        rw [hae, hxo, k40] at d2 d3
        rw [hae] at d1
        have hle2 := rd_le hsf.1
        rw [hsf.2.2.1 40 (by decide), k40, d1] at hle2
        have h3 := ih (r_skip t o.2) hsf.1 ((hsf.2.2.1 40 (by decide)).trans k40) ((hsf.2.2.1 41 (by decide)).trans k41) (by rw [d1]; omega) (by rw [d1]; exact d3)
        rw [wr_t hb2]
        refine ⟨?_, fun k k7 k8 k9 k42 k43 => by rw [h3.2.1 k k7 k8 k9 k42 k43, hsf.2.2.1 k k42]; exact hfc.2.1 k k7 k8 k9 k42 k43, (h3.2.2.trans hsf.2.2.2).trans hfc.2.2.1⟩
        rw [h3.1, d1]
        have e1 := pFt_skip hz d 62 e d2
        have e2 := pFt_fuel hz (fun j hj => xch_end j hj) (62 + d) 61 e (by omega) (by omega) (by omega)
        rw [← e1, e2]
theorem xfault_spec {t : Nat} {Z : ZT} (hT : t < 4 ∧ ¬ Z.1 40 t = -1 ∧ 0 ≤ (Z.1 40 t).toInt ∧ (Z.1 40 t).toInt ≤ 60) : (x_faultOf t Z).1 = (match pFt (xch t Z) (Z.1 40 t) 62 0 with | none => (-9 : Int32) | some p => nI p) ∧ (∀ k, k ≠ 7 → k ≠ 8 → k ≠ 9 → k ≠ 42 → k ≠ 43 → (x_faultOf t Z).2.1 k = Z.1 k) ∧ (x_faultOf t Z).2.2 = Z.2 := by
  have h0 := RD_0 hT
  have hz := hT.2.2
  obtain ⟨d, d1, d2, d3⟩ := skip_spec h0
  have hsf := skip_facts h0
  have i0 : ix ((sI (sI Z 42 0 0) 43 0 0).1 42 0) = 0 := rfl
  have x0 : xch t (sI (sI Z 42 0 0) 43 0 0) = xch t Z := xch_congr rfl rfl
  have k40 : (sI (sI Z 42 0 0) 43 0 0).1 40 = Z.1 40 := rfl
  have k41 : (sI (sI Z 42 0 0) 43 0 0).1 41 = Z.1 41 := rfl
  have k2 : (sI (sI Z 42 0 0) 43 0 0).2 = Z.2 := rfl
  have kr : ∀ k, k ≠ 42 → k ≠ 43 → (sI (sI Z 42 0 0) 43 0 0).1 k = Z.1 k := fun k a b => by rw [sI_ne b, sI_ne a]
  unfold x_faultOf
  generalize sI (sI Z 42 0 0) 43 0 0 = y at h0 d1 d2 d3 hsf i0 x0 k40 k41 k2 kr
  rw [i0, x0, k40] at d2 d3
  rw [i0] at d1
  have hle2 := rd_le hsf.1
  rw [d1] at hle2
  have h3 := xfault_run hT 62 (r_skip t y) hsf.1 ((hsf.2.2.1 40 (by decide)).trans k40) ((hsf.2.2.1 41 (by decide)).trans k41) (by omega) (by rw [d1]; exact d3)
  refine ⟨?_, fun k k7 k8 k9 k42 k43 => by rw [h3.2.1 k k7 k8 k9 k42 k43, hsf.2.2.1 k k42]; exact kr k k42 k43, (h3.2.2.trans hsf.2.2.2).trans k2⟩
  rw [h3.1, d1]
  have e1 := pFt_skip hz d 62 0 d2
  have e2 := pFt_fuel hz (fun j hj => xch_end j hj) (62 + d) 62 0 (by omega) (by omega) (by omega)
  rw [← e1, e2]
