/-! texts as pure rows of characters: digits, items; what the twin's digits and item compute -/
set_option maxRecDepth 100000
def pdg (c : Nat → Int32) : Nat → Nat → Nat
  | _, 0 => 0
  | i, m + 1 => if m_in (c i) 48 57 = 0 then 0 else pdg c (i + 1) m + 1
def pvl (c : Nat → Int32) : Nat → Nat → Int32 → Int32
  | _, 0, v => v
  | i, m + 1, v => pvl c (i + 1) m (10 * v + c i - 48)
theorem pdg_le (c : Nat → Int32) : ∀ (m i : Nat), pdg c i m ≤ m := by
  intro m
  induction m with
  | zero => intro i; exact Nat.le_refl 0
  | succ m ih =>
    intro i
    simp only [pdg]
    have := ih (i + 1)
    split <;> omega
/-- one item at i: where it fails, or what it tells (sign, being, other being, number) and where it ends -/
def pItem (c : Nat → Int32) (i : Nat) : Nat ⊕ (Int32 × Int32 × Int32 × Int32 × Nat) :=
  if m_in (c i) 97 104 = 0 then .inl i
  else if c (i + 1) = 33 then
    if m_in (c (i + 2)) 48 51 = 0 then .inl (i + 2) else .inr (33, c i - 97, 0, c (i + 2) - 48, i + 3)
  else if c (i + 1) = 42 then
    if pdg c (i + 2) 6 = 0 then .inl (i + 2)
    else if pvl c (i + 2) (pdg c (i + 2) 6) 0 ≤ 100000 then .inr (42, c i - 97, 0, pvl c (i + 2) (pdg c (i + 2) 6) 0, i + 2 + pdg c (i + 2) 6) else .inl (i + 2)
  else if c (i + 1) = 62 then
    if m_in (c (i + 2)) 97 104 = 0 then .inl (i + 2)
    else if pdg c (i + 3) 2 = 0 then .inl (i + 3)
    else if pvl c (i + 3) (pdg c (i + 3) 2) 0 ≤ 100000 then .inr (62, c i - 97, c (i + 2) - 97, pvl c (i + 3) (pdg c (i + 3) 2) 0, i + 3 + pdg c (i + 3) 2) else .inl (i + 3)
  else .inl (i + 1)
/-- the twin's characters of a text -/
def mch (t : Nat) (Z : ZT) (i : Nat) : Int32 := m_at t i Z
theorem mch_congr {t : Nat} {Z Z' : ZT} (h5 : Z'.1 5 = Z.1 5) (h6 : Z'.1 6 = Z.1 6) : mch t Z' = mch t Z := by
  funext i
  simp only [mch, m_at, h5, h6]
theorem isLetter_ch (t i : Nat) (Z : ZT) : m_isLetter t i Z = m_in (mch t Z i) 97 104 := rfl
theorem isDigit_ch (t i : Nat) (Z : ZT) : m_isDigit t i Z = m_in (mch t Z i) 48 57 := rfl
theorem digits_run (t q m : Nat) (hq : q + m < 2 ^ 31) (Z : ZT) : ∀ (k j : Nat) (v : Int32) (Y : ZT), j + k = q + m → Y.1 12 0 = nI j → (∀ r, r ≠ 12 → Y.1 r = Z.1 r) → Y.2 = Z.2 → ∀ f, k < f →
    (wlR (m_digits_b8 t q m) f (v, Y)).1 = pvl (mch t Z) j (pdg (mch t Z) j k) v ∧ (wlR (m_digits_b8 t q m) f (v, Y)).2.1 12 0 = nI (j + pdg (mch t Z) j k) ∧ (∀ r, r ≠ 12 → (wlR (m_digits_b8 t q m) f (v, Y)).2.1 r = Z.1 r) ∧ (wlR (m_digits_b8 t q m) f (v, Y)).2.2 = Z.2 := by
  intro k
  induction k with
  | zero =>
    intro j v Y hj h12 hr h2 f hf
    obtain ⟨f, rfl⟩ : ∃ g, f = g + 1 := ⟨f - 1, by omega⟩
    have hb : m_digits_b8 t q m (v, Y) = (false, (v, Y)) := by
      unfold m_digits_b8
      rw [if_pos (by show q + m ≤ ix (Y.1 12 0); rw [h12, ix_nI (by omega)]; omega)]
    rw [wl_f hb]
    exact ⟨rfl, h12, hr, h2⟩
  | succ k ih =>
    intro j v Y hj h12 hr h2 f hf
    obtain ⟨f, rfl⟩ : ∃ g, f = g + 1 := ⟨f - 1, by omega⟩
    have hx : ix (Y.1 12 0) = j := by rw [h12, ix_nI (by omega)]
    have hc : mch t Y = mch t Z := mch_congr (hr 5 (by decide)) (hr 6 (by decide))
    by_cases hd : m_in (mch t Z j) 48 57 = 0
    · have hb : m_digits_b8 t q m (v, Y) = (false, (v, Y)) := by
        unfold m_digits_b8
        rw [if_neg (by show ¬ q + m ≤ ix (Y.1 12 0); rw [hx]; omega), if_pos (by show m_isDigit t (ix (Y.1 12 0)) Y = 0; rw [isDigit_ch, hx, hc]; exact hd)]
      rw [wl_f hb]
      simp only [pdg, hd, if_true]
      exact ⟨rfl, h12, hr, h2⟩
    · have hb : m_digits_b8 t q m (v, Y) = (true, (10 * v + mch t Z j - 48, sI Y 12 0 (nI (j + 1)))) := by
        unfold m_digits_b8
        rw [if_neg (by show ¬ q + m ≤ ix (Y.1 12 0); rw [hx]; omega), if_neg (by show ¬ m_isDigit t (ix (Y.1 12 0)) Y = 0; rw [isDigit_ch, hx, hc]; exact hd)]
        show (true, (10 * v + mch t Y (ix (Y.1 12 0)) - 48, sI Y 12 0 (nI (ix (Y.1 12 0) + 1)))) = _
        rw [hx, hc]
      rw [wl_t hb]
      have h := ih (j + 1) (10 * v + mch t Z j - 48) (sI Y 12 0 (nI (j + 1))) (by omega) rfl (fun r hr' => by
        show va_up Y.1 12 _ r = Z.1 r
        rw [va_up_ne _ _ hr', hr r hr']) h2 f (by omega)
      simp only [pdg, hd, if_false, pvl]
      rw [show j + (pdg (mch t Z) (j + 1) k + 1) = j + 1 + pdg (mch t Z) (j + 1) k by omega]
      exact h
theorem digits_spec (t q m : Nat) (hq : q + m < 2 ^ 31) (Z : ZT) : (m_digits t q m Z).1 = pvl (mch t Z) q (pdg (mch t Z) q m) 0 ∧ (m_digits t q m Z).2.1 12 0 = nI (q + pdg (mch t Z) q m) ∧ (∀ r, r ≠ 12 → (m_digits t q m Z).2.1 r = Z.1 r) ∧ (m_digits t q m Z).2.2 = Z.2 :=
  digits_run t q m hq Z m q 0 (sI Z 12 0 (nI q)) rfl rfl (fun r hr => by
    show va_up Z.1 12 _ r = Z.1 r
    rw [va_up_ne _ _ hr]) rfl (m + 1) (Nat.lt_succ_self m)
/-- what an item leaves: its answer and registers -/
def itemOut (r : Nat ⊕ (Int32 × Int32 × Int32 × Int32 × Nat)) (o : Int32 × ZT) : Prop := match r with
  | .inl p => o.1 = nI p
  | .inr (w, b, x, v, e) => o.1 = -9 ∧ o.2.1 8 0 = w ∧ o.2.1 9 0 = b ∧ (w = 33 ∨ o.2.1 10 0 = x) ∧ o.2.1 11 0 = v ∧ o.2.1 12 0 = nI e
theorem c201_spec {t q m : Nat} (hq : q + m < 2 ^ 31) {Z : ZT} {w b x : Int32} (h8 : Z.1 8 0 = w) (h9 : Z.1 9 0 = b) (h10 : Z.1 10 0 = x) :
    itemOut (if pdg (mch t Z) q m = 0 then .inl q else if pvl (mch t Z) q (pdg (mch t Z) q m) 0 ≤ 100000 then .inr (w, b, x, pvl (mch t Z) q (pdg (mch t Z) q m) 0, q + pdg (mch t Z) q m) else .inl q) (m_item_c201 q (m_digits t q m Z)) ∧
    (∀ r, r < 8 ∨ 12 < r → (m_item_c201 q (m_digits t q m Z)).2.1 r = Z.1 r) ∧ (m_item_c201 q (m_digits t q m Z)).2.2 = Z.2 := by
  obtain ⟨e1, e2, e3, e4⟩ := digits_spec t q m hq Z
  have hle := pdg_le (mch t Z) m q
  generalize m_digits t q m Z = o at e1 e2 e3 e4
  have fr : ∀ r, r < 8 ∨ 12 < r → (sI o.2 11 0 o.1).1 r = Z.1 r := by
    intro r hr
    show va_up o.2.1 11 _ r = Z.1 r
    rw [va_up_ne _ _ (by omega), e3 r (by omega)]
  unfold m_item_c201 m_item_k225
  rw [e2]
  by_cases h0 : pdg (mch t Z) q m = 0
  · rw [if_pos h0, if_pos (by rw [h0, Nat.add_zero])]
    exact ⟨rfl, fr, e4⟩
  · have hne : ¬ nI (q + pdg (mch t Z) q m) = nI q := fun h => h0 (by
      have := (nI_eq (a := q + pdg (mch t Z) q m) (b := q) (by omega) (by omega)).mp h
      omega)
    rw [if_neg h0, if_neg hne]
    rw [show (sI o.2 11 0 o.1).1 11 0 = o.1 from rfl]
    have fr2 := fr
    rw [← e1]
    by_cases hv : o.1 ≤ 100000
    · rw [if_pos hv, if_pos hv]
      refine ⟨⟨rfl, ?_, ?_, Or.inr ?_, rfl, ?_⟩, fr, e4⟩
      · show o.2.1 8 0 = w
        rw [e3 8 (by decide)]; exact h8
      · show o.2.1 9 0 = b
        rw [e3 9 (by decide)]; exact h9
      · show o.2.1 10 0 = x
        rw [e3 10 (by decide)]; exact h10
      · show o.2.1 12 0 = _
        exact e2
    · rw [if_neg hv, if_neg hv]
      exact ⟨rfl, fr, e4⟩
theorem item_spec (t i : Nat) (hi : i + 20 < 2 ^ 31) (Z : ZT) : itemOut (pItem (mch t Z) i) (m_item t i Z) ∧ (∀ r, r < 8 ∨ 12 < r → (m_item t i Z).2.1 r = Z.1 r) ∧ (m_item t i Z).2.2 = Z.2 := by
  have frY : ∀ (a b : Int32) r, r < 8 ∨ 12 < r → (sI (sI Z 9 0 a) 8 0 b).1 r = Z.1 r := by
    intro a b r hr
    show va_up (va_up Z.1 9 _) 8 _ r = Z.1 r
    rw [va_up_ne _ _ (by omega), va_up_ne _ _ (by omega)]
  have key : m_item t i Z = (if m_in (mch t Z i) 97 104 = 0 then (nI i, Z) else if mch t Z (i + 1) = 33 then (if m_in (mch t Z (i + 2)) 48 51 = 0 then (nI (i + 2), sI (sI Z 9 0 (mch t Z i - 97)) 8 0 (mch t Z (i + 1))) else (-9, sI (sI (sI (sI Z 9 0 (mch t Z i - 97)) 8 0 (mch t Z (i + 1))) 11 0 (mch t Z (i + 2) - 48)) 12 0 (nI (i + 3)))) else if mch t Z (i + 1) = 42 then m_item_k114 t i Z else if mch t Z (i + 1) = 62 then m_item_k114 t i Z else (nI (i + 1), sI (sI Z 9 0 (mch t Z i - 97)) 8 0 (mch t Z (i + 1)))) := rfl
  rw [key]
  unfold pItem
  by_cases h0 : m_in (mch t Z i) 97 104 = 0
  · rw [if_pos h0, if_pos h0]
    exact ⟨rfl, fun r hr => rfl, rfl⟩
  rw [if_neg h0, if_neg h0]
  by_cases h1 : mch t Z (i + 1) = 33
  · rw [if_pos h1, if_pos h1]
    by_cases h2 : m_in (mch t Z (i + 2)) 48 51 = 0
    · rw [if_pos h2, if_pos h2]
      exact ⟨rfl, frY _ _, rfl⟩
    · rw [if_neg h2, if_neg h2]
      refine ⟨⟨rfl, h1, rfl, Or.inl rfl, rfl, rfl⟩, fun r hr => ?_, rfl⟩
      show va_up (va_up _ 11 _) 12 _ r = Z.1 r
      rw [va_up_ne _ _ (by omega), va_up_ne _ _ (by omega)]
      exact frY _ _ r hr
  rw [if_neg h1, if_neg h1]
  have hk148 : ∀ (w : Int32), m_item_k148 t i Z w = m_item_c201 (if w = 0 then i + 2 else i + 3) (m_digits t (if w = 0 then i + 2 else i + 3) (if w = 0 then 6 else 2) (sI (sI (sI Z 9 0 (mch t Z i - 97)) 8 0 (mch t Z (i + 1))) 10 0 (if w = 0 then 0 else mch t Z (i + 2) - 97))) := fun w => rfl
  by_cases h2 : mch t Z (i + 1) = 42
  · rw [if_pos h2, if_pos h2]
    have e : m_item_k114 t i Z = m_item_k148 t i Z 0 := by
      show m_item_j128 t i Z (if mch t Z (i + 1) = 62 then 1 else 0) = _
      rw [if_neg (by rw [h2]; decide)]
      rfl
    rw [e, hk148]
    simp only [if_true]
    have hs := c201_spec (t := t) (q := i + 2) (m := 6) (by omega) (Z := sI (sI (sI Z 9 0 (mch t Z i - 97)) 8 0 (mch t Z (i + 1))) 10 0 0) (w := 42) (b := mch t Z i - 97) (x := 0) h2 rfl rfl
    refine ⟨hs.1, fun r hr => ?_, hs.2.2⟩
    rw [hs.2.1 r hr]
    show va_up _ 10 _ r = Z.1 r
    rw [va_up_ne _ _ (by omega)]
    exact frY _ _ r hr
  rw [if_neg h2, if_neg h2]
  by_cases h3 : mch t Z (i + 1) = 62
  · rw [if_pos h3, if_pos h3]
    have e : m_item_k114 t i Z = (if m_in (mch t Z (i + 2)) 97 104 = 0 then (nI (i + 2), sI (sI Z 9 0 (mch t Z i - 97)) 8 0 (mch t Z (i + 1))) else m_item_k148 t i Z 1) := by
      show m_item_j128 t i Z (if mch t Z (i + 1) = 62 then 1 else 0) = _
      rw [if_pos h3]
      rfl
    rw [e]
    by_cases h4 : m_in (mch t Z (i + 2)) 97 104 = 0
    · rw [if_pos h4, if_pos h4]
      exact ⟨rfl, frY _ _, rfl⟩
    · rw [if_neg h4, if_neg h4, hk148]
      simp only [show ¬ (1 : Int32) = 0 from by decide, if_false]
      have hs := c201_spec (t := t) (q := i + 3) (m := 2) (by omega) (Z := sI (sI (sI Z 9 0 (mch t Z i - 97)) 8 0 (mch t Z (i + 1))) 10 0 (mch t Z (i + 2) - 97)) (w := 62) (b := mch t Z i - 97) (x := mch t Z (i + 2) - 97) h3 rfl rfl
      refine ⟨hs.1, fun r hr => ?_, hs.2.2⟩
      rw [hs.2.1 r hr]
      show va_up _ 10 _ r = Z.1 r
      rw [va_up_ne _ _ (by omega)]
      exact frY _ _ r hr
  · rw [if_neg h3, if_neg h3]
    exact ⟨rfl, frY _ _, rfl⟩
/-- an item that is read lies ahead: it ends behind its place, and inside the text -/
theorem pdg_in {c : Nat → Int32} {n B : Nat} (hc : ∀ i, n ≤ i → i < B → m_in (c i) 48 57 = 0) : ∀ (m i : Nat), i + m ≤ B → 0 < pdg c i m → i + pdg c i m ≤ n := by
  intro m
  induction m with
  | zero => intro i _ h; exact absurd h (Nat.lt_irrefl 0)
  | succ m ih =>
    intro i hB h
    simp only [pdg] at h ⊢
    by_cases h0 : m_in (c i) 48 57 = 0
    · rw [if_pos h0] at h
      exact absurd h (Nat.lt_irrefl 0)
    · rw [if_neg h0]
      have hi : i < n := by
        rcases Nat.lt_or_ge i n with q | q
        · exact q
        · exact absurd (hc i q (by omega)) h0
      by_cases h1 : 0 < pdg c (i + 1) m
      · have := ih (i + 1) (by omega) h1
        omega
      · omega
theorem m_in_byte {x lo hi : Int32} (h : ¬ m_in x lo hi = 0) (h2 : hi.toInt < lo.toInt + 10) (h3 : 0 ≤ lo.toInt) {N : Nat} (hN : hi.toInt - lo.toInt < N) (hh : hi.toInt < 200) : vp_in (x - lo) N := by
  have hb := m_in_bd h
  refine vp_in_iff.mpr ?_
  rw [Int32.toInt_sub, Int.bmod_eq_of_le (by omega) (by omega)]
  omega
theorem pItem_in {c : Nat → Int32} {n i : Nat} (hc : ∀ j, n ≤ j → j < i + 20 → c j = 0) {w b x v : Int32} {e : Nat} (h : pItem c i = .inr (w, b, x, v, e)) : i < n ∧ i < e ∧ e ≤ n ∧ vp_in b 8 ∧ vp_in x 8 ∧ (w = 33 ∨ w = 42 ∨ w = 62) ∧ (w = 33 → vp_in v 4) := by
  have hc48 : ∀ j, n ≤ j → j < i + 20 → m_in (c j) 48 57 = 0 := fun j hj hk => by rw [hc j hj hk]; rfl
  have hc97 : ∀ j, n ≤ j → j < i + 20 → m_in (c j) 97 104 = 0 := fun j hj hk => by rw [hc j hj hk]; rfl
  have lt97 : ∀ j, j < i + 20 → ¬ m_in (c j) 97 104 = 0 → j < n := fun j hk hj => by
    rcases Nat.lt_or_ge j n with q | q
    · exact q
    · exact absurd (hc97 j q hk) hj
  unfold pItem at h
  by_cases h0 : m_in (c i) 97 104 = 0
  · rw [if_pos h0] at h; cases h
  rw [if_neg h0] at h
  have hi := lt97 i (by omega) h0
  have hb : vp_in (c i - 97) 8 := m_in_byte h0 (by decide) (by decide) (by decide) (by decide)
  by_cases h1 : c (i + 1) = 33
  · rw [if_pos h1] at h
    by_cases h2 : m_in (c (i + 2)) 48 51 = 0
    · rw [if_pos h2] at h; cases h
    · rw [if_neg h2] at h
      cases h
      have : i + 2 < n := by
        rcases Nat.lt_or_ge (i + 2) n with q | q
        · exact q
        · exact absurd (by rw [hc _ q (by omega)]; rfl) h2
      exact ⟨hi, by omega, by omega, hb, by exact vp_in_nI (n := 0) (by decide) (by decide), Or.inl rfl, fun _ => m_in_byte h2 (by decide) (by decide) (by decide) (by decide)⟩
  rw [if_neg h1] at h
  by_cases h2 : c (i + 1) = 42
  · rw [if_pos h2] at h
    by_cases h3 : pdg c (i + 2) 6 = 0
    · rw [if_pos h3] at h; cases h
    · rw [if_neg h3] at h
      have := pdg_in hc48 6 (i + 2) (by omega) (by omega)
      split at h
      · cases h
        exact ⟨hi, by omega, this, hb, by exact vp_in_nI (n := 0) (by decide) (by decide), Or.inr (Or.inl rfl), fun q => absurd q (by decide)⟩
      · cases h
  rw [if_neg h2] at h
  by_cases h3 : c (i + 1) = 62
  · rw [if_pos h3] at h
    by_cases h4 : m_in (c (i + 2)) 97 104 = 0
    · rw [if_pos h4] at h; cases h
    · rw [if_neg h4] at h
      by_cases h5 : pdg c (i + 3) 2 = 0
      · rw [if_pos h5] at h; cases h
      · rw [if_neg h5] at h
        have := pdg_in hc48 2 (i + 3) (by omega) (by omega)
        split at h
        · cases h
          exact ⟨hi, by omega, this, hb, m_in_byte h4 (by decide) (by decide) (by decide) (by decide), Or.inr (Or.inr rfl), fun q => absurd q (by decide)⟩
        · cases h
  · rw [if_neg h3] at h; cases h
