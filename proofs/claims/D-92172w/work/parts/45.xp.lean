/-! the component's reader as pure rows of characters: what isItem computes -/
set_option maxRecDepth 100000
def xch (t : Nat) (Z : ZT) (i : Nat) : Int32 := if i < ix (Z.1 40 t) then Z.1 41 (60 * t + i) else 0
theorem xch_congr {t : Nat} {Z Z' : ZT} (h40 : Z'.1 40 = Z.1 40) (h41 : Z'.1 41 = Z.1 41) : xch t Z' = xch t Z := by
  funext i
  unfold xch
  rw [h40, h41]
theorem rd_nI {t : Nat} {Z : ZT} (h : RD t Z) : Z.1 42 0 = nI (ix (Z.1 42 0)) := by
  have h6 := rd_60 h
  exact (vp_ix (N := 61) (vp_in_iff.mpr ⟨h.2.2.2.2.1, by have := h.2.2.2.2.2; have := h.2.2.2.1; omega⟩) (by decide)).1
theorem here_ch {t : Nat} {Z : ZT} (h : RD t Z) : r_here t Z = if ix (Z.1 42 0) < ix (Z.1 40 t) then xch t Z (ix (Z.1 42 0)) else -1 := by
  have e3 : (ix (Z.1 42 0) : Int) = (Z.1 42 0).toInt := Int.toNat_of_nonneg h.2.2.2.2.1
  have e4 : (ix (Z.1 40 t) : Int) = (Z.1 40 t).toInt := Int.toNat_of_nonneg h.2.2.1
  unfold r_here r_isEnd
  by_cases he : Z.1 42 0 = Z.1 40 t
  · rw [if_pos he, if_neg (by decide), if_neg (by rw [he]; exact Nat.lt_irrefl _)]
  · rw [if_neg he, if_pos rfl]
    have hl : ix (Z.1 42 0) < ix (Z.1 40 t) := by
      rcases Nat.lt_or_ge (ix (Z.1 42 0)) (ix (Z.1 40 t)) with q | q
      · exact q
      · exact absurd (Int32.toInt_inj.mp (by have := h.2.2.2.2.2; omega)) he
    rw [if_pos hl]
    unfold xch
    rw [if_pos hl]
theorem here_m {t : Nat} {Z : ZT} (h : RD t Z) {lo hi : Int32} (h1 : m_in (-1) lo hi = 0) (h0 : m_in 0 lo hi = 0) : m_in (r_here t Z) lo hi = m_in (xch t Z (ix (Z.1 42 0))) lo hi := by
  rw [here_ch h]
  by_cases q : ix (Z.1 42 0) < ix (Z.1 40 t)
  · rw [if_pos q]
  · rw [if_neg q, h1]
    unfold xch
    rw [if_neg q, h0]
theorem here_e {t : Nat} {Z : ZT} (h : RD t Z) {v : Int32} (h1 : ¬ (-1 : Int32) = v) (h0 : ¬ (0 : Int32) = v) : r_here t Z = v ↔ xch t Z (ix (Z.1 42 0)) = v := by
  rw [here_ch h]
  by_cases q : ix (Z.1 42 0) < ix (Z.1 40 t)
  · rw [if_pos q]
  · rw [if_neg q]
    unfold xch
    rw [if_neg q]
    exact ⟨fun e => absurd e h1, fun e => absurd e h0⟩
theorem here_eq {t : Nat} {Z : ZT} (h : RD t Z) (hl : ix (Z.1 42 0) < ix (Z.1 40 t)) : r_here t Z = xch t Z (ix (Z.1 42 0)) := by
  rw [here_ch h, if_pos hl]
theorem rdx_run {t n i : Nat} {Z : ZT} (hZ : RD t Z) (hi : ix (Z.1 42 0) = i) (hn : n ≤ 9) : ∀ (q j : Nat) (s : ZT) (v : Int32) (f : Nat), RD t s → ix (s.1 42 0) = j → s.1 40 = Z.1 40 → s.1 41 = Z.1 41 → j + q = i + n → s.1 43 0 = v → q < f →
    (wlR (r_reads_b10 t n Z) f s).1 42 0 = nI (j + pdg (xch t Z) j q) ∧ (wlR (r_reads_b10 t n Z) f s).1 43 0 = pvl (xch t Z) j (pdg (xch t Z) j q) v := by
  have h60 := rd_60 hZ
  intro q
  induction q with
  | zero =>
    intro j s v f hs hj h40 h41 hq hv hf
    obtain ⟨f, rfl⟩ : ∃ g, f = g + 1 := ⟨f - 1, by omega⟩
    have hb : r_reads_b10 t n Z s = (false, s) := by
      unfold r_reads_b10
      split
      · rfl
      · rw [if_pos]
        rw [rd_nI hZ, rd_nI hs, hi, hj, nI_add, Int32.le_iff_toInt_le, nI_toInt (by omega), nI_toInt (by omega)]
        omega
    rw [wl_f hb]
    refine ⟨?_, hv⟩
    rw [rd_nI hs, hj]
    rfl
  | succ q ih =>
    intro j s v f hs hj h40 h41 hq hv hf
    obtain ⟨f, rfl⟩ : ∃ g, f = g + 1 := ⟨f - 1, by omega⟩
    have hd : r_isDigit t s = m_in (xch t Z j) 48 57 := by
      rw [← xch_congr (t := t) h40 h41, ← hj]
      exact here_m hs (by decide) (by decide)
    by_cases hd0 : m_in (xch t Z j) 48 57 = 0
    · have hb : r_reads_b10 t n Z s = (false, s) := by
        unfold r_reads_b10
        rw [hd, if_pos hd0]
      rw [wl_f hb]
      simp only [pdg]
      rw [if_pos hd0]
      refine ⟨?_, hv⟩
      rw [rd_nI hs, hj]
      rfl
    · have hl := rd_dg hs (by rw [hd]; exact hd0)
      have hh : r_here t s = xch t Z j := by rw [here_eq hs hl, xch_congr h40 h41, hj]
      have hb : r_reads_b10 t n Z s = (true, sI (sI s 43 0 (10 * v + xch t Z j - 48)) 42 0 (s.1 42 0 + 1)) := by
        unfold r_reads_b10
        rw [hd, if_neg hd0, if_neg, hh, hv]
        rw [rd_nI hZ, rd_nI hs, hi, hj, nI_add, Int32.le_iff_toInt_le, nI_toInt (by omega), nI_toInt (by have := rd_60 hs; omega)]
        omega
      rw [wl_t hb]
      simp only [pdg]
      rw [if_neg hd0]
      have h2 := ih (j + 1) (sI (sI s 43 0 (10 * v + xch t Z j - 48)) 42 0 (s.1 42 0 + 1)) (10 * v + xch t Z j - 48) f (RD_up hs hl rfl rfl) (by rw [← hj]; exact rd_ix hs hl) h40 h41 (by omega) rfl (by omega)
      rw [show j + (pdg (xch t Z) (j + 1) q + 1) = j + 1 + pdg (xch t Z) (j + 1) q by omega]
      exact h2
theorem reads_spec {t n i : Nat} {m : Int32} {Z : ZT} (h : RD t Z) (hi : ix (Z.1 42 0) = i) (hn : n ≤ 9) :
    (pdg (xch t Z) i n = 0 → (r_reads t n m Z).1 = 0 ∧ (r_reads t n m Z).2.1 42 0 = nI i) ∧
    (¬ pdg (xch t Z) i n = 0 → ¬ pvl (xch t Z) i (pdg (xch t Z) i n) 0 ≤ m → (r_reads t n m Z).1 = 0 ∧ (r_reads t n m Z).2.1 42 0 = nI i) ∧
    (¬ pdg (xch t Z) i n = 0 → pvl (xch t Z) i (pdg (xch t Z) i n) 0 ≤ m → (r_reads t n m Z).1 = 1 ∧ (r_reads t n m Z).2.1 42 0 = nI (i + pdg (xch t Z) i n) ∧ (r_reads t n m Z).2.1 43 0 = pvl (xch t Z) i (pdg (xch t Z) i n) 0) := by
  have h60 := rd_60 h
  have hp := pdg_le (xch t Z) n i
  have hr := rdx_run h hi hn n i (sI Z 43 0 0) 0 62 (RD_n h) hi rfl rfl rfl rfl (by omega)
  unfold r_reads
  generalize wlR (r_reads_b10 t n Z) 62 (sI Z 43 0 (0 : Int32)) = w at hr
  obtain ⟨h42, h43⟩ := hr
  generalize pdg (xch t Z) i n = k at *
  have e : w.1 42 0 = Z.1 42 0 ↔ k = 0 := by
    rw [h42, rd_nI h, hi]
    constructor
    · intro q
      have := (nI_eq (by omega) (by omega)).mp q
      omega
    · intro q
      rw [q]
      rfl
  unfold r_reads_e10
  refine ⟨fun hk => ?_, fun hk hv => ?_, fun hk hv => ?_⟩
  · rw [if_pos (e.mpr hk)]
    exact ⟨rfl, by show w.1 42 0 = _; rw [h42, hk]; rfl⟩
  · rw [if_neg (fun q => hk (e.mp q)), h43, if_neg hv]
    exact ⟨rfl, by rw [sI_at, if_pos rfl, rd_nI h, hi]⟩
  · rw [if_neg (fun q => hk (e.mp q)), h43, if_pos hv]
    exact ⟨rfl, h42, h43⟩
def xOut (r : Nat ⊕ (Int32 × Int32 × Int32 × Int32 × Nat)) (o : Int32 × ZT) : Prop := match r with
  | .inl p => o.1 = 0 ∧ o.2.1 42 0 = nI p
  | .inr (w, b, x, v, e) => o.1 = 1 ∧ o.2.1 8 0 = w ∧ o.2.1 7 0 = b ∧ (w = 33 ∨ w = 42 ∨ o.2.1 9 0 = x) ∧ o.2.1 43 0 = v ∧ o.2.1 42 0 = nI e
theorem in_51 {x : Int32} (h : ¬ m_in x 48 57 = 0) : m_in x 48 51 = 0 ↔ ¬ (10 * 0 + x - 48 : Int32) ≤ 3 := by
  have hb := m_in_bd h
  have h48 : (48 : Int32).toInt = 48 := rfl
  have h57 : (57 : Int32).toInt = 57 := rfl
  have e0 : (10 * 0 + x - 48 : Int32) = x - 48 := by rw [Int32.mul_zero, Int32.zero_add]
  have e : (x - 48).toInt = x.toInt - 48 := by
    rw [Int32.toInt_sub, h48, Int.bmod_eq_of_le (by omega) (by omega)]
  rw [e0, Int32.le_iff_toInt_le, e, show (3 : Int32).toInt = 3 from rfl]
  unfold m_in
  have h51 : (51 : Int32).toInt = 51 := rfl
  rw [if_neg (by rw [Int32.lt_iff_toInt_lt]; omega)]
  by_cases q : (51 : Int32) < x
  · rw [if_pos q]
    rw [Int32.lt_iff_toInt_lt, h51] at q
    exact ⟨fun _ => by omega, fun _ => rfl⟩
  · rw [if_neg q]
    rw [Int32.lt_iff_toInt_lt, h51] at q
    exact ⟨fun z => absurd z (by decide), fun z => absurd (by omega) z⟩
theorem dg_bd {x : Int32} (h : ¬ m_in x 48 57 = 0) : 0 ≤ x.toInt - 48 ∧ x.toInt - 48 ≤ 9 := by
  have hb := m_in_bd h
  have h48 : (48 : Int32).toInt = 48 := rfl
  have h57 : (57 : Int32).toInt = 57 := rfl
  omega
theorem dg_step {v x : Int32} {B : Int} (hv : 0 ≤ v.toInt ∧ v.toInt ≤ B) (hB : B ≤ 1000) (hx : 0 ≤ x.toInt - 48 ∧ x.toInt - 48 ≤ 9) : 0 ≤ (10 * v + x - 48).toInt ∧ (10 * v + x - 48).toInt ≤ 10 * B + 9 := by
  have h10 : (10 : Int32).toInt = 10 := rfl
  have h48 : (48 : Int32).toInt = 48 := rfl
  have e1 : (10 * v).toInt = 10 * v.toInt := by rw [Int32.toInt_mul, h10, Int.bmod_eq_of_le (by omega) (by omega)]
  have e2 : (10 * v + x).toInt = 10 * v.toInt + x.toInt := by rw [Int32.toInt_add, e1, Int.bmod_eq_of_le (by omega) (by omega)]
  rw [Int32.toInt_sub, e2, h48, Int.bmod_eq_of_le (by omega) (by omega)]
  omega
theorem two_99 {c : Nat → Int32} {i : Nat} (h : ¬ pdg c i 2 = 0) : pvl c i (pdg c i 2) 0 ≤ 99 ∧ pvl c i (pdg c i 2) 0 ≤ 100000 := by
  have key : 0 ≤ (pvl c i (pdg c i 2) 0).toInt ∧ (pvl c i (pdg c i 2) 0).toInt ≤ 99 := by
    simp only [pdg] at h ⊢
    by_cases h0 : m_in (c i) 48 57 = 0
    · rw [if_pos h0] at h
      exact absurd rfl h
    · rw [if_neg h0]
      have s1 := dg_step (v := 0) (B := 0) ⟨by decide, by decide⟩ (by decide) (dg_bd h0)
      by_cases h1 : m_in (c (i + 1)) 48 57 = 0
      · rw [if_pos h1]
        show 0 ≤ (10 * 0 + c i - 48 : Int32).toInt ∧ (10 * 0 + c i - 48 : Int32).toInt ≤ 99
        omega
      · rw [if_neg h1]
        have s2 := dg_step (v := 10 * 0 + c i - 48) (B := 9) ⟨s1.1, by omega⟩ (by decide) (dg_bd h1)
        show 0 ≤ (10 * (10 * 0 + c i - 48) + c (i + 1) - 48 : Int32).toInt ∧ (10 * (10 * 0 + c i - 48) + c (i + 1) - 48 : Int32).toInt ≤ 99
        omega
  rw [Int32.le_iff_toInt_le, Int32.le_iff_toInt_le, show (99 : Int32).toInt = 99 from rfl, show (100000 : Int32).toInt = 100000 from rfl]
  omega
