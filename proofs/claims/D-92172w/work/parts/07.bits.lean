/-! bits of an Int32: the family of BITS.to-paste (a starting text), and what the sets of eight want -/
set_option maxRecDepth 100000
/-! ===== Int32 by its bits: bt x i ===== -/
def bt (x : Int32) (i : Nat) : Bool := x.toBitVec.getLsbD i
theorem b_ext {x y : Int32} (h : ∀ i, i < 32 → bt x i = bt y i) : x = y := Int32.toBitVec_inj.mp (BitVec.eq_of_getLsbD_eq (fun i hi => h i hi))
theorem b_or (x y : Int32) (i : Nat) : bt (x ||| y) i = (bt x i || bt y i) := by unfold bt; rw [Int32.toBitVec_or, BitVec.getLsbD_or]
theorem b_and (x y : Int32) (i : Nat) : bt (x &&& y) i = (bt x i && bt y i) := by unfold bt; rw [Int32.toBitVec_and, BitVec.getLsbD_and]
theorem b_xor (x y : Int32) (i : Nat) : bt (x ^^^ y) i = (bt x i ^^ bt y i) := by unfold bt; rw [Int32.toBitVec_xor, BitVec.getLsbD_xor]
theorem b_big {x : Int32} {i : Nat} (h : 32 ≤ i) : bt x i = false := BitVec.getLsbD_of_ge _ _ h
theorem b_255 (i : Nat) : bt 255 i = decide (i < 8) := by
  rcases Nat.lt_or_ge i 32 with h | h
  · exact (by decide +kernel : ∀ i, i < 32 → bt 255 i = decide (i < 8)) i h
  · rw [b_big h, decide_eq_false (by omega)]
theorem b_65535 (i : Nat) : bt 65535 i = decide (i < 16) := by
  rcases Nat.lt_or_ge i 32 with h | h
  · exact (by decide +kernel : ∀ i, i < 32 → bt 65535 i = decide (i < 16)) i h
  · rw [b_big h, decide_eq_false (by omega)]
theorem b_m1 : ∀ i, i < 32 → bt (-1) i = true := by decide +kernel
theorem b_0 (i : Nat) : bt 0 i = false := BitVec.getLsbD_zero
theorem s_l : ∀ n, n < 32 → ((nI n &&& 31).toBitVec.smod 32).toNat = n := by decide +kernel
theorem s_u : ∀ n, n < 32 → (((nI n).toUInt32 &&& Int32.toUInt32 31).toBitVec % 32).toNat = n := by decide +kernel
theorem b_shl (n : Nat) (hn : n < 32) (x : Int32) {i : Nat} (hi : i < 32) : bt (x <<< (nI n &&& 31)) i = (decide (n ≤ i) && bt x (i - n)) := by
  unfold bt
  rw [Int32.toBitVec_shiftLeft]
  show (x.toBitVec <<< ((nI n &&& 31).toBitVec.smod 32).toNat).getLsbD i = _
  rw [s_l n hn, BitVec.getLsbD_shiftLeft]
  rcases Nat.lt_or_ge i n with h | h
  · simp [h, Nat.not_le.mpr h]
  · simp [hi, h, Nat.not_lt.mpr h]
theorem b_ushr (n : Nat) (hn : n < 32) (x : Int32) (i : Nat) : bt ((x.toUInt32 >>> ((nI n).toUInt32 &&& Int32.toUInt32 31)).toInt32) i = bt x (n + i) := by
  show (x.toUInt32 >>> ((nI n).toUInt32 &&& Int32.toUInt32 31)).toBitVec.getLsbD i = x.toUInt32.toBitVec.getLsbD (n + i)
  rw [UInt32.toBitVec_shiftRight]
  show (x.toUInt32.toBitVec >>> (((nI n).toUInt32 &&& Int32.toUInt32 31).toBitVec % 32).toNat).getLsbD i = _
  rw [s_u n hn, BitVec.getLsbD_ushiftRight]
theorem b_sshr (n : Nat) (hn : n < 32) (x : Int32) {i : Nat} (hi : i < 32) : bt (x >>> (nI n &&& 31)) i = if n + i < 32 then bt x (n + i) else bt x 31 := by
  unfold bt
  rw [Int32.toBitVec_shiftRight]
  show (x.toBitVec.sshiftRight ((nI n &&& 31).toBitVec.smod 32).toNat).getLsbD i = _
  rw [s_l n hn, BitVec.getLsbD_sshiftRight, BitVec.msb_eq_getLsbD_last]
  simp [hi]
theorem b_shl8 (x : Int32) {i : Nat} (hi : i < 32) : bt (x <<< ((8 : Int32) &&& 31)) i = (decide (8 ≤ i) && bt x (i - 8)) := b_shl 8 (by omega) x hi
theorem b_shl16 (x : Int32) {i : Nat} (hi : i < 32) : bt (x <<< ((16 : Int32) &&& 31)) i = (decide (16 ≤ i) && bt x (i - 16)) := b_shl 16 (by omega) x hi
theorem b_shl24 (x : Int32) {i : Nat} (hi : i < 32) : bt (x <<< ((24 : Int32) &&& 31)) i = (decide (24 ≤ i) && bt x (i - 24)) := b_shl 24 (by omega) x hi
theorem b_sshr8 (x : Int32) {i : Nat} (hi : i < 32) : bt (x >>> ((8 : Int32) &&& 31)) i = if 8 + i < 32 then bt x (8 + i) else bt x 31 := b_sshr 8 (by omega) x hi
theorem b_one {i : Nat} : bt 1 i = decide (i = 0) := by
  rcases Nat.lt_or_ge i 32 with h | h
  · exact (by decide +kernel : ∀ i, i < 32 → bt 1 i = decide (i = 0)) i h
  · rw [b_big h, decide_eq_false (by omega)]
theorem b_bit {n i : Nat} (hn : n < 32) (hi : i < 32) : bt ((1 : Int32) <<< (nI n &&& 31)) i = decide (i = n) := by
  rw [b_shl n hn 1 hi, b_one]
  rcases Nat.lt_trichotomy i n with h | h | h
  · simp [Nat.not_le.mpr h, Nat.ne_of_lt h]
  · subst h; simp
  · simp [Nat.le_of_lt h, Nat.ne_of_gt h]; omega
theorem b_sh1 (x : Int32) {b : Nat} (hb : b < 32) : ((x >>> (nI b &&& 31)) &&& 1) = if bt x b = true then 1 else 0 := by
  apply b_ext
  intro i hi
  rw [b_and, b_one]
  by_cases h0 : i = 0
  · subst h0
    rw [b_sshr b hb x hi, if_pos (by omega), Nat.add_zero]
    cases bt x b <;> decide
  · rw [decide_eq_false h0, Bool.and_false]
    split
    · rw [b_one, decide_eq_false h0]
    · rw [b_0]
theorem b_sh1_ne (x : Int32) {b : Nat} (hb : b < 32) : ((x >>> (nI b &&& 31)) &&& 1) = 1 ↔ bt x b = true := by
  rw [b_sh1 x hb]
  cases bt x b <;> simp
theorem b_sh1_0 (x : Int32) {b : Nat} (hb : b < 32) : ((x >>> (nI b &&& 31)) &&& 1) = 0 ↔ bt x b = false := by
  rw [b_sh1 x hb]
  cases bt x b <;> simp
/-- how many of the first n bits are not set -/
def zcN (g : Int32) : Nat → Nat
  | 0 => 0
  | n + 1 => zcN g n + (if bt g n = true then 0 else 1)
theorem zcN_le {g g' : Int32} : ∀ n, (∀ b, b < n → bt g b = true → bt g' b = true) → zcN g' n ≤ zcN g n := by
  intro n
  induction n with
  | zero => intro _; exact Nat.le_refl 0
  | succ n ih =>
    intro h
    have h1 := ih (fun b hb => h b (by omega))
    have h2 := h n (by omega)
    simp only [zcN]
    cases e : bt g n <;> cases e' : bt g' n <;> simp_all <;> omega
theorem zcN_lt {g g' : Int32} {e : Nat} : ∀ n, e < n → (∀ b, b < n → bt g b = true → bt g' b = true) → bt g e = false → bt g' e = true → zcN g' n < zcN g n := by
  intro n
  induction n with
  | zero => intro h; omega
  | succ n ih =>
    intro he h h0 h1
    simp only [zcN]
    by_cases q : e = n
    · subst q
      have h2 := zcN_le (g := g) (g' := g') e (fun b hb => h b (by omega))
      rw [if_pos h1, if_neg (by rw [h0]; decide)]
      omega
    · have h2 := ih (by omega) (fun b hb => h b (by omega)) h0 h1
      have h3 := h n (by omega)
      cases e1 : bt g n <;> cases e2 : bt g' n <;> simp_all <;> omega
def zc (g : Int32) : Nat := zcN g 8
theorem zc_le8 (g : Int32) : zc g ≤ 8 := by
  unfold zc
  have : ∀ n, zcN g n ≤ n := by
    intro n
    induction n with
    | zero => exact Nat.le_refl 0
    | succ n ih => simp only [zcN]; split <;> omega
  exact this 8
theorem zc_or {g : Int32} {e : Nat} (he : e < 8) (h : bt g e = false) : zc (g ||| ((1 : Int32) <<< (nI e &&& 31))) < zc g := by
  refine zcN_lt 8 he (fun b hb h1 => ?_) h ?_
  · rw [b_or, h1, Bool.true_or]
  · rw [b_or, b_bit (by omega) (by omega), decide_eq_true rfl, Bool.or_true]
