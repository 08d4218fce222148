/-! the component: pushes -/
set_option maxRecDepth 100000
/-- the table's width, not too great -/
def N6 (Z : ZT) : Prop := ∃ n : Nat, n ≤ 6 ∧ Z.1 23 0 = nI n
theorem N6_fr {Z Z' : ZT} (h : Z'.1 23 = Z.1 23) (hN : N6 Z) : N6 Z' := by
  unfold N6
  rw [h]
  exact hN
theorem ltx_step {Z : ZT} {i j : Nat} (ha : j ≤ i) (hb : Z.1 23 0 = nI j) (hc : ∀ k : Nat, k < j → vp_in (Z.1 24 k) 8) (hi : i < 8) : ∃ j' : Nat, j' ≤ i + 1 ∧ (sI (sI Z 24 (ix (Z.1 23 0)) (nI i)) 23 0 (nI (ix (Z.1 23 0) + 1))).1 23 0 = nI j' ∧ ∀ k : Nat, k < j' → vp_in ((sI (sI Z 24 (ix (Z.1 23 0)) (nI i)) 23 0 (nI (ix (Z.1 23 0) + 1))).1 24 k) 8 := by
  have e : ix (Z.1 23 0) = j := by rw [hb]; exact ix_nI (by omega)
  rw [e]
  refine ⟨j + 1, by omega, rfl, fun k hk => ?_⟩
  show vp_in (upd (Z.1 24) j (nI i) k) 8
  unfold upd
  split
  · exact vp_in_nI hi (by decide)
  · exact hc k (by omega)
theorem po_init {f : Nat → Int32} {x : Int32} (h : ∃ j : Nat, j < 8 ∧ f j = x) : ∃ j : Nat, 0 ≤ j ∧ j < 8 ∧ f j = x := by
  obtain ⟨j, h1, h2⟩ := h
  exact ⟨j, Nat.zero_le _, h1, h2⟩
theorem po_step {f : Nat → Int32} {x : Int32} {w : Nat} (h : ∃ j : Nat, w ≤ j ∧ j < 8 ∧ f j = x) (hn : ¬ f w = x) : ∃ j : Nat, w + 1 ≤ j ∧ j < 8 ∧ f j = x := by
  obtain ⟨j, h1, h2, h3⟩ := h
  refine ⟨j, ?_, h2, h3⟩
  rcases Nat.lt_or_ge w j with q | q
  · exact q
  · exact absurd (by rw [show w = j by omega]; exact h3) hn
theorem and_l {x y : Int32} {b : Nat} (h : bt (x &&& y) b = true) : bt x b = true := by
  rw [b_and, Bool.and_eq_true] at h
  exact h.1
theorem not_bit {c b : Nat} (hc : c < 32) (hb : b < 32) : bt (((1 : Int32) <<< (nI c &&& 31)) ^^^ (-1)) b = !decide (b = c) := by
  rw [b_xor, b_m1 b hb, b_bit hc hb, Bool.xor_true]
theorem zcN_up {g g' : Int32} {e : Nat} : ∀ n, e < n → (∀ b, b < n → b ≠ e → bt g' b = bt g b) → bt g e = true → bt g' e = false → zcN g' n = zcN g n + 1 := by
  intro n
  induction n with
  | zero => intro h; omega
  | succ n ih =>
    intro he h h0 h1
    simp only [zcN]
    by_cases q : e = n
    · subst q
      have h2 : zcN g' e = zcN g e := Nat.le_antisymm (zcN_le e (fun b hb hh => by rw [h b (by omega) (by omega)]; exact hh)) (zcN_le e (fun b hb hh => by rw [← h b (by omega) (by omega)]; exact hh))
      rw [h2, h0, h1]
      simp
    · have h2 := ih (by omega) (fun b hb => h b (by omega)) h0 h1
      rw [h2, h n (by omega) (by omega)]
      omega
theorem zc_clear {g : Int32} {e : Nat} (he : e < 8) (h : bt g e = true) : zc (g &&& (((1 : Int32) <<< (nI e &&& 31)) ^^^ (-1))) = zc g + 1 := by
  refine zcN_up 8 he (fun b hb hne => ?_) h ?_
  · rw [b_and, not_bit (by omega) (by omega), decide_eq_false hne, Bool.not_false, Bool.and_true]
  · rw [b_and, not_bit (by omega) (by omega), decide_eq_true rfl, Bool.not_true, Bool.and_false]
theorem sow_mu {g : Int32} {d e : Nat} (hd : 8 - zc g ≤ d) (he : e < 6) (h : bt g e = true) : 8 - zc (g &&& (((1 : Int32) <<< (nI e &&& 31)) ^^^ (-1))) + 1 ≤ d := by
  have h1 := zc_clear (by omega) h
  have h2 := zc_le8 (g &&& (((1 : Int32) <<< (nI e &&& 31)) ^^^ (-1)))
  omega
theorem sow_pos {g : Int32} {d e : Nat} (hd : 8 - zc g ≤ d) (he : e < 6) (h : bt g e = true) : 1 ≤ d := by
  have h1 := sow_mu hd he h
  omega
theorem row_init {g : Int32} {n : Nat} (h : ∀ b : Nat, b < 32 → bt g b = true → b < n) (hn : n ≤ 6) (h0 : ¬ g = 0) : ∃ b : Nat, 0 ≤ b ∧ b < 6 ∧ bt g b = true := by
  apply Classical.byContradiction
  intro hc
  apply h0
  apply b_ext
  intro i hi
  rw [b_0]
  cases q : bt g i
  · rfl
  · exact absurd ⟨i, Nat.zero_le _, by have := h i hi q; omega, q⟩ hc
theorem row_step {g : Int32} {w : Nat} (h : ∃ b : Nat, w ≤ b ∧ b < 6 ∧ bt g b = true) (hn : ((g >>> (nI w &&& 31)) &&& 1) = 0) : ∃ b : Nat, w + 1 ≤ b ∧ b < 6 ∧ bt g b = true := by
  obtain ⟨b, h1, h2, h3⟩ := h
  refine ⟨b, ?_, h2, h3⟩
  rcases Nat.lt_or_ge w b with q | q
  · exact q
  · have := (b_sh1_0 g (by omega)).mp hn
    rw [show w = b by omega, h3] at this
    cases this
theorem row_end {g : Int32} {w : Nat} (h : ∃ b : Nat, w ≤ b ∧ b < 6 ∧ bt g b = true) (hn : ¬ ((g >>> (nI w &&& 31)) &&& 1) = 0) : bt g w = true ∧ w < 6 := by
  obtain ⟨b, h1, h2, h3⟩ := h
  refine ⟨?_, by omega⟩
  cases q : bt g w
  · exact absurd ((b_sh1_0 g (by omega)).mpr q) hn
  · rfl
theorem all_bits {x : Int32} {n : Nat} (h : n ≤ 6) (hx : x = nI n) : ∀ b : Nat, b < 32 → bt (((1 : Int32) <<< (x &&& 31)) - 1) b = decide (b < n) := by
  subst hx
  rcases (show n = 0 ∨ n = 1 ∨ n = 2 ∨ n = 3 ∨ n = 4 ∨ n = 5 ∨ n = 6 by omega) with rfl | rfl | rfl | rfl | rfl | rfl | rfl <;> decide +kernel
theorem all_S {Z : ZT} (h : N6 Z) : ∃ n : Nat, n ≤ 6 ∧ Z.1 23 0 = nI n ∧ ∀ b : Nat, b < 32 → bt (((1 : Int32) <<< ((Z.1 23 0) &&& 31)) - 1) b = true → b < n := by
  obtain ⟨n, h6, hn⟩ := h
  refine ⟨n, h6, hn, fun b hb hq => ?_⟩
  rw [all_bits h6 hn b hb] at hq
  exact of_decide_eq_true hq
theorem part_S {Z : ZT} {m : Int32} (h : N6 Z) : ∃ n : Nat, n ≤ 6 ∧ (sI (sI Z 26 0 0) 27 0 0).1 23 0 = nI n ∧ ∀ b : Nat, b < 32 → bt ((((1 : Int32) <<< ((Z.1 23 0) &&& 31)) - 1) &&& m) b = true → b < n := by
  obtain ⟨n, h6, hn, hb⟩ := all_S h
  exact ⟨n, h6, hn, fun b h1 h2 => hb b h1 (and_l h2)⟩
theorem abs_ne0 {a : Int64} (h : ¬ a = 0) : ¬ x_abs a = 0 := by
  unfold x_abs
  split
  · exact h
  · exact neg_ne0 h
theorem sh_wide65 {x : Int32} {n : Nat} (h : n ≤ 6) (hx : x = nI n) : vp_in ((1 : Int32) <<< (x &&& 31)) 65 := by
  subst hx
  rcases (show n = 0 ∨ n = 1 ∨ n = 2 ∨ n = 3 ∨ n = 4 ∨ n = 5 ∨ n = 6 by omega) with rfl | rfl | rfl | rfl | rfl | rfl | rfl <;> exact vp_in_iff.mpr ⟨by decide +kernel, by decide +kernel⟩
theorem sh_pow {x : Int32} {n : Nat} (h : n ≤ 6) (hx : x = nI n) : ix ((1 : Int32) <<< (x &&& 31)) = 2 ^ n := by
  subst hx
  rcases (show n = 0 ∨ n = 1 ∨ n = 2 ∨ n = 3 ∨ n = 4 ∨ n = 5 ∨ n = 6 by omega) with rfl | rfl | rfl | rfl | rfl | rfl | rfl <;> decide +kernel
theorem nI_bt (i b : Nat) (hb : b < 32) : bt (nI i) b = i.testBit b := by
  show (BitVec.ofNat 32 i).getLsbD b = _
  rw [BitVec.getLsbD_ofNat]
  simp [hb]
theorem inner_S {Z : ZT} {n i : Nat} (h6 : n ≤ 6) (hn : Z.1 23 0 = nI n) (hi : i < 2 ^ n) : ∃ n : Nat, n ≤ 6 ∧ Z.1 23 0 = nI n ∧ ∀ b : Nat, b < 32 → bt (nI i) b = true → b < n := by
  refine ⟨n, h6, hn, fun b hb h => ?_⟩
  rw [nI_bt i b hb] at h
  have h1 := Nat.ge_two_pow_of_testBit h
  exact (Nat.pow_lt_pow_iff_right (by decide : 1 < 2)).mp (Nat.lt_of_le_of_lt h1 hi)
def x_isLaid_j42 (w42 : ZT) : ZT := w42
def x_isLaid_b7 (i7 : Nat) (w7 : ZT) : ZT := x_isLaid_j42 (if w7.1 30 i7 = 0 then w7 else sI (sI w7 24 (ix (w7.1 23 0)) (nI i7)) 23 0 (nI ((ix (w7.1 23 0)) + 1)))
def x_isLaid_b69 (w50 : Nat × ZT) (i69 : Nat) (w69 : ZT) : ZT := sI w69 25 ((6 * w50.1) + i69) (-(w69.1 14 (8 * (ix (w69.1 24 w50.1)) + (ix (w69.1 24 i69)))))
def x_isLaid_e69 (w50 : Nat × ZT) (w69 : ZT) : Bool × (Nat × ZT) := (true, ((w50.1 + 1), w69))
def x_isLaid_b50 (w7 : ZT) (w50 : Nat × ZT) : Bool × (Nat × ZT) := (if (ix (w50.2.1 23 0)) ≤ w50.1 then (false, (w50.1, w50.2)) else (if 6 < (ix (w50.2.1 23 0)) then (false, (w50.1, w50.2)) else x_isLaid_e69 w50 (itR (x_isLaid_b69 w50) 0 (ix (w7.1 23 0)) w50.2)))
def x_isLaid_e50 (w50 : Nat × ZT) : Int32 × ZT := (if 6 < (ix (w50.2.1 23 0)) then ((0 : Int32), w50.2) else ((1 : Int32), w50.2))
def x_isLaid_e7 (w7 : ZT) : Int32 × ZT := x_isLaid_e50 (wlR (x_isLaid_b50 w7) 9 (0, w7))
def x_isLaid (Z : ZT) : Int32 × ZT := x_isLaid_e7 (itR x_isLaid_b7 0 8 (sI Z 23 0 (0 : Int32)))

set_option maxHeartbeats 4000000 in
set_option maxRecDepth 100000 in
theorem met_x_isLaid (l : Launch) (D : va_G) (cs : Nat → ClassId) (x : Nat) (ar : Nat → Nat) (B : BT) (Y : va_W) (Z : ZT) (sz : Nat)  : Met l yX0_isLaid (ws_ yX0_isLaid cX0_isLaid 3 (some .boolean)) ({ frames := 1, cells := 0, slots := 0, locals := 21 }) (va_Pc [.ref x] (wSt D cs (WX x ar cs Z B Y) sz)) (cQi (fun (v : Int32) (u : ZT) => x_isLaid Z = (v, u)) D (fun u => (WX x ar cs u B Y)) (WX x ar cs Z B Y) sz) 0 0 (va_A (WX x ar cs Z B Y) sz) := by
  refine gStart_i (C := RX0) rfl rfl (Nat.le_of_ble_eq_true rfl) ?_
  intro p e s mid args below meth c R Q A hx hb hml hown hts hK hA hRf hRl hRc hRs hret hE ls hl
  have hRf : 1 ≤ R.frames := hRf
  have hRl : 21 ≤ R.locals := hRl
  have hl : lv_has ls 3 [(0, .ref x)] := hl
  have hR : x_isLaid Z = (x_isLaid_e7 (itR x_isLaid_b7 0 8 (sI Z 23 0 (0 : Int32)))) := rfl
  refine lv_aload_n hx hb dX0_isLaid_0 rfl (lv_at hl 0 rfl) ?_
  refine lv_iconst (v := 0) hx hb dX0_isLaid_1 rfl ?_
  refine xp_23 hx hb hts hown hK hE dX0_isLaid_2 (fun H locs hE => ?_)
  refine lv_iconst (v := 0) hx hb dX0_isLaid_5 rfl ?_
  refine lv_istore_n (lv' := [(1, .int (0 : Int32)), (0, .ref x)]) hx hb dX0_isLaid_6 rfl hl (by decide) rfl (fun ls hl => ?_)
  have hL7 : ∀ (k i7 : Nat) (w7 : ZT) (hi7 : i7 + k = 8) (hj7 : ∃ j : Nat, j ≤ i7 ∧ w7.1 23 0 = nI j ∧ ∀ k : Nat, k < j → vp_in (w7.1 24 k) 8) (hR : x_isLaid Z = x_isLaid_e7 (itR x_isLaid_b7 i7 k w7)), ∀ (H : Heap) (locs : List Loc) (ls : Array Slot), EW D A s.heap (WX x ar cs w7 B Y) H locs → lv_has ls 3 [(0, .ref x), (1, .int (nI i7))] → W p l e R s mid args below meth c H locs 0 0 Q (F0 mid 7 ls []) := by
    intro k
    induction k with
    | zero =>
      intro i7 w7 hi7 hj7 hR H locs ls hE hl
      have hie7 : i7 = 8 := by omega
      obtain ⟨j7, hj7a, hj7b, hj7c⟩ := hj7
      have hjx7 : ix (w7.1 23 0) = j7 := by rw [hj7b]; exact ix_nI (by omega)
      have hR : x_isLaid Z = (x_isLaid_e50 (wlR (x_isLaid_b50 w7) 9 (0, w7))) := hR
      refine lv_iload_n hx hb dX0_isLaid_7 rfl (lv_at hl 1 rfl) ?_
      refine lv_bipush (v := 8) hx hb dX0_isLaid_8 rfl ?_
      refine n_geT (a := i7) (b := 8) (by omega) (by omega) hx hb dX0_isLaid_10 (tgt := 48) (by decide) ?_
      have hl := lv_sub (l' := [(0, .ref x)]) hl [0] rfl
      refine lv_iconst (v := 0) hx hb dX0_isLaid_48 rfl ?_
      refine lv_istore_n (lv' := [(1, .int (0 : Int32)), (0, .ref x)]) hx hb dX0_isLaid_49 rfl hl (by decide) rfl (fun ls hl => ?_)
      have hX50 : ∀ (w50 : Nat × ZT) (hb50 : w50.1 ≤ 8) (hz50 : w50.2.1 23 = w7.1 23 ∧ w50.2.1 24 = w7.1 24) (hR : x_isLaid Z = x_isLaid_e50 w50), ∀ (H : Heap) (locs : List Loc) (ls : Array Slot), EW D A s.heap (WX x ar cs w50.2 B Y) H locs → lv_has ls 3 [(0, .ref x)] → W p l e R s mid args below meth c H locs 0 0 Q (F0 mid 121 ls []) := by
        intro w50 hb50 hz50 hR H locs ls hE hl
        have hR : x_isLaid Z = (if 6 < (ix (w50.2.1 23 0)) then ((0 : Int32), w50.2) else ((1 : Int32), w50.2)) := hR
        refine lv_aload_n hx hb dX0_isLaid_121 rfl (lv_at hl 0 rfl) ?_
        refine xg_23 hx hb hts hown hK hE dX0_isLaid_122 ?_
        have hna122 := vp_ix (x := w50.2.1 23 0) (N := 9) (by rw [hz50.1, hj7b]; exact vp_in_nI (by omega) (by decide)) (by decide)
        have hna122b := hna122.2
        refine top_nat hna122.1 ?_
        refine lv_bipush (v := 6) hx hb dX0_isLaid_125 rfl ?_
        refine n_icmp_gt (a := (ix (w50.2.1 23 0))) (b := 6) (tgt := 134) (by omega) (by omega) hx hb dX0_isLaid_127 (by decide) (fun c127 => ?_) (fun c127 => ?_)
        · have hR : x_isLaid Z = ((0 : Int32), w50.2) := hR.trans (congrArg (fun z => z) (if_pos c127))
          refine lv_iconst (v := 0) hx hb dX0_isLaid_134 rfl ?_
          exact hret (0 : Int32) w50.2 hR rfl hE (Nat.le_refl 0) (Nat.le_refl 0) dX0_isLaid_135
        · have hR : x_isLaid Z = ((1 : Int32), w50.2) := hR.trans (congrArg (fun z => z) (if_neg c127))
          refine lv_iconst (v := 1) hx hb dX0_isLaid_130 rfl ?_
          refine lv_goto (tgt := 135) hx hb dX0_isLaid_131 (by decide) ?_
          exact hret (1 : Int32) w50.2 hR rfl hE (Nat.le_refl 0) (Nat.le_refl 0) dX0_isLaid_135
      have hL50 : ∀ (n : Nat) (w50 : Nat × ZT) (hm50 : 8 - w50.1 < n) (hb50 : w50.1 ≤ 8) (hz50 : w50.2.1 23 = w7.1 23 ∧ w50.2.1 24 = w7.1 24) (hR : x_isLaid Z = x_isLaid_e50 (wlR (x_isLaid_b50 w7) n w50)), ∀ (H : Heap) (locs : List Loc) (ls : Array Slot), EW D A s.heap (WX x ar cs w50.2 B Y) H locs → lv_has ls 3 [(0, .ref x), (1, .int (nI w50.1))] → W p l e R s mid args below meth c H locs 0 0 Q (F0 mid 50 ls []) := by
        intro n
        induction n with
        | zero =>
          intro w50 hm50
          exact absurd hm50 (Nat.not_lt_zero _)
        | succ n ih50 =>
          intro w50 hm50 hb50 hz50 hR H locs ls hE hl
          have vw50 : vp_in (w50.2.1 23 0) 9 := by rw [hz50.1, hj7b]; exact vp_in_nI (by omega) (by decide)
          have hbx50 : ix (w50.2.1 23 0) = j7 := by rw [hz50.1, hj7b]; exact ix_nI (by omega)
          have hB50 : x_isLaid_b50 w7 w50 = (if (ix (w50.2.1 23 0)) ≤ w50.1 then (false, (w50.1, w50.2)) else (if 6 < (ix (w50.2.1 23 0)) then (false, (w50.1, w50.2)) else x_isLaid_e69 w50 (itR (x_isLaid_b69 w50) 0 (ix (w7.1 23 0)) w50.2))) := rfl
          refine lv_iload_n hx hb dX0_isLaid_50 rfl (lv_at hl 1 rfl) ?_
          refine lv_aload_n hx hb dX0_isLaid_51 rfl (lv_at hl 0 rfl) ?_
          refine xg_23 hx hb hts hown hK hE dX0_isLaid_52 ?_
          have hna52 := vp_ix (x := w50.2.1 23 0) (N := 9) (vw50) (by decide)
          have hna52b := hna52.2
          refine top_nat hna52.1 ?_
          refine n_icmp_ge (a := w50.1) (b := (ix (w50.2.1 23 0))) (tgt := 121) (by omega) (by omega) hx hb dX0_isLaid_55 (by decide) (fun c55 => ?_) (fun c55 => ?_)
          · have hB50 : x_isLaid_b50 w7 w50 = (false, (w50.1, w50.2)) := hB50.trans (congrArg (fun z => z) (if_pos c55))
            exact hX50 (w50.1, w50.2) (by exact hb50) (by exact hz50) (hR.trans (congrArg (fun z => x_isLaid_e50 z) (wl_f hB50))) _ _ _ hE (lv_sub hl [0] rfl)
          · have hB50 : x_isLaid_b50 w7 w50 = (if 6 < (ix (w50.2.1 23 0)) then (false, (w50.1, w50.2)) else x_isLaid_e69 w50 (itR (x_isLaid_b69 w50) 0 (ix (w7.1 23 0)) w50.2)) := hB50.trans (congrArg (fun z => z) (if_neg c55))
            refine lv_aload_n hx hb dX0_isLaid_58 rfl (lv_at hl 0 rfl) ?_
            refine xg_23 hx hb hts hown hK hE dX0_isLaid_59 ?_
            have hna59 := vp_ix (x := w50.2.1 23 0) (N := 9) (vw50) (by decide)
            have hna59b := hna59.2
            refine top_nat hna59.1 ?_
            refine lv_bipush (v := 6) hx hb dX0_isLaid_62 rfl ?_
            refine n_icmp_gt (a := (ix (w50.2.1 23 0))) (b := 6) (tgt := 121) (by omega) (by omega) hx hb dX0_isLaid_64 (by decide) (fun c64 => ?_) (fun c64 => ?_)
            · have hB50 : x_isLaid_b50 w7 w50 = (false, (w50.1, w50.2)) := hB50.trans (congrArg (fun z => z) (if_pos c64))
              exact hX50 (w50.1, w50.2) (by exact hb50) (by exact hz50) (hR.trans (congrArg (fun z => x_isLaid_e50 z) (wl_f hB50))) _ _ _ hE (lv_sub hl [0] rfl)
            · have hB50 : x_isLaid_b50 w7 w50 = (x_isLaid_e69 w50 (itR (x_isLaid_b69 w50) 0 (ix (w7.1 23 0)) w50.2)) := hB50.trans (congrArg (fun z => z) (if_neg c64))
              refine lv_iconst (v := 0) hx hb dX0_isLaid_67 rfl ?_
              refine lv_istore_n (lv' := [(2, .int (0 : Int32)), (0, .ref x), (1, .int (nI w50.1))]) hx hb dX0_isLaid_68 rfl hl (by decide) rfl (fun ls hl => ?_)
              have hL69 : ∀ (k i69 : Nat) (w69 : ZT) (hi69 : i69 + k = (ix (w7.1 23 0))) (hz69 : w69.1 23 = w7.1 23 ∧ w69.1 24 = w7.1 24) (hB50 : x_isLaid_b50 w7 w50 = x_isLaid_e69 w50 (itR (x_isLaid_b69 w50) i69 k w69)), ∀ (H : Heap) (locs : List Loc) (ls : Array Slot), EW D A s.heap (WX x ar cs w69 B Y) H locs → lv_has ls 3 [(0, .ref x), (1, .int (nI w50.1)), (2, .int (nI i69))] → W p l e R s mid args below meth c H locs 0 0 Q (F0 mid 69 ls []) := by
                intro k
                induction k with
                | zero =>
                  intro i69 w69 hi69 hz69 hB50 H locs ls hE hl
                  have hie69 : i69 = (ix (w7.1 23 0)) := by omega
                  have hbx69 : ix (w69.1 23 0) = ix (w7.1 23 0) := by rw [hz69.1]
                  have vw69 : vp_in (w69.1 23 0) 9 := by rw [hz69.1, hj7b]; exact vp_in_nI (by omega) (by decide)
                  have hB50 : x_isLaid_b50 w7 w50 = (true, ((w50.1 + 1), w69)) := hB50
                  refine lv_iload_n hx hb dX0_isLaid_69 rfl (lv_at hl 2 rfl) ?_
                  refine lv_aload_n hx hb dX0_isLaid_70 rfl (lv_at hl 0 rfl) ?_
                  refine xg_23 hx hb hts hown hK hE dX0_isLaid_71 ?_
                  have hna71 := vp_ix (x := w69.1 23 0) (N := 9) (vw69) (by decide)
                  have hna71b := hna71.2
                  refine top_nat hna71.1 ?_
                  refine n_geT (a := i69) (b := (ix (w69.1 23 0))) (by omega) (by omega) hx hb dX0_isLaid_74 (tgt := 115) (by decide) ?_
                  have hl := lv_sub (l' := [(0, .ref x), (1, .int (nI w50.1))]) hl [0, 1] rfl
                  refine n_inc (lv' := [(1, .int (nI (w50.1 + 1))), (0, .ref x)]) hx hb dX0_isLaid_115 hl (k := 1) rfl (by decide) rfl (fun ls hl => ?_)
                  refine lv_goto (tgt := 50) hx hb dX0_isLaid_118 (by decide) ?_
                  exact ih50 ((w50.1 + 1), w69) (by show 8 - (w50.1 + 1) < n; omega) (by show w50.1 + 1 ≤ 8; omega) (by exact hz69) (hR.trans (congrArg (fun z => x_isLaid_e50 z) (wl_t hB50))) _ _ _ hE (lv_sub hl [1, 0] rfl)
                | succ k ih69 =>
                  intro i69 w69 hi69 hz69 hB50 H locs ls hE hl
                  have hlt69 : i69 < (ix (w7.1 23 0)) := by omega
                  have hbx69 : ix (w69.1 23 0) = ix (w7.1 23 0) := by rw [hz69.1]
                  have vw69 : vp_in (w69.1 23 0) 9 := by rw [hz69.1, hj7b]; exact vp_in_nI (by omega) (by decide)
                  have hB69 : x_isLaid_b69 w50 i69 w69 = sI w69 25 ((6 * w50.1) + i69) (-(w69.1 14 (8 * (ix (w69.1 24 w50.1)) + (ix (w69.1 24 i69))))) := rfl
                  refine lv_iload_n hx hb dX0_isLaid_69 rfl (lv_at hl 2 rfl) ?_
                  refine lv_aload_n hx hb dX0_isLaid_70 rfl (lv_at hl 0 rfl) ?_
                  refine xg_23 hx hb hts hown hK hE dX0_isLaid_71 ?_
                  have hna71 := vp_ix (x := w69.1 23 0) (N := 9) (vw69) (by decide)
                  have hna71b := hna71.2
                  refine top_nat hna71.1 ?_
                  refine n_geF (a := i69) (b := (ix (w69.1 23 0))) (by omega) (by omega) hx hb dX0_isLaid_74 (tgt := 115) (by decide) ?_
                  refine lv_aload_n hx hb dX0_isLaid_77 rfl (lv_at hl 0 rfl) ?_
                  refine xg_25 hx hb hts hown hK hE dX0_isLaid_78 ?_
                  refine lv_bipush (v := 6) hx hb dX0_isLaid_81 rfl ?_
                  refine lv_iload_n hx hb dX0_isLaid_83 rfl (lv_at hl 1 rfl) ?_
                  refine n_mul (a := 6) (b := w50.1) hx hb dX0_isLaid_84 ?_
                  refine lv_iload_n hx hb dX0_isLaid_85 rfl (lv_at hl 2 rfl) ?_
                  refine n_add (a := (6 * w50.1)) (b := i69) hx hb dX0_isLaid_86 ?_
                  refine lv_aload_n hx hb dX0_isLaid_87 rfl (lv_at hl 0 rfl) ?_
                  refine xg_14 hx hb hts hown hK hE dX0_isLaid_88 ?_
                  refine lv_aload_n hx hb dX0_isLaid_91 rfl (lv_at hl 0 rfl) ?_
                  refine xg_24 hx hb hts hown hK hE dX0_isLaid_92 ?_
                  refine lv_iload_n hx hb dX0_isLaid_95 rfl (lv_at hl 1 rfl) ?_
                  refine xa_24 (n := w50.1) (by omega) hx hb hK hE dX0_isLaid_96 ?_
                  have hna96 := vp_ix (x := w69.1 24 w50.1) (N := 8) (by rw [hz69.2]; exact hj7c _ (by omega)) (by decide)
                  have hna96b := hna96.2
                  refine top_nat hna96.1 ?_
                  refine lv_aload_n hx hb dX0_isLaid_97 rfl (lv_at hl 0 rfl) ?_
                  refine xg_24 hx hb hts hown hK hE dX0_isLaid_98 ?_
                  refine lv_iload_n hx hb dX0_isLaid_101 rfl (lv_at hl 2 rfl) ?_
                  refine xa_24 (n := i69) (by omega) hx hb hK hE dX0_isLaid_102 ?_
                  have hna102 := vp_ix (x := w69.1 24 i69) (N := 8) (by rw [hz69.2]; exact hj7c _ (by omega)) (by decide)
                  have hna102b := hna102.2
                  refine top_nat hna102.1 ?_
                  refine call_x_pair hx hb hml hown hts hK hA hE hl.1 (ix (w69.1 24 w50.1)) (ix (w69.1 24 i69)) (lz (show 1 ≤ 1 by decide) hRf) (lz (show 21 ≤ 21 by decide) hRl) (Nat.le_of_ble_eq_true rfl) dX0_isLaid_103 ⟨Nat.zero_le _, Nat.zero_le _⟩ (fun H locs hE => ?_)
                  refine xa_14 (n := (8 * (ix (w69.1 24 w50.1)) + (ix (w69.1 24 i69)))) (by omega) hx hb hK hE dX0_isLaid_106 ?_
                  refine lv_ineg hx hb dX0_isLaid_107 ?_
                  refine xs_25 (n := ((6 * w50.1) + i69)) (by omega) hx hb hK hE dX0_isLaid_108 (fun H locs hE => ?_)
                  refine n_inc (lv' := [(2, .int (nI (i69 + 1))), (0, .ref x), (1, .int (nI w50.1))]) hx hb dX0_isLaid_109 hl (k := 2) rfl (by decide) rfl (fun ls hl => ?_)
                  refine lv_goto (tgt := 69) hx hb dX0_isLaid_112 (by decide) ?_
                  exact ih69 (i69 + 1) (sI w69 25 ((6 * w50.1) + i69) (-(w69.1 14 (8 * (ix (w69.1 24 w50.1)) + (ix (w69.1 24 i69)))))) (by omega) (by exact hz69) (hB50.trans (congrArg (fun z => x_isLaid_e69 w50 (itR (x_isLaid_b69 w50) (i69 + 1) k z)) hB69)) _ _ _ hE (lv_sub hl [1, 2, 0] rfl)
              exact hL69 (ix (w7.1 23 0)) 0 w50.2 (by omega) (by exact hz50) hB50 _ _ _ hE (lv_sub hl [1, 2, 0] rfl)
      exact hL50 9 (0, w7) (by show 8 - 0 < 9; decide) (by exact Nat.zero_le _) (by exact ⟨rfl, rfl⟩) hR _ _ _ hE (lv_sub hl [1, 0] rfl)
    | succ k ih7 =>
      intro i7 w7 hi7 hj7 hR H locs ls hE hl
      have hlt7 : i7 < 8 := by omega
      obtain ⟨j7, hj7a, hj7b, hj7c⟩ := hj7
      have hjx7 : ix (w7.1 23 0) = j7 := by rw [hj7b]; exact ix_nI (by omega)
      have hv7 : vp_in (w7.1 23 0) 8 := by rw [hj7b]; exact vp_in_nI (by omega) (by decide)
      have hB7 : x_isLaid_b7 i7 w7 = x_isLaid_j42 (if w7.1 30 i7 = 0 then w7 else sI (sI w7 24 (ix (w7.1 23 0)) (nI i7)) 23 0 (nI ((ix (w7.1 23 0)) + 1))) := rfl
      refine lv_iload_n hx hb dX0_isLaid_7 rfl (lv_at hl 1 rfl) ?_
      refine lv_bipush (v := 8) hx hb dX0_isLaid_8 rfl ?_
      refine n_geF (a := i7) (b := 8) (by omega) (by omega) hx hb dX0_isLaid_10 (tgt := 48) (by decide) ?_
      refine lv_aload_n hx hb dX0_isLaid_13 rfl (lv_at hl 0 rfl) ?_
      refine xg_10 hx hb hts hown hK hE dX0_isLaid_14 ?_
      refine lv_iload_n hx hb dX0_isLaid_17 rfl (lv_at hl 1 rfl) ?_
      refine xa_10 (n := i7) (by omega) hx hb hK hE dX0_isLaid_18 ?_
      have hJ42 : ∀ (w42 : ZT) (hj42 : ∃ j : Nat, j ≤ i7 + 1 ∧ w42.1 23 0 = nI j ∧ ∀ k : Nat, k < j → vp_in (w42.1 24 k) 8) (hB7 : x_isLaid_b7 i7 w7 = x_isLaid_j42 w42), ∀ (H : Heap) (locs : List Loc) (ls : Array Slot), EW D A s.heap (WX x ar cs w42 B Y) H locs → lv_has ls 3 [(0, .ref x), (1, .int (nI i7))] → W p l e R s mid args below meth c H locs 0 0 Q (F0 mid 42 ls []) := by
        intro w42 hj42 hB7 H locs ls hE hl
        have hB7 : x_isLaid_b7 i7 w7 = w42 := hB7
        refine n_inc (lv' := [(1, .int (nI (i7 + 1))), (0, .ref x)]) hx hb dX0_isLaid_42 hl (k := 1) rfl (by decide) rfl (fun ls hl => ?_)
        refine lv_goto (tgt := 7) hx hb dX0_isLaid_45 (by decide) ?_
        exact ih7 (i7 + 1) w42 (by omega) (by exact hj42) (hR.trans (congrArg (fun z => x_isLaid_e7 (itR x_isLaid_b7 (i7 + 1) k z)) hB7)) _ _ _ hE (lv_sub hl [1, 0] rfl)
      refine xnn_be (b := i7) (tgt := 42) hx hb dX0_isLaid_19 (by decide) (fun c19 => ?_) (fun c19 => ?_)
      · have hB7 : x_isLaid_b7 i7 w7 = x_isLaid_j42 w7 := hB7.trans (congrArg (fun z => x_isLaid_j42 z) (if_pos c19))
        exact hJ42 w7  (by first | exact ⟨j7, by omega, hj7b, hj7c⟩ | exact ltx_step hj7a hj7b hj7c hlt7) hB7 _ _ _ hE (lv_sub hl [0, 1] rfl)
      · have hB7 : x_isLaid_b7 i7 w7 = x_isLaid_j42 (sI (sI w7 24 (ix (w7.1 23 0)) (nI i7)) 23 0 (nI ((ix (w7.1 23 0)) + 1))) := hB7.trans (congrArg (fun z => x_isLaid_j42 z) (if_neg c19))
        refine lv_aload_n hx hb dX0_isLaid_22 rfl (lv_at hl 0 rfl) ?_
        refine xg_24 hx hb hts hown hK hE dX0_isLaid_23 ?_
        refine lv_aload_n hx hb dX0_isLaid_26 rfl (lv_at hl 0 rfl) ?_
        refine xg_23 hx hb hts hown hK hE dX0_isLaid_27 ?_
        have hna27 := vp_ix (x := w7.1 23 0) (N := 8) (hv7) (by decide)
        have hna27b := hna27.2
        refine top_nat hna27.1 ?_
        refine lv_iload_n hx hb dX0_isLaid_30 rfl (lv_at hl 1 rfl) ?_
        refine xs_24 (n := (ix (w7.1 23 0))) (by omega) hx hb hK hE dX0_isLaid_31 (fun H locs hE => ?_)
        refine lv_aload_n hx hb dX0_isLaid_32 rfl (lv_at hl 0 rfl) ?_
        refine lv_dup hx hb dX0_isLaid_33 rfl ?_
        refine xg_23 hx hb hts hown hK hE dX0_isLaid_34 ?_
        have hna34 := vp_ix (x := w7.1 23 0) (N := 8) (hv7) (by decide)
        have hna34b := hna34.2
        refine top_nat hna34.1 ?_
        refine lv_iconst (v := 1) hx hb dX0_isLaid_37 rfl ?_
        refine n_add (a := (ix (w7.1 23 0))) (b := 1) hx hb dX0_isLaid_38 ?_
        refine xp_23 hx hb hts hown hK hE dX0_isLaid_39 (fun H locs hE => ?_)
        exact hJ42 (sI (sI w7 24 (ix (w7.1 23 0)) (nI i7)) 23 0 (nI ((ix (w7.1 23 0)) + 1)))  (by first | exact ⟨j7, by omega, hj7b, hj7c⟩ | exact ltx_step hj7a hj7b hj7c hlt7) hB7 _ _ _ hE (lv_sub hl [0, 1] rfl)
  exact hL7 8 0 (sI Z 23 0 (0 : Int32)) (by omega) (by exact ⟨0, Nat.zero_le _, rfl, fun k h => absurd h (Nat.not_lt_zero _)⟩) hR _ _ _ hE (lv_sub hl [1, 0] rfl)
section C_x_isLaid
variable {p : Program} {l : Launch} {e : Env} {R : Room} {s : State} {mid : MethodId} {args : Array Value} {below : List Frame} {meth : Method} {c : Code} {H : Heap} {locs : List Loc} {cells slots : Nat} {Q : State → Prop} {cc : ByteArray} {pc : Nat} {ls : Array Slot} {rest : List Value} {D : va_G} {A : Nat → Prop} {x : Nat} {ar : Nat → Nat} {cs : Nat → ClassId} {B : BT} {Y : va_W} {Z : ZT} {nL r : Nat}
theorem call_x_isLaid (hx : p.tables.exec = Jvm.exec) (hb : c.code = cc) (hml : c.maxLocals = nL) (hown : s.vm.findClass RX0 = some mid.cls) (hts : ∀ w ∈ lw_all, w.before args s = true) (hK : KK D cs s) (hA : ∀ q : Nat, s.heap.size ≤ q → A q) (hE : EW D A s.heap (WX x ar cs Z B Y) H locs) (hls : ls.size = nL)  (h1 : 2 ≤ R.frames) (h2 : 43 ≤ R.locals) (h3 : (rest.map fun v => v.category).sum ≤ 8) (hd : decode cc pc = .ok (.invokevirtual 333, 3)) (hf : cells ≤ R.cells ∧ slots ≤ R.slots) (kk : ∀ (H1 : Heap) (locs1 : List Loc), EW D A s.heap (WX x ar cs ((x_isLaid Z).2) B Y) H1 locs1 → W p l e R s mid args below meth c H1 locs1 cells slots Q (F0 mid (pc + 3) ls (.int (x_isLaid Z).1 :: rest))) : W p l e R s mid args below meth c H locs cells slots Q (F0 mid pc ls (.ref x :: rest)) := 
  gCall_i (As := []) (rest := rest) (q0 := 0) (ci := 0) (fs := XF ar Z) (T' := TX0) (N' := 29) hx hb hml hown hts hK hA hE hls (met_x_isLaid l D cs x ar B Y Z H.size ) (cwV 0 hts (lw_V q827 q829 qs29 q84 q830) rfl rfl rfl (by decide +kernel) ⟨h1, h2⟩) rfl rfl rfl rfl h3 hd hf (fun v u H1 locs1 hp _ hE => by rw [hp] at kk; exact kk H1 locs1 hE)
end C_x_isLaid
def x_placeOf_b2 (p1 : Int32) (Z : ZT) (w2 : Nat) : Bool × (Nat) := (if Z.1 24 w2 = p1 then (false, w2) else (true, (w2 + 1)))
def x_placeOf_e2 (w2 : Nat) : Int32 := nI w2
def x_placeOf (p1 : Int32) (Z : ZT) : Int32 := x_placeOf_e2 (wlR (x_placeOf_b2 p1 Z) 9 0)
theorem isLaid_facts (Z : ZT) : ∃ n : Nat, n ≤ 8 ∧ (x_isLaid Z).2.1 23 0 = nI n ∧ (¬ (x_isLaid Z).1 = 0 → n ≤ 6) ∧ ∀ b : Nat, b < 8 → ¬ Z.1 30 b = 0 → ∃ j : Nat, j < 8 ∧ (x_isLaid Z).2.1 24 j = nI b := by
  unfold x_isLaid
  have h7 := itR_inv (f := x_isLaid_b7) (n := 8) (P := fun i s => s.1 30 = Z.1 30 ∧ ∃ n : Nat, n ≤ i ∧ s.1 23 0 = nI n ∧ ∀ b : Nat, b < i → ¬ Z.1 30 b = 0 → ∃ j : Nat, j < n ∧ s.1 24 j = nI b) (fun i s hi hs => ?_) 8 0 (sI Z 23 0 0) rfl ⟨rfl, 0, Nat.le_refl _, rfl, fun b hb => absurd hb (Nat.not_lt_zero _)⟩
  · generalize itR x_isLaid_b7 0 8 (sI Z 23 0 0) = w at h7
    obtain ⟨-, n, hn8, hn, hb⟩ := h7
    unfold x_isLaid_e7
    have h50 := wlR_inv (f := x_isLaid_b50 w) (P := fun s : Nat × ZT => s.2.1 23 = w.1 23 ∧ s.2.1 24 = w.1 24) (fun s hs => ?_) 9 (0, w) ⟨rfl, rfl⟩
    · generalize wlR (x_isLaid_b50 w) 9 (0, w) = u at h50
      have e : ix (u.2.1 23 0) = n := by rw [h50.1, hn]; exact ix_nI (by omega)
      unfold x_isLaid_e50
      rw [e]
      split
      · exact ⟨n, hn8, by show u.2.1 23 0 = _; rw [h50.1]; exact hn, fun h => absurd rfl h, fun b h1 h2 => by
          obtain ⟨j, h3, h4⟩ := hb b h1 h2
          exact ⟨j, by omega, by show u.2.1 24 j = _; rw [h50.2]; exact h4⟩⟩
      · rename_i h6
        exact ⟨n, hn8, by show u.2.1 23 0 = _; rw [h50.1]; exact hn, fun _ => by omega, fun b h1 h2 => by
          obtain ⟨j, h3, h4⟩ := hb b h1 h2
          exact ⟨j, by omega, by show u.2.1 24 j = _; rw [h50.2]; exact h4⟩⟩
    · unfold x_isLaid_b50
      split
      · exact hs
      · split
        · exact hs
        · unfold x_isLaid_e69
          exact itR_ind (f := x_isLaid_b69 s) (P := fun u : ZT => u.1 23 = w.1 23 ∧ u.1 24 = w.1 24) (fun i u hu => hu) _ _ _ hs
  · obtain ⟨h30, n, hn8, hn, hb⟩ := hs
    unfold x_isLaid_b7 x_isLaid_j42
    split
    · rename_i hz
      rw [h30] at hz
      refine ⟨h30, n, by omega, hn, fun b h1 h2 => hb b ?_ h2⟩
      rcases Nat.lt_or_ge b i with h | h
      · exact h
      · exact absurd (by rw [show b = i by omega]; exact hz) h2
    · have e : ix (s.1 23 0) = n := by rw [hn]; exact ix_nI (by omega)
      rw [e]
      refine ⟨h30, n + 1, by omega, rfl, fun b h1 h2 => ?_⟩
      by_cases hq : b = i
      · subst hq
        exact ⟨n, by omega, by show upd (s.1 24) n (nI b) n = _; simp [upd]⟩
      · obtain ⟨j, h3, h4⟩ := hb b (by omega) h2
        refine ⟨j, by omega, ?_⟩
        show upd (s.1 24) n (nI i) j = _
        unfold upd
        rw [if_neg (by omega)]
        exact h4
theorem isLaid_N6 {Z : ZT} (h : ¬ (x_isLaid Z).1 = 0) : N6 (x_isLaid Z).2 := by
  obtain ⟨n, -, h1, h2, -⟩ := isLaid_facts Z
  exact ⟨n, h2 h, h1⟩

set_option maxHeartbeats 4000000 in
set_option maxRecDepth 100000 in
theorem met_x_placeOf (l : Launch) (D : va_G) (cs : Nat → ClassId) (x : Nat) (ar : Nat → Nat) (B : BT) (Y : va_W) (Z : ZT) (sz : Nat) (p1 : Int32) (hp : ∃ j : Nat, j < 8 ∧ Z.1 24 j = p1) : Met l yX0_placeOf (ws_ yX0_placeOf cX0_placeOf 3 (some .int)) ({ frames := 0, cells := 0, slots := 0, locals := 0 }) (va_Pc [.ref x, .int p1] (wSt D cs (WX x ar cs Z B Y) sz)) (cQi (fun (v : Int32) (_ : Unit) => x_placeOf p1 Z = v) D (fun _ => (WX x ar cs Z B Y)) (WX x ar cs Z B Y) sz) 0 0 (va_A (WX x ar cs Z B Y) sz) := by
  refine gStart_i (C := RX0) rfl rfl (Nat.le_of_ble_eq_true rfl) ?_
  intro p e s mid args below meth c R Q A hx hb hml hown hts hK hA hRf hRl hRc hRs hret hE ls hl
  have hRf : 0 ≤ R.frames := hRf
  have hRl : 0 ≤ R.locals := hRl
  have hl : lv_has ls 3 [(0, .ref x), (1, .int p1)] := hl
  have hR : x_placeOf p1 Z = (x_placeOf_e2 (wlR (x_placeOf_b2 p1 Z) 9 0)) := rfl
  refine lv_iconst (v := 0) hx hb dX0_placeOf_0 rfl ?_
  refine lv_istore_n (lv' := [(2, .int (0 : Int32)), (0, .ref x), (1, .int p1)]) hx hb dX0_placeOf_1 rfl hl (by decide) rfl (fun ls hl => ?_)
  have hX2 : ∀ (w2 : Nat) (hp2 : ∃ j : Nat, w2 ≤ j ∧ j < 8 ∧ Z.1 24 j = p1) (hR : x_placeOf p1 Z = x_placeOf_e2 w2), ∀ (H : Heap) (locs : List Loc) (ls : Array Slot), EW D A s.heap (WX x ar cs Z B Y) H locs → lv_has ls 3 [(2, .int (nI w2))] → W p l e R s mid args below meth c H locs 0 0 Q (F0 mid 18 ls []) := by
    intro w2 hp2 hR H locs ls hE hl
    have hR : x_placeOf p1 Z = (nI w2) := hR
    refine lv_iload_n hx hb dX0_placeOf_18 rfl (lv_at hl 0 rfl) ?_
    exact hret (nI w2) () hR rfl hE (Nat.le_refl 0) (Nat.le_refl 0) dX0_placeOf_19
  have hL2 : ∀ (n : Nat) (w2 : Nat) (hm2 : 8 - w2 < n) (hp2 : ∃ j : Nat, w2 ≤ j ∧ j < 8 ∧ Z.1 24 j = p1) (hR : x_placeOf p1 Z = x_placeOf_e2 (wlR (x_placeOf_b2 p1 Z) n w2)), ∀ (H : Heap) (locs : List Loc) (ls : Array Slot), EW D A s.heap (WX x ar cs Z B Y) H locs → lv_has ls 3 [(0, .ref x), (1, .int p1), (2, .int (nI w2))] → W p l e R s mid args below meth c H locs 0 0 Q (F0 mid 2 ls []) := by
    intro n
    induction n with
    | zero =>
      intro w2 hm2
      exact absurd hm2 (Nat.not_lt_zero _)
    | succ n ih2 =>
      intro w2 hm2 hp2 hR H locs ls hE hl
      have hlt2 : w2 < 8 := by obtain ⟨j, h1, h2, -⟩ := hp2; omega
      have hB2 : x_placeOf_b2 p1 Z w2 = (if Z.1 24 w2 = p1 then (false, w2) else (true, (w2 + 1))) := rfl
      refine lv_aload_n hx hb dX0_placeOf_2 rfl (lv_at hl 0 rfl) ?_
      refine xg_24 hx hb hts hown hK hE dX0_placeOf_3 ?_
      refine lv_iload_n hx hb dX0_placeOf_6 rfl (lv_at hl 2 rfl) ?_
      refine xa_24 (n := w2) (by omega) hx hb hK hE dX0_placeOf_7 ?_
      refine lv_iload_n hx hb dX0_placeOf_8 rfl (lv_at hl 1 rfl) ?_
      refine lv_icmp_eq (tgt := 18) hx hb dX0_placeOf_9 (by decide) (fun c9 => ?_) (fun c9 => ?_)
      · have hB2 : x_placeOf_b2 p1 Z w2 = (false, w2) := hB2.trans (congrArg (fun z => z) (if_pos c9))
        exact hX2 w2 (by exact hp2) (hR.trans (congrArg (fun z => x_placeOf_e2 z) (wl_f hB2))) _ _ _ hE (lv_sub hl [2] rfl)
      · have hB2 : x_placeOf_b2 p1 Z w2 = (true, (w2 + 1)) := hB2.trans (congrArg (fun z => z) (if_neg c9))
        refine n_inc (lv' := [(2, .int (nI (w2 + 1))), (0, .ref x), (1, .int p1)]) hx hb dX0_placeOf_12 hl (k := 2) rfl (by decide) rfl (fun ls hl => ?_)
        refine lv_goto (tgt := 2) hx hb dX0_placeOf_15 (by decide) ?_
        exact ih2 (w2 + 1) (by show 8 - (w2 + 1) < n; omega) (by exact po_step hp2 c9) (hR.trans (congrArg (fun z => x_placeOf_e2 z) (wl_t hB2))) _ _ _ hE (lv_sub hl [1, 2, 0] rfl)
  exact hL2 9 0 (by show 8 - 0 < 9; decide) (by exact po_init hp) hR _ _ _ hE (lv_sub hl [1, 2, 0] rfl)
section C_x_placeOf
variable {p : Program} {l : Launch} {e : Env} {R : Room} {s : State} {mid : MethodId} {args : Array Value} {below : List Frame} {meth : Method} {c : Code} {H : Heap} {locs : List Loc} {cells slots : Nat} {Q : State → Prop} {cc : ByteArray} {pc : Nat} {ls : Array Slot} {rest : List Value} {D : va_G} {A : Nat → Prop} {x : Nat} {ar : Nat → Nat} {cs : Nat → ClassId} {B : BT} {Y : va_W} {Z : ZT} {nL r : Nat}
theorem call_x_placeOf (hx : p.tables.exec = Jvm.exec) (hb : c.code = cc) (hml : c.maxLocals = nL) (hown : s.vm.findClass RX0 = some mid.cls) (hts : ∀ w ∈ lw_all, w.before args s = true) (hK : KK D cs s) (hA : ∀ q : Nat, s.heap.size ≤ q → A q) (hE : EW D A s.heap (WX x ar cs Z B Y) H locs) (hls : ls.size = nL) (p1 : Int32) (hp : ∃ j : Nat, j < 8 ∧ Z.1 24 j = p1) (h1 : 1 ≤ R.frames) (h2 : 22 ≤ R.locals) (h3 : (rest.map fun v => v.category).sum ≤ 8) (hd : decode cc pc = .ok (.invokevirtual 339, 3)) (hf : cells ≤ R.cells ∧ slots ≤ R.slots) (kk : ∀ (H1 : Heap) (locs1 : List Loc), EW D A s.heap (WX x ar cs Z B Y) H1 locs1 → W p l e R s mid args below meth c H1 locs1 cells slots Q (F0 mid (pc + 3) ls (.int (x_placeOf p1 Z) :: rest))) : W p l e R s mid args below meth c H locs cells slots Q (F0 mid pc ls (.int p1 :: .ref x :: rest)) := 
  gCall_i (As := [.int p1]) (rest := rest) (q0 := 0) (ci := 0) (fs := XF ar Z) (T' := TX0) (N' := 29) hx hb hml hown hts hK hA hE hls (met_x_placeOf l D cs x ar B Y Z H.size p1 hp) (cwV 1 hts (lw_V q835 q837 qs31 q84 q838) rfl rfl rfl (by decide +kernel) ⟨h1, h2⟩) rfl rfl rfl rfl h3 hd hf (fun v u H1 locs1 hp _ hE => by subst hp; exact kk H1 locs1 hE)
end C_x_placeOf
def x_sumOfWays_b49 (p1 : Int32) (w49 : Nat) : Bool × (Nat) := (if ((p1 >>> ((nI w49) &&& 31)) &&& (1 : Int32)) = 0 then (true, (w49 + 1)) else (false, w49))
def x_sumOfWays_j155 (w155 : Int64 × Int32 × ZT) : Int64 × Int32 × ZT := (w155.1, w155.2.1, w155.2.2)
def x_sumOfWays_j147 (w73 : Int64 × Int32 × ZT) (w147 : Int64 × ZT) : Int64 × Int32 × ZT := ((w73.1 + w147.1), (-w73.2.1), w147.2)
def x_sumOfWays_b73 (rec : Int32 → Int32 → Int64 → ZT → Int64 × ZT) (p1 : Int32) (p2 : Int32) (p3 : Int64) (w49 : Nat) (i73 : Nat) (w73 : Int64 × Int32 × ZT) : Int64 × Int32 × ZT := x_sumOfWays_j155 (if ((p2 >>> ((nI i73) &&& 31)) &&& (1 : Int32)) = (1 : Int32) then x_sumOfWays_j147 w73 (if w73.2.2.1 25 ((6 * w49) + i73) = 0 then ((0 : Int64), w73.2.2) else ((rec (p1 &&& (((1 : Int32) <<< ((nI w49) &&& 31)) ^^^ (-1 : Int32))) (p2 &&& (((1 : Int32) <<< ((nI i73) &&& 31)) ^^^ (-1 : Int32))) ((w73.2.1.toInt64 * p3) * ((w73.2.2.1 25 ((6 * w49) + i73)).toInt64)) w73.2.2).1, (rec (p1 &&& (((1 : Int32) <<< ((nI w49) &&& 31)) ^^^ (-1 : Int32))) (p2 &&& (((1 : Int32) <<< ((nI i73) &&& 31)) ^^^ (-1 : Int32))) ((w73.2.1.toInt64 * p3) * ((w73.2.2.1 25 ((6 * w49) + i73)).toInt64)) w73.2.2).2)) else (w73.1, w73.2.1, w73.2.2))
def x_sumOfWays_e73 (w73 : Int64 × Int32 × ZT) : Int64 × ZT := (w73.1, w73.2.2)
def x_sumOfWays_e49 (rec : Int32 → Int32 → Int64 → ZT → Int64 × ZT) (p1 : Int32) (p2 : Int32) (p3 : Int64) (Z : ZT) (w49 : Nat) : Int64 × ZT := x_sumOfWays_e73 (itR (x_sumOfWays_b73 rec p1 p2 p3 w49) 0 (ix (Z.1 23 0)) ((0 : Int64), (1 : Int32), Z))
def x_sumOfWays_j40 (p3 : Int64) (Z : ZT) (w20 : Int32) (w40 : Int32) : Int64 × ZT := (p3, sI (sI Z 26 0 ((Z.1 26 0) + w20)) 27 0 ((Z.1 27 0) + w40))
def x_sumOfWays_j20 (p3 : Int64) (Z : ZT) (w20 : Int32) : Int64 × ZT := x_sumOfWays_j40 p3 Z w20 (if (0 : Int64) ≤ p3 then (0 : Int32) else (1 : Int32))
def x_sumOfWays_body (rec : Int32 → Int32 → Int64 → ZT → Int64 × ZT) (p1 : Int32) (p2 : Int32) (p3 : Int64) (Z : ZT) : Int64 × ZT := (if p1 = 0 then x_sumOfWays_j20 p3 Z (if p3 ≤ (0 : Int64) then (0 : Int32) else (1 : Int32)) else x_sumOfWays_e49 rec p1 p2 p3 Z (wlR (x_sumOfWays_b49 p1) 33 0))
def x_sumOfWays : Nat → Int32 → Int32 → Int64 → ZT → Int64 × ZT
  | 0 => fun _ _ _ Z => (0, Z)
  | d + 1 => x_sumOfWays_body (x_sumOfWays d)
theorem sow_fr1 {k : Nat} (h1 : k ≠ 26) (h2 : k ≠ 27) : ∀ {d : Nat} {p1 p2 : Int32} {p3 : Int64} {Z : ZT}, (x_sumOfWays d p1 p2 p3 Z).2.1 k = Z.1 k := by
  intro d
  induction d with
  | zero => intro p1 p2 p3 Z; rfl
  | succ d ih =>
    intro p1 p2 p3 Z
    show (x_sumOfWays_body (x_sumOfWays d) p1 p2 p3 Z).2.1 k = Z.1 k
    unfold x_sumOfWays_body
    split
    · unfold x_sumOfWays_j20 x_sumOfWays_j40
      show (sI (sI Z 26 0 _) 27 0 _).1 k = _
      rw [sI_ne h2, sI_ne h1]
    · unfold x_sumOfWays_e49
      generalize wlR (x_sumOfWays_b49 p1) 33 0 = w49
      unfold x_sumOfWays_e73
      refine itR_ind (f := x_sumOfWays_b73 (x_sumOfWays d) p1 p2 p3 w49) (P := fun s : Int64 × Int32 × ZT => s.2.2.1 k = Z.1 k) (fun i s hs => ?_) _ _ _ rfl
      unfold x_sumOfWays_b73
      split
      · unfold x_sumOfWays_j155 x_sumOfWays_j147
        split
        · exact hs
        · show ((x_sumOfWays d) _ _ _ _).2.1 k = _
          rw [ih]
          exact hs
      · exact hs
theorem sow_23 {d : Nat} {p1 p2 : Int32} {p3 : Int64} {Z : ZT} : (x_sumOfWays d p1 p2 p3 Z).2.1 23 0 = Z.1 23 0 := by rw [sow_fr1 (by decide) (by decide)]
section R_x_sumOfWays
variable {p : Program} {l : Launch} {e : Env} {R : Room} {s : State} {mid : MethodId} {args : Array Value} {below : List Frame} {meth : Method} {c : Code} {H : Heap} {locs : List Loc} {cells slots : Nat} {Q : State → Prop} {cc : ByteArray} {pc : Nat} {ls : Array Slot} {rest : List Value} {D : va_G} {A : Nat → Prop} {x : Nat} {ar : Nat → Nat} {cs : Nat → ClassId} {B : BT} {Y : va_W} {Z : ZT} {nL r : Nat}
theorem call_x_sumOfWays_of {rm : Room} {spv : Int32 → Int32 → Int64 → ZT → Int64 × ZT} (hx : p.tables.exec = Jvm.exec) (hb : c.code = cc) (hml : c.maxLocals = nL) (hown : s.vm.findClass RX0 = some mid.cls) (hts : ∀ w ∈ lw_all, w.before args s = true) (hK : KK D cs s) (hA : ∀ q : Nat, s.heap.size ≤ q → A q) (hE : EW D A s.heap (WX x ar cs Z B Y) H locs) (hls : ls.size = nL) (p1 : Int32) (p2 : Int32) (p3 : Int64) (hM : Met l yX0_sumOfWays (ws_ yX0_sumOfWays cX0_sumOfWays 11 (some .long)) rm (va_Pc [.ref x, .int p1, .int p2, .long p3] (wSt D cs (WX x ar cs Z B Y) H.size)) (cQl (fun (v : Int64) (u : ZT) => spv p1 p2 p3 Z = (v, u)) D (fun u => (WX x ar cs u B Y)) (WX x ar cs Z B Y) H.size) 0 0 (va_A (WX x ar cs Z B Y) H.size)) (h1 : rm.frames + 1 ≤ R.frames) (h2 : 30 + rm.locals ≤ R.locals) (h3 : (rest.map fun v => v.category).sum ≤ 8) (hd : decode cc pc = .ok (.invokevirtual 327, 3)) (hf : cells ≤ R.cells ∧ slots ≤ R.slots) (kk : ∀ (H1 : Heap) (locs1 : List Loc), EW D A s.heap (WX x ar cs ((spv p1 p2 p3 Z).2) B Y) H1 locs1 → W p l e R s mid args below meth c H1 locs1 cells slots Q (F0 mid (pc + 3) ls (.long (spv p1 p2 p3 Z).1 :: rest))) (hrc : rm.cells = 0 := by rfl) (hrs : rm.slots = 0 := by rfl) : W p l e R s mid args below meth c H locs cells slots Q (F0 mid pc ls (.long p3 :: .int p2 :: .int p1 :: .ref x :: rest)) :=
  gCall_l (As := [.int p1, .int p2, .long p3]) (rest := rest) (q0 := 0) (ci := 0) (fs := XF ar Z) (T' := TX0) (N' := 29) hx hb hml hown hts hK hA hE hls hM (cwV 3 hts (lw_V q831 q833 qs30 q84 q834) rfl hrc hrs (by decide +kernel) ⟨h1, h2⟩) rfl rfl rfl rfl h3 hd hf (fun v u H1 locs1 hp _ hE => by rw [hp] at kk; exact kk H1 locs1 hE)
end R_x_sumOfWays
set_option maxHeartbeats 4000000 in
set_option maxRecDepth 100000 in
theorem step_x_sumOfWays (l : Launch) (D : va_G) (cs : Nat → ClassId) (x : Nat) (ar : Nat → Nat) (B : BT) (Y : va_W) (d : Nat) (hrec : ∀ (Z : ZT) (sz : Nat) (p1 : Int32) (p2 : Int32) (p3 : Int64) (hS : ∃ n : Nat, n ≤ 6 ∧ Z.1 23 0 = nI n ∧ ∀ b : Nat, b < 32 → bt p1 b = true → b < n), 8 - zc p1 + 1 ≤ d → Met l yX0_sumOfWays (ws_ yX0_sumOfWays cX0_sumOfWays 11 (some .long)) ({ frames := 0 + (d - 1), cells := 0, slots := 0, locals := 0 + (d - 1) * 30 }) (va_Pc [.ref x, .int p1, .int p2, .long p3] (wSt D cs (WX x ar cs Z B Y) sz)) (cQl (fun (v : Int64) (u : ZT) => x_sumOfWays d p1 p2 p3 Z = (v, u)) D (fun u => (WX x ar cs u B Y)) (WX x ar cs Z B Y) sz) 0 0 (va_A (WX x ar cs Z B Y) sz)) (Z : ZT) (sz : Nat) (p1 : Int32) (p2 : Int32) (p3 : Int64) (hS : ∃ n : Nat, n ≤ 6 ∧ Z.1 23 0 = nI n ∧ ∀ b : Nat, b < 32 → bt p1 b = true → b < n) (hmu : 8 - zc p1 ≤ d) : Met l yX0_sumOfWays (ws_ yX0_sumOfWays cX0_sumOfWays 11 (some .long)) ({ frames := 0 + d, cells := 0, slots := 0, locals := 0 + d * 30 }) (va_Pc [.ref x, .int p1, .int p2, .long p3] (wSt D cs (WX x ar cs Z B Y) sz)) (cQl (fun (v : Int64) (u : ZT) => x_sumOfWays (d + 1) p1 p2 p3 Z = (v, u)) D (fun u => (WX x ar cs u B Y)) (WX x ar cs Z B Y) sz) 0 0 (va_A (WX x ar cs Z B Y) sz) := by
  refine gStart_l (C := RX0) rfl rfl (Nat.le_of_ble_eq_true rfl) ?_
  intro p e s mid args below meth c R Q A hx hb hml hown hts hK hA hRf hRl hRc hRs hret hE ls hl
  have hRf : 0 + d ≤ R.frames := hRf
  have hRl : 0 + d * 30 ≤ R.locals := hRl
  have hl : lv_has ls 11 [(0, .ref x), (1, .int p1), (2, .int p2), (3, .long p3)] := hl
  have hR : x_sumOfWays (d + 1) p1 p2 p3 Z = (if p1 = 0 then x_sumOfWays_j20 p3 Z (if p3 ≤ (0 : Int64) then (0 : Int32) else (1 : Int32)) else x_sumOfWays_e49 (x_sumOfWays d) p1 p2 p3 Z (wlR (x_sumOfWays_b49 p1) 33 0)) := rfl
  obtain ⟨n6, hn6, hnn, hrow⟩ := hS
  have hnx : ix (Z.1 23 0) = n6 := by rw [hnn]; exact ix_nI (by omega)
  refine lv_iload_n hx hb dX0_sumOfWays_0 rfl (lv_at hl 1 rfl) ?_
  refine lv_if_ne (tgt := 46) hx hb dX0_sumOfWays_1 (by decide) (fun c1 => ?_) (fun c1 => ?_)
  · have hR : x_sumOfWays (d + 1) p1 p2 p3 Z = (x_sumOfWays_e49 (x_sumOfWays d) p1 p2 p3 Z (wlR (x_sumOfWays_b49 p1) 33 0)) := hR.trans (congrArg (fun z => z) (if_neg c1))
    refine lv_iconst (v := 0) hx hb dX0_sumOfWays_46 rfl ?_
    refine lv_istore (lv' := [(5, .int (0 : Int32)), (0, .ref x), (1, .int p1), (2, .int p2), (3, .long p3)]) hx hb dX0_sumOfWays_47 hl (by decide) rfl (fun ls hl => ?_)
    have hX49 : ∀ (w49 : Nat) (hr49 : ∃ b : Nat, w49 ≤ b ∧ b < 6 ∧ bt p1 b = true) (hx49 : bt p1 w49 = true ∧ w49 < 6) (hR : x_sumOfWays (d + 1) p1 p2 p3 Z = x_sumOfWays_e49 (x_sumOfWays d) p1 p2 p3 Z w49), ∀ (H : Heap) (locs : List Loc) (ls : Array Slot), EW D A s.heap (WX x ar cs Z B Y) H locs → lv_has ls 11 [(0, .ref x), (1, .int p1), (2, .int p2), (3, .long p3), (5, .int (nI w49))] → W p l e R s mid args below meth c H locs 0 0 Q (F0 mid 64 ls []) := by
      intro w49 hr49 hx49 hR H locs ls hE hl
      have hR : x_sumOfWays (d + 1) p1 p2 p3 Z = (x_sumOfWays_e73 (itR (x_sumOfWays_b73 (x_sumOfWays d) p1 p2 p3 w49) 0 (ix (Z.1 23 0)) ((0 : Int64), (1 : Int32), Z))) := hR
      have hd1 : 1 ≤ d := sow_pos hmu hx49.2 hx49.1
      refine lv_lconst (v := 0) hx hb dX0_sumOfWays_64 rfl ?_
      refine lv_lstore (lv' := [(6, .long (0 : Int64)), (0, .ref x), (1, .int p1), (2, .int p2), (3, .long p3), (5, .int (nI w49))]) hx hb dX0_sumOfWays_65 hl (by decide) rfl (fun ls hl => ?_)
      refine lv_iconst (v := 1) hx hb dX0_sumOfWays_67 rfl ?_
      refine lv_istore (lv' := [(8, .int (1 : Int32)), (6, .long (0 : Int64)), (0, .ref x), (1, .int p1), (2, .int p2), (3, .long p3), (5, .int (nI w49))]) hx hb dX0_sumOfWays_68 hl (by decide) rfl (fun ls hl => ?_)
      refine lv_iconst (v := 0) hx hb dX0_sumOfWays_70 rfl ?_
      refine lv_istore (lv' := [(9, .int (0 : Int32)), (8, .int (1 : Int32)), (6, .long (0 : Int64)), (0, .ref x), (1, .int p1), (2, .int p2), (3, .long p3), (5, .int (nI w49))]) hx hb dX0_sumOfWays_71 hl (by decide) rfl (fun ls hl => ?_)
      have hL73 : ∀ (k i73 : Nat) (w73 : Int64 × Int32 × ZT) (hi73 : i73 + k = (ix (Z.1 23 0))) (hz73 : w73.2.2.1 23 0 = Z.1 23 0) (hR : x_sumOfWays (d + 1) p1 p2 p3 Z = x_sumOfWays_e73 (itR (x_sumOfWays_b73 (x_sumOfWays d) p1 p2 p3 w49) i73 k w73)), ∀ (H : Heap) (locs : List Loc) (ls : Array Slot), EW D A s.heap (WX x ar cs w73.2.2 B Y) H locs → lv_has ls 11 [(0, .ref x), (1, .int p1), (2, .int p2), (3, .long p3), (5, .int (nI w49)), (6, .long w73.1), (8, .int w73.2.1), (9, .int (nI i73))] → W p l e R s mid args below meth c H locs 0 0 Q (F0 mid 73 ls []) := by
        intro k
        induction k with
        | zero =>
          intro i73 w73 hi73 hz73 hR H locs ls hE hl
          have hie73 : i73 = (ix (Z.1 23 0)) := by omega
          have hbx73 : ix (w73.2.2.1 23 0) = ix (Z.1 23 0) := by rw [hz73]
          have hR : x_sumOfWays (d + 1) p1 p2 p3 Z = (w73.1, w73.2.2) := hR
          refine lv_iload hx hb dX0_sumOfWays_73 (lv_at hl 7 rfl) ?_
          refine lv_aload_n hx hb dX0_sumOfWays_75 rfl (lv_at hl 0 rfl) ?_
          refine xg_23 hx hb hts hown hK hE dX0_sumOfWays_76 ?_
          have hna76 := vp_ix (x := w73.2.2.1 23 0) (N := 7) (by rw [hz73, hnn]; exact vp_in_nI (by omega) (by decide)) (by decide)
          have hna76b := hna76.2
          refine top_nat hna76.1 ?_
          refine n_geT (a := i73) (b := (ix (w73.2.2.1 23 0))) (by omega) (by omega) hx hb dX0_sumOfWays_79 (tgt := 161) (by decide) ?_
          have hl := lv_sub (l' := [(0, .ref x), (1, .int p1), (2, .int p2), (3, .long p3), (5, .int (nI w49)), (6, .long w73.1), (8, .int w73.2.1)]) hl [0, 1, 2, 3, 4, 5, 6] rfl
          refine lv_lload hx hb dX0_sumOfWays_161 (lv_at hl 5 rfl) ?_
          exact hret w73.1 w73.2.2 hR hE (Nat.le_refl 0) (Nat.le_refl 0) dX0_sumOfWays_163
        | succ k ih73 =>
          intro i73 w73 hi73 hz73 hR H locs ls hE hl
          have hlt73 : i73 < (ix (Z.1 23 0)) := by omega
          have hbx73 : ix (w73.2.2.1 23 0) = ix (Z.1 23 0) := by rw [hz73]
          have hB73 : x_sumOfWays_b73 (x_sumOfWays d) p1 p2 p3 w49 i73 w73 = x_sumOfWays_j155 (if ((p2 >>> ((nI i73) &&& 31)) &&& (1 : Int32)) = (1 : Int32) then x_sumOfWays_j147 w73 (if w73.2.2.1 25 ((6 * w49) + i73) = 0 then ((0 : Int64), w73.2.2) else (((x_sumOfWays d) (p1 &&& (((1 : Int32) <<< ((nI w49) &&& 31)) ^^^ (-1 : Int32))) (p2 &&& (((1 : Int32) <<< ((nI i73) &&& 31)) ^^^ (-1 : Int32))) ((w73.2.1.toInt64 * p3) * ((w73.2.2.1 25 ((6 * w49) + i73)).toInt64)) w73.2.2).1, ((x_sumOfWays d) (p1 &&& (((1 : Int32) <<< ((nI w49) &&& 31)) ^^^ (-1 : Int32))) (p2 &&& (((1 : Int32) <<< ((nI i73) &&& 31)) ^^^ (-1 : Int32))) ((w73.2.1.toInt64 * p3) * ((w73.2.2.1 25 ((6 * w49) + i73)).toInt64)) w73.2.2).2)) else (w73.1, w73.2.1, w73.2.2)) := rfl
          refine lv_iload hx hb dX0_sumOfWays_73 (lv_at hl 7 rfl) ?_
          refine lv_aload_n hx hb dX0_sumOfWays_75 rfl (lv_at hl 0 rfl) ?_
          refine xg_23 hx hb hts hown hK hE dX0_sumOfWays_76 ?_
          have hna76 := vp_ix (x := w73.2.2.1 23 0) (N := 7) (by rw [hz73, hnn]; exact vp_in_nI (by omega) (by decide)) (by decide)
          have hna76b := hna76.2
          refine top_nat hna76.1 ?_
          refine n_geF (a := i73) (b := (ix (w73.2.2.1 23 0))) (by omega) (by omega) hx hb dX0_sumOfWays_79 (tgt := 161) (by decide) ?_
          refine lv_iload_n hx hb dX0_sumOfWays_82 rfl (lv_at hl 2 rfl) ?_
          refine lv_iload hx hb dX0_sumOfWays_83 (lv_at hl 7 rfl) ?_
          refine lv_ishr hx hb dX0_sumOfWays_85 ?_
          refine lv_iconst (v := 1) hx hb dX0_sumOfWays_86 rfl ?_
          refine lv_iand hx hb dX0_sumOfWays_87 ?_
          refine lv_iconst (v := 1) hx hb dX0_sumOfWays_88 rfl ?_
          have hJ155 : ∀ (w155 : Int64 × Int32 × ZT) (hz155 : w155.2.2.1 23 0 = Z.1 23 0) (hB73 : x_sumOfWays_b73 (x_sumOfWays d) p1 p2 p3 w49 i73 w73 = x_sumOfWays_j155 w155), ∀ (H : Heap) (locs : List Loc) (ls : Array Slot), EW D A s.heap (WX x ar cs w155.2.2 B Y) H locs → lv_has ls 11 [(0, .ref x), (1, .int p1), (2, .int p2), (3, .long p3), (5, .int (nI w49)), (6, .long w155.1), (8, .int w155.2.1), (9, .int (nI i73))] → W p l e R s mid args below meth c H locs 0 0 Q (F0 mid 155 ls []) := by
            intro w155 hz155 hB73 H locs ls hE hl
            have hB73 : x_sumOfWays_b73 (x_sumOfWays d) p1 p2 p3 w49 i73 w73 = (w155.1, w155.2.1, w155.2.2) := hB73
            refine n_inc (lv' := [(9, .int (nI (i73 + 1))), (0, .ref x), (1, .int p1), (2, .int p2), (3, .long p3), (5, .int (nI w49)), (6, .long w155.1), (8, .int w155.2.1)]) hx hb dX0_sumOfWays_155 hl (k := 7) rfl (by decide) rfl (fun ls hl => ?_)
            refine lv_goto (tgt := 73) hx hb dX0_sumOfWays_158 (by decide) ?_
            exact ih73 (i73 + 1) (w155.1, w155.2.1, w155.2.2) (by omega) (by exact hz155) (hR.trans (congrArg (fun z => x_sumOfWays_e73 (itR (x_sumOfWays_b73 (x_sumOfWays d) p1 p2 p3 w49) (i73 + 1) k z)) hB73)) _ _ _ hE (lv_sub hl [1, 2, 3, 4, 5, 6, 7, 0] rfl)
          refine lv_icmp_ne (tgt := 155) hx hb dX0_sumOfWays_89 (by decide) (fun c89 => ?_) (fun c89 => ?_)
          · have hB73 : x_sumOfWays_b73 (x_sumOfWays d) p1 p2 p3 w49 i73 w73 = x_sumOfWays_j155 (w73.1, w73.2.1, w73.2.2) := hB73.trans (congrArg (fun z => x_sumOfWays_j155 z) (if_neg c89))
            exact hJ155 (w73.1, w73.2.1, w73.2.2)  (by first | exact hz147 | exact hz73) hB73 _ _ _ hE (lv_sub hl [0, 1, 2, 3, 4, 5, 6, 7] rfl)
          · have hB73 : x_sumOfWays_b73 (x_sumOfWays d) p1 p2 p3 w49 i73 w73 = x_sumOfWays_j155 (x_sumOfWays_j147 w73 (if w73.2.2.1 25 ((6 * w49) + i73) = 0 then ((0 : Int64), w73.2.2) else (((x_sumOfWays d) (p1 &&& (((1 : Int32) <<< ((nI w49) &&& 31)) ^^^ (-1 : Int32))) (p2 &&& (((1 : Int32) <<< ((nI i73) &&& 31)) ^^^ (-1 : Int32))) ((w73.2.1.toInt64 * p3) * ((w73.2.2.1 25 ((6 * w49) + i73)).toInt64)) w73.2.2).1, ((x_sumOfWays d) (p1 &&& (((1 : Int32) <<< ((nI w49) &&& 31)) ^^^ (-1 : Int32))) (p2 &&& (((1 : Int32) <<< ((nI i73) &&& 31)) ^^^ (-1 : Int32))) ((w73.2.1.toInt64 * p3) * ((w73.2.2.1 25 ((6 * w49) + i73)).toInt64)) w73.2.2).2))) := hB73.trans (congrArg (fun z => x_sumOfWays_j155 z) (if_pos c89))
            refine lv_aload_n hx hb dX0_sumOfWays_92 rfl (lv_at hl 0 rfl) ?_
            refine xg_25 hx hb hts hown hK hE dX0_sumOfWays_93 ?_
            refine lv_bipush (v := 6) hx hb dX0_sumOfWays_96 rfl ?_
            refine lv_iload hx hb dX0_sumOfWays_98 (lv_at hl 4 rfl) ?_
            refine n_mul (a := 6) (b := w49) hx hb dX0_sumOfWays_100 ?_
            refine lv_iload hx hb dX0_sumOfWays_101 (lv_at hl 7 rfl) ?_
            refine n_add (a := (6 * w49)) (b := i73) hx hb dX0_sumOfWays_103 ?_
            refine xa_25 (n := ((6 * w49) + i73)) (by omega) hx hb hK hE dX0_sumOfWays_104 ?_
            refine lv_istore (lv' := [(10, .int (w73.2.2.1 25 ((6 * w49) + i73))), (0, .ref x), (1, .int p1), (2, .int p2), (3, .long p3), (5, .int (nI w49)), (6, .long w73.1), (8, .int w73.2.1), (9, .int (nI i73))]) hx hb dX0_sumOfWays_105 hl (by decide) rfl (fun ls hl => ?_)
            refine lv_lload hx hb dX0_sumOfWays_107 (lv_at hl 6 rfl) ?_
            refine lv_iload hx hb dX0_sumOfWays_109 (lv_at hl 0 rfl) ?_
            have hJ147 : ∀ (w147 : Int64 × ZT) (hz147 : w147.2.1 23 0 = Z.1 23 0) (hB73 : x_sumOfWays_b73 (x_sumOfWays d) p1 p2 p3 w49 i73 w73 = x_sumOfWays_j155 (x_sumOfWays_j147 w73 w147)), ∀ (H : Heap) (locs : List Loc) (ls : Array Slot), EW D A s.heap (WX x ar cs w147.2 B Y) H locs → lv_has ls 11 [(0, .ref x), (1, .int p1), (2, .int p2), (3, .long p3), (5, .int (nI w49)), (8, .int w73.2.1), (9, .int (nI i73))] → W p l e R s mid args below meth c H locs 0 0 Q (F0 mid 147 ls [.long w147.1, .long w73.1]) := by
              intro w147 hz147 hB73 H locs ls hE hl
              have hB73 : x_sumOfWays_b73 (x_sumOfWays d) p1 p2 p3 w49 i73 w73 = x_sumOfWays_j155 ((w73.1 + w147.1), (-w73.2.1), w147.2) := hB73
              refine lv_ladd hx hb dX0_sumOfWays_147 ?_
              refine lv_lstore (lv' := [(6, .long (w73.1 + w147.1)), (0, .ref x), (1, .int p1), (2, .int p2), (3, .long p3), (5, .int (nI w49)), (8, .int w73.2.1), (9, .int (nI i73))]) hx hb dX0_sumOfWays_148 hl (by decide) rfl (fun ls hl => ?_)
              refine lv_iload hx hb dX0_sumOfWays_150 (lv_at hl 6 rfl) ?_
              refine lv_ineg hx hb dX0_sumOfWays_152 ?_
              refine lv_istore (lv' := [(8, .int (-w73.2.1)), (6, .long (w73.1 + w147.1)), (0, .ref x), (1, .int p1), (2, .int p2), (3, .long p3), (5, .int (nI w49)), (9, .int (nI i73))]) hx hb dX0_sumOfWays_153 hl (by decide) rfl (fun ls hl => ?_)
              exact hJ155 ((w73.1 + w147.1), (-w73.2.1), w147.2)  (by first | exact hz147 | exact hz73) hB73 _ _ _ hE (lv_sub hl [2, 3, 4, 5, 6, 1, 0, 7] rfl)
            refine lv_if_ne (tgt := 118) hx hb dX0_sumOfWays_111 (by decide) (fun c111 => ?_) (fun c111 => ?_)
            · have hB73 : x_sumOfWays_b73 (x_sumOfWays d) p1 p2 p3 w49 i73 w73 = x_sumOfWays_j155 (x_sumOfWays_j147 w73 (((x_sumOfWays d) (p1 &&& (((1 : Int32) <<< ((nI w49) &&& 31)) ^^^ (-1 : Int32))) (p2 &&& (((1 : Int32) <<< ((nI i73) &&& 31)) ^^^ (-1 : Int32))) ((w73.2.1.toInt64 * p3) * ((w73.2.2.1 25 ((6 * w49) + i73)).toInt64)) w73.2.2).1, ((x_sumOfWays d) (p1 &&& (((1 : Int32) <<< ((nI w49) &&& 31)) ^^^ (-1 : Int32))) (p2 &&& (((1 : Int32) <<< ((nI i73) &&& 31)) ^^^ (-1 : Int32))) ((w73.2.1.toInt64 * p3) * ((w73.2.2.1 25 ((6 * w49) + i73)).toInt64)) w73.2.2).2)) := hB73.trans (congrArg (fun z => x_sumOfWays_j155 (x_sumOfWays_j147 w73 z)) (if_neg c111))
              refine lv_aload_n hx hb dX0_sumOfWays_118 rfl (lv_at hl 1 rfl) ?_
              refine lv_iload_n hx hb dX0_sumOfWays_119 rfl (lv_at hl 2 rfl) ?_
              refine lv_iconst (v := 1) hx hb dX0_sumOfWays_120 rfl ?_
              refine lv_iload hx hb dX0_sumOfWays_121 (lv_at hl 5 rfl) ?_
              refine lv_ishl hx hb dX0_sumOfWays_123 ?_
              refine lv_iconst (v := -1) hx hb dX0_sumOfWays_124 rfl ?_
              refine lv_ixor hx hb dX0_sumOfWays_125 ?_
              refine lv_iand hx hb dX0_sumOfWays_126 ?_
              refine lv_iload_n hx hb dX0_sumOfWays_127 rfl (lv_at hl 3 rfl) ?_
              refine lv_iconst (v := 1) hx hb dX0_sumOfWays_128 rfl ?_
              refine lv_iload hx hb dX0_sumOfWays_129 (lv_at hl 8 rfl) ?_
              refine lv_ishl hx hb dX0_sumOfWays_131 ?_
              refine lv_iconst (v := -1) hx hb dX0_sumOfWays_132 rfl ?_
              refine lv_ixor hx hb dX0_sumOfWays_133 ?_
              refine lv_iand hx hb dX0_sumOfWays_134 ?_
              refine lv_iload hx hb dX0_sumOfWays_135 (lv_at hl 7 rfl) ?_
              refine lv_i2l hx hb dX0_sumOfWays_137 rfl ?_
              refine lv_lload_n hx hb dX0_sumOfWays_138 rfl (lv_at hl 4 rfl) ?_
              refine lv_lmul hx hb dX0_sumOfWays_139 ?_
              refine lv_iload hx hb dX0_sumOfWays_140 (lv_at hl 0 rfl) ?_
              refine lv_i2l hx hb dX0_sumOfWays_142 rfl ?_
              refine lv_lmul hx hb dX0_sumOfWays_143 ?_
              refine call_x_sumOfWays_of (rm := { frames := 0 + (d - 1), cells := 0, slots := 0, locals := 0 + (d - 1) * 30 }) hx hb hml hown hts hK hA hE hl.1 (p1 &&& (((1 : Int32) <<< ((nI w49) &&& 31)) ^^^ (-1 : Int32))) (p2 &&& (((1 : Int32) <<< ((nI i73) &&& 31)) ^^^ (-1 : Int32))) ((w73.2.1.toInt64 * p3) * ((w73.2.2.1 25 ((6 * w49) + i73)).toInt64)) (hrec w73.2.2 _ (p1 &&& (((1 : Int32) <<< ((nI w49) &&& 31)) ^^^ (-1 : Int32))) (p2 &&& (((1 : Int32) <<< ((nI i73) &&& 31)) ^^^ (-1 : Int32))) ((w73.2.1.toInt64 * p3) * ((w73.2.2.1 25 ((6 * w49) + i73)).toInt64)) (by exact ⟨n6, hn6, by rw [hz73]; exact hnn, fun b hb h => hrow b hb (and_l h)⟩) (by exact sow_mu hmu hx49.2 hx49.1)) (by show 0 + (d - 1) + 1 ≤ R.frames; omega) (by show 30 + (0 + (d - 1) * 30) ≤ R.locals; omega) (Nat.le_of_ble_eq_true rfl) dX0_sumOfWays_144 ⟨Nat.zero_le _, Nat.zero_le _⟩ (fun H locs hE => ?_)
              exact hJ147 (((x_sumOfWays d) (p1 &&& (((1 : Int32) <<< ((nI w49) &&& 31)) ^^^ (-1 : Int32))) (p2 &&& (((1 : Int32) <<< ((nI i73) &&& 31)) ^^^ (-1 : Int32))) ((w73.2.1.toInt64 * p3) * ((w73.2.2.1 25 ((6 * w49) + i73)).toInt64)) w73.2.2).1, ((x_sumOfWays d) (p1 &&& (((1 : Int32) <<< ((nI w49) &&& 31)) ^^^ (-1 : Int32))) (p2 &&& (((1 : Int32) <<< ((nI i73) &&& 31)) ^^^ (-1 : Int32))) ((w73.2.1.toInt64 * p3) * ((w73.2.2.1 25 ((6 * w49) + i73)).toInt64)) w73.2.2).2)  (by first | exact hz73 | (rw [sow_23]; exact hz73)) hB73 _ _ _ hE (lv_sub hl [1, 2, 3, 4, 5, 7, 8] rfl)
            · have hB73 : x_sumOfWays_b73 (x_sumOfWays d) p1 p2 p3 w49 i73 w73 = x_sumOfWays_j155 (x_sumOfWays_j147 w73 ((0 : Int64), w73.2.2)) := hB73.trans (congrArg (fun z => x_sumOfWays_j155 (x_sumOfWays_j147 w73 z)) (if_pos c111))
              refine lv_lconst (v := 0) hx hb dX0_sumOfWays_114 rfl ?_
              refine lv_goto (tgt := 147) hx hb dX0_sumOfWays_115 (by decide) ?_
              exact hJ147 ((0 : Int64), w73.2.2)  (by first | exact hz73 | (rw [sow_23]; exact hz73)) hB73 _ _ _ hE (lv_sub hl [1, 2, 3, 4, 5, 7, 8] rfl)
      exact hL73 (ix (Z.1 23 0)) 0 ((0 : Int64), (1 : Int32), Z) (by omega) (by exact rfl) hR _ _ _ hE (lv_sub hl [3, 4, 5, 6, 7, 2, 1, 0] rfl)
    have hL49 : ∀ (n : Nat) (w49 : Nat) (hm49 : 32 - w49 < n) (hr49 : ∃ b : Nat, w49 ≤ b ∧ b < 6 ∧ bt p1 b = true) (hR : x_sumOfWays (d + 1) p1 p2 p3 Z = x_sumOfWays_e49 (x_sumOfWays d) p1 p2 p3 Z (wlR (x_sumOfWays_b49 p1) n w49)), ∀ (H : Heap) (locs : List Loc) (ls : Array Slot), EW D A s.heap (WX x ar cs Z B Y) H locs → lv_has ls 11 [(0, .ref x), (1, .int p1), (2, .int p2), (3, .long p3), (5, .int (nI w49))] → W p l e R s mid args below meth c H locs 0 0 Q (F0 mid 49 ls []) := by
      intro n
      induction n with
      | zero =>
        intro w49 hm49
        exact absurd hm49 (Nat.not_lt_zero _)
      | succ n ih49 =>
        intro w49 hm49 hr49 hR H locs ls hE hl
        have hlt49 : w49 < 6 := by obtain ⟨b, h1, h2, -⟩ := hr49; omega
        have hB49 : x_sumOfWays_b49 p1 w49 = (if ((p1 >>> ((nI w49) &&& 31)) &&& (1 : Int32)) = 0 then (true, (w49 + 1)) else (false, w49)) := rfl
        refine lv_iload_n hx hb dX0_sumOfWays_49 rfl (lv_at hl 1 rfl) ?_
        refine lv_iload hx hb dX0_sumOfWays_50 (lv_at hl 4 rfl) ?_
        refine lv_ishr hx hb dX0_sumOfWays_52 ?_
        refine lv_iconst (v := 1) hx hb dX0_sumOfWays_53 rfl ?_
        refine lv_iand hx hb dX0_sumOfWays_54 ?_
        refine lv_if_ne (tgt := 64) hx hb dX0_sumOfWays_55 (by decide) (fun c55 => ?_) (fun c55 => ?_)
        · have hB49 : x_sumOfWays_b49 p1 w49 = (false, w49) := hB49.trans (congrArg (fun z => z) (if_neg c55))
          exact hX49 w49 (by exact hr49) (by exact row_end hr49 c55) (hR.trans (congrArg (fun z => x_sumOfWays_e49 (x_sumOfWays d) p1 p2 p3 Z z) (wl_f hB49))) _ _ _ hE (lv_sub hl [0, 1, 2, 3, 4] rfl)
        · have hB49 : x_sumOfWays_b49 p1 w49 = (true, (w49 + 1)) := hB49.trans (congrArg (fun z => z) (if_pos c55))
          refine n_inc (lv' := [(5, .int (nI (w49 + 1))), (0, .ref x), (1, .int p1), (2, .int p2), (3, .long p3)]) hx hb dX0_sumOfWays_58 hl (k := 4) rfl (by decide) rfl (fun ls hl => ?_)
          refine lv_goto (tgt := 49) hx hb dX0_sumOfWays_61 (by decide) ?_
          exact ih49 (w49 + 1) (by show 32 - (w49 + 1) < n; omega) (by exact row_step hr49 c55) (hR.trans (congrArg (fun z => x_sumOfWays_e49 (x_sumOfWays d) p1 p2 p3 Z z) (wl_t hB49))) _ _ _ hE (lv_sub hl [1, 2, 3, 4, 0] rfl)
    exact hL49 33 0 (by show 32 - 0 < 33; decide) (by exact row_init hrow hn6 c1) hR _ _ _ hE (lv_sub hl [1, 2, 3, 4, 0] rfl)
  · have hR : x_sumOfWays (d + 1) p1 p2 p3 Z = (x_sumOfWays_j20 p3 Z (if p3 ≤ (0 : Int64) then (0 : Int32) else (1 : Int32))) := hR.trans (congrArg (fun z => z) (if_pos c1))
    refine lv_aload_n hx hb dX0_sumOfWays_4 rfl (lv_at hl 0 rfl) ?_
    refine lv_dup hx hb dX0_sumOfWays_5 rfl ?_
    refine xg_26 hx hb hts hown hK hE dX0_sumOfWays_6 ?_
    refine lv_lload_n hx hb dX0_sumOfWays_9 rfl (lv_at hl 3 rfl) ?_
    refine lv_lconst (v := 0) hx hb dX0_sumOfWays_10 rfl ?_
    have hJ20 : ∀ (w20 : Int32) (hR : x_sumOfWays (d + 1) p1 p2 p3 Z = x_sumOfWays_j20 p3 Z w20), ∀ (H : Heap) (locs : List Loc) (ls : Array Slot), EW D A s.heap (WX x ar cs Z B Y) H locs → lv_has ls 11 [(0, .ref x), (3, .long p3)] → W p l e R s mid args below meth c H locs 0 0 Q (F0 mid 20 ls [.int w20, .int (Z.1 26 0), .ref x]) := by
      intro w20 hR H locs ls hE hl
      have hR : x_sumOfWays (d + 1) p1 p2 p3 Z = (x_sumOfWays_j40 p3 Z w20 (if (0 : Int64) ≤ p3 then (0 : Int32) else (1 : Int32))) := hR
      refine lv_iadd hx hb dX0_sumOfWays_20 ?_
      refine xp_26 hx hb hts hown hK hE dX0_sumOfWays_21 (fun H locs hE => ?_)
      refine lv_aload_n hx hb dX0_sumOfWays_24 rfl (lv_at hl 0 rfl) ?_
      refine lv_dup hx hb dX0_sumOfWays_25 rfl ?_
      refine xg_27 hx hb hts hown hK hE dX0_sumOfWays_26 ?_
      refine lv_lload_n hx hb dX0_sumOfWays_29 rfl (lv_at hl 1 rfl) ?_
      refine lv_lconst (v := 0) hx hb dX0_sumOfWays_30 rfl ?_
      have hJ40 : ∀ (w40 : Int32) (hR : x_sumOfWays (d + 1) p1 p2 p3 Z = x_sumOfWays_j40 p3 Z w20 w40), ∀ (H : Heap) (locs : List Loc) (ls : Array Slot), EW D A s.heap (WX x ar cs (sI Z 26 0 ((Z.1 26 0) + w20)) B Y) H locs → lv_has ls 11 [(3, .long p3)] → W p l e R s mid args below meth c H locs 0 0 Q (F0 mid 40 ls [.int w40, .int (Z.1 27 0), .ref x]) := by
        intro w40 hR H locs ls hE hl
        have hR : x_sumOfWays (d + 1) p1 p2 p3 Z = (p3, sI (sI Z 26 0 ((Z.1 26 0) + w20)) 27 0 ((Z.1 27 0) + w40)) := hR
        refine lv_iadd hx hb dX0_sumOfWays_40 ?_
        refine xp_27 hx hb hts hown hK hE dX0_sumOfWays_41 (fun H locs hE => ?_)
        refine lv_lload_n hx hb dX0_sumOfWays_44 rfl (lv_at hl 0 rfl) ?_
        exact hret p3 (sI (sI Z 26 0 ((Z.1 26 0) + w20)) 27 0 ((Z.1 27 0) + w40)) hR hE (Nat.le_refl 0) (Nat.le_refl 0) dX0_sumOfWays_45
      refine l_ge (tgt := 39) hx hb dX0_sumOfWays_31 dX0_sumOfWays_32 (by decide) (fun c31 => ?_) (fun c31 => ?_)
      · have hR : x_sumOfWays (d + 1) p1 p2 p3 Z = x_sumOfWays_j40 p3 Z w20 (0 : Int32) := hR.trans (congrArg (fun z => x_sumOfWays_j40 p3 Z w20 z) (if_pos c31))
        refine lv_iconst (v := 0) hx hb dX0_sumOfWays_39 rfl ?_
        exact hJ40 (0 : Int32)  hR _ _ _ hE (lv_sub hl [1] rfl)
      · have hR : x_sumOfWays (d + 1) p1 p2 p3 Z = x_sumOfWays_j40 p3 Z w20 (1 : Int32) := hR.trans (congrArg (fun z => x_sumOfWays_j40 p3 Z w20 z) (if_neg c31))
        refine lv_iconst (v := 1) hx hb dX0_sumOfWays_35 rfl ?_
        refine lv_goto (tgt := 40) hx hb dX0_sumOfWays_36 (by decide) ?_
        exact hJ40 (1 : Int32)  hR _ _ _ hE (lv_sub hl [1] rfl)
    refine l_le (tgt := 19) hx hb dX0_sumOfWays_11 dX0_sumOfWays_12 (by decide) (fun c11 => ?_) (fun c11 => ?_)
    · have hR : x_sumOfWays (d + 1) p1 p2 p3 Z = x_sumOfWays_j20 p3 Z (0 : Int32) := hR.trans (congrArg (fun z => x_sumOfWays_j20 p3 Z z) (if_pos c11))
      refine lv_iconst (v := 0) hx hb dX0_sumOfWays_19 rfl ?_
      exact hJ20 (0 : Int32)  hR _ _ _ hE (lv_sub hl [0, 3] rfl)
    · have hR : x_sumOfWays (d + 1) p1 p2 p3 Z = x_sumOfWays_j20 p3 Z (1 : Int32) := hR.trans (congrArg (fun z => x_sumOfWays_j20 p3 Z z) (if_neg c11))
      refine lv_iconst (v := 1) hx hb dX0_sumOfWays_15 rfl ?_
      refine lv_goto (tgt := 20) hx hb dX0_sumOfWays_16 (by decide) ?_
      exact hJ20 (1 : Int32)  hR _ _ _ hE (lv_sub hl [0, 3] rfl)
theorem met_x_sumOfWays (l : Launch) (D : va_G) (cs : Nat → ClassId) (x : Nat) (ar : Nat → Nat) (B : BT) (Y : va_W) (d : Nat) : ∀ (Z : ZT) (sz : Nat) (p1 : Int32) (p2 : Int32) (p3 : Int64) (hS : ∃ n : Nat, n ≤ 6 ∧ Z.1 23 0 = nI n ∧ ∀ b : Nat, b < 32 → bt p1 b = true → b < n) (hmu : 8 - zc p1 ≤ d), Met l yX0_sumOfWays (ws_ yX0_sumOfWays cX0_sumOfWays 11 (some .long)) ({ frames := 0 + d, cells := 0, slots := 0, locals := 0 + d * 30 }) (va_Pc [.ref x, .int p1, .int p2, .long p3] (wSt D cs (WX x ar cs Z B Y) sz)) (cQl (fun (v : Int64) (u : ZT) => x_sumOfWays (d + 1) p1 p2 p3 Z = (v, u)) D (fun u => (WX x ar cs u B Y)) (WX x ar cs Z B Y) sz) 0 0 (va_A (WX x ar cs Z B Y) sz) := by
  induction d with
  | zero => exact step_x_sumOfWays l D cs x ar B Y 0 (fun _ _ _ _ _ _ h => absurd h (Nat.not_succ_le_zero _))
  | succ d ih => exact step_x_sumOfWays l D cs x ar B Y (d + 1) (fun Z sz p1 p2 p3 hS h => ih Z sz p1 p2 p3 hS (Nat.le_of_succ_le_succ h))
section C_x_sumOfWays
variable {p : Program} {l : Launch} {e : Env} {R : Room} {s : State} {mid : MethodId} {args : Array Value} {below : List Frame} {meth : Method} {c : Code} {H : Heap} {locs : List Loc} {cells slots : Nat} {Q : State → Prop} {cc : ByteArray} {pc : Nat} {ls : Array Slot} {rest : List Value} {D : va_G} {A : Nat → Prop} {x : Nat} {ar : Nat → Nat} {cs : Nat → ClassId} {B : BT} {Y : va_W} {Z : ZT} {nL r : Nat}
theorem call_x_sumOfWays (d : Nat) (hx : p.tables.exec = Jvm.exec) (hb : c.code = cc) (hml : c.maxLocals = nL) (hown : s.vm.findClass RX0 = some mid.cls) (hts : ∀ w ∈ lw_all, w.before args s = true) (hK : KK D cs s) (hA : ∀ q : Nat, s.heap.size ≤ q → A q) (hE : EW D A s.heap (WX x ar cs Z B Y) H locs) (hls : ls.size = nL) (p1 : Int32) (p2 : Int32) (p3 : Int64) (hS : ∃ n : Nat, n ≤ 6 ∧ Z.1 23 0 = nI n ∧ ∀ b : Nat, b < 32 → bt p1 b = true → b < n) (hmu : 8 - zc p1 ≤ d) (h1 : 0 + d + 1 ≤ R.frames) (h2 : 30 + (0 + d * 30) ≤ R.locals) (h3 : (rest.map fun v => v.category).sum ≤ 8) (hd : decode cc pc = .ok (.invokevirtual 327, 3)) (hf : cells ≤ R.cells ∧ slots ≤ R.slots) (kk : ∀ (H1 : Heap) (locs1 : List Loc), EW D A s.heap (WX x ar cs ((x_sumOfWays (d + 1) p1 p2 p3 Z).2) B Y) H1 locs1 → W p l e R s mid args below meth c H1 locs1 cells slots Q (F0 mid (pc + 3) ls (.long (x_sumOfWays (d + 1) p1 p2 p3 Z).1 :: rest))) : W p l e R s mid args below meth c H locs cells slots Q (F0 mid pc ls (.long p3 :: .int p2 :: .int p1 :: .ref x :: rest)) :=
  call_x_sumOfWays_of hx hb hml hown hts hK hA hE hls p1 p2 p3 (met_x_sumOfWays l D cs x ar B Y d Z H.size p1 p2 p3 hS hmu) h1 h2 h3 hd hf kk
end C_x_sumOfWays
def x_partOf (p1 : Int32) (p2 : Int32) (Z : ZT) : Int64 × ZT := (if ((p1 + p2) - (p1 + p2) / (2 : Int32) * (2 : Int32)) = 0 then (x_sumOfWays (8 + 1) ((((1 : Int32) <<< ((Z.1 23 0) &&& 31)) - (1 : Int32)) &&& (((1 : Int32) <<< (p2 &&& 31)) ^^^ (-1 : Int32))) ((((1 : Int32) <<< ((Z.1 23 0) &&& 31)) - (1 : Int32)) &&& (((1 : Int32) <<< (p1 &&& 31)) ^^^ (-1 : Int32))) (1 : Int64) (sI (sI Z 26 0 (0 : Int32)) 27 0 (0 : Int32))) else (x_sumOfWays (8 + 1) ((((1 : Int32) <<< ((Z.1 23 0) &&& 31)) - (1 : Int32)) &&& (((1 : Int32) <<< (p2 &&& 31)) ^^^ (-1 : Int32))) ((((1 : Int32) <<< ((Z.1 23 0) &&& 31)) - (1 : Int32)) &&& (((1 : Int32) <<< (p1 &&& 31)) ^^^ (-1 : Int32))) (-1 : Int64) (sI (sI Z 26 0 (0 : Int32)) 27 0 (0 : Int32))))
set_option maxHeartbeats 4000000 in
set_option maxRecDepth 100000 in
theorem met_x_partOf (l : Launch) (D : va_G) (cs : Nat → ClassId) (x : Nat) (ar : Nat → Nat) (B : BT) (Y : va_W) (Z : ZT) (sz : Nat) (p1 : Int32) (p2 : Int32) (hN : N6 Z) : Met l yX0_partOf (ws_ yX0_partOf cX0_partOf 4 (some .long)) ({ frames := 9, cells := 0, slots := 0, locals := 270 }) (va_Pc [.ref x, .int p1, .int p2] (wSt D cs (WX x ar cs Z B Y) sz)) (cQl (fun (v : Int64) (u : ZT) => x_partOf p1 p2 Z = (v, u)) D (fun u => (WX x ar cs u B Y)) (WX x ar cs Z B Y) sz) 0 0 (va_A (WX x ar cs Z B Y) sz) := by
  refine gStart_l (C := RX0) rfl rfl (Nat.le_of_ble_eq_true rfl) ?_
  intro p e s mid args below meth c R Q A hx hb hml hown hts hK hA hRf hRl hRc hRs hret hE ls hl
  have hRf : 9 ≤ R.frames := hRf
  have hRl : 270 ≤ R.locals := hRl
  have hl : lv_has ls 4 [(0, .ref x), (1, .int p1), (2, .int p2)] := hl
  have hR : x_partOf p1 p2 Z = (if ((p1 + p2) - (p1 + p2) / (2 : Int32) * (2 : Int32)) = 0 then (x_sumOfWays (8 + 1) ((((1 : Int32) <<< ((Z.1 23 0) &&& 31)) - (1 : Int32)) &&& (((1 : Int32) <<< (p2 &&& 31)) ^^^ (-1 : Int32))) ((((1 : Int32) <<< ((Z.1 23 0) &&& 31)) - (1 : Int32)) &&& (((1 : Int32) <<< (p1 &&& 31)) ^^^ (-1 : Int32))) (1 : Int64) (sI (sI Z 26 0 (0 : Int32)) 27 0 (0 : Int32))) else (x_sumOfWays (8 + 1) ((((1 : Int32) <<< ((Z.1 23 0) &&& 31)) - (1 : Int32)) &&& (((1 : Int32) <<< (p2 &&& 31)) ^^^ (-1 : Int32))) ((((1 : Int32) <<< ((Z.1 23 0) &&& 31)) - (1 : Int32)) &&& (((1 : Int32) <<< (p1 &&& 31)) ^^^ (-1 : Int32))) (-1 : Int64) (sI (sI Z 26 0 (0 : Int32)) 27 0 (0 : Int32)))) := rfl
  refine lv_iconst (v := 1) hx hb dX0_partOf_0 rfl ?_
  refine lv_aload_n hx hb dX0_partOf_1 rfl (lv_at hl 0 rfl) ?_
  refine xg_23 hx hb hts hown hK hE dX0_partOf_2 ?_
  refine lv_ishl hx hb dX0_partOf_5 ?_
  refine lv_iconst (v := 1) hx hb dX0_partOf_6 rfl ?_
  refine lv_isub hx hb dX0_partOf_7 ?_
  refine lv_istore_n (lv' := [(3, .int (((1 : Int32) <<< ((Z.1 23 0) &&& 31)) - (1 : Int32))), (0, .ref x), (1, .int p1), (2, .int p2)]) hx hb dX0_partOf_8 rfl hl (by decide) rfl (fun ls hl => ?_)
  refine lv_aload_n hx hb dX0_partOf_9 rfl (lv_at hl 1 rfl) ?_
  refine lv_iconst (v := 0) hx hb dX0_partOf_10 rfl ?_
  refine xp_26 hx hb hts hown hK hE dX0_partOf_11 (fun H locs hE => ?_)
  refine lv_aload_n hx hb dX0_partOf_14 rfl (lv_at hl 1 rfl) ?_
  refine lv_iconst (v := 0) hx hb dX0_partOf_15 rfl ?_
  refine xp_27 hx hb hts hown hK hE dX0_partOf_16 (fun H locs hE => ?_)
  refine lv_aload_n hx hb dX0_partOf_19 rfl (lv_at hl 1 rfl) ?_
  refine lv_iload_n hx hb dX0_partOf_20 rfl (lv_at hl 0 rfl) ?_
  refine lv_iconst (v := 1) hx hb dX0_partOf_21 rfl ?_
  refine lv_iload_n hx hb dX0_partOf_22 rfl (lv_at hl 3 rfl) ?_
  refine lv_ishl hx hb dX0_partOf_23 ?_
  refine lv_iconst (v := -1) hx hb dX0_partOf_24 rfl ?_
  refine lv_ixor hx hb dX0_partOf_25 ?_
  refine lv_iand hx hb dX0_partOf_26 ?_
  refine lv_iload_n hx hb dX0_partOf_27 rfl (lv_at hl 0 rfl) ?_
  refine lv_iconst (v := 1) hx hb dX0_partOf_28 rfl ?_
  refine lv_iload_n hx hb dX0_partOf_29 rfl (lv_at hl 2 rfl) ?_
  refine lv_ishl hx hb dX0_partOf_30 ?_
  refine lv_iconst (v := -1) hx hb dX0_partOf_31 rfl ?_
  refine lv_ixor hx hb dX0_partOf_32 ?_
  refine lv_iand hx hb dX0_partOf_33 ?_
  refine lv_iload_n hx hb dX0_partOf_34 rfl (lv_at hl 2 rfl) ?_
  refine lv_iload_n hx hb dX0_partOf_35 rfl (lv_at hl 3 rfl) ?_
  refine lv_iadd hx hb dX0_partOf_36 ?_
  refine lv_iconst (v := 2) hx hb dX0_partOf_37 rfl ?_
  refine lv_irem hx hb dX0_partOf_38 (by decide) ?_
  refine lv_if_ne (tgt := 46) hx hb dX0_partOf_39 (by decide) (fun c39 => ?_) (fun c39 => ?_)
  · have hR : x_partOf p1 p2 Z = (x_sumOfWays (8 + 1) ((((1 : Int32) <<< ((Z.1 23 0) &&& 31)) - (1 : Int32)) &&& (((1 : Int32) <<< (p2 &&& 31)) ^^^ (-1 : Int32))) ((((1 : Int32) <<< ((Z.1 23 0) &&& 31)) - (1 : Int32)) &&& (((1 : Int32) <<< (p1 &&& 31)) ^^^ (-1 : Int32))) (-1 : Int64) (sI (sI Z 26 0 (0 : Int32)) 27 0 (0 : Int32))) := hR.trans (congrArg (fun z => z) (if_neg c39))
    refine lv_ldc2 (v := -1) hx hb hown (hts _ q843) dX0_partOf_46 ?_
    refine call_x_sumOfWays 8 hx hb hml hown hts hK hA hE hl.1 ((((1 : Int32) <<< ((Z.1 23 0) &&& 31)) - (1 : Int32)) &&& (((1 : Int32) <<< (p2 &&& 31)) ^^^ (-1 : Int32))) ((((1 : Int32) <<< ((Z.1 23 0) &&& 31)) - (1 : Int32)) &&& (((1 : Int32) <<< (p1 &&& 31)) ^^^ (-1 : Int32))) (-1 : Int64) (by exact part_S hN) (by exact Nat.sub_le _ _) (lz (show 9 ≤ 9 by decide) hRf) (lz (show 270 ≤ 270 by decide) hRl) (Nat.le_of_ble_eq_true rfl) dX0_partOf_49 ⟨Nat.zero_le _, Nat.zero_le _⟩ (fun H locs hE => ?_)
    exact hret ((x_sumOfWays (8 + 1) ((((1 : Int32) <<< ((Z.1 23 0) &&& 31)) - (1 : Int32)) &&& (((1 : Int32) <<< (p2 &&& 31)) ^^^ (-1 : Int32))) ((((1 : Int32) <<< ((Z.1 23 0) &&& 31)) - (1 : Int32)) &&& (((1 : Int32) <<< (p1 &&& 31)) ^^^ (-1 : Int32))) (-1 : Int64) (sI (sI Z 26 0 (0 : Int32)) 27 0 (0 : Int32))).1) ((x_sumOfWays (8 + 1) ((((1 : Int32) <<< ((Z.1 23 0) &&& 31)) - (1 : Int32)) &&& (((1 : Int32) <<< (p2 &&& 31)) ^^^ (-1 : Int32))) ((((1 : Int32) <<< ((Z.1 23 0) &&& 31)) - (1 : Int32)) &&& (((1 : Int32) <<< (p1 &&& 31)) ^^^ (-1 : Int32))) (-1 : Int64) (sI (sI Z 26 0 (0 : Int32)) 27 0 (0 : Int32))).2) hR hE (Nat.le_refl 0) (Nat.le_refl 0) dX0_partOf_52
  · have hR : x_partOf p1 p2 Z = (x_sumOfWays (8 + 1) ((((1 : Int32) <<< ((Z.1 23 0) &&& 31)) - (1 : Int32)) &&& (((1 : Int32) <<< (p2 &&& 31)) ^^^ (-1 : Int32))) ((((1 : Int32) <<< ((Z.1 23 0) &&& 31)) - (1 : Int32)) &&& (((1 : Int32) <<< (p1 &&& 31)) ^^^ (-1 : Int32))) (1 : Int64) (sI (sI Z 26 0 (0 : Int32)) 27 0 (0 : Int32))) := hR.trans (congrArg (fun z => z) (if_pos c39))
    refine lv_lconst (v := 1) hx hb dX0_partOf_42 rfl ?_
    refine lv_goto (tgt := 49) hx hb dX0_partOf_43 (by decide) ?_
    refine call_x_sumOfWays 8 hx hb hml hown hts hK hA hE hl.1 ((((1 : Int32) <<< ((Z.1 23 0) &&& 31)) - (1 : Int32)) &&& (((1 : Int32) <<< (p2 &&& 31)) ^^^ (-1 : Int32))) ((((1 : Int32) <<< ((Z.1 23 0) &&& 31)) - (1 : Int32)) &&& (((1 : Int32) <<< (p1 &&& 31)) ^^^ (-1 : Int32))) (1 : Int64) (by exact part_S hN) (by exact Nat.sub_le _ _) (lz (show 9 ≤ 9 by decide) hRf) (lz (show 270 ≤ 270 by decide) hRl) (Nat.le_of_ble_eq_true rfl) dX0_partOf_49 ⟨Nat.zero_le _, Nat.zero_le _⟩ (fun H locs hE => ?_)
    exact hret ((x_sumOfWays (8 + 1) ((((1 : Int32) <<< ((Z.1 23 0) &&& 31)) - (1 : Int32)) &&& (((1 : Int32) <<< (p2 &&& 31)) ^^^ (-1 : Int32))) ((((1 : Int32) <<< ((Z.1 23 0) &&& 31)) - (1 : Int32)) &&& (((1 : Int32) <<< (p1 &&& 31)) ^^^ (-1 : Int32))) (1 : Int64) (sI (sI Z 26 0 (0 : Int32)) 27 0 (0 : Int32))).1) ((x_sumOfWays (8 + 1) ((((1 : Int32) <<< ((Z.1 23 0) &&& 31)) - (1 : Int32)) &&& (((1 : Int32) <<< (p2 &&& 31)) ^^^ (-1 : Int32))) ((((1 : Int32) <<< ((Z.1 23 0) &&& 31)) - (1 : Int32)) &&& (((1 : Int32) <<< (p1 &&& 31)) ^^^ (-1 : Int32))) (1 : Int64) (sI (sI Z 26 0 (0 : Int32)) 27 0 (0 : Int32))).2) hR hE (Nat.le_refl 0) (Nat.le_refl 0) dX0_partOf_52
section C_x_partOf
variable {p : Program} {l : Launch} {e : Env} {R : Room} {s : State} {mid : MethodId} {args : Array Value} {below : List Frame} {meth : Method} {c : Code} {H : Heap} {locs : List Loc} {cells slots : Nat} {Q : State → Prop} {cc : ByteArray} {pc : Nat} {ls : Array Slot} {rest : List Value} {D : va_G} {A : Nat → Prop} {x : Nat} {ar : Nat → Nat} {cs : Nat → ClassId} {B : BT} {Y : va_W} {Z : ZT} {nL r : Nat}
theorem call_x_partOf (hx : p.tables.exec = Jvm.exec) (hb : c.code = cc) (hml : c.maxLocals = nL) (hown : s.vm.findClass RX0 = some mid.cls) (hts : ∀ w ∈ lw_all, w.before args s = true) (hK : KK D cs s) (hA : ∀ q : Nat, s.heap.size ≤ q → A q) (hE : EW D A s.heap (WX x ar cs Z B Y) H locs) (hls : ls.size = nL) (p1 : Int32) (p2 : Int32) (hN : N6 Z) (h1 : 10 ≤ R.frames) (h2 : 293 ≤ R.locals) (h3 : (rest.map fun v => v.category).sum ≤ 8) (hd : decode cc pc = .ok (.invokevirtual 342, 3)) (hf : cells ≤ R.cells ∧ slots ≤ R.slots) (kk : ∀ (H1 : Heap) (locs1 : List Loc), EW D A s.heap (WX x ar cs ((x_partOf p1 p2 Z).2) B Y) H1 locs1 → W p l e R s mid args below meth c H1 locs1 cells slots Q (F0 mid (pc + 3) ls (.long (x_partOf p1 p2 Z).1 :: rest))) : W p l e R s mid args below meth c H locs cells slots Q (F0 mid pc ls (.int p2 :: .int p1 :: .ref x :: rest)) := 
  gCall_l (As := [.int p1, .int p2]) (rest := rest) (q0 := 0) (ci := 0) (fs := XF ar Z) (T' := TX0) (N' := 29) hx hb hml hown hts hK hA hE hls (met_x_partOf l D cs x ar B Y Z H.size p1 p2 hN) (cwV 2 hts (lw_V q839 q841 qs32 q84 q842) rfl rfl rfl (by decide +kernel) ⟨h1, h2⟩) rfl rfl rfl rfl h3 hd hf (fun v u H1 locs1 hp _ hE => by rw [hp] at kk; exact kk H1 locs1 hE)
end C_x_partOf
def x_askedTwo_k34 (Z : ZT) : Int32 × ZT := (x_met 1 Z)
def x_askedTwo_c41 (wc41 : Int32 × ZT) : Int32 × ZT := (if wc41.1 = 0 then ((-4 : Int32), wc41.2) else ((0 : Int32), wc41.2))
def x_askedTwo (p1 : Int32) (p2 : Int32) (Z : ZT) : Int32 × ZT := (if (x_isBeing p1) = 0 then ((-1 : Int32), Z) else (if (x_isBeing p2) = 0 then ((-1 : Int32), Z) else (if Z.1 30 (ix p1) = 0 then x_askedTwo_k34 Z else (if Z.1 30 (ix p2) = 0 then x_askedTwo_k34 Z else x_askedTwo_c41 (x_isLaid Z)))))
theorem askedTwo_ok {a b : Int32} {Z : ZT} (h : 0 ≤ (x_askedTwo a b Z).1) : N6 (x_askedTwo a b Z).2 ∧ (∃ j : Nat, j < 8 ∧ (x_askedTwo a b Z).2.1 24 j = a) ∧ (∃ j : Nat, j < 8 ∧ (x_askedTwo a b Z).2.1 24 j = b) ∧ vp_in a 8 ∧ vp_in b 8 ∧ ¬ Z.1 30 (ix a) = 0 ∧ ¬ Z.1 30 (ix b) = 0 ∧ ¬ (x_isLaid Z).1 = 0 ∧ x_askedTwo a b Z = (0, (x_isLaid Z).2) := by
  unfold x_askedTwo x_askedTwo_k34 x_met at h ⊢
  by_cases h1 : x_isBeing a = 0
  · rw [if_pos h1] at h
    exact absurd (show (0 : Int32) ≤ -1 from h) (by decide)
  rw [if_neg h1] at h ⊢
  by_cases h2 : x_isBeing b = 0
  · rw [if_pos h2] at h
    exact absurd (show (0 : Int32) ≤ -1 from h) (by decide)
  rw [if_neg h2] at h ⊢
  by_cases h3 : Z.1 30 (ix a) = 0
  · rw [if_pos h3] at h
    exact absurd (show (0 : Int32) ≤ -3 from h) (by decide)
  rw [if_neg h3] at h ⊢
  by_cases h4 : Z.1 30 (ix b) = 0
  · rw [if_pos h4] at h
    exact absurd (show (0 : Int32) ≤ -3 from h) (by decide)
  rw [if_neg h4] at h ⊢
  unfold x_askedTwo_c41 at h ⊢
  obtain ⟨n, -, hn, h6, hb⟩ := isLaid_facts Z
  generalize x_isLaid Z = y at h hn h6 hb ⊢
  by_cases h5 : y.1 = 0
  · rw [if_pos h5] at h
    exact absurd (show (0 : Int32) ≤ -4 from h) (by decide)
  rw [if_neg h5]
  have ha := vp_ix (xBe_vp h1) (by decide)
  have hb2 := vp_ix (xBe_vp h2) (by decide)
  refine ⟨⟨n, h6 h5, hn⟩, ?_, ?_, xBe_vp h1, xBe_vp h2, h3, h4, h5, rfl⟩
  · obtain ⟨j, q1, q2⟩ := hb _ ha.2 h3
    exact ⟨j, q1, q2.trans ha.1.symm⟩
  · obtain ⟨j, q1, q2⟩ := hb _ hb2.2 h4
    exact ⟨j, q1, q2.trans hb2.1.symm⟩
set_option maxHeartbeats 4000000 in
set_option maxRecDepth 100000 in
theorem met_x_askedTwo (l : Launch) (D : va_G) (cs : Nat → ClassId) (x : Nat) (ar : Nat → Nat) (B : BT) (Y : va_W) (Z : ZT) (sz : Nat) (p1 : Int32) (p2 : Int32) : Met l yX0_askedTwo (ws_ yX0_askedTwo cX0_askedTwo 3 (some .int)) ({ frames := 2, cells := 0, slots := 0, locals := 43 }) (va_Pc [.ref x, .int p1, .int p2] (wSt D cs (WX x ar cs Z B Y) sz)) (cQi (fun (v : Int32) (u : ZT) => x_askedTwo p1 p2 Z = (v, u)) D (fun u => (WX x ar cs u B Y)) (WX x ar cs Z B Y) sz) 0 0 (va_A (WX x ar cs Z B Y) sz) := by
  refine gStart_i (C := RX0) rfl rfl (Nat.le_of_ble_eq_true rfl) ?_
  intro p e s mid args below meth c R Q A hx hb hml hown hts hK hA hRf hRl hRc hRs hret hE ls hl
  have hRf : 2 ≤ R.frames := hRf
  have hRl : 43 ≤ R.locals := hRl
  have hl : lv_has ls 3 [(0, .ref x), (1, .int p1), (2, .int p2)] := hl
  have hR : x_askedTwo p1 p2 Z = (if (x_isBeing p1) = 0 then ((-1 : Int32), Z) else (if (x_isBeing p2) = 0 then ((-1 : Int32), Z) else (if Z.1 30 (ix p1) = 0 then x_askedTwo_k34 Z else (if Z.1 30 (ix p2) = 0 then x_askedTwo_k34 Z else x_askedTwo_c41 (x_isLaid Z))))) := rfl
  refine lv_iload_n hx hb dX0_askedTwo_0 rfl (lv_at hl 1 rfl) ?_
  refine call_x_isBeing hx hb hml hown hts hK hA hE hl.1 p1 (lz (show 2 ≤ 2 by decide) hRf) (lz (show 42 ≤ 43 by decide) hRl) (Nat.le_of_ble_eq_true rfl) dX0_askedTwo_1 ⟨Nat.zero_le _, Nat.zero_le _⟩ (fun H locs hE => ?_)
  refine lv_if_eq (tgt := 14) hx hb dX0_askedTwo_4 (by decide) (fun c4 => ?_) (fun c4 => ?_)
  · have hR : x_askedTwo p1 p2 Z = ((-1 : Int32), Z) := hR.trans (congrArg (fun z => z) (if_pos c4))
    refine lv_iconst (v := -1) hx hb dX0_askedTwo_14 rfl ?_
    exact hret (-1 : Int32) Z hR rfl hE (Nat.le_refl 0) (Nat.le_refl 0) dX0_askedTwo_15
  · have hR : x_askedTwo p1 p2 Z = (if (x_isBeing p2) = 0 then ((-1 : Int32), Z) else (if Z.1 30 (ix p1) = 0 then x_askedTwo_k34 Z else (if Z.1 30 (ix p2) = 0 then x_askedTwo_k34 Z else x_askedTwo_c41 (x_isLaid Z)))) := hR.trans (congrArg (fun z => z) (if_neg c4))
    refine lv_iload_n hx hb dX0_askedTwo_7 rfl (lv_at hl 2 rfl) ?_
    refine call_x_isBeing hx hb hml hown hts hK hA hE hl.1 p2 (lz (show 2 ≤ 2 by decide) hRf) (lz (show 42 ≤ 43 by decide) hRl) (Nat.le_of_ble_eq_true rfl) dX0_askedTwo_8 ⟨Nat.zero_le _, Nat.zero_le _⟩ (fun H locs hE => ?_)
    refine lv_if_ne (tgt := 16) hx hb dX0_askedTwo_11 (by decide) (fun c11 => ?_) (fun c11 => ?_)
    · have hR : x_askedTwo p1 p2 Z = (if Z.1 30 (ix p1) = 0 then x_askedTwo_k34 Z else (if Z.1 30 (ix p2) = 0 then x_askedTwo_k34 Z else x_askedTwo_c41 (x_isLaid Z))) := hR.trans (congrArg (fun z => z) (if_neg c11))
      have hnp1 := vp_ix (x := p1) (N := 8) (xBe_vp c4) (by decide)
      have hbnp1 := hnp1.2
      have hnp2 := vp_ix (x := p2) (N := 8) (xBe_vp c11) (by decide)
      have hbnp2 := hnp2.2
      refine lv_aload_n hx hb dX0_askedTwo_16 rfl (lv_at hl 0 rfl) ?_
      refine xg_10 hx hb hts hown hK hE dX0_askedTwo_17 ?_
      refine lv_iload_n hx hb dX0_askedTwo_20 rfl (lv_at hl 1 rfl) ?_
      refine top_nat hnp1.1 ?_
      refine xa_10 (n := (ix p1)) (by omega) hx hb hK hE dX0_askedTwo_21 ?_
      have hJ34 : ∀ (hR : x_askedTwo p1 p2 Z = x_askedTwo_k34 Z), ∀ (H : Heap) (locs : List Loc) (ls : Array Slot), EW D A s.heap (WX x ar cs Z B Y) H locs → lv_has ls 3 [(0, .ref x)] → W p l e R s mid args below meth c H locs 0 0 Q (F0 mid 34 ls []) := by
        intro hR H locs ls hE hl
        have hR : x_askedTwo p1 p2 Z = (x_met 1 Z) := hR
        refine lv_aload_n hx hb dX0_askedTwo_34 rfl (lv_at hl 0 rfl) ?_
        refine lv_iconst (v := 1) hx hb dX0_askedTwo_35 rfl ?_
        refine call_x_met hx hb hml hown hts hK hA hE hl.1 1 (by omega) (lz (show 1 ≤ 2 by decide) hRf) (lz (show 21 ≤ 43 by decide) hRl) (Nat.le_of_ble_eq_true rfl) dX0_askedTwo_36 ⟨Nat.zero_le _, Nat.zero_le _⟩ (fun H locs hE => ?_)
        exact hret ((x_met 1 Z).1) ((x_met 1 Z).2) hR rfl hE (Nat.le_refl 0) (Nat.le_refl 0) dX0_askedTwo_39
      refine xnn_be (b := (ix p1)) (tgt := 34) hx hb dX0_askedTwo_22 (by decide) (fun c22 => ?_) (fun c22 => ?_)
      · have hR : x_askedTwo p1 p2 Z = (x_askedTwo_k34 Z) := hR.trans (congrArg (fun z => z) (if_pos c22))
        exact hJ34  hR _ _ _ hE (lv_sub hl [0] rfl)
      · have hR : x_askedTwo p1 p2 Z = (if Z.1 30 (ix p2) = 0 then x_askedTwo_k34 Z else x_askedTwo_c41 (x_isLaid Z)) := hR.trans (congrArg (fun z => z) (if_neg c22))
        refine lv_aload_n hx hb dX0_askedTwo_25 rfl (lv_at hl 0 rfl) ?_
        refine xg_10 hx hb hts hown hK hE dX0_askedTwo_26 ?_
        refine lv_iload_n hx hb dX0_askedTwo_29 rfl (lv_at hl 2 rfl) ?_
        refine top_nat hnp2.1 ?_
        refine xa_10 (n := (ix p2)) (by omega) hx hb hK hE dX0_askedTwo_30 ?_
        refine xnw_be (b := (ix p2)) (tgt := 40) hx hb dX0_askedTwo_31 (by decide) (fun c31 => ?_) (fun c31 => ?_)
        · have hR : x_askedTwo p1 p2 Z = (x_askedTwo_c41 (x_isLaid Z)) := hR.trans (congrArg (fun z => z) (if_neg c31))
          refine lv_aload_n hx hb dX0_askedTwo_40 rfl (lv_at hl 0 rfl) ?_
          refine call_x_isLaid hx hb hml hown hts hK hA hE hl.1 (lz (show 2 ≤ 2 by decide) hRf) (lz (show 43 ≤ 43 by decide) hRl) (Nat.le_of_ble_eq_true rfl) dX0_askedTwo_41 ⟨Nat.zero_le _, Nat.zero_le _⟩ (fun H locs hE => ?_)
          have hNc41 : ∀ (wc41 : Int32 × ZT) (hR : x_askedTwo p1 p2 Z = x_askedTwo_c41 wc41), ∀ (H : Heap) (locs : List Loc) (ls : Array Slot), EW D A s.heap (WX x ar cs wc41.2 B Y) H locs → lv_has ls 3 [] → W p l e R s mid args below meth c H locs 0 0 Q (F0 mid 44 ls [.int wc41.1]) := by
            intro wc41 hR H locs ls hE hl
            have hR : x_askedTwo p1 p2 Z = (if wc41.1 = 0 then ((-4 : Int32), wc41.2) else ((0 : Int32), wc41.2)) := hR
            refine lv_if_eq (tgt := 51) hx hb dX0_askedTwo_44 (by decide) (fun c44 => ?_) (fun c44 => ?_)
            · have hR : x_askedTwo p1 p2 Z = ((-4 : Int32), wc41.2) := hR.trans (congrArg (fun z => z) (if_pos c44))
              refine lv_bipush (v := -4) hx hb dX0_askedTwo_51 rfl ?_
              exact hret (-4 : Int32) wc41.2 hR rfl hE (Nat.le_refl 0) (Nat.le_refl 0) dX0_askedTwo_53
            · have hR : x_askedTwo p1 p2 Z = ((0 : Int32), wc41.2) := hR.trans (congrArg (fun z => z) (if_neg c44))
              refine lv_iconst (v := 0) hx hb dX0_askedTwo_47 rfl ?_
              refine lv_goto (tgt := 53) hx hb dX0_askedTwo_48 (by decide) ?_
              exact hret (0 : Int32) wc41.2 hR rfl hE (Nat.le_refl 0) (Nat.le_refl 0) dX0_askedTwo_53
          exact hNc41 (x_isLaid Z) hR _ _ _ hE (lv_sub hl [] rfl)
        · have hR : x_askedTwo p1 p2 Z = (x_askedTwo_k34 Z) := hR.trans (congrArg (fun z => z) (if_pos c31))
          exact hJ34  hR _ _ _ hE (lv_sub hl [0] rfl)
    · have hR : x_askedTwo p1 p2 Z = ((-1 : Int32), Z) := hR.trans (congrArg (fun z => z) (if_pos c11))
      refine lv_iconst (v := -1) hx hb dX0_askedTwo_14 rfl ?_
      exact hret (-1 : Int32) Z hR rfl hE (Nat.le_refl 0) (Nat.le_refl 0) dX0_askedTwo_15
section C_x_askedTwo
variable {p : Program} {l : Launch} {e : Env} {R : Room} {s : State} {mid : MethodId} {args : Array Value} {below : List Frame} {meth : Method} {c : Code} {H : Heap} {locs : List Loc} {cells slots : Nat} {Q : State → Prop} {cc : ByteArray} {pc : Nat} {ls : Array Slot} {rest : List Value} {D : va_G} {A : Nat → Prop} {x : Nat} {ar : Nat → Nat} {cs : Nat → ClassId} {B : BT} {Y : va_W} {Z : ZT} {nL r : Nat}
theorem call_x_askedTwo (hx : p.tables.exec = Jvm.exec) (hb : c.code = cc) (hml : c.maxLocals = nL) (hown : s.vm.findClass RX0 = some mid.cls) (hts : ∀ w ∈ lw_all, w.before args s = true) (hK : KK D cs s) (hA : ∀ q : Nat, s.heap.size ≤ q → A q) (hE : EW D A s.heap (WX x ar cs Z B Y) H locs) (hls : ls.size = nL) (p1 : Int32) (p2 : Int32) (h1 : 3 ≤ R.frames) (h2 : 65 ≤ R.locals) (h3 : (rest.map fun v => v.category).sum ≤ 8) (hd : decode cc pc = .ok (.invokevirtual 336, 3)) (hf : cells ≤ R.cells ∧ slots ≤ R.slots) (kk : ∀ (H1 : Heap) (locs1 : List Loc), EW D A s.heap (WX x ar cs ((x_askedTwo p1 p2 Z).2) B Y) H1 locs1 → W p l e R s mid args below meth c H1 locs1 cells slots Q (F0 mid (pc + 3) ls (.int (x_askedTwo p1 p2 Z).1 :: rest))) : W p l e R s mid args below meth c H locs cells slots Q (F0 mid pc ls (.int p2 :: .int p1 :: .ref x :: rest)) := 
  gCall_i (As := [.int p1, .int p2]) (rest := rest) (q0 := 0) (ci := 0) (fs := XF ar Z) (T' := TX0) (N' := 29) hx hb hml hown hts hK hA hE hls (met_x_askedTwo l D cs x ar B Y Z H.size p1 p2) (cwV 2 hts (lw_V q823 q825 qs28 q84 q826) rfl rfl rfl (by decide +kernel) ⟨h1, h2⟩) rfl rfl rfl rfl h3 hd hf (fun v u H1 locs1 hp _ hE => by rw [hp] at kk; exact kk H1 locs1 hE)
end C_x_askedTwo
def x_tell_b12 (w12 : Int64 × Int64) : Bool × (Int64 × Int64) := (if w12.2 = (0 : Int64) then (false, (w12.1, w12.2)) else (true, (w12.2, (w12.1 - w12.1 / w12.2 * w12.2))))
def x_tell_j51 (p1 : Int64) (p3 : Int64) (Z : ZT) (w51 : Int64) : Int32 × ZT := ((1 : Int32), sL (sL Z 3 0 (p1 / w51)) 4 0 (p3 / w51))
def x_tell_e12 (p1 : Int64) (p3 : Int64) (Z : ZT) (w12 : Int64 × Int64) : Int32 × ZT := x_tell_j51 p1 p3 Z (if (0 : Int64) ≤ p3 then w12.1 else (-w12.1))
def x_tell (p1 : Int64) (p3 : Int64) (Z : ZT) : Int32 × ZT := x_tell_e12 p1 p3 Z (wlR x_tell_b12 ((x_abs p3).toInt.natAbs + 1) ((x_abs p1), (x_abs p3)))
set_option maxHeartbeats 4000000 in
set_option maxRecDepth 100000 in
theorem met_x_tell (l : Launch) (D : va_G) (cs : Nat → ClassId) (x : Nat) (ar : Nat → Nat) (B : BT) (Y : va_W) (Z : ZT) (sz : Nat) (p1 : Int64) (p3 : Int64) (hl0 : ¬ p3 = 0) : Met l yX0_tell (ws_ yX0_tell cX0_tell 11 (some .int)) ({ frames := 1, cells := 0, slots := 0, locals := 23 }) (va_Pc [.ref x, .long p1, .long p3] (wSt D cs (WX x ar cs Z B Y) sz)) (cQi (fun (v : Int32) (u : ZT) => x_tell p1 p3 Z = (v, u)) D (fun u => (WX x ar cs u B Y)) (WX x ar cs Z B Y) sz) 0 0 (va_A (WX x ar cs Z B Y) sz) := by
  refine gStart_i (C := RX0) rfl rfl (Nat.le_of_ble_eq_true rfl) ?_
  intro p e s mid args below meth c R Q A hx hb hml hown hts hK hA hRf hRl hRc hRs hret hE ls hl
  have hRf : 1 ≤ R.frames := hRf
  have hRl : 23 ≤ R.locals := hRl
  have hl : lv_has ls 11 [(0, .ref x), (1, .long p1), (3, .long p3)] := hl
  have hR : x_tell p1 p3 Z = (x_tell_e12 p1 p3 Z (wlR x_tell_b12 ((x_abs p3).toInt.natAbs + 1) ((x_abs p1), (x_abs p3)))) := rfl
  refine lv_lload_n hx hb dX0_tell_0 rfl (lv_at hl 1 rfl) ?_
  refine xm_abs hx hb hml hts hown hl.1 hRf hRl (by decide) (by decide) (Nat.le_of_ble_eq_true rfl) dX0_tell_1 ⟨Nat.zero_le _, Nat.zero_le _⟩ ?_
  refine lv_lstore (lv' := [(5, .long (x_abs p1)), (0, .ref x), (1, .long p1), (3, .long p3)]) hx hb dX0_tell_4 hl (by decide) rfl (fun ls hl => ?_)
  refine lv_lload_n hx hb dX0_tell_6 rfl (lv_at hl 3 rfl) ?_
  refine xm_abs hx hb hml hts hown hl.1 hRf hRl (by decide) (by decide) (Nat.le_of_ble_eq_true rfl) dX0_tell_7 ⟨Nat.zero_le _, Nat.zero_le _⟩ ?_
  refine lv_lstore (lv' := [(7, .long (x_abs p3)), (5, .long (x_abs p1)), (0, .ref x), (1, .long p1), (3, .long p3)]) hx hb dX0_tell_10 hl (by decide) rfl (fun ls hl => ?_)
  have hX12 : ∀ (w12 : Int64 × Int64) (hz12 : ¬ w12.1 = 0 ∨ ¬ w12.2 = 0) (hx12 : ¬ w12.1 = 0) (hR : x_tell p1 p3 Z = x_tell_e12 p1 p3 Z w12), ∀ (H : Heap) (locs : List Loc) (ls : Array Slot), EW D A s.heap (WX x ar cs Z B Y) H locs → lv_has ls 11 [(0, .ref x), (1, .long p1), (3, .long p3), (5, .long w12.1)] → W p l e R s mid args below meth c H locs 0 0 Q (F0 mid 37 ls []) := by
    intro w12 hz12 hx12 hR H locs ls hE hl
    have hR : x_tell p1 p3 Z = (x_tell_j51 p1 p3 Z (if (0 : Int64) ≤ p3 then w12.1 else (-w12.1))) := hR
    refine lv_lload_n hx hb dX0_tell_37 rfl (lv_at hl 2 rfl) ?_
    refine lv_lconst (v := 0) hx hb dX0_tell_38 rfl ?_
    have hJ51 : ∀ (w51 : Int64) (hw51 : ¬ w51 = 0) (hR : x_tell p1 p3 Z = x_tell_j51 p1 p3 Z w51), ∀ (H : Heap) (locs : List Loc) (ls : Array Slot), EW D A s.heap (WX x ar cs Z B Y) H locs → lv_has ls 11 [(0, .ref x), (1, .long p1), (3, .long p3)] → W p l e R s mid args below meth c H locs 0 0 Q (F0 mid 51 ls [.long w51]) := by
      intro w51 hw51 hR H locs ls hE hl
      have hR : x_tell p1 p3 Z = ((1 : Int32), sL (sL Z 3 0 (p1 / w51)) 4 0 (p3 / w51)) := hR
      refine lv_lstore (lv' := [(9, .long w51), (0, .ref x), (1, .long p1), (3, .long p3)]) hx hb dX0_tell_51 hl (by decide) rfl (fun ls hl => ?_)
      refine lv_aload_n hx hb dX0_tell_53 rfl (lv_at hl 1 rfl) ?_
      refine lv_lload_n hx hb dX0_tell_54 rfl (lv_at hl 2 rfl) ?_
      refine lv_lload hx hb dX0_tell_55 (lv_at hl 0 rfl) ?_
      refine lv_ldiv hx hb dX0_tell_57 (hw51) ?_
      refine xp_3 hx hb hts hown hK hE dX0_tell_58 (fun H locs hE => ?_)
      refine lv_aload_n hx hb dX0_tell_61 rfl (lv_at hl 1 rfl) ?_
      refine lv_lload_n hx hb dX0_tell_62 rfl (lv_at hl 3 rfl) ?_
      refine lv_lload hx hb dX0_tell_63 (lv_at hl 0 rfl) ?_
      refine lv_ldiv hx hb dX0_tell_65 (hw51) ?_
      refine xp_4 hx hb hts hown hK hE dX0_tell_66 (fun H locs hE => ?_)
      refine lv_iconst (v := 1) hx hb dX0_tell_69 rfl ?_
      exact hret (1 : Int32) (sL (sL Z 3 0 (p1 / w51)) 4 0 (p3 / w51)) hR rfl hE (Nat.le_refl 0) (Nat.le_refl 0) dX0_tell_70
    refine l_ge (tgt := 49) hx hb dX0_tell_39 dX0_tell_40 (by decide) (fun c39 => ?_) (fun c39 => ?_)
    · have hR : x_tell p1 p3 Z = x_tell_j51 p1 p3 Z w12.1 := hR.trans (congrArg (fun z => x_tell_j51 p1 p3 Z z) (if_pos c39))
      refine lv_lload hx hb dX0_tell_49 (lv_at hl 3 rfl) ?_
      exact hJ51 w12.1  (by first | exact neg_ne0 hx12 | exact hx12) hR _ _ _ hE (lv_sub hl [0, 1, 2] rfl)
    · have hR : x_tell p1 p3 Z = x_tell_j51 p1 p3 Z (-w12.1) := hR.trans (congrArg (fun z => x_tell_j51 p1 p3 Z z) (if_neg c39))
      refine lv_lload hx hb dX0_tell_43 (lv_at hl 3 rfl) ?_
      refine lv_lneg hx hb dX0_tell_45 ?_
      refine lv_goto (tgt := 51) hx hb dX0_tell_46 (by decide) ?_
      exact hJ51 (-w12.1)  (by first | exact neg_ne0 hx12 | exact hx12) hR _ _ _ hE (lv_sub hl [0, 1, 2] rfl)
  have hL12 : ∀ (n : Nat) (w12 : Int64 × Int64) (hm12 : w12.2.toInt.natAbs < n) (hz12 : ¬ w12.1 = 0 ∨ ¬ w12.2 = 0) (hR : x_tell p1 p3 Z = x_tell_e12 p1 p3 Z (wlR x_tell_b12 n w12)), ∀ (H : Heap) (locs : List Loc) (ls : Array Slot), EW D A s.heap (WX x ar cs Z B Y) H locs → lv_has ls 11 [(0, .ref x), (1, .long p1), (3, .long p3), (5, .long w12.1), (7, .long w12.2)] → W p l e R s mid args below meth c H locs 0 0 Q (F0 mid 12 ls []) := by
    intro n
    induction n with
    | zero =>
      intro w12 hm12
      exact absurd hm12 (Nat.not_lt_zero _)
    | succ n ih12 =>
      intro w12 hm12 hz12 hR H locs ls hE hl
      have hB12 : x_tell_b12 w12 = (if w12.2 = (0 : Int64) then (false, (w12.1, w12.2)) else (true, (w12.2, (w12.1 - w12.1 / w12.2 * w12.2)))) := rfl
      refine lv_lload hx hb dX0_tell_12 (lv_at hl 4 rfl) ?_
      refine lv_lconst (v := 0) hx hb dX0_tell_14 rfl ?_
      refine l_eq (tgt := 37) hx hb dX0_tell_15 dX0_tell_16 (by decide) (fun c15 => ?_) (fun c15 => ?_)
      · have hB12 : x_tell_b12 w12 = (false, (w12.1, w12.2)) := hB12.trans (congrArg (fun z => z) (if_pos c15))
        exact hX12 (w12.1, w12.2) (by exact hz12) (by exact hz12.elim id (fun h => absurd c15 h)) (hR.trans (congrArg (fun z => x_tell_e12 p1 p3 Z z) (wl_f hB12))) _ _ _ hE (lv_sub hl [0, 1, 2, 3] rfl)
      · have hB12 : x_tell_b12 w12 = (true, (w12.2, (w12.1 - w12.1 / w12.2 * w12.2))) := hB12.trans (congrArg (fun z => z) (if_neg c15))
        refine lv_lload hx hb dX0_tell_19 (lv_at hl 3 rfl) ?_
        refine lv_lload hx hb dX0_tell_21 (lv_at hl 4 rfl) ?_
        refine lv_lrem hx hb dX0_tell_23 (c15) ?_
        refine lv_lstore (lv' := [(9, .long (w12.1 - w12.1 / w12.2 * w12.2)), (0, .ref x), (1, .long p1), (3, .long p3), (5, .long w12.1), (7, .long w12.2)]) hx hb dX0_tell_24 hl (by decide) rfl (fun ls hl => ?_)
        refine lv_lload hx hb dX0_tell_26 (lv_at hl 5 rfl) ?_
        refine lv_lstore (lv' := [(5, .long w12.2), (9, .long (w12.1 - w12.1 / w12.2 * w12.2)), (0, .ref x), (1, .long p1), (3, .long p3), (7, .long w12.2)]) hx hb dX0_tell_28 hl (by decide) rfl (fun ls hl => ?_)
        refine lv_lload hx hb dX0_tell_30 (lv_at hl 1 rfl) ?_
        refine lv_lstore (lv' := [(7, .long (w12.1 - w12.1 / w12.2 * w12.2)), (5, .long w12.2), (9, .long (w12.1 - w12.1 / w12.2 * w12.2)), (0, .ref x), (1, .long p1), (3, .long p3)]) hx hb dX0_tell_32 hl (by decide) rfl (fun ls hl => ?_)
        refine lv_goto (tgt := 12) hx hb dX0_tell_34 (by decide) ?_
        exact ih12 (w12.2, (w12.1 - w12.1 / w12.2 * w12.2)) (by exact Nat.lt_of_lt_of_le (rem_natAbs c15) (Nat.le_of_lt_succ hm12)) (by exact Or.inl c15) (hR.trans (congrArg (fun z => x_tell_e12 p1 p3 Z z) (wl_t hB12))) _ _ _ hE (lv_sub hl [3, 4, 5, 1, 0] rfl)
  exact hL12 ((x_abs p3).toInt.natAbs + 1) ((x_abs p1), (x_abs p3)) (by exact Nat.lt_succ_self _) (by exact Or.inr (abs_ne0 hl0)) hR _ _ _ hE (lv_sub hl [2, 3, 4, 1, 0] rfl)
section C_x_tell
variable {p : Program} {l : Launch} {e : Env} {R : Room} {s : State} {mid : MethodId} {args : Array Value} {below : List Frame} {meth : Method} {c : Code} {H : Heap} {locs : List Loc} {cells slots : Nat} {Q : State → Prop} {cc : ByteArray} {pc : Nat} {ls : Array Slot} {rest : List Value} {D : va_G} {A : Nat → Prop} {x : Nat} {ar : Nat → Nat} {cs : Nat → ClassId} {B : BT} {Y : va_W} {Z : ZT} {nL r : Nat}
theorem call_x_tell (hx : p.tables.exec = Jvm.exec) (hb : c.code = cc) (hml : c.maxLocals = nL) (hown : s.vm.findClass RX0 = some mid.cls) (hts : ∀ w ∈ lw_all, w.before args s = true) (hK : KK D cs s) (hA : ∀ q : Nat, s.heap.size ≤ q → A q) (hE : EW D A s.heap (WX x ar cs Z B Y) H locs) (hls : ls.size = nL) (p1 : Int64) (p3 : Int64) (hl0 : ¬ p3 = 0) (h1 : 2 ≤ R.frames) (h2 : 53 ≤ R.locals) (h3 : (rest.map fun v => v.category).sum ≤ 8) (hd : decode cc pc = .ok (.invokevirtual 345, 3)) (hf : cells ≤ R.cells ∧ slots ≤ R.slots) (kk : ∀ (H1 : Heap) (locs1 : List Loc), EW D A s.heap (WX x ar cs ((x_tell p1 p3 Z).2) B Y) H1 locs1 → W p l e R s mid args below meth c H1 locs1 cells slots Q (F0 mid (pc + 3) ls (.int (x_tell p1 p3 Z).1 :: rest))) : W p l e R s mid args below meth c H locs cells slots Q (F0 mid pc ls (.long p3 :: .long p1 :: .ref x :: rest)) := 
  gCall_i (As := [.long p1, .long p3]) (rest := rest) (q0 := 0) (ci := 0) (fs := XF ar Z) (T' := TX0) (N' := 29) hx hb hml hown hts hK hA hE hls (met_x_tell l D cs x ar B Y Z H.size p1 p3 hl0) (cwV 2 hts (lw_V q844 q846 qs33 q84 q847) rfl rfl rfl (by decide +kernel) ⟨h1, h2⟩) rfl rfl rfl rfl h3 hd hf (fun v u H1 locs1 hp _ hE => by rw [hp] at kk; exact kk H1 locs1 hE)
end C_x_tell
def x_push_c61 (wc29 : Int64 × ZT) (wc61 : Int64 × ZT) : Int32 × ZT := (x_tell wc61.1 wc29.1 wc61.2)
def x_push_c43 (wc43 : Int32 × ZT) : Int32 × ZT := (wc43.1, wc43.2)
def x_push_c29 (p1 : Int32) (p2 : Int32) (wc29 : Int64 × ZT) : Int32 × ZT := (if wc29.1 = (0 : Int64) then x_push_c43 (x_met 4 wc29.2) else x_push_c61 wc29 (x_partOf (x_placeOf p1 wc29.2) (x_placeOf p2 wc29.2) wc29.2))
def x_push_c3 (p1 : Int32) (p2 : Int32) (wc3 : Int32 × ZT) : Int32 × ZT := (if 0 ≤ wc3.1 then x_push_c29 p1 p2 (x_sumOfWays (8 + 1) (((1 : Int32) <<< ((wc3.2.1 23 0) &&& 31)) - (1 : Int32)) (((1 : Int32) <<< ((wc3.2.1 23 0) &&& 31)) - (1 : Int32)) (1 : Int64) wc3.2) else (wc3.1, wc3.2))
def x_push (p1 : Int32) (p2 : Int32) (Z : ZT) : Int32 × ZT := x_push_c3 p1 p2 (x_askedTwo p1 p2 Z)
set_option maxHeartbeats 4000000 in
set_option maxRecDepth 100000 in
theorem met_x_push (l : Launch) (D : va_G) (cs : Nat → ClassId) (x : Nat) (ar : Nat → Nat) (B : BT) (Y : va_W) (Z : ZT) (sz : Nat) (p1 : Int32) (p2 : Int32) : Met l yX0_push (ws_ yX0_push cX0_push 7 (some .int)) ({ frames := 10, cells := 0, slots := 0, locals := 293 }) (va_Pc [.ref x, .int p1, .int p2] (wSt D cs (WX x ar cs Z B Y) sz)) (cQi (fun (v : Int32) (u : ZT) => x_push p1 p2 Z = (v, u)) D (fun u => (WX x ar cs u B Y)) (WX x ar cs Z B Y) sz) 0 0 (va_A (WX x ar cs Z B Y) sz) := by
  refine gStart_i (C := RX0) rfl rfl (Nat.le_of_ble_eq_true rfl) ?_
  intro p e s mid args below meth c R Q A hx hb hml hown hts hK hA hRf hRl hRc hRs hret hE ls hl
  have hRf : 10 ≤ R.frames := hRf
  have hRl : 293 ≤ R.locals := hRl
  have hl : lv_has ls 7 [(0, .ref x), (1, .int p1), (2, .int p2)] := hl
  have hR : x_push p1 p2 Z = (x_push_c3 p1 p2 (x_askedTwo p1 p2 Z)) := rfl
  refine lv_aload_n hx hb dX0_push_0 rfl (lv_at hl 0 rfl) ?_
  refine lv_iload_n hx hb dX0_push_1 rfl (lv_at hl 1 rfl) ?_
  refine lv_iload_n hx hb dX0_push_2 rfl (lv_at hl 2 rfl) ?_
  refine call_x_askedTwo hx hb hml hown hts hK hA hE hl.1 p1 p2 (lz (show 3 ≤ 10 by decide) hRf) (lz (show 65 ≤ 293 by decide) hRl) (Nat.le_of_ble_eq_true rfl) dX0_push_3 ⟨Nat.zero_le _, Nat.zero_le _⟩ (fun H locs hE => ?_)
  have hNc3 : ∀ (wc3 : Int32 × ZT) (hewc3 : wc3 = x_askedTwo p1 p2 Z) (hR : x_push p1 p2 Z = x_push_c3 p1 p2 wc3), ∀ (H : Heap) (locs : List Loc) (ls : Array Slot), EW D A s.heap (WX x ar cs wc3.2 B Y) H locs → lv_has ls 7 [(0, .ref x), (1, .int p1), (2, .int p2)] → W p l e R s mid args below meth c H locs 0 0 Q (F0 mid 6 ls [.int wc3.1]) := by
    intro wc3 hewc3 hR H locs ls hE hl
    have hR : x_push p1 p2 Z = (if 0 ≤ wc3.1 then x_push_c29 p1 p2 (x_sumOfWays (8 + 1) (((1 : Int32) <<< ((wc3.2.1 23 0) &&& 31)) - (1 : Int32)) (((1 : Int32) <<< ((wc3.2.1 23 0) &&& 31)) - (1 : Int32)) (1 : Int64) wc3.2) else (wc3.1, wc3.2)) := hR
    refine lv_istore_n (lv' := [(3, .int wc3.1), (0, .ref x), (1, .int p1), (2, .int p2)]) hx hb dX0_push_6 rfl hl (by decide) rfl (fun ls hl => ?_)
    refine lv_iload_n hx hb dX0_push_7 rfl (lv_at hl 0 rfl) ?_
    refine lv_if_ge (tgt := 13) hx hb dX0_push_8 (by decide) (fun c8 => ?_) (fun c8 => ?_)
    · have hR : x_push p1 p2 Z = (x_push_c29 p1 p2 (x_sumOfWays (8 + 1) (((1 : Int32) <<< ((wc3.2.1 23 0) &&& 31)) - (1 : Int32)) (((1 : Int32) <<< ((wc3.2.1 23 0) &&& 31)) - (1 : Int32)) (1 : Int64) wc3.2)) := hR.trans (congrArg (fun z => z) (if_pos c8))
      refine lv_iconst (v := 1) hx hb dX0_push_13 rfl ?_
      refine lv_aload_n hx hb dX0_push_14 rfl (lv_at hl 1 rfl) ?_
      refine xg_23 hx hb hts hown hK hE dX0_push_15 ?_
      refine lv_ishl hx hb dX0_push_18 ?_
      refine lv_iconst (v := 1) hx hb dX0_push_19 rfl ?_
      refine lv_isub hx hb dX0_push_20 ?_
      refine lv_istore (lv' := [(4, .int (((1 : Int32) <<< ((wc3.2.1 23 0) &&& 31)) - (1 : Int32))), (3, .int wc3.1), (0, .ref x), (1, .int p1), (2, .int p2)]) hx hb dX0_push_21 hl (by decide) rfl (fun ls hl => ?_)
      refine lv_aload_n hx hb dX0_push_23 rfl (lv_at hl 2 rfl) ?_
      refine lv_iload hx hb dX0_push_24 (lv_at hl 0 rfl) ?_
      refine lv_iload hx hb dX0_push_26 (lv_at hl 0 rfl) ?_
      refine lv_lconst (v := 1) hx hb dX0_push_28 rfl ?_
      refine call_x_sumOfWays 8 hx hb hml hown hts hK hA hE hl.1 (((1 : Int32) <<< ((wc3.2.1 23 0) &&& 31)) - (1 : Int32)) (((1 : Int32) <<< ((wc3.2.1 23 0) &&& 31)) - (1 : Int32)) (1 : Int64) (by exact all_S (by rw [hewc3]; exact (askedTwo_ok (by rw [← hewc3]; exact c8)).1)) (by exact Nat.sub_le _ _) (lz (show 9 ≤ 10 by decide) hRf) (lz (show 270 ≤ 293 by decide) hRl) (Nat.le_of_ble_eq_true rfl) dX0_push_29 ⟨Nat.zero_le _, Nat.zero_le _⟩ (fun H locs hE => ?_)
      have hNc29 : ∀ (wc29 : Int64 × ZT) (hewc29 : wc29 = x_sumOfWays (8 + 1) (((1 : Int32) <<< ((wc3.2.1 23 0) &&& 31)) - (1 : Int32)) (((1 : Int32) <<< ((wc3.2.1 23 0) &&& 31)) - (1 : Int32)) (1 : Int64) wc3.2) (hR : x_push p1 p2 Z = x_push_c29 p1 p2 wc29), ∀ (H : Heap) (locs : List Loc) (ls : Array Slot), EW D A s.heap (WX x ar cs wc29.2 B Y) H locs → lv_has ls 7 [(0, .ref x), (1, .int p1), (2, .int p2)] → W p l e R s mid args below meth c H locs 0 0 Q (F0 mid 32 ls [.long wc29.1]) := by
        intro wc29 hewc29 hR H locs ls hE hl
        have hR : x_push p1 p2 Z = (if wc29.1 = (0 : Int64) then x_push_c43 (x_met 4 wc29.2) else x_push_c61 wc29 (x_partOf (x_placeOf p1 wc29.2) (x_placeOf p2 wc29.2) wc29.2)) := hR
        refine lv_lstore (lv' := [(5, .long wc29.1), (0, .ref x), (1, .int p1), (2, .int p2)]) hx hb dX0_push_32 hl (by decide) rfl (fun ls hl => ?_)
        refine lv_lload hx hb dX0_push_34 (lv_at hl 0 rfl) ?_
        refine lv_lconst (v := 0) hx hb dX0_push_36 rfl ?_
        refine l_ne (tgt := 49) hx hb dX0_push_37 dX0_push_38 (by decide) (fun c37 => ?_) (fun c37 => ?_)
        · have hR : x_push p1 p2 Z = (x_push_c61 wc29 (x_partOf (x_placeOf p1 wc29.2) (x_placeOf p2 wc29.2) wc29.2)) := hR.trans (congrArg (fun z => z) (if_neg c37))
          refine lv_aload_n hx hb dX0_push_49 rfl (lv_at hl 1 rfl) ?_
          refine lv_aload_n hx hb dX0_push_50 rfl (lv_at hl 1 rfl) ?_
          refine lv_aload_n hx hb dX0_push_51 rfl (lv_at hl 1 rfl) ?_
          refine lv_iload_n hx hb dX0_push_52 rfl (lv_at hl 2 rfl) ?_
          refine call_x_placeOf hx hb hml hown hts hK hA hE hl.1 p1 (by rw [hewc29, sow_fr1 (by decide) (by decide), hewc3]; exact (askedTwo_ok (by rw [← hewc3]; exact c8)).2.1) (lz (show 1 ≤ 10 by decide) hRf) (lz (show 22 ≤ 293 by decide) hRl) (Nat.le_of_ble_eq_true rfl) dX0_push_53 ⟨Nat.zero_le _, Nat.zero_le _⟩ (fun H locs hE => ?_)
          refine lv_aload_n hx hb dX0_push_56 rfl (lv_at hl 1 rfl) ?_
          refine lv_iload_n hx hb dX0_push_57 rfl (lv_at hl 3 rfl) ?_
          refine call_x_placeOf hx hb hml hown hts hK hA hE hl.1 p2 (by rw [hewc29, sow_fr1 (by decide) (by decide), hewc3]; exact (askedTwo_ok (by rw [← hewc3]; exact c8)).2.2.1) (lz (show 1 ≤ 10 by decide) hRf) (lz (show 22 ≤ 293 by decide) hRl) (Nat.le_of_ble_eq_true rfl) dX0_push_58 ⟨Nat.zero_le _, Nat.zero_le _⟩ (fun H locs hE => ?_)
          refine call_x_partOf hx hb hml hown hts hK hA hE hl.1 (x_placeOf p1 wc29.2) (x_placeOf p2 wc29.2) (by rw [hewc29]; exact N6_fr (sow_fr1 (by decide) (by decide)) (by rw [hewc3]; exact (askedTwo_ok (by rw [← hewc3]; exact c8)).1)) (lz (show 10 ≤ 10 by decide) hRf) (lz (show 293 ≤ 293 by decide) hRl) (Nat.le_of_ble_eq_true rfl) dX0_push_61 ⟨Nat.zero_le _, Nat.zero_le _⟩ (fun H locs hE => ?_)
          have hNc61 : ∀ (wc61 : Int64 × ZT) (hewc61 : wc61 = x_partOf (x_placeOf p1 wc29.2) (x_placeOf p2 wc29.2) wc29.2) (hR : x_push p1 p2 Z = x_push_c61 wc29 wc61), ∀ (H : Heap) (locs : List Loc) (ls : Array Slot), EW D A s.heap (WX x ar cs wc61.2 B Y) H locs → lv_has ls 7 [(5, .long wc29.1)] → W p l e R s mid args below meth c H locs 0 0 Q (F0 mid 64 ls [.long wc61.1, .ref x]) := by
            intro wc61 hewc61 hR H locs ls hE hl
            have hR : x_push p1 p2 Z = (x_tell wc61.1 wc29.1 wc61.2) := hR
            refine lv_lload hx hb dX0_push_64 (lv_at hl 0 rfl) ?_
            refine call_x_tell hx hb hml hown hts hK hA hE hl.1 wc61.1 wc29.1 (c37) (lz (show 2 ≤ 10 by decide) hRf) (lz (show 53 ≤ 293 by decide) hRl) (Nat.le_of_ble_eq_true rfl) dX0_push_66 ⟨Nat.zero_le _, Nat.zero_le _⟩ (fun H locs hE => ?_)
            exact hret ((x_tell wc61.1 wc29.1 wc61.2).1) ((x_tell wc61.1 wc29.1 wc61.2).2) hR rfl hE (Nat.le_refl 0) (Nat.le_refl 0) dX0_push_69
          exact hNc61 (x_partOf (x_placeOf p1 wc29.2) (x_placeOf p2 wc29.2) wc29.2) rfl hR _ _ _ hE (lv_sub hl [0] rfl)
        · have hR : x_push p1 p2 Z = (x_push_c43 (x_met 4 wc29.2)) := hR.trans (congrArg (fun z => z) (if_pos c37))
          refine lv_aload_n hx hb dX0_push_41 rfl (lv_at hl 1 rfl) ?_
          refine lv_iconst (v := 4) hx hb dX0_push_42 rfl ?_
          refine call_x_met hx hb hml hown hts hK hA hE hl.1 4 (by omega) (lz (show 1 ≤ 10 by decide) hRf) (lz (show 21 ≤ 293 by decide) hRl) (Nat.le_of_ble_eq_true rfl) dX0_push_43 ⟨Nat.zero_le _, Nat.zero_le _⟩ (fun H locs hE => ?_)
          have hNc43 : ∀ (wc43 : Int32 × ZT) (hewc43 : wc43 = x_met 4 wc29.2) (hR : x_push p1 p2 Z = x_push_c43 wc43), ∀ (H : Heap) (locs : List Loc) (ls : Array Slot), EW D A s.heap (WX x ar cs wc43.2 B Y) H locs → lv_has ls 7 [] → W p l e R s mid args below meth c H locs 0 0 Q (F0 mid 46 ls [.int wc43.1]) := by
            intro wc43 hewc43 hR H locs ls hE hl
            have hR : x_push p1 p2 Z = (wc43.1, wc43.2) := hR
            refine lv_goto (tgt := 69) hx hb dX0_push_46 (by decide) ?_
            exact hret wc43.1 wc43.2 hR rfl hE (Nat.le_refl 0) (Nat.le_refl 0) dX0_push_69
          exact hNc43 (x_met 4 wc29.2) rfl hR _ _ _ hE (lv_sub hl [] rfl)
      exact hNc29 (x_sumOfWays (8 + 1) (((1 : Int32) <<< ((wc3.2.1 23 0) &&& 31)) - (1 : Int32)) (((1 : Int32) <<< ((wc3.2.1 23 0) &&& 31)) - (1 : Int32)) (1 : Int64) wc3.2) rfl hR _ _ _ hE (lv_sub hl [2, 3, 4] rfl)
    · have hR : x_push p1 p2 Z = (wc3.1, wc3.2) := hR.trans (congrArg (fun z => z) (if_neg c8))
      refine lv_iload_n hx hb dX0_push_11 rfl (lv_at hl 0 rfl) ?_
      exact hret wc3.1 wc3.2 hR rfl hE (Nat.le_refl 0) (Nat.le_refl 0) dX0_push_12
  exact hNc3 (x_askedTwo p1 p2 Z) rfl hR _ _ _ hE (lv_sub hl [0, 1, 2] rfl)
def x_terms_j65 (wc24 : Int64 × ZT) (w65 : Int32) : Int32 × ZT := ((((1000 : Int32) * (wc24.2.1 26 0)) + (wc24.2.1 27 0)), sI wc24.2 2 0 w65)
def x_terms_k60 : Int32 := (1 : Int32)
def x_terms_c24 (wc24 : Int64 × ZT) : Int32 × ZT := x_terms_j65 wc24 (if ((wc24.2.1 26 0) + (wc24.2.1 27 0)) = 0 then (0 : Int32) else (if wc24.2.1 26 0 = 0 then x_terms_k60 else (if wc24.2.1 27 0 = 0 then x_terms_k60 else (2 : Int32))))
def x_terms_c3 (p1 : Int32) (p2 : Int32) (wc3 : Int32 × ZT) : Int32 × ZT := (if 0 ≤ wc3.1 then x_terms_c24 (x_partOf (x_placeOf p1 wc3.2) (x_placeOf p2 wc3.2) wc3.2) else (wc3.1, wc3.2))
def x_terms (p1 : Int32) (p2 : Int32) (Z : ZT) : Int32 × ZT := x_terms_c3 p1 p2 (x_askedTwo p1 p2 Z)
set_option maxHeartbeats 4000000 in
set_option maxRecDepth 100000 in
theorem met_x_terms (l : Launch) (D : va_G) (cs : Nat → ClassId) (x : Nat) (ar : Nat → Nat) (B : BT) (Y : va_W) (Z : ZT) (sz : Nat) (p1 : Int32) (p2 : Int32) : Met l yX0_terms (ws_ yX0_terms cX0_terms 6 (some .int)) ({ frames := 10, cells := 0, slots := 0, locals := 293 }) (va_Pc [.ref x, .int p1, .int p2] (wSt D cs (WX x ar cs Z B Y) sz)) (cQi (fun (v : Int32) (u : ZT) => x_terms p1 p2 Z = (v, u)) D (fun u => (WX x ar cs u B Y)) (WX x ar cs Z B Y) sz) 0 0 (va_A (WX x ar cs Z B Y) sz) := by
  refine gStart_i (C := RX0) rfl rfl (Nat.le_of_ble_eq_true rfl) ?_
  intro p e s mid args below meth c R Q A hx hb hml hown hts hK hA hRf hRl hRc hRs hret hE ls hl
  have hRf : 10 ≤ R.frames := hRf
  have hRl : 293 ≤ R.locals := hRl
  have hl : lv_has ls 6 [(0, .ref x), (1, .int p1), (2, .int p2)] := hl
  have hR : x_terms p1 p2 Z = (x_terms_c3 p1 p2 (x_askedTwo p1 p2 Z)) := rfl
  refine lv_aload_n hx hb dX0_terms_0 rfl (lv_at hl 0 rfl) ?_
  refine lv_iload_n hx hb dX0_terms_1 rfl (lv_at hl 1 rfl) ?_
  refine lv_iload_n hx hb dX0_terms_2 rfl (lv_at hl 2 rfl) ?_
  refine call_x_askedTwo hx hb hml hown hts hK hA hE hl.1 p1 p2 (lz (show 3 ≤ 10 by decide) hRf) (lz (show 65 ≤ 293 by decide) hRl) (Nat.le_of_ble_eq_true rfl) dX0_terms_3 ⟨Nat.zero_le _, Nat.zero_le _⟩ (fun H locs hE => ?_)
  have hNc3 : ∀ (wc3 : Int32 × ZT) (hewc3 : wc3 = x_askedTwo p1 p2 Z) (hR : x_terms p1 p2 Z = x_terms_c3 p1 p2 wc3), ∀ (H : Heap) (locs : List Loc) (ls : Array Slot), EW D A s.heap (WX x ar cs wc3.2 B Y) H locs → lv_has ls 6 [(0, .ref x), (1, .int p1), (2, .int p2)] → W p l e R s mid args below meth c H locs 0 0 Q (F0 mid 6 ls [.int wc3.1]) := by
    intro wc3 hewc3 hR H locs ls hE hl
    have hR : x_terms p1 p2 Z = (if 0 ≤ wc3.1 then x_terms_c24 (x_partOf (x_placeOf p1 wc3.2) (x_placeOf p2 wc3.2) wc3.2) else (wc3.1, wc3.2)) := hR
    refine lv_istore_n (lv' := [(3, .int wc3.1), (0, .ref x), (1, .int p1), (2, .int p2)]) hx hb dX0_terms_6 rfl hl (by decide) rfl (fun ls hl => ?_)
    refine lv_iload_n hx hb dX0_terms_7 rfl (lv_at hl 0 rfl) ?_
    refine lv_if_ge (tgt := 13) hx hb dX0_terms_8 (by decide) (fun c8 => ?_) (fun c8 => ?_)
    · have hR : x_terms p1 p2 Z = (x_terms_c24 (x_partOf (x_placeOf p1 wc3.2) (x_placeOf p2 wc3.2) wc3.2)) := hR.trans (congrArg (fun z => z) (if_pos c8))
      refine lv_aload_n hx hb dX0_terms_13 rfl (lv_at hl 1 rfl) ?_
      refine lv_aload_n hx hb dX0_terms_14 rfl (lv_at hl 1 rfl) ?_
      refine lv_iload_n hx hb dX0_terms_15 rfl (lv_at hl 2 rfl) ?_
      refine call_x_placeOf hx hb hml hown hts hK hA hE hl.1 p1 (by rw [hewc3]; exact (askedTwo_ok (by rw [← hewc3]; exact c8)).2.1) (lz (show 1 ≤ 10 by decide) hRf) (lz (show 22 ≤ 293 by decide) hRl) (Nat.le_of_ble_eq_true rfl) dX0_terms_16 ⟨Nat.zero_le _, Nat.zero_le _⟩ (fun H locs hE => ?_)
      refine lv_aload_n hx hb dX0_terms_19 rfl (lv_at hl 1 rfl) ?_
      refine lv_iload_n hx hb dX0_terms_20 rfl (lv_at hl 3 rfl) ?_
      refine call_x_placeOf hx hb hml hown hts hK hA hE hl.1 p2 (by rw [hewc3]; exact (askedTwo_ok (by rw [← hewc3]; exact c8)).2.2.1) (lz (show 1 ≤ 10 by decide) hRf) (lz (show 22 ≤ 293 by decide) hRl) (Nat.le_of_ble_eq_true rfl) dX0_terms_21 ⟨Nat.zero_le _, Nat.zero_le _⟩ (fun H locs hE => ?_)
      refine call_x_partOf hx hb hml hown hts hK hA hE hl.1 (x_placeOf p1 wc3.2) (x_placeOf p2 wc3.2) (by rw [hewc3]; exact (askedTwo_ok (by rw [← hewc3]; exact c8)).1) (lz (show 10 ≤ 10 by decide) hRf) (lz (show 293 ≤ 293 by decide) hRl) (Nat.le_of_ble_eq_true rfl) dX0_terms_24 ⟨Nat.zero_le _, Nat.zero_le _⟩ (fun H locs hE => ?_)
      have hNc24 : ∀ (wc24 : Int64 × ZT) (hewc24 : wc24 = x_partOf (x_placeOf p1 wc3.2) (x_placeOf p2 wc3.2) wc3.2) (hR : x_terms p1 p2 Z = x_terms_c24 wc24), ∀ (H : Heap) (locs : List Loc) (ls : Array Slot), EW D A s.heap (WX x ar cs wc24.2 B Y) H locs → lv_has ls 6 [(0, .ref x)] → W p l e R s mid args below meth c H locs 0 0 Q (F0 mid 27 ls [.long wc24.1]) := by
        intro wc24 hewc24 hR H locs ls hE hl
        have hR : x_terms p1 p2 Z = (x_terms_j65 wc24 (if ((wc24.2.1 26 0) + (wc24.2.1 27 0)) = 0 then (0 : Int32) else (if wc24.2.1 26 0 = 0 then x_terms_k60 else (if wc24.2.1 27 0 = 0 then x_terms_k60 else (2 : Int32))))) := hR
        refine lv_lstore (lv' := [(4, .long wc24.1), (0, .ref x)]) hx hb dX0_terms_27 hl (by decide) rfl (fun ls hl => ?_)
        refine lv_aload_n hx hb dX0_terms_29 rfl (lv_at hl 1 rfl) ?_
        refine lv_aload_n hx hb dX0_terms_30 rfl (lv_at hl 1 rfl) ?_
        refine xg_26 hx hb hts hown hK hE dX0_terms_31 ?_
        refine lv_aload_n hx hb dX0_terms_34 rfl (lv_at hl 1 rfl) ?_
        refine xg_27 hx hb hts hown hK hE dX0_terms_35 ?_
        refine lv_iadd hx hb dX0_terms_38 ?_
        have hJ65 : ∀ (w65 : Int32) (hR : x_terms p1 p2 Z = x_terms_j65 wc24 w65), ∀ (H : Heap) (locs : List Loc) (ls : Array Slot), EW D A s.heap (WX x ar cs wc24.2 B Y) H locs → lv_has ls 6 [(0, .ref x)] → W p l e R s mid args below meth c H locs 0 0 Q (F0 mid 65 ls [.int w65, .ref x]) := by
          intro w65 hR H locs ls hE hl
          have hR : x_terms p1 p2 Z = ((((1000 : Int32) * (wc24.2.1 26 0)) + (wc24.2.1 27 0)), sI wc24.2 2 0 w65) := hR
          refine xp_2 hx hb hts hown hK hE dX0_terms_65 (fun H locs hE => ?_)
          refine lv_sipush (v := 1000) hx hb dX0_terms_68 rfl ?_
          refine lv_aload_n hx hb dX0_terms_71 rfl (lv_at hl 0 rfl) ?_
          refine xg_26 hx hb hts hown hK hE dX0_terms_72 ?_
          refine lv_imul hx hb dX0_terms_75 ?_
          refine lv_aload_n hx hb dX0_terms_76 rfl (lv_at hl 0 rfl) ?_
          refine xg_27 hx hb hts hown hK hE dX0_terms_77 ?_
          refine lv_iadd hx hb dX0_terms_80 ?_
          exact hret (((1000 : Int32) * (wc24.2.1 26 0)) + (wc24.2.1 27 0)) (sI wc24.2 2 0 w65) hR rfl hE (Nat.le_refl 0) (Nat.le_refl 0) dX0_terms_81
        refine lv_if_ne (tgt := 46) hx hb dX0_terms_39 (by decide) (fun c39 => ?_) (fun c39 => ?_)
        · have hR : x_terms p1 p2 Z = x_terms_j65 wc24 (if wc24.2.1 26 0 = 0 then x_terms_k60 else (if wc24.2.1 27 0 = 0 then x_terms_k60 else (2 : Int32))) := hR.trans (congrArg (fun z => x_terms_j65 wc24 z) (if_neg c39))
          refine lv_aload_n hx hb dX0_terms_46 rfl (lv_at hl 1 rfl) ?_
          refine xg_26 hx hb hts hown hK hE dX0_terms_47 ?_
          have hJ60 : ∀ (hR : x_terms p1 p2 Z = x_terms_j65 wc24 x_terms_k60), ∀ (H : Heap) (locs : List Loc) (ls : Array Slot), EW D A s.heap (WX x ar cs wc24.2 B Y) H locs → lv_has ls 6 [(0, .ref x)] → W p l e R s mid args below meth c H locs 0 0 Q (F0 mid 60 ls [.ref x]) := by
            intro hR H locs ls hE hl
            have hR : x_terms p1 p2 Z = x_terms_j65 wc24 (1 : Int32) := hR
            refine lv_iconst (v := 1) hx hb dX0_terms_60 rfl ?_
            refine lv_goto (tgt := 65) hx hb dX0_terms_61 (by decide) ?_
            exact hJ65 (1 : Int32)  hR _ _ _ hE (lv_sub hl [0] rfl)
          refine lv_if_eq (tgt := 60) hx hb dX0_terms_50 (by decide) (fun c50 => ?_) (fun c50 => ?_)
          · have hR : x_terms p1 p2 Z = x_terms_j65 wc24 x_terms_k60 := hR.trans (congrArg (fun z => x_terms_j65 wc24 z) (if_pos c50))
            exact hJ60  hR _ _ _ hE (lv_sub hl [1] rfl)
          · have hR : x_terms p1 p2 Z = x_terms_j65 wc24 (if wc24.2.1 27 0 = 0 then x_terms_k60 else (2 : Int32)) := hR.trans (congrArg (fun z => x_terms_j65 wc24 z) (if_neg c50))
            refine lv_aload_n hx hb dX0_terms_53 rfl (lv_at hl 1 rfl) ?_
            refine xg_27 hx hb hts hown hK hE dX0_terms_54 ?_
            refine lv_if_ne (tgt := 64) hx hb dX0_terms_57 (by decide) (fun c57 => ?_) (fun c57 => ?_)
            · have hR : x_terms p1 p2 Z = x_terms_j65 wc24 (2 : Int32) := hR.trans (congrArg (fun z => x_terms_j65 wc24 z) (if_neg c57))
              refine lv_iconst (v := 2) hx hb dX0_terms_64 rfl ?_
              exact hJ65 (2 : Int32)  hR _ _ _ hE (lv_sub hl [1] rfl)
            · have hR : x_terms p1 p2 Z = x_terms_j65 wc24 x_terms_k60 := hR.trans (congrArg (fun z => x_terms_j65 wc24 z) (if_pos c57))
              exact hJ60  hR _ _ _ hE (lv_sub hl [1] rfl)
        · have hR : x_terms p1 p2 Z = x_terms_j65 wc24 (0 : Int32) := hR.trans (congrArg (fun z => x_terms_j65 wc24 z) (if_pos c39))
          refine lv_iconst (v := 0) hx hb dX0_terms_42 rfl ?_
          refine lv_goto (tgt := 65) hx hb dX0_terms_43 (by decide) ?_
          exact hJ65 (0 : Int32)  hR _ _ _ hE (lv_sub hl [1] rfl)
      exact hNc24 (x_partOf (x_placeOf p1 wc3.2) (x_placeOf p2 wc3.2) wc3.2) rfl hR _ _ _ hE (lv_sub hl [1] rfl)
    · have hR : x_terms p1 p2 Z = (wc3.1, wc3.2) := hR.trans (congrArg (fun z => z) (if_neg c8))
      refine lv_iload_n hx hb dX0_terms_11 rfl (lv_at hl 0 rfl) ?_
      exact hret wc3.1 wc3.2 hR rfl hE (Nat.le_refl 0) (Nat.le_refl 0) dX0_terms_12
  exact hNc3 (x_askedTwo p1 p2 Z) rfl hR _ _ _ hE (lv_sub hl [0, 1, 2] rfl)
def x_inner_j39 (w5 : Int64 × ZT) (w39 : Int64 × ZT) : Int64 × ZT := ((w5.1 + w39.1), w39.2)
def x_inner_c32 (wc32 : Int64 × ZT) : Int64 × ZT := (wc32.1, wc32.2)
def x_inner_b5 (p1 : Int32) (i5 : Nat) (w5 : Int64 × ZT) : Int64 × ZT := x_inner_j39 w5 (if (x_bits (nI i5)) = p1 then x_inner_c32 (x_sumOfWays (8 + 1) (nI i5) (nI i5) (1 : Int64) w5.2) else ((0 : Int64), w5.2))
def x_inner_e5 (w5 : Int64 × ZT) : Int64 × ZT := (w5.1, w5.2)
def x_inner (p1 : Int32) (Z : ZT) : Int64 × ZT := x_inner_e5 (itR (x_inner_b5 p1) 0 (ix ((1 : Int32) <<< ((Z.1 23 0) &&& 31))) ((0 : Int64), Z))
theorem inner_fr {k : Nat} (h1 : k ≠ 26) (h2 : k ≠ 27) {m : Int32} {Z : ZT} : (x_inner m Z).2.1 k = Z.1 k := by
  unfold x_inner x_inner_e5
  refine itR_ind (f := x_inner_b5 m) (P := fun s : Int64 × ZT => s.2.1 k = Z.1 k) (fun i s hs => ?_) _ _ _ rfl
  unfold x_inner_b5 x_inner_j39
  split
  · unfold x_inner_c32
    show (x_sumOfWays _ _ _ _ _).2.1 k = _
    rw [sow_fr1 h1 h2]
    exact hs
  · exact hs
theorem inner_23 {m : Int32} {Z : ZT} : (x_inner m Z).2.1 23 = Z.1 23 := inner_fr (by decide) (by decide)
set_option maxHeartbeats 4000000 in
set_option maxRecDepth 100000 in
theorem met_x_inner (l : Launch) (D : va_G) (cs : Nat → ClassId) (x : Nat) (ar : Nat → Nat) (B : BT) (Y : va_W) (Z : ZT) (sz : Nat) (p1 : Int32) (hN : N6 Z) : Met l yX0_inner (ws_ yX0_inner cX0_inner 5 (some .long)) ({ frames := 9, cells := 0, slots := 0, locals := 270 }) (va_Pc [.ref x, .int p1] (wSt D cs (WX x ar cs Z B Y) sz)) (cQl (fun (v : Int64) (u : ZT) => x_inner p1 Z = (v, u)) D (fun u => (WX x ar cs u B Y)) (WX x ar cs Z B Y) sz) 0 0 (va_A (WX x ar cs Z B Y) sz) := by
  refine gStart_l (C := RX0) rfl rfl (Nat.le_of_ble_eq_true rfl) ?_
  intro p e s mid args below meth c R Q A hx hb hml hown hts hK hA hRf hRl hRc hRs hret hE ls hl
  have hRf : 9 ≤ R.frames := hRf
  have hRl : 270 ≤ R.locals := hRl
  have hl : lv_has ls 5 [(0, .ref x), (1, .int p1)] := hl
  have hR : x_inner p1 Z = (x_inner_e5 (itR (x_inner_b5 p1) 0 (ix ((1 : Int32) <<< ((Z.1 23 0) &&& 31))) ((0 : Int64), Z))) := rfl
  obtain ⟨n6, hn6, hnn⟩ := hN
  refine lv_lconst (v := 0) hx hb dX0_inner_0 rfl ?_
  refine lv_lstore_n (lv' := [(2, .long (0 : Int64)), (0, .ref x), (1, .int p1)]) hx hb dX0_inner_1 rfl hl (by decide) rfl (fun ls hl => ?_)
  refine lv_iconst (v := 0) hx hb dX0_inner_2 rfl ?_
  refine lv_istore (lv' := [(4, .int (0 : Int32)), (2, .long (0 : Int64)), (0, .ref x), (1, .int p1)]) hx hb dX0_inner_3 hl (by decide) rfl (fun ls hl => ?_)
  have hL5 : ∀ (k i5 : Nat) (w5 : Int64 × ZT) (hi5 : i5 + k = (ix ((1 : Int32) <<< ((Z.1 23 0) &&& 31)))) (hz5 : w5.2.1 23 0 = Z.1 23 0) (hR : x_inner p1 Z = x_inner_e5 (itR (x_inner_b5 p1) i5 k w5)), ∀ (H : Heap) (locs : List Loc) (ls : Array Slot), EW D A s.heap (WX x ar cs w5.2 B Y) H locs → lv_has ls 5 [(0, .ref x), (1, .int p1), (2, .long w5.1), (4, .int (nI i5))] → W p l e R s mid args below meth c H locs 0 0 Q (F0 mid 5 ls []) := by
    intro k
    induction k with
    | zero =>
      intro i5 w5 hi5 hz5 hR H locs ls hE hl
      have hie5 : i5 = (ix ((1 : Int32) <<< ((Z.1 23 0) &&& 31))) := by omega
      have hbx5 : ix ((1 : Int32) <<< ((w5.2.1 23 0) &&& 31)) = ix ((1 : Int32) <<< ((Z.1 23 0) &&& 31)) := by rw [hz5]
      have hbb5 : ix ((1 : Int32) <<< ((Z.1 23 0) &&& 31)) < 65 := (vp_ix (N := 65) (sh_wide65 hn6 hnn) (by decide)).2
      have hR : x_inner p1 Z = (w5.1, w5.2) := hR
      refine lv_iload hx hb dX0_inner_5 (lv_at hl 3 rfl) ?_
      refine lv_iconst (v := 1) hx hb dX0_inner_7 rfl ?_
      refine lv_aload_n hx hb dX0_inner_8 rfl (lv_at hl 0 rfl) ?_
      refine xg_23 hx hb hts hown hK hE dX0_inner_9 ?_
      refine lv_ishl hx hb dX0_inner_12 ?_
      have hna12 := vp_ix (x := ((1 : Int32) <<< ((w5.2.1 23 0) &&& 31))) (N := 65) (sh_wide65 hn6 (by rw [hz5]; exact hnn)) (by decide)
      have hna12b := hna12.2
      refine top_nat hna12.1 ?_
      refine n_geT (a := i5) (b := (ix ((1 : Int32) <<< ((w5.2.1 23 0) &&& 31)))) (by omega) (by omega) hx hb dX0_inner_13 (tgt := 47) (by decide) ?_
      have hl := lv_sub (l' := [(0, .ref x), (1, .int p1), (2, .long w5.1)]) hl [0, 1, 2] rfl
      refine lv_lload_n hx hb dX0_inner_47 rfl (lv_at hl 2 rfl) ?_
      exact hret w5.1 w5.2 hR hE (Nat.le_refl 0) (Nat.le_refl 0) dX0_inner_48
    | succ k ih5 =>
      intro i5 w5 hi5 hz5 hR H locs ls hE hl
      have hlt5 : i5 < (ix ((1 : Int32) <<< ((Z.1 23 0) &&& 31))) := by omega
      have hbx5 : ix ((1 : Int32) <<< ((w5.2.1 23 0) &&& 31)) = ix ((1 : Int32) <<< ((Z.1 23 0) &&& 31)) := by rw [hz5]
      have hbb5 : ix ((1 : Int32) <<< ((Z.1 23 0) &&& 31)) < 65 := (vp_ix (N := 65) (sh_wide65 hn6 hnn) (by decide)).2
      have hB5 : x_inner_b5 p1 i5 w5 = x_inner_j39 w5 (if (x_bits (nI i5)) = p1 then x_inner_c32 (x_sumOfWays (8 + 1) (nI i5) (nI i5) (1 : Int64) w5.2) else ((0 : Int64), w5.2)) := rfl
      refine lv_iload hx hb dX0_inner_5 (lv_at hl 3 rfl) ?_
      refine lv_iconst (v := 1) hx hb dX0_inner_7 rfl ?_
      refine lv_aload_n hx hb dX0_inner_8 rfl (lv_at hl 0 rfl) ?_
      refine xg_23 hx hb hts hown hK hE dX0_inner_9 ?_
      refine lv_ishl hx hb dX0_inner_12 ?_
      have hna12 := vp_ix (x := ((1 : Int32) <<< ((w5.2.1 23 0) &&& 31))) (N := 65) (sh_wide65 hn6 (by rw [hz5]; exact hnn)) (by decide)
      have hna12b := hna12.2
      refine top_nat hna12.1 ?_
      refine n_geF (a := i5) (b := (ix ((1 : Int32) <<< ((w5.2.1 23 0) &&& 31)))) (by omega) (by omega) hx hb dX0_inner_13 (tgt := 47) (by decide) ?_
      refine lv_lload_n hx hb dX0_inner_16 rfl (lv_at hl 2 rfl) ?_
      refine lv_iload hx hb dX0_inner_17 (lv_at hl 3 rfl) ?_
      refine call_x_bits hx hb hml hown hts hK hA hE hl.1 (nI i5) (lz (show 1 ≤ 9 by decide) hRf) (lz (show 22 ≤ 270 by decide) hRl) (Nat.le_of_ble_eq_true rfl) dX0_inner_19 ⟨Nat.zero_le _, Nat.zero_le _⟩ (fun H locs hE => ?_)
      refine lv_iload_n hx hb dX0_inner_22 rfl (lv_at hl 1 rfl) ?_
      have hJ39 : ∀ (w39 : Int64 × ZT) (hz39 : w39.2.1 23 0 = Z.1 23 0) (hB5 : x_inner_b5 p1 i5 w5 = x_inner_j39 w5 w39), ∀ (H : Heap) (locs : List Loc) (ls : Array Slot), EW D A s.heap (WX x ar cs w39.2 B Y) H locs → lv_has ls 5 [(0, .ref x), (1, .int p1), (4, .int (nI i5))] → W p l e R s mid args below meth c H locs 0 0 Q (F0 mid 39 ls [.long w39.1, .long w5.1]) := by
        intro w39 hz39 hB5 H locs ls hE hl
        have hB5 : x_inner_b5 p1 i5 w5 = ((w5.1 + w39.1), w39.2) := hB5
        refine lv_ladd hx hb dX0_inner_39 ?_
        refine lv_lstore_n (lv' := [(2, .long (w5.1 + w39.1)), (0, .ref x), (1, .int p1), (4, .int (nI i5))]) hx hb dX0_inner_40 rfl hl (by decide) rfl (fun ls hl => ?_)
        refine n_inc (lv' := [(4, .int (nI (i5 + 1))), (2, .long (w5.1 + w39.1)), (0, .ref x), (1, .int p1)]) hx hb dX0_inner_41 hl (k := 3) rfl (by decide) rfl (fun ls hl => ?_)
        refine lv_goto (tgt := 5) hx hb dX0_inner_44 (by decide) ?_
        exact ih5 (i5 + 1) ((w5.1 + w39.1), w39.2) (by omega) (by exact hz39) (hR.trans (congrArg (fun z => x_inner_e5 (itR (x_inner_b5 p1) (i5 + 1) k z)) hB5)) _ _ _ hE (lv_sub hl [2, 3, 1, 0] rfl)
      refine lv_icmp_ne (tgt := 38) hx hb dX0_inner_23 (by decide) (fun c23 => ?_) (fun c23 => ?_)
      · have hB5 : x_inner_b5 p1 i5 w5 = x_inner_j39 w5 ((0 : Int64), w5.2) := hB5.trans (congrArg (fun z => x_inner_j39 w5 z) (if_neg c23))
        refine lv_lconst (v := 0) hx hb dX0_inner_38 rfl ?_
        exact hJ39 ((0 : Int64), w5.2)  (by first | exact hz5 | (rw [hewc32, sow_23]; exact hz5)) hB5 _ _ _ hE (lv_sub hl [0, 1, 3] rfl)
      · have hB5 : x_inner_b5 p1 i5 w5 = x_inner_j39 w5 (x_inner_c32 (x_sumOfWays (8 + 1) (nI i5) (nI i5) (1 : Int64) w5.2)) := hB5.trans (congrArg (fun z => x_inner_j39 w5 z) (if_pos c23))
        refine lv_aload_n hx hb dX0_inner_26 rfl (lv_at hl 0 rfl) ?_
        refine lv_iload hx hb dX0_inner_27 (lv_at hl 3 rfl) ?_
        refine lv_iload hx hb dX0_inner_29 (lv_at hl 3 rfl) ?_
        refine lv_lconst (v := 1) hx hb dX0_inner_31 rfl ?_
        refine call_x_sumOfWays 8 hx hb hml hown hts hK hA hE hl.1 (nI i5) (nI i5) (1 : Int64) (by exact inner_S hn6 (by rw [hz5]; exact hnn) (by rw [← sh_pow hn6 hnn]; exact hlt5)) (by exact Nat.sub_le _ _) (lz (show 9 ≤ 9 by decide) hRf) (lz (show 270 ≤ 270 by decide) hRl) (Nat.le_of_ble_eq_true rfl) dX0_inner_32 ⟨Nat.zero_le _, Nat.zero_le _⟩ (fun H locs hE => ?_)
        have hNc32 : ∀ (wc32 : Int64 × ZT) (hewc32 : wc32 = x_sumOfWays (8 + 1) (nI i5) (nI i5) (1 : Int64) w5.2) (hB5 : x_inner_b5 p1 i5 w5 = x_inner_j39 w5 (x_inner_c32 wc32)), ∀ (H : Heap) (locs : List Loc) (ls : Array Slot), EW D A s.heap (WX x ar cs wc32.2 B Y) H locs → lv_has ls 5 [(0, .ref x), (1, .int p1), (4, .int (nI i5))] → W p l e R s mid args below meth c H locs 0 0 Q (F0 mid 35 ls [.long wc32.1, .long w5.1]) := by
          intro wc32 hewc32 hB5 H locs ls hE hl
          have hB5 : x_inner_b5 p1 i5 w5 = x_inner_j39 w5 (wc32.1, wc32.2) := hB5
          refine lv_goto (tgt := 39) hx hb dX0_inner_35 (by decide) ?_
          exact hJ39 (wc32.1, wc32.2)  (by first | exact hz5 | (rw [hewc32, sow_23]; exact hz5)) hB5 _ _ _ hE (lv_sub hl [0, 1, 2] rfl)
        exact hNc32 (x_sumOfWays (8 + 1) (nI i5) (nI i5) (1 : Int64) w5.2) rfl hB5 _ _ _ hE (lv_sub hl [0, 1, 3] rfl)
  exact hL5 (ix ((1 : Int32) <<< ((Z.1 23 0) &&& 31))) 0 ((0 : Int64), Z) (by omega) (by exact rfl) hR _ _ _ hE (lv_sub hl [2, 3, 1, 0] rfl)
section C_x_inner
variable {p : Program} {l : Launch} {e : Env} {R : Room} {s : State} {mid : MethodId} {args : Array Value} {below : List Frame} {meth : Method} {c : Code} {H : Heap} {locs : List Loc} {cells slots : Nat} {Q : State → Prop} {cc : ByteArray} {pc : Nat} {ls : Array Slot} {rest : List Value} {D : va_G} {A : Nat → Prop} {x : Nat} {ar : Nat → Nat} {cs : Nat → ClassId} {B : BT} {Y : va_W} {Z : ZT} {nL r : Nat}
theorem call_x_inner (hx : p.tables.exec = Jvm.exec) (hb : c.code = cc) (hml : c.maxLocals = nL) (hown : s.vm.findClass RX0 = some mid.cls) (hts : ∀ w ∈ lw_all, w.before args s = true) (hK : KK D cs s) (hA : ∀ q : Nat, s.heap.size ≤ q → A q) (hE : EW D A s.heap (WX x ar cs Z B Y) H locs) (hls : ls.size = nL) (p1 : Int32) (hN : N6 Z) (h1 : 10 ≤ R.frames) (h2 : 294 ≤ R.locals) (h3 : (rest.map fun v => v.category).sum ≤ 8) (hd : decode cc pc = .ok (.invokevirtual 349, 3)) (hf : cells ≤ R.cells ∧ slots ≤ R.slots) (kk : ∀ (H1 : Heap) (locs1 : List Loc), EW D A s.heap (WX x ar cs ((x_inner p1 Z).2) B Y) H1 locs1 → W p l e R s mid args below meth c H1 locs1 cells slots Q (F0 mid (pc + 3) ls (.long (x_inner p1 Z).1 :: rest))) : W p l e R s mid args below meth c H locs cells slots Q (F0 mid pc ls (.int p1 :: .ref x :: rest)) := 
  gCall_l (As := [.int p1]) (rest := rest) (q0 := 0) (ci := 0) (fs := XF ar Z) (T' := TX0) (N' := 29) hx hb hml hown hts hK hA hE hls (met_x_inner l D cs x ar B Y Z H.size p1 hN) (cwV 1 hts (lw_V q859 q861 qs34 q84 q862) rfl rfl rfl (by decide +kernel) ⟨h1, h2⟩) rfl rfl rfl rfl h3 hd hf (fun v u H1 locs1 hp _ hE => by rw [hp] at kk; exact kk H1 locs1 hE)
end C_x_inner
def x_steady_j187 (w85 : Int64 × ZT) (w187 : Int32) : Int32 × ZT := (if w187 = 0 then ((0 : Int32), w85.2) else ((1 : Int32), w85.2))
def x_steady_j184 (w147 : Int32) (w184 : Int32) : Int32 := (w147 &&& w184)
def x_steady_j147 (wc27 : Int64 × ZT) (w48 : Int64 × ZT) (w66 : Int64 × ZT) (w85 : Int64 × ZT) (w147 : Int32) : Int32 × ZT := x_steady_j187 w85 (if w85.2.1 23 0 = (4 : Int32) then x_steady_j184 w147 (if ((wc27.1 * w48.1) * w66.1) ≤ ((w66.1 * w66.1) + ((wc27.1 * wc27.1) * w85.1)) then (0 : Int32) else (1 : Int32)) else w147)
def x_steady_j144 (w118 : Int32) (w144 : Int32) : Int32 := (w118 &&& w144)
def x_steady_j118 (wc27 : Int64 × ZT) (w48 : Int64 × ZT) (w66 : Int64 × ZT) (w85 : Int64 × ZT) (w118 : Int32) : Int32 × ZT := x_steady_j147 wc27 w48 w66 w85 (if w85.2.1 23 0 = (3 : Int32) then x_steady_j144 w118 (if (wc27.1 * w48.1) ≤ w66.1 then (0 : Int32) else (1 : Int32)) else w118)
def x_steady_j85 (wc27 : Int64 × ZT) (w48 : Int64 × ZT) (w66 : Int64 × ZT) (w85 : Int64 × ZT) : Int32 × ZT := x_steady_j118 wc27 w48 w66 w85 (if wc27.1 ≤ (0 : Int64) then (0 : Int32) else (if w48.1 ≤ (0 : Int64) then (0 : Int32) else (if w66.1 ≤ (0 : Int64) then (0 : Int32) else (if w85.1 ≤ (0 : Int64) then (0 : Int32) else (1 : Int32)))))
def x_steady_c78 (wc78 : Int64 × ZT) : Int64 × ZT := (wc78.1, wc78.2)
def x_steady_j66 (wc27 : Int64 × ZT) (w48 : Int64 × ZT) (w66 : Int64 × ZT) : Int32 × ZT := x_steady_j85 wc27 w48 w66 (if w66.2.1 23 0 ≤ (3 : Int32) then ((1 : Int64), w66.2) else x_steady_c78 (x_inner (4 : Int32) w66.2))
def x_steady_c59 (wc59 : Int64 × ZT) : Int64 × ZT := (wc59.1, wc59.2)
def x_steady_j48 (wc27 : Int64 × ZT) (w48 : Int64 × ZT) : Int32 × ZT := x_steady_j66 wc27 w48 (if w48.2.1 23 0 ≤ (2 : Int32) then ((1 : Int64), w48.2) else x_steady_c59 (x_inner (3 : Int32) w48.2))
def x_steady_c41 (wc41 : Int64 × ZT) : Int64 × ZT := (wc41.1, wc41.2)
def x_steady_c27 (wc27 : Int64 × ZT) : Int32 × ZT := x_steady_j48 wc27 (if wc27.2.1 23 0 ≤ (1 : Int32) then ((1 : Int64), wc27.2) else x_steady_c41 (x_inner (2 : Int32) wc27.2))
def x_steady_c1 (wc1 : Int32 × ZT) : Int32 × ZT := (if wc1.1 = 0 then ((-4 : Int32), wc1.2) else (if wc1.2.1 23 0 = 0 then ((-4 : Int32), wc1.2) else (if wc1.2.1 23 0 ≤ (4 : Int32) then x_steady_c27 (x_inner (1 : Int32) wc1.2) else ((-4 : Int32), wc1.2))))
def x_steady (Z : ZT) : Int32 × ZT := x_steady_c1 (x_isLaid Z)
set_option maxHeartbeats 4000000 in
set_option maxRecDepth 100000 in
theorem met_x_steady (l : Launch) (D : va_G) (cs : Nat → ClassId) (x : Nat) (ar : Nat → Nat) (B : BT) (Y : va_W) (Z : ZT) (sz : Nat)  : Met l yX0_steady (ws_ yX0_steady cX0_steady 10 (some .int)) ({ frames := 10, cells := 0, slots := 0, locals := 294 }) (va_Pc [.ref x] (wSt D cs (WX x ar cs Z B Y) sz)) (cQi (fun (v : Int32) (u : ZT) => x_steady Z = (v, u)) D (fun u => (WX x ar cs u B Y)) (WX x ar cs Z B Y) sz) 0 0 (va_A (WX x ar cs Z B Y) sz) := by
  refine gStart_i (C := RX0) rfl rfl (Nat.le_of_ble_eq_true rfl) ?_
  intro p e s mid args below meth c R Q A hx hb hml hown hts hK hA hRf hRl hRc hRs hret hE ls hl
  have hRf : 10 ≤ R.frames := hRf
  have hRl : 294 ≤ R.locals := hRl
  have hl : lv_has ls 10 [(0, .ref x)] := hl
  have hR : x_steady Z = (x_steady_c1 (x_isLaid Z)) := rfl
  refine lv_aload_n hx hb dX0_steady_0 rfl (lv_at hl 0 rfl) ?_
  refine call_x_isLaid hx hb hml hown hts hK hA hE hl.1 (lz (show 2 ≤ 10 by decide) hRf) (lz (show 43 ≤ 294 by decide) hRl) (Nat.le_of_ble_eq_true rfl) dX0_steady_1 ⟨Nat.zero_le _, Nat.zero_le _⟩ (fun H locs hE => ?_)
  have hNc1 : ∀ (wc1 : Int32 × ZT) (hewc1 : wc1 = x_isLaid Z) (hR : x_steady Z = x_steady_c1 wc1), ∀ (H : Heap) (locs : List Loc) (ls : Array Slot), EW D A s.heap (WX x ar cs wc1.2 B Y) H locs → lv_has ls 10 [(0, .ref x)] → W p l e R s mid args below meth c H locs 0 0 Q (F0 mid 4 ls [.int wc1.1]) := by
    intro wc1 hewc1 hR H locs ls hE hl
    have hR : x_steady Z = (if wc1.1 = 0 then ((-4 : Int32), wc1.2) else (if wc1.2.1 23 0 = 0 then ((-4 : Int32), wc1.2) else (if wc1.2.1 23 0 ≤ (4 : Int32) then x_steady_c27 (x_inner (1 : Int32) wc1.2) else ((-4 : Int32), wc1.2)))) := hR
    refine lv_if_eq (tgt := 22) hx hb dX0_steady_4 (by decide) (fun c4 => ?_) (fun c4 => ?_)
    · have hR : x_steady Z = ((-4 : Int32), wc1.2) := hR.trans (congrArg (fun z => z) (if_pos c4))
      refine lv_bipush (v := -4) hx hb dX0_steady_22 rfl ?_
      exact hret (-4 : Int32) wc1.2 hR rfl hE (Nat.le_refl 0) (Nat.le_refl 0) dX0_steady_24
    · have hR : x_steady Z = (if wc1.2.1 23 0 = 0 then ((-4 : Int32), wc1.2) else (if wc1.2.1 23 0 ≤ (4 : Int32) then x_steady_c27 (x_inner (1 : Int32) wc1.2) else ((-4 : Int32), wc1.2))) := hR.trans (congrArg (fun z => z) (if_neg c4))
      refine lv_aload_n hx hb dX0_steady_7 rfl (lv_at hl 0 rfl) ?_
      refine xg_23 hx hb hts hown hK hE dX0_steady_8 ?_
      refine lv_if_eq (tgt := 22) hx hb dX0_steady_11 (by decide) (fun c11 => ?_) (fun c11 => ?_)
      · have hR : x_steady Z = ((-4 : Int32), wc1.2) := hR.trans (congrArg (fun z => z) (if_pos c11))
        refine lv_bipush (v := -4) hx hb dX0_steady_22 rfl ?_
        exact hret (-4 : Int32) wc1.2 hR rfl hE (Nat.le_refl 0) (Nat.le_refl 0) dX0_steady_24
      · have hR : x_steady Z = (if wc1.2.1 23 0 ≤ (4 : Int32) then x_steady_c27 (x_inner (1 : Int32) wc1.2) else ((-4 : Int32), wc1.2)) := hR.trans (congrArg (fun z => z) (if_neg c11))
        refine lv_aload_n hx hb dX0_steady_14 rfl (lv_at hl 0 rfl) ?_
        refine xg_23 hx hb hts hown hK hE dX0_steady_15 ?_
        refine lv_iconst (v := 4) hx hb dX0_steady_18 rfl ?_
        refine lv_icmp_le (tgt := 25) hx hb dX0_steady_19 (by decide) (fun c19 => ?_) (fun c19 => ?_)
        · have hR : x_steady Z = (x_steady_c27 (x_inner (1 : Int32) wc1.2)) := hR.trans (congrArg (fun z => z) (if_pos c19))
          have hs1 : N6 wc1.2 := by rw [hewc1]; exact isLaid_N6 (by rw [← hewc1]; exact c4)
          refine lv_aload_n hx hb dX0_steady_25 rfl (lv_at hl 0 rfl) ?_
          refine lv_iconst (v := 1) hx hb dX0_steady_26 rfl ?_
          refine call_x_inner hx hb hml hown hts hK hA hE hl.1 (1 : Int32) (hs1) (lz (show 10 ≤ 10 by decide) hRf) (lz (show 294 ≤ 294 by decide) hRl) (Nat.le_of_ble_eq_true rfl) dX0_steady_27 ⟨Nat.zero_le _, Nat.zero_le _⟩ (fun H locs hE => ?_)
          have hNc27 : ∀ (wc27 : Int64 × ZT) (hewc27 : wc27 = x_inner (1 : Int32) wc1.2) (hR : x_steady Z = x_steady_c27 wc27), ∀ (H : Heap) (locs : List Loc) (ls : Array Slot), EW D A s.heap (WX x ar cs wc27.2 B Y) H locs → lv_has ls 10 [(0, .ref x)] → W p l e R s mid args below meth c H locs 0 0 Q (F0 mid 30 ls [.long wc27.1]) := by
            intro wc27 hewc27 hR H locs ls hE hl
            have hR : x_steady Z = (x_steady_j48 wc27 (if wc27.2.1 23 0 ≤ (1 : Int32) then ((1 : Int64), wc27.2) else x_steady_c41 (x_inner (2 : Int32) wc27.2))) := hR
            have hs27 : N6 wc27.2 := by rw [hewc27]; exact N6_fr inner_23 hs1
            refine lv_lstore_n (lv' := [(1, .long wc27.1), (0, .ref x)]) hx hb dX0_steady_30 rfl hl (by decide) rfl (fun ls hl => ?_)
            refine lv_aload_n hx hb dX0_steady_31 rfl (lv_at hl 1 rfl) ?_
            refine xg_23 hx hb hts hown hK hE dX0_steady_32 ?_
            refine lv_iconst (v := 1) hx hb dX0_steady_35 rfl ?_
            have hJ48 : ∀ (w48 : Int64 × ZT) (hs48 : N6 w48.2) (hR : x_steady Z = x_steady_j48 wc27 w48), ∀ (H : Heap) (locs : List Loc) (ls : Array Slot), EW D A s.heap (WX x ar cs w48.2 B Y) H locs → lv_has ls 10 [(0, .ref x), (1, .long wc27.1)] → W p l e R s mid args below meth c H locs 0 0 Q (F0 mid 48 ls [.long w48.1]) := by
              intro w48 hs48 hR H locs ls hE hl
              have hR : x_steady Z = (x_steady_j66 wc27 w48 (if w48.2.1 23 0 ≤ (2 : Int32) then ((1 : Int64), w48.2) else x_steady_c59 (x_inner (3 : Int32) w48.2))) := hR
              refine lv_lstore_n (lv' := [(3, .long w48.1), (0, .ref x), (1, .long wc27.1)]) hx hb dX0_steady_48 rfl hl (by decide) rfl (fun ls hl => ?_)
              refine lv_aload_n hx hb dX0_steady_49 rfl (lv_at hl 1 rfl) ?_
              refine xg_23 hx hb hts hown hK hE dX0_steady_50 ?_
              refine lv_iconst (v := 2) hx hb dX0_steady_53 rfl ?_
              have hJ66 : ∀ (w66 : Int64 × ZT) (hs66 : N6 w66.2) (hR : x_steady Z = x_steady_j66 wc27 w48 w66), ∀ (H : Heap) (locs : List Loc) (ls : Array Slot), EW D A s.heap (WX x ar cs w66.2 B Y) H locs → lv_has ls 10 [(0, .ref x), (1, .long wc27.1), (3, .long w48.1)] → W p l e R s mid args below meth c H locs 0 0 Q (F0 mid 66 ls [.long w66.1]) := by
                intro w66 hs66 hR H locs ls hE hl
                have hR : x_steady Z = (x_steady_j85 wc27 w48 w66 (if w66.2.1 23 0 ≤ (3 : Int32) then ((1 : Int64), w66.2) else x_steady_c78 (x_inner (4 : Int32) w66.2))) := hR
                refine lv_lstore (lv' := [(5, .long w66.1), (0, .ref x), (1, .long wc27.1), (3, .long w48.1)]) hx hb dX0_steady_66 hl (by decide) rfl (fun ls hl => ?_)
                refine lv_aload_n hx hb dX0_steady_68 rfl (lv_at hl 1 rfl) ?_
                refine xg_23 hx hb hts hown hK hE dX0_steady_69 ?_
                refine lv_iconst (v := 3) hx hb dX0_steady_72 rfl ?_
                have hJ85 : ∀ (w85 : Int64 × ZT) (hs85 : N6 w85.2) (hR : x_steady Z = x_steady_j85 wc27 w48 w66 w85), ∀ (H : Heap) (locs : List Loc) (ls : Array Slot), EW D A s.heap (WX x ar cs w85.2 B Y) H locs → lv_has ls 10 [(0, .ref x), (1, .long wc27.1), (3, .long w48.1), (5, .long w66.1)] → W p l e R s mid args below meth c H locs 0 0 Q (F0 mid 85 ls [.long w85.1]) := by
                  intro w85 hs85 hR H locs ls hE hl
                  have hR : x_steady Z = (x_steady_j118 wc27 w48 w66 w85 (if wc27.1 ≤ (0 : Int64) then (0 : Int32) else (if w48.1 ≤ (0 : Int64) then (0 : Int32) else (if w66.1 ≤ (0 : Int64) then (0 : Int32) else (if w85.1 ≤ (0 : Int64) then (0 : Int32) else (1 : Int32)))))) := hR
                  refine lv_lstore (lv' := [(7, .long w85.1), (0, .ref x), (1, .long wc27.1), (3, .long w48.1), (5, .long w66.1)]) hx hb dX0_steady_85 hl (by decide) rfl (fun ls hl => ?_)
                  refine lv_lload_n hx hb dX0_steady_87 rfl (lv_at hl 2 rfl) ?_
                  refine lv_lconst (v := 0) hx hb dX0_steady_88 rfl ?_
                  have hJ118 : ∀ (w118 : Int32) (hR : x_steady Z = x_steady_j118 wc27 w48 w66 w85 w118), ∀ (H : Heap) (locs : List Loc) (ls : Array Slot), EW D A s.heap (WX x ar cs w85.2 B Y) H locs → lv_has ls 10 [(0, .ref x), (1, .long wc27.1), (3, .long w48.1), (5, .long w66.1), (7, .long w85.1)] → W p l e R s mid args below meth c H locs 0 0 Q (F0 mid 118 ls [.int w118]) := by
                    intro w118 hR H locs ls hE hl
                    have hR : x_steady Z = (x_steady_j147 wc27 w48 w66 w85 (if w85.2.1 23 0 = (3 : Int32) then x_steady_j144 w118 (if (wc27.1 * w48.1) ≤ w66.1 then (0 : Int32) else (1 : Int32)) else w118)) := hR
                    refine lv_istore (lv' := [(9, .int w118), (0, .ref x), (1, .long wc27.1), (3, .long w48.1), (5, .long w66.1), (7, .long w85.1)]) hx hb dX0_steady_118 hl (by decide) rfl (fun ls hl => ?_)
                    refine lv_aload_n hx hb dX0_steady_120 rfl (lv_at hl 1 rfl) ?_
                    refine xg_23 hx hb hts hown hK hE dX0_steady_121 ?_
                    refine lv_iconst (v := 3) hx hb dX0_steady_124 rfl ?_
                    have hJ147 : ∀ (w147 : Int32) (hR : x_steady Z = x_steady_j147 wc27 w48 w66 w85 w147), ∀ (H : Heap) (locs : List Loc) (ls : Array Slot), EW D A s.heap (WX x ar cs w85.2 B Y) H locs → lv_has ls 10 [(0, .ref x), (1, .long wc27.1), (3, .long w48.1), (5, .long w66.1), (7, .long w85.1), (9, .int w147)] → W p l e R s mid args below meth c H locs 0 0 Q (F0 mid 147 ls []) := by
                      intro w147 hR H locs ls hE hl
                      have hR : x_steady Z = (x_steady_j187 w85 (if w85.2.1 23 0 = (4 : Int32) then x_steady_j184 w147 (if ((wc27.1 * w48.1) * w66.1) ≤ ((w66.1 * w66.1) + ((wc27.1 * wc27.1) * w85.1)) then (0 : Int32) else (1 : Int32)) else w147)) := hR
                      refine lv_aload_n hx hb dX0_steady_147 rfl (lv_at hl 0 rfl) ?_
                      refine xg_23 hx hb hts hown hK hE dX0_steady_148 ?_
                      refine lv_iconst (v := 4) hx hb dX0_steady_151 rfl ?_
                      have hJ187 : ∀ (w187 : Int32) (hR : x_steady Z = x_steady_j187 w85 w187), ∀ (H : Heap) (locs : List Loc) (ls : Array Slot), EW D A s.heap (WX x ar cs w85.2 B Y) H locs → lv_has ls 10 [(9, .int w187)] → W p l e R s mid args below meth c H locs 0 0 Q (F0 mid 187 ls []) := by
                        intro w187 hR H locs ls hE hl
                        have hR : x_steady Z = (if w187 = 0 then ((0 : Int32), w85.2) else ((1 : Int32), w85.2)) := hR
                        refine lv_iload hx hb dX0_steady_187 (lv_at hl 0 rfl) ?_
                        refine lv_if_eq (tgt := 196) hx hb dX0_steady_189 (by decide) (fun c189 => ?_) (fun c189 => ?_)
                        · have hR : x_steady Z = ((0 : Int32), w85.2) := hR.trans (congrArg (fun z => z) (if_pos c189))
                          refine lv_iconst (v := 0) hx hb dX0_steady_196 rfl ?_
                          exact hret (0 : Int32) w85.2 hR rfl hE (Nat.le_refl 0) (Nat.le_refl 0) dX0_steady_197
                        · have hR : x_steady Z = ((1 : Int32), w85.2) := hR.trans (congrArg (fun z => z) (if_neg c189))
                          refine lv_iconst (v := 1) hx hb dX0_steady_192 rfl ?_
                          refine lv_goto (tgt := 197) hx hb dX0_steady_193 (by decide) ?_
                          exact hret (1 : Int32) w85.2 hR rfl hE (Nat.le_refl 0) (Nat.le_refl 0) dX0_steady_197
                      refine lv_icmp_ne (tgt := 187) hx hb dX0_steady_152 (by decide) (fun c152 => ?_) (fun c152 => ?_)
                      · have hR : x_steady Z = x_steady_j187 w85 w147 := hR.trans (congrArg (fun z => x_steady_j187 w85 z) (if_neg c152))
                        exact hJ187 w147  hR _ _ _ hE (lv_sub hl [5] rfl)
                      · have hR : x_steady Z = x_steady_j187 w85 (x_steady_j184 w147 (if ((wc27.1 * w48.1) * w66.1) ≤ ((w66.1 * w66.1) + ((wc27.1 * wc27.1) * w85.1)) then (0 : Int32) else (1 : Int32))) := hR.trans (congrArg (fun z => x_steady_j187 w85 z) (if_pos c152))
                        refine lv_iload hx hb dX0_steady_155 (lv_at hl 5 rfl) ?_
                        refine lv_lload_n hx hb dX0_steady_157 rfl (lv_at hl 1 rfl) ?_
                        refine lv_lload_n hx hb dX0_steady_158 rfl (lv_at hl 2 rfl) ?_
                        refine lv_lmul hx hb dX0_steady_159 ?_
                        refine lv_lload hx hb dX0_steady_160 (lv_at hl 3 rfl) ?_
                        refine lv_lmul hx hb dX0_steady_162 ?_
                        refine lv_lload hx hb dX0_steady_163 (lv_at hl 3 rfl) ?_
                        refine lv_lload hx hb dX0_steady_165 (lv_at hl 3 rfl) ?_
                        refine lv_lmul hx hb dX0_steady_167 ?_
                        refine lv_lload_n hx hb dX0_steady_168 rfl (lv_at hl 1 rfl) ?_
                        refine lv_lload_n hx hb dX0_steady_169 rfl (lv_at hl 1 rfl) ?_
                        refine lv_lmul hx hb dX0_steady_170 ?_
                        refine lv_lload hx hb dX0_steady_171 (lv_at hl 4 rfl) ?_
                        refine lv_lmul hx hb dX0_steady_173 ?_
                        refine lv_ladd hx hb dX0_steady_174 ?_
                        have hJ184 : ∀ (w184 : Int32) (hR : x_steady Z = x_steady_j187 w85 (x_steady_j184 w147 w184)), ∀ (H : Heap) (locs : List Loc) (ls : Array Slot), EW D A s.heap (WX x ar cs w85.2 B Y) H locs → lv_has ls 10 [] → W p l e R s mid args below meth c H locs 0 0 Q (F0 mid 184 ls [.int w184, .int w147]) := by
                          intro w184 hR H locs ls hE hl
                          have hR : x_steady Z = x_steady_j187 w85 (w147 &&& w184) := hR
                          refine lv_iand hx hb dX0_steady_184 ?_
                          refine lv_istore (lv' := [(9, .int (w147 &&& w184))]) hx hb dX0_steady_185 hl (by decide) rfl (fun ls hl => ?_)
                          exact hJ187 (w147 &&& w184)  hR _ _ _ hE (lv_sub hl [0] rfl)
                        refine l_le (tgt := 183) hx hb dX0_steady_175 dX0_steady_176 (by decide) (fun c175 => ?_) (fun c175 => ?_)
                        · have hR : x_steady Z = x_steady_j187 w85 (x_steady_j184 w147 (0 : Int32)) := hR.trans (congrArg (fun z => x_steady_j187 w85 (x_steady_j184 w147 z)) (if_pos c175))
                          refine lv_iconst (v := 0) hx hb dX0_steady_183 rfl ?_
                          exact hJ184 (0 : Int32)  hR _ _ _ hE (lv_sub hl [] rfl)
                        · have hR : x_steady Z = x_steady_j187 w85 (x_steady_j184 w147 (1 : Int32)) := hR.trans (congrArg (fun z => x_steady_j187 w85 (x_steady_j184 w147 z)) (if_neg c175))
                          refine lv_iconst (v := 1) hx hb dX0_steady_179 rfl ?_
                          refine lv_goto (tgt := 184) hx hb dX0_steady_180 (by decide) ?_
                          exact hJ184 (1 : Int32)  hR _ _ _ hE (lv_sub hl [] rfl)
                    refine lv_icmp_ne (tgt := 147) hx hb dX0_steady_125 (by decide) (fun c125 => ?_) (fun c125 => ?_)
                    · have hR : x_steady Z = x_steady_j147 wc27 w48 w66 w85 w118 := hR.trans (congrArg (fun z => x_steady_j147 wc27 w48 w66 w85 z) (if_neg c125))
                      exact hJ147 w118  hR _ _ _ hE (lv_sub hl [1, 2, 3, 4, 5, 0] rfl)
                    · have hR : x_steady Z = x_steady_j147 wc27 w48 w66 w85 (x_steady_j144 w118 (if (wc27.1 * w48.1) ≤ w66.1 then (0 : Int32) else (1 : Int32))) := hR.trans (congrArg (fun z => x_steady_j147 wc27 w48 w66 w85 z) (if_pos c125))
                      refine lv_iload hx hb dX0_steady_128 (lv_at hl 0 rfl) ?_
                      refine lv_lload_n hx hb dX0_steady_130 rfl (lv_at hl 2 rfl) ?_
                      refine lv_lload_n hx hb dX0_steady_131 rfl (lv_at hl 3 rfl) ?_
                      refine lv_lmul hx hb dX0_steady_132 ?_
                      refine lv_lload hx hb dX0_steady_133 (lv_at hl 4 rfl) ?_
                      have hJ144 : ∀ (w144 : Int32) (hR : x_steady Z = x_steady_j147 wc27 w48 w66 w85 (x_steady_j144 w118 w144)), ∀ (H : Heap) (locs : List Loc) (ls : Array Slot), EW D A s.heap (WX x ar cs w85.2 B Y) H locs → lv_has ls 10 [(0, .ref x), (1, .long wc27.1), (3, .long w48.1), (5, .long w66.1), (7, .long w85.1)] → W p l e R s mid args below meth c H locs 0 0 Q (F0 mid 144 ls [.int w144, .int w118]) := by
                        intro w144 hR H locs ls hE hl
                        have hR : x_steady Z = x_steady_j147 wc27 w48 w66 w85 (w118 &&& w144) := hR
                        refine lv_iand hx hb dX0_steady_144 ?_
                        refine lv_istore (lv' := [(9, .int (w118 &&& w144)), (0, .ref x), (1, .long wc27.1), (3, .long w48.1), (5, .long w66.1), (7, .long w85.1)]) hx hb dX0_steady_145 hl (by decide) rfl (fun ls hl => ?_)
                        exact hJ147 (w118 &&& w144)  hR _ _ _ hE (lv_sub hl [1, 2, 3, 4, 5, 0] rfl)
                      refine l_le (tgt := 143) hx hb dX0_steady_135 dX0_steady_136 (by decide) (fun c135 => ?_) (fun c135 => ?_)
                      · have hR : x_steady Z = x_steady_j147 wc27 w48 w66 w85 (x_steady_j144 w118 (0 : Int32)) := hR.trans (congrArg (fun z => x_steady_j147 wc27 w48 w66 w85 (x_steady_j144 w118 z)) (if_pos c135))
                        refine lv_iconst (v := 0) hx hb dX0_steady_143 rfl ?_
                        exact hJ144 (0 : Int32)  hR _ _ _ hE (lv_sub hl [1, 2, 3, 4, 5] rfl)
                      · have hR : x_steady Z = x_steady_j147 wc27 w48 w66 w85 (x_steady_j144 w118 (1 : Int32)) := hR.trans (congrArg (fun z => x_steady_j147 wc27 w48 w66 w85 (x_steady_j144 w118 z)) (if_neg c135))
                        refine lv_iconst (v := 1) hx hb dX0_steady_139 rfl ?_
                        refine lv_goto (tgt := 144) hx hb dX0_steady_140 (by decide) ?_
                        exact hJ144 (1 : Int32)  hR _ _ _ hE (lv_sub hl [1, 2, 3, 4, 5] rfl)
                  refine l_le (tgt := 117) hx hb dX0_steady_89 dX0_steady_90 (by decide) (fun c89 => ?_) (fun c89 => ?_)
                  · have hR : x_steady Z = x_steady_j118 wc27 w48 w66 w85 (0 : Int32) := hR.trans (congrArg (fun z => x_steady_j118 wc27 w48 w66 w85 z) (if_pos c89))
                    refine lv_iconst (v := 0) hx hb dX0_steady_117 rfl ?_
                    exact hJ118 (0 : Int32)  hR _ _ _ hE (lv_sub hl [1, 2, 3, 4, 0] rfl)
                  · have hR : x_steady Z = x_steady_j118 wc27 w48 w66 w85 (if w48.1 ≤ (0 : Int64) then (0 : Int32) else (if w66.1 ≤ (0 : Int64) then (0 : Int32) else (if w85.1 ≤ (0 : Int64) then (0 : Int32) else (1 : Int32)))) := hR.trans (congrArg (fun z => x_steady_j118 wc27 w48 w66 w85 z) (if_neg c89))
                    refine lv_lload_n hx hb dX0_steady_93 rfl (lv_at hl 3 rfl) ?_
                    refine lv_lconst (v := 0) hx hb dX0_steady_94 rfl ?_
                    refine l_le (tgt := 117) hx hb dX0_steady_95 dX0_steady_96 (by decide) (fun c95 => ?_) (fun c95 => ?_)
                    · have hR : x_steady Z = x_steady_j118 wc27 w48 w66 w85 (0 : Int32) := hR.trans (congrArg (fun z => x_steady_j118 wc27 w48 w66 w85 z) (if_pos c95))
                      refine lv_iconst (v := 0) hx hb dX0_steady_117 rfl ?_
                      exact hJ118 (0 : Int32)  hR _ _ _ hE (lv_sub hl [1, 2, 3, 4, 0] rfl)
                    · have hR : x_steady Z = x_steady_j118 wc27 w48 w66 w85 (if w66.1 ≤ (0 : Int64) then (0 : Int32) else (if w85.1 ≤ (0 : Int64) then (0 : Int32) else (1 : Int32))) := hR.trans (congrArg (fun z => x_steady_j118 wc27 w48 w66 w85 z) (if_neg c95))
                      refine lv_lload hx hb dX0_steady_99 (lv_at hl 4 rfl) ?_
                      refine lv_lconst (v := 0) hx hb dX0_steady_101 rfl ?_
                      refine l_le (tgt := 117) hx hb dX0_steady_102 dX0_steady_103 (by decide) (fun c102 => ?_) (fun c102 => ?_)
                      · have hR : x_steady Z = x_steady_j118 wc27 w48 w66 w85 (0 : Int32) := hR.trans (congrArg (fun z => x_steady_j118 wc27 w48 w66 w85 z) (if_pos c102))
                        refine lv_iconst (v := 0) hx hb dX0_steady_117 rfl ?_
                        exact hJ118 (0 : Int32)  hR _ _ _ hE (lv_sub hl [1, 2, 3, 4, 0] rfl)
                      · have hR : x_steady Z = x_steady_j118 wc27 w48 w66 w85 (if w85.1 ≤ (0 : Int64) then (0 : Int32) else (1 : Int32)) := hR.trans (congrArg (fun z => x_steady_j118 wc27 w48 w66 w85 z) (if_neg c102))
                        refine lv_lload hx hb dX0_steady_106 (lv_at hl 0 rfl) ?_
                        refine lv_lconst (v := 0) hx hb dX0_steady_108 rfl ?_
                        refine l_le (tgt := 117) hx hb dX0_steady_109 dX0_steady_110 (by decide) (fun c109 => ?_) (fun c109 => ?_)
                        · have hR : x_steady Z = x_steady_j118 wc27 w48 w66 w85 (0 : Int32) := hR.trans (congrArg (fun z => x_steady_j118 wc27 w48 w66 w85 z) (if_pos c109))
                          refine lv_iconst (v := 0) hx hb dX0_steady_117 rfl ?_
                          exact hJ118 (0 : Int32)  hR _ _ _ hE (lv_sub hl [1, 2, 3, 4, 0] rfl)
                        · have hR : x_steady Z = x_steady_j118 wc27 w48 w66 w85 (1 : Int32) := hR.trans (congrArg (fun z => x_steady_j118 wc27 w48 w66 w85 z) (if_neg c109))
                          refine lv_iconst (v := 1) hx hb dX0_steady_113 rfl ?_
                          refine lv_goto (tgt := 118) hx hb dX0_steady_114 (by decide) ?_
                          exact hJ118 (1 : Int32)  hR _ _ _ hE (lv_sub hl [1, 2, 3, 4, 0] rfl)
                refine lv_icmp_le (tgt := 84) hx hb dX0_steady_73 (by decide) (fun c73 => ?_) (fun c73 => ?_)
                · have hR : x_steady Z = x_steady_j85 wc27 w48 w66 ((1 : Int64), w66.2) := hR.trans (congrArg (fun z => x_steady_j85 wc27 w48 w66 z) (if_pos c73))
                  refine lv_lconst (v := 1) hx hb dX0_steady_84 rfl ?_
                  exact hJ85 ((1 : Int64), w66.2)  (by first | exact hs66 | (rw [hewc78]; exact N6_fr inner_23 hs66)) hR _ _ _ hE (lv_sub hl [1, 2, 3, 0] rfl)
                · have hR : x_steady Z = x_steady_j85 wc27 w48 w66 (x_steady_c78 (x_inner (4 : Int32) w66.2)) := hR.trans (congrArg (fun z => x_steady_j85 wc27 w48 w66 z) (if_neg c73))
                  refine lv_aload_n hx hb dX0_steady_76 rfl (lv_at hl 1 rfl) ?_
                  refine lv_iconst (v := 4) hx hb dX0_steady_77 rfl ?_
                  refine call_x_inner hx hb hml hown hts hK hA hE hl.1 (4 : Int32) (hs66) (lz (show 10 ≤ 10 by decide) hRf) (lz (show 294 ≤ 294 by decide) hRl) (Nat.le_of_ble_eq_true rfl) dX0_steady_78 ⟨Nat.zero_le _, Nat.zero_le _⟩ (fun H locs hE => ?_)
                  have hNc78 : ∀ (wc78 : Int64 × ZT) (hewc78 : wc78 = x_inner (4 : Int32) w66.2) (hR : x_steady Z = x_steady_j85 wc27 w48 w66 (x_steady_c78 wc78)), ∀ (H : Heap) (locs : List Loc) (ls : Array Slot), EW D A s.heap (WX x ar cs wc78.2 B Y) H locs → lv_has ls 10 [(0, .ref x), (1, .long wc27.1), (3, .long w48.1), (5, .long w66.1)] → W p l e R s mid args below meth c H locs 0 0 Q (F0 mid 81 ls [.long wc78.1]) := by
                    intro wc78 hewc78 hR H locs ls hE hl
                    have hR : x_steady Z = x_steady_j85 wc27 w48 w66 (wc78.1, wc78.2) := hR
                    refine lv_goto (tgt := 85) hx hb dX0_steady_81 (by decide) ?_
                    exact hJ85 (wc78.1, wc78.2)  (by first | exact hs66 | (rw [hewc78]; exact N6_fr inner_23 hs66)) hR _ _ _ hE (lv_sub hl [0, 1, 2, 3] rfl)
                  exact hNc78 (x_inner (4 : Int32) w66.2) rfl hR _ _ _ hE (lv_sub hl [1, 2, 3, 0] rfl)
              refine lv_icmp_le (tgt := 65) hx hb dX0_steady_54 (by decide) (fun c54 => ?_) (fun c54 => ?_)
              · have hR : x_steady Z = x_steady_j66 wc27 w48 ((1 : Int64), w48.2) := hR.trans (congrArg (fun z => x_steady_j66 wc27 w48 z) (if_pos c54))
                refine lv_lconst (v := 1) hx hb dX0_steady_65 rfl ?_
                exact hJ66 ((1 : Int64), w48.2)  (by first | exact hs48 | (rw [hewc59]; exact N6_fr inner_23 hs48)) hR _ _ _ hE (lv_sub hl [1, 2, 0] rfl)
              · have hR : x_steady Z = x_steady_j66 wc27 w48 (x_steady_c59 (x_inner (3 : Int32) w48.2)) := hR.trans (congrArg (fun z => x_steady_j66 wc27 w48 z) (if_neg c54))
                refine lv_aload_n hx hb dX0_steady_57 rfl (lv_at hl 1 rfl) ?_
                refine lv_iconst (v := 3) hx hb dX0_steady_58 rfl ?_
                refine call_x_inner hx hb hml hown hts hK hA hE hl.1 (3 : Int32) (hs48) (lz (show 10 ≤ 10 by decide) hRf) (lz (show 294 ≤ 294 by decide) hRl) (Nat.le_of_ble_eq_true rfl) dX0_steady_59 ⟨Nat.zero_le _, Nat.zero_le _⟩ (fun H locs hE => ?_)
                have hNc59 : ∀ (wc59 : Int64 × ZT) (hewc59 : wc59 = x_inner (3 : Int32) w48.2) (hR : x_steady Z = x_steady_j66 wc27 w48 (x_steady_c59 wc59)), ∀ (H : Heap) (locs : List Loc) (ls : Array Slot), EW D A s.heap (WX x ar cs wc59.2 B Y) H locs → lv_has ls 10 [(0, .ref x), (1, .long wc27.1), (3, .long w48.1)] → W p l e R s mid args below meth c H locs 0 0 Q (F0 mid 62 ls [.long wc59.1]) := by
                  intro wc59 hewc59 hR H locs ls hE hl
                  have hR : x_steady Z = x_steady_j66 wc27 w48 (wc59.1, wc59.2) := hR
                  refine lv_goto (tgt := 66) hx hb dX0_steady_62 (by decide) ?_
                  exact hJ66 (wc59.1, wc59.2)  (by first | exact hs48 | (rw [hewc59]; exact N6_fr inner_23 hs48)) hR _ _ _ hE (lv_sub hl [0, 1, 2] rfl)
                exact hNc59 (x_inner (3 : Int32) w48.2) rfl hR _ _ _ hE (lv_sub hl [1, 2, 0] rfl)
            refine lv_icmp_le (tgt := 47) hx hb dX0_steady_36 (by decide) (fun c36 => ?_) (fun c36 => ?_)
            · have hR : x_steady Z = x_steady_j48 wc27 ((1 : Int64), wc27.2) := hR.trans (congrArg (fun z => x_steady_j48 wc27 z) (if_pos c36))
              refine lv_lconst (v := 1) hx hb dX0_steady_47 rfl ?_
              exact hJ48 ((1 : Int64), wc27.2)  (by first | exact hs27 | (rw [hewc41]; exact N6_fr inner_23 hs27)) hR _ _ _ hE (lv_sub hl [1, 0] rfl)
            · have hR : x_steady Z = x_steady_j48 wc27 (x_steady_c41 (x_inner (2 : Int32) wc27.2)) := hR.trans (congrArg (fun z => x_steady_j48 wc27 z) (if_neg c36))
              refine lv_aload_n hx hb dX0_steady_39 rfl (lv_at hl 1 rfl) ?_
              refine lv_iconst (v := 2) hx hb dX0_steady_40 rfl ?_
              refine call_x_inner hx hb hml hown hts hK hA hE hl.1 (2 : Int32) (hs27) (lz (show 10 ≤ 10 by decide) hRf) (lz (show 294 ≤ 294 by decide) hRl) (Nat.le_of_ble_eq_true rfl) dX0_steady_41 ⟨Nat.zero_le _, Nat.zero_le _⟩ (fun H locs hE => ?_)
              have hNc41 : ∀ (wc41 : Int64 × ZT) (hewc41 : wc41 = x_inner (2 : Int32) wc27.2) (hR : x_steady Z = x_steady_j48 wc27 (x_steady_c41 wc41)), ∀ (H : Heap) (locs : List Loc) (ls : Array Slot), EW D A s.heap (WX x ar cs wc41.2 B Y) H locs → lv_has ls 10 [(0, .ref x), (1, .long wc27.1)] → W p l e R s mid args below meth c H locs 0 0 Q (F0 mid 44 ls [.long wc41.1]) := by
                intro wc41 hewc41 hR H locs ls hE hl
                have hR : x_steady Z = x_steady_j48 wc27 (wc41.1, wc41.2) := hR
                refine lv_goto (tgt := 48) hx hb dX0_steady_44 (by decide) ?_
                exact hJ48 (wc41.1, wc41.2)  (by first | exact hs27 | (rw [hewc41]; exact N6_fr inner_23 hs27)) hR _ _ _ hE (lv_sub hl [0, 1] rfl)
              exact hNc41 (x_inner (2 : Int32) wc27.2) rfl hR _ _ _ hE (lv_sub hl [1, 0] rfl)
          exact hNc27 (x_inner (1 : Int32) wc1.2) rfl hR _ _ _ hE (lv_sub hl [0] rfl)
        · have hR : x_steady Z = ((-4 : Int32), wc1.2) := hR.trans (congrArg (fun z => z) (if_neg c19))
          refine lv_bipush (v := -4) hx hb dX0_steady_22 rfl ?_
          exact hret (-4 : Int32) wc1.2 hR rfl hE (Nat.le_refl 0) (Nat.le_refl 0) dX0_steady_24
  exact hNc1 (x_isLaid Z) rfl hR _ _ _ hE (lv_sub hl [0] rfl)
