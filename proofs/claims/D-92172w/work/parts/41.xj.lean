/-! the component: what items do, faults -/
set_option maxRecDepth 100000
def x_being_c36 (w32 : Int32) (wc36 : ZT) : Int32 × ZT := (w32, wc36)
def x_being_j32 (p1 : Int32) (p2 : Int32) (Z : ZT) (w32 : Int32) : Int32 × ZT := x_being_c36 w32 (x_come (ix p1) p2 Z)
def x_being (p1 : Int32) (p2 : Int32) (Z : ZT) : Int32 × ZT := (if (x_isBeing p1) = 0 then ((-1 : Int32), Z) else (if (x_isIn p2 (0 : Int32) (3 : Int32)) = 0 then ((-1 : Int32), Z) else x_being_j32 p1 p2 Z (if Z.1 30 (ix p1) = 0 then (0 : Int32) else (1 : Int32))))
set_option maxHeartbeats 4000000 in
set_option maxRecDepth 100000 in
theorem met_x_being (l : Launch) (D : va_G) (cs : Nat → ClassId) (x : Nat) (ar : Nat → Nat) (B0 : BT) (Y : va_W) (Z : ZT) (sz : Nat) (p1 : Int32) (p2 : Int32) : Met l yX0_being (ws_ yX0_being cX0_being 4 (some .int)) ({ frames := 6, cells := 1, slots := 6, locals := 116 }) (va_Pc [.ref x, .int p1, .int p2] (wSt D cs (WX x ar cs Z B0 Y) sz)) (cQi (fun (v : Int32) (u : ZT × BT) => x_being p1 p2 Z = (v, u.1) ∧ u.2.2 = B0.2) D (fun u => WX x ar cs u.1 u.2 Y) (WX x ar cs Z B0 Y) sz) 1 6 (va_A (WX x ar cs Z B0 Y) sz) := by
  refine gStart_i (C := RX0) rfl rfl (Nat.le_of_ble_eq_true rfl) ?_
  intro p e s mid args below meth c R Q A hx hb hml hown hts hK hA hRf hRl hRc hRs hret hE ls hl
  have hRf : 6 ≤ R.frames := hRf
  have hRl : 116 ≤ R.locals := hRl
  have hRc : 1 ≤ R.cells := hRc
  have hRs : 6 ≤ R.slots := hRs
  obtain ⟨B, hB0⟩ : ∃ B : BT, B = B0 := ⟨B0, rfl⟩
  have hE : EW D A s.heap (WX x ar cs Z B Y) s.heap [] := by rw [hB0]; exact hE
  have hB2 : B.2 = B0.2 := by rw [hB0]
  have hl : lv_has ls 4 [(0, .ref x), (1, .int p1), (2, .int p2)] := hl
  have hR : x_being p1 p2 Z = (if (x_isBeing p1) = 0 then ((-1 : Int32), Z) else (if (x_isIn p2 (0 : Int32) (3 : Int32)) = 0 then ((-1 : Int32), Z) else x_being_j32 p1 p2 Z (if Z.1 30 (ix p1) = 0 then (0 : Int32) else (1 : Int32)))) := rfl
  refine lv_iload_n hx hb dX0_being_0 rfl (lv_at hl 1 rfl) ?_
  refine call_x_isBeing hx hb hml hown hts hK hA hE hl.1 p1 (lz (show 2 ≤ 6 by decide) hRf) (lz (show 42 ≤ 116 by decide) hRl) (Nat.le_of_ble_eq_true rfl) dX0_being_1 ⟨by omega, by omega⟩ (fun H locs hE => ?_)
  refine lv_if_eq (tgt := 16) hx hb dX0_being_4 (by decide) (fun c4 => ?_) (fun c4 => ?_)
  · have hR : x_being p1 p2 Z = ((-1 : Int32), Z) := hR.trans (congrArg (fun z => z) (if_pos c4))
    refine lv_iconst (v := -1) hx hb dX0_being_16 rfl ?_
    exact hret (-1 : Int32) (Z, B) ⟨hR, hB2⟩ rfl hE (by omega) (by omega) dX0_being_17
  · have hR : x_being p1 p2 Z = (if (x_isIn p2 (0 : Int32) (3 : Int32)) = 0 then ((-1 : Int32), Z) else x_being_j32 p1 p2 Z (if Z.1 30 (ix p1) = 0 then (0 : Int32) else (1 : Int32))) := hR.trans (congrArg (fun z => z) (if_neg c4))
    refine lv_iload_n hx hb dX0_being_7 rfl (lv_at hl 2 rfl) ?_
    refine lv_iconst (v := 0) hx hb dX0_being_8 rfl ?_
    refine lv_iconst (v := 3) hx hb dX0_being_9 rfl ?_
    refine call_x_isIn hx hb hml hown hts hK hA hE hl.1 p2 (0 : Int32) (3 : Int32) (lz (show 1 ≤ 6 by decide) hRf) (lz (show 22 ≤ 116 by decide) hRl) (Nat.le_of_ble_eq_true rfl) dX0_being_10 ⟨by omega, by omega⟩ (fun H locs hE => ?_)
    refine lv_if_ne (tgt := 18) hx hb dX0_being_13 (by decide) (fun c13 => ?_) (fun c13 => ?_)
    · have hR : x_being p1 p2 Z = (x_being_j32 p1 p2 Z (if Z.1 30 (ix p1) = 0 then (0 : Int32) else (1 : Int32))) := hR.trans (congrArg (fun z => z) (if_neg c13))
      have hnp1 := vp_ix (x := p1) (N := 8) (xBe_vp c4) (by decide)
      have hbnp1 := hnp1.2
      refine lv_aload_n hx hb dX0_being_18 rfl (lv_at hl 0 rfl) ?_
      refine xg_10 hx hb hts hown hK hE dX0_being_19 ?_
      refine lv_iload_n hx hb dX0_being_22 rfl (lv_at hl 1 rfl) ?_
      refine top_nat hnp1.1 ?_
      refine xa_10 (n := (ix p1)) (by omega) hx hb hK hE dX0_being_23 ?_
      have hJ32 : ∀ (w32 : Int32) (hR : x_being p1 p2 Z = x_being_j32 p1 p2 Z w32), ∀ (H : Heap) (locs : List Loc) (ls : Array Slot) (B : BT) (hB2 : B.2 = B0.2) (cells slots : Nat) (hcs : cells + 1 ≤ 1 ∧ slots + 6 ≤ 6), EW D A s.heap (WX x ar cs Z B Y) H locs → lv_has ls 4 [(0, .ref x), (1, .int p1), (2, .int p2)] → W p l e R s mid args below meth c H locs cells slots Q (F0 mid 32 ls [.int w32]) := by
        intro w32 hR H locs ls B hB2 cells slots hcs hE hl
        have hR : x_being p1 p2 Z = (x_being_c36 w32 (x_come (ix p1) p2 Z)) := hR
        refine lv_istore_n (lv' := [(3, .int w32), (0, .ref x), (1, .int p1), (2, .int p2)]) hx hb dX0_being_32 rfl hl (by decide) rfl (fun ls hl => ?_)
        refine lv_aload_n hx hb dX0_being_33 rfl (lv_at hl 1 rfl) ?_
        refine lv_iload_n hx hb dX0_being_34 rfl (lv_at hl 2 rfl) ?_
        refine top_nat hnp1.1 ?_
        refine lv_iload_n hx hb dX0_being_35 rfl (lv_at hl 3 rfl) ?_
        refine call_x_come hx hb hml hown hts hK hA hE hl.1 (ix p1) p2 (by omega) (lz (show 6 ≤ 6 by decide) hRf) (lz (show 116 ≤ 116 by decide) hRl) (Nat.le_of_ble_eq_true rfl) dX0_being_36 ⟨by omega, by omega⟩ (fun H locs B hB3 cells slots hcs2 hE => ?_)
        have hB2 : B.2 = B0.2 := hB3.trans hB2
        have hNc36 : ∀ (wc36 : ZT) (hR : x_being p1 p2 Z = x_being_c36 w32 wc36), ∀ (H : Heap) (locs : List Loc) (ls : Array Slot) (B : BT) (hB2 : B.2 = B0.2) (cells slots : Nat) (hcs : cells + 0 ≤ 1 ∧ slots + 0 ≤ 6), EW D A s.heap (WX x ar cs wc36 B Y) H locs → lv_has ls 4 [(3, .int w32)] → W p l e R s mid args below meth c H locs cells slots Q (F0 mid 39 ls []) := by
          intro wc36 hR H locs ls B hB2 cells slots hcs hE hl
          have hR : x_being p1 p2 Z = (w32, wc36) := hR
          refine lv_iload_n hx hb dX0_being_39 rfl (lv_at hl 0 rfl) ?_
          exact hret w32 (wc36, B) ⟨hR, hB2⟩ rfl hE (by omega) (by omega) dX0_being_40
        exact hNc36 (x_come (ix p1) p2 Z) hR _ _ _ _ hB2 _ _ (by omega) hE (lv_sub hl [0] rfl)
      refine xnw_be (b := (ix p1)) (tgt := 31) hx hb dX0_being_24 (by decide) (fun c24 => ?_) (fun c24 => ?_)
      · have hR : x_being p1 p2 Z = x_being_j32 p1 p2 Z (1 : Int32) := hR.trans (congrArg (fun z => x_being_j32 p1 p2 Z z) (if_neg c24))
        refine lv_iconst (v := 1) hx hb dX0_being_31 rfl ?_
        exact hJ32 (1 : Int32)  hR _ _ _ _ hB2 _ _ (by omega) hE (lv_sub hl [0, 1, 2] rfl)
      · have hR : x_being p1 p2 Z = x_being_j32 p1 p2 Z (0 : Int32) := hR.trans (congrArg (fun z => x_being_j32 p1 p2 Z z) (if_pos c24))
        refine lv_iconst (v := 0) hx hb dX0_being_27 rfl ?_
        refine lv_goto (tgt := 32) hx hb dX0_being_28 (by decide) ?_
        exact hJ32 (0 : Int32)  hR _ _ _ _ hB2 _ _ (by omega) hE (lv_sub hl [0, 1, 2] rfl)
    · have hR : x_being p1 p2 Z = ((-1 : Int32), Z) := hR.trans (congrArg (fun z => z) (if_pos c13))
      refine lv_iconst (v := -1) hx hb dX0_being_16 rfl ?_
      exact hret (-1 : Int32) (Z, B) ⟨hR, hB2⟩ rfl hE (by omega) (by omega) dX0_being_17
def x_does_c114 (w97 : Int32) (wc114 : ZT) : Int32 × ZT := (w97, wc114)
def x_does_j97 (p1 : Int32) (Z : ZT) (w97 : Int32) : Int32 × ZT := (if w97 = 0 then (w97, Z) else x_does_c114 w97 (x_setLink (ix (Z.1 7 0)) (ix (Z.1 9 0)) p1 Z))
def x_does_j48 (Z : ZT) (w48 : ZT) : Int32 × ZT := (if w48.1 30 (ix (Z.1 7 0)) = 0 then ((0 : Int32), w48) else ((1 : Int32), w48))
def x_does_c25 (wc25 : ZT) : Int32 × ZT := ((1 : Int32), wc25)
def x_does (p1 : Int32) (Z : ZT) : Int32 × ZT := (if Z.1 8 0 = (33 : Int32) then x_does_c25 (x_come (ix (Z.1 7 0)) p1 Z) else (if Z.1 8 0 = (42 : Int32) then x_does_j48 Z (if Z.1 30 (ix (Z.1 7 0)) = 0 then Z else sI Z 32 (ix (Z.1 7 0)) p1) else x_does_j97 p1 Z (if Z.1 30 (ix (Z.1 7 0)) = 0 then (0 : Int32) else (if Z.1 30 (ix (Z.1 9 0)) = 0 then (0 : Int32) else (if (v_is (ix (Z.1 7 0)) (2 : Int32) Z) = 0 then (0 : Int32) else (if (v_is (ix (Z.1 9 0)) (3 : Int32) Z) = 0 then (1 : Int32) else (0 : Int32)))))))
theorem rd_ix {t : Nat} {Z : ZT} (h : RD t Z) (hn : ix (Z.1 42 0) < ix (Z.1 40 t)) : ix (Z.1 42 0 + 1) = ix (Z.1 42 0) + 1 := by
  obtain ⟨h1, h2, h3, h4, h5, h6⟩ := h
  have l := (Z.1 42 0).toInt_lt
  have e3 : (ix (Z.1 42 0) : Int) = (Z.1 42 0).toInt := Int.toNat_of_nonneg h5
  have e4 : (ix (Z.1 40 t) : Int) = (Z.1 40 t).toInt := Int.toNat_of_nonneg h3
  have e : (Z.1 42 0 + 1).toInt = (Z.1 42 0).toInt + 1 := by
    rw [Int32.toInt_add, show (1 : Int32).toInt = 1 from rfl, Int.bmod_eq_of_le (by omega) (by omega)]
  have e5 : (ix (Z.1 42 0 + 1) : Int) = (Z.1 42 0 + 1).toInt := Int.toNat_of_nonneg (by omega)
  omega
theorem rd_60 {t : Nat} {Z : ZT} (h : RD t Z) : ix (Z.1 42 0) ≤ 60 := by
  obtain ⟨h1, h2, h3, h4, h5, h6⟩ := h
  have e3 : (ix (Z.1 42 0) : Int) = (Z.1 42 0).toInt := Int.toNat_of_nonneg h5
  omega
theorem RD_0 {t : Nat} {Z : ZT} (h : t < 4 ∧ ¬ Z.1 40 t = -1 ∧ 0 ≤ (Z.1 40 t).toInt ∧ (Z.1 40 t).toInt ≤ 60) : RD t (sI (sI Z 42 0 0) 43 0 0) := ⟨h.1, h.2.1, h.2.2.1, h.2.2.2, (by decide : (0 : Int) ≤ (0 : Int32).toInt), h.2.2.1⟩
theorem skip_facts {t : Nat} {Z : ZT} (h : RD t Z) : RD t (r_skip t Z) ∧ ix (Z.1 42 0) ≤ ix ((r_skip t Z).1 42 0) ∧ (∀ k, k ≠ 42 → (r_skip t Z).1 k = Z.1 k) ∧ (r_skip t Z).2 = Z.2 := by
  unfold r_skip r_skip_e0
  refine wlR_inv (f := r_skip_b0 t) (P := fun s : ZT => RD t s ∧ ix (Z.1 42 0) ≤ ix (s.1 42 0) ∧ (∀ k, k ≠ 42 → s.1 k = Z.1 k) ∧ s.2 = Z.2) (fun s hs => ?_) _ _ ⟨h, Nat.le_refl _, fun _ _ => rfl, rfl⟩
  unfold r_skip_b0
  split
  · rename_i c
    have hl := rd_lt hs.1 (by rw [c]; decide)
    refine ⟨RD_up hs.1 hl rfl rfl, ?_, fun k hk => by rw [sI_ne hk]; exact hs.2.2.1 k hk, hs.2.2.2⟩
    show ix (Z.1 42 0) ≤ ix (s.1 42 0 + 1)
    rw [rd_ix hs.1 hl]
    exact Nat.le_succ_of_le hs.2.1
  · exact hs
theorem skip_RD {t : Nat} {Z : ZT} (h : RD t Z) : RD t (r_skip t Z) := (skip_facts h).1
theorem reads_facts {t n : Nat} {m : Int32} {Z : ZT} (h : RD t Z) : RD t (r_reads t n m Z).2 ∧ (∀ k, k ≠ 42 → k ≠ 43 → (r_reads t n m Z).2.1 k = Z.1 k) ∧ (r_reads t n m Z).2.2 = Z.2 ∧ (¬ (r_reads t n m Z).1 = 0 → ix (Z.1 42 0) < ix ((r_reads t n m Z).2.1 42 0)) := by
  unfold r_reads
  have hw := wlR_inv (f := r_reads_b10 t n Z) (P := fun s : ZT => RD t s ∧ ix (Z.1 42 0) ≤ ix (s.1 42 0) ∧ (∀ k, k ≠ 42 → k ≠ 43 → s.1 k = Z.1 k) ∧ s.2 = Z.2) (fun s hs => ?_) 62 (sI Z 43 0 (0 : Int32)) ⟨RD_n h, Nat.le_refl _, fun k h1 h2 => sI_ne h2, rfl⟩
  · generalize wlR (r_reads_b10 t n Z) 62 (sI Z 43 0 (0 : Int32)) = w at hw
    obtain ⟨w1, w2, w3, w4⟩ := hw
    unfold r_reads_e10
    split
    · exact ⟨w1, w3, w4, fun q => absurd rfl q⟩
    · rename_i hne
      split
      · refine ⟨w1, w3, w4, fun _ => ?_⟩
        rcases Nat.lt_or_ge (ix (Z.1 42 0)) (ix (w.1 42 0)) with q | q
        · exact q
        · have e3 : (ix (Z.1 42 0) : Int) = (Z.1 42 0).toInt := Int.toNat_of_nonneg h.2.2.2.2.1
          have e4 : (ix (w.1 42 0) : Int) = (w.1 42 0).toInt := Int.toNat_of_nonneg w1.2.2.2.2.1
          exact absurd (Int32.toInt_inj.mp (by omega)) hne
      · refine ⟨?_, fun k h1 h2 => by rw [sI_ne h1]; exact w3 k h1 h2, w4, fun q => absurd rfl q⟩
        have e40 : w.1 40 = Z.1 40 := w3 40 (by decide) (by decide)
        unfold RD
        rw [sI_at, if_pos rfl, sI_ne (by decide), e40]
        exact h
  · unfold r_reads_b10
    split
    · exact hs
    · rename_i c
      split
      · exact hs
      · have hl := rd_dg hs.1 c
        refine ⟨RD_up hs.1 hl rfl rfl, ?_, fun k h1 h2 => by rw [sI_ne h1, sI_ne h2]; exact hs.2.2.1 k h1 h2, hs.2.2.2⟩
        show ix (Z.1 42 0) ≤ ix (s.1 42 0 + 1)
        rw [rd_ix hs.1 hl]
        exact Nat.le_succ_of_le hs.2.1
theorem being_in {t : Nat} {Z : ZT} (h : ¬ r_isBeing t Z = 0) : vp_in (r_here t Z - 97) 8 := by
  unfold r_isBeing at h
  split at h
  · exact absurd rfl h
  · rename_i h1
    split at h
    · exact absurd rfl h
    · rename_i h2
      rw [Int32.lt_iff_toInt_lt, show (97 : Int32).toInt = 97 from rfl] at h1
      rw [Int32.lt_iff_toInt_lt, show (104 : Int32).toInt = 104 from rfl] at h2
      have e : (r_here t Z - 97).toInt = (r_here t Z).toInt - 97 := by
        rw [Int32.toInt_sub, show (97 : Int32).toInt = 97 from rfl, Int.bmod_eq_of_le (by omega) (by omega)]
      exact vp_in_iff.mpr ⟨by omega, by omega⟩
/-- what is known behind an item -/
def IF_ (t : Nat) (Z : ZT) (u : Int32 × ZT) : Prop := RD t u.2 ∧ (∀ k, k ≠ 7 → k ≠ 8 → k ≠ 9 → k ≠ 42 → k ≠ 43 → u.2.1 k = Z.1 k) ∧ u.2.2 = Z.2 ∧ (¬ u.1 = 0 → ix (Z.1 42 0) < ix (u.2.1 42 0) ∧ vp_in (u.2.1 7 0) 8 ∧ (¬ u.2.1 8 0 = 33 → ¬ u.2.1 8 0 = 42 → vp_in (u.2.1 9 0) 8))
theorem isItem_facts {t : Nat} {Z : ZT} (h : RD t Z) : IF_ t Z (x_isItem t Z) := by
  unfold x_isItem
  by_cases c4 : r_isBeing t Z = 0
  · rw [if_pos c4]
    exact ⟨h, fun _ _ _ _ _ _ => rfl, rfl, fun q => absurd rfl q⟩
  rw [if_neg c4]
  have l0 := rd_b h c4
  have R30 : RD t (sI (sI Z 7 0 (r_here t Z - 97)) 42 0 (Z.1 42 0 + 1)) := RD_up h l0 rfl rfl
  have a30 : ix ((sI (sI Z 7 0 (r_here t Z - 97)) 42 0 (Z.1 42 0 + 1)).1 42 0) = ix (Z.1 42 0) + 1 := rd_ix h l0
  have b30 : vp_in ((sI (sI Z 7 0 (r_here t Z - 97)) 42 0 (Z.1 42 0 + 1)).1 7 0) 8 := being_in c4
  have r30 : ∀ k, k ≠ 7 → k ≠ 42 → (sI (sI Z 7 0 (r_here t Z - 97)) 42 0 (Z.1 42 0 + 1)).1 k = Z.1 k := fun k h1 h2 => by rw [sI_ne h2, sI_ne h1]
  have s30 : (sI (sI Z 7 0 (r_here t Z - 97)) 42 0 (Z.1 42 0 + 1)).2 = Z.2 := rfl
  generalize sI (sI Z 7 0 (r_here t Z - 97)) 42 0 (Z.1 42 0 + 1) = w at R30 a30 b30 r30 s30
  unfold x_isItem_m30
  have key : (r_here t w = 33 ∨ r_here t w = 42 ∨ r_here t w = 62) → IF_ t Z (x_isItem_k67 t w) := by
    intro hs
    have l1 : ix (w.1 42 0) < ix (w.1 40 t) := rd_lt R30 (by rcases hs with q | q | q <;> rw [q] <;> decide)
    unfold x_isItem_k67
    have R77 : RD t (sI (sI w 8 0 (r_here t w)) 42 0 (w.1 42 0 + 1)) := RD_up R30 l1 rfl rfl
    have a77 : ix ((sI (sI w 8 0 (r_here t w)) 42 0 (w.1 42 0 + 1)).1 42 0) = ix (w.1 42 0) + 1 := rd_ix R30 l1
    have b77 : vp_in ((sI (sI w 8 0 (r_here t w)) 42 0 (w.1 42 0 + 1)).1 7 0) 8 := b30
    have r77 : ∀ k, k ≠ 7 → k ≠ 8 → k ≠ 42 → (sI (sI w 8 0 (r_here t w)) 42 0 (w.1 42 0 + 1)).1 k = Z.1 k := fun k h1 h2 h3 => by rw [sI_ne h3, sI_ne h2]; exact r30 k h1 h3
    have s77 : (sI (sI w 8 0 (r_here t w)) 42 0 (w.1 42 0 + 1)).2 = Z.2 := s30
    have e77 : (sI (sI w 8 0 (r_here t w)) 42 0 (w.1 42 0 + 1)).1 8 0 = r_here t w := rfl
    generalize sI (sI w 8 0 (r_here t w)) 42 0 (w.1 42 0 + 1) = v at R77 a77 b77 r77 s77 e77
    unfold x_isItem_m77
    have fin : ∀ (n : Nat) (m : Int32) (u : ZT), RD t u → ix (w.1 42 0) + 1 ≤ ix (u.1 42 0) → vp_in (u.1 7 0) 8 → (∀ k, k ≠ 7 → k ≠ 8 → k ≠ 9 → k ≠ 42 → u.1 k = Z.1 k) → u.2 = Z.2 → (¬ u.1 8 0 = 33 → ¬ u.1 8 0 = 42 → vp_in (u.1 9 0) 8) → IF_ t Z (r_reads t n m u) := by
      intro n m u hu1 hu2 hu3 hu4 hu5 hu6
      obtain ⟨f1, f2, f3, f4⟩ := reads_facts (n := n) (m := m) hu1
      refine ⟨f1, fun k k7 k8 k9 k42 k43 => by rw [f2 k k42 k43]; exact hu4 k k7 k8 k9 k42, f3.trans hu5, fun q => ⟨?_, ?_, ?_⟩⟩
      · have := f4 q
        omega
      · rw [f2 7 (by decide) (by decide)]
        exact hu3
      · rw [f2 8 (by decide) (by decide), f2 9 (by decide) (by decide)]
        exact hu6
    by_cases c62 : v.1 8 0 = 62
    · rw [if_pos c62]
      by_cases cb : r_isBeing t v = 0
      · rw [if_pos cb]
        exact ⟨R77, fun k k7 k8 k9 k42 k43 => r77 k k7 k8 k42, s77, fun q => absurd rfl q⟩
      · rw [if_neg cb]
        have l2 := rd_b R77 cb
        unfold x_isItem_m143
        refine fin 2 99 _ (RD_up R77 l2 rfl rfl) ?_ b77 (fun k k7 k8 k9 k42 => by rw [sI_ne k42, sI_ne k9]; exact r77 k k7 k8 k42) s77 (fun _ _ => being_in cb)
        show _ ≤ ix (v.1 42 0 + 1)
        rw [rd_ix R77 l2]
        omega
    · rw [if_neg c62]
      have h9 : ¬ v.1 8 0 = 33 → ¬ v.1 8 0 = 42 → vp_in (v.1 9 0) 8 := fun n1 n2 => by
        rw [e77] at n1 n2 c62
        rcases hs with q | q | q
        · exact absurd q n1
        · exact absurd q n2
        · exact absurd q c62
      have hf := fun n m => fin n m v R77 (by omega) b77 (fun k k7 k8 _ k42 => r77 k k7 k8 k42) s77 h9
      split
      · have hf := hf 1 3
        generalize r_reads t 1 3 v = wf at hf ⊢
        exact hf
      · exact hf 6 100000
  split
  · rename_i q
    exact key (Or.inl q)
  · split
    · rename_i q
      exact key (Or.inr (Or.inl q))
    · split
      · rename_i q
        exact key (Or.inr (Or.inr q))
      · exact ⟨by unfold RD; rw [sI_ne (by decide), sI_ne (by decide)]; exact R30, fun k k7 k8 _ k42 _ => by rw [sI_ne k8]; exact r30 k k7 k42, s30, fun q => absurd rfl q⟩
theorem isItem_RD {t : Nat} {Z : ZT} (h : RD t Z) : RD t (x_isItem t Z).2 := (isItem_facts h).1
theorem fo_dec {t n : Nat} {Z : ZT} (h : RD t Z) (hc : ¬ (x_isItem t Z).1 = 0) (hm : 60 - ix (Z.1 42 0) < n + 1) : 60 - ix ((r_skip t (x_isItem t Z).2).1 42 0) < n := by
  have h1 := isItem_facts h
  have h2 := (h1.2.2.2 hc).1
  have h3 := skip_facts h1.1
  have h4 := rd_60 h3.1
  omega
set_option maxHeartbeats 4000000 in
set_option maxRecDepth 100000 in
theorem met_x_does (l : Launch) (D : va_G) (cs : Nat → ClassId) (x : Nat) (ar : Nat → Nat) (B0 : BT) (Y : va_W) (Z : ZT) (sz : Nat) (p1 : Int32) (hI : vp_in (Z.1 7 0) 8 ∧ (¬ Z.1 8 0 = 33 → ¬ Z.1 8 0 = 42 → vp_in (Z.1 9 0) 8)) : Met l yX0_does (ws_ yX0_does cX0_does 5 (some .boolean)) ({ frames := 6, cells := 1, slots := 6, locals := 116 }) (va_Pc [.ref x, .int p1] (wSt D cs (WX x ar cs Z B0 Y) sz)) (cQi (fun (v : Int32) (u : ZT × BT) => x_does p1 Z = (v, u.1) ∧ u.2.2 = B0.2) D (fun u => WX x ar cs u.1 u.2 Y) (WX x ar cs Z B0 Y) sz) 1 6 (va_A (WX x ar cs Z B0 Y) sz) := by
  refine gStart_i (C := RX0) rfl rfl (Nat.le_of_ble_eq_true rfl) ?_
  intro p e s mid args below meth c R Q A hx hb hml hown hts hK hA hRf hRl hRc hRs hret hE ls hl
  have hRf : 6 ≤ R.frames := hRf
  have hRl : 116 ≤ R.locals := hRl
  have hRc : 1 ≤ R.cells := hRc
  have hRs : 6 ≤ R.slots := hRs
  obtain ⟨B, hB0⟩ : ∃ B : BT, B = B0 := ⟨B0, rfl⟩
  have hE : EW D A s.heap (WX x ar cs Z B Y) s.heap [] := by rw [hB0]; exact hE
  have hB2 : B.2 = B0.2 := by rw [hB0]
  have hl : lv_has ls 5 [(0, .ref x), (1, .int p1)] := hl
  have hR : x_does p1 Z = (if Z.1 8 0 = (33 : Int32) then x_does_c25 (x_come (ix (Z.1 7 0)) p1 Z) else (if Z.1 8 0 = (42 : Int32) then x_does_j48 Z (if Z.1 30 (ix (Z.1 7 0)) = 0 then Z else sI Z 32 (ix (Z.1 7 0)) p1) else x_does_j97 p1 Z (if Z.1 30 (ix (Z.1 7 0)) = 0 then (0 : Int32) else (if Z.1 30 (ix (Z.1 9 0)) = 0 then (0 : Int32) else (if (v_is (ix (Z.1 7 0)) (2 : Int32) Z) = 0 then (0 : Int32) else (if (v_is (ix (Z.1 9 0)) (3 : Int32) Z) = 0 then (1 : Int32) else (0 : Int32))))))) := rfl
  refine lv_aload_n hx hb dX0_does_0 rfl (lv_at hl 0 rfl) ?_
  refine xg_10 hx hb hts hown hK hE dX0_does_1 ?_
  refine lv_aload_n hx hb dX0_does_4 rfl (lv_at hl 0 rfl) ?_
  refine xg_7 hx hb hts hown hK hE dX0_does_5 ?_
  have hna5 := vp_ix (x := Z.1 7 0) (N := 8) (hI.1) (by decide)
  have hna5b := hna5.2
  refine top_nat hna5.1 ?_
  refine xa_10 (n := (ix (Z.1 7 0))) (by omega) hx hb hK hE dX0_does_8 ?_
  refine xst_n (i := 2) (lv' := [(2, va_rf (adr Z B (ix (Z.1 7 0)))), (0, .ref x), (1, .int p1)]) hx hb dX0_does_9 rfl hl (by decide) (by first | rfl | simp [cat_rf] | simp [cat_rf, Value.category]) (fun ls hl => ?_)
  refine lv_aload_n hx hb dX0_does_10 rfl (lv_at hl 1 rfl) ?_
  refine xg_8 hx hb hts hown hK hE dX0_does_11 ?_
  refine lv_bipush (v := 33) hx hb dX0_does_14 rfl ?_
  refine lv_icmp_ne (tgt := 30) hx hb dX0_does_16 (by decide) (fun c16 => ?_) (fun c16 => ?_)
  · have hR : x_does p1 Z = (if Z.1 8 0 = (42 : Int32) then x_does_j48 Z (if Z.1 30 (ix (Z.1 7 0)) = 0 then Z else sI Z 32 (ix (Z.1 7 0)) p1) else x_does_j97 p1 Z (if Z.1 30 (ix (Z.1 7 0)) = 0 then (0 : Int32) else (if Z.1 30 (ix (Z.1 9 0)) = 0 then (0 : Int32) else (if (v_is (ix (Z.1 7 0)) (2 : Int32) Z) = 0 then (0 : Int32) else (if (v_is (ix (Z.1 9 0)) (3 : Int32) Z) = 0 then (1 : Int32) else (0 : Int32)))))) := hR.trans (congrArg (fun z => z) (if_neg c16))
    refine lv_aload_n hx hb dX0_does_30 rfl (lv_at hl 1 rfl) ?_
    refine xg_8 hx hb hts hown hK hE dX0_does_31 ?_
    refine lv_bipush (v := 42) hx hb dX0_does_34 rfl ?_
    refine lv_icmp_ne (tgt := 58) hx hb dX0_does_36 (by decide) (fun c36 => ?_) (fun c36 => ?_)
    · have hR : x_does p1 Z = (x_does_j97 p1 Z (if Z.1 30 (ix (Z.1 7 0)) = 0 then (0 : Int32) else (if Z.1 30 (ix (Z.1 9 0)) = 0 then (0 : Int32) else (if (v_is (ix (Z.1 7 0)) (2 : Int32) Z) = 0 then (0 : Int32) else (if (v_is (ix (Z.1 9 0)) (3 : Int32) Z) = 0 then (1 : Int32) else (0 : Int32)))))) := hR.trans (congrArg (fun z => z) (if_neg c36))
      refine lv_aload_n hx hb dX0_does_58 rfl (lv_at hl 1 rfl) ?_
      refine xg_10 hx hb hts hown hK hE dX0_does_59 ?_
      refine lv_aload_n hx hb dX0_does_62 rfl (lv_at hl 1 rfl) ?_
      refine xg_9 hx hb hts hown hK hE dX0_does_63 ?_
      have hna63 := vp_ix (x := Z.1 9 0) (N := 8) (hI.2 c16 c36) (by decide)
      have hna63b := hna63.2
      refine top_nat hna63.1 ?_
      refine xa_10 (n := (ix (Z.1 9 0))) (by omega) hx hb hK hE dX0_does_66 ?_
      refine xst_n (i := 3) (lv' := [(3, va_rf (adr Z B (ix (Z.1 9 0)))), (2, va_rf (adr Z B (ix (Z.1 7 0)))), (0, .ref x), (1, .int p1)]) hx hb dX0_does_67 rfl hl (by decide) (by first | rfl | simp [cat_rf] | simp [cat_rf, Value.category]) (fun ls hl => ?_)
      refine xld_n hx hb dX0_does_68 rfl (lv_at hl 1 rfl) ?_
      have hJ97 : ∀ (w97 : Int32) (hw97 : w97 = 0 ∨ w97 = 1) (hR : x_does p1 Z = x_does_j97 p1 Z w97), ∀ (H : Heap) (locs : List Loc) (ls : Array Slot) (B : BT) (hB2 : B.2 = B0.2) (cells slots : Nat) (hcs : cells + 1 ≤ 1 ∧ slots + 6 ≤ 6), EW D A s.heap (WX x ar cs Z B Y) H locs → lv_has ls 5 [(0, .ref x), (1, .int p1)] → W p l e R s mid args below meth c H locs cells slots Q (F0 mid 97 ls [.int w97]) := by
        intro w97 hw97 hR H locs ls B hB2 cells slots hcs hE hl
        have hR : x_does p1 Z = (if w97 = 0 then (w97, Z) else x_does_c114 w97 (x_setLink (ix (Z.1 7 0)) (ix (Z.1 9 0)) p1 Z)) := hR
        refine lv_istore (lv' := [(4, .int w97), (0, .ref x), (1, .int p1)]) hx hb dX0_does_97 hl (by decide) rfl (fun ls hl => ?_)
        refine lv_iload hx hb dX0_does_99 (lv_at hl 0 rfl) ?_
        refine lv_if_eq (tgt := 117) hx hb dX0_does_101 (by decide) (fun c101 => ?_) (fun c101 => ?_)
        · have hR : x_does p1 Z = (w97, Z) := hR.trans (congrArg (fun z => z) (if_pos c101))
          refine lv_iload hx hb dX0_does_117 (lv_at hl 0 rfl) ?_
          exact hret w97 (Z, B) ⟨hR, hB2⟩ (nrw_bool hw97) hE (by omega) (by omega) dX0_does_119
        · have hR : x_does p1 Z = (x_does_c114 w97 (x_setLink (ix (Z.1 7 0)) (ix (Z.1 9 0)) p1 Z)) := hR.trans (congrArg (fun z => z) (if_neg c101))
          refine lv_aload_n hx hb dX0_does_104 rfl (lv_at hl 1 rfl) ?_
          refine lv_aload_n hx hb dX0_does_105 rfl (lv_at hl 1 rfl) ?_
          refine xg_7 hx hb hts hown hK hE dX0_does_106 ?_
          have hna106 := vp_ix (x := Z.1 7 0) (N := 8) (hI.1) (by decide)
          have hna106b := hna106.2
          refine top_nat hna106.1 ?_
          refine lv_aload_n hx hb dX0_does_109 rfl (lv_at hl 1 rfl) ?_
          refine xg_9 hx hb hts hown hK hE dX0_does_110 ?_
          have hna110 := vp_ix (x := Z.1 9 0) (N := 8) (hI.2 c16 c36) (by decide)
          have hna110b := hna110.2
          refine top_nat hna110.1 ?_
          refine lv_iload_n hx hb dX0_does_113 rfl (lv_at hl 2 rfl) ?_
          refine call_x_setLink hx hb hml hown hts hK hA hE hl.1 (ix (Z.1 7 0)) (ix (Z.1 9 0)) p1 (by omega) (by omega) (lz (show 2 ≤ 6 by decide) hRf) (lz (show 45 ≤ 116 by decide) hRl) (Nat.le_of_ble_eq_true rfl) dX0_does_114 ⟨by omega, by omega⟩ (fun H locs hE => ?_)
          have hNc114 : ∀ (wc114 : ZT) (hR : x_does p1 Z = x_does_c114 w97 wc114), ∀ (H : Heap) (locs : List Loc) (ls : Array Slot) (B : BT) (hB2 : B.2 = B0.2) (cells slots : Nat) (hcs : cells + 1 ≤ 1 ∧ slots + 6 ≤ 6), EW D A s.heap (WX x ar cs wc114 B Y) H locs → lv_has ls 5 [(4, .int w97)] → W p l e R s mid args below meth c H locs cells slots Q (F0 mid 117 ls []) := by
            intro wc114 hR H locs ls B hB2 cells slots hcs hE hl
            have hR : x_does p1 Z = (w97, wc114) := hR
            refine lv_iload hx hb dX0_does_117 (lv_at hl 0 rfl) ?_
            exact hret w97 (wc114, B) ⟨hR, hB2⟩ (nrw_bool hw97) hE (by omega) (by omega) dX0_does_119
          exact hNc114 (x_setLink (ix (Z.1 7 0)) (ix (Z.1 9 0)) p1 Z) hR _ _ _ _ hB2 _ _ (by omega) hE (lv_sub hl [0] rfl)
      refine xnn_be (b := (ix (Z.1 7 0))) (tgt := 96) hx hb dX0_does_69 (by decide) (fun c69 => ?_) (fun c69 => ?_)
      · have hR : x_does p1 Z = x_does_j97 p1 Z (0 : Int32) := hR.trans (congrArg (fun z => x_does_j97 p1 Z z) (if_pos c69))
        refine lv_iconst (v := 0) hx hb dX0_does_96 rfl ?_
        exact hJ97 (0 : Int32)  (by first | exact Or.inl rfl | exact Or.inr rfl) hR _ _ _ _ hB2 _ _ (by omega) hE (lv_sub hl [2, 3] rfl)
      · have hR : x_does p1 Z = x_does_j97 p1 Z (if Z.1 30 (ix (Z.1 9 0)) = 0 then (0 : Int32) else (if (v_is (ix (Z.1 7 0)) (2 : Int32) Z) = 0 then (0 : Int32) else (if (v_is (ix (Z.1 9 0)) (3 : Int32) Z) = 0 then (1 : Int32) else (0 : Int32)))) := hR.trans (congrArg (fun z => x_does_j97 p1 Z z) (if_neg c69))
        refine xld_n hx hb dX0_does_72 rfl (lv_at hl 0 rfl) ?_
        refine xnn_be (b := (ix (Z.1 9 0))) (tgt := 96) hx hb dX0_does_73 (by decide) (fun c73 => ?_) (fun c73 => ?_)
        · have hR : x_does p1 Z = x_does_j97 p1 Z (0 : Int32) := hR.trans (congrArg (fun z => x_does_j97 p1 Z z) (if_pos c73))
          refine lv_iconst (v := 0) hx hb dX0_does_96 rfl ?_
          exact hJ97 (0 : Int32)  (by first | exact Or.inl rfl | exact Or.inr rfl) hR _ _ _ _ hB2 _ _ (by omega) hE (lv_sub hl [2, 3] rfl)
        · have hR : x_does p1 Z = x_does_j97 p1 Z (if (v_is (ix (Z.1 7 0)) (2 : Int32) Z) = 0 then (0 : Int32) else (if (v_is (ix (Z.1 9 0)) (3 : Int32) Z) = 0 then (1 : Int32) else (0 : Int32))) := hR.trans (congrArg (fun z => x_does_j97 p1 Z z) (if_neg c73))
          refine xld_n hx hb dX0_does_76 rfl (lv_at hl 1 rfl) ?_
          refine lv_iconst (v := 2) hx hb dX0_does_77 rfl ?_
          refine call_v_is hx hb hml hown hts hK hA hE hl.1 (ix (Z.1 7 0)) (2 : Int32) (by omega) (c69) (lz (show 3 ≤ 6 by decide) hRf) (lz (show 63 ≤ 116 by decide) hRl) (Nat.le_of_ble_eq_true rfl) dX0_does_78 ⟨by omega, by omega⟩ (fun H locs hE => ?_)
          refine lv_if_eq (tgt := 96) hx hb dX0_does_81 (by decide) (fun c81 => ?_) (fun c81 => ?_)
          · have hR : x_does p1 Z = x_does_j97 p1 Z (0 : Int32) := hR.trans (congrArg (fun z => x_does_j97 p1 Z z) (if_pos c81))
            refine lv_iconst (v := 0) hx hb dX0_does_96 rfl ?_
            exact hJ97 (0 : Int32)  (by first | exact Or.inl rfl | exact Or.inr rfl) hR _ _ _ _ hB2 _ _ (by omega) hE (lv_sub hl [2, 3] rfl)
          · have hR : x_does p1 Z = x_does_j97 p1 Z (if (v_is (ix (Z.1 9 0)) (3 : Int32) Z) = 0 then (1 : Int32) else (0 : Int32)) := hR.trans (congrArg (fun z => x_does_j97 p1 Z z) (if_neg c81))
            refine xld_n hx hb dX0_does_84 rfl (lv_at hl 0 rfl) ?_
            refine lv_iconst (v := 3) hx hb dX0_does_85 rfl ?_
            refine call_v_is hx hb hml hown hts hK hA hE hl.1 (ix (Z.1 9 0)) (3 : Int32) (by omega) (c73) (lz (show 3 ≤ 6 by decide) hRf) (lz (show 63 ≤ 116 by decide) hRl) (Nat.le_of_ble_eq_true rfl) dX0_does_86 ⟨by omega, by omega⟩ (fun H locs hE => ?_)
            refine lv_if_ne (tgt := 96) hx hb dX0_does_89 (by decide) (fun c89 => ?_) (fun c89 => ?_)
            · have hR : x_does p1 Z = x_does_j97 p1 Z (0 : Int32) := hR.trans (congrArg (fun z => x_does_j97 p1 Z z) (if_neg c89))
              refine lv_iconst (v := 0) hx hb dX0_does_96 rfl ?_
              exact hJ97 (0 : Int32)  (by first | exact Or.inl rfl | exact Or.inr rfl) hR _ _ _ _ hB2 _ _ (by omega) hE (lv_sub hl [2, 3] rfl)
            · have hR : x_does p1 Z = x_does_j97 p1 Z (1 : Int32) := hR.trans (congrArg (fun z => x_does_j97 p1 Z z) (if_pos c89))
              refine lv_iconst (v := 1) hx hb dX0_does_92 rfl ?_
              refine lv_goto (tgt := 97) hx hb dX0_does_93 (by decide) ?_
              exact hJ97 (1 : Int32)  (by first | exact Or.inl rfl | exact Or.inr rfl) hR _ _ _ _ hB2 _ _ (by omega) hE (lv_sub hl [2, 3] rfl)
    · have hR : x_does p1 Z = (x_does_j48 Z (if Z.1 30 (ix (Z.1 7 0)) = 0 then Z else sI Z 32 (ix (Z.1 7 0)) p1)) := hR.trans (congrArg (fun z => z) (if_pos c36))
      refine xld_n hx hb dX0_does_39 rfl (lv_at hl 0 rfl) ?_
      have hJ48 : ∀ (w48 : ZT) (hz48 : w48.1 30 = Z.1 30) (hR : x_does p1 Z = x_does_j48 Z w48), ∀ (H : Heap) (locs : List Loc) (ls : Array Slot) (B : BT) (hB2 : B.2 = B0.2) (cells slots : Nat) (hcs : cells + 1 ≤ 1 ∧ slots + 6 ≤ 6), EW D A s.heap (WX x ar cs w48 B Y) H locs → lv_has ls 5 [(2, va_rf (adr Z B (ix (Z.1 7 0))))] → W p l e R s mid args below meth c H locs cells slots Q (F0 mid 48 ls []) := by
        intro w48 hz48 hR H locs ls B hB2 cells slots hcs hE hl
        have hR : x_does p1 Z = (if w48.1 30 (ix (Z.1 7 0)) = 0 then ((0 : Int32), w48) else ((1 : Int32), w48)) := hR
        refine xld_n hx hb dX0_does_48 rfl (lv_at hl 0 rfl) ?_
        rw [show adr Z B (ix (Z.1 7 0)) = adr w48 B (ix (Z.1 7 0)) from by unfold adr; rw [hz48]]
        refine xnn_be (b := (ix (Z.1 7 0))) (tgt := 56) hx hb dX0_does_49 (by decide) (fun c49 => ?_) (fun c49 => ?_)
        · have hR : x_does p1 Z = ((0 : Int32), w48) := hR.trans (congrArg (fun z => z) (if_pos c49))
          refine lv_iconst (v := 0) hx hb dX0_does_56 rfl ?_
          exact hret (0 : Int32) (w48, B) ⟨hR, hB2⟩ rfl hE (by omega) (by omega) dX0_does_57
        · have hR : x_does p1 Z = ((1 : Int32), w48) := hR.trans (congrArg (fun z => z) (if_neg c49))
          refine lv_iconst (v := 1) hx hb dX0_does_52 rfl ?_
          refine lv_goto (tgt := 57) hx hb dX0_does_53 (by decide) ?_
          exact hret (1 : Int32) (w48, B) ⟨hR, hB2⟩ rfl hE (by omega) (by omega) dX0_does_57
      refine xnn_be (b := (ix (Z.1 7 0))) (tgt := 48) hx hb dX0_does_40 (by decide) (fun c40 => ?_) (fun c40 => ?_)
      · have hR : x_does p1 Z = x_does_j48 Z Z := hR.trans (congrArg (fun z => x_does_j48 Z z) (if_pos c40))
        exact hJ48 Z  (by exact rfl) hR _ _ _ _ hB2 _ _ (by omega) hE (lv_sub hl [0] rfl)
      · have hR : x_does p1 Z = x_does_j48 Z (sI Z 32 (ix (Z.1 7 0)) p1) := hR.trans (congrArg (fun z => x_does_j48 Z z) (if_neg c40))
        refine xld_n hx hb dX0_does_43 rfl (lv_at hl 0 rfl) ?_
        refine lv_iload_n hx hb dX0_does_44 rfl (lv_at hl 2 rfl) ?_
        refine xbp_32 (b := (ix (Z.1 7 0))) (by omega) (by assumption) hx hb hts hown hK hE dX0_does_45 (fun H locs hE => ?_)
        exact hJ48 (sI Z 32 (ix (Z.1 7 0)) p1)  (by exact rfl) hR _ _ _ _ hB2 _ _ (by omega) hE (lv_sub hl [0] rfl)
  · have hR : x_does p1 Z = (x_does_c25 (x_come (ix (Z.1 7 0)) p1 Z)) := hR.trans (congrArg (fun z => z) (if_pos c16))
    refine lv_aload_n hx hb dX0_does_19 rfl (lv_at hl 1 rfl) ?_
    refine lv_aload_n hx hb dX0_does_20 rfl (lv_at hl 1 rfl) ?_
    refine xg_7 hx hb hts hown hK hE dX0_does_21 ?_
    have hna21 := vp_ix (x := Z.1 7 0) (N := 8) (hI.1) (by decide)
    have hna21b := hna21.2
    refine top_nat hna21.1 ?_
    refine lv_iload_n hx hb dX0_does_24 rfl (lv_at hl 2 rfl) ?_
    refine call_x_come hx hb hml hown hts hK hA hE hl.1 (ix (Z.1 7 0)) p1 (by omega) (lz (show 6 ≤ 6 by decide) hRf) (lz (show 116 ≤ 116 by decide) hRl) (Nat.le_of_ble_eq_true rfl) dX0_does_25 ⟨by omega, by omega⟩ (fun H locs B hB3 cells slots hcs2 hE => ?_)
    have hB2 : B.2 = B0.2 := hB3.trans hB2
    have hNc25 : ∀ (wc25 : ZT) (hR : x_does p1 Z = x_does_c25 wc25), ∀ (H : Heap) (locs : List Loc) (ls : Array Slot) (B : BT) (hB2 : B.2 = B0.2) (cells slots : Nat) (hcs : cells + 0 ≤ 1 ∧ slots + 0 ≤ 6), EW D A s.heap (WX x ar cs wc25 B Y) H locs → lv_has ls 5 [] → W p l e R s mid args below meth c H locs cells slots Q (F0 mid 28 ls []) := by
      intro wc25 hR H locs ls B hB2 cells slots hcs hE hl
      have hR : x_does p1 Z = ((1 : Int32), wc25) := hR
      refine lv_iconst (v := 1) hx hb dX0_does_28 rfl ?_
      exact hret (1 : Int32) (wc25, B) ⟨hR, hB2⟩ rfl hE (by omega) (by omega) dX0_does_29
    exact hNc25 (x_come (ix (Z.1 7 0)) p1 Z) hR _ _ _ _ hB2 _ _ (by omega) hE (lv_sub hl [] rfl)
section C_x_does
variable {p : Program} {l : Launch} {e : Env} {R : Room} {s : State} {mid : MethodId} {args : Array Value} {below : List Frame} {meth : Method} {c : Code} {H : Heap} {locs : List Loc} {cells slots : Nat} {Q : State → Prop} {cc : ByteArray} {pc : Nat} {ls : Array Slot} {rest : List Value} {D : va_G} {A : Nat → Prop} {x : Nat} {ar : Nat → Nat} {cs : Nat → ClassId} {B : BT} {Y : va_W} {Z : ZT} {nL r : Nat}
theorem call_x_does (hx : p.tables.exec = Jvm.exec) (hb : c.code = cc) (hml : c.maxLocals = nL) (hown : s.vm.findClass RX0 = some mid.cls) (hts : ∀ w ∈ lw_all, w.before args s = true) (hK : KK D cs s) (hA : ∀ q : Nat, s.heap.size ≤ q → A q) (hE : EW D A s.heap (WX x ar cs Z B Y) H locs) (hls : ls.size = nL) (p1 : Int32) (hI : vp_in (Z.1 7 0) 8 ∧ (¬ Z.1 8 0 = 33 → ¬ Z.1 8 0 = 42 → vp_in (Z.1 9 0) 8)) (h1 : 7 ≤ R.frames) (h2 : 140 ≤ R.locals) (h3 : (rest.map fun v => v.category).sum ≤ 8) (hd : decode cc pc = .ok (.invokevirtual 163, 3)) (hf : cells + 1 ≤ R.cells ∧ slots + 6 ≤ R.slots) (kk : ∀ (H1 : Heap) (locs1 : List Loc) (B1 : BT) (_ : B1.2 = B.2) (cells1 slots1 : Nat) (_ : cells1 = cells + 1 ∧ slots1 = slots + 6), EW D A s.heap (WX x ar cs (x_does p1 Z).2 B1 Y) H1 locs1 → W p l e R s mid args below meth c H1 locs1 cells1 slots1 Q (F0 mid (pc + 3) ls (.int (x_does p1 Z).1 :: rest))) : W p l e R s mid args below meth c H locs cells slots Q (F0 mid pc ls (.int p1 :: .ref x :: rest)) := 
  gCall_i (As := [.int p1]) (rest := rest) (q0 := 0) (ci := 0) (fs := XF ar Z) (T' := TX0) (N' := 29) hx hb hml hown hts hK hA hE hls (met_x_does l D cs x ar B Y Z H.size p1 hI) (cwV 1 hts (lw_V q426 q428 qs5 q84 q429) rfl rfl rfl (by decide +kernel) ⟨h1, h2⟩) rfl rfl rfl rfl h3 hd hf (fun v u H1 locs1 hp _ hE => by have kk := kk H1 locs1 u.2 hp.2 _ _ ⟨rfl, rfl⟩; rw [hp.1] at kk; exact kk hE)
end C_x_does
def x_faultOf_c34 (wc34 : ZT) : (Int32 × ZT) ⊕ (Bool × (ZT)) := (.inr (true, wc34))
def x_faultOf_c22 (t : Nat) (wc22 : Int32 × ZT) : (Int32 × ZT) ⊕ (Bool × (ZT)) := (if wc22.1 = 0 then (.inl (wc22.2.1 42 0, wc22.2)) else x_faultOf_c34 (r_skip t wc22.2))
def x_faultOf_b13 (t : Nat) (w13 : ZT) : (Int32 × ZT) ⊕ (Bool × (ZT)) := (if (r_isEnd t w13) = 0 then x_faultOf_c22 t (x_isItem t w13) else (.inr (false, w13)))
def x_faultOf_e13 (w13 : ZT) : Int32 × ZT := ((-9 : Int32), w13)
def x_faultOf (t : Nat) (Z : ZT) : Int32 × ZT := wrR (x_faultOf_b13 t) x_faultOf_e13 62 (r_skip t (sI (sI Z 42 0 0) 43 0 0))
set_option maxHeartbeats 4000000 in
set_option maxRecDepth 100000 in
theorem met_x_faultOf (l : Launch) (D : va_G) (cs : Nat → ClassId) (x : Nat) (ar : Nat → Nat) (B : BT) (Y : va_W) (Z : ZT) (sz : Nat) (t : Nat) (hT : t < 4 ∧ ¬ Z.1 40 t = -1 ∧ 0 ≤ (Z.1 40 t).toInt ∧ (Z.1 40 t).toInt ≤ 60) : Met l yX0_faultOf (ws_ yX0_faultOf cX0_faultOf 3 (some .int)) ({ frames := 5, cells := 1, slots := 3, locals := 104 }) (va_Pc [.ref x, .ref (B.2 t)] (wSt D cs (WX x ar cs Z B Y) sz)) (cQi (fun (v : Int32) (u : ZT) => x_faultOf t Z = (v, u)) D (fun u => (WX x ar cs u B Y)) (WX x ar cs Z B Y) sz) 1 3 (va_A (WX x ar cs Z B Y) sz) := by
  refine gStart_i (C := RX0) rfl rfl (Nat.le_of_ble_eq_true rfl) ?_
  intro p e s mid args below meth c R Q A hx hb hml hown hts hK hA hRf hRl hRc hRs hret hE ls hl
  have hRf : 5 ≤ R.frames := hRf
  have hRl : 104 ≤ R.locals := hRl
  have hRc : 1 ≤ R.cells := hRc
  have hRs : 3 ≤ R.slots := hRs
  have hl : lv_has ls 3 [(0, .ref x), (1, .ref (B.2 t))] := hl
  have hR : x_faultOf t Z = (wrR (x_faultOf_b13 t) x_faultOf_e13 62 (r_skip t (sI (sI Z 42 0 0) 43 0 0))) := rfl
  refine xnew_rd hx hb hts hown hK hA hE (by omega) (by omega) dX0_faultOf_0 (fun r H cells slots hcs2 hE => ?_)
  refine lv_dup hx hb dX0_faultOf_3 rfl ?_
  refine lv_aload_n hx hb dX0_faultOf_4 rfl (lv_at hl 1 rfl) ?_
  refine xinit_rd (t := t) hx hb hml hown hts hK hA hE hl.1 (lz (show 2 ≤ 5 by decide) hRf) (lz (show 33 ≤ 104 by decide) hRl) (Nat.le_of_ble_eq_true rfl) dX0_faultOf_5 ⟨by omega, by omega⟩ (fun H locs hE => ?_)
  refine lv_astore_n (lv' := [(2, .ref r), (0, .ref x), (1, .ref (B.2 t))]) hx hb dX0_faultOf_8 rfl hl (by decide) rfl (fun ls hl => ?_)
  refine lv_aload_n hx hb dX0_faultOf_9 rfl (lv_at hl 0 rfl) ?_
  refine callx_r_skip hx hb hml hown hts hK hA hE hl.1 (RD_0 hT) (lz (show 3 ≤ 5 by decide) hRf) (lz (show 60 ≤ 104 by decide) hRl) (Nat.le_of_ble_eq_true rfl) dX0_faultOf_10 ⟨by omega, by omega⟩ (fun H locs hE => ?_)
  have hX13 : ∀ (w13 : ZT) (hR13 : RD t w13) (hR : x_faultOf t Z = x_faultOf_e13 w13), ∀ (H : Heap) (locs : List Loc) (ls : Array Slot) (cells slots : Nat) (hcs : cells + 0 ≤ 1 ∧ slots + 0 ≤ 3), EW D A s.heap (WX x ar cs w13 B (rdr w13 B r t :: Y)) H locs → lv_has ls 3 [] → W p l e R s mid args below meth c H locs cells slots Q (F0 mid 40 ls []) := by
    intro w13 hR13 hR H locs ls cells slots hcs hE hl
    have hR : x_faultOf t Z = ((-9 : Int32), w13) := hR
    refine lv_bipush (v := -9) hx hb dX0_faultOf_40 rfl ?_
    exact hret (-9 : Int32) w13 hR rfl (EW.dropR hE) (by omega) (by omega) dX0_faultOf_42
  have hL13 : ∀ (n : Nat) (w13 : ZT) (hm13 : 60 - ix (w13.1 42 0) < n) (hR13 : RD t w13) (hR : x_faultOf t Z = wrR (x_faultOf_b13 t) x_faultOf_e13 n w13), ∀ (H : Heap) (locs : List Loc) (ls : Array Slot) (cells slots : Nat) (hcs : cells + 0 ≤ 1 ∧ slots + 0 ≤ 3), EW D A s.heap (WX x ar cs w13 B (rdr w13 B r t :: Y)) H locs → lv_has ls 3 [(0, .ref x), (2, .ref r)] → W p l e R s mid args below meth c H locs cells slots Q (F0 mid 13 ls []) := by
    intro n
    induction n with
    | zero =>
      intro w13 hm13
      exact absurd hm13 (Nat.not_lt_zero _)
    | succ n ih13 =>
      intro w13 hm13 hR13 hR H locs ls cells slots hcs hE hl
      have hB13 : x_faultOf_b13 t w13 = (if (r_isEnd t w13) = 0 then x_faultOf_c22 t (x_isItem t w13) else (.inr (false, w13))) := rfl
      refine lv_aload_n hx hb dX0_faultOf_13 rfl (lv_at hl 1 rfl) ?_
      refine callx_r_isEnd hx hb hml hown hts hK hA hE hl.1 (hR13) (lz (show 1 ≤ 5 by decide) hRf) (lz (show 20 ≤ 104 by decide) hRl) (Nat.le_of_ble_eq_true rfl) dX0_faultOf_14 ⟨by omega, by omega⟩ (fun H locs hE => ?_)
      refine lv_if_ne (tgt := 40) hx hb dX0_faultOf_17 (by decide) (fun c17 => ?_) (fun c17 => ?_)
      · have hB13 : x_faultOf_b13 t w13 = (.inr (false, w13)) := hB13.trans (congrArg (fun z => z) (if_neg c17))
        exact hX13 w13 (by exact hR13) (hR.trans (congrArg (fun z => z) (wr_f hB13))) _ _ _ _ _ (by omega) hE (lv_sub hl [] rfl)
      · have hB13 : x_faultOf_b13 t w13 = (x_faultOf_c22 t (x_isItem t w13)) := hB13.trans (congrArg (fun z => z) (if_pos c17))
        refine lv_aload_n hx hb dX0_faultOf_20 rfl (lv_at hl 0 rfl) ?_
        refine lv_aload_n hx hb dX0_faultOf_21 rfl (lv_at hl 1 rfl) ?_
        refine call_x_isItem hx hb hml hown hts hK hA hE hl.1 (hR13) (lz (show 5 ≤ 5 by decide) hRf) (lz (show 104 ≤ 104 by decide) hRl) (Nat.le_of_ble_eq_true rfl) dX0_faultOf_22 ⟨by omega, by omega⟩ (fun H locs hE => ?_)
        have hNc22 : ∀ (wc22 : Int32 × ZT) (hewc22 : wc22 = x_isItem t w13) (hB13 : x_faultOf_b13 t w13 = x_faultOf_c22 t wc22), ∀ (H : Heap) (locs : List Loc) (ls : Array Slot) (cells slots : Nat) (hcs : cells + 0 ≤ 1 ∧ slots + 0 ≤ 3), EW D A s.heap (WX x ar cs wc22.2 B (rdr wc22.2 B r t :: Y)) H locs → lv_has ls 3 [(0, .ref x), (2, .ref r)] → W p l e R s mid args below meth c H locs cells slots Q (F0 mid 25 ls [.int wc22.1]) := by
          intro wc22 hewc22 hB13 H locs ls cells slots hcs hE hl
          have hB13 : x_faultOf_b13 t w13 = (if wc22.1 = 0 then (.inl (wc22.2.1 42 0, wc22.2)) else x_faultOf_c34 (r_skip t wc22.2)) := hB13
          refine lv_if_ne (tgt := 33) hx hb dX0_faultOf_25 (by decide) (fun c25 => ?_) (fun c25 => ?_)
          · have hB13 : x_faultOf_b13 t w13 = (x_faultOf_c34 (r_skip t wc22.2)) := hB13.trans (congrArg (fun z => z) (if_neg c25))
            have hR22 : RD t wc22.2 := by rw [hewc22]; exact isItem_RD hR13
            refine lv_aload_n hx hb dX0_faultOf_33 rfl (lv_at hl 1 rfl) ?_
            refine callx_r_skip hx hb hml hown hts hK hA hE hl.1 (hR22) (lz (show 3 ≤ 5 by decide) hRf) (lz (show 60 ≤ 104 by decide) hRl) (Nat.le_of_ble_eq_true rfl) dX0_faultOf_34 ⟨by omega, by omega⟩ (fun H locs hE => ?_)
            have hNc34 : ∀ (wc34 : ZT) (hewc34 : wc34 = r_skip t wc22.2) (hB13 : x_faultOf_b13 t w13 = x_faultOf_c34 wc34), ∀ (H : Heap) (locs : List Loc) (ls : Array Slot) (cells slots : Nat) (hcs : cells + 0 ≤ 1 ∧ slots + 0 ≤ 3), EW D A s.heap (WX x ar cs wc34 B (rdr wc34 B r t :: Y)) H locs → lv_has ls 3 [(0, .ref x), (2, .ref r)] → W p l e R s mid args below meth c H locs cells slots Q (F0 mid 37 ls []) := by
              intro wc34 hewc34 hB13 H locs ls cells slots hcs hE hl
              have hB13 : x_faultOf_b13 t w13 = (.inr (true, wc34)) := hB13
              refine lv_goto (tgt := 13) hx hb dX0_faultOf_37 (by decide) ?_
              exact ih13 wc34 (by show 60 - ix (wc34.1 42 0) < n; rw [hewc34, hewc22]; exact fo_dec hR13 (by rw [← hewc22]; exact c25) hm13) (by show RD t wc34; rw [hewc34]; exact skip_RD hR22) (hR.trans (congrArg (fun z => z) (wr_t hB13))) _ _ _ _ _ (by omega) hE (lv_sub hl [0, 1] rfl)
            exact hNc34 (r_skip t wc22.2) rfl hB13 _ _ _ _ _ (by omega) hE (lv_sub hl [0, 1] rfl)
          · have hB13 : x_faultOf_b13 t w13 = (.inl (wc22.2.1 42 0, wc22.2)) := hB13.trans (congrArg (fun z => z) (if_pos c25))
            refine lv_aload_n hx hb dX0_faultOf_28 rfl (lv_at hl 1 rfl) ?_
            refine rgx_at hx hb hts hown hK hE dX0_faultOf_29 ?_
            have hR : x_faultOf t Z = (wc22.2.1 42 0, wc22.2) := hR.trans (congrArg (fun z => z) (wr_r hB13))
            exact hret (wc22.2.1 42 0) wc22.2 hR rfl (EW.dropR hE) (by omega) (by omega) dX0_faultOf_32
        exact hNc22 (x_isItem t w13) rfl hB13 _ _ _ _ _ (by omega) hE (lv_sub hl [0, 1] rfl)
  exact hL13 62 (r_skip t (sI (sI Z 42 0 0) 43 0 0)) (by show 60 - _ < 62; omega) (by exact skip_RD (RD_0 hT)) hR _ _ _ _ _ (by omega) hE (lv_sub hl [1, 0] rfl)
section C_x_faultOf
variable {p : Program} {l : Launch} {e : Env} {R : Room} {s : State} {mid : MethodId} {args : Array Value} {below : List Frame} {meth : Method} {c : Code} {H : Heap} {locs : List Loc} {cells slots : Nat} {Q : State → Prop} {cc : ByteArray} {pc : Nat} {ls : Array Slot} {rest : List Value} {D : va_G} {A : Nat → Prop} {x : Nat} {ar : Nat → Nat} {cs : Nat → ClassId} {B : BT} {Y : va_W} {Z : ZT} {nL r : Nat}
theorem call_x_faultOf (hx : p.tables.exec = Jvm.exec) (hb : c.code = cc) (hml : c.maxLocals = nL) (hown : s.vm.findClass RX0 = some mid.cls) (hts : ∀ w ∈ lw_all, w.before args s = true) (hK : KK D cs s) (hA : ∀ q : Nat, s.heap.size ≤ q → A q) (hE : EW D A s.heap (WX x ar cs Z B Y) H locs) (hls : ls.size = nL) (t : Nat) (hT : t < 4 ∧ ¬ Z.1 40 t = -1 ∧ 0 ≤ (Z.1 40 t).toInt ∧ (Z.1 40 t).toInt ≤ 60) (h1 : 6 ≤ R.frames) (h2 : 126 ≤ R.locals) (h3 : (rest.map fun v => v.category).sum ≤ 8) (hd : decode cc pc = .ok (.invokevirtual 142, 3)) (hf : cells + 1 ≤ R.cells ∧ slots + 3 ≤ R.slots) (kk : ∀ (H1 : Heap) (locs1 : List Loc) (cells1 slots1 : Nat) (_ : cells1 = cells + 1 ∧ slots1 = slots + 3), EW D A s.heap (WX x ar cs ((x_faultOf t Z).2) B Y) H1 locs1 → W p l e R s mid args below meth c H1 locs1 cells1 slots1 Q (F0 mid (pc + 3) ls (.int (x_faultOf t Z).1 :: rest))) : W p l e R s mid args below meth c H locs cells slots Q (F0 mid pc ls (.ref (B.2 t) :: .ref x :: rest)) := 
  gCall_i (As := [.ref (B.2 t)]) (rest := rest) (q0 := 0) (ci := 0) (fs := XF ar Z) (T' := TX0) (N' := 29) hx hb hml hown hts hK hA hE hls (met_x_faultOf l D cs x ar B Y Z H.size t hT) (cwV 1 hts (lw_V q369 q371 qs3 q84 q372) rfl rfl rfl (by decide +kernel) ⟨h1, h2⟩) rfl rfl rfl rfl h3 hd hf (fun v u H1 locs1 hp _ hE => by have kk := kk H1 locs1 _ _ ⟨rfl, rfl⟩; rw [hp] at kk; exact kk hE)
end C_x_faultOf
def x_fault_c20 (wc20 : Int32 × ZT) : Int32 × ZT := (wc20.1, wc20.2)
def x_fault (p1 : Int32) (Z : ZT) : Int32 × ZT := (if (x_isText p1) = 0 then ((-1 : Int32), Z) else (if Z.1 40 (ix p1) = -1 then x_fault_c20 (x_met 1 Z) else (x_faultOf (ix p1) Z)))
set_option maxHeartbeats 4000000 in
set_option maxRecDepth 100000 in
theorem met_x_fault (l : Launch) (D : va_G) (cs : Nat → ClassId) (x : Nat) (ar : Nat → Nat) (B : BT) (Y : va_W) (Z : ZT) (sz : Nat) (p1 : Int32) (hT : TI Z) : Met l yX0_fault (ws_ yX0_fault cX0_fault 2 (some .int)) ({ frames := 6, cells := 1, slots := 3, locals := 126 }) (va_Pc [.ref x, .int p1] (wSt D cs (WX x ar cs Z B Y) sz)) (cQi (fun (v : Int32) (u : ZT) => x_fault p1 Z = (v, u)) D (fun u => (WX x ar cs u B Y)) (WX x ar cs Z B Y) sz) 1 3 (va_A (WX x ar cs Z B Y) sz) := by
  refine gStart_i (C := RX0) rfl rfl (Nat.le_of_ble_eq_true rfl) ?_
  intro p e s mid args below meth c R Q A hx hb hml hown hts hK hA hRf hRl hRc hRs hret hE ls hl
  have hRf : 6 ≤ R.frames := hRf
  have hRl : 126 ≤ R.locals := hRl
  have hRc : 1 ≤ R.cells := hRc
  have hRs : 3 ≤ R.slots := hRs
  have hl : lv_has ls 2 [(0, .ref x), (1, .int p1)] := hl
  have hR : x_fault p1 Z = (if (x_isText p1) = 0 then ((-1 : Int32), Z) else (if Z.1 40 (ix p1) = -1 then x_fault_c20 (x_met 1 Z) else (x_faultOf (ix p1) Z))) := rfl
  refine lv_iload_n hx hb dX0_fault_0 rfl (lv_at hl 1 rfl) ?_
  refine call_x_isText hx hb hml hown hts hK hA hE hl.1 p1 (lz (show 2 ≤ 6 by decide) hRf) (lz (show 42 ≤ 126 by decide) hRl) (Nat.le_of_ble_eq_true rfl) dX0_fault_1 ⟨by omega, by omega⟩ (fun H locs hE => ?_)
  refine lv_if_ne (tgt := 9) hx hb dX0_fault_4 (by decide) (fun c4 => ?_) (fun c4 => ?_)
  · have hR : x_fault p1 Z = (if Z.1 40 (ix p1) = -1 then x_fault_c20 (x_met 1 Z) else (x_faultOf (ix p1) Z)) := hR.trans (congrArg (fun z => z) (if_neg c4))
    have hnp1 := vp_ix (x := p1) (N := 4) (xTx_vp c4) (by decide)
    have hbnp1 := hnp1.2
    refine lv_aload_n hx hb dX0_fault_9 rfl (lv_at hl 0 rfl) ?_
    refine xg_6 hx hb hts hown hK hE dX0_fault_10 ?_
    refine lv_iload_n hx hb dX0_fault_13 rfl (lv_at hl 1 rfl) ?_
    refine top_nat hnp1.1 ?_
    refine xa_6 (n := (ix p1)) (by omega) hx hb hK hE dX0_fault_14 ?_
    refine xnw_tx (t := (ix p1)) (tgt := 26) hx hb dX0_fault_15 (by decide) (fun c15 => ?_) (fun c15 => ?_)
    · have hR : x_fault p1 Z = (x_faultOf (ix p1) Z) := hR.trans (congrArg (fun z => z) (if_neg c15))
      refine lv_aload_n hx hb dX0_fault_26 rfl (lv_at hl 0 rfl) ?_
      refine lv_aload_n hx hb dX0_fault_27 rfl (lv_at hl 0 rfl) ?_
      refine xg_6 hx hb hts hown hK hE dX0_fault_28 ?_
      refine lv_iload_n hx hb dX0_fault_31 rfl (lv_at hl 1 rfl) ?_
      refine top_nat hnp1.1 ?_
      refine xa_6 (n := (ix p1)) (by omega) hx hb hK hE dX0_fault_32 ?_
      rw [adt_of (c15)]
      refine call_x_faultOf hx hb hml hown hts hK hA hE hl.1 (ix p1) (⟨hbnp1, c15, (hT _ hbnp1).resolve_left c15⟩) (lz (show 6 ≤ 6 by decide) hRf) (lz (show 126 ≤ 126 by decide) hRl) (Nat.le_of_ble_eq_true rfl) dX0_fault_33 ⟨by omega, by omega⟩ (fun H locs cells slots hcs2 hE => ?_)
      exact hret ((x_faultOf (ix p1) Z).1) ((x_faultOf (ix p1) Z).2) (hR.trans (pr_eta _)) rfl hE (by omega) (by omega) dX0_fault_36
    · have hR : x_fault p1 Z = (x_fault_c20 (x_met 1 Z)) := hR.trans (congrArg (fun z => z) (if_pos c15))
      refine lv_aload_n hx hb dX0_fault_18 rfl (lv_at hl 0 rfl) ?_
      refine lv_iconst (v := 1) hx hb dX0_fault_19 rfl ?_
      refine call_x_met hx hb hml hown hts hK hA hE hl.1 1 (by omega) (lz (show 1 ≤ 6 by decide) hRf) (lz (show 21 ≤ 126 by decide) hRl) (Nat.le_of_ble_eq_true rfl) dX0_fault_20 ⟨by omega, by omega⟩ (fun H locs hE => ?_)
      have hNc20 : ∀ (wc20 : Int32 × ZT) (hR : x_fault p1 Z = x_fault_c20 wc20), ∀ (H : Heap) (locs : List Loc) (ls : Array Slot) (cells slots : Nat) (hcs : cells + 1 ≤ 1 ∧ slots + 3 ≤ 3), EW D A s.heap (WX x ar cs wc20.2 B Y) H locs → lv_has ls 2 [] → W p l e R s mid args below meth c H locs cells slots Q (F0 mid 23 ls [.int wc20.1]) := by
        intro wc20 hR H locs ls cells slots hcs hE hl
        have hR : x_fault p1 Z = (wc20.1, wc20.2) := hR
        refine lv_goto (tgt := 36) hx hb dX0_fault_23 (by decide) ?_
        exact hret wc20.1 wc20.2 hR rfl hE (by omega) (by omega) dX0_fault_36
      exact hNc20 (x_met 1 Z) hR _ _ _ _ _ (by omega) hE (lv_sub hl [] rfl)
  · have hR : x_fault p1 Z = ((-1 : Int32), Z) := hR.trans (congrArg (fun z => z) (if_pos c4))
    refine lv_iconst (v := -1) hx hb dX0_fault_7 rfl ?_
    exact hret (-1 : Int32) Z hR rfl hE (by omega) (by omega) dX0_fault_8
