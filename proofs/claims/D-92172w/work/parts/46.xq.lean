/-! the component: read -/
set_option maxRecDepth 100000
theorem xset_40 {k a c : Nat} {v : Int32} (hk : 40 ≤ k) (s : ZT) : (x_setLink a c v s).1 k = s.1 k := by
  unfold x_setLink x_setLink_j39
  rw [sI_ne (by omega)]
  split
  · rw [sI_ne (by omega), sI_ne (by omega)]
  · split
    · rw [sI_ne (by omega), sI_ne (by omega)]
    · rfl
theorem xclear_40 {b k : Nat} (hk : 40 ≤ k) {Z : ZT} : (x_clear b Z).1 k = Z.1 k := by
  unfold x_clear x_clear_e9 x_clear_e70
  refine itR_ind (f := x_clear_b70 b) (P := fun s : ZT => s.1 k = Z.1 k) (fun i s h => ?_) _ _ _ ?_
  · unfold x_clear_b70 x_clear_j97
    rw [sI_ne (by omega)]
    exact h
  · rw [sI_ne (by omega)]
    refine itR_ind (f := x_clear_b9 b) (P := fun s : ZT => s.1 k = Z.1 k) (fun i s h => ?_) _ _ _ ?_
    · unfold x_clear_b9 x_clear_c19 x_clear_c26
      rw [sI_ne (by omega), sI_ne (by omega), xset_40 hk, xset_40 hk]
      exact h
    · rw [sI_ne (by omega)]
theorem xcome_40 {b k : Nat} (hk : 40 ≤ k) {v : Int32} {Z : ZT} : (x_come b v Z).1 k = Z.1 k := by
  unfold x_come
  rw [born_row (Or.inr (by omega)), xclear_40 hk]
theorem xj97_40 {v : Int32} {k : Nat} (hk : 40 ≤ k) {Z : ZT} (w : Int32) : (x_does_j97 v Z w).2.1 k = Z.1 k := by
  unfold x_does_j97
  split
  · rfl
  · exact xset_40 hk Z
theorem does_fr {v : Int32} {k : Nat} (hk : 40 ≤ k) {Z : ZT} : (x_does v Z).2.1 k = Z.1 k := by
  unfold x_does
  split
  · exact xcome_40 hk
  · split
    · have e : (if Z.1 30 (ix (Z.1 7 0)) = 0 then Z else sI Z 32 (ix (Z.1 7 0)) v).1 k = Z.1 k := by
        split
        · rfl
        · exact sI_ne (by omega)
      generalize (if Z.1 30 (ix (Z.1 7 0)) = 0 then Z else sI Z 32 (ix (Z.1 7 0)) v) = w at e
      unfold x_does_j48
      split
      · exact e
      · exact e
    · exact xj97_40 hk _
def TXK (t : Nat) (C : ZT) : Prop := t < 4 ∧ ¬ C.1 40 t = -1 ∧ 0 ≤ (C.1 40 t).toInt ∧ (C.1 40 t).toInt ≤ 60
/-- what holds where read looks for an item -/
def GI (t : Nat) (C : ZT) (s : ZT) : Prop := RD t s ∧ s.1 40 = C.1 40 ∧ s.1 41 = C.1 41 ∧ pFt (xch t C) (C.1 40 t) 62 (ix (s.1 42 0)) = none ∧ (ix (s.1 42 0) = ix (C.1 40 t) ∨ ¬ xch t C (ix (s.1 42 0)) = 32)
theorem GI_skip {t : Nat} {C u : ZT} (hT : TXK t C) (hu : RD t u) (h40 : u.1 40 = C.1 40) (h41 : u.1 41 = C.1 41) (hn : pFt (xch t C) (C.1 40 t) 62 (ix (u.1 42 0)) = none) : GI t C (r_skip t u) := by
  obtain ⟨d, d1, d2, d3⟩ := skip_spec hu
  obtain ⟨f1, f2, f3, f4⟩ := skip_facts hu
  have hx : xch t u = xch t C := xch_congr h40 h41
  rw [hx, h40] at d2 d3
  refine ⟨f1, (f3 40 (by decide)).trans h40, (f3 41 (by decide)).trans h41, ?_, ?_⟩
  · rw [d1, ← pFt_skip hT.2.2 d 62 _ d2, ← hn]
    have h60 := rd_60 hu
    exact pFt_fuel hT.2.2 (fun j hj => xch_end j hj) (62 + d) 62 _ (by omega) (by omega) h60
  · rw [d1]
    exact d3
theorem nI_no9 {p : Nat} (h : p < 64) : ¬ nI p = -9 := by
  intro q
  have h2 := congrArg Int32.toInt q
  rw [nI_toInt (by omega), show (-9 : Int32).toInt = -9 from rfl] at h2
  omega
theorem fo_none {t : Nat} {Z : ZT} (hT : TXK t Z) (h : (x_faultOf t Z).1 = -9) : pFt (xch t Z) (Z.1 40 t) 62 0 = none := by
  have h1 := (xfault_spec hT).1
  rw [h] at h1
  cases hp : pFt (xch t Z) (Z.1 40 t) 62 0 with
  | none => rfl
  | some p =>
    rw [hp] at h1
    have e0 : (ix (Z.1 40 t) : Int) = (Z.1 40 t).toInt := Int.toNat_of_nonneg hT.2.2.1
    have h60 := hT.2.2.2
    exact absurd h1.symm (nI_no9 (pFt_lt hT.2.2.2 (fun j hj _ => xch_end j (by omega)) 62 0 p (by omega) hp))
theorem rd_start {t : Nat} {Z : ZT} (hT : TXK t Z) (h : (x_faultOf t Z).1 = -9) : TXK t (x_faultOf t Z).2 ∧ GI t (x_faultOf t Z).2 (r_skip t (sI (sI (x_faultOf t Z).2 42 0 0) 43 0 0)) := by
  have hn := fo_none hT h
  obtain ⟨-, h2, h3⟩ := xfault_spec hT
  have h40 := h2 40 (by decide) (by decide) (by decide) (by decide) (by decide)
  have h41 := h2 41 (by decide) (by decide) (by decide) (by decide) (by decide)
  generalize (x_faultOf t Z).2 = C at h40 h41
  have hC : TXK t C := by
    unfold TXK
    rw [h40]
    exact hT
  refine ⟨hC, GI_skip hC (RD_0 hC) (by rw [sI_ne (by decide), sI_ne (by decide)]) (by rw [sI_ne (by decide), sI_ne (by decide)]) ?_⟩
  rw [xch_congr h40 h41, h40]
  exact hn
theorem GI_item {t : Nat} {C s : ZT} (hT : TXK t C) (h : GI t C s) (he : r_isEnd t s = 0) : ¬ (x_isItem t s).1 = 0 ∧ pFt (xch t C) (C.1 40 t) 62 (ix ((x_isItem t s).2.1 42 0)) = none := by
  obtain ⟨h1, h2, h3, h4, h5⟩ := h
  have hz := hT.2.2
  have e0 : (ix (C.1 40 t) : Int) = (C.1 40 t).toInt := Int.toNat_of_nonneg hz.1
  have hle := rd_le h1
  rw [h2] at hle
  have hlt : ix (s.1 42 0) < ix (C.1 40 t) := by
    rcases Nat.lt_or_ge (ix (s.1 42 0)) (ix (C.1 40 t)) with q | q
    · exact q
    · have e3 : (ix (s.1 42 0) : Int) = (s.1 42 0).toInt := Int.toNat_of_nonneg h1.2.2.2.2.1
      have e5 := h1.2.2.2.2.2
      rw [h2] at e5
      unfold r_isEnd at he
      rw [if_pos (by rw [h2]; exact Int32.toInt_inj.mp (by omega))] at he
      exact absurd he (by decide)
  have hx : xch t s = xch t C := xch_congr h2 h3
  have ho := xitem_spec h1 rfl
  rw [hx] at ho
  have h32 := h5.resolve_left (by omega)
  have e9 : ∀ f9 i9, ¬ C.1 40 t ≤ nI i9 → ¬ xch t C i9 = 32 → pFt (xch t C) (C.1 40 t) (f9 + 1) i9 = (match pItem (xch t C) i9 with | .inl p => some p | .inr q => pFt (xch t C) (C.1 40 t) f9 q.2.2.2.2) := fun f9 i9 a9 b9 => by
    rw [pFt, if_neg a9, if_neg b9]
    cases pItem (xch t C) i9 <;> rfl
  rw [e9 61 _ (by rw [sz_le hz (by omega)]; omega) h32] at h4
  generalize x_isItem t s = o at ho
  cases hp : pItem (xch t C) (ix (s.1 42 0)) with
  | inl p =>
    rw [hp] at h4
    cases h4
  | inr q =>
    obtain ⟨w, b, x, v, e⟩ := q
    rw [hp] at ho h4
    obtain ⟨o1, -, -, -, -, o6⟩ := ho
    have hin := pItem_in (n := ix (C.1 40 t)) (fun j hj _ => xch_end j hj) hp
    refine ⟨by rw [o1]; decide, ?_⟩
    rw [o6, show ix (nI e) = e from ix_nI (by omega), ← h4]
    exact pFt_fuel hz (fun j hj => xch_end j hj) 62 61 e (by omega) (by omega) (by omega)
theorem GI_next {t : Nat} {C s u : ZT} (hT : TXK t C) (h : GI t C s) (he : r_isEnd t s = 0) (hu : ∀ k, 40 ≤ k → u.1 k = (x_isItem t s).2.1 k) : RD t u ∧ GI t C (r_skip t u) ∧ ix (s.1 42 0) < ix ((r_skip t u).1 42 0) ∧ ix ((r_skip t u).1 42 0) ≤ 60 := by
  obtain ⟨i1, i2⟩ := GI_item hT h he
  obtain ⟨f1, f2, f3, f4⟩ := isItem_facts h.1
  generalize x_isItem t s = o at i1 i2 f1 f2 f3 f4 hu
  have hR : RD t u := by
    unfold RD
    rw [hu 40 (by decide), hu 42 (by decide)]
    exact f1
  have g40 : u.1 40 = C.1 40 := (hu 40 (by decide)).trans ((f2 40 (by decide) (by decide) (by decide) (by decide) (by decide)).trans h.2.1)
  have g41 : u.1 41 = C.1 41 := (hu 41 (by decide)).trans ((f2 41 (by decide) (by decide) (by decide) (by decide) (by decide)).trans h.2.2.1)
  have hs := skip_facts hR
  have h60 := rd_60 hs.1
  have h7 := (f4 i1).1
  have h8 := hs.2.1
  rw [hu 42 (by decide)] at h8
  exact ⟨hR, GI_skip hT hR g40 g41 (by rw [hu 42 (by decide)]; exact i2), by omega, h60⟩
def x_read_c97 (w62 : Int32 × ZT) (w94 : Int32 × ZT) (wc97 : ZT) : Bool × (Int32 × ZT) := (true, ((w62.1 + w94.1), wc97))
def x_read_j94 (p1 : Int32) (w62 : Int32 × ZT) (w94 : Int32 × ZT) : Bool × (Int32 × ZT) := x_read_c97 w62 w94 (r_skip (ix p1) w94.2)
def x_read_c83 (wc83 : Int32 × ZT) : Int32 × ZT := (if wc83.1 = 0 then ((0 : Int32), wc83.2) else ((1 : Int32), wc83.2))
def x_read_c72 (p1 : Int32) (w62 : Int32 × ZT) (wc72 : Int32 × ZT) : Bool × (Int32 × ZT) := x_read_j94 p1 w62 (if wc72.1 = 0 then ((0 : Int32), wc72.2) else x_read_c83 (x_does (wc72.2.1 43 0) wc72.2))
def x_read_b62 (p1 : Int32) (w62 : Int32 × ZT) : Bool × (Int32 × ZT) := (if (r_isEnd (ix p1) w62.2) = 0 then x_read_c72 p1 w62 (x_isItem (ix p1) w62.2) else (false, (w62.1, w62.2)))
def x_read_e62 (w62 : Int32 × ZT) : Int32 × ZT := (w62.1, w62.2)
def x_read_c31 (p1 : Int32) (wc31 : Int32 × ZT) : Int32 × ZT := (if wc31.1 = (-9 : Int32) then x_read_e62 (wlR (x_read_b62 p1) 62 ((0 : Int32), r_skip (ix p1) (sI (sI wc31.2 42 0 0) 43 0 0))) else ((-4 : Int32), wc31.2))
def x_read (p1 : Int32) (Z : ZT) : Int32 × ZT := (if (x_isText p1) = 0 then ((-1 : Int32), Z) else (if Z.1 40 (ix p1) = -1 then (x_met 1 Z) else x_read_c31 p1 (x_faultOf (ix p1) Z)))
set_option maxHeartbeats 4000000 in
set_option maxRecDepth 100000 in
theorem met_x_read (l : Launch) (D : va_G) (cs : Nat → ClassId) (x : Nat) (ar : Nat → Nat) (B0 : BT) (Y : va_W) (Z : ZT) (sz : Nat) (p1 : Int32) (hT : TI Z) : Met l yX0_read (ws_ yX0_read cX0_read 4 (some .int)) ({ frames := 7, cells := 70, slots := 400, locals := 140 }) (va_Pc [.ref x, .int p1] (wSt D cs (WX x ar cs Z B0 Y) sz)) (cQi (fun (v : Int32) (u : ZT × BT) => x_read p1 Z = (v, u.1) ∧ u.2.2 = B0.2) D (fun u => WX x ar cs u.1 u.2 Y) (WX x ar cs Z B0 Y) sz) 70 400 (va_A (WX x ar cs Z B0 Y) sz) := by
  refine gStart_i (C := RX0) rfl rfl (Nat.le_of_ble_eq_true rfl) ?_
  intro p e s mid args below meth c R Q A hx hb hml hown hts hK hA hRf hRl hRc hRs hret hE ls hl
  have hRf : 7 ≤ R.frames := hRf
  have hRl : 140 ≤ R.locals := hRl
  have hRc : 70 ≤ R.cells := hRc
  have hRs : 400 ≤ R.slots := hRs
  obtain ⟨B, hB0⟩ : ∃ B : BT, B = B0 := ⟨B0, rfl⟩
  have hE : EW D A s.heap (WX x ar cs Z B Y) s.heap [] := by rw [hB0]; exact hE
  have hB2 : B.2 = B0.2 := by rw [hB0]
  have hl : lv_has ls 4 [(0, .ref x), (1, .int p1)] := hl
  have hR : x_read p1 Z = (if (x_isText p1) = 0 then ((-1 : Int32), Z) else (if Z.1 40 (ix p1) = -1 then (x_met 1 Z) else x_read_c31 p1 (x_faultOf (ix p1) Z))) := rfl
  refine lv_iload_n hx hb dX0_read_0 rfl (lv_at hl 1 rfl) ?_
  refine call_x_isText hx hb hml hown hts hK hA hE hl.1 p1 (lz (show 2 ≤ 7 by decide) hRf) (lz (show 42 ≤ 140 by decide) hRl) (Nat.le_of_ble_eq_true rfl) dX0_read_1 ⟨by omega, by omega⟩ (fun H locs hE => ?_)
  refine lv_if_ne (tgt := 9) hx hb dX0_read_4 (by decide) (fun c4 => ?_) (fun c4 => ?_)
  · have hR : x_read p1 Z = (if Z.1 40 (ix p1) = -1 then (x_met 1 Z) else x_read_c31 p1 (x_faultOf (ix p1) Z)) := hR.trans (congrArg (fun z => z) (if_neg c4))
    refine lv_aload_n hx hb dX0_read_9 rfl (lv_at hl 0 rfl) ?_
    have hnp1 := vp_ix (x := p1) (N := 4) (xTx_vp c4) (by decide)
    have hbnp1 := hnp1.2
    refine xg_6 hx hb hts hown hK hE dX0_read_10 ?_
    refine lv_iload_n hx hb dX0_read_13 rfl (lv_at hl 1 rfl) ?_
    refine top_nat hnp1.1 ?_
    refine xa_6 (n := (ix p1)) (by omega) hx hb hK hE dX0_read_14 ?_
    refine xnw_tx (t := (ix p1)) (tgt := 24) hx hb dX0_read_15 (by decide) (fun c15 => ?_) (fun c15 => ?_)
    · have hR : x_read p1 Z = (x_read_c31 p1 (x_faultOf (ix p1) Z)) := hR.trans (congrArg (fun z => z) (if_neg c15))
      have hnp1 := vp_ix (x := p1) (N := 4) (xTx_vp c4) (by decide)
      have hbnp1 := hnp1.2
      refine lv_aload_n hx hb dX0_read_24 rfl (lv_at hl 0 rfl) ?_
      refine lv_aload_n hx hb dX0_read_25 rfl (lv_at hl 0 rfl) ?_
      refine xg_6 hx hb hts hown hK hE dX0_read_26 ?_
      refine lv_iload_n hx hb dX0_read_29 rfl (lv_at hl 1 rfl) ?_
      refine top_nat hnp1.1 ?_
      refine xa_6 (n := (ix p1)) (by omega) hx hb hK hE dX0_read_30 ?_
      rw [adt_of (c15)]
      refine call_x_faultOf hx hb hml hown hts hK hA hE hl.1 (ix p1) (⟨hbnp1, c15, (hT _ hbnp1).resolve_left c15⟩) (lz (show 6 ≤ 7 by decide) hRf) (lz (show 126 ≤ 140 by decide) hRl) (Nat.le_of_ble_eq_true rfl) dX0_read_31 ⟨by omega, by omega⟩ (fun H locs cells slots hcs2 hE => ?_)
      have hNc31 : ∀ (wc31 : Int32 × ZT) (hewc31 : wc31 = x_faultOf (ix p1) Z) (hR : x_read p1 Z = x_read_c31 p1 wc31), ∀ (H : Heap) (locs : List Loc) (ls : Array Slot) (B : BT) (hB2 : B.2 = B0.2) (cells slots : Nat) (hcs : cells + 69 ≤ 70 ∧ slots + 397 ≤ 400), EW D A s.heap (WX x ar cs wc31.2 B Y) H locs → lv_has ls 4 [(0, .ref x), (1, .int p1)] → W p l e R s mid args below meth c H locs cells slots Q (F0 mid 34 ls [.int wc31.1]) := by
        intro wc31 hewc31 hR H locs ls B hB2 cells slots hcs hE hl
        have hR : x_read p1 Z = (if wc31.1 = (-9 : Int32) then x_read_e62 (wlR (x_read_b62 p1) 62 ((0 : Int32), r_skip (ix p1) (sI (sI wc31.2 42 0 0) 43 0 0))) else ((-4 : Int32), wc31.2)) := hR
        refine lv_bipush (v := -9) hx hb dX0_read_34 rfl ?_
        refine lv_icmp_eq (tgt := 42) hx hb dX0_read_36 (by decide) (fun c36 => ?_) (fun c36 => ?_)
        · have hR : x_read p1 Z = (x_read_e62 (wlR (x_read_b62 p1) 62 ((0 : Int32), r_skip (ix p1) (sI (sI wc31.2 42 0 0) 43 0 0)))) := hR.trans (congrArg (fun z => z) (if_pos c36))
          have hG0 := rd_start ⟨hbnp1, c15, (hT _ hbnp1).resolve_left c15⟩ (by rw [← hewc31]; exact c36)
          rw [← hewc31] at hG0
          refine xnew_rd hx hb hts hown hK hA hE (by omega) (by omega) dX0_read_42 (fun r H cells slots hcs2 hE => ?_)
          refine lv_dup hx hb dX0_read_45 rfl ?_
          refine lv_aload_n hx hb dX0_read_46 rfl (lv_at hl 0 rfl) ?_
          refine xg_6 hx hb hts hown hK hE dX0_read_47 ?_
          refine lv_iload_n hx hb dX0_read_50 rfl (lv_at hl 1 rfl) ?_
          refine top_nat hnp1.1 ?_
          refine xa_6 (n := (ix p1)) (by omega) hx hb hK hE dX0_read_51 ?_
          rw [adt_of (hG0.1.2.1)]
          refine xinit_rd (t := (ix p1)) hx hb hml hown hts hK hA hE hl.1 (lz (show 2 ≤ 7 by decide) hRf) (lz (show 33 ≤ 140 by decide) hRl) (Nat.le_of_ble_eq_true rfl) dX0_read_52 ⟨by omega, by omega⟩ (fun H locs hE => ?_)
          refine lv_astore_n (lv' := [(2, .ref r), (0, .ref x), (1, .int p1)]) hx hb dX0_read_55 rfl hl (by decide) rfl (fun ls hl => ?_)
          refine lv_iconst (v := 0) hx hb dX0_read_56 rfl ?_
          refine lv_istore_n (lv' := [(3, .int (0 : Int32)), (2, .ref r), (0, .ref x), (1, .int p1)]) hx hb dX0_read_57 rfl hl (by decide) rfl (fun ls hl => ?_)
          refine lv_aload_n hx hb dX0_read_58 rfl (lv_at hl 1 rfl) ?_
          refine callx_r_skip hx hb hml hown hts hK hA hE hl.1 (RD_0 hG0.1) (lz (show 3 ≤ 7 by decide) hRf) (lz (show 60 ≤ 140 by decide) hRl) (Nat.le_of_ble_eq_true rfl) dX0_read_59 ⟨by omega, by omega⟩ (fun H locs hE => ?_)
          have hX62 : ∀ (w62 : Int32 × ZT) (hG62 : GI (ix p1) wc31.2 w62.2) (hR : x_read p1 Z = x_read_e62 w62), ∀ (H : Heap) (locs : List Loc) (ls : Array Slot) (B : BT) (hB2 : B.2 = B0.2) (cells slots : Nat) (hcs : cells + 0 ≤ 70 ∧ slots + 0 ≤ 400), EW D A s.heap (WX x ar cs w62.2 B (rdr w62.2 B r (ix p1) :: Y)) H locs → lv_has ls 4 [(3, .int w62.1)] → W p l e R s mid args below meth c H locs cells slots Q (F0 mid 103 ls []) := by
            intro w62 hG62 hR H locs ls B hB2 cells slots hcs hE hl
            have hR : x_read p1 Z = (w62.1, w62.2) := hR
            refine lv_iload_n hx hb dX0_read_103 rfl (lv_at hl 0 rfl) ?_
            exact hret w62.1 (w62.2, B) ⟨hR, hB2⟩ rfl (EW.dropR hE) (by omega) (by omega) dX0_read_104
          have hL62 : ∀ (n : Nat) (w62 : Int32 × ZT) (hm62 : 60 - ix (w62.2.1 42 0) < n) (hG62 : GI (ix p1) wc31.2 w62.2) (hR : x_read p1 Z = x_read_e62 (wlR (x_read_b62 p1) n w62)), ∀ (H : Heap) (locs : List Loc) (ls : Array Slot) (B : BT) (hB2 : B.2 = B0.2) (cells slots : Nat) (hcs : cells + n ≤ 70 ∧ slots + 6 * n ≤ 400), EW D A s.heap (WX x ar cs w62.2 B (rdr w62.2 B r (ix p1) :: Y)) H locs → lv_has ls 4 [(0, .ref x), (2, .ref r), (3, .int w62.1)] → W p l e R s mid args below meth c H locs cells slots Q (F0 mid 62 ls []) := by
            intro n
            induction n with
            | zero =>
              intro w62 hm62
              exact absurd hm62 (Nat.not_lt_zero _)
            | succ n ih62 =>
              intro w62 hm62 hG62 hR H locs ls B hB2 cells slots hcs hE hl
              have hB62 : x_read_b62 p1 w62 = (if (r_isEnd (ix p1) w62.2) = 0 then x_read_c72 p1 w62 (x_isItem (ix p1) w62.2) else (false, (w62.1, w62.2))) := rfl
              refine lv_aload_n hx hb dX0_read_62 rfl (lv_at hl 1 rfl) ?_
              refine callx_r_isEnd hx hb hml hown hts hK hA hE hl.1 (hG62.1) (lz (show 1 ≤ 7 by decide) hRf) (lz (show 20 ≤ 140 by decide) hRl) (Nat.le_of_ble_eq_true rfl) dX0_read_63 ⟨by omega, by omega⟩ (fun H locs hE => ?_)
              refine lv_if_ne (tgt := 103) hx hb dX0_read_66 (by decide) (fun c66 => ?_) (fun c66 => ?_)
              · have hB62 : x_read_b62 p1 w62 = (false, (w62.1, w62.2)) := hB62.trans (congrArg (fun z => z) (if_neg c66))
                exact hX62 (w62.1, w62.2) (by exact hG62) (hR.trans (congrArg (fun z => x_read_e62 z) (wl_f hB62))) _ _ _ _ hB2 _ _ (by omega) hE (lv_sub hl [2] rfl)
              · have hB62 : x_read_b62 p1 w62 = (x_read_c72 p1 w62 (x_isItem (ix p1) w62.2)) := hB62.trans (congrArg (fun z => z) (if_pos c66))
                refine lv_iload_n hx hb dX0_read_69 rfl (lv_at hl 2 rfl) ?_
                refine lv_aload_n hx hb dX0_read_70 rfl (lv_at hl 0 rfl) ?_
                refine lv_aload_n hx hb dX0_read_71 rfl (lv_at hl 1 rfl) ?_
                refine call_x_isItem hx hb hml hown hts hK hA hE hl.1 (hG62.1) (lz (show 5 ≤ 7 by decide) hRf) (lz (show 104 ≤ 140 by decide) hRl) (Nat.le_of_ble_eq_true rfl) dX0_read_72 ⟨by omega, by omega⟩ (fun H locs hE => ?_)
                have hNc72 : ∀ (wc72 : Int32 × ZT) (hewc72 : wc72 = x_isItem (ix p1) w62.2) (hB62 : x_read_b62 p1 w62 = x_read_c72 p1 w62 wc72), ∀ (H : Heap) (locs : List Loc) (ls : Array Slot) (B : BT) (hB2 : B.2 = B0.2) (cells slots : Nat) (hcs : cells + (n + 1) ≤ 70 ∧ slots + 6 * (n + 1) ≤ 400), EW D A s.heap (WX x ar cs wc72.2 B (rdr wc72.2 B r (ix p1) :: Y)) H locs → lv_has ls 4 [(0, .ref x), (2, .ref r)] → W p l e R s mid args below meth c H locs cells slots Q (F0 mid 75 ls [.int wc72.1, .int w62.1]) := by
                  intro wc72 hewc72 hB62 H locs ls B hB2 cells slots hcs hE hl
                  have hB62 : x_read_b62 p1 w62 = (x_read_j94 p1 w62 (if wc72.1 = 0 then ((0 : Int32), wc72.2) else x_read_c83 (x_does (wc72.2.1 43 0) wc72.2))) := hB62
                  have hJ94 : ∀ (w94 : Int32 × ZT) (hj94 : ∀ k, 40 ≤ k → w94.2.1 k = wc72.2.1 k) (hB62 : x_read_b62 p1 w62 = x_read_j94 p1 w62 w94), ∀ (H : Heap) (locs : List Loc) (ls : Array Slot) (B : BT) (hB2 : B.2 = B0.2) (cells slots : Nat) (hcs : cells + n ≤ 70 ∧ slots + 6 * n ≤ 400), EW D A s.heap (WX x ar cs w94.2 B (rdr w94.2 B r (ix p1) :: Y)) H locs → lv_has ls 4 [(0, .ref x), (2, .ref r)] → W p l e R s mid args below meth c H locs cells slots Q (F0 mid 94 ls [.int w94.1, .int w62.1]) := by
                    intro w94 hj94 hB62 H locs ls B hB2 cells slots hcs hE hl
                    have hB62 : x_read_b62 p1 w62 = (x_read_c97 w62 w94 (r_skip (ix p1) w94.2)) := hB62
                    have hnx := GI_next hG0.1 hG62 c66 (u := w94.2) (fun k hk => by rw [← hewc72]; exact hj94 k hk)
                    refine lv_iadd hx hb dX0_read_94 ?_
                    refine lv_istore_n (lv' := [(3, .int (w62.1 + w94.1)), (0, .ref x), (2, .ref r)]) hx hb dX0_read_95 rfl hl (by decide) rfl (fun ls hl => ?_)
                    refine lv_aload_n hx hb dX0_read_96 rfl (lv_at hl 2 rfl) ?_
                    refine callx_r_skip hx hb hml hown hts hK hA hE hl.1 (hnx.1) (lz (show 3 ≤ 7 by decide) hRf) (lz (show 60 ≤ 140 by decide) hRl) (Nat.le_of_ble_eq_true rfl) dX0_read_97 ⟨by omega, by omega⟩ (fun H locs hE => ?_)
                    have hNc97 : ∀ (wc97 : ZT) (hewc97 : wc97 = r_skip (ix p1) w94.2) (hB62 : x_read_b62 p1 w62 = x_read_c97 w62 w94 wc97), ∀ (H : Heap) (locs : List Loc) (ls : Array Slot) (B : BT) (hB2 : B.2 = B0.2) (cells slots : Nat) (hcs : cells + n ≤ 70 ∧ slots + 6 * n ≤ 400), EW D A s.heap (WX x ar cs wc97 B (rdr wc97 B r (ix p1) :: Y)) H locs → lv_has ls 4 [(0, .ref x), (2, .ref r), (3, .int (w62.1 + w94.1))] → W p l e R s mid args below meth c H locs cells slots Q (F0 mid 100 ls []) := by
                      intro wc97 hewc97 hB62 H locs ls B hB2 cells slots hcs hE hl
                      have hB62 : x_read_b62 p1 w62 = (true, ((w62.1 + w94.1), wc97)) := hB62
                      refine lv_goto (tgt := 62) hx hb dX0_read_100 (by decide) ?_
                      exact ih62 ((w62.1 + w94.1), wc97) (by show 60 - ix (wc97.1 42 0) < n; rw [hewc97]; have h9 := hnx.2.2; omega) (by show GI (ix p1) wc31.2 wc97; rw [hewc97]; exact hnx.2.1) (hR.trans (congrArg (fun z => x_read_e62 z) (wl_t hB62))) _ _ _ _ hB2 _ _ (by omega) hE (lv_sub hl [0, 1, 2] rfl)
                    exact hNc97 (r_skip (ix p1) w94.2) rfl hB62 _ _ _ _ hB2 _ _ (by omega) hE (lv_sub hl [1, 2, 0] rfl)
                  refine lv_if_eq (tgt := 93) hx hb dX0_read_75 (by decide) (fun c75 => ?_) (fun c75 => ?_)
                  · have hB62 : x_read_b62 p1 w62 = x_read_j94 p1 w62 ((0 : Int32), wc72.2) := hB62.trans (congrArg (fun z => x_read_j94 p1 w62 z) (if_pos c75))
                    refine lv_iconst (v := 0) hx hb dX0_read_93 rfl ?_
                    exact hJ94 ((0 : Int32), wc72.2)  (by first | exact fun _ _ => rfl | (intro k hk; show wc83.2.1 k = _; rw [hewc83]; exact does_fr hk)) hB62 _ _ _ _ hB2 _ _ (by omega) hE (lv_sub hl [0, 1] rfl)
                  · have hB62 : x_read_b62 p1 w62 = x_read_j94 p1 w62 (x_read_c83 (x_does (wc72.2.1 43 0) wc72.2)) := hB62.trans (congrArg (fun z => x_read_j94 p1 w62 z) (if_neg c75))
                    refine lv_aload_n hx hb dX0_read_78 rfl (lv_at hl 0 rfl) ?_
                    refine lv_aload_n hx hb dX0_read_79 rfl (lv_at hl 1 rfl) ?_
                    refine rgx_number hx hb hts hown hK hE dX0_read_80 ?_
                    refine call_x_does hx hb hml hown hts hK hA hE hl.1 (wc72.2.1 43 0) (((isItem_facts hG62.1).2.2.2 (GI_item hG0.1 hG62 c66).1).2 |> fun h9 => by rw [← hewc72] at h9; exact h9) (lz (show 7 ≤ 7 by decide) hRf) (lz (show 140 ≤ 140 by decide) hRl) (Nat.le_of_ble_eq_true rfl) dX0_read_83 ⟨by omega, by omega⟩ (fun H locs B hB3 cells slots hcs2 hE => ?_)
                    have hB2 : B.2 = B0.2 := hB3.trans hB2
                    rw [← rdr_eq (Z' := (x_does (wc72.2.1 43 0) wc72.2).2) (B' := B) (congrFun (does_fr (k := 42) (by decide)) 0) (congrFun (does_fr (k := 43) (by decide)) 0) hB3] at hE
                    have hNc83 : ∀ (wc83 : Int32 × ZT) (hewc83 : wc83 = x_does (wc72.2.1 43 0) wc72.2) (hB62 : x_read_b62 p1 w62 = x_read_j94 p1 w62 (x_read_c83 wc83)), ∀ (H : Heap) (locs : List Loc) (ls : Array Slot) (B : BT) (hB2 : B.2 = B0.2) (cells slots : Nat) (hcs : cells + n ≤ 70 ∧ slots + 6 * n ≤ 400), EW D A s.heap (WX x ar cs wc83.2 B (rdr wc83.2 B r (ix p1) :: Y)) H locs → lv_has ls 4 [(0, .ref x), (2, .ref r)] → W p l e R s mid args below meth c H locs cells slots Q (F0 mid 86 ls [.int wc83.1, .int w62.1]) := by
                      intro wc83 hewc83 hB62 H locs ls B hB2 cells slots hcs hE hl
                      have hB62 : x_read_b62 p1 w62 = x_read_j94 p1 w62 (if wc83.1 = 0 then ((0 : Int32), wc83.2) else ((1 : Int32), wc83.2)) := hB62
                      refine lv_if_eq (tgt := 93) hx hb dX0_read_86 (by decide) (fun c86 => ?_) (fun c86 => ?_)
                      · have hB62 : x_read_b62 p1 w62 = x_read_j94 p1 w62 ((0 : Int32), wc83.2) := hB62.trans (congrArg (fun z => x_read_j94 p1 w62 z) (if_pos c86))
                        refine lv_iconst (v := 0) hx hb dX0_read_93 rfl ?_
                        exact hJ94 ((0 : Int32), wc83.2)  (by first | exact fun _ _ => rfl | (intro k hk; show wc83.2.1 k = _; rw [hewc83]; exact does_fr hk)) hB62 _ _ _ _ hB2 _ _ (by omega) hE (lv_sub hl [0, 1] rfl)
                      · have hB62 : x_read_b62 p1 w62 = x_read_j94 p1 w62 ((1 : Int32), wc83.2) := hB62.trans (congrArg (fun z => x_read_j94 p1 w62 z) (if_neg c86))
                        refine lv_iconst (v := 1) hx hb dX0_read_89 rfl ?_
                        refine lv_goto (tgt := 94) hx hb dX0_read_90 (by decide) ?_
                        exact hJ94 ((1 : Int32), wc83.2)  (by first | exact fun _ _ => rfl | (intro k hk; show wc83.2.1 k = _; rw [hewc83]; exact does_fr hk)) hB62 _ _ _ _ hB2 _ _ (by omega) hE (lv_sub hl [0, 1] rfl)
                    exact hNc83 (x_does (wc72.2.1 43 0) wc72.2) rfl hB62 _ _ _ _ hB2 _ _ (by omega) hE (lv_sub hl [0, 1] rfl)
                exact hNc72 (x_isItem (ix p1) w62.2) rfl hB62 _ _ _ _ hB2 _ _ (by omega) hE (lv_sub hl [0, 1] rfl)
          exact hL62 62 ((0 : Int32), r_skip (ix p1) (sI (sI wc31.2 42 0 0) 43 0 0)) (by show 60 - _ < 62; omega) (by exact hG0.2) hR _ _ _ _ hB2 _ _ (by omega) hE (lv_sub hl [2, 1, 0] rfl)
        · have hR : x_read p1 Z = ((-4 : Int32), wc31.2) := hR.trans (congrArg (fun z => z) (if_neg c36))
          refine lv_bipush (v := -4) hx hb dX0_read_39 rfl ?_
          exact hret (-4 : Int32) (wc31.2, B) ⟨hR, hB2⟩ rfl hE (by omega) (by omega) dX0_read_41
      exact hNc31 (x_faultOf (ix p1) Z) rfl hR _ _ _ _ hB2 _ _ (by omega) hE (lv_sub hl [0, 1] rfl)
    · have hR : x_read p1 Z = (x_met 1 Z) := hR.trans (congrArg (fun z => z) (if_pos c15))
      refine lv_aload_n hx hb dX0_read_18 rfl (lv_at hl 0 rfl) ?_
      refine lv_iconst (v := 1) hx hb dX0_read_19 rfl ?_
      refine call_x_met hx hb hml hown hts hK hA hE hl.1 1 (by omega) (lz (show 1 ≤ 7 by decide) hRf) (lz (show 21 ≤ 140 by decide) hRl) (Nat.le_of_ble_eq_true rfl) dX0_read_20 ⟨by omega, by omega⟩ (fun H locs hE => ?_)
      exact hret ((x_met 1 Z).1) ((x_met 1 Z).2, B) ⟨(hR.trans (pr_eta _)), hB2⟩ rfl hE (by omega) (by omega) dX0_read_23
  · have hR : x_read p1 Z = ((-1 : Int32), Z) := hR.trans (congrArg (fun z => z) (if_pos c4))
    refine lv_iconst (v := -1) hx hb dX0_read_7 rfl ?_
    exact hret (-1 : Int32) (Z, B) ⟨hR, hB2⟩ rfl hE (by omega) (by omega) dX0_read_8
