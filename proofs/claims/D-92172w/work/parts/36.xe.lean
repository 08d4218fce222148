/-! the component: flows -/
set_option maxRecDepth 100000
theorem nat_dec {a b n : Nat} (h : a < b) (h2 : b < n + 1) : a < n := by omega
/-- spans: least and most -/
def LI (Z : ZT) : Prop := ∀ k : Nat, k < 64 → 0 ≤ (Z.1 12 k).toInt ∧ (Z.1 12 k).toInt ≤ (Z.1 13 k).toInt ∧ (Z.1 13 k).toInt ≤ 100000
theorem end_start {a b : Int32} (h : 0 ≤ a.toInt ∧ a.toInt ≤ b.toInt ∧ b.toInt ≤ 100000) : (b.toInt - a.toInt).toNat < 100001 := by
  generalize a.toInt = x at *
  generalize b.toInt = y at *
  omega
theorem end_init {a b : Int32} (h : 0 ≤ a.toInt ∧ a.toInt ≤ b.toInt ∧ b.toInt ≤ 100000) : 0 ≤ a.toInt ∧ a.toInt ≤ 100000 ∧ 0 ≤ b.toInt ∧ b.toInt ≤ 100000 := by
  generalize a.toInt = x at *
  generalize b.toInt = y at *
  omega
theorem half_toInt {x : Int32} (h : 0 ≤ x.toInt) : (x / 2).toInt = x.toInt / 2 := by
  have l := x.toInt_lt
  rw [Int32.toInt_div, show (2 : Int32).toInt = 2 from rfl, Int.tdiv_eq_ediv_of_nonneg h, Int.bmod_eq_of_le (by omega) (by omega)]
theorem mid_up {l h : Int32} (hc : ¬ h ≤ l) (hb : 0 ≤ l.toInt ∧ l.toInt ≤ 100000 ∧ 0 ≤ h.toInt ∧ h.toInt ≤ 100000) : l.toInt < (l + ((h - l) + 1) / 2).toInt ∧ (l + ((h - l) + 1) / 2).toInt ≤ h.toInt := by
  rw [Int32.le_iff_toInt_le] at hc
  have e1 : (h - l).toInt = h.toInt - l.toInt := by rw [Int32.toInt_sub, Int.bmod_eq_of_le (by omega) (by omega)]
  have e2 : ((h - l) + 1).toInt = h.toInt - l.toInt + 1 := by rw [Int32.toInt_add, e1, show (1 : Int32).toInt = 1 from rfl, Int.bmod_eq_of_le (by omega) (by omega)]
  have e3 := half_toInt (x := (h - l) + 1) (by omega)
  rw [Int32.toInt_add, e3, e2, Int.bmod_eq_of_le (by omega) (by omega)]
  omega
theorem mid_dn {l h : Int32} (hc : ¬ h ≤ l) (hb : 0 ≤ l.toInt ∧ l.toInt ≤ 100000 ∧ 0 ≤ h.toInt ∧ h.toInt ≤ 100000) : l.toInt ≤ (l + (h - l) / 2).toInt ∧ (l + (h - l) / 2).toInt < h.toInt := by
  rw [Int32.le_iff_toInt_le] at hc
  have e1 : (h - l).toInt = h.toInt - l.toInt := by rw [Int32.toInt_sub, Int.bmod_eq_of_le (by omega) (by omega)]
  have e3 := half_toInt (x := h - l) (by omega)
  rw [Int32.toInt_add, e3, e1, Int.bmod_eq_of_le (by omega) (by omega)]
  omega
theorem mid_s {l h m : Int32} (hb : 0 ≤ l.toInt ∧ l.toInt ≤ 100000 ∧ 0 ≤ h.toInt ∧ h.toInt ≤ 100000) (hm : l.toInt ≤ m.toInt ∧ m.toInt < h.toInt) : l.toInt < (m + 1).toInt ∧ (m + 1).toInt ≤ h.toInt := by
  rw [Int32.toInt_add, show (1 : Int32).toInt = 1 from rfl, Int.bmod_eq_of_le (by omega) (by omega)]
  omega
theorem mid_p {l h m : Int32} (hb : 0 ≤ l.toInt ∧ l.toInt ≤ 100000 ∧ 0 ≤ h.toInt ∧ h.toInt ≤ 100000) (hm : l.toInt < m.toInt ∧ m.toInt ≤ h.toInt) : l.toInt ≤ (m - 1).toInt ∧ (m - 1).toInt < h.toInt := by
  rw [Int32.toInt_sub, show (1 : Int32).toInt = 1 from rfl, Int.bmod_eq_of_le (by omega) (by omega)]
  omega
theorem end_lo {l h m : Int32} (hb : 0 ≤ l.toInt ∧ l.toInt ≤ 100000 ∧ 0 ≤ h.toInt ∧ h.toInt ≤ 100000) (hm : l.toInt < m.toInt ∧ m.toInt ≤ h.toInt) : 0 ≤ m.toInt ∧ m.toInt ≤ 100000 ∧ 0 ≤ h.toInt ∧ h.toInt ≤ 100000 ∧ (h.toInt - m.toInt).toNat < (h.toInt - l.toInt).toNat := by
  generalize l.toInt = x at *
  generalize h.toInt = y at *
  generalize m.toInt = z at *
  omega
theorem end_hi {l h m : Int32} (hb : 0 ≤ l.toInt ∧ l.toInt ≤ 100000 ∧ 0 ≤ h.toInt ∧ h.toInt ≤ 100000) (hm : l.toInt ≤ m.toInt ∧ m.toInt < h.toInt) : 0 ≤ l.toInt ∧ l.toInt ≤ 100000 ∧ 0 ≤ m.toInt ∧ m.toInt ≤ 100000 ∧ (m.toInt - l.toInt).toNat < (h.toInt - l.toInt).toNat := by
  generalize l.toInt = x at *
  generalize h.toInt = y at *
  generalize m.toInt = z at *
  omega
def x_span (p1 : Int32) (p2 : Int32) (p3 : Int32) (p4 : Int32) (Z : ZT) : Int32 × ZT := (if (x_isBeing p1) = 0 then ((-1 : Int32), Z) else (if (x_isBeing p2) = 0 then ((-1 : Int32), Z) else (if (x_isMuch p3) = 0 then ((-1 : Int32), Z) else (if (x_isIn p4 p3 (100000 : Int32)) = 0 then ((-1 : Int32), Z) else (if (x_isLink (ix p1) (ix p2) Z) = 0 then (x_met 1 Z) else ((1 : Int32), sI (sI Z 12 (8 * (ix p1) + (ix p2)) p3) 13 (8 * (ix p1) + (ix p2)) p4))))))
set_option maxHeartbeats 4000000 in
set_option maxRecDepth 100000 in
theorem met_x_span (l : Launch) (D : va_G) (cs : Nat → ClassId) (x : Nat) (ar : Nat → Nat) (B : BT) (Y : va_W) (Z : ZT) (sz : Nat) (p1 : Int32) (p2 : Int32) (p3 : Int32) (p4 : Int32) : Met l yX0_span (ws_ yX0_span cX0_span 5 (some .int)) ({ frames := 2, cells := 0, slots := 0, locals := 43 }) (va_Pc [.ref x, .int p1, .int p2, .int p3, .int p4] (wSt D cs (WX x ar cs Z B Y) sz)) (cQi (fun (v : Int32) (u : ZT) => x_span p1 p2 p3 p4 Z = (v, u)) D (fun u => (WX x ar cs u B Y)) (WX x ar cs Z B Y) sz) 0 0 (va_A (WX x ar cs Z B Y) sz) := by
  refine gStart_i (C := RX0) rfl rfl (Nat.le_of_ble_eq_true rfl) ?_
  intro p e s mid args below meth c R Q A hx hb hml hown hts hK hA hRf hRl hRc hRs hret hE ls hl
  have hRf : 2 ≤ R.frames := hRf
  have hRl : 43 ≤ R.locals := hRl
  have hl : lv_has ls 5 [(0, .ref x), (1, .int p1), (2, .int p2), (3, .int p3), (4, .int p4)] := hl
  have hR : x_span p1 p2 p3 p4 Z = (if (x_isBeing p1) = 0 then ((-1 : Int32), Z) else (if (x_isBeing p2) = 0 then ((-1 : Int32), Z) else (if (x_isMuch p3) = 0 then ((-1 : Int32), Z) else (if (x_isIn p4 p3 (100000 : Int32)) = 0 then ((-1 : Int32), Z) else (if (x_isLink (ix p1) (ix p2) Z) = 0 then (x_met 1 Z) else ((1 : Int32), sI (sI Z 12 (8 * (ix p1) + (ix p2)) p3) 13 (8 * (ix p1) + (ix p2)) p4)))))) := rfl
  refine lv_iload_n hx hb dX0_span_0 rfl (lv_at hl 1 rfl) ?_
  refine call_x_isBeing hx hb hml hown hts hK hA hE hl.1 p1 (lz (show 2 ≤ 2 by decide) hRf) (lz (show 42 ≤ 43 by decide) hRl) (Nat.le_of_ble_eq_true rfl) dX0_span_1 ⟨Nat.zero_le _, Nat.zero_le _⟩ (fun H locs hE => ?_)
  refine lv_if_eq (tgt := 32) hx hb dX0_span_4 (by decide) (fun c4 => ?_) (fun c4 => ?_)
  · have hR : x_span p1 p2 p3 p4 Z = ((-1 : Int32), Z) := hR.trans (congrArg (fun z => z) (if_pos c4))
    refine lv_iconst (v := -1) hx hb dX0_span_32 rfl ?_
    exact hret (-1 : Int32) Z hR rfl hE (Nat.le_refl 0) (Nat.le_refl 0) dX0_span_33
  · have hR : x_span p1 p2 p3 p4 Z = (if (x_isBeing p2) = 0 then ((-1 : Int32), Z) else (if (x_isMuch p3) = 0 then ((-1 : Int32), Z) else (if (x_isIn p4 p3 (100000 : Int32)) = 0 then ((-1 : Int32), Z) else (if (x_isLink (ix p1) (ix p2) Z) = 0 then (x_met 1 Z) else ((1 : Int32), sI (sI Z 12 (8 * (ix p1) + (ix p2)) p3) 13 (8 * (ix p1) + (ix p2)) p4))))) := hR.trans (congrArg (fun z => z) (if_neg c4))
    refine lv_iload_n hx hb dX0_span_7 rfl (lv_at hl 2 rfl) ?_
    refine call_x_isBeing hx hb hml hown hts hK hA hE hl.1 p2 (lz (show 2 ≤ 2 by decide) hRf) (lz (show 42 ≤ 43 by decide) hRl) (Nat.le_of_ble_eq_true rfl) dX0_span_8 ⟨Nat.zero_le _, Nat.zero_le _⟩ (fun H locs hE => ?_)
    refine lv_if_eq (tgt := 32) hx hb dX0_span_11 (by decide) (fun c11 => ?_) (fun c11 => ?_)
    · have hR : x_span p1 p2 p3 p4 Z = ((-1 : Int32), Z) := hR.trans (congrArg (fun z => z) (if_pos c11))
      refine lv_iconst (v := -1) hx hb dX0_span_32 rfl ?_
      exact hret (-1 : Int32) Z hR rfl hE (Nat.le_refl 0) (Nat.le_refl 0) dX0_span_33
    · have hR : x_span p1 p2 p3 p4 Z = (if (x_isMuch p3) = 0 then ((-1 : Int32), Z) else (if (x_isIn p4 p3 (100000 : Int32)) = 0 then ((-1 : Int32), Z) else (if (x_isLink (ix p1) (ix p2) Z) = 0 then (x_met 1 Z) else ((1 : Int32), sI (sI Z 12 (8 * (ix p1) + (ix p2)) p3) 13 (8 * (ix p1) + (ix p2)) p4)))) := hR.trans (congrArg (fun z => z) (if_neg c11))
      refine lv_iload_n hx hb dX0_span_14 rfl (lv_at hl 3 rfl) ?_
      refine call_x_isMuch hx hb hml hown hts hK hA hE hl.1 p3 (lz (show 2 ≤ 2 by decide) hRf) (lz (show 42 ≤ 43 by decide) hRl) (Nat.le_of_ble_eq_true rfl) dX0_span_15 ⟨Nat.zero_le _, Nat.zero_le _⟩ (fun H locs hE => ?_)
      refine lv_if_eq (tgt := 32) hx hb dX0_span_18 (by decide) (fun c18 => ?_) (fun c18 => ?_)
      · have hR : x_span p1 p2 p3 p4 Z = ((-1 : Int32), Z) := hR.trans (congrArg (fun z => z) (if_pos c18))
        refine lv_iconst (v := -1) hx hb dX0_span_32 rfl ?_
        exact hret (-1 : Int32) Z hR rfl hE (Nat.le_refl 0) (Nat.le_refl 0) dX0_span_33
      · have hR : x_span p1 p2 p3 p4 Z = (if (x_isIn p4 p3 (100000 : Int32)) = 0 then ((-1 : Int32), Z) else (if (x_isLink (ix p1) (ix p2) Z) = 0 then (x_met 1 Z) else ((1 : Int32), sI (sI Z 12 (8 * (ix p1) + (ix p2)) p3) 13 (8 * (ix p1) + (ix p2)) p4))) := hR.trans (congrArg (fun z => z) (if_neg c18))
        refine lv_iload hx hb dX0_span_21 (lv_at hl 4 rfl) ?_
        refine lv_iload_n hx hb dX0_span_23 rfl (lv_at hl 3 rfl) ?_
        refine lv_ldc (v := 100000) hx hb hown (hts _ q421) dX0_span_24 ?_
        refine call_x_isIn hx hb hml hown hts hK hA hE hl.1 p4 p3 (100000 : Int32) (lz (show 1 ≤ 2 by decide) hRf) (lz (show 22 ≤ 43 by decide) hRl) (Nat.le_of_ble_eq_true rfl) dX0_span_26 ⟨Nat.zero_le _, Nat.zero_le _⟩ (fun H locs hE => ?_)
        refine lv_if_ne (tgt := 34) hx hb dX0_span_29 (by decide) (fun c29 => ?_) (fun c29 => ?_)
        · have hR : x_span p1 p2 p3 p4 Z = (if (x_isLink (ix p1) (ix p2) Z) = 0 then (x_met 1 Z) else ((1 : Int32), sI (sI Z 12 (8 * (ix p1) + (ix p2)) p3) 13 (8 * (ix p1) + (ix p2)) p4)) := hR.trans (congrArg (fun z => z) (if_neg c29))
          have hnp1 := vp_ix (x := p1) (N := 8) (xBe_vp c4) (by decide)
          have hbnp1 := hnp1.2
          have hnp2 := vp_ix (x := p2) (N := 8) (xBe_vp c11) (by decide)
          have hbnp2 := hnp2.2
          refine lv_aload_n hx hb dX0_span_34 rfl (lv_at hl 0 rfl) ?_
          refine lv_iload_n hx hb dX0_span_35 rfl (lv_at hl 1 rfl) ?_
          refine top_nat hnp1.1 ?_
          refine lv_iload_n hx hb dX0_span_36 rfl (lv_at hl 2 rfl) ?_
          refine top_nat hnp2.1 ?_
          refine call_x_isLink hx hb hml hown hts hK hA hE hl.1 (ix p1) (ix p2) (by omega) (by omega) (lz (show 2 ≤ 2 by decide) hRf) (lz (show 43 ≤ 43 by decide) hRl) (Nat.le_of_ble_eq_true rfl) dX0_span_37 ⟨Nat.zero_le _, Nat.zero_le _⟩ (fun H locs hE => ?_)
          refine lv_if_ne (tgt := 49) hx hb dX0_span_40 (by decide) (fun c40 => ?_) (fun c40 => ?_)
          · have hR : x_span p1 p2 p3 p4 Z = ((1 : Int32), sI (sI Z 12 (8 * (ix p1) + (ix p2)) p3) 13 (8 * (ix p1) + (ix p2)) p4) := hR.trans (congrArg (fun z => z) (if_neg c40))
            refine lv_aload_n hx hb dX0_span_49 rfl (lv_at hl 0 rfl) ?_
            refine xg_12 hx hb hts hown hK hE dX0_span_50 ?_
            refine lv_iload_n hx hb dX0_span_53 rfl (lv_at hl 1 rfl) ?_
            refine top_nat hnp1.1 ?_
            refine lv_iload_n hx hb dX0_span_54 rfl (lv_at hl 2 rfl) ?_
            refine top_nat hnp2.1 ?_
            refine call_x_pair hx hb hml hown hts hK hA hE hl.1 (ix p1) (ix p2) (lz (show 1 ≤ 2 by decide) hRf) (lz (show 21 ≤ 43 by decide) hRl) (Nat.le_of_ble_eq_true rfl) dX0_span_55 ⟨Nat.zero_le _, Nat.zero_le _⟩ (fun H locs hE => ?_)
            refine lv_iload_n hx hb dX0_span_58 rfl (lv_at hl 3 rfl) ?_
            refine xs_12 (n := (8 * (ix p1) + (ix p2))) (by omega) hx hb hK hE dX0_span_59 (fun H locs hE => ?_)
            refine lv_aload_n hx hb dX0_span_60 rfl (lv_at hl 0 rfl) ?_
            refine xg_13 hx hb hts hown hK hE dX0_span_61 ?_
            refine lv_iload_n hx hb dX0_span_64 rfl (lv_at hl 1 rfl) ?_
            refine top_nat hnp1.1 ?_
            refine lv_iload_n hx hb dX0_span_65 rfl (lv_at hl 2 rfl) ?_
            refine top_nat hnp2.1 ?_
            refine call_x_pair hx hb hml hown hts hK hA hE hl.1 (ix p1) (ix p2) (lz (show 1 ≤ 2 by decide) hRf) (lz (show 21 ≤ 43 by decide) hRl) (Nat.le_of_ble_eq_true rfl) dX0_span_66 ⟨Nat.zero_le _, Nat.zero_le _⟩ (fun H locs hE => ?_)
            refine lv_iload hx hb dX0_span_69 (lv_at hl 4 rfl) ?_
            refine xs_13 (n := (8 * (ix p1) + (ix p2))) (by omega) hx hb hK hE dX0_span_71 (fun H locs hE => ?_)
            refine lv_iconst (v := 1) hx hb dX0_span_72 rfl ?_
            exact hret (1 : Int32) (sI (sI Z 12 (8 * (ix p1) + (ix p2)) p3) 13 (8 * (ix p1) + (ix p2)) p4) hR rfl hE (Nat.le_refl 0) (Nat.le_refl 0) dX0_span_73
          · have hR : x_span p1 p2 p3 p4 Z = (x_met 1 Z) := hR.trans (congrArg (fun z => z) (if_pos c40))
            refine lv_aload_n hx hb dX0_span_43 rfl (lv_at hl 0 rfl) ?_
            refine lv_iconst (v := 1) hx hb dX0_span_44 rfl ?_
            refine call_x_met hx hb hml hown hts hK hA hE hl.1 1 (by omega) (lz (show 1 ≤ 2 by decide) hRf) (lz (show 21 ≤ 43 by decide) hRl) (Nat.le_of_ble_eq_true rfl) dX0_span_45 ⟨Nat.zero_le _, Nat.zero_le _⟩ (fun H locs hE => ?_)
            exact hret ((x_met 1 Z).1) ((x_met 1 Z).2) hR rfl hE (Nat.le_refl 0) (Nat.le_refl 0) dX0_span_48
        · have hR : x_span p1 p2 p3 p4 Z = ((-1 : Int32), Z) := hR.trans (congrArg (fun z => z) (if_pos c29))
          refine lv_iconst (v := -1) hx hb dX0_span_32 rfl ?_
          exact hret (-1 : Int32) Z hR rfl hE (Nat.le_refl 0) (Nat.le_refl 0) dX0_span_33
def x_door_j77 (p1 : Int32) (p3 : Int32) (p4 : Int32) (Z : ZT) (w58 : Nat) (w77 : Nat) : Int32 × ZT := ((1 : Int32), sI (sI Z 15 ((4 * (ix p1)) + w58) p3) 15 ((4 * (ix p1)) + w77) p4)
def x_door_j58 (p1 : Int32) (p2 : Int32) (p3 : Int32) (p4 : Int32) (Z : ZT) (w58 : Nat) : Int32 × ZT := x_door_j77 p1 p3 p4 Z w58 (if p2 = 0 then 1 else 3)
def x_door (p1 : Int32) (p2 : Int32) (p3 : Int32) (p4 : Int32) (Z : ZT) : Int32 × ZT := (if (x_isBeing p1) = 0 then ((-1 : Int32), Z) else (if (x_isMuch p3) = 0 then ((-1 : Int32), Z) else (if (x_isIn p4 p3 (100000 : Int32)) = 0 then ((-1 : Int32), Z) else (if Z.1 30 (ix p1) = 0 then (x_met 1 Z) else x_door_j58 p1 p2 p3 p4 Z (if p2 = 0 then 0 else 2)))))
set_option maxHeartbeats 4000000 in
set_option maxRecDepth 100000 in
theorem met_x_door (l : Launch) (D : va_G) (cs : Nat → ClassId) (x : Nat) (ar : Nat → Nat) (B : BT) (Y : va_W) (Z : ZT) (sz : Nat) (p1 : Int32) (p2 : Int32) (p3 : Int32) (p4 : Int32) : Met l yX0_door (ws_ yX0_door cX0_door 5 (some .int)) ({ frames := 2, cells := 0, slots := 0, locals := 42 }) (va_Pc [.ref x, .int p1, .int p2, .int p3, .int p4] (wSt D cs (WX x ar cs Z B Y) sz)) (cQi (fun (v : Int32) (u : ZT) => x_door p1 p2 p3 p4 Z = (v, u)) D (fun u => (WX x ar cs u B Y)) (WX x ar cs Z B Y) sz) 0 0 (va_A (WX x ar cs Z B Y) sz) := by
  refine gStart_i (C := RX0) rfl rfl (Nat.le_of_ble_eq_true rfl) ?_
  intro p e s mid args below meth c R Q A hx hb hml hown hts hK hA hRf hRl hRc hRs hret hE ls hl
  have hRf : 2 ≤ R.frames := hRf
  have hRl : 42 ≤ R.locals := hRl
  have hl : lv_has ls 5 [(0, .ref x), (1, .int p1), (2, .int p2), (3, .int p3), (4, .int p4)] := hl
  have hR : x_door p1 p2 p3 p4 Z = (if (x_isBeing p1) = 0 then ((-1 : Int32), Z) else (if (x_isMuch p3) = 0 then ((-1 : Int32), Z) else (if (x_isIn p4 p3 (100000 : Int32)) = 0 then ((-1 : Int32), Z) else (if Z.1 30 (ix p1) = 0 then (x_met 1 Z) else x_door_j58 p1 p2 p3 p4 Z (if p2 = 0 then 0 else 2))))) := rfl
  refine lv_iload_n hx hb dX0_door_0 rfl (lv_at hl 1 rfl) ?_
  refine call_x_isBeing hx hb hml hown hts hK hA hE hl.1 p1 (lz (show 2 ≤ 2 by decide) hRf) (lz (show 42 ≤ 42 by decide) hRl) (Nat.le_of_ble_eq_true rfl) dX0_door_1 ⟨Nat.zero_le _, Nat.zero_le _⟩ (fun H locs hE => ?_)
  refine lv_if_eq (tgt := 25) hx hb dX0_door_4 (by decide) (fun c4 => ?_) (fun c4 => ?_)
  · have hR : x_door p1 p2 p3 p4 Z = ((-1 : Int32), Z) := hR.trans (congrArg (fun z => z) (if_pos c4))
    refine lv_iconst (v := -1) hx hb dX0_door_25 rfl ?_
    exact hret (-1 : Int32) Z hR rfl hE (Nat.le_refl 0) (Nat.le_refl 0) dX0_door_26
  · have hR : x_door p1 p2 p3 p4 Z = (if (x_isMuch p3) = 0 then ((-1 : Int32), Z) else (if (x_isIn p4 p3 (100000 : Int32)) = 0 then ((-1 : Int32), Z) else (if Z.1 30 (ix p1) = 0 then (x_met 1 Z) else x_door_j58 p1 p2 p3 p4 Z (if p2 = 0 then 0 else 2)))) := hR.trans (congrArg (fun z => z) (if_neg c4))
    refine lv_iload_n hx hb dX0_door_7 rfl (lv_at hl 3 rfl) ?_
    refine call_x_isMuch hx hb hml hown hts hK hA hE hl.1 p3 (lz (show 2 ≤ 2 by decide) hRf) (lz (show 42 ≤ 42 by decide) hRl) (Nat.le_of_ble_eq_true rfl) dX0_door_8 ⟨Nat.zero_le _, Nat.zero_le _⟩ (fun H locs hE => ?_)
    refine lv_if_eq (tgt := 25) hx hb dX0_door_11 (by decide) (fun c11 => ?_) (fun c11 => ?_)
    · have hR : x_door p1 p2 p3 p4 Z = ((-1 : Int32), Z) := hR.trans (congrArg (fun z => z) (if_pos c11))
      refine lv_iconst (v := -1) hx hb dX0_door_25 rfl ?_
      exact hret (-1 : Int32) Z hR rfl hE (Nat.le_refl 0) (Nat.le_refl 0) dX0_door_26
    · have hR : x_door p1 p2 p3 p4 Z = (if (x_isIn p4 p3 (100000 : Int32)) = 0 then ((-1 : Int32), Z) else (if Z.1 30 (ix p1) = 0 then (x_met 1 Z) else x_door_j58 p1 p2 p3 p4 Z (if p2 = 0 then 0 else 2))) := hR.trans (congrArg (fun z => z) (if_neg c11))
      refine lv_iload hx hb dX0_door_14 (lv_at hl 4 rfl) ?_
      refine lv_iload_n hx hb dX0_door_16 rfl (lv_at hl 3 rfl) ?_
      refine lv_ldc (v := 100000) hx hb hown (hts _ q421) dX0_door_17 ?_
      refine call_x_isIn hx hb hml hown hts hK hA hE hl.1 p4 p3 (100000 : Int32) (lz (show 1 ≤ 2 by decide) hRf) (lz (show 22 ≤ 42 by decide) hRl) (Nat.le_of_ble_eq_true rfl) dX0_door_19 ⟨Nat.zero_le _, Nat.zero_le _⟩ (fun H locs hE => ?_)
      refine lv_if_ne (tgt := 27) hx hb dX0_door_22 (by decide) (fun c22 => ?_) (fun c22 => ?_)
      · have hR : x_door p1 p2 p3 p4 Z = (if Z.1 30 (ix p1) = 0 then (x_met 1 Z) else x_door_j58 p1 p2 p3 p4 Z (if p2 = 0 then 0 else 2)) := hR.trans (congrArg (fun z => z) (if_neg c22))
        have hnp1 := vp_ix (x := p1) (N := 8) (xBe_vp c4) (by decide)
        have hbnp1 := hnp1.2
        refine lv_aload_n hx hb dX0_door_27 rfl (lv_at hl 0 rfl) ?_
        refine xg_10 hx hb hts hown hK hE dX0_door_28 ?_
        refine lv_iload_n hx hb dX0_door_31 rfl (lv_at hl 1 rfl) ?_
        refine top_nat hnp1.1 ?_
        refine xa_10 (n := (ix p1)) (by omega) hx hb hK hE dX0_door_32 ?_
        refine xnw_be (b := (ix p1)) (tgt := 42) hx hb dX0_door_33 (by decide) (fun c33 => ?_) (fun c33 => ?_)
        · have hR : x_door p1 p2 p3 p4 Z = (x_door_j58 p1 p2 p3 p4 Z (if p2 = 0 then 0 else 2)) := hR.trans (congrArg (fun z => z) (if_neg c33))
          refine lv_aload_n hx hb dX0_door_42 rfl (lv_at hl 0 rfl) ?_
          refine xg_15 hx hb hts hown hK hE dX0_door_43 ?_
          refine lv_iconst (v := 4) hx hb dX0_door_46 rfl ?_
          refine lv_iload_n hx hb dX0_door_47 rfl (lv_at hl 1 rfl) ?_
          refine top_nat hnp1.1 ?_
          refine n_mul (a := 4) (b := (ix p1)) hx hb dX0_door_48 ?_
          refine lv_iload_n hx hb dX0_door_49 rfl (lv_at hl 2 rfl) ?_
          have hJ58 : ∀ (w58 : Nat) (hw58 : w58 ≤ 2) (hR : x_door p1 p2 p3 p4 Z = x_door_j58 p1 p2 p3 p4 Z w58), ∀ (H : Heap) (locs : List Loc) (ls : Array Slot), EW D A s.heap (WX x ar cs Z B Y) H locs → lv_has ls 5 [(0, .ref x), (1, .int p1), (2, .int p2), (3, .int p3), (4, .int p4)] → W p l e R s mid args below meth c H locs 0 0 Q (F0 mid 58 ls [.int (nI w58), .int (nI (4 * (ix p1))), .ref (ar 15)]) := by
            intro w58 hw58 hR H locs ls hE hl
            have hR : x_door p1 p2 p3 p4 Z = (x_door_j77 p1 p3 p4 Z w58 (if p2 = 0 then 1 else 3)) := hR
            refine n_add (a := (4 * (ix p1))) (b := w58) hx hb dX0_door_58 ?_
            refine lv_iload_n hx hb dX0_door_59 rfl (lv_at hl 3 rfl) ?_
            refine xs_15 (n := ((4 * (ix p1)) + w58)) (by omega) hx hb hK hE dX0_door_60 (fun H locs hE => ?_)
            refine lv_aload_n hx hb dX0_door_61 rfl (lv_at hl 0 rfl) ?_
            refine xg_15 hx hb hts hown hK hE dX0_door_62 ?_
            refine lv_iconst (v := 4) hx hb dX0_door_65 rfl ?_
            refine lv_iload_n hx hb dX0_door_66 rfl (lv_at hl 1 rfl) ?_
            refine top_nat hnp1.1 ?_
            refine n_mul (a := 4) (b := (ix p1)) hx hb dX0_door_67 ?_
            refine lv_iload_n hx hb dX0_door_68 rfl (lv_at hl 2 rfl) ?_
            have hJ77 : ∀ (w77 : Nat) (hw77 : w77 ≤ 3) (hR : x_door p1 p2 p3 p4 Z = x_door_j77 p1 p3 p4 Z w58 w77), ∀ (H : Heap) (locs : List Loc) (ls : Array Slot), EW D A s.heap (WX x ar cs (sI Z 15 ((4 * (ix p1)) + w58) p3) B Y) H locs → lv_has ls 5 [(4, .int p4)] → W p l e R s mid args below meth c H locs 0 0 Q (F0 mid 77 ls [.int (nI w77), .int (nI (4 * (ix p1))), .ref (ar 15)]) := by
              intro w77 hw77 hR H locs ls hE hl
              have hR : x_door p1 p2 p3 p4 Z = ((1 : Int32), sI (sI Z 15 ((4 * (ix p1)) + w58) p3) 15 ((4 * (ix p1)) + w77) p4) := hR
              refine n_add (a := (4 * (ix p1))) (b := w77) hx hb dX0_door_77 ?_
              refine lv_iload hx hb dX0_door_78 (lv_at hl 0 rfl) ?_
              refine xs_15 (n := ((4 * (ix p1)) + w77)) (by omega) hx hb hK hE dX0_door_80 (fun H locs hE => ?_)
              refine lv_iconst (v := 1) hx hb dX0_door_81 rfl ?_
              exact hret (1 : Int32) (sI (sI Z 15 ((4 * (ix p1)) + w58) p3) 15 ((4 * (ix p1)) + w77) p4) hR rfl hE (Nat.le_refl 0) (Nat.le_refl 0) dX0_door_82
            refine lv_if_eq (tgt := 76) hx hb dX0_door_69 (by decide) (fun c69 => ?_) (fun c69 => ?_)
            · have hR : x_door p1 p2 p3 p4 Z = x_door_j77 p1 p3 p4 Z w58 1 := hR.trans (congrArg (fun z => x_door_j77 p1 p3 p4 Z w58 z) (if_pos c69))
              refine lv_iconst (v := 1) hx hb dX0_door_76 rfl ?_
              exact hJ77 1  (by decide) hR _ _ _ hE (lv_sub hl [4] rfl)
            · have hR : x_door p1 p2 p3 p4 Z = x_door_j77 p1 p3 p4 Z w58 3 := hR.trans (congrArg (fun z => x_door_j77 p1 p3 p4 Z w58 z) (if_neg c69))
              refine lv_iconst (v := 3) hx hb dX0_door_72 rfl ?_
              refine lv_goto (tgt := 77) hx hb dX0_door_73 (by decide) ?_
              exact hJ77 3  (by decide) hR _ _ _ hE (lv_sub hl [4] rfl)
          refine lv_if_eq (tgt := 57) hx hb dX0_door_50 (by decide) (fun c50 => ?_) (fun c50 => ?_)
          · have hR : x_door p1 p2 p3 p4 Z = x_door_j58 p1 p2 p3 p4 Z 0 := hR.trans (congrArg (fun z => x_door_j58 p1 p2 p3 p4 Z z) (if_pos c50))
            refine lv_iconst (v := 0) hx hb dX0_door_57 rfl ?_
            exact hJ58 0  (by decide) hR _ _ _ hE (lv_sub hl [0, 1, 2, 3, 4] rfl)
          · have hR : x_door p1 p2 p3 p4 Z = x_door_j58 p1 p2 p3 p4 Z 2 := hR.trans (congrArg (fun z => x_door_j58 p1 p2 p3 p4 Z z) (if_neg c50))
            refine lv_iconst (v := 2) hx hb dX0_door_53 rfl ?_
            refine lv_goto (tgt := 58) hx hb dX0_door_54 (by decide) ?_
            exact hJ58 2  (by decide) hR _ _ _ hE (lv_sub hl [0, 1, 2, 3, 4] rfl)
        · have hR : x_door p1 p2 p3 p4 Z = (x_met 1 Z) := hR.trans (congrArg (fun z => z) (if_pos c33))
          refine lv_aload_n hx hb dX0_door_36 rfl (lv_at hl 0 rfl) ?_
          refine lv_iconst (v := 1) hx hb dX0_door_37 rfl ?_
          refine call_x_met hx hb hml hown hts hK hA hE hl.1 1 (by omega) (lz (show 1 ≤ 2 by decide) hRf) (lz (show 21 ≤ 42 by decide) hRl) (Nat.le_of_ble_eq_true rfl) dX0_door_38 ⟨Nat.zero_le _, Nat.zero_le _⟩ (fun H locs hE => ?_)
          exact hret ((x_met 1 Z).1) ((x_met 1 Z).2) hR rfl hE (Nat.le_refl 0) (Nat.le_refl 0) dX0_door_41
      · have hR : x_door p1 p2 p3 p4 Z = ((-1 : Int32), Z) := hR.trans (congrArg (fun z => z) (if_pos c22))
        refine lv_iconst (v := -1) hx hb dX0_door_25 rfl ?_
        exact hret (-1 : Int32) Z hR rfl hE (Nat.le_refl 0) (Nat.le_refl 0) dX0_door_26
def x_quarrels_j264 (w264 : Int32 × Int32 × Int32 × Int32) : Int32 × Int32 × Int32 × Int32 := (w264.1, w264.2.1, w264.2.2.1, w264.2.2.2)
def x_quarrels_j261 (w134 : Int32 × Int32 × Int32 × Int32) (w201 : Int32) (w220 : Int32) (w240 : Int32) (w261 : Int32) : Int32 × Int32 × Int32 × Int32 := ((w134.1 + w201), (w134.2.1 + w220), (w134.2.2.1 + w240), (w134.2.2.2 + w261))
def x_quarrels_j240 (Z : ZT) (i13 : Nat) (i134 : Nat) (w134 : Int32 × Int32 × Int32 × Int32) (w165 : Int32) (w201 : Int32) (w220 : Int32) (w240 : Int32) : Int32 × Int32 × Int32 × Int32 := x_quarrels_j261 w134 w201 w220 w240 (if w165 = 0 then (0 : Int32) else Z.1 13 (8 * i13 + i134))
def x_quarrels_j220 (Z : ZT) (i13 : Nat) (i134 : Nat) (w134 : Int32 × Int32 × Int32 × Int32) (w165 : Int32) (w201 : Int32) (w220 : Int32) : Int32 × Int32 × Int32 × Int32 := x_quarrels_j240 Z i13 i134 w134 w165 w201 w220 (if w165 = 0 then (0 : Int32) else Z.1 12 (8 * i13 + i134))
def x_quarrels_j201 (Z : ZT) (i13 : Nat) (w35 : Int32) (i134 : Nat) (w134 : Int32 × Int32 × Int32 × Int32) (w165 : Int32) (w201 : Int32) : Int32 × Int32 × Int32 × Int32 := x_quarrels_j220 Z i13 i134 w134 w165 w201 (if w35 = 0 then (0 : Int32) else Z.1 13 (8 * i13 + i134))
def x_quarrels_j165 (Z : ZT) (i13 : Nat) (w35 : Int32) (i134 : Nat) (w134 : Int32 × Int32 × Int32 × Int32) (w165 : Int32) : Int32 × Int32 × Int32 × Int32 := x_quarrels_j264 (if Z.1 11 (8 * i13 + i134) ≤ 0 then (w134.1, w134.2.1, w134.2.2.1, w134.2.2.2) else (if w35 = w165 then (w134.1, w134.2.1, w134.2.2.1, w134.2.2.2) else x_quarrels_j201 Z i13 w35 i134 w134 w165 (if w35 = 0 then (0 : Int32) else Z.1 12 (8 * i13 + i134))))
def x_quarrels_b134 (p1 : Int32) (Z : ZT) (i13 : Nat) (w35 : Int32) (i134 : Nat) (w134 : Int32 × Int32 × Int32 × Int32) : Int32 × Int32 × Int32 × Int32 := x_quarrels_j165 Z i13 w35 i134 w134 (if ((p1 >>> ((nI i134) &&& 31)) &&& (1 : Int32)) = (1 : Int32) then (1 : Int32) else (0 : Int32))
def x_quarrels_e134 (w134 : Int32 × Int32 × Int32 × Int32) : Int32 × Int32 × Int32 × Int32 := (w134.1, w134.2.1, w134.2.2.1, w134.2.2.2)
def x_quarrels_j128 (p1 : Int32) (Z : ZT) (i13 : Nat) (w13 : Int32 × Int32 × Int32 × Int32) (w35 : Int32) (w56 : Int32) (w79 : Int32) (w103 : Int32) (w128 : Int32) : Int32 × Int32 × Int32 × Int32 := x_quarrels_e134 (itR (x_quarrels_b134 p1 Z i13 w35) 0 8 ((w13.1 + w56), (w13.2.1 + w79), (w13.2.2.1 + w103), (w13.2.2.2 + w128)))
def x_quarrels_j103 (p1 : Int32) (Z : ZT) (i13 : Nat) (w13 : Int32 × Int32 × Int32 × Int32) (w35 : Int32) (w56 : Int32) (w79 : Int32) (w103 : Int32) : Int32 × Int32 × Int32 × Int32 := x_quarrels_j128 p1 Z i13 w13 w35 w56 w79 w103 (if w35 = 0 then (0 : Int32) else Z.1 15 ((4 * i13) + 3))
def x_quarrels_j79 (p1 : Int32) (Z : ZT) (i13 : Nat) (w13 : Int32 × Int32 × Int32 × Int32) (w35 : Int32) (w56 : Int32) (w79 : Int32) : Int32 × Int32 × Int32 × Int32 := x_quarrels_j103 p1 Z i13 w13 w35 w56 w79 (if w35 = 0 then (0 : Int32) else Z.1 15 ((4 * i13) + 2))
def x_quarrels_j56 (p1 : Int32) (Z : ZT) (i13 : Nat) (w13 : Int32 × Int32 × Int32 × Int32) (w35 : Int32) (w56 : Int32) : Int32 × Int32 × Int32 × Int32 := x_quarrels_j79 p1 Z i13 w13 w35 w56 (if w35 = 0 then (0 : Int32) else Z.1 15 ((4 * i13) + 1))
def x_quarrels_j35 (p1 : Int32) (Z : ZT) (i13 : Nat) (w13 : Int32 × Int32 × Int32 × Int32) (w35 : Int32) : Int32 × Int32 × Int32 × Int32 := x_quarrels_j56 p1 Z i13 w13 w35 (if w35 = 0 then (0 : Int32) else Z.1 15 (4 * i13))
def x_quarrels_b13 (p1 : Int32) (Z : ZT) (i13 : Nat) (w13 : Int32 × Int32 × Int32 × Int32) : Int32 × Int32 × Int32 × Int32 := x_quarrels_j35 p1 Z i13 w13 (if ((p1 >>> ((nI i13) &&& 31)) &&& (1 : Int32)) = (1 : Int32) then (1 : Int32) else (0 : Int32))
def x_quarrels_k288 : Int32 := (1 : Int32)
def x_quarrels_e13 (w13 : Int32 × Int32 × Int32 × Int32) : Int32 := (if w13.2.2.2 < w13.1 then x_quarrels_k288 else (if w13.2.2.1 ≤ w13.2.1 then (0 : Int32) else x_quarrels_k288))
def x_quarrels (p1 : Int32) (Z : ZT) : Int32 := x_quarrels_e13 (itR (x_quarrels_b13 p1 Z) 0 8 ((0 : Int32), (0 : Int32), (0 : Int32), (0 : Int32)))
set_option maxHeartbeats 4000000 in
set_option maxRecDepth 100000 in
theorem met_x_quarrels (l : Launch) (D : va_G) (cs : Nat → ClassId) (x : Nat) (ar : Nat → Nat) (B : BT) (Y : va_W) (Z : ZT) (sz : Nat) (p1 : Int32) : Met l yX0_quarrels (ws_ yX0_quarrels cX0_quarrels 11 (some .boolean)) ({ frames := 1, cells := 0, slots := 0, locals := 21 }) (va_Pc [.ref x, .int p1] (wSt D cs (WX x ar cs Z B Y) sz)) (cQi (fun (v : Int32) (_ : Unit) => x_quarrels p1 Z = v) D (fun _ => (WX x ar cs Z B Y)) (WX x ar cs Z B Y) sz) 0 0 (va_A (WX x ar cs Z B Y) sz) := by
  refine gStart_i (C := RX0) rfl rfl (Nat.le_of_ble_eq_true rfl) ?_
  intro p e s mid args below meth c R Q A hx hb hml hown hts hK hA hRf hRl hRc hRs hret hE ls hl
  have hRf : 1 ≤ R.frames := hRf
  have hRl : 21 ≤ R.locals := hRl
  have hl : lv_has ls 11 [(0, .ref x), (1, .int p1)] := hl
  have hR : x_quarrels p1 Z = (x_quarrels_e13 (itR (x_quarrels_b13 p1 Z) 0 8 ((0 : Int32), (0 : Int32), (0 : Int32), (0 : Int32)))) := rfl
  refine lv_iconst (v := 0) hx hb dX0_quarrels_0 rfl ?_
  refine lv_istore_n (lv' := [(2, .int (0 : Int32)), (0, .ref x), (1, .int p1)]) hx hb dX0_quarrels_1 rfl hl (by decide) rfl (fun ls hl => ?_)
  refine lv_iconst (v := 0) hx hb dX0_quarrels_2 rfl ?_
  refine lv_istore_n (lv' := [(3, .int (0 : Int32)), (2, .int (0 : Int32)), (0, .ref x), (1, .int p1)]) hx hb dX0_quarrels_3 rfl hl (by decide) rfl (fun ls hl => ?_)
  refine lv_iconst (v := 0) hx hb dX0_quarrels_4 rfl ?_
  refine lv_istore (lv' := [(4, .int (0 : Int32)), (3, .int (0 : Int32)), (2, .int (0 : Int32)), (0, .ref x), (1, .int p1)]) hx hb dX0_quarrels_5 hl (by decide) rfl (fun ls hl => ?_)
  refine lv_iconst (v := 0) hx hb dX0_quarrels_7 rfl ?_
  refine lv_istore (lv' := [(5, .int (0 : Int32)), (4, .int (0 : Int32)), (3, .int (0 : Int32)), (2, .int (0 : Int32)), (0, .ref x), (1, .int p1)]) hx hb dX0_quarrels_8 hl (by decide) rfl (fun ls hl => ?_)
  refine lv_iconst (v := 0) hx hb dX0_quarrels_10 rfl ?_
  refine lv_istore (lv' := [(6, .int (0 : Int32)), (5, .int (0 : Int32)), (4, .int (0 : Int32)), (3, .int (0 : Int32)), (2, .int (0 : Int32)), (0, .ref x), (1, .int p1)]) hx hb dX0_quarrels_11 hl (by decide) rfl (fun ls hl => ?_)
  have hL13 : ∀ (k i13 : Nat) (w13 : Int32 × Int32 × Int32 × Int32) (hi13 : i13 + k = 8) (hR : x_quarrels p1 Z = x_quarrels_e13 (itR (x_quarrels_b13 p1 Z) i13 k w13)), ∀ (H : Heap) (locs : List Loc) (ls : Array Slot), EW D A s.heap (WX x ar cs Z B Y) H locs → lv_has ls 11 [(0, .ref x), (1, .int p1), (2, .int w13.1), (3, .int w13.2.1), (4, .int w13.2.2.1), (5, .int w13.2.2.2), (6, .int (nI i13))] → W p l e R s mid args below meth c H locs 0 0 Q (F0 mid 13 ls []) := by
    intro k
    induction k with
    | zero =>
      intro i13 w13 hi13 hR H locs ls hE hl
      have hie13 : i13 = 8 := by omega
      have hR : x_quarrels p1 Z = (if w13.2.2.2 < w13.1 then x_quarrels_k288 else (if w13.2.2.1 ≤ w13.2.1 then (0 : Int32) else x_quarrels_k288)) := hR
      refine lv_iload hx hb dX0_quarrels_13 (lv_at hl 6 rfl) ?_
      refine lv_bipush (v := 8) hx hb dX0_quarrels_15 rfl ?_
      refine n_geT (a := i13) (b := 8) (by omega) (by omega) hx hb dX0_quarrels_17 (tgt := 276) (by decide) ?_
      have hl := lv_sub (l' := [(0, .ref x), (1, .int p1), (2, .int w13.1), (3, .int w13.2.1), (4, .int w13.2.2.1), (5, .int w13.2.2.2)]) hl [0, 1, 2, 3, 4, 5] rfl
      refine lv_iload_n hx hb dX0_quarrels_276 rfl (lv_at hl 2 rfl) ?_
      refine lv_iload hx hb dX0_quarrels_277 (lv_at hl 5 rfl) ?_
      have hJ288 : ∀ (hR : x_quarrels p1 Z = x_quarrels_k288), ∀ (H : Heap) (locs : List Loc) (ls : Array Slot), EW D A s.heap (WX x ar cs Z B Y) H locs → lv_has ls 11 [] → W p l e R s mid args below meth c H locs 0 0 Q (F0 mid 288 ls []) := by
        intro hR H locs ls hE hl
        have hR : x_quarrels p1 Z = (1 : Int32) := hR
        refine lv_iconst (v := 1) hx hb dX0_quarrels_288 rfl ?_
        refine lv_goto (tgt := 293) hx hb dX0_quarrels_289 (by decide) ?_
        exact hret (1 : Int32) () hR rfl hE (Nat.le_refl 0) (Nat.le_refl 0) dX0_quarrels_293
      refine lv_icmp_gt (tgt := 288) hx hb dX0_quarrels_279 (by decide) (fun c279 => ?_) (fun c279 => ?_)
      · have hR : x_quarrels p1 Z = x_quarrels_k288 := hR.trans (congrArg (fun z => z) (if_pos c279))
        exact hJ288  hR _ _ _ hE (lv_sub hl [] rfl)
      · have hR : x_quarrels p1 Z = (if w13.2.2.1 ≤ w13.2.1 then (0 : Int32) else x_quarrels_k288) := hR.trans (congrArg (fun z => z) (if_neg c279))
        refine lv_iload hx hb dX0_quarrels_282 (lv_at hl 4 rfl) ?_
        refine lv_iload_n hx hb dX0_quarrels_284 rfl (lv_at hl 3 rfl) ?_
        refine lv_icmp_le (tgt := 292) hx hb dX0_quarrels_285 (by decide) (fun c285 => ?_) (fun c285 => ?_)
        · have hR : x_quarrels p1 Z = (0 : Int32) := hR.trans (congrArg (fun z => z) (if_pos c285))
          refine lv_iconst (v := 0) hx hb dX0_quarrels_292 rfl ?_
          exact hret (0 : Int32) () hR rfl hE (Nat.le_refl 0) (Nat.le_refl 0) dX0_quarrels_293
        · have hR : x_quarrels p1 Z = x_quarrels_k288 := hR.trans (congrArg (fun z => z) (if_neg c285))
          exact hJ288  hR _ _ _ hE (lv_sub hl [] rfl)
    | succ k ih13 =>
      intro i13 w13 hi13 hR H locs ls hE hl
      have hlt13 : i13 < 8 := by omega
      have hB13 : x_quarrels_b13 p1 Z i13 w13 = x_quarrels_j35 p1 Z i13 w13 (if ((p1 >>> ((nI i13) &&& 31)) &&& (1 : Int32)) = (1 : Int32) then (1 : Int32) else (0 : Int32)) := rfl
      refine lv_iload hx hb dX0_quarrels_13 (lv_at hl 6 rfl) ?_
      refine lv_bipush (v := 8) hx hb dX0_quarrels_15 rfl ?_
      refine n_geF (a := i13) (b := 8) (by omega) (by omega) hx hb dX0_quarrels_17 (tgt := 276) (by decide) ?_
      refine lv_iload_n hx hb dX0_quarrels_20 rfl (lv_at hl 1 rfl) ?_
      refine lv_iload hx hb dX0_quarrels_21 (lv_at hl 6 rfl) ?_
      refine lv_ishr hx hb dX0_quarrels_23 ?_
      refine lv_iconst (v := 1) hx hb dX0_quarrels_24 rfl ?_
      refine lv_iand hx hb dX0_quarrels_25 ?_
      refine lv_iconst (v := 1) hx hb dX0_quarrels_26 rfl ?_
      have hJ35 : ∀ (w35 : Int32) (hB13 : x_quarrels_b13 p1 Z i13 w13 = x_quarrels_j35 p1 Z i13 w13 w35), ∀ (H : Heap) (locs : List Loc) (ls : Array Slot), EW D A s.heap (WX x ar cs Z B Y) H locs → lv_has ls 11 [(0, .ref x), (1, .int p1), (2, .int w13.1), (3, .int w13.2.1), (4, .int w13.2.2.1), (5, .int w13.2.2.2), (6, .int (nI i13))] → W p l e R s mid args below meth c H locs 0 0 Q (F0 mid 35 ls [.int w35]) := by
        intro w35 hB13 H locs ls hE hl
        have hB13 : x_quarrels_b13 p1 Z i13 w13 = (x_quarrels_j56 p1 Z i13 w13 w35 (if w35 = 0 then (0 : Int32) else Z.1 15 (4 * i13))) := hB13
        refine lv_istore (lv' := [(7, .int w35), (0, .ref x), (1, .int p1), (2, .int w13.1), (3, .int w13.2.1), (4, .int w13.2.2.1), (5, .int w13.2.2.2), (6, .int (nI i13))]) hx hb dX0_quarrels_35 hl (by decide) rfl (fun ls hl => ?_)
        refine lv_iload_n hx hb dX0_quarrels_37 rfl (lv_at hl 3 rfl) ?_
        refine lv_iload hx hb dX0_quarrels_38 (lv_at hl 0 rfl) ?_
        have hJ56 : ∀ (w56 : Int32) (hB13 : x_quarrels_b13 p1 Z i13 w13 = x_quarrels_j56 p1 Z i13 w13 w35 w56), ∀ (H : Heap) (locs : List Loc) (ls : Array Slot), EW D A s.heap (WX x ar cs Z B Y) H locs → lv_has ls 11 [(0, .ref x), (1, .int p1), (3, .int w13.2.1), (4, .int w13.2.2.1), (5, .int w13.2.2.2), (6, .int (nI i13)), (7, .int w35)] → W p l e R s mid args below meth c H locs 0 0 Q (F0 mid 56 ls [.int w56, .int w13.1]) := by
          intro w56 hB13 H locs ls hE hl
          have hB13 : x_quarrels_b13 p1 Z i13 w13 = (x_quarrels_j79 p1 Z i13 w13 w35 w56 (if w35 = 0 then (0 : Int32) else Z.1 15 ((4 * i13) + 1))) := hB13
          refine lv_iadd hx hb dX0_quarrels_56 ?_
          refine lv_istore_n (lv' := [(2, .int (w13.1 + w56)), (0, .ref x), (1, .int p1), (3, .int w13.2.1), (4, .int w13.2.2.1), (5, .int w13.2.2.2), (6, .int (nI i13)), (7, .int w35)]) hx hb dX0_quarrels_57 rfl hl (by decide) rfl (fun ls hl => ?_)
          refine lv_iload_n hx hb dX0_quarrels_58 rfl (lv_at hl 3 rfl) ?_
          refine lv_iload hx hb dX0_quarrels_59 (lv_at hl 7 rfl) ?_
          have hJ79 : ∀ (w79 : Int32) (hB13 : x_quarrels_b13 p1 Z i13 w13 = x_quarrels_j79 p1 Z i13 w13 w35 w56 w79), ∀ (H : Heap) (locs : List Loc) (ls : Array Slot), EW D A s.heap (WX x ar cs Z B Y) H locs → lv_has ls 11 [(0, .ref x), (1, .int p1), (2, .int (w13.1 + w56)), (4, .int w13.2.2.1), (5, .int w13.2.2.2), (6, .int (nI i13)), (7, .int w35)] → W p l e R s mid args below meth c H locs 0 0 Q (F0 mid 79 ls [.int w79, .int w13.2.1]) := by
            intro w79 hB13 H locs ls hE hl
            have hB13 : x_quarrels_b13 p1 Z i13 w13 = (x_quarrels_j103 p1 Z i13 w13 w35 w56 w79 (if w35 = 0 then (0 : Int32) else Z.1 15 ((4 * i13) + 2))) := hB13
            refine lv_iadd hx hb dX0_quarrels_79 ?_
            refine lv_istore_n (lv' := [(3, .int (w13.2.1 + w79)), (0, .ref x), (1, .int p1), (2, .int (w13.1 + w56)), (4, .int w13.2.2.1), (5, .int w13.2.2.2), (6, .int (nI i13)), (7, .int w35)]) hx hb dX0_quarrels_80 rfl hl (by decide) rfl (fun ls hl => ?_)
            refine lv_iload hx hb dX0_quarrels_81 (lv_at hl 4 rfl) ?_
            refine lv_iload hx hb dX0_quarrels_83 (lv_at hl 7 rfl) ?_
            have hJ103 : ∀ (w103 : Int32) (hB13 : x_quarrels_b13 p1 Z i13 w13 = x_quarrels_j103 p1 Z i13 w13 w35 w56 w79 w103), ∀ (H : Heap) (locs : List Loc) (ls : Array Slot), EW D A s.heap (WX x ar cs Z B Y) H locs → lv_has ls 11 [(0, .ref x), (1, .int p1), (2, .int (w13.1 + w56)), (3, .int (w13.2.1 + w79)), (5, .int w13.2.2.2), (6, .int (nI i13)), (7, .int w35)] → W p l e R s mid args below meth c H locs 0 0 Q (F0 mid 103 ls [.int w103, .int w13.2.2.1]) := by
              intro w103 hB13 H locs ls hE hl
              have hB13 : x_quarrels_b13 p1 Z i13 w13 = (x_quarrels_j128 p1 Z i13 w13 w35 w56 w79 w103 (if w35 = 0 then (0 : Int32) else Z.1 15 ((4 * i13) + 3))) := hB13
              refine lv_iadd hx hb dX0_quarrels_103 ?_
              refine lv_istore (lv' := [(4, .int (w13.2.2.1 + w103)), (0, .ref x), (1, .int p1), (2, .int (w13.1 + w56)), (3, .int (w13.2.1 + w79)), (5, .int w13.2.2.2), (6, .int (nI i13)), (7, .int w35)]) hx hb dX0_quarrels_104 hl (by decide) rfl (fun ls hl => ?_)
              refine lv_iload hx hb dX0_quarrels_106 (lv_at hl 5 rfl) ?_
              refine lv_iload hx hb dX0_quarrels_108 (lv_at hl 7 rfl) ?_
              have hJ128 : ∀ (w128 : Int32) (hB13 : x_quarrels_b13 p1 Z i13 w13 = x_quarrels_j128 p1 Z i13 w13 w35 w56 w79 w103 w128), ∀ (H : Heap) (locs : List Loc) (ls : Array Slot), EW D A s.heap (WX x ar cs Z B Y) H locs → lv_has ls 11 [(0, .ref x), (1, .int p1), (2, .int (w13.1 + w56)), (3, .int (w13.2.1 + w79)), (4, .int (w13.2.2.1 + w103)), (6, .int (nI i13)), (7, .int w35)] → W p l e R s mid args below meth c H locs 0 0 Q (F0 mid 128 ls [.int w128, .int w13.2.2.2]) := by
                intro w128 hB13 H locs ls hE hl
                have hB13 : x_quarrels_b13 p1 Z i13 w13 = (x_quarrels_e134 (itR (x_quarrels_b134 p1 Z i13 w35) 0 8 ((w13.1 + w56), (w13.2.1 + w79), (w13.2.2.1 + w103), (w13.2.2.2 + w128)))) := hB13
                refine lv_iadd hx hb dX0_quarrels_128 ?_
                refine lv_istore (lv' := [(5, .int (w13.2.2.2 + w128)), (0, .ref x), (1, .int p1), (2, .int (w13.1 + w56)), (3, .int (w13.2.1 + w79)), (4, .int (w13.2.2.1 + w103)), (6, .int (nI i13)), (7, .int w35)]) hx hb dX0_quarrels_129 hl (by decide) rfl (fun ls hl => ?_)
                refine lv_iconst (v := 0) hx hb dX0_quarrels_131 rfl ?_
                refine lv_istore (lv' := [(8, .int (0 : Int32)), (5, .int (w13.2.2.2 + w128)), (0, .ref x), (1, .int p1), (2, .int (w13.1 + w56)), (3, .int (w13.2.1 + w79)), (4, .int (w13.2.2.1 + w103)), (6, .int (nI i13)), (7, .int w35)]) hx hb dX0_quarrels_132 hl (by decide) rfl (fun ls hl => ?_)
                have hL134 : ∀ (k i134 : Nat) (w134 : Int32 × Int32 × Int32 × Int32) (hi134 : i134 + k = 8) (hB13 : x_quarrels_b13 p1 Z i13 w13 = x_quarrels_e134 (itR (x_quarrels_b134 p1 Z i13 w35) i134 k w134)), ∀ (H : Heap) (locs : List Loc) (ls : Array Slot), EW D A s.heap (WX x ar cs Z B Y) H locs → lv_has ls 11 [(0, .ref x), (1, .int p1), (2, .int w134.1), (3, .int w134.2.1), (4, .int w134.2.2.1), (5, .int w134.2.2.2), (6, .int (nI i13)), (7, .int w35), (8, .int (nI i134))] → W p l e R s mid args below meth c H locs 0 0 Q (F0 mid 134 ls []) := by
                  intro k
                  induction k with
                  | zero =>
                    intro i134 w134 hi134 hB13 H locs ls hE hl
                    have hie134 : i134 = 8 := by omega
                    have hB13 : x_quarrels_b13 p1 Z i13 w13 = (w134.1, w134.2.1, w134.2.2.1, w134.2.2.2) := hB13
                    refine lv_iload hx hb dX0_quarrels_134 (lv_at hl 8 rfl) ?_
                    refine lv_bipush (v := 8) hx hb dX0_quarrels_136 rfl ?_
                    refine n_geT (a := i134) (b := 8) (by omega) (by omega) hx hb dX0_quarrels_138 (tgt := 270) (by decide) ?_
                    have hl := lv_sub (l' := [(0, .ref x), (1, .int p1), (2, .int w134.1), (3, .int w134.2.1), (4, .int w134.2.2.1), (5, .int w134.2.2.2), (6, .int (nI i13)), (7, .int w35)]) hl [0, 1, 2, 3, 4, 5, 6, 7] rfl
                    refine n_inc (lv' := [(6, .int (nI (i13 + 1))), (0, .ref x), (1, .int p1), (2, .int w134.1), (3, .int w134.2.1), (4, .int w134.2.2.1), (5, .int w134.2.2.2), (7, .int w35)]) hx hb dX0_quarrels_270 hl (k := 6) rfl (by decide) rfl (fun ls hl => ?_)
                    refine lv_goto (tgt := 13) hx hb dX0_quarrels_273 (by decide) ?_
                    exact ih13 (i13 + 1) (w134.1, w134.2.1, w134.2.2.1, w134.2.2.2) (by omega) (hR.trans (congrArg (fun z => x_quarrels_e13 (itR (x_quarrels_b13 p1 Z) (i13 + 1) k z)) hB13)) _ _ _ hE (lv_sub hl [1, 2, 3, 4, 5, 6, 0] rfl)
                  | succ k ih134 =>
                    intro i134 w134 hi134 hB13 H locs ls hE hl
                    have hlt134 : i134 < 8 := by omega
                    have hB134 : x_quarrels_b134 p1 Z i13 w35 i134 w134 = x_quarrels_j165 Z i13 w35 i134 w134 (if ((p1 >>> ((nI i134) &&& 31)) &&& (1 : Int32)) = (1 : Int32) then (1 : Int32) else (0 : Int32)) := rfl
                    refine lv_iload hx hb dX0_quarrels_134 (lv_at hl 8 rfl) ?_
                    refine lv_bipush (v := 8) hx hb dX0_quarrels_136 rfl ?_
                    refine n_geF (a := i134) (b := 8) (by omega) (by omega) hx hb dX0_quarrels_138 (tgt := 270) (by decide) ?_
                    refine lv_iload hx hb dX0_quarrels_141 (lv_at hl 6 rfl) ?_
                    refine lv_iload hx hb dX0_quarrels_143 (lv_at hl 8 rfl) ?_
                    refine call_x_pair hx hb hml hown hts hK hA hE hl.1 i13 i134 (lz (show 1 ≤ 1 by decide) hRf) (lz (show 21 ≤ 21 by decide) hRl) (Nat.le_of_ble_eq_true rfl) dX0_quarrels_145 ⟨Nat.zero_le _, Nat.zero_le _⟩ (fun H locs hE => ?_)
                    refine lv_istore (lv' := [(9, .int (nI (8 * i13 + i134))), (0, .ref x), (1, .int p1), (2, .int w134.1), (3, .int w134.2.1), (4, .int w134.2.2.1), (5, .int w134.2.2.2), (6, .int (nI i13)), (7, .int w35), (8, .int (nI i134))]) hx hb dX0_quarrels_148 hl (by decide) rfl (fun ls hl => ?_)
                    refine lv_iload_n hx hb dX0_quarrels_150 rfl (lv_at hl 2 rfl) ?_
                    refine lv_iload hx hb dX0_quarrels_151 (lv_at hl 9 rfl) ?_
                    refine lv_ishr hx hb dX0_quarrels_153 ?_
                    refine lv_iconst (v := 1) hx hb dX0_quarrels_154 rfl ?_
                    refine lv_iand hx hb dX0_quarrels_155 ?_
                    refine lv_iconst (v := 1) hx hb dX0_quarrels_156 rfl ?_
                    have hJ165 : ∀ (w165 : Int32) (hB134 : x_quarrels_b134 p1 Z i13 w35 i134 w134 = x_quarrels_j165 Z i13 w35 i134 w134 w165), ∀ (H : Heap) (locs : List Loc) (ls : Array Slot), EW D A s.heap (WX x ar cs Z B Y) H locs → lv_has ls 11 [(0, .ref x), (1, .int p1), (2, .int w134.1), (3, .int w134.2.1), (4, .int w134.2.2.1), (5, .int w134.2.2.2), (6, .int (nI i13)), (7, .int w35), (8, .int (nI i134)), (9, .int (nI (8 * i13 + i134)))] → W p l e R s mid args below meth c H locs 0 0 Q (F0 mid 165 ls [.int w165]) := by
                      intro w165 hB134 H locs ls hE hl
                      have hB134 : x_quarrels_b134 p1 Z i13 w35 i134 w134 = (x_quarrels_j264 (if Z.1 11 (8 * i13 + i134) ≤ 0 then (w134.1, w134.2.1, w134.2.2.1, w134.2.2.2) else (if w35 = w165 then (w134.1, w134.2.1, w134.2.2.1, w134.2.2.2) else x_quarrels_j201 Z i13 w35 i134 w134 w165 (if w35 = 0 then (0 : Int32) else Z.1 12 (8 * i13 + i134))))) := hB134
                      refine lv_istore (lv' := [(10, .int w165), (0, .ref x), (1, .int p1), (2, .int w134.1), (3, .int w134.2.1), (4, .int w134.2.2.1), (5, .int w134.2.2.2), (6, .int (nI i13)), (7, .int w35), (8, .int (nI i134)), (9, .int (nI (8 * i13 + i134)))]) hx hb dX0_quarrels_165 hl (by decide) rfl (fun ls hl => ?_)
                      refine lv_aload_n hx hb dX0_quarrels_167 rfl (lv_at hl 1 rfl) ?_
                      refine xg_11 hx hb hts hown hK hE dX0_quarrels_168 ?_
                      refine lv_iload hx hb dX0_quarrels_171 (lv_at hl 10 rfl) ?_
                      refine xa_11 (n := (8 * i13 + i134)) (by omega) hx hb hK hE dX0_quarrels_173 ?_
                      have hJ264 : ∀ (w264 : Int32 × Int32 × Int32 × Int32) (hB134 : x_quarrels_b134 p1 Z i13 w35 i134 w134 = x_quarrels_j264 w264), ∀ (H : Heap) (locs : List Loc) (ls : Array Slot), EW D A s.heap (WX x ar cs Z B Y) H locs → lv_has ls 11 [(0, .ref x), (1, .int p1), (2, .int w264.1), (3, .int w264.2.1), (4, .int w264.2.2.1), (5, .int w264.2.2.2), (6, .int (nI i13)), (7, .int w35), (8, .int (nI i134))] → W p l e R s mid args below meth c H locs 0 0 Q (F0 mid 264 ls []) := by
                        intro w264 hB134 H locs ls hE hl
                        have hB134 : x_quarrels_b134 p1 Z i13 w35 i134 w134 = (w264.1, w264.2.1, w264.2.2.1, w264.2.2.2) := hB134
                        refine n_inc (lv' := [(8, .int (nI (i134 + 1))), (0, .ref x), (1, .int p1), (2, .int w264.1), (3, .int w264.2.1), (4, .int w264.2.2.1), (5, .int w264.2.2.2), (6, .int (nI i13)), (7, .int w35)]) hx hb dX0_quarrels_264 hl (k := 8) rfl (by decide) rfl (fun ls hl => ?_)
                        refine lv_goto (tgt := 134) hx hb dX0_quarrels_267 (by decide) ?_
                        exact ih134 (i134 + 1) (w264.1, w264.2.1, w264.2.2.1, w264.2.2.2) (by omega) (hB13.trans (congrArg (fun z => x_quarrels_e134 (itR (x_quarrels_b134 p1 Z i13 w35) (i134 + 1) k z)) hB134)) _ _ _ hE (lv_sub hl [1, 2, 3, 4, 5, 6, 7, 8, 0] rfl)
                      refine lv_if_le (tgt := 264) hx hb dX0_quarrels_174 (by decide) (fun c174 => ?_) (fun c174 => ?_)
                      · have hB134 : x_quarrels_b134 p1 Z i13 w35 i134 w134 = x_quarrels_j264 (w134.1, w134.2.1, w134.2.2.1, w134.2.2.2) := hB134.trans (congrArg (fun z => x_quarrels_j264 z) (if_pos c174))
                        exact hJ264 (w134.1, w134.2.1, w134.2.2.1, w134.2.2.2)  hB134 _ _ _ hE (lv_sub hl [1, 2, 3, 4, 5, 6, 7, 8, 9] rfl)
                      · have hB134 : x_quarrels_b134 p1 Z i13 w35 i134 w134 = x_quarrels_j264 (if w35 = w165 then (w134.1, w134.2.1, w134.2.2.1, w134.2.2.2) else x_quarrels_j201 Z i13 w35 i134 w134 w165 (if w35 = 0 then (0 : Int32) else Z.1 12 (8 * i13 + i134))) := hB134.trans (congrArg (fun z => x_quarrels_j264 z) (if_neg c174))
                        refine lv_iload hx hb dX0_quarrels_177 (lv_at hl 8 rfl) ?_
                        refine lv_iload hx hb dX0_quarrels_179 (lv_at hl 0 rfl) ?_
                        refine lv_icmp_eq (tgt := 264) hx hb dX0_quarrels_181 (by decide) (fun c181 => ?_) (fun c181 => ?_)
                        · have hB134 : x_quarrels_b134 p1 Z i13 w35 i134 w134 = x_quarrels_j264 (w134.1, w134.2.1, w134.2.2.1, w134.2.2.2) := hB134.trans (congrArg (fun z => x_quarrels_j264 z) (if_pos c181))
                          exact hJ264 (w134.1, w134.2.1, w134.2.2.1, w134.2.2.2)  hB134 _ _ _ hE (lv_sub hl [1, 2, 3, 4, 5, 6, 7, 8, 9] rfl)
                        · have hB134 : x_quarrels_b134 p1 Z i13 w35 i134 w134 = x_quarrels_j264 (x_quarrels_j201 Z i13 w35 i134 w134 w165 (if w35 = 0 then (0 : Int32) else Z.1 12 (8 * i13 + i134))) := hB134.trans (congrArg (fun z => x_quarrels_j264 z) (if_neg c181))
                          refine lv_iload_n hx hb dX0_quarrels_184 rfl (lv_at hl 3 rfl) ?_
                          refine lv_iload hx hb dX0_quarrels_185 (lv_at hl 8 rfl) ?_
                          have hJ201 : ∀ (w201 : Int32) (hB134 : x_quarrels_b134 p1 Z i13 w35 i134 w134 = x_quarrels_j264 (x_quarrels_j201 Z i13 w35 i134 w134 w165 w201)), ∀ (H : Heap) (locs : List Loc) (ls : Array Slot), EW D A s.heap (WX x ar cs Z B Y) H locs → lv_has ls 11 [(0, .ref x), (1, .int p1), (3, .int w134.2.1), (4, .int w134.2.2.1), (5, .int w134.2.2.2), (6, .int (nI i13)), (7, .int w35), (8, .int (nI i134)), (9, .int (nI (8 * i13 + i134))), (10, .int w165)] → W p l e R s mid args below meth c H locs 0 0 Q (F0 mid 201 ls [.int w201, .int w134.1]) := by
                            intro w201 hB134 H locs ls hE hl
                            have hB134 : x_quarrels_b134 p1 Z i13 w35 i134 w134 = x_quarrels_j264 (x_quarrels_j220 Z i13 i134 w134 w165 w201 (if w35 = 0 then (0 : Int32) else Z.1 13 (8 * i13 + i134))) := hB134
                            refine lv_iadd hx hb dX0_quarrels_201 ?_
                            refine lv_istore_n (lv' := [(2, .int (w134.1 + w201)), (0, .ref x), (1, .int p1), (3, .int w134.2.1), (4, .int w134.2.2.1), (5, .int w134.2.2.2), (6, .int (nI i13)), (7, .int w35), (8, .int (nI i134)), (9, .int (nI (8 * i13 + i134))), (10, .int w165)]) hx hb dX0_quarrels_202 rfl hl (by decide) rfl (fun ls hl => ?_)
                            refine lv_iload_n hx hb dX0_quarrels_203 rfl (lv_at hl 3 rfl) ?_
                            refine lv_iload hx hb dX0_quarrels_204 (lv_at hl 7 rfl) ?_
                            have hJ220 : ∀ (w220 : Int32) (hB134 : x_quarrels_b134 p1 Z i13 w35 i134 w134 = x_quarrels_j264 (x_quarrels_j220 Z i13 i134 w134 w165 w201 w220)), ∀ (H : Heap) (locs : List Loc) (ls : Array Slot), EW D A s.heap (WX x ar cs Z B Y) H locs → lv_has ls 11 [(0, .ref x), (1, .int p1), (2, .int (w134.1 + w201)), (4, .int w134.2.2.1), (5, .int w134.2.2.2), (6, .int (nI i13)), (7, .int w35), (8, .int (nI i134)), (9, .int (nI (8 * i13 + i134))), (10, .int w165)] → W p l e R s mid args below meth c H locs 0 0 Q (F0 mid 220 ls [.int w220, .int w134.2.1]) := by
                              intro w220 hB134 H locs ls hE hl
                              have hB134 : x_quarrels_b134 p1 Z i13 w35 i134 w134 = x_quarrels_j264 (x_quarrels_j240 Z i13 i134 w134 w165 w201 w220 (if w165 = 0 then (0 : Int32) else Z.1 12 (8 * i13 + i134))) := hB134
                              refine lv_iadd hx hb dX0_quarrels_220 ?_
                              refine lv_istore_n (lv' := [(3, .int (w134.2.1 + w220)), (0, .ref x), (1, .int p1), (2, .int (w134.1 + w201)), (4, .int w134.2.2.1), (5, .int w134.2.2.2), (6, .int (nI i13)), (7, .int w35), (8, .int (nI i134)), (9, .int (nI (8 * i13 + i134))), (10, .int w165)]) hx hb dX0_quarrels_221 rfl hl (by decide) rfl (fun ls hl => ?_)
                              refine lv_iload hx hb dX0_quarrels_222 (lv_at hl 4 rfl) ?_
                              refine lv_iload hx hb dX0_quarrels_224 (lv_at hl 10 rfl) ?_
                              have hJ240 : ∀ (w240 : Int32) (hB134 : x_quarrels_b134 p1 Z i13 w35 i134 w134 = x_quarrels_j264 (x_quarrels_j240 Z i13 i134 w134 w165 w201 w220 w240)), ∀ (H : Heap) (locs : List Loc) (ls : Array Slot), EW D A s.heap (WX x ar cs Z B Y) H locs → lv_has ls 11 [(0, .ref x), (1, .int p1), (2, .int (w134.1 + w201)), (3, .int (w134.2.1 + w220)), (5, .int w134.2.2.2), (6, .int (nI i13)), (7, .int w35), (8, .int (nI i134)), (9, .int (nI (8 * i13 + i134))), (10, .int w165)] → W p l e R s mid args below meth c H locs 0 0 Q (F0 mid 240 ls [.int w240, .int w134.2.2.1]) := by
                                intro w240 hB134 H locs ls hE hl
                                have hB134 : x_quarrels_b134 p1 Z i13 w35 i134 w134 = x_quarrels_j264 (x_quarrels_j261 w134 w201 w220 w240 (if w165 = 0 then (0 : Int32) else Z.1 13 (8 * i13 + i134))) := hB134
                                refine lv_iadd hx hb dX0_quarrels_240 ?_
                                refine lv_istore (lv' := [(4, .int (w134.2.2.1 + w240)), (0, .ref x), (1, .int p1), (2, .int (w134.1 + w201)), (3, .int (w134.2.1 + w220)), (5, .int w134.2.2.2), (6, .int (nI i13)), (7, .int w35), (8, .int (nI i134)), (9, .int (nI (8 * i13 + i134))), (10, .int w165)]) hx hb dX0_quarrels_241 hl (by decide) rfl (fun ls hl => ?_)
                                refine lv_iload hx hb dX0_quarrels_243 (lv_at hl 5 rfl) ?_
                                refine lv_iload hx hb dX0_quarrels_245 (lv_at hl 10 rfl) ?_
                                have hJ261 : ∀ (w261 : Int32) (hB134 : x_quarrels_b134 p1 Z i13 w35 i134 w134 = x_quarrels_j264 (x_quarrels_j261 w134 w201 w220 w240 w261)), ∀ (H : Heap) (locs : List Loc) (ls : Array Slot), EW D A s.heap (WX x ar cs Z B Y) H locs → lv_has ls 11 [(0, .ref x), (1, .int p1), (2, .int (w134.1 + w201)), (3, .int (w134.2.1 + w220)), (4, .int (w134.2.2.1 + w240)), (6, .int (nI i13)), (7, .int w35), (8, .int (nI i134))] → W p l e R s mid args below meth c H locs 0 0 Q (F0 mid 261 ls [.int w261, .int w134.2.2.2]) := by
                                  intro w261 hB134 H locs ls hE hl
                                  have hB134 : x_quarrels_b134 p1 Z i13 w35 i134 w134 = x_quarrels_j264 ((w134.1 + w201), (w134.2.1 + w220), (w134.2.2.1 + w240), (w134.2.2.2 + w261)) := hB134
                                  refine lv_iadd hx hb dX0_quarrels_261 ?_
                                  refine lv_istore (lv' := [(5, .int (w134.2.2.2 + w261)), (0, .ref x), (1, .int p1), (2, .int (w134.1 + w201)), (3, .int (w134.2.1 + w220)), (4, .int (w134.2.2.1 + w240)), (6, .int (nI i13)), (7, .int w35), (8, .int (nI i134))]) hx hb dX0_quarrels_262 hl (by decide) rfl (fun ls hl => ?_)
                                  exact hJ264 ((w134.1 + w201), (w134.2.1 + w220), (w134.2.2.1 + w240), (w134.2.2.2 + w261))  hB134 _ _ _ hE (lv_sub hl [1, 2, 3, 4, 5, 0, 6, 7, 8] rfl)
                                refine lv_if_eq (tgt := 260) hx hb dX0_quarrels_247 (by decide) (fun c247 => ?_) (fun c247 => ?_)
                                · have hB134 : x_quarrels_b134 p1 Z i13 w35 i134 w134 = x_quarrels_j264 (x_quarrels_j261 w134 w201 w220 w240 (0 : Int32)) := hB134.trans (congrArg (fun z => x_quarrels_j264 (x_quarrels_j261 w134 w201 w220 w240 z)) (if_pos c247))
                                  refine lv_iconst (v := 0) hx hb dX0_quarrels_260 rfl ?_
                                  exact hJ261 (0 : Int32)  hB134 _ _ _ hE (lv_sub hl [1, 2, 3, 4, 0, 6, 7, 8] rfl)
                                · have hB134 : x_quarrels_b134 p1 Z i13 w35 i134 w134 = x_quarrels_j264 (x_quarrels_j261 w134 w201 w220 w240 (Z.1 13 (8 * i13 + i134))) := hB134.trans (congrArg (fun z => x_quarrels_j264 (x_quarrels_j261 w134 w201 w220 w240 z)) (if_neg c247))
                                  refine lv_aload_n hx hb dX0_quarrels_250 rfl (lv_at hl 1 rfl) ?_
                                  refine xg_13 hx hb hts hown hK hE dX0_quarrels_251 ?_
                                  refine lv_iload hx hb dX0_quarrels_254 (lv_at hl 9 rfl) ?_
                                  refine xa_13 (n := (8 * i13 + i134)) (by omega) hx hb hK hE dX0_quarrels_256 ?_
                                  refine lv_goto (tgt := 261) hx hb dX0_quarrels_257 (by decide) ?_
                                  exact hJ261 (Z.1 13 (8 * i13 + i134))  hB134 _ _ _ hE (lv_sub hl [1, 2, 3, 4, 0, 6, 7, 8] rfl)
                              refine lv_if_eq (tgt := 239) hx hb dX0_quarrels_226 (by decide) (fun c226 => ?_) (fun c226 => ?_)
                              · have hB134 : x_quarrels_b134 p1 Z i13 w35 i134 w134 = x_quarrels_j264 (x_quarrels_j240 Z i13 i134 w134 w165 w201 w220 (0 : Int32)) := hB134.trans (congrArg (fun z => x_quarrels_j264 (x_quarrels_j240 Z i13 i134 w134 w165 w201 w220 z)) (if_pos c226))
                                refine lv_iconst (v := 0) hx hb dX0_quarrels_239 rfl ?_
                                exact hJ240 (0 : Int32)  hB134 _ _ _ hE (lv_sub hl [1, 2, 3, 0, 5, 6, 7, 8, 9, 10] rfl)
                              · have hB134 : x_quarrels_b134 p1 Z i13 w35 i134 w134 = x_quarrels_j264 (x_quarrels_j240 Z i13 i134 w134 w165 w201 w220 (Z.1 12 (8 * i13 + i134))) := hB134.trans (congrArg (fun z => x_quarrels_j264 (x_quarrels_j240 Z i13 i134 w134 w165 w201 w220 z)) (if_neg c226))
                                refine lv_aload_n hx hb dX0_quarrels_229 rfl (lv_at hl 1 rfl) ?_
                                refine xg_12 hx hb hts hown hK hE dX0_quarrels_230 ?_
                                refine lv_iload hx hb dX0_quarrels_233 (lv_at hl 9 rfl) ?_
                                refine xa_12 (n := (8 * i13 + i134)) (by omega) hx hb hK hE dX0_quarrels_235 ?_
                                refine lv_goto (tgt := 240) hx hb dX0_quarrels_236 (by decide) ?_
                                exact hJ240 (Z.1 12 (8 * i13 + i134))  hB134 _ _ _ hE (lv_sub hl [1, 2, 3, 0, 5, 6, 7, 8, 9, 10] rfl)
                            refine lv_if_eq (tgt := 219) hx hb dX0_quarrels_206 (by decide) (fun c206 => ?_) (fun c206 => ?_)
                            · have hB134 : x_quarrels_b134 p1 Z i13 w35 i134 w134 = x_quarrels_j264 (x_quarrels_j220 Z i13 i134 w134 w165 w201 (0 : Int32)) := hB134.trans (congrArg (fun z => x_quarrels_j264 (x_quarrels_j220 Z i13 i134 w134 w165 w201 z)) (if_pos c206))
                              refine lv_iconst (v := 0) hx hb dX0_quarrels_219 rfl ?_
                              exact hJ220 (0 : Int32)  hB134 _ _ _ hE (lv_sub hl [1, 2, 0, 4, 5, 6, 7, 8, 9, 10] rfl)
                            · have hB134 : x_quarrels_b134 p1 Z i13 w35 i134 w134 = x_quarrels_j264 (x_quarrels_j220 Z i13 i134 w134 w165 w201 (Z.1 13 (8 * i13 + i134))) := hB134.trans (congrArg (fun z => x_quarrels_j264 (x_quarrels_j220 Z i13 i134 w134 w165 w201 z)) (if_neg c206))
                              refine lv_aload_n hx hb dX0_quarrels_209 rfl (lv_at hl 1 rfl) ?_
                              refine xg_13 hx hb hts hown hK hE dX0_quarrels_210 ?_
                              refine lv_iload hx hb dX0_quarrels_213 (lv_at hl 9 rfl) ?_
                              refine xa_13 (n := (8 * i13 + i134)) (by omega) hx hb hK hE dX0_quarrels_215 ?_
                              refine lv_goto (tgt := 220) hx hb dX0_quarrels_216 (by decide) ?_
                              exact hJ220 (Z.1 13 (8 * i13 + i134))  hB134 _ _ _ hE (lv_sub hl [1, 2, 0, 4, 5, 6, 7, 8, 9, 10] rfl)
                          refine lv_if_eq (tgt := 200) hx hb dX0_quarrels_187 (by decide) (fun c187 => ?_) (fun c187 => ?_)
                          · have hB134 : x_quarrels_b134 p1 Z i13 w35 i134 w134 = x_quarrels_j264 (x_quarrels_j201 Z i13 w35 i134 w134 w165 (0 : Int32)) := hB134.trans (congrArg (fun z => x_quarrels_j264 (x_quarrels_j201 Z i13 w35 i134 w134 w165 z)) (if_pos c187))
                            refine lv_iconst (v := 0) hx hb dX0_quarrels_200 rfl ?_
                            exact hJ201 (0 : Int32)  hB134 _ _ _ hE (lv_sub hl [1, 2, 4, 5, 6, 7, 8, 9, 10, 0] rfl)
                          · have hB134 : x_quarrels_b134 p1 Z i13 w35 i134 w134 = x_quarrels_j264 (x_quarrels_j201 Z i13 w35 i134 w134 w165 (Z.1 12 (8 * i13 + i134))) := hB134.trans (congrArg (fun z => x_quarrels_j264 (x_quarrels_j201 Z i13 w35 i134 w134 w165 z)) (if_neg c187))
                            refine lv_aload_n hx hb dX0_quarrels_190 rfl (lv_at hl 1 rfl) ?_
                            refine xg_12 hx hb hts hown hK hE dX0_quarrels_191 ?_
                            refine lv_iload hx hb dX0_quarrels_194 (lv_at hl 10 rfl) ?_
                            refine xa_12 (n := (8 * i13 + i134)) (by omega) hx hb hK hE dX0_quarrels_196 ?_
                            refine lv_goto (tgt := 201) hx hb dX0_quarrels_197 (by decide) ?_
                            exact hJ201 (Z.1 12 (8 * i13 + i134))  hB134 _ _ _ hE (lv_sub hl [1, 2, 4, 5, 6, 7, 8, 9, 10, 0] rfl)
                    refine lv_icmp_ne (tgt := 164) hx hb dX0_quarrels_157 (by decide) (fun c157 => ?_) (fun c157 => ?_)
                    · have hB134 : x_quarrels_b134 p1 Z i13 w35 i134 w134 = x_quarrels_j165 Z i13 w35 i134 w134 (0 : Int32) := hB134.trans (congrArg (fun z => x_quarrels_j165 Z i13 w35 i134 w134 z) (if_neg c157))
                      refine lv_iconst (v := 0) hx hb dX0_quarrels_164 rfl ?_
                      exact hJ165 (0 : Int32)  hB134 _ _ _ hE (lv_sub hl [1, 2, 3, 4, 5, 6, 7, 8, 9, 0] rfl)
                    · have hB134 : x_quarrels_b134 p1 Z i13 w35 i134 w134 = x_quarrels_j165 Z i13 w35 i134 w134 (1 : Int32) := hB134.trans (congrArg (fun z => x_quarrels_j165 Z i13 w35 i134 w134 z) (if_pos c157))
                      refine lv_iconst (v := 1) hx hb dX0_quarrels_160 rfl ?_
                      refine lv_goto (tgt := 165) hx hb dX0_quarrels_161 (by decide) ?_
                      exact hJ165 (1 : Int32)  hB134 _ _ _ hE (lv_sub hl [1, 2, 3, 4, 5, 6, 7, 8, 9, 0] rfl)
                exact hL134 8 0 ((w13.1 + w56), (w13.2.1 + w79), (w13.2.2.1 + w103), (w13.2.2.2 + w128)) (by omega) hB13 _ _ _ hE (lv_sub hl [2, 3, 4, 5, 6, 1, 7, 8, 0] rfl)
              refine lv_if_eq (tgt := 127) hx hb dX0_quarrels_110 (by decide) (fun c110 => ?_) (fun c110 => ?_)
              · have hB13 : x_quarrels_b13 p1 Z i13 w13 = x_quarrels_j128 p1 Z i13 w13 w35 w56 w79 w103 (0 : Int32) := hB13.trans (congrArg (fun z => x_quarrels_j128 p1 Z i13 w13 w35 w56 w79 w103 z) (if_pos c110))
                refine lv_iconst (v := 0) hx hb dX0_quarrels_127 rfl ?_
                exact hJ128 (0 : Int32)  hB13 _ _ _ hE (lv_sub hl [1, 2, 3, 4, 0, 6, 7] rfl)
              · have hB13 : x_quarrels_b13 p1 Z i13 w13 = x_quarrels_j128 p1 Z i13 w13 w35 w56 w79 w103 (Z.1 15 ((4 * i13) + 3)) := hB13.trans (congrArg (fun z => x_quarrels_j128 p1 Z i13 w13 w35 w56 w79 w103 z) (if_neg c110))
                refine lv_aload_n hx hb dX0_quarrels_113 rfl (lv_at hl 1 rfl) ?_
                refine xg_15 hx hb hts hown hK hE dX0_quarrels_114 ?_
                refine lv_iconst (v := 4) hx hb dX0_quarrels_117 rfl ?_
                refine lv_iload hx hb dX0_quarrels_118 (lv_at hl 6 rfl) ?_
                refine n_mul (a := 4) (b := i13) hx hb dX0_quarrels_120 ?_
                refine lv_iconst (v := 3) hx hb dX0_quarrels_121 rfl ?_
                refine n_add (a := (4 * i13)) (b := 3) hx hb dX0_quarrels_122 ?_
                refine xa_15 (n := ((4 * i13) + 3)) (by omega) hx hb hK hE dX0_quarrels_123 ?_
                refine lv_goto (tgt := 128) hx hb dX0_quarrels_124 (by decide) ?_
                exact hJ128 (Z.1 15 ((4 * i13) + 3))  hB13 _ _ _ hE (lv_sub hl [1, 2, 3, 4, 0, 6, 7] rfl)
            refine lv_if_eq (tgt := 102) hx hb dX0_quarrels_85 (by decide) (fun c85 => ?_) (fun c85 => ?_)
            · have hB13 : x_quarrels_b13 p1 Z i13 w13 = x_quarrels_j103 p1 Z i13 w13 w35 w56 w79 (0 : Int32) := hB13.trans (congrArg (fun z => x_quarrels_j103 p1 Z i13 w13 w35 w56 w79 z) (if_pos c85))
              refine lv_iconst (v := 0) hx hb dX0_quarrels_102 rfl ?_
              exact hJ103 (0 : Int32)  hB13 _ _ _ hE (lv_sub hl [1, 2, 3, 0, 5, 6, 7] rfl)
            · have hB13 : x_quarrels_b13 p1 Z i13 w13 = x_quarrels_j103 p1 Z i13 w13 w35 w56 w79 (Z.1 15 ((4 * i13) + 2)) := hB13.trans (congrArg (fun z => x_quarrels_j103 p1 Z i13 w13 w35 w56 w79 z) (if_neg c85))
              refine lv_aload_n hx hb dX0_quarrels_88 rfl (lv_at hl 1 rfl) ?_
              refine xg_15 hx hb hts hown hK hE dX0_quarrels_89 ?_
              refine lv_iconst (v := 4) hx hb dX0_quarrels_92 rfl ?_
              refine lv_iload hx hb dX0_quarrels_93 (lv_at hl 6 rfl) ?_
              refine n_mul (a := 4) (b := i13) hx hb dX0_quarrels_95 ?_
              refine lv_iconst (v := 2) hx hb dX0_quarrels_96 rfl ?_
              refine n_add (a := (4 * i13)) (b := 2) hx hb dX0_quarrels_97 ?_
              refine xa_15 (n := ((4 * i13) + 2)) (by omega) hx hb hK hE dX0_quarrels_98 ?_
              refine lv_goto (tgt := 103) hx hb dX0_quarrels_99 (by decide) ?_
              exact hJ103 (Z.1 15 ((4 * i13) + 2))  hB13 _ _ _ hE (lv_sub hl [1, 2, 3, 0, 5, 6, 7] rfl)
          refine lv_if_eq (tgt := 78) hx hb dX0_quarrels_61 (by decide) (fun c61 => ?_) (fun c61 => ?_)
          · have hB13 : x_quarrels_b13 p1 Z i13 w13 = x_quarrels_j79 p1 Z i13 w13 w35 w56 (0 : Int32) := hB13.trans (congrArg (fun z => x_quarrels_j79 p1 Z i13 w13 w35 w56 z) (if_pos c61))
            refine lv_iconst (v := 0) hx hb dX0_quarrels_78 rfl ?_
            exact hJ79 (0 : Int32)  hB13 _ _ _ hE (lv_sub hl [1, 2, 0, 4, 5, 6, 7] rfl)
          · have hB13 : x_quarrels_b13 p1 Z i13 w13 = x_quarrels_j79 p1 Z i13 w13 w35 w56 (Z.1 15 ((4 * i13) + 1)) := hB13.trans (congrArg (fun z => x_quarrels_j79 p1 Z i13 w13 w35 w56 z) (if_neg c61))
            refine lv_aload_n hx hb dX0_quarrels_64 rfl (lv_at hl 1 rfl) ?_
            refine xg_15 hx hb hts hown hK hE dX0_quarrels_65 ?_
            refine lv_iconst (v := 4) hx hb dX0_quarrels_68 rfl ?_
            refine lv_iload hx hb dX0_quarrels_69 (lv_at hl 6 rfl) ?_
            refine n_mul (a := 4) (b := i13) hx hb dX0_quarrels_71 ?_
            refine lv_iconst (v := 1) hx hb dX0_quarrels_72 rfl ?_
            refine n_add (a := (4 * i13)) (b := 1) hx hb dX0_quarrels_73 ?_
            refine xa_15 (n := ((4 * i13) + 1)) (by omega) hx hb hK hE dX0_quarrels_74 ?_
            refine lv_goto (tgt := 79) hx hb dX0_quarrels_75 (by decide) ?_
            exact hJ79 (Z.1 15 ((4 * i13) + 1))  hB13 _ _ _ hE (lv_sub hl [1, 2, 0, 4, 5, 6, 7] rfl)
        refine lv_if_eq (tgt := 55) hx hb dX0_quarrels_40 (by decide) (fun c40 => ?_) (fun c40 => ?_)
        · have hB13 : x_quarrels_b13 p1 Z i13 w13 = x_quarrels_j56 p1 Z i13 w13 w35 (0 : Int32) := hB13.trans (congrArg (fun z => x_quarrels_j56 p1 Z i13 w13 w35 z) (if_pos c40))
          refine lv_iconst (v := 0) hx hb dX0_quarrels_55 rfl ?_
          exact hJ56 (0 : Int32)  hB13 _ _ _ hE (lv_sub hl [1, 2, 4, 5, 6, 7, 0] rfl)
        · have hB13 : x_quarrels_b13 p1 Z i13 w13 = x_quarrels_j56 p1 Z i13 w13 w35 (Z.1 15 (4 * i13)) := hB13.trans (congrArg (fun z => x_quarrels_j56 p1 Z i13 w13 w35 z) (if_neg c40))
          refine lv_aload_n hx hb dX0_quarrels_43 rfl (lv_at hl 1 rfl) ?_
          refine xg_15 hx hb hts hown hK hE dX0_quarrels_44 ?_
          refine lv_iconst (v := 4) hx hb dX0_quarrels_47 rfl ?_
          refine lv_iload hx hb dX0_quarrels_48 (lv_at hl 7 rfl) ?_
          refine n_mul (a := 4) (b := i13) hx hb dX0_quarrels_50 ?_
          refine xa_15 (n := (4 * i13)) (by omega) hx hb hK hE dX0_quarrels_51 ?_
          refine lv_goto (tgt := 56) hx hb dX0_quarrels_52 (by decide) ?_
          exact hJ56 (Z.1 15 (4 * i13))  hB13 _ _ _ hE (lv_sub hl [1, 2, 4, 5, 6, 7, 0] rfl)
      refine lv_icmp_ne (tgt := 34) hx hb dX0_quarrels_27 (by decide) (fun c27 => ?_) (fun c27 => ?_)
      · have hB13 : x_quarrels_b13 p1 Z i13 w13 = x_quarrels_j35 p1 Z i13 w13 (0 : Int32) := hB13.trans (congrArg (fun z => x_quarrels_j35 p1 Z i13 w13 z) (if_neg c27))
        refine lv_iconst (v := 0) hx hb dX0_quarrels_34 rfl ?_
        exact hJ35 (0 : Int32)  hB13 _ _ _ hE (lv_sub hl [0, 1, 2, 3, 4, 5, 6] rfl)
      · have hB13 : x_quarrels_b13 p1 Z i13 w13 = x_quarrels_j35 p1 Z i13 w13 (1 : Int32) := hB13.trans (congrArg (fun z => x_quarrels_j35 p1 Z i13 w13 z) (if_pos c27))
        refine lv_iconst (v := 1) hx hb dX0_quarrels_30 rfl ?_
        refine lv_goto (tgt := 35) hx hb dX0_quarrels_31 (by decide) ?_
        exact hJ35 (1 : Int32)  hB13 _ _ _ hE (lv_sub hl [0, 1, 2, 3, 4, 5, 6] rfl)
  exact hL13 8 0 ((0 : Int32), (0 : Int32), (0 : Int32), (0 : Int32)) (by omega) hR _ _ _ hE (lv_sub hl [5, 6, 4, 3, 2, 1, 0] rfl)
section C_x_quarrels
variable {p : Program} {l : Launch} {e : Env} {R : Room} {s : State} {mid : MethodId} {args : Array Value} {below : List Frame} {meth : Method} {c : Code} {H : Heap} {locs : List Loc} {cells slots : Nat} {Q : State → Prop} {cc : ByteArray} {pc : Nat} {ls : Array Slot} {rest : List Value} {D : va_G} {A : Nat → Prop} {x : Nat} {ar : Nat → Nat} {cs : Nat → ClassId} {B : BT} {Y : va_W} {Z : ZT} {nL r : Nat}
theorem call_x_quarrels (hx : p.tables.exec = Jvm.exec) (hb : c.code = cc) (hml : c.maxLocals = nL) (hown : s.vm.findClass RX0 = some mid.cls) (hts : ∀ w ∈ lw_all, w.before args s = true) (hK : KK D cs s) (hA : ∀ q : Nat, s.heap.size ≤ q → A q) (hE : EW D A s.heap (WX x ar cs Z B Y) H locs) (hls : ls.size = nL) (p1 : Int32) (h1 : 2 ≤ R.frames) (h2 : 51 ≤ R.locals) (h3 : (rest.map fun v => v.category).sum ≤ 8) (hd : decode cc pc = .ok (.invokevirtual 309, 3)) (hf : cells ≤ R.cells ∧ slots ≤ R.slots) (kk : ∀ (H1 : Heap) (locs1 : List Loc), EW D A s.heap (WX x ar cs Z B Y) H1 locs1 → W p l e R s mid args below meth c H1 locs1 cells slots Q (F0 mid (pc + 3) ls (.int (x_quarrels p1 Z) :: rest))) : W p l e R s mid args below meth c H locs cells slots Q (F0 mid pc ls (.int p1 :: .ref x :: rest)) := 
  gCall_i (As := [.int p1]) (rest := rest) (q0 := 0) (ci := 0) (fs := XF ar Z) (T' := TX0) (N' := 29) hx hb hml hown hts hK hA hE hls (met_x_quarrels l D cs x ar B Y Z H.size p1) (cwV 1 hts (lw_V q795 q797 qs26 q84 q798) rfl rfl rfl (by decide +kernel) ⟨h1, h2⟩) rfl rfl rfl rfl h3 hd hf (fun v u H1 locs1 hp _ hE => by subst hp; exact kk H1 locs1 hE)
end C_x_quarrels
def x_quarrelling_j52 (w52 : Int32) : Int32 := w52
def x_quarrelling_k50 (i10 : Nat) : Int32 := nI i10
def x_quarrelling_b10 (Z : ZT) (i10 : Nat) (w10 : Int32) : Int32 := x_quarrelling_j52 (if ((nI i10) &&& ((x_present Z) ^^^ (-1 : Int32))) = 0 then (if (x_quarrels (nI i10) Z) = 0 then w10 else (if w10 = (-9 : Int32) then x_quarrelling_k50 i10 else (if (x_bits w10) ≤ (x_bits (nI i10)) then w10 else x_quarrelling_k50 i10))) else w10)
def x_quarrelling_e10 (w10 : Int32) : Int32 := w10
def x_quarrelling (Z : ZT) : Int32 := x_quarrelling_e10 (itR (x_quarrelling_b10 Z) 1 (256 - 1) (-9 : Int32))
set_option maxHeartbeats 4000000 in
set_option maxRecDepth 100000 in
theorem met_x_quarrelling (l : Launch) (D : va_G) (cs : Nat → ClassId) (x : Nat) (ar : Nat → Nat) (B : BT) (Y : va_W) (Z : ZT) (sz : Nat)  : Met l yX0_quarrelling (ws_ yX0_quarrelling cX0_quarrelling 4 (some .int)) ({ frames := 2, cells := 0, slots := 0, locals := 51 }) (va_Pc [.ref x] (wSt D cs (WX x ar cs Z B Y) sz)) (cQi (fun (v : Int32) (_ : Unit) => x_quarrelling Z = v) D (fun _ => (WX x ar cs Z B Y)) (WX x ar cs Z B Y) sz) 0 0 (va_A (WX x ar cs Z B Y) sz) := by
  refine gStart_i (C := RX0) rfl rfl (Nat.le_of_ble_eq_true rfl) ?_
  intro p e s mid args below meth c R Q A hx hb hml hown hts hK hA hRf hRl hRc hRs hret hE ls hl
  have hRf : 2 ≤ R.frames := hRf
  have hRl : 51 ≤ R.locals := hRl
  have hl : lv_has ls 4 [(0, .ref x)] := hl
  have hR : x_quarrelling Z = (x_quarrelling_e10 (itR (x_quarrelling_b10 Z) 1 (256 - 1) (-9 : Int32))) := rfl
  refine lv_aload_n hx hb dX0_quarrelling_0 rfl (lv_at hl 0 rfl) ?_
  refine call_x_present hx hb hml hown hts hK hA hE hl.1 (lz (show 1 ≤ 2 by decide) hRf) (lz (show 22 ≤ 51 by decide) hRl) (Nat.le_of_ble_eq_true rfl) dX0_quarrelling_1 ⟨Nat.zero_le _, Nat.zero_le _⟩ (fun H locs hE => ?_)
  refine lv_istore_n (lv' := [(1, .int (x_present Z)), (0, .ref x)]) hx hb dX0_quarrelling_4 rfl hl (by decide) rfl (fun ls hl => ?_)
  refine lv_bipush (v := -9) hx hb dX0_quarrelling_5 rfl ?_
  refine lv_istore_n (lv' := [(2, .int (-9 : Int32)), (1, .int (x_present Z)), (0, .ref x)]) hx hb dX0_quarrelling_7 rfl hl (by decide) rfl (fun ls hl => ?_)
  refine lv_iconst (v := 1) hx hb dX0_quarrelling_8 rfl ?_
  refine lv_istore_n (lv' := [(3, .int (1 : Int32)), (2, .int (-9 : Int32)), (1, .int (x_present Z)), (0, .ref x)]) hx hb dX0_quarrelling_9 rfl hl (by decide) rfl (fun ls hl => ?_)
  have hL10 : ∀ (k i10 : Nat) (w10 : Int32) (hi10 : i10 + k = 256) (hR : x_quarrelling Z = x_quarrelling_e10 (itR (x_quarrelling_b10 Z) i10 k w10)), ∀ (H : Heap) (locs : List Loc) (ls : Array Slot), EW D A s.heap (WX x ar cs Z B Y) H locs → lv_has ls 4 [(0, .ref x), (1, .int (x_present Z)), (2, .int w10), (3, .int (nI i10))] → W p l e R s mid args below meth c H locs 0 0 Q (F0 mid 10 ls []) := by
    intro k
    induction k with
    | zero =>
      intro i10 w10 hi10 hR H locs ls hE hl
      have hie10 : i10 = 256 := by omega
      have hR : x_quarrelling Z = w10 := hR
      refine lv_iload_n hx hb dX0_quarrelling_10 rfl (lv_at hl 3 rfl) ?_
      refine lv_sipush (v := 256) hx hb dX0_quarrelling_11 rfl ?_
      refine n_geT (a := i10) (b := 256) (by omega) (by omega) hx hb dX0_quarrelling_14 (tgt := 58) (by decide) ?_
      have hl := lv_sub (l' := [(0, .ref x), (1, .int (x_present Z)), (2, .int w10)]) hl [0, 1, 2] rfl
      refine lv_iload_n hx hb dX0_quarrelling_58 rfl (lv_at hl 2 rfl) ?_
      exact hret w10 () hR rfl hE (Nat.le_refl 0) (Nat.le_refl 0) dX0_quarrelling_59
    | succ k ih10 =>
      intro i10 w10 hi10 hR H locs ls hE hl
      have hlt10 : i10 < 256 := by omega
      have hB10 : x_quarrelling_b10 Z i10 w10 = x_quarrelling_j52 (if ((nI i10) &&& ((x_present Z) ^^^ (-1 : Int32))) = 0 then (if (x_quarrels (nI i10) Z) = 0 then w10 else (if w10 = (-9 : Int32) then x_quarrelling_k50 i10 else (if (x_bits w10) ≤ (x_bits (nI i10)) then w10 else x_quarrelling_k50 i10))) else w10) := rfl
      refine lv_iload_n hx hb dX0_quarrelling_10 rfl (lv_at hl 3 rfl) ?_
      refine lv_sipush (v := 256) hx hb dX0_quarrelling_11 rfl ?_
      refine n_geF (a := i10) (b := 256) (by omega) (by omega) hx hb dX0_quarrelling_14 (tgt := 58) (by decide) ?_
      refine lv_iload_n hx hb dX0_quarrelling_17 rfl (lv_at hl 3 rfl) ?_
      refine lv_iload_n hx hb dX0_quarrelling_18 rfl (lv_at hl 1 rfl) ?_
      refine lv_iconst (v := -1) hx hb dX0_quarrelling_19 rfl ?_
      refine lv_ixor hx hb dX0_quarrelling_20 ?_
      refine lv_iand hx hb dX0_quarrelling_21 ?_
      have hJ52 : ∀ (w52 : Int32) (hB10 : x_quarrelling_b10 Z i10 w10 = x_quarrelling_j52 w52), ∀ (H : Heap) (locs : List Loc) (ls : Array Slot), EW D A s.heap (WX x ar cs Z B Y) H locs → lv_has ls 4 [(0, .ref x), (1, .int (x_present Z)), (2, .int w52), (3, .int (nI i10))] → W p l e R s mid args below meth c H locs 0 0 Q (F0 mid 52 ls []) := by
        intro w52 hB10 H locs ls hE hl
        have hB10 : x_quarrelling_b10 Z i10 w10 = w52 := hB10
        refine n_inc (lv' := [(3, .int (nI (i10 + 1))), (0, .ref x), (1, .int (x_present Z)), (2, .int w52)]) hx hb dX0_quarrelling_52 hl (k := 3) rfl (by decide) rfl (fun ls hl => ?_)
        refine lv_goto (tgt := 10) hx hb dX0_quarrelling_55 (by decide) ?_
        exact ih10 (i10 + 1) w52 (by omega) (hR.trans (congrArg (fun z => x_quarrelling_e10 (itR (x_quarrelling_b10 Z) (i10 + 1) k z)) hB10)) _ _ _ hE (lv_sub hl [1, 2, 3, 0] rfl)
      refine lv_if_ne (tgt := 52) hx hb dX0_quarrelling_22 (by decide) (fun c22 => ?_) (fun c22 => ?_)
      · have hB10 : x_quarrelling_b10 Z i10 w10 = x_quarrelling_j52 w10 := hB10.trans (congrArg (fun z => x_quarrelling_j52 z) (if_neg c22))
        exact hJ52 w10  hB10 _ _ _ hE (lv_sub hl [0, 1, 2, 3] rfl)
      · have hB10 : x_quarrelling_b10 Z i10 w10 = x_quarrelling_j52 (if (x_quarrels (nI i10) Z) = 0 then w10 else (if w10 = (-9 : Int32) then x_quarrelling_k50 i10 else (if (x_bits w10) ≤ (x_bits (nI i10)) then w10 else x_quarrelling_k50 i10))) := hB10.trans (congrArg (fun z => x_quarrelling_j52 z) (if_pos c22))
        refine lv_aload_n hx hb dX0_quarrelling_25 rfl (lv_at hl 0 rfl) ?_
        refine lv_iload_n hx hb dX0_quarrelling_26 rfl (lv_at hl 3 rfl) ?_
        refine call_x_quarrels hx hb hml hown hts hK hA hE hl.1 (nI i10) (lz (show 2 ≤ 2 by decide) hRf) (lz (show 51 ≤ 51 by decide) hRl) (Nat.le_of_ble_eq_true rfl) dX0_quarrelling_27 ⟨Nat.zero_le _, Nat.zero_le _⟩ (fun H locs hE => ?_)
        refine lv_if_eq (tgt := 52) hx hb dX0_quarrelling_30 (by decide) (fun c30 => ?_) (fun c30 => ?_)
        · have hB10 : x_quarrelling_b10 Z i10 w10 = x_quarrelling_j52 w10 := hB10.trans (congrArg (fun z => x_quarrelling_j52 z) (if_pos c30))
          exact hJ52 w10  hB10 _ _ _ hE (lv_sub hl [0, 1, 2, 3] rfl)
        · have hB10 : x_quarrelling_b10 Z i10 w10 = x_quarrelling_j52 (if w10 = (-9 : Int32) then x_quarrelling_k50 i10 else (if (x_bits w10) ≤ (x_bits (nI i10)) then w10 else x_quarrelling_k50 i10)) := hB10.trans (congrArg (fun z => x_quarrelling_j52 z) (if_neg c30))
          refine lv_iload_n hx hb dX0_quarrelling_33 rfl (lv_at hl 2 rfl) ?_
          refine lv_bipush (v := -9) hx hb dX0_quarrelling_34 rfl ?_
          have hJ50 : ∀ (hB10 : x_quarrelling_b10 Z i10 w10 = x_quarrelling_j52 (x_quarrelling_k50 i10)), ∀ (H : Heap) (locs : List Loc) (ls : Array Slot), EW D A s.heap (WX x ar cs Z B Y) H locs → lv_has ls 4 [(0, .ref x), (1, .int (x_present Z)), (3, .int (nI i10))] → W p l e R s mid args below meth c H locs 0 0 Q (F0 mid 50 ls []) := by
            intro hB10 H locs ls hE hl
            have hB10 : x_quarrelling_b10 Z i10 w10 = x_quarrelling_j52 (nI i10) := hB10
            refine lv_iload_n hx hb dX0_quarrelling_50 rfl (lv_at hl 2 rfl) ?_
            refine lv_istore_n (lv' := [(2, .int (nI i10)), (0, .ref x), (1, .int (x_present Z)), (3, .int (nI i10))]) hx hb dX0_quarrelling_51 rfl hl (by decide) rfl (fun ls hl => ?_)
            exact hJ52 (nI i10)  hB10 _ _ _ hE (lv_sub hl [1, 2, 0, 3] rfl)
          refine lv_icmp_eq (tgt := 50) hx hb dX0_quarrelling_36 (by decide) (fun c36 => ?_) (fun c36 => ?_)
          · have hB10 : x_quarrelling_b10 Z i10 w10 = x_quarrelling_j52 (x_quarrelling_k50 i10) := hB10.trans (congrArg (fun z => x_quarrelling_j52 z) (if_pos c36))
            exact hJ50  hB10 _ _ _ hE (lv_sub hl [0, 1, 3] rfl)
          · have hB10 : x_quarrelling_b10 Z i10 w10 = x_quarrelling_j52 (if (x_bits w10) ≤ (x_bits (nI i10)) then w10 else x_quarrelling_k50 i10) := hB10.trans (congrArg (fun z => x_quarrelling_j52 z) (if_neg c36))
            refine lv_iload_n hx hb dX0_quarrelling_39 rfl (lv_at hl 3 rfl) ?_
            refine call_x_bits hx hb hml hown hts hK hA hE hl.1 (nI i10) (lz (show 1 ≤ 2 by decide) hRf) (lz (show 22 ≤ 51 by decide) hRl) (Nat.le_of_ble_eq_true rfl) dX0_quarrelling_40 ⟨Nat.zero_le _, Nat.zero_le _⟩ (fun H locs hE => ?_)
            refine lv_iload_n hx hb dX0_quarrelling_43 rfl (lv_at hl 2 rfl) ?_
            refine call_x_bits hx hb hml hown hts hK hA hE hl.1 w10 (lz (show 1 ≤ 2 by decide) hRf) (lz (show 22 ≤ 51 by decide) hRl) (Nat.le_of_ble_eq_true rfl) dX0_quarrelling_44 ⟨Nat.zero_le _, Nat.zero_le _⟩ (fun H locs hE => ?_)
            refine lv_icmp_ge (tgt := 52) hx hb dX0_quarrelling_47 (by decide) (fun c47 => ?_) (fun c47 => ?_)
            · have hB10 : x_quarrelling_b10 Z i10 w10 = x_quarrelling_j52 w10 := hB10.trans (congrArg (fun z => x_quarrelling_j52 z) (if_pos c47))
              exact hJ52 w10  hB10 _ _ _ hE (lv_sub hl [0, 1, 2, 3] rfl)
            · have hB10 : x_quarrelling_b10 Z i10 w10 = x_quarrelling_j52 (x_quarrelling_k50 i10) := hB10.trans (congrArg (fun z => x_quarrelling_j52 z) (if_neg c47))
              exact hJ50  hB10 _ _ _ hE (lv_sub hl [0, 1, 3] rfl)
  exact hL10 (256 - 1) 1 (-9 : Int32) (by omega) hR _ _ _ hE (lv_sub hl [3, 2, 1, 0] rfl)
section C_x_quarrelling
variable {p : Program} {l : Launch} {e : Env} {R : Room} {s : State} {mid : MethodId} {args : Array Value} {below : List Frame} {meth : Method} {c : Code} {H : Heap} {locs : List Loc} {cells slots : Nat} {Q : State → Prop} {cc : ByteArray} {pc : Nat} {ls : Array Slot} {rest : List Value} {D : va_G} {A : Nat → Prop} {x : Nat} {ar : Nat → Nat} {cs : Nat → ClassId} {B : BT} {Y : va_W} {Z : ZT} {nL r : Nat}
theorem call_x_quarrelling (hx : p.tables.exec = Jvm.exec) (hb : c.code = cc) (hml : c.maxLocals = nL) (hown : s.vm.findClass RX0 = some mid.cls) (hts : ∀ w ∈ lw_all, w.before args s = true) (hK : KK D cs s) (hA : ∀ q : Nat, s.heap.size ≤ q → A q) (hE : EW D A s.heap (WX x ar cs Z B Y) H locs) (hls : ls.size = nL)  (h1 : 3 ≤ R.frames) (h2 : 74 ≤ R.locals) (h3 : (rest.map fun v => v.category).sum ≤ 8) (hd : decode cc pc = .ok (.invokevirtual 312, 3)) (hf : cells ≤ R.cells ∧ slots ≤ R.slots) (kk : ∀ (H1 : Heap) (locs1 : List Loc), EW D A s.heap (WX x ar cs Z B Y) H1 locs1 → W p l e R s mid args below meth c H1 locs1 cells slots Q (F0 mid (pc + 3) ls (.int (x_quarrelling Z) :: rest))) : W p l e R s mid args below meth c H locs cells slots Q (F0 mid pc ls (.ref x :: rest)) := 
  gCall_i (As := []) (rest := rest) (q0 := 0) (ci := 0) (fs := XF ar Z) (T' := TX0) (N' := 29) hx hb hml hown hts hK hA hE hls (met_x_quarrelling l D cs x ar B Y Z H.size ) (cwV 0 hts (lw_V q791 q793 qs25 q84 q794) rfl rfl rfl (by decide +kernel) ⟨h1, h2⟩) rfl rfl rfl rfl h3 hd hf (fun v u H1 locs1 hp _ hE => by subst hp; exact kk H1 locs1 hE)
end C_x_quarrelling
def x_balanced (Z : ZT) : Int32 := (if (x_quarrelling Z) = (-9 : Int32) then (1 : Int32) else (0 : Int32))
set_option maxHeartbeats 4000000 in
set_option maxRecDepth 100000 in
theorem met_x_balanced (l : Launch) (D : va_G) (cs : Nat → ClassId) (x : Nat) (ar : Nat → Nat) (B : BT) (Y : va_W) (Z : ZT) (sz : Nat)  : Met l yX0_balanced (ws_ yX0_balanced cX0_balanced 1 (some .int)) ({ frames := 3, cells := 0, slots := 0, locals := 74 }) (va_Pc [.ref x] (wSt D cs (WX x ar cs Z B Y) sz)) (cQi (fun (v : Int32) (_ : Unit) => x_balanced Z = v) D (fun _ => (WX x ar cs Z B Y)) (WX x ar cs Z B Y) sz) 0 0 (va_A (WX x ar cs Z B Y) sz) := by
  refine gStart_i (C := RX0) rfl rfl (Nat.le_of_ble_eq_true rfl) ?_
  intro p e s mid args below meth c R Q A hx hb hml hown hts hK hA hRf hRl hRc hRs hret hE ls hl
  have hRf : 3 ≤ R.frames := hRf
  have hRl : 74 ≤ R.locals := hRl
  have hl : lv_has ls 1 [(0, .ref x)] := hl
  have hR : x_balanced Z = (if (x_quarrelling Z) = (-9 : Int32) then (1 : Int32) else (0 : Int32)) := rfl
  refine lv_aload_n hx hb dX0_balanced_0 rfl (lv_at hl 0 rfl) ?_
  refine call_x_quarrelling hx hb hml hown hts hK hA hE hl.1 (lz (show 3 ≤ 3 by decide) hRf) (lz (show 74 ≤ 74 by decide) hRl) (Nat.le_of_ble_eq_true rfl) dX0_balanced_1 ⟨Nat.zero_le _, Nat.zero_le _⟩ (fun H locs hE => ?_)
  refine lv_bipush (v := -9) hx hb dX0_balanced_4 rfl ?_
  refine lv_icmp_ne (tgt := 13) hx hb dX0_balanced_6 (by decide) (fun c6 => ?_) (fun c6 => ?_)
  · have hR : x_balanced Z = (0 : Int32) := hR.trans (congrArg (fun z => z) (if_neg c6))
    refine lv_iconst (v := 0) hx hb dX0_balanced_13 rfl ?_
    exact hret (0 : Int32) () hR rfl hE (Nat.le_refl 0) (Nat.le_refl 0) dX0_balanced_14
  · have hR : x_balanced Z = (1 : Int32) := hR.trans (congrArg (fun z => z) (if_pos c6))
    refine lv_iconst (v := 1) hx hb dX0_balanced_9 rfl ?_
    refine lv_goto (tgt := 14) hx hb dX0_balanced_10 (by decide) ?_
    exact hret (1 : Int32) () hR rfl hE (Nat.le_refl 0) (Nat.le_refl 0) dX0_balanced_14
def x_quarrel (Z : ZT) : Int32 := (x_quarrelling Z)
set_option maxHeartbeats 4000000 in
set_option maxRecDepth 100000 in
theorem met_x_quarrel (l : Launch) (D : va_G) (cs : Nat → ClassId) (x : Nat) (ar : Nat → Nat) (B : BT) (Y : va_W) (Z : ZT) (sz : Nat)  : Met l yX0_quarrel (ws_ yX0_quarrel cX0_quarrel 1 (some .int)) ({ frames := 3, cells := 0, slots := 0, locals := 74 }) (va_Pc [.ref x] (wSt D cs (WX x ar cs Z B Y) sz)) (cQi (fun (v : Int32) (_ : Unit) => x_quarrel Z = v) D (fun _ => (WX x ar cs Z B Y)) (WX x ar cs Z B Y) sz) 0 0 (va_A (WX x ar cs Z B Y) sz) := by
  refine gStart_i (C := RX0) rfl rfl (Nat.le_of_ble_eq_true rfl) ?_
  intro p e s mid args below meth c R Q A hx hb hml hown hts hK hA hRf hRl hRc hRs hret hE ls hl
  have hRf : 3 ≤ R.frames := hRf
  have hRl : 74 ≤ R.locals := hRl
  have hl : lv_has ls 1 [(0, .ref x)] := hl
  have hR : x_quarrel Z = (x_quarrelling Z) := rfl
  refine lv_aload_n hx hb dX0_quarrel_0 rfl (lv_at hl 0 rfl) ?_
  refine call_x_quarrelling hx hb hml hown hts hK hA hE hl.1 (lz (show 3 ≤ 3 by decide) hRf) (lz (show 74 ≤ 74 by decide) hRl) (Nat.le_of_ble_eq_true rfl) dX0_quarrel_1 ⟨Nat.zero_le _, Nat.zero_le _⟩ (fun H locs hE => ?_)
  exact hret (x_quarrelling Z) () hR rfl hE (Nat.le_refl 0) (Nat.le_refl 0) dX0_quarrel_4
def x_end_j148 (p1 : Nat) (w22 : Int32 × Int32 × ZT) (w75 : Int32) (w92 : Int32) (w148 : Int32 × Int32) : Bool × (Int32 × Int32 × ZT) := (true, (w148.1, w148.2, sI (sI w22.2.2 12 p1 w75) 13 p1 w92))
def x_end_j146 (w22 : Int32 × Int32 × ZT) (w146 : Int32) : Int32 × Int32 := (w22.1, w146)
def x_end_j128 (w22 : Int32 × Int32 × ZT) (w128 : Int32) : Int32 × Int32 := (w128, w22.2.1)
def x_end_j107 (p1 : Nat) (p2 : Int32) (w22 : Int32 × Int32 × ZT) (w58 : Int32) (w75 : Int32) (w92 : Int32) (w107 : Int32) : Bool × (Int32 × Int32 × ZT) := x_end_j148 p1 w22 w75 w92 (if w107 = p2 then x_end_j128 w22 (if p2 = 0 then (w58 + (1 : Int32)) else w58) else x_end_j146 w22 (if p2 = 0 then w58 else (w58 - (1 : Int32))))
def x_end_j92 (p1 : Nat) (p2 : Int32) (w22 : Int32 × Int32 × ZT) (w58 : Int32) (w75 : Int32) (w92 : Int32) : Bool × (Int32 × Int32 × ZT) := x_end_j107 p1 p2 w22 w58 w75 w92 (if (x_quarrelling (sI (sI w22.2.2 12 p1 w75) 13 p1 w92)) = (-9 : Int32) then (1 : Int32) else (0 : Int32))
def x_end_j75 (p1 : Nat) (p2 : Int32) (Z : ZT) (w22 : Int32 × Int32 × ZT) (w58 : Int32) (w75 : Int32) : Bool × (Int32 × Int32 × ZT) := x_end_j92 p1 p2 w22 w58 w75 (if p2 = 0 then w58 else Z.1 13 p1)
def x_end_j58 (p1 : Nat) (p2 : Int32) (Z : ZT) (w22 : Int32 × Int32 × ZT) (w58 : Int32) : Bool × (Int32 × Int32 × ZT) := x_end_j75 p1 p2 Z w22 w58 (if p2 = 0 then Z.1 12 p1 else w58)
def x_end_b22 (p1 : Nat) (p2 : Int32) (Z : ZT) (w22 : Int32 × Int32 × ZT) : Bool × (Int32 × Int32 × ZT) := (if w22.2.1 ≤ w22.1 then (false, (w22.1, w22.2.1, w22.2.2)) else x_end_j58 p1 p2 Z w22 (if p2 = 0 then (w22.1 + ((w22.2.1 - w22.1) / (2 : Int32))) else (w22.1 + (((w22.2.1 - w22.1) + (1 : Int32)) / (2 : Int32)))))
def x_end_e22 (p1 : Nat) (Z : ZT) (w22 : Int32 × Int32 × ZT) : Int32 × ZT := (w22.1, sI (sI w22.2.2 12 p1 (Z.1 12 p1)) 13 p1 (Z.1 13 p1))
def x_end (p1 : Nat) (p2 : Int32) (Z : ZT) : Int32 × ZT := x_end_e22 p1 Z (wlR (x_end_b22 p1 p2 Z) 100001 (Z.1 12 p1, Z.1 13 p1, Z))
theorem sI_off {Z : ZT} {k i r j : Nat} {v : Int32} (h : ¬ (r = k ∧ j = i)) : (sI Z k i v).1 r j = Z.1 r j := by
  by_cases hk : r = k
  · subst hk
    rw [sI_at, if_neg (fun q => h ⟨rfl, q⟩)]
  · rw [sI_ne hk]
theorem end_same {k : Nat} {m : Int32} {Z : ZT} : (x_end k m Z).2 = Z := by
  have h := wlR_inv (f := x_end_b22 k m Z) (P := fun s : Int32 × Int32 × ZT => s.2.2.2 = Z.2 ∧ ∀ r i, ¬ (r = 12 ∧ i = k) → ¬ (r = 13 ∧ i = k) → s.2.2.1 r i = Z.1 r i) (fun s hs => ?_) 100001 (Z.1 12 k, Z.1 13 k, Z) ⟨rfl, fun _ _ _ _ => rfl⟩
  · unfold x_end
    generalize wlR (x_end_b22 k m Z) 100001 (Z.1 12 k, Z.1 13 k, Z) = w at h
    show sI (sI w.2.2 12 k (Z.1 12 k)) 13 k (Z.1 13 k) = Z
    apply Prod.ext
    · funext r i
      by_cases h13 : r = 13 ∧ i = k
      · obtain ⟨rfl, rfl⟩ := h13
        rw [sI_at, if_pos rfl]
      · rw [sI_off h13]
        by_cases h12 : r = 12 ∧ i = k
        · obtain ⟨rfl, rfl⟩ := h12
          rw [sI_at, if_pos rfl]
        · rw [sI_off h12]
          exact h.2 r i h12 h13
    · exact h.1
  · unfold x_end_b22
    split
    · exact hs
    · refine ⟨hs.1, fun r i h12 h13 => ?_⟩
      show (sI (sI s.2.2 12 k _) 13 k _).1 r i = _
      rw [sI_off h13, sI_off h12]
      exact hs.2 r i h12 h13
set_option maxHeartbeats 4000000 in
set_option maxRecDepth 100000 in
theorem met_x_end (l : Launch) (D : va_G) (cs : Nat → ClassId) (x : Nat) (ar : Nat → Nat) (B : BT) (Y : va_W) (Z : ZT) (sz : Nat) (p1 : Nat) (p2 : Int32) (hn1 : p1 < 64) (hL : LI Z) : Met l yX0_end (ws_ yX0_end cX0_end 9 (some .int)) ({ frames := 3, cells := 0, slots := 0, locals := 74 }) (va_Pc [.ref x, .int (nI p1), .int p2] (wSt D cs (WX x ar cs Z B Y) sz)) (cQi (fun (v : Int32) (u : ZT) => x_end p1 p2 Z = (v, u)) D (fun u => (WX x ar cs u B Y)) (WX x ar cs Z B Y) sz) 0 0 (va_A (WX x ar cs Z B Y) sz) := by
  refine gStart_i (C := RX0) rfl rfl (Nat.le_of_ble_eq_true rfl) ?_
  intro p e s mid args below meth c R Q A hx hb hml hown hts hK hA hRf hRl hRc hRs hret hE ls hl
  have hRf : 3 ≤ R.frames := hRf
  have hRl : 74 ≤ R.locals := hRl
  have hl : lv_has ls 9 [(0, .ref x), (1, .int (nI p1)), (2, .int p2)] := hl
  have hR : x_end p1 p2 Z = (x_end_e22 p1 Z (wlR (x_end_b22 p1 p2 Z) 100001 (Z.1 12 p1, Z.1 13 p1, Z))) := rfl
  refine lv_aload_n hx hb dX0_end_0 rfl (lv_at hl 0 rfl) ?_
  refine xg_12 hx hb hts hown hK hE dX0_end_1 ?_
  refine lv_iload_n hx hb dX0_end_4 rfl (lv_at hl 1 rfl) ?_
  refine xa_12 (n := p1) (by omega) hx hb hK hE dX0_end_5 ?_
  refine lv_istore_n (lv' := [(3, .int (Z.1 12 p1)), (0, .ref x), (1, .int (nI p1)), (2, .int p2)]) hx hb dX0_end_6 rfl hl (by decide) rfl (fun ls hl => ?_)
  refine lv_aload_n hx hb dX0_end_7 rfl (lv_at hl 1 rfl) ?_
  refine xg_13 hx hb hts hown hK hE dX0_end_8 ?_
  refine lv_iload_n hx hb dX0_end_11 rfl (lv_at hl 2 rfl) ?_
  refine xa_13 (n := p1) (by omega) hx hb hK hE dX0_end_12 ?_
  refine lv_istore (lv' := [(4, .int (Z.1 13 p1)), (3, .int (Z.1 12 p1)), (0, .ref x), (1, .int (nI p1)), (2, .int p2)]) hx hb dX0_end_13 hl (by decide) rfl (fun ls hl => ?_)
  refine lv_iload_n hx hb dX0_end_15 rfl (lv_at hl 1 rfl) ?_
  refine lv_istore (lv' := [(5, .int (Z.1 12 p1)), (4, .int (Z.1 13 p1)), (3, .int (Z.1 12 p1)), (0, .ref x), (1, .int (nI p1)), (2, .int p2)]) hx hb dX0_end_16 hl (by decide) rfl (fun ls hl => ?_)
  refine lv_iload hx hb dX0_end_18 (lv_at hl 1 rfl) ?_
  refine lv_istore (lv' := [(6, .int (Z.1 13 p1)), (5, .int (Z.1 12 p1)), (4, .int (Z.1 13 p1)), (3, .int (Z.1 12 p1)), (0, .ref x), (1, .int (nI p1)), (2, .int p2)]) hx hb dX0_end_20 hl (by decide) rfl (fun ls hl => ?_)
  have hX22 : ∀ (w22 : Int32 × Int32 × ZT) (hb22 : 0 ≤ w22.1.toInt ∧ w22.1.toInt ≤ 100000 ∧ 0 ≤ w22.2.1.toInt ∧ w22.2.1.toInt ≤ 100000) (hR : x_end p1 p2 Z = x_end_e22 p1 Z w22), ∀ (H : Heap) (locs : List Loc) (ls : Array Slot), EW D A s.heap (WX x ar cs w22.2.2 B Y) H locs → lv_has ls 9 [(0, .ref x), (1, .int (nI p1)), (3, .int (Z.1 12 p1)), (4, .int (Z.1 13 p1)), (5, .int w22.1)] → W p l e R s mid args below meth c H locs 0 0 Q (F0 mid 151 ls []) := by
    intro w22 hb22 hR H locs ls hE hl
    have hR : x_end p1 p2 Z = (w22.1, sI (sI w22.2.2 12 p1 (Z.1 12 p1)) 13 p1 (Z.1 13 p1)) := hR
    refine lv_aload_n hx hb dX0_end_151 rfl (lv_at hl 0 rfl) ?_
    refine xg_12 hx hb hts hown hK hE dX0_end_152 ?_
    refine lv_iload_n hx hb dX0_end_155 rfl (lv_at hl 1 rfl) ?_
    refine lv_iload_n hx hb dX0_end_156 rfl (lv_at hl 2 rfl) ?_
    refine xs_12 (n := p1) (by omega) hx hb hK hE dX0_end_157 (fun H locs hE => ?_)
    refine lv_aload_n hx hb dX0_end_158 rfl (lv_at hl 0 rfl) ?_
    refine xg_13 hx hb hts hown hK hE dX0_end_159 ?_
    refine lv_iload_n hx hb dX0_end_162 rfl (lv_at hl 1 rfl) ?_
    refine lv_iload hx hb dX0_end_163 (lv_at hl 3 rfl) ?_
    refine xs_13 (n := p1) (by omega) hx hb hK hE dX0_end_165 (fun H locs hE => ?_)
    refine lv_iload hx hb dX0_end_166 (lv_at hl 4 rfl) ?_
    exact hret w22.1 (sI (sI w22.2.2 12 p1 (Z.1 12 p1)) 13 p1 (Z.1 13 p1)) hR rfl hE (Nat.le_refl 0) (Nat.le_refl 0) dX0_end_168
  have hL22 : ∀ (n : Nat) (w22 : Int32 × Int32 × ZT) (hm22 : (w22.2.1.toInt - w22.1.toInt).toNat < n) (hb22 : 0 ≤ w22.1.toInt ∧ w22.1.toInt ≤ 100000 ∧ 0 ≤ w22.2.1.toInt ∧ w22.2.1.toInt ≤ 100000) (hR : x_end p1 p2 Z = x_end_e22 p1 Z (wlR (x_end_b22 p1 p2 Z) n w22)), ∀ (H : Heap) (locs : List Loc) (ls : Array Slot), EW D A s.heap (WX x ar cs w22.2.2 B Y) H locs → lv_has ls 9 [(0, .ref x), (1, .int (nI p1)), (2, .int p2), (3, .int (Z.1 12 p1)), (4, .int (Z.1 13 p1)), (5, .int w22.1), (6, .int w22.2.1)] → W p l e R s mid args below meth c H locs 0 0 Q (F0 mid 22 ls []) := by
    intro n
    induction n with
    | zero =>
      intro w22 hm22
      exact absurd hm22 (Nat.not_lt_zero _)
    | succ n ih22 =>
      intro w22 hm22 hb22 hR H locs ls hE hl
      have hB22 : x_end_b22 p1 p2 Z w22 = (if w22.2.1 ≤ w22.1 then (false, (w22.1, w22.2.1, w22.2.2)) else x_end_j58 p1 p2 Z w22 (if p2 = 0 then (w22.1 + ((w22.2.1 - w22.1) / (2 : Int32))) else (w22.1 + (((w22.2.1 - w22.1) + (1 : Int32)) / (2 : Int32))))) := rfl
      refine lv_iload hx hb dX0_end_22 (lv_at hl 5 rfl) ?_
      refine lv_iload hx hb dX0_end_24 (lv_at hl 6 rfl) ?_
      refine lv_icmp_ge (tgt := 151) hx hb dX0_end_26 (by decide) (fun c26 => ?_) (fun c26 => ?_)
      · have hB22 : x_end_b22 p1 p2 Z w22 = (false, (w22.1, w22.2.1, w22.2.2)) := hB22.trans (congrArg (fun z => z) (if_pos c26))
        exact hX22 (w22.1, w22.2.1, w22.2.2) (by exact hb22) (hR.trans (congrArg (fun z => x_end_e22 p1 Z z) (wl_f hB22))) _ _ _ hE (lv_sub hl [0, 1, 3, 4, 5] rfl)
      · have hB22 : x_end_b22 p1 p2 Z w22 = (x_end_j58 p1 p2 Z w22 (if p2 = 0 then (w22.1 + ((w22.2.1 - w22.1) / (2 : Int32))) else (w22.1 + (((w22.2.1 - w22.1) + (1 : Int32)) / (2 : Int32))))) := hB22.trans (congrArg (fun z => z) (if_neg c26))
        refine lv_iload_n hx hb dX0_end_29 rfl (lv_at hl 2 rfl) ?_
        have hJ58 : ∀ (w58 : Int32) (hw58 : (p2 = 0 → w22.1.toInt ≤ w58.toInt ∧ w58.toInt < w22.2.1.toInt) ∧ (¬ p2 = 0 → w22.1.toInt < w58.toInt ∧ w58.toInt ≤ w22.2.1.toInt)) (hB22 : x_end_b22 p1 p2 Z w22 = x_end_j58 p1 p2 Z w22 w58), ∀ (H : Heap) (locs : List Loc) (ls : Array Slot), EW D A s.heap (WX x ar cs w22.2.2 B Y) H locs → lv_has ls 9 [(0, .ref x), (1, .int (nI p1)), (2, .int p2), (3, .int (Z.1 12 p1)), (4, .int (Z.1 13 p1)), (5, .int w22.1), (6, .int w22.2.1)] → W p l e R s mid args below meth c H locs 0 0 Q (F0 mid 58 ls [.int w58]) := by
          intro w58 hw58 hB22 H locs ls hE hl
          have hB22 : x_end_b22 p1 p2 Z w22 = (x_end_j75 p1 p2 Z w22 w58 (if p2 = 0 then Z.1 12 p1 else w58)) := hB22
          refine lv_istore (lv' := [(7, .int w58), (0, .ref x), (1, .int (nI p1)), (2, .int p2), (3, .int (Z.1 12 p1)), (4, .int (Z.1 13 p1)), (5, .int w22.1), (6, .int w22.2.1)]) hx hb dX0_end_58 hl (by decide) rfl (fun ls hl => ?_)
          refine lv_aload_n hx hb dX0_end_60 rfl (lv_at hl 1 rfl) ?_
          refine xg_12 hx hb hts hown hK hE dX0_end_61 ?_
          refine lv_iload_n hx hb dX0_end_64 rfl (lv_at hl 2 rfl) ?_
          refine lv_iload_n hx hb dX0_end_65 rfl (lv_at hl 3 rfl) ?_
          have hJ75 : ∀ (w75 : Int32) (hB22 : x_end_b22 p1 p2 Z w22 = x_end_j75 p1 p2 Z w22 w58 w75), ∀ (H : Heap) (locs : List Loc) (ls : Array Slot), EW D A s.heap (WX x ar cs w22.2.2 B Y) H locs → lv_has ls 9 [(0, .ref x), (1, .int (nI p1)), (2, .int p2), (3, .int (Z.1 12 p1)), (4, .int (Z.1 13 p1)), (5, .int w22.1), (6, .int w22.2.1), (7, .int w58)] → W p l e R s mid args below meth c H locs 0 0 Q (F0 mid 75 ls [.int w75, .int (nI p1), .ref (ar 12)]) := by
            intro w75 hB22 H locs ls hE hl
            have hB22 : x_end_b22 p1 p2 Z w22 = (x_end_j92 p1 p2 w22 w58 w75 (if p2 = 0 then w58 else Z.1 13 p1)) := hB22
            refine xs_12 (n := p1) (by omega) hx hb hK hE dX0_end_75 (fun H locs hE => ?_)
            refine lv_aload_n hx hb dX0_end_76 rfl (lv_at hl 0 rfl) ?_
            refine xg_13 hx hb hts hown hK hE dX0_end_77 ?_
            refine lv_iload_n hx hb dX0_end_80 rfl (lv_at hl 1 rfl) ?_
            refine lv_iload_n hx hb dX0_end_81 rfl (lv_at hl 2 rfl) ?_
            have hJ92 : ∀ (w92 : Int32) (hB22 : x_end_b22 p1 p2 Z w22 = x_end_j92 p1 p2 w22 w58 w75 w92), ∀ (H : Heap) (locs : List Loc) (ls : Array Slot), EW D A s.heap (WX x ar cs (sI w22.2.2 12 p1 w75) B Y) H locs → lv_has ls 9 [(0, .ref x), (1, .int (nI p1)), (2, .int p2), (3, .int (Z.1 12 p1)), (4, .int (Z.1 13 p1)), (5, .int w22.1), (6, .int w22.2.1), (7, .int w58)] → W p l e R s mid args below meth c H locs 0 0 Q (F0 mid 92 ls [.int w92, .int (nI p1), .ref (ar 13)]) := by
              intro w92 hB22 H locs ls hE hl
              have hB22 : x_end_b22 p1 p2 Z w22 = (x_end_j107 p1 p2 w22 w58 w75 w92 (if (x_quarrelling (sI (sI w22.2.2 12 p1 w75) 13 p1 w92)) = (-9 : Int32) then (1 : Int32) else (0 : Int32))) := hB22
              refine xs_13 (n := p1) (by omega) hx hb hK hE dX0_end_92 (fun H locs hE => ?_)
              refine lv_aload_n hx hb dX0_end_93 rfl (lv_at hl 0 rfl) ?_
              refine call_x_quarrelling hx hb hml hown hts hK hA hE hl.1 (lz (show 3 ≤ 3 by decide) hRf) (lz (show 74 ≤ 74 by decide) hRl) (Nat.le_of_ble_eq_true rfl) dX0_end_94 ⟨Nat.zero_le _, Nat.zero_le _⟩ (fun H locs hE => ?_)
              refine lv_bipush (v := -9) hx hb dX0_end_97 rfl ?_
              have hJ107 : ∀ (w107 : Int32) (hB22 : x_end_b22 p1 p2 Z w22 = x_end_j107 p1 p2 w22 w58 w75 w92 w107), ∀ (H : Heap) (locs : List Loc) (ls : Array Slot), EW D A s.heap (WX x ar cs (sI (sI w22.2.2 12 p1 w75) 13 p1 w92) B Y) H locs → lv_has ls 9 [(0, .ref x), (1, .int (nI p1)), (2, .int p2), (3, .int (Z.1 12 p1)), (4, .int (Z.1 13 p1)), (5, .int w22.1), (6, .int w22.2.1), (7, .int w58)] → W p l e R s mid args below meth c H locs 0 0 Q (F0 mid 107 ls [.int w107]) := by
                intro w107 hB22 H locs ls hE hl
                have hB22 : x_end_b22 p1 p2 Z w22 = (x_end_j148 p1 w22 w75 w92 (if w107 = p2 then x_end_j128 w22 (if p2 = 0 then (w58 + (1 : Int32)) else w58) else x_end_j146 w22 (if p2 = 0 then w58 else (w58 - (1 : Int32))))) := hB22
                refine lv_istore (lv' := [(8, .int w107), (0, .ref x), (1, .int (nI p1)), (2, .int p2), (3, .int (Z.1 12 p1)), (4, .int (Z.1 13 p1)), (5, .int w22.1), (6, .int w22.2.1), (7, .int w58)]) hx hb dX0_end_107 hl (by decide) rfl (fun ls hl => ?_)
                refine lv_iload hx hb dX0_end_109 (lv_at hl 0 rfl) ?_
                refine lv_iload_n hx hb dX0_end_111 rfl (lv_at hl 3 rfl) ?_
                have hJ148 : ∀ (w148 : Int32 × Int32) (hw148 : 0 ≤ w148.1.toInt ∧ w148.1.toInt ≤ 100000 ∧ 0 ≤ w148.2.toInt ∧ w148.2.toInt ≤ 100000 ∧ (w148.2.toInt - w148.1.toInt).toNat < (w22.2.1.toInt - w22.1.toInt).toNat) (hB22 : x_end_b22 p1 p2 Z w22 = x_end_j148 p1 w22 w75 w92 w148), ∀ (H : Heap) (locs : List Loc) (ls : Array Slot), EW D A s.heap (WX x ar cs (sI (sI w22.2.2 12 p1 w75) 13 p1 w92) B Y) H locs → lv_has ls 9 [(0, .ref x), (1, .int (nI p1)), (2, .int p2), (3, .int (Z.1 12 p1)), (4, .int (Z.1 13 p1)), (5, .int w148.1), (6, .int w148.2)] → W p l e R s mid args below meth c H locs 0 0 Q (F0 mid 148 ls []) := by
                  intro w148 hw148 hB22 H locs ls hE hl
                  have hB22 : x_end_b22 p1 p2 Z w22 = (true, (w148.1, w148.2, sI (sI w22.2.2 12 p1 w75) 13 p1 w92)) := hB22
                  refine lv_goto (tgt := 22) hx hb dX0_end_148 (by decide) ?_
                  exact ih22 (w148.1, w148.2, sI (sI w22.2.2 12 p1 w75) 13 p1 w92) (by exact nat_dec hw148.2.2.2.2 hm22) (by exact ⟨hw148.1, hw148.2.1, hw148.2.2.1, hw148.2.2.2.1⟩) (hR.trans (congrArg (fun z => x_end_e22 p1 Z z) (wl_t hB22))) _ _ _ hE (lv_sub hl [0, 1, 2, 3, 4, 5, 6] rfl)
                refine lv_icmp_ne (tgt := 133) hx hb dX0_end_112 (by decide) (fun c112 => ?_) (fun c112 => ?_)
                · have hB22 : x_end_b22 p1 p2 Z w22 = x_end_j148 p1 w22 w75 w92 (x_end_j146 w22 (if p2 = 0 then w58 else (w58 - (1 : Int32)))) := hB22.trans (congrArg (fun z => x_end_j148 p1 w22 w75 w92 z) (if_neg c112))
                  refine lv_iload_n hx hb dX0_end_133 rfl (lv_at hl 3 rfl) ?_
                  have hJ146 : ∀ (w146 : Int32) (hw146 : w22.1.toInt ≤ w146.toInt ∧ w146.toInt < w22.2.1.toInt) (hB22 : x_end_b22 p1 p2 Z w22 = x_end_j148 p1 w22 w75 w92 (x_end_j146 w22 w146)), ∀ (H : Heap) (locs : List Loc) (ls : Array Slot), EW D A s.heap (WX x ar cs (sI (sI w22.2.2 12 p1 w75) 13 p1 w92) B Y) H locs → lv_has ls 9 [(0, .ref x), (1, .int (nI p1)), (2, .int p2), (3, .int (Z.1 12 p1)), (4, .int (Z.1 13 p1)), (5, .int w22.1)] → W p l e R s mid args below meth c H locs 0 0 Q (F0 mid 146 ls [.int w146]) := by
                    intro w146 hw146 hB22 H locs ls hE hl
                    have hB22 : x_end_b22 p1 p2 Z w22 = x_end_j148 p1 w22 w75 w92 (w22.1, w146) := hB22
                    refine lv_istore (lv' := [(6, .int w146), (0, .ref x), (1, .int (nI p1)), (2, .int p2), (3, .int (Z.1 12 p1)), (4, .int (Z.1 13 p1)), (5, .int w22.1)]) hx hb dX0_end_146 hl (by decide) rfl (fun ls hl => ?_)
                    exact hJ148 (w22.1, w146)  (by first | exact end_lo hb22 hw128 | exact end_hi hb22 hw146) hB22 _ _ _ hE (lv_sub hl [1, 2, 3, 4, 5, 6, 0] rfl)
                  refine lv_if_eq (tgt := 144) hx hb dX0_end_134 (by decide) (fun c134 => ?_) (fun c134 => ?_)
                  · have hB22 : x_end_b22 p1 p2 Z w22 = x_end_j148 p1 w22 w75 w92 (x_end_j146 w22 w58) := hB22.trans (congrArg (fun z => x_end_j148 p1 w22 w75 w92 (x_end_j146 w22 z)) (if_pos c134))
                    refine lv_iload hx hb dX0_end_144 (lv_at hl 8 rfl) ?_
                    exact hJ146 w58  (by first | exact mid_p hb22 (hw58.2 c134) | exact hw58.1 c134) hB22 _ _ _ hE (lv_sub hl [1, 2, 3, 4, 5, 6] rfl)
                  · have hB22 : x_end_b22 p1 p2 Z w22 = x_end_j148 p1 w22 w75 w92 (x_end_j146 w22 (w58 - (1 : Int32))) := hB22.trans (congrArg (fun z => x_end_j148 p1 w22 w75 w92 (x_end_j146 w22 z)) (if_neg c134))
                    refine lv_iload hx hb dX0_end_137 (lv_at hl 8 rfl) ?_
                    refine lv_iconst (v := 1) hx hb dX0_end_139 rfl ?_
                    refine lv_isub hx hb dX0_end_140 ?_
                    refine lv_goto (tgt := 146) hx hb dX0_end_141 (by decide) ?_
                    exact hJ146 (w58 - (1 : Int32))  (by first | exact mid_p hb22 (hw58.2 c134) | exact hw58.1 c134) hB22 _ _ _ hE (lv_sub hl [1, 2, 3, 4, 5, 6] rfl)
                · have hB22 : x_end_b22 p1 p2 Z w22 = x_end_j148 p1 w22 w75 w92 (x_end_j128 w22 (if p2 = 0 then (w58 + (1 : Int32)) else w58)) := hB22.trans (congrArg (fun z => x_end_j148 p1 w22 w75 w92 z) (if_pos c112))
                  refine lv_iload_n hx hb dX0_end_115 rfl (lv_at hl 3 rfl) ?_
                  have hJ128 : ∀ (w128 : Int32) (hw128 : w22.1.toInt < w128.toInt ∧ w128.toInt ≤ w22.2.1.toInt) (hB22 : x_end_b22 p1 p2 Z w22 = x_end_j148 p1 w22 w75 w92 (x_end_j128 w22 w128)), ∀ (H : Heap) (locs : List Loc) (ls : Array Slot), EW D A s.heap (WX x ar cs (sI (sI w22.2.2 12 p1 w75) 13 p1 w92) B Y) H locs → lv_has ls 9 [(0, .ref x), (1, .int (nI p1)), (2, .int p2), (3, .int (Z.1 12 p1)), (4, .int (Z.1 13 p1)), (6, .int w22.2.1)] → W p l e R s mid args below meth c H locs 0 0 Q (F0 mid 128 ls [.int w128]) := by
                    intro w128 hw128 hB22 H locs ls hE hl
                    have hB22 : x_end_b22 p1 p2 Z w22 = x_end_j148 p1 w22 w75 w92 (w128, w22.2.1) := hB22
                    refine lv_istore (lv' := [(5, .int w128), (0, .ref x), (1, .int (nI p1)), (2, .int p2), (3, .int (Z.1 12 p1)), (4, .int (Z.1 13 p1)), (6, .int w22.2.1)]) hx hb dX0_end_128 hl (by decide) rfl (fun ls hl => ?_)
                    refine lv_goto (tgt := 148) hx hb dX0_end_130 (by decide) ?_
                    exact hJ148 (w128, w22.2.1)  (by first | exact end_lo hb22 hw128 | exact end_hi hb22 hw146) hB22 _ _ _ hE (lv_sub hl [1, 2, 3, 4, 5, 0, 6] rfl)
                  refine lv_if_eq (tgt := 124) hx hb dX0_end_116 (by decide) (fun c116 => ?_) (fun c116 => ?_)
                  · have hB22 : x_end_b22 p1 p2 Z w22 = x_end_j148 p1 w22 w75 w92 (x_end_j128 w22 (w58 + (1 : Int32))) := hB22.trans (congrArg (fun z => x_end_j148 p1 w22 w75 w92 (x_end_j128 w22 z)) (if_pos c116))
                    refine lv_iload hx hb dX0_end_124 (lv_at hl 8 rfl) ?_
                    refine lv_iconst (v := 1) hx hb dX0_end_126 rfl ?_
                    refine lv_iadd hx hb dX0_end_127 ?_
                    exact hJ128 (w58 + (1 : Int32))  (by first | exact hw58.2 c116 | exact mid_s hb22 (hw58.1 c116)) hB22 _ _ _ hE (lv_sub hl [1, 2, 3, 4, 5, 7] rfl)
                  · have hB22 : x_end_b22 p1 p2 Z w22 = x_end_j148 p1 w22 w75 w92 (x_end_j128 w22 w58) := hB22.trans (congrArg (fun z => x_end_j148 p1 w22 w75 w92 (x_end_j128 w22 z)) (if_neg c116))
                    refine lv_iload hx hb dX0_end_119 (lv_at hl 8 rfl) ?_
                    refine lv_goto (tgt := 128) hx hb dX0_end_121 (by decide) ?_
                    exact hJ128 w58  (by first | exact hw58.2 c116 | exact mid_s hb22 (hw58.1 c116)) hB22 _ _ _ hE (lv_sub hl [1, 2, 3, 4, 5, 7] rfl)
              refine lv_icmp_ne (tgt := 106) hx hb dX0_end_99 (by decide) (fun c99 => ?_) (fun c99 => ?_)
              · have hB22 : x_end_b22 p1 p2 Z w22 = x_end_j107 p1 p2 w22 w58 w75 w92 (0 : Int32) := hB22.trans (congrArg (fun z => x_end_j107 p1 p2 w22 w58 w75 w92 z) (if_neg c99))
                refine lv_iconst (v := 0) hx hb dX0_end_106 rfl ?_
                exact hJ107 (0 : Int32)  hB22 _ _ _ hE (lv_sub hl [0, 1, 2, 3, 4, 5, 6, 7] rfl)
              · have hB22 : x_end_b22 p1 p2 Z w22 = x_end_j107 p1 p2 w22 w58 w75 w92 (1 : Int32) := hB22.trans (congrArg (fun z => x_end_j107 p1 p2 w22 w58 w75 w92 z) (if_pos c99))
                refine lv_iconst (v := 1) hx hb dX0_end_102 rfl ?_
                refine lv_goto (tgt := 107) hx hb dX0_end_103 (by decide) ?_
                exact hJ107 (1 : Int32)  hB22 _ _ _ hE (lv_sub hl [0, 1, 2, 3, 4, 5, 6, 7] rfl)
            refine lv_if_eq (tgt := 90) hx hb dX0_end_82 (by decide) (fun c82 => ?_) (fun c82 => ?_)
            · have hB22 : x_end_b22 p1 p2 Z w22 = x_end_j92 p1 p2 w22 w58 w75 w58 := hB22.trans (congrArg (fun z => x_end_j92 p1 p2 w22 w58 w75 z) (if_pos c82))
              refine lv_iload hx hb dX0_end_90 (lv_at hl 7 rfl) ?_
              exact hJ92 w58  hB22 _ _ _ hE (lv_sub hl [0, 1, 2, 3, 4, 5, 6, 7] rfl)
            · have hB22 : x_end_b22 p1 p2 Z w22 = x_end_j92 p1 p2 w22 w58 w75 (Z.1 13 p1) := hB22.trans (congrArg (fun z => x_end_j92 p1 p2 w22 w58 w75 z) (if_neg c82))
              refine lv_iload hx hb dX0_end_85 (lv_at hl 4 rfl) ?_
              refine lv_goto (tgt := 92) hx hb dX0_end_87 (by decide) ?_
              exact hJ92 (Z.1 13 p1)  hB22 _ _ _ hE (lv_sub hl [0, 1, 2, 3, 4, 5, 6, 7] rfl)
          refine lv_if_eq (tgt := 74) hx hb dX0_end_66 (by decide) (fun c66 => ?_) (fun c66 => ?_)
          · have hB22 : x_end_b22 p1 p2 Z w22 = x_end_j75 p1 p2 Z w22 w58 (Z.1 12 p1) := hB22.trans (congrArg (fun z => x_end_j75 p1 p2 Z w22 w58 z) (if_pos c66))
            refine lv_iload_n hx hb dX0_end_74 rfl (lv_at hl 4 rfl) ?_
            exact hJ75 (Z.1 12 p1)  hB22 _ _ _ hE (lv_sub hl [1, 2, 3, 4, 5, 6, 7, 0] rfl)
          · have hB22 : x_end_b22 p1 p2 Z w22 = x_end_j75 p1 p2 Z w22 w58 w58 := hB22.trans (congrArg (fun z => x_end_j75 p1 p2 Z w22 w58 z) (if_neg c66))
            refine lv_iload hx hb dX0_end_69 (lv_at hl 0 rfl) ?_
            refine lv_goto (tgt := 75) hx hb dX0_end_71 (by decide) ?_
            exact hJ75 w58  hB22 _ _ _ hE (lv_sub hl [1, 2, 3, 4, 5, 6, 7, 0] rfl)
        refine lv_if_eq (tgt := 48) hx hb dX0_end_30 (by decide) (fun c30 => ?_) (fun c30 => ?_)
        · have hB22 : x_end_b22 p1 p2 Z w22 = x_end_j58 p1 p2 Z w22 (w22.1 + ((w22.2.1 - w22.1) / (2 : Int32))) := hB22.trans (congrArg (fun z => x_end_j58 p1 p2 Z w22 z) (if_pos c30))
          refine lv_iload hx hb dX0_end_48 (lv_at hl 5 rfl) ?_
          refine lv_iload hx hb dX0_end_50 (lv_at hl 6 rfl) ?_
          refine lv_iload hx hb dX0_end_52 (lv_at hl 5 rfl) ?_
          refine lv_isub hx hb dX0_end_54 ?_
          refine lv_iconst (v := 2) hx hb dX0_end_55 rfl ?_
          refine lv_idiv hx hb dX0_end_56 (by decide) ?_
          refine lv_iadd hx hb dX0_end_57 ?_
          exact hJ58 (w22.1 + ((w22.2.1 - w22.1) / (2 : Int32)))  (by first | exact ⟨fun h => absurd h c30, fun _ => mid_up c26 hb22⟩ | exact ⟨fun _ => mid_dn c26 hb22, fun h => absurd c30 h⟩) hB22 _ _ _ hE (lv_sub hl [0, 1, 2, 3, 4, 5, 6] rfl)
        · have hB22 : x_end_b22 p1 p2 Z w22 = x_end_j58 p1 p2 Z w22 (w22.1 + (((w22.2.1 - w22.1) + (1 : Int32)) / (2 : Int32))) := hB22.trans (congrArg (fun z => x_end_j58 p1 p2 Z w22 z) (if_neg c30))
          refine lv_iload hx hb dX0_end_33 (lv_at hl 5 rfl) ?_
          refine lv_iload hx hb dX0_end_35 (lv_at hl 6 rfl) ?_
          refine lv_iload hx hb dX0_end_37 (lv_at hl 5 rfl) ?_
          refine lv_isub hx hb dX0_end_39 ?_
          refine lv_iconst (v := 1) hx hb dX0_end_40 rfl ?_
          refine lv_iadd hx hb dX0_end_41 ?_
          refine lv_iconst (v := 2) hx hb dX0_end_42 rfl ?_
          refine lv_idiv hx hb dX0_end_43 (by decide) ?_
          refine lv_iadd hx hb dX0_end_44 ?_
          refine lv_goto (tgt := 58) hx hb dX0_end_45 (by decide) ?_
          exact hJ58 (w22.1 + (((w22.2.1 - w22.1) + (1 : Int32)) / (2 : Int32)))  (by first | exact ⟨fun h => absurd h c30, fun _ => mid_up c26 hb22⟩ | exact ⟨fun _ => mid_dn c26 hb22, fun h => absurd c30 h⟩) hB22 _ _ _ hE (lv_sub hl [0, 1, 2, 3, 4, 5, 6] rfl)
  exact hL22 100001 (Z.1 12 p1, Z.1 13 p1, Z) (by exact end_start (hL p1 hn1)) (by exact end_init (hL p1 hn1)) hR _ _ _ hE (lv_sub hl [4, 5, 6, 3, 2, 1, 0] rfl)
section C_x_end
variable {p : Program} {l : Launch} {e : Env} {R : Room} {s : State} {mid : MethodId} {args : Array Value} {below : List Frame} {meth : Method} {c : Code} {H : Heap} {locs : List Loc} {cells slots : Nat} {Q : State → Prop} {cc : ByteArray} {pc : Nat} {ls : Array Slot} {rest : List Value} {D : va_G} {A : Nat → Prop} {x : Nat} {ar : Nat → Nat} {cs : Nat → ClassId} {B : BT} {Y : va_W} {Z : ZT} {nL r : Nat}
theorem call_x_end (hx : p.tables.exec = Jvm.exec) (hb : c.code = cc) (hml : c.maxLocals = nL) (hown : s.vm.findClass RX0 = some mid.cls) (hts : ∀ w ∈ lw_all, w.before args s = true) (hK : KK D cs s) (hA : ∀ q : Nat, s.heap.size ≤ q → A q) (hE : EW D A s.heap (WX x ar cs Z B Y) H locs) (hls : ls.size = nL) (p1 : Nat) (p2 : Int32) (hn1 : p1 < 64) (hL : LI Z) (h1 : 4 ≤ R.frames) (h2 : 102 ≤ R.locals) (h3 : (rest.map fun v => v.category).sum ≤ 8) (hd : decode cc pc = .ok (.invokevirtual 315, 3)) (hf : cells ≤ R.cells ∧ slots ≤ R.slots) (kk : ∀ (H1 : Heap) (locs1 : List Loc), EW D A s.heap (WX x ar cs ((x_end p1 p2 Z).2) B Y) H1 locs1 → W p l e R s mid args below meth c H1 locs1 cells slots Q (F0 mid (pc + 3) ls (.int (x_end p1 p2 Z).1 :: rest))) : W p l e R s mid args below meth c H locs cells slots Q (F0 mid pc ls (.int p2 :: .int (nI p1) :: .ref x :: rest)) := 
  gCall_i (As := [.int (nI p1), .int p2]) (rest := rest) (q0 := 0) (ci := 0) (fs := XF ar Z) (T' := TX0) (N' := 29) hx hb hml hown hts hK hA hE hls (met_x_end l D cs x ar B Y Z H.size p1 p2 hn1 hL) (cwV 2 hts (lw_V q807 q809 qs27 q84 q810) rfl rfl rfl (by decide +kernel) ⟨h1, h2⟩) rfl rfl rfl rfl h3 hd hf (fun v u H1 locs1 hp _ hE => by rw [hp] at kk; exact kk H1 locs1 hE)
end C_x_end
def x_range_c47 (wc47 : Int32 × ZT) : Int32 × ZT := (wc47.1, wc47.2)
def x_range (p1 : Int32) (p2 : Int32) (p3 : Int32) (Z : ZT) : Int32 × ZT := (if (x_isBeing p1) = 0 then ((-1 : Int32), Z) else (if (x_isBeing p2) = 0 then ((-1 : Int32), Z) else (if (x_isLink (ix p1) (ix p2) Z) = 0 then (x_met 1 Z) else (if (x_quarrelling Z) = (-9 : Int32) then x_range_c47 (x_end (8 * (ix p1) + (ix p2)) p3 Z) else ((-9 : Int32), Z)))))
set_option maxHeartbeats 4000000 in
set_option maxRecDepth 100000 in
theorem met_x_range (l : Launch) (D : va_G) (cs : Nat → ClassId) (x : Nat) (ar : Nat → Nat) (B : BT) (Y : va_W) (Z : ZT) (sz : Nat) (p1 : Int32) (p2 : Int32) (p3 : Int32) (hL : LI Z) : Met l yX0_range (ws_ yX0_range cX0_range 4 (some .int)) ({ frames := 4, cells := 0, slots := 0, locals := 102 }) (va_Pc [.ref x, .int p1, .int p2, .int p3] (wSt D cs (WX x ar cs Z B Y) sz)) (cQi (fun (v : Int32) (u : ZT) => x_range p1 p2 p3 Z = (v, u)) D (fun u => (WX x ar cs u B Y)) (WX x ar cs Z B Y) sz) 0 0 (va_A (WX x ar cs Z B Y) sz) := by
  refine gStart_i (C := RX0) rfl rfl (Nat.le_of_ble_eq_true rfl) ?_
  intro p e s mid args below meth c R Q A hx hb hml hown hts hK hA hRf hRl hRc hRs hret hE ls hl
  have hRf : 4 ≤ R.frames := hRf
  have hRl : 102 ≤ R.locals := hRl
  have hl : lv_has ls 4 [(0, .ref x), (1, .int p1), (2, .int p2), (3, .int p3)] := hl
  have hR : x_range p1 p2 p3 Z = (if (x_isBeing p1) = 0 then ((-1 : Int32), Z) else (if (x_isBeing p2) = 0 then ((-1 : Int32), Z) else (if (x_isLink (ix p1) (ix p2) Z) = 0 then (x_met 1 Z) else (if (x_quarrelling Z) = (-9 : Int32) then x_range_c47 (x_end (8 * (ix p1) + (ix p2)) p3 Z) else ((-9 : Int32), Z))))) := rfl
  refine lv_iload_n hx hb dX0_range_0 rfl (lv_at hl 1 rfl) ?_
  refine call_x_isBeing hx hb hml hown hts hK hA hE hl.1 p1 (lz (show 2 ≤ 4 by decide) hRf) (lz (show 42 ≤ 102 by decide) hRl) (Nat.le_of_ble_eq_true rfl) dX0_range_1 ⟨Nat.zero_le _, Nat.zero_le _⟩ (fun H locs hE => ?_)
  refine lv_if_eq (tgt := 14) hx hb dX0_range_4 (by decide) (fun c4 => ?_) (fun c4 => ?_)
  · have hR : x_range p1 p2 p3 Z = ((-1 : Int32), Z) := hR.trans (congrArg (fun z => z) (if_pos c4))
    refine lv_iconst (v := -1) hx hb dX0_range_14 rfl ?_
    exact hret (-1 : Int32) Z hR rfl hE (Nat.le_refl 0) (Nat.le_refl 0) dX0_range_15
  · have hR : x_range p1 p2 p3 Z = (if (x_isBeing p2) = 0 then ((-1 : Int32), Z) else (if (x_isLink (ix p1) (ix p2) Z) = 0 then (x_met 1 Z) else (if (x_quarrelling Z) = (-9 : Int32) then x_range_c47 (x_end (8 * (ix p1) + (ix p2)) p3 Z) else ((-9 : Int32), Z)))) := hR.trans (congrArg (fun z => z) (if_neg c4))
    refine lv_iload_n hx hb dX0_range_7 rfl (lv_at hl 2 rfl) ?_
    refine call_x_isBeing hx hb hml hown hts hK hA hE hl.1 p2 (lz (show 2 ≤ 4 by decide) hRf) (lz (show 42 ≤ 102 by decide) hRl) (Nat.le_of_ble_eq_true rfl) dX0_range_8 ⟨Nat.zero_le _, Nat.zero_le _⟩ (fun H locs hE => ?_)
    refine lv_if_ne (tgt := 16) hx hb dX0_range_11 (by decide) (fun c11 => ?_) (fun c11 => ?_)
    · have hR : x_range p1 p2 p3 Z = (if (x_isLink (ix p1) (ix p2) Z) = 0 then (x_met 1 Z) else (if (x_quarrelling Z) = (-9 : Int32) then x_range_c47 (x_end (8 * (ix p1) + (ix p2)) p3 Z) else ((-9 : Int32), Z))) := hR.trans (congrArg (fun z => z) (if_neg c11))
      have hnp1 := vp_ix (x := p1) (N := 8) (xBe_vp c4) (by decide)
      have hbnp1 := hnp1.2
      have hnp2 := vp_ix (x := p2) (N := 8) (xBe_vp c11) (by decide)
      have hbnp2 := hnp2.2
      refine lv_aload_n hx hb dX0_range_16 rfl (lv_at hl 0 rfl) ?_
      refine lv_iload_n hx hb dX0_range_17 rfl (lv_at hl 1 rfl) ?_
      refine top_nat hnp1.1 ?_
      refine lv_iload_n hx hb dX0_range_18 rfl (lv_at hl 2 rfl) ?_
      refine top_nat hnp2.1 ?_
      refine call_x_isLink hx hb hml hown hts hK hA hE hl.1 (ix p1) (ix p2) (by omega) (by omega) (lz (show 2 ≤ 4 by decide) hRf) (lz (show 43 ≤ 102 by decide) hRl) (Nat.le_of_ble_eq_true rfl) dX0_range_19 ⟨Nat.zero_le _, Nat.zero_le _⟩ (fun H locs hE => ?_)
      refine lv_if_ne (tgt := 31) hx hb dX0_range_22 (by decide) (fun c22 => ?_) (fun c22 => ?_)
      · have hR : x_range p1 p2 p3 Z = (if (x_quarrelling Z) = (-9 : Int32) then x_range_c47 (x_end (8 * (ix p1) + (ix p2)) p3 Z) else ((-9 : Int32), Z)) := hR.trans (congrArg (fun z => z) (if_neg c22))
        refine lv_aload_n hx hb dX0_range_31 rfl (lv_at hl 0 rfl) ?_
        refine call_x_quarrelling hx hb hml hown hts hK hA hE hl.1 (lz (show 3 ≤ 4 by decide) hRf) (lz (show 74 ≤ 102 by decide) hRl) (Nat.le_of_ble_eq_true rfl) dX0_range_32 ⟨Nat.zero_le _, Nat.zero_le _⟩ (fun H locs hE => ?_)
        refine lv_bipush (v := -9) hx hb dX0_range_35 rfl ?_
        refine lv_icmp_ne (tgt := 53) hx hb dX0_range_37 (by decide) (fun c37 => ?_) (fun c37 => ?_)
        · have hR : x_range p1 p2 p3 Z = ((-9 : Int32), Z) := hR.trans (congrArg (fun z => z) (if_neg c37))
          refine lv_bipush (v := -9) hx hb dX0_range_53 rfl ?_
          exact hret (-9 : Int32) Z hR rfl hE (Nat.le_refl 0) (Nat.le_refl 0) dX0_range_55
        · have hR : x_range p1 p2 p3 Z = (x_range_c47 (x_end (8 * (ix p1) + (ix p2)) p3 Z)) := hR.trans (congrArg (fun z => z) (if_pos c37))
          refine lv_aload_n hx hb dX0_range_40 rfl (lv_at hl 0 rfl) ?_
          refine lv_iload_n hx hb dX0_range_41 rfl (lv_at hl 1 rfl) ?_
          refine top_nat hnp1.1 ?_
          refine lv_iload_n hx hb dX0_range_42 rfl (lv_at hl 2 rfl) ?_
          refine top_nat hnp2.1 ?_
          refine call_x_pair hx hb hml hown hts hK hA hE hl.1 (ix p1) (ix p2) (lz (show 1 ≤ 4 by decide) hRf) (lz (show 21 ≤ 102 by decide) hRl) (Nat.le_of_ble_eq_true rfl) dX0_range_43 ⟨Nat.zero_le _, Nat.zero_le _⟩ (fun H locs hE => ?_)
          refine lv_iload_n hx hb dX0_range_46 rfl (lv_at hl 3 rfl) ?_
          refine call_x_end hx hb hml hown hts hK hA hE hl.1 (8 * (ix p1) + (ix p2)) p3 (by omega) (hL) (lz (show 4 ≤ 4 by decide) hRf) (lz (show 102 ≤ 102 by decide) hRl) (Nat.le_of_ble_eq_true rfl) dX0_range_47 ⟨Nat.zero_le _, Nat.zero_le _⟩ (fun H locs hE => ?_)
          have hNc47 : ∀ (wc47 : Int32 × ZT) (hR : x_range p1 p2 p3 Z = x_range_c47 wc47), ∀ (H : Heap) (locs : List Loc) (ls : Array Slot), EW D A s.heap (WX x ar cs wc47.2 B Y) H locs → lv_has ls 4 [] → W p l e R s mid args below meth c H locs 0 0 Q (F0 mid 50 ls [.int wc47.1]) := by
            intro wc47 hR H locs ls hE hl
            have hR : x_range p1 p2 p3 Z = (wc47.1, wc47.2) := hR
            refine lv_goto (tgt := 55) hx hb dX0_range_50 (by decide) ?_
            exact hret wc47.1 wc47.2 hR rfl hE (Nat.le_refl 0) (Nat.le_refl 0) dX0_range_55
          exact hNc47 (x_end (8 * (ix p1) + (ix p2)) p3 Z) hR _ _ _ hE (lv_sub hl [] rfl)
      · have hR : x_range p1 p2 p3 Z = (x_met 1 Z) := hR.trans (congrArg (fun z => z) (if_pos c22))
        refine lv_aload_n hx hb dX0_range_25 rfl (lv_at hl 0 rfl) ?_
        refine lv_iconst (v := 1) hx hb dX0_range_26 rfl ?_
        refine call_x_met hx hb hml hown hts hK hA hE hl.1 1 (by omega) (lz (show 1 ≤ 4 by decide) hRf) (lz (show 21 ≤ 102 by decide) hRl) (Nat.le_of_ble_eq_true rfl) dX0_range_27 ⟨Nat.zero_le _, Nat.zero_le _⟩ (fun H locs hE => ?_)
        exact hret ((x_met 1 Z).1) ((x_met 1 Z).2) hR rfl hE (Nat.le_refl 0) (Nat.le_refl 0) dX0_range_30
    · have hR : x_range p1 p2 p3 Z = ((-1 : Int32), Z) := hR.trans (congrArg (fun z => z) (if_pos c11))
      refine lv_iconst (v := -1) hx hb dX0_range_14 rfl ?_
      exact hret (-1 : Int32) Z hR rfl hE (Nat.le_refl 0) (Nat.le_refl 0) dX0_range_15
def x_nextSight_j75 (w51 : Int32 × ZT) (w75 : Int32 × Int32) : Int32 × Int32 × ZT := (w75.1, w75.2, w51.2)
def x_nextSight_j51 (i19 : Nat) (w19 : Int32 × Int32 × ZT) (w51 : Int32 × ZT) : Int32 × Int32 × ZT := x_nextSight_j75 w51 (if w51.1 ≤ w19.2.1 then (w19.1, w19.2.1) else ((((10 : Int32) * ((nI i19) / (8 : Int32))) + ((nI i19) - (nI i19) / (8 : Int32) * (8 : Int32))), w51.1))
def x_nextSight_c47 (wc41 : Int32 × ZT) (wc47 : Int32 × ZT) : Int32 × ZT := ((wc41.1 - wc47.1), wc47.2)
def x_nextSight_c41 (i19 : Nat) (wc41 : Int32 × ZT) : Int32 × ZT := x_nextSight_c47 wc41 (x_end i19 (0 : Int32) wc41.2)
def x_nextSight_b19 (i19 : Nat) (w19 : Int32 × Int32 × ZT) : Int32 × Int32 × ZT := x_nextSight_j51 i19 w19 (if w19.2.2.1 11 i19 = 0 then ((0 : Int32), w19.2.2) else x_nextSight_c41 i19 (x_end i19 (1 : Int32) w19.2.2))
def x_nextSight_j96 (w19 : Int32 × Int32 × ZT) (w96 : Int32) : Int32 × ZT := (w19.1, sI w19.2.2 2 0 w96)
def x_nextSight_e19 (w19 : Int32 × Int32 × ZT) : Int32 × ZT := x_nextSight_j96 w19 (if w19.1 = (-9 : Int32) then w19.2.2.1 2 0 else w19.2.1)
def x_nextSight (Z : ZT) : Int32 × ZT := (if (x_quarrelling Z) = (-9 : Int32) then x_nextSight_e19 (itR x_nextSight_b19 0 64 ((-9 : Int32), (0 : Int32), Z)) else ((-9 : Int32), Z))
set_option maxHeartbeats 4000000 in
set_option maxRecDepth 100000 in
theorem met_x_nextSight (l : Launch) (D : va_G) (cs : Nat → ClassId) (x : Nat) (ar : Nat → Nat) (B : BT) (Y : va_W) (Z : ZT) (sz : Nat) (hL : LI Z) : Met l yX0_nextSight (ws_ yX0_nextSight cX0_nextSight 5 (some .int)) ({ frames := 4, cells := 0, slots := 0, locals := 102 }) (va_Pc [.ref x] (wSt D cs (WX x ar cs Z B Y) sz)) (cQi (fun (v : Int32) (u : ZT) => x_nextSight Z = (v, u)) D (fun u => (WX x ar cs u B Y)) (WX x ar cs Z B Y) sz) 0 0 (va_A (WX x ar cs Z B Y) sz) := by
  refine gStart_i (C := RX0) rfl rfl (Nat.le_of_ble_eq_true rfl) ?_
  intro p e s mid args below meth c R Q A hx hb hml hown hts hK hA hRf hRl hRc hRs hret hE ls hl
  have hRf : 4 ≤ R.frames := hRf
  have hRl : 102 ≤ R.locals := hRl
  have hl : lv_has ls 5 [(0, .ref x)] := hl
  have hR : x_nextSight Z = (if (x_quarrelling Z) = (-9 : Int32) then x_nextSight_e19 (itR x_nextSight_b19 0 64 ((-9 : Int32), (0 : Int32), Z)) else ((-9 : Int32), Z)) := rfl
  refine lv_aload_n hx hb dX0_nextSight_0 rfl (lv_at hl 0 rfl) ?_
  refine call_x_quarrelling hx hb hml hown hts hK hA hE hl.1 (lz (show 3 ≤ 4 by decide) hRf) (lz (show 74 ≤ 102 by decide) hRl) (Nat.le_of_ble_eq_true rfl) dX0_nextSight_1 ⟨Nat.zero_le _, Nat.zero_le _⟩ (fun H locs hE => ?_)
  refine lv_bipush (v := -9) hx hb dX0_nextSight_4 rfl ?_
  refine lv_icmp_eq (tgt := 12) hx hb dX0_nextSight_6 (by decide) (fun c6 => ?_) (fun c6 => ?_)
  · have hR : x_nextSight Z = (x_nextSight_e19 (itR x_nextSight_b19 0 64 ((-9 : Int32), (0 : Int32), Z))) := hR.trans (congrArg (fun z => z) (if_pos c6))
    refine lv_bipush (v := -9) hx hb dX0_nextSight_12 rfl ?_
    refine lv_istore_n (lv' := [(1, .int (-9 : Int32)), (0, .ref x)]) hx hb dX0_nextSight_14 rfl hl (by decide) rfl (fun ls hl => ?_)
    refine lv_iconst (v := 0) hx hb dX0_nextSight_15 rfl ?_
    refine lv_istore_n (lv' := [(2, .int (0 : Int32)), (1, .int (-9 : Int32)), (0, .ref x)]) hx hb dX0_nextSight_16 rfl hl (by decide) rfl (fun ls hl => ?_)
    refine lv_iconst (v := 0) hx hb dX0_nextSight_17 rfl ?_
    refine lv_istore_n (lv' := [(3, .int (0 : Int32)), (2, .int (0 : Int32)), (1, .int (-9 : Int32)), (0, .ref x)]) hx hb dX0_nextSight_18 rfl hl (by decide) rfl (fun ls hl => ?_)
    have hL19 : ∀ (k i19 : Nat) (w19 : Int32 × Int32 × ZT) (hi19 : i19 + k = 64) (hq19 : LI w19.2.2) (hR : x_nextSight Z = x_nextSight_e19 (itR x_nextSight_b19 i19 k w19)), ∀ (H : Heap) (locs : List Loc) (ls : Array Slot), EW D A s.heap (WX x ar cs w19.2.2 B Y) H locs → lv_has ls 5 [(0, .ref x), (1, .int w19.1), (2, .int w19.2.1), (3, .int (nI i19))] → W p l e R s mid args below meth c H locs 0 0 Q (F0 mid 19 ls []) := by
      intro k
      induction k with
      | zero =>
        intro i19 w19 hi19 hq19 hR H locs ls hE hl
        have hie19 : i19 = 64 := by omega
        have hR : x_nextSight Z = (x_nextSight_j96 w19 (if w19.1 = (-9 : Int32) then w19.2.2.1 2 0 else w19.2.1)) := hR
        refine lv_iload_n hx hb dX0_nextSight_19 rfl (lv_at hl 3 rfl) ?_
        refine lv_bipush (v := 64) hx hb dX0_nextSight_20 rfl ?_
        refine n_geT (a := i19) (b := 64) (by omega) (by omega) hx hb dX0_nextSight_22 (tgt := 81) (by decide) ?_
        have hl := lv_sub (l' := [(0, .ref x), (1, .int w19.1), (2, .int w19.2.1)]) hl [0, 1, 2] rfl
        refine lv_aload_n hx hb dX0_nextSight_81 rfl (lv_at hl 0 rfl) ?_
        refine lv_iload_n hx hb dX0_nextSight_82 rfl (lv_at hl 1 rfl) ?_
        refine lv_bipush (v := -9) hx hb dX0_nextSight_83 rfl ?_
        have hJ96 : ∀ (w96 : Int32) (hR : x_nextSight Z = x_nextSight_j96 w19 w96), ∀ (H : Heap) (locs : List Loc) (ls : Array Slot), EW D A s.heap (WX x ar cs w19.2.2 B Y) H locs → lv_has ls 5 [(1, .int w19.1)] → W p l e R s mid args below meth c H locs 0 0 Q (F0 mid 96 ls [.int w96, .ref x]) := by
          intro w96 hR H locs ls hE hl
          have hR : x_nextSight Z = (w19.1, sI w19.2.2 2 0 w96) := hR
          refine xp_2 hx hb hts hown hK hE dX0_nextSight_96 (fun H locs hE => ?_)
          refine lv_iload_n hx hb dX0_nextSight_99 rfl (lv_at hl 0 rfl) ?_
          exact hret w19.1 (sI w19.2.2 2 0 w96) hR rfl hE (Nat.le_refl 0) (Nat.le_refl 0) dX0_nextSight_100
        refine lv_icmp_ne (tgt := 95) hx hb dX0_nextSight_85 (by decide) (fun c85 => ?_) (fun c85 => ?_)
        · have hR : x_nextSight Z = x_nextSight_j96 w19 w19.2.1 := hR.trans (congrArg (fun z => x_nextSight_j96 w19 z) (if_neg c85))
          refine lv_iload_n hx hb dX0_nextSight_95 rfl (lv_at hl 2 rfl) ?_
          exact hJ96 w19.2.1  hR _ _ _ hE (lv_sub hl [1] rfl)
        · have hR : x_nextSight Z = x_nextSight_j96 w19 (w19.2.2.1 2 0) := hR.trans (congrArg (fun z => x_nextSight_j96 w19 z) (if_pos c85))
          refine lv_aload_n hx hb dX0_nextSight_88 rfl (lv_at hl 0 rfl) ?_
          refine xg_2 hx hb hts hown hK hE dX0_nextSight_89 ?_
          refine lv_goto (tgt := 96) hx hb dX0_nextSight_92 (by decide) ?_
          exact hJ96 (w19.2.2.1 2 0)  hR _ _ _ hE (lv_sub hl [1] rfl)
      | succ k ih19 =>
        intro i19 w19 hi19 hq19 hR H locs ls hE hl
        have hlt19 : i19 < 64 := by omega
        have hB19 : x_nextSight_b19 i19 w19 = x_nextSight_j51 i19 w19 (if w19.2.2.1 11 i19 = 0 then ((0 : Int32), w19.2.2) else x_nextSight_c41 i19 (x_end i19 (1 : Int32) w19.2.2)) := rfl
        refine lv_iload_n hx hb dX0_nextSight_19 rfl (lv_at hl 3 rfl) ?_
        refine lv_bipush (v := 64) hx hb dX0_nextSight_20 rfl ?_
        refine n_geF (a := i19) (b := 64) (by omega) (by omega) hx hb dX0_nextSight_22 (tgt := 81) (by decide) ?_
        refine lv_aload_n hx hb dX0_nextSight_25 rfl (lv_at hl 0 rfl) ?_
        refine xg_11 hx hb hts hown hK hE dX0_nextSight_26 ?_
        refine lv_iload_n hx hb dX0_nextSight_29 rfl (lv_at hl 3 rfl) ?_
        refine xa_11 (n := i19) (by omega) hx hb hK hE dX0_nextSight_30 ?_
        have hJ51 : ∀ (w51 : Int32 × ZT) (hw51 : LI w51.2) (hB19 : x_nextSight_b19 i19 w19 = x_nextSight_j51 i19 w19 w51), ∀ (H : Heap) (locs : List Loc) (ls : Array Slot), EW D A s.heap (WX x ar cs w51.2 B Y) H locs → lv_has ls 5 [(0, .ref x), (1, .int w19.1), (2, .int w19.2.1), (3, .int (nI i19))] → W p l e R s mid args below meth c H locs 0 0 Q (F0 mid 51 ls [.int w51.1]) := by
          intro w51 hw51 hB19 H locs ls hE hl
          have hB19 : x_nextSight_b19 i19 w19 = (x_nextSight_j75 w51 (if w51.1 ≤ w19.2.1 then (w19.1, w19.2.1) else ((((10 : Int32) * ((nI i19) / (8 : Int32))) + ((nI i19) - (nI i19) / (8 : Int32) * (8 : Int32))), w51.1))) := hB19
          refine lv_istore (lv' := [(4, .int w51.1), (0, .ref x), (1, .int w19.1), (2, .int w19.2.1), (3, .int (nI i19))]) hx hb dX0_nextSight_51 hl (by decide) rfl (fun ls hl => ?_)
          refine lv_iload hx hb dX0_nextSight_53 (lv_at hl 0 rfl) ?_
          refine lv_iload_n hx hb dX0_nextSight_55 rfl (lv_at hl 3 rfl) ?_
          have hJ75 : ∀ (w75 : Int32 × Int32) (hB19 : x_nextSight_b19 i19 w19 = x_nextSight_j75 w51 w75), ∀ (H : Heap) (locs : List Loc) (ls : Array Slot), EW D A s.heap (WX x ar cs w51.2 B Y) H locs → lv_has ls 5 [(0, .ref x), (1, .int w75.1), (2, .int w75.2), (3, .int (nI i19))] → W p l e R s mid args below meth c H locs 0 0 Q (F0 mid 75 ls []) := by
            intro w75 hB19 H locs ls hE hl
            have hB19 : x_nextSight_b19 i19 w19 = (w75.1, w75.2, w51.2) := hB19
            refine n_inc (lv' := [(3, .int (nI (i19 + 1))), (0, .ref x), (1, .int w75.1), (2, .int w75.2)]) hx hb dX0_nextSight_75 hl (k := 3) rfl (by decide) rfl (fun ls hl => ?_)
            refine lv_goto (tgt := 19) hx hb dX0_nextSight_78 (by decide) ?_
            exact ih19 (i19 + 1) (w75.1, w75.2, w51.2) (by omega) (by exact hw51) (hR.trans (congrArg (fun z => x_nextSight_e19 (itR x_nextSight_b19 (i19 + 1) k z)) hB19)) _ _ _ hE (lv_sub hl [1, 2, 3, 0] rfl)
          refine lv_icmp_le (tgt := 75) hx hb dX0_nextSight_56 (by decide) (fun c56 => ?_) (fun c56 => ?_)
          · have hB19 : x_nextSight_b19 i19 w19 = x_nextSight_j75 w51 (w19.1, w19.2.1) := hB19.trans (congrArg (fun z => x_nextSight_j75 w51 z) (if_pos c56))
            exact hJ75 (w19.1, w19.2.1)  hB19 _ _ _ hE (lv_sub hl [1, 2, 3, 4] rfl)
          · have hB19 : x_nextSight_b19 i19 w19 = x_nextSight_j75 w51 ((((10 : Int32) * ((nI i19) / (8 : Int32))) + ((nI i19) - (nI i19) / (8 : Int32) * (8 : Int32))), w51.1) := hB19.trans (congrArg (fun z => x_nextSight_j75 w51 z) (if_neg c56))
            refine lv_bipush (v := 10) hx hb dX0_nextSight_59 rfl ?_
            refine lv_iload_n hx hb dX0_nextSight_61 rfl (lv_at hl 4 rfl) ?_
            refine lv_bipush (v := 8) hx hb dX0_nextSight_62 rfl ?_
            refine lv_idiv hx hb dX0_nextSight_64 (by decide) ?_
            refine lv_imul hx hb dX0_nextSight_65 ?_
            refine lv_iload_n hx hb dX0_nextSight_66 rfl (lv_at hl 4 rfl) ?_
            refine lv_bipush (v := 8) hx hb dX0_nextSight_67 rfl ?_
            refine lv_irem hx hb dX0_nextSight_69 (by decide) ?_
            refine lv_iadd hx hb dX0_nextSight_70 ?_
            refine lv_istore_n (lv' := [(1, .int (((10 : Int32) * ((nI i19) / (8 : Int32))) + ((nI i19) - (nI i19) / (8 : Int32) * (8 : Int32)))), (4, .int w51.1), (0, .ref x), (2, .int w19.2.1), (3, .int (nI i19))]) hx hb dX0_nextSight_71 rfl hl (by decide) rfl (fun ls hl => ?_)
            refine lv_iload hx hb dX0_nextSight_72 (lv_at hl 1 rfl) ?_
            refine lv_istore_n (lv' := [(2, .int w51.1), (1, .int (((10 : Int32) * ((nI i19) / (8 : Int32))) + ((nI i19) - (nI i19) / (8 : Int32) * (8 : Int32)))), (4, .int w51.1), (0, .ref x), (3, .int (nI i19))]) hx hb dX0_nextSight_74 rfl hl (by decide) rfl (fun ls hl => ?_)
            exact hJ75 ((((10 : Int32) * ((nI i19) / (8 : Int32))) + ((nI i19) - (nI i19) / (8 : Int32) * (8 : Int32))), w51.1)  hB19 _ _ _ hE (lv_sub hl [3, 1, 0, 4] rfl)
        refine lv_if_ne (tgt := 38) hx hb dX0_nextSight_31 (by decide) (fun c31 => ?_) (fun c31 => ?_)
        · have hB19 : x_nextSight_b19 i19 w19 = x_nextSight_j51 i19 w19 (x_nextSight_c41 i19 (x_end i19 (1 : Int32) w19.2.2)) := hB19.trans (congrArg (fun z => x_nextSight_j51 i19 w19 z) (if_neg c31))
          refine lv_aload_n hx hb dX0_nextSight_38 rfl (lv_at hl 0 rfl) ?_
          refine lv_iload_n hx hb dX0_nextSight_39 rfl (lv_at hl 3 rfl) ?_
          refine lv_iconst (v := 1) hx hb dX0_nextSight_40 rfl ?_
          refine call_x_end hx hb hml hown hts hK hA hE hl.1 i19 (1 : Int32) (by omega) (hq19) (lz (show 4 ≤ 4 by decide) hRf) (lz (show 102 ≤ 102 by decide) hRl) (Nat.le_of_ble_eq_true rfl) dX0_nextSight_41 ⟨Nat.zero_le _, Nat.zero_le _⟩ (fun H locs hE => ?_)
          have hNc41 : ∀ (wc41 : Int32 × ZT) (hewc41 : wc41 = x_end i19 (1 : Int32) w19.2.2) (hB19 : x_nextSight_b19 i19 w19 = x_nextSight_j51 i19 w19 (x_nextSight_c41 i19 wc41)), ∀ (H : Heap) (locs : List Loc) (ls : Array Slot), EW D A s.heap (WX x ar cs wc41.2 B Y) H locs → lv_has ls 5 [(0, .ref x), (1, .int w19.1), (2, .int w19.2.1), (3, .int (nI i19))] → W p l e R s mid args below meth c H locs 0 0 Q (F0 mid 44 ls [.int wc41.1]) := by
            intro wc41 hewc41 hB19 H locs ls hE hl
            have hB19 : x_nextSight_b19 i19 w19 = x_nextSight_j51 i19 w19 (x_nextSight_c47 wc41 (x_end i19 (0 : Int32) wc41.2)) := hB19
            refine lv_aload_n hx hb dX0_nextSight_44 rfl (lv_at hl 0 rfl) ?_
            refine lv_iload_n hx hb dX0_nextSight_45 rfl (lv_at hl 3 rfl) ?_
            refine lv_iconst (v := 0) hx hb dX0_nextSight_46 rfl ?_
            refine call_x_end hx hb hml hown hts hK hA hE hl.1 i19 (0 : Int32) (by omega) (by rw [hewc41, end_same]; exact hq19) (lz (show 4 ≤ 4 by decide) hRf) (lz (show 102 ≤ 102 by decide) hRl) (Nat.le_of_ble_eq_true rfl) dX0_nextSight_47 ⟨Nat.zero_le _, Nat.zero_le _⟩ (fun H locs hE => ?_)
            have hNc47 : ∀ (wc47 : Int32 × ZT) (hewc47 : wc47 = x_end i19 (0 : Int32) wc41.2) (hB19 : x_nextSight_b19 i19 w19 = x_nextSight_j51 i19 w19 (x_nextSight_c47 wc41 wc47)), ∀ (H : Heap) (locs : List Loc) (ls : Array Slot), EW D A s.heap (WX x ar cs wc47.2 B Y) H locs → lv_has ls 5 [(0, .ref x), (1, .int w19.1), (2, .int w19.2.1), (3, .int (nI i19))] → W p l e R s mid args below meth c H locs 0 0 Q (F0 mid 50 ls [.int wc47.1, .int wc41.1]) := by
              intro wc47 hewc47 hB19 H locs ls hE hl
              have hB19 : x_nextSight_b19 i19 w19 = x_nextSight_j51 i19 w19 ((wc41.1 - wc47.1), wc47.2) := hB19
              refine lv_isub hx hb dX0_nextSight_50 ?_
              exact hJ51 ((wc41.1 - wc47.1), wc47.2)  (by first | exact hq19 | (rw [hewc47, end_same, hewc41, end_same]; exact hq19)) hB19 _ _ _ hE (lv_sub hl [0, 1, 2, 3] rfl)
            exact hNc47 (x_end i19 (0 : Int32) wc41.2) rfl hB19 _ _ _ hE (lv_sub hl [0, 1, 2, 3] rfl)
          exact hNc41 (x_end i19 (1 : Int32) w19.2.2) rfl hB19 _ _ _ hE (lv_sub hl [0, 1, 2, 3] rfl)
        · have hB19 : x_nextSight_b19 i19 w19 = x_nextSight_j51 i19 w19 ((0 : Int32), w19.2.2) := hB19.trans (congrArg (fun z => x_nextSight_j51 i19 w19 z) (if_pos c31))
          refine lv_iconst (v := 0) hx hb dX0_nextSight_34 rfl ?_
          refine lv_goto (tgt := 51) hx hb dX0_nextSight_35 (by decide) ?_
          exact hJ51 ((0 : Int32), w19.2.2)  (by first | exact hq19 | (rw [hewc47, end_same, hewc41, end_same]; exact hq19)) hB19 _ _ _ hE (lv_sub hl [0, 1, 2, 3] rfl)
    exact hL19 64 0 ((-9 : Int32), (0 : Int32), Z) (by omega) (by exact hL) hR _ _ _ hE (lv_sub hl [3, 2, 1, 0] rfl)
  · have hR : x_nextSight Z = ((-9 : Int32), Z) := hR.trans (congrArg (fun z => z) (if_neg c6))
    refine lv_bipush (v := -9) hx hb dX0_nextSight_9 rfl ?_
    exact hret (-9 : Int32) Z hR rfl hE (Nat.le_refl 0) (Nat.le_refl 0) dX0_nextSight_11
def x_effect_k45 (Z : ZT) : Int32 × ZT := (x_met 1 Z)
def x_effect (p1 : Int32) (p2 : Int32) (p3 : Int32) (Z : ZT) : Int32 × ZT := (if (x_isBeing p1) = 0 then ((-1 : Int32), Z) else (if (x_isBeing p2) = 0 then ((-1 : Int32), Z) else (if (x_isIn p3 (-20 : Int32) (20 : Int32)) = 0 then ((-1 : Int32), Z) else (if Z.1 30 (ix p1) = 0 then x_effect_k45 Z else (if Z.1 30 (ix p2) = 0 then x_effect_k45 Z else ((1 : Int32), sI (sI Z 2 0 (Z.1 14 (8 * (ix p1) + (ix p2)))) 14 (8 * (ix p1) + (ix p2)) p3))))))
set_option maxHeartbeats 4000000 in
set_option maxRecDepth 100000 in
theorem met_x_effect (l : Launch) (D : va_G) (cs : Nat → ClassId) (x : Nat) (ar : Nat → Nat) (B : BT) (Y : va_W) (Z : ZT) (sz : Nat) (p1 : Int32) (p2 : Int32) (p3 : Int32) : Met l yX0_effect (ws_ yX0_effect cX0_effect 4 (some .int)) ({ frames := 2, cells := 0, slots := 0, locals := 42 }) (va_Pc [.ref x, .int p1, .int p2, .int p3] (wSt D cs (WX x ar cs Z B Y) sz)) (cQi (fun (v : Int32) (u : ZT) => x_effect p1 p2 p3 Z = (v, u)) D (fun u => (WX x ar cs u B Y)) (WX x ar cs Z B Y) sz) 0 0 (va_A (WX x ar cs Z B Y) sz) := by
  refine gStart_i (C := RX0) rfl rfl (Nat.le_of_ble_eq_true rfl) ?_
  intro p e s mid args below meth c R Q A hx hb hml hown hts hK hA hRf hRl hRc hRs hret hE ls hl
  have hRf : 2 ≤ R.frames := hRf
  have hRl : 42 ≤ R.locals := hRl
  have hl : lv_has ls 4 [(0, .ref x), (1, .int p1), (2, .int p2), (3, .int p3)] := hl
  have hR : x_effect p1 p2 p3 Z = (if (x_isBeing p1) = 0 then ((-1 : Int32), Z) else (if (x_isBeing p2) = 0 then ((-1 : Int32), Z) else (if (x_isIn p3 (-20 : Int32) (20 : Int32)) = 0 then ((-1 : Int32), Z) else (if Z.1 30 (ix p1) = 0 then x_effect_k45 Z else (if Z.1 30 (ix p2) = 0 then x_effect_k45 Z else ((1 : Int32), sI (sI Z 2 0 (Z.1 14 (8 * (ix p1) + (ix p2)))) 14 (8 * (ix p1) + (ix p2)) p3)))))) := rfl
  refine lv_iload_n hx hb dX0_effect_0 rfl (lv_at hl 1 rfl) ?_
  refine call_x_isBeing hx hb hml hown hts hK hA hE hl.1 p1 (lz (show 2 ≤ 2 by decide) hRf) (lz (show 42 ≤ 42 by decide) hRl) (Nat.le_of_ble_eq_true rfl) dX0_effect_1 ⟨Nat.zero_le _, Nat.zero_le _⟩ (fun H locs hE => ?_)
  refine lv_if_eq (tgt := 25) hx hb dX0_effect_4 (by decide) (fun c4 => ?_) (fun c4 => ?_)
  · have hR : x_effect p1 p2 p3 Z = ((-1 : Int32), Z) := hR.trans (congrArg (fun z => z) (if_pos c4))
    refine lv_iconst (v := -1) hx hb dX0_effect_25 rfl ?_
    exact hret (-1 : Int32) Z hR rfl hE (Nat.le_refl 0) (Nat.le_refl 0) dX0_effect_26
  · have hR : x_effect p1 p2 p3 Z = (if (x_isBeing p2) = 0 then ((-1 : Int32), Z) else (if (x_isIn p3 (-20 : Int32) (20 : Int32)) = 0 then ((-1 : Int32), Z) else (if Z.1 30 (ix p1) = 0 then x_effect_k45 Z else (if Z.1 30 (ix p2) = 0 then x_effect_k45 Z else ((1 : Int32), sI (sI Z 2 0 (Z.1 14 (8 * (ix p1) + (ix p2)))) 14 (8 * (ix p1) + (ix p2)) p3))))) := hR.trans (congrArg (fun z => z) (if_neg c4))
    refine lv_iload_n hx hb dX0_effect_7 rfl (lv_at hl 2 rfl) ?_
    refine call_x_isBeing hx hb hml hown hts hK hA hE hl.1 p2 (lz (show 2 ≤ 2 by decide) hRf) (lz (show 42 ≤ 42 by decide) hRl) (Nat.le_of_ble_eq_true rfl) dX0_effect_8 ⟨Nat.zero_le _, Nat.zero_le _⟩ (fun H locs hE => ?_)
    refine lv_if_eq (tgt := 25) hx hb dX0_effect_11 (by decide) (fun c11 => ?_) (fun c11 => ?_)
    · have hR : x_effect p1 p2 p3 Z = ((-1 : Int32), Z) := hR.trans (congrArg (fun z => z) (if_pos c11))
      refine lv_iconst (v := -1) hx hb dX0_effect_25 rfl ?_
      exact hret (-1 : Int32) Z hR rfl hE (Nat.le_refl 0) (Nat.le_refl 0) dX0_effect_26
    · have hR : x_effect p1 p2 p3 Z = (if (x_isIn p3 (-20 : Int32) (20 : Int32)) = 0 then ((-1 : Int32), Z) else (if Z.1 30 (ix p1) = 0 then x_effect_k45 Z else (if Z.1 30 (ix p2) = 0 then x_effect_k45 Z else ((1 : Int32), sI (sI Z 2 0 (Z.1 14 (8 * (ix p1) + (ix p2)))) 14 (8 * (ix p1) + (ix p2)) p3)))) := hR.trans (congrArg (fun z => z) (if_neg c11))
      refine lv_iload_n hx hb dX0_effect_14 rfl (lv_at hl 3 rfl) ?_
      refine lv_bipush (v := -20) hx hb dX0_effect_15 rfl ?_
      refine lv_bipush (v := 20) hx hb dX0_effect_17 rfl ?_
      refine call_x_isIn hx hb hml hown hts hK hA hE hl.1 p3 (-20 : Int32) (20 : Int32) (lz (show 1 ≤ 2 by decide) hRf) (lz (show 22 ≤ 42 by decide) hRl) (Nat.le_of_ble_eq_true rfl) dX0_effect_19 ⟨Nat.zero_le _, Nat.zero_le _⟩ (fun H locs hE => ?_)
      refine lv_if_ne (tgt := 27) hx hb dX0_effect_22 (by decide) (fun c22 => ?_) (fun c22 => ?_)
      · have hR : x_effect p1 p2 p3 Z = (if Z.1 30 (ix p1) = 0 then x_effect_k45 Z else (if Z.1 30 (ix p2) = 0 then x_effect_k45 Z else ((1 : Int32), sI (sI Z 2 0 (Z.1 14 (8 * (ix p1) + (ix p2)))) 14 (8 * (ix p1) + (ix p2)) p3))) := hR.trans (congrArg (fun z => z) (if_neg c22))
        have hnp1 := vp_ix (x := p1) (N := 8) (xBe_vp c4) (by decide)
        have hbnp1 := hnp1.2
        have hnp2 := vp_ix (x := p2) (N := 8) (xBe_vp c11) (by decide)
        have hbnp2 := hnp2.2
        refine lv_aload_n hx hb dX0_effect_27 rfl (lv_at hl 0 rfl) ?_
        refine xg_10 hx hb hts hown hK hE dX0_effect_28 ?_
        refine lv_iload_n hx hb dX0_effect_31 rfl (lv_at hl 1 rfl) ?_
        refine top_nat hnp1.1 ?_
        refine xa_10 (n := (ix p1)) (by omega) hx hb hK hE dX0_effect_32 ?_
        have hJ45 : ∀ (hR : x_effect p1 p2 p3 Z = x_effect_k45 Z), ∀ (H : Heap) (locs : List Loc) (ls : Array Slot), EW D A s.heap (WX x ar cs Z B Y) H locs → lv_has ls 4 [(0, .ref x)] → W p l e R s mid args below meth c H locs 0 0 Q (F0 mid 45 ls []) := by
          intro hR H locs ls hE hl
          have hR : x_effect p1 p2 p3 Z = (x_met 1 Z) := hR
          refine lv_aload_n hx hb dX0_effect_45 rfl (lv_at hl 0 rfl) ?_
          refine lv_iconst (v := 1) hx hb dX0_effect_46 rfl ?_
          refine call_x_met hx hb hml hown hts hK hA hE hl.1 1 (by omega) (lz (show 1 ≤ 2 by decide) hRf) (lz (show 21 ≤ 42 by decide) hRl) (Nat.le_of_ble_eq_true rfl) dX0_effect_47 ⟨Nat.zero_le _, Nat.zero_le _⟩ (fun H locs hE => ?_)
          exact hret ((x_met 1 Z).1) ((x_met 1 Z).2) hR rfl hE (Nat.le_refl 0) (Nat.le_refl 0) dX0_effect_50
        refine xnn_be (b := (ix p1)) (tgt := 45) hx hb dX0_effect_33 (by decide) (fun c33 => ?_) (fun c33 => ?_)
        · have hR : x_effect p1 p2 p3 Z = (x_effect_k45 Z) := hR.trans (congrArg (fun z => z) (if_pos c33))
          exact hJ45  hR _ _ _ hE (lv_sub hl [0] rfl)
        · have hR : x_effect p1 p2 p3 Z = (if Z.1 30 (ix p2) = 0 then x_effect_k45 Z else ((1 : Int32), sI (sI Z 2 0 (Z.1 14 (8 * (ix p1) + (ix p2)))) 14 (8 * (ix p1) + (ix p2)) p3)) := hR.trans (congrArg (fun z => z) (if_neg c33))
          refine lv_aload_n hx hb dX0_effect_36 rfl (lv_at hl 0 rfl) ?_
          refine xg_10 hx hb hts hown hK hE dX0_effect_37 ?_
          refine lv_iload_n hx hb dX0_effect_40 rfl (lv_at hl 2 rfl) ?_
          refine top_nat hnp2.1 ?_
          refine xa_10 (n := (ix p2)) (by omega) hx hb hK hE dX0_effect_41 ?_
          refine xnw_be (b := (ix p2)) (tgt := 51) hx hb dX0_effect_42 (by decide) (fun c42 => ?_) (fun c42 => ?_)
          · have hR : x_effect p1 p2 p3 Z = ((1 : Int32), sI (sI Z 2 0 (Z.1 14 (8 * (ix p1) + (ix p2)))) 14 (8 * (ix p1) + (ix p2)) p3) := hR.trans (congrArg (fun z => z) (if_neg c42))
            refine lv_aload_n hx hb dX0_effect_51 rfl (lv_at hl 0 rfl) ?_
            refine lv_aload_n hx hb dX0_effect_52 rfl (lv_at hl 0 rfl) ?_
            refine xg_14 hx hb hts hown hK hE dX0_effect_53 ?_
            refine lv_iload_n hx hb dX0_effect_56 rfl (lv_at hl 1 rfl) ?_
            refine top_nat hnp1.1 ?_
            refine lv_iload_n hx hb dX0_effect_57 rfl (lv_at hl 2 rfl) ?_
            refine top_nat hnp2.1 ?_
            refine call_x_pair hx hb hml hown hts hK hA hE hl.1 (ix p1) (ix p2) (lz (show 1 ≤ 2 by decide) hRf) (lz (show 21 ≤ 42 by decide) hRl) (Nat.le_of_ble_eq_true rfl) dX0_effect_58 ⟨Nat.zero_le _, Nat.zero_le _⟩ (fun H locs hE => ?_)
            refine xa_14 (n := (8 * (ix p1) + (ix p2))) (by omega) hx hb hK hE dX0_effect_61 ?_
            refine xp_2 hx hb hts hown hK hE dX0_effect_62 (fun H locs hE => ?_)
            refine lv_aload_n hx hb dX0_effect_65 rfl (lv_at hl 0 rfl) ?_
            refine xg_14 hx hb hts hown hK hE dX0_effect_66 ?_
            refine lv_iload_n hx hb dX0_effect_69 rfl (lv_at hl 1 rfl) ?_
            refine top_nat hnp1.1 ?_
            refine lv_iload_n hx hb dX0_effect_70 rfl (lv_at hl 2 rfl) ?_
            refine top_nat hnp2.1 ?_
            refine call_x_pair hx hb hml hown hts hK hA hE hl.1 (ix p1) (ix p2) (lz (show 1 ≤ 2 by decide) hRf) (lz (show 21 ≤ 42 by decide) hRl) (Nat.le_of_ble_eq_true rfl) dX0_effect_71 ⟨Nat.zero_le _, Nat.zero_le _⟩ (fun H locs hE => ?_)
            refine lv_iload_n hx hb dX0_effect_74 rfl (lv_at hl 3 rfl) ?_
            refine xs_14 (n := (8 * (ix p1) + (ix p2))) (by omega) hx hb hK hE dX0_effect_75 (fun H locs hE => ?_)
            refine lv_iconst (v := 1) hx hb dX0_effect_76 rfl ?_
            exact hret (1 : Int32) (sI (sI Z 2 0 (Z.1 14 (8 * (ix p1) + (ix p2)))) 14 (8 * (ix p1) + (ix p2)) p3) hR rfl hE (Nat.le_refl 0) (Nat.le_refl 0) dX0_effect_77
          · have hR : x_effect p1 p2 p3 Z = (x_effect_k45 Z) := hR.trans (congrArg (fun z => z) (if_pos c42))
            exact hJ45  hR _ _ _ hE (lv_sub hl [0] rfl)
      · have hR : x_effect p1 p2 p3 Z = ((-1 : Int32), Z) := hR.trans (congrArg (fun z => z) (if_pos c22))
        refine lv_iconst (v := -1) hx hb dX0_effect_25 rfl ?_
        exact hret (-1 : Int32) Z hR rfl hE (Nat.le_refl 0) (Nat.le_refl 0) dX0_effect_26
