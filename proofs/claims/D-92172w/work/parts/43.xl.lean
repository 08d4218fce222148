/-! the component: methods with handlers -/
set_option maxRecDepth 100000
theorem adr_eq {Z Z' : ZT} {B : BT} {b : Nat} (h : Z'.1 30 = Z.1 30) : adr Z B b = adr Z' B b := by
  unfold adr
  rw [h]
theorem ix60 {v : Int32} (h : 0 ≤ v.toInt ∧ v.toInt ≤ 60) : ix v < 2 ^ 31 := by
  have e : (ix v : Int) = v.toInt := Int.toNat_of_nonneg h.1
  omega
theorem lay_lt {v i : Int32} (h : 0 ≤ v.toInt ∧ v.toInt ≤ 60) (hi : ¬ (i < 0 ∨ ix v ≤ ix i)) : ix i < 60 := by
  have e : (ix v : Int) = v.toInt := Int.toNat_of_nonneg h.1
  have := fun q => hi (Or.inr q)
  omega
def x_lay (p1 : Int32) (p2 : Int32) (p3 : Int32) (Z : ZT) : Int32 × ZT := (if (x_isText p1) = 0 then ((-1 : Int32), Z) else (if Z.1 40 (ix p1) = -1 then (x_met 1 Z) else (if (p2 < 0 ∨ ix (Z.1 40 (ix p1)) ≤ ix p2) then (x_met 2 Z) else (((1000 : Int32) + (Z.1 41 (60 * (ix p1) + ix p2))), sI Z 41 (60 * (ix p1) + ix p2) (vp_nar .byte p3.toInt8.toInt32)))))
set_option maxHeartbeats 4000000 in
set_option maxRecDepth 100000 in
theorem met_x_lay (l : Launch) (hl0 : l.stackTraces = false) (D : va_G) (cs : Nat → ClassId) (x : Nat) (ar : Nat → Nat) (B : BT) (Y : va_W) (Z : ZT) (sz : Nat) (p1 : Int32) (p2 : Int32) (p3 : Int32) (hT : TI Z) : Met l yX0_lay (wsW_ yX0_lay cX0_lay 5 (some .int) [(9, 35, 36, 90), (9, 35, 44, 92)]) ({ frames := 8, cells := 3, slots := 1010, locals := 10300 }) (va_Pc [.ref x, .int p1, .int p2, .int p3] (wStX D cs (WX x ar cs Z B Y) sz)) (cQi (fun (v : Int32) (u : ZT) => x_lay p1 p2 p3 Z = (v, u)) D (fun u => (WX x ar cs u B Y)) (WX x ar cs Z B Y) sz) 3 1010 (va_A (WX x ar cs Z B Y) sz) := by
  refine gStartX_i (C := RX0) rfl rfl (Nat.le_of_ble_eq_true rfl) ?_
  intro p e s mid args below meth c R Q A hx hb hml hown hts hK hA hRf hRl hRc hRs hlk htab hX0 hret hE ls hl
  have hRf : 8 ≤ R.frames := hRf
  have hRl : 10300 ≤ R.locals := hRl
  have hRc : 3 ≤ R.cells := hRc
  have hRs : 1010 ≤ R.slots := hRs
  have hl : lv_has ls 5 [(0, .ref x), (1, .int p1), (2, .int p2), (3, .int p3)] := hl
  have hR : x_lay p1 p2 p3 Z = (if (x_isText p1) = 0 then ((-1 : Int32), Z) else (if Z.1 40 (ix p1) = -1 then (x_met 1 Z) else (if (p2 < 0 ∨ ix (Z.1 40 (ix p1)) ≤ ix p2) then (x_met 2 Z) else (((1000 : Int32) + (Z.1 41 (60 * (ix p1) + ix p2))), sI Z 41 (60 * (ix p1) + ix p2) (vp_nar .byte p3.toInt8.toInt32))))) := rfl
  refine lv_iload_n hx hb dX0_lay_0 rfl (lv_at hl 1 rfl) ?_
  refine call_x_isText hx hb hml hown hts hK hA hE hl.1 p1 (lz (show 2 ≤ 8 by decide) hRf) (lz (show 42 ≤ 10300 by decide) hRl) (Nat.le_of_ble_eq_true rfl) dX0_lay_1 ⟨by omega, by omega⟩ (fun H locs hE => ?_)
  refine lv_if_ne (tgt := 9) hx hb dX0_lay_4 (by decide) (fun c4 => ?_) (fun c4 => ?_)
  · have hR : x_lay p1 p2 p3 Z = (if Z.1 40 (ix p1) = -1 then (x_met 1 Z) else (if (p2 < 0 ∨ ix (Z.1 40 (ix p1)) ≤ ix p2) then (x_met 2 Z) else (((1000 : Int32) + (Z.1 41 (60 * (ix p1) + ix p2))), sI Z 41 (60 * (ix p1) + ix p2) (vp_nar .byte p3.toInt8.toInt32)))) := hR.trans (congrArg (fun z => z) (if_neg c4))
    have hnp1 := vp_ix (x := p1) (N := 4) (xTx_vp c4) (by decide)
    have hbnp1 := hnp1.2
    refine lv_aload_n hx hb dX0_lay_9 rfl (lv_at hl 0 rfl) ?_
    refine xg_6 hx hb hts hown hK hE dX0_lay_10 ?_
    refine lv_iload_n hx hb dX0_lay_13 rfl (lv_at hl 1 rfl) ?_
    refine top_nat hnp1.1 ?_
    refine xa_6 (n := (ix p1)) (by omega) hx hb hK hE dX0_lay_14 ?_
    refine lv_iload_n hx hb dX0_lay_15 rfl (lv_at hl 2 rfl) ?_
    by_cases t16_0 : Z.1 40 (ix p1) = -1
    · have hR : x_lay p1 p2 p3 Z = (x_met 1 Z) := hR.trans (congrArg (fun z => z) (if_pos t16_0))
      rw [adt_no t16_0]
      refine vx_baloadN hx hb dX0_lay_16 ?_
      refine xh_N hx hl0 hml hown hts hX0 hE hl.1 hlk htab (tableOf []) ⟨9, 35, 36, 90⟩ (tableOf [(9, 35, 44, 92)]) rfl (by decide +kernel) (by decide +kernel) rfl (by omega) (by show 0 + 10240 ≤ R.locals; omega) (by omega) (by omega) (fun H q9 hE => ?_)
      refine lv_astore (lv' := [(4, .ref q9), (0, .ref x), (1, .int p1), (2, .int p2), (3, .int p3)]) hx hb dX0_lay_36 hl (by decide) rfl (fun ls hl => ?_)
      refine lv_aload_n hx hb dX0_lay_38 rfl (lv_at hl 1 rfl) ?_
      refine lv_iconst (v := 1) hx hb dX0_lay_39 rfl ?_
      refine call_x_met hx hb hml hown hts hK hA hE hl.1 1 (by omega) (lz (show 1 ≤ 8 by decide) hRf) (lz (show 21 ≤ 10300 by decide) hRl) (Nat.le_of_ble_eq_true rfl) dX0_lay_40 ⟨by omega, by omega⟩ (fun H locs hE => ?_)
      exact hret ((x_met 1 Z).1) ((x_met 1 Z).2) hR rfl hE (by omega) (by omega) dX0_lay_43
    · have hR : x_lay p1 p2 p3 Z = (if (p2 < 0 ∨ ix (Z.1 40 (ix p1)) ≤ ix p2) then (x_met 2 Z) else (((1000 : Int32) + (Z.1 41 (60 * (ix p1) + ix p2))), sI Z 41 (60 * (ix p1) + ix p2) (vp_nar .byte p3.toInt8.toInt32))) := hR.trans (congrArg (fun z => z) (if_neg t16_0))
      by_cases t16_1 : (p2 < 0 ∨ ix (Z.1 40 (ix p1)) ≤ ix p2)
      · have hR : x_lay p1 p2 p3 Z = (x_met 2 Z) := hR.trans (congrArg (fun z => z) (if_pos t16_1))
        obtain ⟨k9, hk9, -⟩ := tx_at (x := x) (ar := ar) (cs := cs) (Z := Z) (B := B) (Y := Y) hbnp1 t16_0
        rw [adt_of t16_0]
        refine vx_baldZ hx hb hK.1 hE.1 k9 2 hk9 rfl (fun q => q t16_1) dX0_lay_16 (fun tx htx => ?_)
        subst htx
        refine xh_AI (index_text_modelled _ _) (index_text_bytes _ (ix60 ((hT _ hbnp1).resolve_left t16_0))) hx hl0 hml hown hts hX0 hE hl.1 hlk htab (tableOf [(9, 35, 36, 90)]) ⟨9, 35, 44, 92⟩ (tableOf []) rfl (by decide +kernel) (by decide +kernel) rfl (by omega) (by show 0 + 10240 ≤ R.locals; omega) (by omega) (by omega) (fun H q9 hE => ?_)
        refine lv_astore (lv' := [(4, .ref q9), (0, .ref x), (1, .int p1), (2, .int p2), (3, .int p3)]) hx hb dX0_lay_44 hl (by decide) rfl (fun ls hl => ?_)
        refine lv_aload_n hx hb dX0_lay_46 rfl (lv_at hl 1 rfl) ?_
        refine lv_iconst (v := 2) hx hb dX0_lay_47 rfl ?_
        refine call_x_met hx hb hml hown hts hK hA hE hl.1 2 (by omega) (lz (show 1 ≤ 8 by decide) hRf) (lz (show 21 ≤ 10300 by decide) hRl) (Nat.le_of_ble_eq_true rfl) dX0_lay_48 ⟨by omega, by omega⟩ (fun H locs hE => ?_)
        exact hret ((x_met 2 Z).1) ((x_met 2 Z).2) hR rfl hE (by omega) (by omega) dX0_lay_51
      · have hR : x_lay p1 p2 p3 Z = (((1000 : Int32) + (Z.1 41 (60 * (ix p1) + ix p2))), sI Z 41 (60 * (ix p1) + ix p2) (vp_nar .byte p3.toInt8.toInt32)) := hR.trans (congrArg (fun z => z) (if_neg t16_1))
        refine xta (t := (ix p1)) (i := p2) (hbnp1) (t16_0) (t16_1) (lay_lt ((hT _ hbnp1).resolve_left t16_0) t16_1) hx hb hK hE dX0_lay_16 ?_
        refine lv_istore (lv' := [(4, .int (Z.1 41 (60 * (ix p1) + ix p2))), (0, .ref x), (1, .int p1), (2, .int p2), (3, .int p3)]) hx hb dX0_lay_17 hl (by decide) rfl (fun ls hl => ?_)
        refine lv_aload_n hx hb dX0_lay_19 rfl (lv_at hl 1 rfl) ?_
        refine xg_6 hx hb hts hown hK hE dX0_lay_20 ?_
        refine lv_iload_n hx hb dX0_lay_23 rfl (lv_at hl 2 rfl) ?_
        refine top_nat hnp1.1 ?_
        refine xa_6 (n := (ix p1)) (by omega) hx hb hK hE dX0_lay_24 ?_
        refine lv_iload_n hx hb dX0_lay_25 rfl (lv_at hl 3 rfl) ?_
        refine lv_iload_n hx hb dX0_lay_26 rfl (lv_at hl 4 rfl) ?_
        refine lv_i2b hx hb dX0_lay_27 rfl ?_
        refine xts (t := (ix p1)) (i := p2) (hbnp1) (t16_0) (t16_1) (lay_lt ((hT _ hbnp1).resolve_left t16_0) t16_1) hx hb hK hE dX0_lay_28 (fun H locs hE => ?_)
        refine lv_sipush (v := 1000) hx hb dX0_lay_29 rfl ?_
        refine lv_iload hx hb dX0_lay_32 (lv_at hl 0 rfl) ?_
        refine lv_iadd hx hb dX0_lay_34 ?_
        exact hret ((1000 : Int32) + (Z.1 41 (60 * (ix p1) + ix p2))) (sI Z 41 (60 * (ix p1) + ix p2) (vp_nar .byte p3.toInt8.toInt32)) hR rfl hE (by omega) (by omega) dX0_lay_35
  · have hR : x_lay p1 p2 p3 Z = ((-1 : Int32), Z) := hR.trans (congrArg (fun z => z) (if_pos c4))
    refine lv_iconst (v := -1) hx hb dX0_lay_7 rfl ?_
    exact hret (-1 : Int32) Z hR rfl hE (by omega) (by omega) dX0_lay_8
def x_burn (p1 : Int32) (Z : ZT) : Int32 × ZT := (if (x_isText p1) = 0 then ((-1 : Int32), Z) else (if Z.1 40 (ix p1) = -1 then (x_met 1 Z) else ((1 : Int32), sI Z 40 (ix p1) (-1))))
set_option maxHeartbeats 4000000 in
set_option maxRecDepth 100000 in
theorem met_x_burn (l : Launch) (hl0 : l.stackTraces = false) (D : va_G) (cs : Nat → ClassId) (x : Nat) (ar : Nat → Nat) (B : BT) (Y : va_W) (Z : ZT) (sz : Nat) (p1 : Int32) (hT : TI Z) : Met l yX0_burn (wsW_ yX0_burn cX0_burn 3 (some .int) [(9, 25, 26, 90)]) ({ frames := 8, cells := 3, slots := 1010, locals := 10300 }) (va_Pc [.ref x, .int p1] (wStX D cs (WX x ar cs Z B Y) sz)) (cQi (fun (v : Int32) (u : ZT) => x_burn p1 Z = (v, u)) D (fun u => (WX x ar cs u B Y)) (WX x ar cs Z B Y) sz) 3 1010 (va_A (WX x ar cs Z B Y) sz) := by
  refine gStartX_i (C := RX0) rfl rfl (Nat.le_of_ble_eq_true rfl) ?_
  intro p e s mid args below meth c R Q A hx hb hml hown hts hK hA hRf hRl hRc hRs hlk htab hX0 hret hE ls hl
  have hRf : 8 ≤ R.frames := hRf
  have hRl : 10300 ≤ R.locals := hRl
  have hRc : 3 ≤ R.cells := hRc
  have hRs : 1010 ≤ R.slots := hRs
  have hl : lv_has ls 3 [(0, .ref x), (1, .int p1)] := hl
  have hR : x_burn p1 Z = (if (x_isText p1) = 0 then ((-1 : Int32), Z) else (if Z.1 40 (ix p1) = -1 then (x_met 1 Z) else ((1 : Int32), sI Z 40 (ix p1) (-1)))) := rfl
  refine lv_iload_n hx hb dX0_burn_0 rfl (lv_at hl 1 rfl) ?_
  refine call_x_isText hx hb hml hown hts hK hA hE hl.1 p1 (lz (show 2 ≤ 8 by decide) hRf) (lz (show 42 ≤ 10300 by decide) hRl) (Nat.le_of_ble_eq_true rfl) dX0_burn_1 ⟨by omega, by omega⟩ (fun H locs hE => ?_)
  refine lv_if_ne (tgt := 9) hx hb dX0_burn_4 (by decide) (fun c4 => ?_) (fun c4 => ?_)
  · have hR : x_burn p1 Z = (if Z.1 40 (ix p1) = -1 then (x_met 1 Z) else ((1 : Int32), sI Z 40 (ix p1) (-1))) := hR.trans (congrArg (fun z => z) (if_neg c4))
    have hnp1 := vp_ix (x := p1) (N := 4) (xTx_vp c4) (by decide)
    have hbnp1 := hnp1.2
    refine lv_aload_n hx hb dX0_burn_9 rfl (lv_at hl 0 rfl) ?_
    refine xg_6 hx hb hts hown hK hE dX0_burn_10 ?_
    refine lv_iload_n hx hb dX0_burn_13 rfl (lv_at hl 1 rfl) ?_
    refine top_nat hnp1.1 ?_
    refine xa_6 (n := (ix p1)) (by omega) hx hb hK hE dX0_burn_14 ?_
    by_cases t15_0 : Z.1 40 (ix p1) = -1
    · have hR : x_burn p1 Z = (x_met 1 Z) := hR.trans (congrArg (fun z => z) (if_pos t15_0))
      rw [adt_no t15_0]
      refine vx_arraylengthN hx hb dX0_burn_15 ?_
      refine xh_N hx hl0 hml hown hts hX0 hE hl.1 hlk htab (tableOf []) ⟨9, 25, 26, 90⟩ (tableOf []) rfl (by decide +kernel) (by decide +kernel) rfl (by omega) (by show 0 + 10240 ≤ R.locals; omega) (by omega) (by omega) (fun H q9 hE => ?_)
      refine lv_astore_n (lv' := [(2, .ref q9), (0, .ref x), (1, .int p1)]) hx hb dX0_burn_26 rfl hl (by decide) rfl (fun ls hl => ?_)
      refine lv_aload_n hx hb dX0_burn_27 rfl (lv_at hl 1 rfl) ?_
      refine lv_iconst (v := 1) hx hb dX0_burn_28 rfl ?_
      refine call_x_met hx hb hml hown hts hK hA hE hl.1 1 (by omega) (lz (show 1 ≤ 8 by decide) hRf) (lz (show 21 ≤ 10300 by decide) hRl) (Nat.le_of_ble_eq_true rfl) dX0_burn_29 ⟨by omega, by omega⟩ (fun H locs hE => ?_)
      exact hret ((x_met 1 Z).1) ((x_met 1 Z).2) hR rfl hE (by omega) (by omega) dX0_burn_32
    · have hR : x_burn p1 Z = ((1 : Int32), sI Z 40 (ix p1) (-1)) := hR.trans (congrArg (fun z => z) (if_neg t15_0))
      refine xtl (t := (ix p1)) (hbnp1) (t15_0) (((hT _ hbnp1).resolve_left t15_0).1) hx hb hK hE dX0_burn_15 ?_
      refine lv_istore_n (lv' := [(2, .int (Z.1 40 (ix p1))), (0, .ref x), (1, .int p1)]) hx hb dX0_burn_16 rfl hl (by decide) rfl (fun ls hl => ?_)
      refine lv_aload_n hx hb dX0_burn_17 rfl (lv_at hl 1 rfl) ?_
      refine xg_6 hx hb hts hown hK hE dX0_burn_18 ?_
      refine lv_iload_n hx hb dX0_burn_21 rfl (lv_at hl 2 rfl) ?_
      refine top_nat hnp1.1 ?_
      refine lv_null hx hb dX0_burn_22 ?_
      refine xtn (n := (ix p1)) (by omega) hx hb hK hE dX0_burn_23 (fun H locs hE => ?_)
      refine lv_iconst (v := 1) hx hb dX0_burn_24 rfl ?_
      exact hret (1 : Int32) (sI Z 40 (ix p1) (-1)) hR rfl hE (by omega) (by omega) dX0_burn_25
  · have hR : x_burn p1 Z = ((-1 : Int32), Z) := hR.trans (congrArg (fun z => z) (if_pos c4))
    refine lv_iconst (v := -1) hx hb dX0_burn_7 rfl ?_
    exact hret (-1 : Int32) Z hR rfl hE (by omega) (by omega) dX0_burn_8
def x_drop_c21 (wc21 : ZT) : Int32 × ZT := ((1 : Int32), wc21)
def x_drop (p1 : Int32) (Z : ZT) : Int32 × ZT := (if (x_isBeing p1) = 0 then ((-1 : Int32), Z) else (if Z.1 30 (ix p1) = 0 then (x_met 1 Z) else x_drop_c21 (x_clear (ix p1) Z)))
set_option maxHeartbeats 4000000 in
set_option maxRecDepth 100000 in
theorem met_x_drop (l : Launch) (hl0 : l.stackTraces = false) (D : va_G) (cs : Nat → ClassId) (x : Nat) (ar : Nat → Nat) (B : BT) (Y : va_W) (Z : ZT) (sz : Nat) (p1 : Int32) : Met l yX0_drop (wsW_ yX0_drop cX0_drop 3 (some .int) [(9, 25, 26, 90)]) ({ frames := 8, cells := 3, slots := 1010, locals := 10300 }) (va_Pc [.ref x, .int p1] (wStX D cs (WX x ar cs Z B Y) sz)) (cQi (fun (v : Int32) (u : ZT) => x_drop p1 Z = (v, u)) D (fun u => (WX x ar cs u B Y)) (WX x ar cs Z B Y) sz) 3 1010 (va_A (WX x ar cs Z B Y) sz) := by
  refine gStartX_i (C := RX0) rfl rfl (Nat.le_of_ble_eq_true rfl) ?_
  intro p e s mid args below meth c R Q A hx hb hml hown hts hK hA hRf hRl hRc hRs hlk htab hX0 hret hE ls hl
  have hRf : 8 ≤ R.frames := hRf
  have hRl : 10300 ≤ R.locals := hRl
  have hRc : 3 ≤ R.cells := hRc
  have hRs : 1010 ≤ R.slots := hRs
  have hl : lv_has ls 3 [(0, .ref x), (1, .int p1)] := hl
  have hR : x_drop p1 Z = (if (x_isBeing p1) = 0 then ((-1 : Int32), Z) else (if Z.1 30 (ix p1) = 0 then (x_met 1 Z) else x_drop_c21 (x_clear (ix p1) Z))) := rfl
  refine lv_iload_n hx hb dX0_drop_0 rfl (lv_at hl 1 rfl) ?_
  refine call_x_isBeing hx hb hml hown hts hK hA hE hl.1 p1 (lz (show 2 ≤ 8 by decide) hRf) (lz (show 42 ≤ 10300 by decide) hRl) (Nat.le_of_ble_eq_true rfl) dX0_drop_1 ⟨by omega, by omega⟩ (fun H locs hE => ?_)
  refine lv_if_ne (tgt := 9) hx hb dX0_drop_4 (by decide) (fun c4 => ?_) (fun c4 => ?_)
  · have hR : x_drop p1 Z = (if Z.1 30 (ix p1) = 0 then (x_met 1 Z) else x_drop_c21 (x_clear (ix p1) Z)) := hR.trans (congrArg (fun z => z) (if_neg c4))
    have hnp1 := vp_ix (x := p1) (N := 8) (xBe_vp c4) (by decide)
    have hbnp1 := hnp1.2
    refine lv_aload_n hx hb dX0_drop_9 rfl (lv_at hl 0 rfl) ?_
    refine xg_10 hx hb hts hown hK hE dX0_drop_10 ?_
    refine lv_iload_n hx hb dX0_drop_13 rfl (lv_at hl 1 rfl) ?_
    refine top_nat hnp1.1 ?_
    refine xa_10 (n := (ix p1)) (by omega) hx hb hK hE dX0_drop_14 ?_
    by_cases t15_0 : Z.1 30 (ix p1) = 0
    · have hR : x_drop p1 Z = (x_met 1 Z) := hR.trans (congrArg (fun z => z) (if_pos t15_0))
      rw [adr_no t15_0]
      refine vx_invokeN (As := []) hx hb hown (hts _ q546) (hts _ q547) (hts _ q559) (hts _ q548) (by decide) (show _ = some 0 from by decide +kernel) dX0_drop_15 ?_ rfl
      refine xh_N hx hl0 hml hown hts hX0 hE hl.1 hlk htab (tableOf []) ⟨9, 25, 26, 90⟩ (tableOf []) rfl (by decide +kernel) (by decide +kernel) rfl (by omega) (by show 0 + 10240 ≤ R.locals; omega) (by omega) (by omega) (fun H q9 hE => ?_)
      refine lv_astore_n (lv' := [(2, .ref q9), (0, .ref x), (1, .int p1)]) hx hb dX0_drop_26 rfl hl (by decide) rfl (fun ls hl => ?_)
      refine lv_aload_n hx hb dX0_drop_27 rfl (lv_at hl 1 rfl) ?_
      refine lv_iconst (v := 1) hx hb dX0_drop_28 rfl ?_
      refine call_x_met hx hb hml hown hts hK hA hE hl.1 1 (by omega) (lz (show 1 ≤ 8 by decide) hRf) (lz (show 21 ≤ 10300 by decide) hRl) (Nat.le_of_ble_eq_true rfl) dX0_drop_29 ⟨by omega, by omega⟩ (fun H locs hE => ?_)
      exact hret ((x_met 1 Z).1) ((x_met 1 Z).2) hR rfl hE (by omega) (by omega) dX0_drop_32
    · have hR : x_drop p1 Z = (x_drop_c21 (x_clear (ix p1) Z)) := hR.trans (congrArg (fun z => z) (if_neg t15_0))
      refine call_v_kind hx hb hml hown hts hK hA hE hl.1 (ix p1) (by omega) (t15_0) (lz (show 1 ≤ 8 by decide) hRf) (lz (show 20 ≤ 10300 by decide) hRl) (Nat.le_of_ble_eq_true rfl) dX0_drop_15 ⟨by omega, by omega⟩ (fun H locs hE => ?_)
      refine lv_istore_n (lv' := [(2, .int (v_kind (ix p1) Z)), (0, .ref x), (1, .int p1)]) hx hb dX0_drop_18 rfl hl (by decide) rfl (fun ls hl => ?_)
      refine lv_aload_n hx hb dX0_drop_19 rfl (lv_at hl 1 rfl) ?_
      refine lv_iload_n hx hb dX0_drop_20 rfl (lv_at hl 2 rfl) ?_
      refine top_nat hnp1.1 ?_
      refine call_x_clear hx hb hml hown hts hK hA hE hl.1 (ix p1) (by omega) (lz (show 3 ≤ 8 by decide) hRf) (lz (show 67 ≤ 10300 by decide) hRl) (Nat.le_of_ble_eq_true rfl) dX0_drop_21 ⟨by omega, by omega⟩ (fun H locs hE => ?_)
      have hNc21 : ∀ (wc21 : ZT) (hR : x_drop p1 Z = x_drop_c21 wc21), ∀ (H : Heap) (locs : List Loc) (ls : Array Slot) (cells slots : Nat) (hcs : cells + 3 ≤ 3 ∧ slots + 1010 ≤ 1010), EW D A s.heap (WX x ar cs wc21 B Y) H locs → lv_has ls 3 [] → W p l e R s mid args below meth c H locs cells slots Q (F0 mid 24 ls []) := by
        intro wc21 hR H locs ls cells slots hcs hE hl
        have hR : x_drop p1 Z = ((1 : Int32), wc21) := hR
        refine lv_iconst (v := 1) hx hb dX0_drop_24 rfl ?_
        exact hret (1 : Int32) wc21 hR rfl hE (by omega) (by omega) dX0_drop_25
      exact hNc21 (x_clear (ix p1) Z) hR _ _ _ _ _ (by omega) hE (lv_sub hl [] rfl)
  · have hR : x_drop p1 Z = ((-1 : Int32), Z) := hR.trans (congrArg (fun z => z) (if_pos c4))
    refine lv_iconst (v := -1) hx hb dX0_drop_7 rfl ?_
    exact hret (-1 : Int32) Z hR rfl hE (by omega) (by omega) dX0_drop_8
def x_stock (p1 : Int32) (p2 : Int32) (Z : ZT) : Int32 × ZT := (if (x_isBeing p1) = 0 then ((-1 : Int32), Z) else (if (x_isMuch p2) = 0 then ((-1 : Int32), Z) else (if Z.1 30 (ix p1) = 0 then (x_met 1 Z) else (Z.1 32 (ix p1), sI Z 32 (ix p1) p2))))
set_option maxHeartbeats 4000000 in
set_option maxRecDepth 100000 in
theorem met_x_stock (l : Launch) (hl0 : l.stackTraces = false) (D : va_G) (cs : Nat → ClassId) (x : Nat) (ar : Nat → Nat) (B : BT) (Y : va_W) (Z : ZT) (sz : Nat) (p1 : Int32) (p2 : Int32) : Met l yX0_stock (wsW_ yX0_stock cX0_stock 4 (some .int) [(16, 37, 38, 90)]) ({ frames := 8, cells := 3, slots := 1010, locals := 10300 }) (va_Pc [.ref x, .int p1, .int p2] (wStX D cs (WX x ar cs Z B Y) sz)) (cQi (fun (v : Int32) (u : ZT) => x_stock p1 p2 Z = (v, u)) D (fun u => (WX x ar cs u B Y)) (WX x ar cs Z B Y) sz) 3 1010 (va_A (WX x ar cs Z B Y) sz) := by
  refine gStartX_i (C := RX0) rfl rfl (Nat.le_of_ble_eq_true rfl) ?_
  intro p e s mid args below meth c R Q A hx hb hml hown hts hK hA hRf hRl hRc hRs hlk htab hX0 hret hE ls hl
  have hRf : 8 ≤ R.frames := hRf
  have hRl : 10300 ≤ R.locals := hRl
  have hRc : 3 ≤ R.cells := hRc
  have hRs : 1010 ≤ R.slots := hRs
  have hl : lv_has ls 4 [(0, .ref x), (1, .int p1), (2, .int p2)] := hl
  have hR : x_stock p1 p2 Z = (if (x_isBeing p1) = 0 then ((-1 : Int32), Z) else (if (x_isMuch p2) = 0 then ((-1 : Int32), Z) else (if Z.1 30 (ix p1) = 0 then (x_met 1 Z) else (Z.1 32 (ix p1), sI Z 32 (ix p1) p2)))) := rfl
  refine lv_iload_n hx hb dX0_stock_0 rfl (lv_at hl 1 rfl) ?_
  refine call_x_isBeing hx hb hml hown hts hK hA hE hl.1 p1 (lz (show 2 ≤ 8 by decide) hRf) (lz (show 42 ≤ 10300 by decide) hRl) (Nat.le_of_ble_eq_true rfl) dX0_stock_1 ⟨by omega, by omega⟩ (fun H locs hE => ?_)
  refine lv_if_eq (tgt := 14) hx hb dX0_stock_4 (by decide) (fun c4 => ?_) (fun c4 => ?_)
  · have hR : x_stock p1 p2 Z = ((-1 : Int32), Z) := hR.trans (congrArg (fun z => z) (if_pos c4))
    refine lv_iconst (v := -1) hx hb dX0_stock_14 rfl ?_
    exact hret (-1 : Int32) Z hR rfl hE (by omega) (by omega) dX0_stock_15
  · have hR : x_stock p1 p2 Z = (if (x_isMuch p2) = 0 then ((-1 : Int32), Z) else (if Z.1 30 (ix p1) = 0 then (x_met 1 Z) else (Z.1 32 (ix p1), sI Z 32 (ix p1) p2))) := hR.trans (congrArg (fun z => z) (if_neg c4))
    refine lv_iload_n hx hb dX0_stock_7 rfl (lv_at hl 2 rfl) ?_
    refine call_x_isMuch hx hb hml hown hts hK hA hE hl.1 p2 (lz (show 2 ≤ 8 by decide) hRf) (lz (show 42 ≤ 10300 by decide) hRl) (Nat.le_of_ble_eq_true rfl) dX0_stock_8 ⟨by omega, by omega⟩ (fun H locs hE => ?_)
    refine lv_if_ne (tgt := 16) hx hb dX0_stock_11 (by decide) (fun c11 => ?_) (fun c11 => ?_)
    · have hR : x_stock p1 p2 Z = (if Z.1 30 (ix p1) = 0 then (x_met 1 Z) else (Z.1 32 (ix p1), sI Z 32 (ix p1) p2)) := hR.trans (congrArg (fun z => z) (if_neg c11))
      have hnp1 := vp_ix (x := p1) (N := 8) (xBe_vp c4) (by decide)
      have hbnp1 := hnp1.2
      refine lv_aload_n hx hb dX0_stock_16 rfl (lv_at hl 0 rfl) ?_
      refine xg_10 hx hb hts hown hK hE dX0_stock_17 ?_
      refine lv_iload_n hx hb dX0_stock_20 rfl (lv_at hl 1 rfl) ?_
      refine top_nat hnp1.1 ?_
      refine xa_10 (n := (ix p1)) (by omega) hx hb hK hE dX0_stock_21 ?_
      by_cases t22_0 : Z.1 30 (ix p1) = 0
      · have hR : x_stock p1 p2 Z = (x_met 1 Z) := hR.trans (congrArg (fun z => z) (if_pos t22_0))
        rw [adr_no t22_0]
        refine vx_getfNN (D := D) (cl := vwCl) (tys := tyL cs) (ci := 3) (C := RX3) (T := TX3) (N := 3) hx hb hts in_X3 hown hK.1 rfl 0 (by decide) (va_Nw.use rfl (hK.2.1 (.fieldLinkNest "EaterWebs" 150 "EaterWebs$Being" "stock" "I" "EaterWebs") (by simp [nwL, nwF]))) (fun _ h9 => h9) dX0_stock_22 ?_
        refine xh_N hx hl0 hml hown hts hX0 hE hl.1 hlk htab (tableOf []) ⟨16, 37, 38, 90⟩ (tableOf []) rfl (by decide +kernel) (by decide +kernel) rfl (by omega) (by show 0 + 10240 ≤ R.locals; omega) (by omega) (by omega) (fun H q9 hE => ?_)
        refine lv_astore_n (lv' := [(3, .ref q9), (0, .ref x), (1, .int p1), (2, .int p2)]) hx hb dX0_stock_38 rfl hl (by decide) rfl (fun ls hl => ?_)
        refine lv_aload_n hx hb dX0_stock_39 rfl (lv_at hl 1 rfl) ?_
        refine lv_iconst (v := 1) hx hb dX0_stock_40 rfl ?_
        refine call_x_met hx hb hml hown hts hK hA hE hl.1 1 (by omega) (lz (show 1 ≤ 8 by decide) hRf) (lz (show 21 ≤ 10300 by decide) hRl) (Nat.le_of_ble_eq_true rfl) dX0_stock_41 ⟨by omega, by omega⟩ (fun H locs hE => ?_)
        exact hret ((x_met 1 Z).1) ((x_met 1 Z).2) hR rfl hE (by omega) (by omega) dX0_stock_44
      · have hR : x_stock p1 p2 Z = (Z.1 32 (ix p1), sI Z 32 (ix p1) p2) := hR.trans (congrArg (fun z => z) (if_neg t22_0))
        refine xbg_32 (b := (ix p1)) (by omega) (t22_0) hx hb hts hown hK hE dX0_stock_22 ?_
        refine lv_istore_n (lv' := [(3, .int (Z.1 32 (ix p1))), (0, .ref x), (1, .int p1), (2, .int p2)]) hx hb dX0_stock_25 rfl hl (by decide) rfl (fun ls hl => ?_)
        refine lv_aload_n hx hb dX0_stock_26 rfl (lv_at hl 1 rfl) ?_
        refine xg_10 hx hb hts hown hK hE dX0_stock_27 ?_
        refine lv_iload_n hx hb dX0_stock_30 rfl (lv_at hl 2 rfl) ?_
        refine top_nat hnp1.1 ?_
        refine xa_10 (n := (ix p1)) (by omega) hx hb hK hE dX0_stock_31 ?_
        refine lv_iload_n hx hb dX0_stock_32 rfl (lv_at hl 3 rfl) ?_
        refine xbp_32 (b := (ix p1)) (by omega) (t22_0) hx hb hts hown hK hE dX0_stock_33 (fun H locs hE => ?_)
        refine lv_iload_n hx hb dX0_stock_36 rfl (lv_at hl 0 rfl) ?_
        exact hret (Z.1 32 (ix p1)) (sI Z 32 (ix p1) p2) hR rfl hE (by omega) (by omega) dX0_stock_37
    · have hR : x_stock p1 p2 Z = ((-1 : Int32), Z) := hR.trans (congrArg (fun z => z) (if_pos c11))
      refine lv_iconst (v := -1) hx hb dX0_stock_14 rfl ?_
      exact hret (-1 : Int32) Z hR rfl hE (by omega) (by omega) dX0_stock_15
def x_take (p1 : Int32) (p2 : Int32) (Z : ZT) : Int32 × ZT := (if (x_isBeing p1) = 0 then ((-1 : Int32), Z) else (if (x_isMuch p2) = 0 then ((-1 : Int32), Z) else (if Z.1 30 (ix p1) = 0 then (x_met 1 Z) else (Z.1 33 (ix p1), sI Z 33 (ix p1) p2))))
set_option maxHeartbeats 4000000 in
set_option maxRecDepth 100000 in
theorem met_x_take (l : Launch) (hl0 : l.stackTraces = false) (D : va_G) (cs : Nat → ClassId) (x : Nat) (ar : Nat → Nat) (B : BT) (Y : va_W) (Z : ZT) (sz : Nat) (p1 : Int32) (p2 : Int32) : Met l yX0_take (wsW_ yX0_take cX0_take 4 (some .int) [(16, 37, 38, 90)]) ({ frames := 8, cells := 3, slots := 1010, locals := 10300 }) (va_Pc [.ref x, .int p1, .int p2] (wStX D cs (WX x ar cs Z B Y) sz)) (cQi (fun (v : Int32) (u : ZT) => x_take p1 p2 Z = (v, u)) D (fun u => (WX x ar cs u B Y)) (WX x ar cs Z B Y) sz) 3 1010 (va_A (WX x ar cs Z B Y) sz) := by
  refine gStartX_i (C := RX0) rfl rfl (Nat.le_of_ble_eq_true rfl) ?_
  intro p e s mid args below meth c R Q A hx hb hml hown hts hK hA hRf hRl hRc hRs hlk htab hX0 hret hE ls hl
  have hRf : 8 ≤ R.frames := hRf
  have hRl : 10300 ≤ R.locals := hRl
  have hRc : 3 ≤ R.cells := hRc
  have hRs : 1010 ≤ R.slots := hRs
  have hl : lv_has ls 4 [(0, .ref x), (1, .int p1), (2, .int p2)] := hl
  have hR : x_take p1 p2 Z = (if (x_isBeing p1) = 0 then ((-1 : Int32), Z) else (if (x_isMuch p2) = 0 then ((-1 : Int32), Z) else (if Z.1 30 (ix p1) = 0 then (x_met 1 Z) else (Z.1 33 (ix p1), sI Z 33 (ix p1) p2)))) := rfl
  refine lv_iload_n hx hb dX0_take_0 rfl (lv_at hl 1 rfl) ?_
  refine call_x_isBeing hx hb hml hown hts hK hA hE hl.1 p1 (lz (show 2 ≤ 8 by decide) hRf) (lz (show 42 ≤ 10300 by decide) hRl) (Nat.le_of_ble_eq_true rfl) dX0_take_1 ⟨by omega, by omega⟩ (fun H locs hE => ?_)
  refine lv_if_eq (tgt := 14) hx hb dX0_take_4 (by decide) (fun c4 => ?_) (fun c4 => ?_)
  · have hR : x_take p1 p2 Z = ((-1 : Int32), Z) := hR.trans (congrArg (fun z => z) (if_pos c4))
    refine lv_iconst (v := -1) hx hb dX0_take_14 rfl ?_
    exact hret (-1 : Int32) Z hR rfl hE (by omega) (by omega) dX0_take_15
  · have hR : x_take p1 p2 Z = (if (x_isMuch p2) = 0 then ((-1 : Int32), Z) else (if Z.1 30 (ix p1) = 0 then (x_met 1 Z) else (Z.1 33 (ix p1), sI Z 33 (ix p1) p2))) := hR.trans (congrArg (fun z => z) (if_neg c4))
    refine lv_iload_n hx hb dX0_take_7 rfl (lv_at hl 2 rfl) ?_
    refine call_x_isMuch hx hb hml hown hts hK hA hE hl.1 p2 (lz (show 2 ≤ 8 by decide) hRf) (lz (show 42 ≤ 10300 by decide) hRl) (Nat.le_of_ble_eq_true rfl) dX0_take_8 ⟨by omega, by omega⟩ (fun H locs hE => ?_)
    refine lv_if_ne (tgt := 16) hx hb dX0_take_11 (by decide) (fun c11 => ?_) (fun c11 => ?_)
    · have hR : x_take p1 p2 Z = (if Z.1 30 (ix p1) = 0 then (x_met 1 Z) else (Z.1 33 (ix p1), sI Z 33 (ix p1) p2)) := hR.trans (congrArg (fun z => z) (if_neg c11))
      have hnp1 := vp_ix (x := p1) (N := 8) (xBe_vp c4) (by decide)
      have hbnp1 := hnp1.2
      refine lv_aload_n hx hb dX0_take_16 rfl (lv_at hl 0 rfl) ?_
      refine xg_10 hx hb hts hown hK hE dX0_take_17 ?_
      refine lv_iload_n hx hb dX0_take_20 rfl (lv_at hl 1 rfl) ?_
      refine top_nat hnp1.1 ?_
      refine xa_10 (n := (ix p1)) (by omega) hx hb hK hE dX0_take_21 ?_
      by_cases t22_0 : Z.1 30 (ix p1) = 0
      · have hR : x_take p1 p2 Z = (x_met 1 Z) := hR.trans (congrArg (fun z => z) (if_pos t22_0))
        rw [adr_no t22_0]
        refine vx_getfNN (D := D) (cl := vwCl) (tys := tyL cs) (ci := 3) (C := RX3) (T := TX3) (N := 3) hx hb hts in_X3 hown hK.1 rfl 1 (by decide) (va_Nw.use rfl (hK.2.1 (.fieldLinkNest "EaterWebs" 214 "EaterWebs$Being" "taken" "I" "EaterWebs") (by simp [nwL, nwF]))) (fun _ h9 => h9) dX0_take_22 ?_
        refine xh_N hx hl0 hml hown hts hX0 hE hl.1 hlk htab (tableOf []) ⟨16, 37, 38, 90⟩ (tableOf []) rfl (by decide +kernel) (by decide +kernel) rfl (by omega) (by show 0 + 10240 ≤ R.locals; omega) (by omega) (by omega) (fun H q9 hE => ?_)
        refine lv_astore_n (lv' := [(3, .ref q9), (0, .ref x), (1, .int p1), (2, .int p2)]) hx hb dX0_take_38 rfl hl (by decide) rfl (fun ls hl => ?_)
        refine lv_aload_n hx hb dX0_take_39 rfl (lv_at hl 1 rfl) ?_
        refine lv_iconst (v := 1) hx hb dX0_take_40 rfl ?_
        refine call_x_met hx hb hml hown hts hK hA hE hl.1 1 (by omega) (lz (show 1 ≤ 8 by decide) hRf) (lz (show 21 ≤ 10300 by decide) hRl) (Nat.le_of_ble_eq_true rfl) dX0_take_41 ⟨by omega, by omega⟩ (fun H locs hE => ?_)
        exact hret ((x_met 1 Z).1) ((x_met 1 Z).2) hR rfl hE (by omega) (by omega) dX0_take_44
      · have hR : x_take p1 p2 Z = (Z.1 33 (ix p1), sI Z 33 (ix p1) p2) := hR.trans (congrArg (fun z => z) (if_neg t22_0))
        refine xbg_33 (b := (ix p1)) (by omega) (t22_0) hx hb hts hown hK hE dX0_take_22 ?_
        refine lv_istore_n (lv' := [(3, .int (Z.1 33 (ix p1))), (0, .ref x), (1, .int p1), (2, .int p2)]) hx hb dX0_take_25 rfl hl (by decide) rfl (fun ls hl => ?_)
        refine lv_aload_n hx hb dX0_take_26 rfl (lv_at hl 1 rfl) ?_
        refine xg_10 hx hb hts hown hK hE dX0_take_27 ?_
        refine lv_iload_n hx hb dX0_take_30 rfl (lv_at hl 2 rfl) ?_
        refine top_nat hnp1.1 ?_
        refine xa_10 (n := (ix p1)) (by omega) hx hb hK hE dX0_take_31 ?_
        refine lv_iload_n hx hb dX0_take_32 rfl (lv_at hl 3 rfl) ?_
        refine xbp_33 (b := (ix p1)) (by omega) (t22_0) hx hb hts hown hK hE dX0_take_33 (fun H locs hE => ?_)
        refine lv_iload_n hx hb dX0_take_36 rfl (lv_at hl 0 rfl) ?_
        exact hret (Z.1 33 (ix p1)) (sI Z 33 (ix p1) p2) hR rfl hE (by omega) (by omega) dX0_take_37
    · have hR : x_take p1 p2 Z = ((-1 : Int32), Z) := hR.trans (congrArg (fun z => z) (if_pos c11))
      refine lv_iconst (v := -1) hx hb dX0_take_14 rfl ?_
      exact hret (-1 : Int32) Z hR rfl hE (by omega) (by omega) dX0_take_15
def x_told (p1 : Int32) (p2 : Int32) (Z : ZT) : Int32 × ZT := (if (x_isBeing p1) = 0 then ((-1 : Int32), Z) else (if (x_isIn p2 (0 : Int32) (5 : Int32)) = 0 then ((-1 : Int32), Z) else (if Z.1 30 (ix p1) = 0 then (x_met 1 Z) else (if p2 = 0 then ((v_kind (ix p1) Z), Z) else ((x_tells (ix p1) p2 Z), Z)))))
set_option maxHeartbeats 4000000 in
set_option maxRecDepth 100000 in
theorem met_x_told (l : Launch) (hl0 : l.stackTraces = false) (D : va_G) (cs : Nat → ClassId) (x : Nat) (ar : Nat → Nat) (B : BT) (Y : va_W) (Z : ZT) (sz : Nat) (p1 : Int32) (p2 : Int32) : Met l yX0_told (wsW_ yX0_told cX0_told 4 (some .int) [(18, 42, 43, 90)]) ({ frames := 8, cells := 3, slots := 1010, locals := 10300 }) (va_Pc [.ref x, .int p1, .int p2] (wStX D cs (WX x ar cs Z B Y) sz)) (cQi (fun (v : Int32) (u : ZT) => x_told p1 p2 Z = (v, u)) D (fun u => (WX x ar cs u B Y)) (WX x ar cs Z B Y) sz) 3 1010 (va_A (WX x ar cs Z B Y) sz) := by
  refine gStartX_i (C := RX0) rfl rfl (Nat.le_of_ble_eq_true rfl) ?_
  intro p e s mid args below meth c R Q A hx hb hml hown hts hK hA hRf hRl hRc hRs hlk htab hX0 hret hE ls hl
  have hRf : 8 ≤ R.frames := hRf
  have hRl : 10300 ≤ R.locals := hRl
  have hRc : 3 ≤ R.cells := hRc
  have hRs : 1010 ≤ R.slots := hRs
  have hl : lv_has ls 4 [(0, .ref x), (1, .int p1), (2, .int p2)] := hl
  have hR : x_told p1 p2 Z = (if (x_isBeing p1) = 0 then ((-1 : Int32), Z) else (if (x_isIn p2 (0 : Int32) (5 : Int32)) = 0 then ((-1 : Int32), Z) else (if Z.1 30 (ix p1) = 0 then (x_met 1 Z) else (if p2 = 0 then ((v_kind (ix p1) Z), Z) else ((x_tells (ix p1) p2 Z), Z))))) := rfl
  refine lv_iload_n hx hb dX0_told_0 rfl (lv_at hl 1 rfl) ?_
  refine call_x_isBeing hx hb hml hown hts hK hA hE hl.1 p1 (lz (show 2 ≤ 8 by decide) hRf) (lz (show 42 ≤ 10300 by decide) hRl) (Nat.le_of_ble_eq_true rfl) dX0_told_1 ⟨by omega, by omega⟩ (fun H locs hE => ?_)
  refine lv_if_eq (tgt := 16) hx hb dX0_told_4 (by decide) (fun c4 => ?_) (fun c4 => ?_)
  · have hR : x_told p1 p2 Z = ((-1 : Int32), Z) := hR.trans (congrArg (fun z => z) (if_pos c4))
    refine lv_iconst (v := -1) hx hb dX0_told_16 rfl ?_
    exact hret (-1 : Int32) Z hR rfl hE (by omega) (by omega) dX0_told_17
  · have hR : x_told p1 p2 Z = (if (x_isIn p2 (0 : Int32) (5 : Int32)) = 0 then ((-1 : Int32), Z) else (if Z.1 30 (ix p1) = 0 then (x_met 1 Z) else (if p2 = 0 then ((v_kind (ix p1) Z), Z) else ((x_tells (ix p1) p2 Z), Z)))) := hR.trans (congrArg (fun z => z) (if_neg c4))
    refine lv_iload_n hx hb dX0_told_7 rfl (lv_at hl 2 rfl) ?_
    refine lv_iconst (v := 0) hx hb dX0_told_8 rfl ?_
    refine lv_iconst (v := 5) hx hb dX0_told_9 rfl ?_
    refine call_x_isIn hx hb hml hown hts hK hA hE hl.1 p2 (0 : Int32) (5 : Int32) (lz (show 1 ≤ 8 by decide) hRf) (lz (show 22 ≤ 10300 by decide) hRl) (Nat.le_of_ble_eq_true rfl) dX0_told_10 ⟨by omega, by omega⟩ (fun H locs hE => ?_)
    refine lv_if_ne (tgt := 18) hx hb dX0_told_13 (by decide) (fun c13 => ?_) (fun c13 => ?_)
    · have hR : x_told p1 p2 Z = (if Z.1 30 (ix p1) = 0 then (x_met 1 Z) else (if p2 = 0 then ((v_kind (ix p1) Z), Z) else ((x_tells (ix p1) p2 Z), Z))) := hR.trans (congrArg (fun z => z) (if_neg c13))
      have hnp1 := vp_ix (x := p1) (N := 8) (xBe_vp c4) (by decide)
      have hbnp1 := hnp1.2
      refine lv_aload_n hx hb dX0_told_18 rfl (lv_at hl 0 rfl) ?_
      refine xg_10 hx hb hts hown hK hE dX0_told_19 ?_
      refine lv_iload_n hx hb dX0_told_22 rfl (lv_at hl 1 rfl) ?_
      refine top_nat hnp1.1 ?_
      refine xa_10 (n := (ix p1)) (by omega) hx hb hK hE dX0_told_23 ?_
      by_cases t24_0 : Z.1 30 (ix p1) = 0
      · have hR : x_told p1 p2 Z = (x_met 1 Z) := hR.trans (congrArg (fun z => z) (if_pos t24_0))
        rw [adr_no t24_0]
        refine vx_invokeN (As := []) hx hb hown (hts _ q546) (hts _ q547) (hts _ q559) (hts _ q548) (by decide) (show _ = some 0 from by decide +kernel) dX0_told_24 ?_ rfl
        refine xh_N hx hl0 hml hown hts hX0 hE hl.1 hlk htab (tableOf []) ⟨18, 42, 43, 90⟩ (tableOf []) rfl (by decide +kernel) (by decide +kernel) rfl (by omega) (by show 0 + 10240 ≤ R.locals; omega) (by omega) (by omega) (fun H q9 hE => ?_)
        refine lv_astore_n (lv' := [(3, .ref q9), (0, .ref x), (1, .int p1), (2, .int p2)]) hx hb dX0_told_43 rfl hl (by decide) rfl (fun ls hl => ?_)
        refine lv_aload_n hx hb dX0_told_44 rfl (lv_at hl 1 rfl) ?_
        refine lv_iconst (v := 1) hx hb dX0_told_45 rfl ?_
        refine call_x_met hx hb hml hown hts hK hA hE hl.1 1 (by omega) (lz (show 1 ≤ 8 by decide) hRf) (lz (show 21 ≤ 10300 by decide) hRl) (Nat.le_of_ble_eq_true rfl) dX0_told_46 ⟨by omega, by omega⟩ (fun H locs hE => ?_)
        exact hret ((x_met 1 Z).1) ((x_met 1 Z).2) hR rfl hE (by omega) (by omega) dX0_told_49
      · have hR : x_told p1 p2 Z = (if p2 = 0 then ((v_kind (ix p1) Z), Z) else ((x_tells (ix p1) p2 Z), Z)) := hR.trans (congrArg (fun z => z) (if_neg t24_0))
        refine call_v_kind hx hb hml hown hts hK hA hE hl.1 (ix p1) (by omega) (t24_0) (lz (show 1 ≤ 8 by decide) hRf) (lz (show 20 ≤ 10300 by decide) hRl) (Nat.le_of_ble_eq_true rfl) dX0_told_24 ⟨by omega, by omega⟩ (fun H locs hE => ?_)
        refine lv_istore_n (lv' := [(3, .int (v_kind (ix p1) Z)), (0, .ref x), (1, .int p1), (2, .int p2)]) hx hb dX0_told_27 rfl hl (by decide) rfl (fun ls hl => ?_)
        refine lv_iload_n hx hb dX0_told_28 rfl (lv_at hl 3 rfl) ?_
        refine lv_if_ne (tgt := 36) hx hb dX0_told_29 (by decide) (fun c29 => ?_) (fun c29 => ?_)
        · have hR : x_told p1 p2 Z = ((x_tells (ix p1) p2 Z), Z) := hR.trans (congrArg (fun z => z) (if_neg c29))
          refine lv_aload_n hx hb dX0_told_36 rfl (lv_at hl 1 rfl) ?_
          refine lv_iload_n hx hb dX0_told_37 rfl (lv_at hl 2 rfl) ?_
          refine top_nat hnp1.1 ?_
          refine lv_iload_n hx hb dX0_told_38 rfl (lv_at hl 3 rfl) ?_
          refine call_x_tells hx hb hml hown hts hK hA hE hl.1 (ix p1) p2 (by omega) (t24_0) (lz (show 3 ≤ 8 by decide) hRf) (lz (show 68 ≤ 10300 by decide) hRl) (Nat.le_of_ble_eq_true rfl) dX0_told_39 ⟨by omega, by omega⟩ (fun H locs hE => ?_)
          exact hret (x_tells (ix p1) p2 Z) Z hR rfl hE (by omega) (by omega) dX0_told_42
        · have hR : x_told p1 p2 Z = ((v_kind (ix p1) Z), Z) := hR.trans (congrArg (fun z => z) (if_pos c29))
          refine lv_iload_n hx hb dX0_told_32 rfl (lv_at hl 0 rfl) ?_
          refine lv_goto (tgt := 42) hx hb dX0_told_33 (by decide) ?_
          exact hret (v_kind (ix p1) Z) Z hR rfl hE (by omega) (by omega) dX0_told_42
    · have hR : x_told p1 p2 Z = ((-1 : Int32), Z) := hR.trans (congrArg (fun z => z) (if_pos c13))
      refine lv_iconst (v := -1) hx hb dX0_told_16 rfl ?_
      exact hret (-1 : Int32) Z hR rfl hE (by omega) (by omega) dX0_told_17
def x_mean (Z : ZT) : Int32 × ZT := (if (x_bits (x_present Z)) = 0 then (x_met 4 Z) else (((x_allStocks Z) / (x_bits (x_present Z))), Z))
set_option maxHeartbeats 4000000 in
set_option maxRecDepth 100000 in
theorem met_x_mean (l : Launch) (hl0 : l.stackTraces = false) (D : va_G) (cs : Nat → ClassId) (x : Nat) (ar : Nat → Nat) (B : BT) (Y : va_W) (Z : ZT) (sz : Nat)  : Met l yX0_mean (wsW_ yX0_mean cX0_mean 2 (some .int) [(0, 12, 13, 239)]) ({ frames := 8, cells := 3, slots := 1010, locals := 10300 }) (va_Pc [.ref x] (wStX D cs (WX x ar cs Z B Y) sz)) (cQi (fun (v : Int32) (u : ZT) => x_mean Z = (v, u)) D (fun u => (WX x ar cs u B Y)) (WX x ar cs Z B Y) sz) 3 1010 (va_A (WX x ar cs Z B Y) sz) := by
  refine gStartX_i (C := RX0) rfl rfl (Nat.le_of_ble_eq_true rfl) ?_
  intro p e s mid args below meth c R Q A hx hb hml hown hts hK hA hRf hRl hRc hRs hlk htab hX0 hret hE ls hl
  have hRf : 8 ≤ R.frames := hRf
  have hRl : 10300 ≤ R.locals := hRl
  have hRc : 3 ≤ R.cells := hRc
  have hRs : 1010 ≤ R.slots := hRs
  have hl : lv_has ls 2 [(0, .ref x)] := hl
  have hR : x_mean Z = (if (x_bits (x_present Z)) = 0 then (x_met 4 Z) else (((x_allStocks Z) / (x_bits (x_present Z))), Z)) := rfl
  refine lv_aload_n hx hb dX0_mean_0 rfl (lv_at hl 0 rfl) ?_
  refine call_x_allStocks hx hb hml hown hts hK hA hE hl.1 (lz (show 1 ≤ 8 by decide) hRf) (lz (show 25 ≤ 10300 by decide) hRl) (Nat.le_of_ble_eq_true rfl) dX0_mean_1 ⟨by omega, by omega⟩ (fun H locs hE => ?_)
  refine lv_aload_n hx hb dX0_mean_4 rfl (lv_at hl 0 rfl) ?_
  refine call_x_present hx hb hml hown hts hK hA hE hl.1 (lz (show 1 ≤ 8 by decide) hRf) (lz (show 22 ≤ 10300 by decide) hRl) (Nat.le_of_ble_eq_true rfl) dX0_mean_5 ⟨by omega, by omega⟩ (fun H locs hE => ?_)
  refine call_x_bits hx hb hml hown hts hK hA hE hl.1 (x_present Z) (lz (show 1 ≤ 8 by decide) hRf) (lz (show 22 ≤ 10300 by decide) hRl) (Nat.le_of_ble_eq_true rfl) dX0_mean_8 ⟨by omega, by omega⟩ (fun H locs hE => ?_)
  by_cases t11_0 : (x_bits (x_present Z)) = 0
  · have hR : x_mean Z = (x_met 4 Z) := hR.trans (congrArg (fun z => z) (if_pos t11_0))
    refine vx_idivZ hx hb t11_0 dX0_mean_11 ?_
    refine xh_AR (by decide +kernel) (by decide +kernel) hx hl0 hml hown hts hX0 hE hl.1 hlk htab (tableOf []) ⟨0, 12, 13, 239⟩ (tableOf []) rfl (by decide +kernel) (by decide +kernel) rfl (by omega) (by show 0 + 10240 ≤ R.locals; omega) (by omega) (by omega) (fun H q9 hE => ?_)
    refine lv_astore_n (lv' := [(1, .ref q9), (0, .ref x)]) hx hb dX0_mean_13 rfl hl (by decide) rfl (fun ls hl => ?_)
    refine lv_aload_n hx hb dX0_mean_14 rfl (lv_at hl 1 rfl) ?_
    refine lv_iconst (v := 4) hx hb dX0_mean_15 rfl ?_
    refine call_x_met hx hb hml hown hts hK hA hE hl.1 4 (by omega) (lz (show 1 ≤ 8 by decide) hRf) (lz (show 21 ≤ 10300 by decide) hRl) (Nat.le_of_ble_eq_true rfl) dX0_mean_16 ⟨by omega, by omega⟩ (fun H locs hE => ?_)
    exact hret ((x_met 4 Z).1) ((x_met 4 Z).2) hR rfl hE (by omega) (by omega) dX0_mean_19
  · have hR : x_mean Z = (((x_allStocks Z) / (x_bits (x_present Z))), Z) := hR.trans (congrArg (fun z => z) (if_neg t11_0))
    refine lv_idiv hx hb dX0_mean_11 (t11_0) ?_
    exact hret ((x_allStocks Z) / (x_bits (x_present Z))) Z hR rfl hE (by omega) (by omega) dX0_mean_12
def x_plant (p1 : Int32) (p2 : Int32) (p3 : Int32) (Z : ZT) : Int32 × ZT := (if (x_isBeing p1) = 0 then ((-1 : Int32), Z) else (if (x_isIn p2 (0 : Int32) (1000 : Int32)) = 0 then ((-1 : Int32), Z) else (if (x_isIn p3 (1 : Int32) (100000 : Int32)) = 0 then ((-1 : Int32), Z) else (if Z.1 30 (ix p1) = 0 then (x_met 1 Z) else (if Z.1 31 (ix p1) = 0 then (x_met 3 Z) else (if Z.1 31 (ix p1) = 2 then (x_met 3 Z) else (if Z.1 31 (ix p1) = 1 then ((1 : Int32), sI (sI Z 35 (ix p1) p2) 36 (ix p1) p3) else (x_met 3 Z))))))))
set_option maxHeartbeats 4000000 in
set_option maxRecDepth 100000 in
theorem met_x_plant (l : Launch) (hl0 : l.stackTraces = false) (D : va_G) (cs : Nat → ClassId) (x : Nat) (ar : Nat → Nat) (B : BT) (Y : va_W) (Z : ZT) (sz : Nat) (p1 : Int32) (p2 : Int32) (p3 : Int32) : Met l yX0_plant (wsW_ yX0_plant cX0_plant 5 (some .int) [(30, 54, 55, 90), (30, 54, 63, 206)]) ({ frames := 8, cells := 3, slots := 1010, locals := 10300 }) (va_Pc [.ref x, .int p1, .int p2, .int p3] (wStX D cs (WX x ar cs Z B Y) sz)) (cQi (fun (v : Int32) (u : ZT) => x_plant p1 p2 p3 Z = (v, u)) D (fun u => (WX x ar cs u B Y)) (WX x ar cs Z B Y) sz) 3 1010 (va_A (WX x ar cs Z B Y) sz) := by
  refine gStartX_i (C := RX0) rfl rfl (Nat.le_of_ble_eq_true rfl) ?_
  intro p e s mid args below meth c R Q A hx hb hml hown hts hK hA hRf hRl hRc hRs hlk htab hX0 hret hE ls hl
  have hRf : 8 ≤ R.frames := hRf
  have hRl : 10300 ≤ R.locals := hRl
  have hRc : 3 ≤ R.cells := hRc
  have hRs : 1010 ≤ R.slots := hRs
  have hl : lv_has ls 5 [(0, .ref x), (1, .int p1), (2, .int p2), (3, .int p3)] := hl
  have hR : x_plant p1 p2 p3 Z = (if (x_isBeing p1) = 0 then ((-1 : Int32), Z) else (if (x_isIn p2 (0 : Int32) (1000 : Int32)) = 0 then ((-1 : Int32), Z) else (if (x_isIn p3 (1 : Int32) (100000 : Int32)) = 0 then ((-1 : Int32), Z) else (if Z.1 30 (ix p1) = 0 then (x_met 1 Z) else (if Z.1 31 (ix p1) = 0 then (x_met 3 Z) else (if Z.1 31 (ix p1) = 2 then (x_met 3 Z) else (if Z.1 31 (ix p1) = 1 then ((1 : Int32), sI (sI Z 35 (ix p1) p2) 36 (ix p1) p3) else (x_met 3 Z)))))))) := rfl
  refine lv_iload_n hx hb dX0_plant_0 rfl (lv_at hl 1 rfl) ?_
  refine call_x_isBeing hx hb hml hown hts hK hA hE hl.1 p1 (lz (show 2 ≤ 8 by decide) hRf) (lz (show 42 ≤ 10300 by decide) hRl) (Nat.le_of_ble_eq_true rfl) dX0_plant_1 ⟨by omega, by omega⟩ (fun H locs hE => ?_)
  refine lv_if_eq (tgt := 28) hx hb dX0_plant_4 (by decide) (fun c4 => ?_) (fun c4 => ?_)
  · have hR : x_plant p1 p2 p3 Z = ((-1 : Int32), Z) := hR.trans (congrArg (fun z => z) (if_pos c4))
    refine lv_iconst (v := -1) hx hb dX0_plant_28 rfl ?_
    exact hret (-1 : Int32) Z hR rfl hE (by omega) (by omega) dX0_plant_29
  · have hR : x_plant p1 p2 p3 Z = (if (x_isIn p2 (0 : Int32) (1000 : Int32)) = 0 then ((-1 : Int32), Z) else (if (x_isIn p3 (1 : Int32) (100000 : Int32)) = 0 then ((-1 : Int32), Z) else (if Z.1 30 (ix p1) = 0 then (x_met 1 Z) else (if Z.1 31 (ix p1) = 0 then (x_met 3 Z) else (if Z.1 31 (ix p1) = 2 then (x_met 3 Z) else (if Z.1 31 (ix p1) = 1 then ((1 : Int32), sI (sI Z 35 (ix p1) p2) 36 (ix p1) p3) else (x_met 3 Z))))))) := hR.trans (congrArg (fun z => z) (if_neg c4))
    refine lv_iload_n hx hb dX0_plant_7 rfl (lv_at hl 2 rfl) ?_
    refine lv_iconst (v := 0) hx hb dX0_plant_8 rfl ?_
    refine lv_sipush (v := 1000) hx hb dX0_plant_9 rfl ?_
    refine call_x_isIn hx hb hml hown hts hK hA hE hl.1 p2 (0 : Int32) (1000 : Int32) (lz (show 1 ≤ 8 by decide) hRf) (lz (show 22 ≤ 10300 by decide) hRl) (Nat.le_of_ble_eq_true rfl) dX0_plant_12 ⟨by omega, by omega⟩ (fun H locs hE => ?_)
    refine lv_if_eq (tgt := 28) hx hb dX0_plant_15 (by decide) (fun c15 => ?_) (fun c15 => ?_)
    · have hR : x_plant p1 p2 p3 Z = ((-1 : Int32), Z) := hR.trans (congrArg (fun z => z) (if_pos c15))
      refine lv_iconst (v := -1) hx hb dX0_plant_28 rfl ?_
      exact hret (-1 : Int32) Z hR rfl hE (by omega) (by omega) dX0_plant_29
    · have hR : x_plant p1 p2 p3 Z = (if (x_isIn p3 (1 : Int32) (100000 : Int32)) = 0 then ((-1 : Int32), Z) else (if Z.1 30 (ix p1) = 0 then (x_met 1 Z) else (if Z.1 31 (ix p1) = 0 then (x_met 3 Z) else (if Z.1 31 (ix p1) = 2 then (x_met 3 Z) else (if Z.1 31 (ix p1) = 1 then ((1 : Int32), sI (sI Z 35 (ix p1) p2) 36 (ix p1) p3) else (x_met 3 Z)))))) := hR.trans (congrArg (fun z => z) (if_neg c15))
      refine lv_iload_n hx hb dX0_plant_18 rfl (lv_at hl 3 rfl) ?_
      refine lv_iconst (v := 1) hx hb dX0_plant_19 rfl ?_
      refine lv_ldc (v := 100000) hx hb hown (hts _ q421) dX0_plant_20 ?_
      refine call_x_isIn hx hb hml hown hts hK hA hE hl.1 p3 (1 : Int32) (100000 : Int32) (lz (show 1 ≤ 8 by decide) hRf) (lz (show 22 ≤ 10300 by decide) hRl) (Nat.le_of_ble_eq_true rfl) dX0_plant_22 ⟨by omega, by omega⟩ (fun H locs hE => ?_)
      refine lv_if_ne (tgt := 30) hx hb dX0_plant_25 (by decide) (fun c25 => ?_) (fun c25 => ?_)
      · have hR : x_plant p1 p2 p3 Z = (if Z.1 30 (ix p1) = 0 then (x_met 1 Z) else (if Z.1 31 (ix p1) = 0 then (x_met 3 Z) else (if Z.1 31 (ix p1) = 2 then (x_met 3 Z) else (if Z.1 31 (ix p1) = 1 then ((1 : Int32), sI (sI Z 35 (ix p1) p2) 36 (ix p1) p3) else (x_met 3 Z))))) := hR.trans (congrArg (fun z => z) (if_neg c25))
        have hnp1 := vp_ix (x := p1) (N := 8) (xBe_vp c4) (by decide)
        have hbnp1 := hnp1.2
        refine lv_aload_n hx hb dX0_plant_30 rfl (lv_at hl 0 rfl) ?_
        refine xg_10 hx hb hts hown hK hE dX0_plant_31 ?_
        refine lv_iload_n hx hb dX0_plant_34 rfl (lv_at hl 1 rfl) ?_
        refine top_nat hnp1.1 ?_
        refine xa_10 (n := (ix p1)) (by omega) hx hb hK hE dX0_plant_35 ?_
        by_cases t36_0 : Z.1 30 (ix p1) = 0
        · have hR : x_plant p1 p2 p3 Z = (x_met 1 Z) := hR.trans (congrArg (fun z => z) (if_pos t36_0))
          rw [adr_no t36_0]
          refine xcast_null hx hb dX0_plant_36 ?_
          refine xst (o := none) (lv' := [(4, .null), (0, .ref x), (1, .int p1), (2, .int p2), (3, .int p3)]) hx hb dX0_plant_39 hl (by decide) rfl (fun ls hl => ?_)
          refine xld (o := none) hx hb dX0_plant_41 (lv_at hl 0 rfl) ?_
          refine lv_iload_n hx hb dX0_plant_43 rfl (lv_at hl 3 rfl) ?_
          refine vx_putfNN (D := D) (cl := vwCl) (tys := tyL cs) (ci := 4) (C := RX4) (T := TX4) (N := 5) hx hb hts in_X4 hown hK.1 rfl 3 (by decide) (va_Nw.use rfl (hK.2.1 (.fieldLinkNest "EaterWebs" 200 "EaterWebs$Plant" "rate" "I" "EaterWebs") (by simp [nwL, nwF]))) (fun _ h9 => h9) rfl dX0_plant_44 ?_
          refine xh_N hx hl0 hml hown hts hX0 hE hl.1 hlk htab (tableOf []) ⟨30, 54, 55, 90⟩ (tableOf [(30, 54, 63, 206)]) rfl (by decide +kernel) (by decide +kernel) rfl (by omega) (by show 0 + 10240 ≤ R.locals; omega) (by omega) (by omega) (fun H q9 hE => ?_)
          refine lv_astore (lv' := [(4, .ref q9), (0, .ref x), (1, .int p1), (2, .int p2), (3, .int p3)]) hx hb dX0_plant_55 hl (by decide) rfl (fun ls hl => ?_)
          refine lv_aload_n hx hb dX0_plant_57 rfl (lv_at hl 1 rfl) ?_
          refine lv_iconst (v := 1) hx hb dX0_plant_58 rfl ?_
          refine call_x_met hx hb hml hown hts hK hA hE hl.1 1 (by omega) (lz (show 1 ≤ 8 by decide) hRf) (lz (show 21 ≤ 10300 by decide) hRl) (Nat.le_of_ble_eq_true rfl) dX0_plant_59 ⟨by omega, by omega⟩ (fun H locs hE => ?_)
          exact hret ((x_met 1 Z).1) ((x_met 1 Z).2) hR rfl hE (by omega) (by omega) dX0_plant_62
        · have hR : x_plant p1 p2 p3 Z = (if Z.1 31 (ix p1) = 0 then (x_met 3 Z) else (if Z.1 31 (ix p1) = 2 then (x_met 3 Z) else (if Z.1 31 (ix p1) = 1 then ((1 : Int32), sI (sI Z 35 (ix p1) p2) 36 (ix p1) p3) else (x_met 3 Z)))) := hR.trans (congrArg (fun z => z) (if_neg t36_0))
          by_cases t36_1 : Z.1 31 (ix p1) = 0
          · have hR : x_plant p1 p2 p3 Z = (x_met 3 Z) := hR.trans (congrArg (fun z => z) (if_pos t36_1))
            rw [adr_of t36_0]
            refine xcc_no (C := "EaterWebs$Being") (nm := "EaterWebs$Plant") hx hb hown (hts _ q466) (hX0.2.1 ("EaterWebs$Being", "EaterWebs$Plant") (by simp [ncX])) hX0.2.2.2.2 (be_recv hbnp1 t36_0 hK hE (q := (RX3, TX3, 3)) (by rw [beF_0 t36_1]; rfl)) (by decide +kernel) (by decide +kernel) dX0_plant_36 (fun tx ht1 ht2 => ?_)
            refine xh_CC ht1 ht2 hx hl0 hml hown hts hX0 hE hl.1 hlk htab (tableOf [(30, 54, 55, 90)]) ⟨30, 54, 63, 206⟩ (tableOf []) rfl (by decide +kernel) (by decide +kernel) rfl (by omega) (by show 1 + 10240 ≤ R.locals; omega) (by omega) (by omega) (fun H q9 hE => ?_)
            refine lv_astore (lv' := [(4, .ref q9), (0, .ref x), (1, .int p1), (2, .int p2), (3, .int p3)]) hx hb dX0_plant_63 hl (by decide) rfl (fun ls hl => ?_)
            refine lv_aload_n hx hb dX0_plant_65 rfl (lv_at hl 1 rfl) ?_
            refine lv_iconst (v := 3) hx hb dX0_plant_66 rfl ?_
            refine call_x_met hx hb hml hown hts hK hA hE hl.1 3 (by omega) (lz (show 1 ≤ 8 by decide) hRf) (lz (show 21 ≤ 10300 by decide) hRl) (Nat.le_of_ble_eq_true rfl) dX0_plant_67 ⟨by omega, by omega⟩ (fun H locs hE => ?_)
            exact hret ((x_met 3 Z).1) ((x_met 3 Z).2) hR rfl hE (by omega) (by omega) dX0_plant_70
          · have hR : x_plant p1 p2 p3 Z = (if Z.1 31 (ix p1) = 2 then (x_met 3 Z) else (if Z.1 31 (ix p1) = 1 then ((1 : Int32), sI (sI Z 35 (ix p1) p2) 36 (ix p1) p3) else (x_met 3 Z))) := hR.trans (congrArg (fun z => z) (if_neg t36_1))
            by_cases t36_2 : Z.1 31 (ix p1) = 2
            · have hR : x_plant p1 p2 p3 Z = (x_met 3 Z) := hR.trans (congrArg (fun z => z) (if_pos t36_2))
              rw [adr_of t36_0]
              refine xcc_no (C := "EaterWebs$Eater") (nm := "EaterWebs$Plant") hx hb hown (hts _ q466) (hX0.2.1 ("EaterWebs$Eater", "EaterWebs$Plant") (by simp [ncX])) hX0.2.2.2.2 (be_recv hbnp1 t36_0 hK hE (q := (RX5, TX5, 5)) (by rw [beF_2 t36_2]; rfl)) (by decide +kernel) (by decide +kernel) dX0_plant_36 (fun tx ht1 ht2 => ?_)
              refine xh_CC ht1 ht2 hx hl0 hml hown hts hX0 hE hl.1 hlk htab (tableOf [(30, 54, 55, 90)]) ⟨30, 54, 63, 206⟩ (tableOf []) rfl (by decide +kernel) (by decide +kernel) rfl (by omega) (by show 1 + 10240 ≤ R.locals; omega) (by omega) (by omega) (fun H q9 hE => ?_)
              refine lv_astore (lv' := [(4, .ref q9), (0, .ref x), (1, .int p1), (2, .int p2), (3, .int p3)]) hx hb dX0_plant_63 hl (by decide) rfl (fun ls hl => ?_)
              refine lv_aload_n hx hb dX0_plant_65 rfl (lv_at hl 1 rfl) ?_
              refine lv_iconst (v := 3) hx hb dX0_plant_66 rfl ?_
              refine call_x_met hx hb hml hown hts hK hA hE hl.1 3 (by omega) (lz (show 1 ≤ 8 by decide) hRf) (lz (show 21 ≤ 10300 by decide) hRl) (Nat.le_of_ble_eq_true rfl) dX0_plant_67 ⟨by omega, by omega⟩ (fun H locs hE => ?_)
              exact hret ((x_met 3 Z).1) ((x_met 3 Z).2) hR rfl hE (by omega) (by omega) dX0_plant_70
            · have hR : x_plant p1 p2 p3 Z = (if Z.1 31 (ix p1) = 1 then ((1 : Int32), sI (sI Z 35 (ix p1) p2) 36 (ix p1) p3) else (x_met 3 Z)) := hR.trans (congrArg (fun z => z) (if_neg t36_2))
              by_cases t36_3 : Z.1 31 (ix p1) = 1
              · have hR : x_plant p1 p2 p3 Z = ((1 : Int32), sI (sI Z 35 (ix p1) p2) 36 (ix p1) p3) := hR.trans (congrArg (fun z => z) (if_pos t36_3))
                refine xcast_1 (b := (ix p1)) (by omega) (t36_0) (t36_3) hx hb hts hown hK hE dX0_plant_36 ?_
                refine xst (i := 4) (lv' := [(4, va_rf (adr Z B (ix p1))), (0, .ref x), (1, .int p1), (2, .int p2), (3, .int p3)]) hx hb dX0_plant_39 hl (by decide) (by first | rfl | simp [cat_rf] | simp [cat_rf, Value.category]) (fun ls hl => ?_)
                refine xld hx hb dX0_plant_41 (lv_at hl 0 rfl) ?_
                refine lv_iload_n hx hb dX0_plant_43 rfl (lv_at hl 3 rfl) ?_
                refine xbp_35 (b := (ix p1)) (by omega) (t36_0) (t36_3) hx hb hts hown hK hE dX0_plant_44 (fun H locs hE => ?_)
                refine xld hx hb dX0_plant_47 (lv_at hl 0 rfl) ?_
                rw [show adr Z B (ix p1) = adr (sI Z 35 (ix p1) p2) B (ix p1) from adr_eq rfl]
                refine lv_iload_n hx hb dX0_plant_49 rfl (lv_at hl 4 rfl) ?_
                refine xbp_36 (b := (ix p1)) (by omega) (t36_0) (t36_3) hx hb hts hown hK hE dX0_plant_50 (fun H locs hE => ?_)
                refine lv_iconst (v := 1) hx hb dX0_plant_53 rfl ?_
                exact hret (1 : Int32) (sI (sI Z 35 (ix p1) p2) 36 (ix p1) p3) hR rfl hE (by omega) (by omega) dX0_plant_54
              · have hR : x_plant p1 p2 p3 Z = (x_met 3 Z) := hR.trans (congrArg (fun z => z) (if_neg t36_3))
                rw [adr_of t36_0]
                refine xcc_no (C := "EaterWebs$Guest") (nm := "EaterWebs$Plant") hx hb hown (hts _ q466) (hX0.2.1 ("EaterWebs$Guest", "EaterWebs$Plant") (by simp [ncX])) hX0.2.2.2.2 (be_recv hbnp1 t36_0 hK hE (q := (RX6, TX6, 6)) (by rw [beF_3 t36_1 t36_3 t36_2]; rfl)) (by decide +kernel) (by decide +kernel) dX0_plant_36 (fun tx ht1 ht2 => ?_)
                refine xh_CC ht1 ht2 hx hl0 hml hown hts hX0 hE hl.1 hlk htab (tableOf [(30, 54, 55, 90)]) ⟨30, 54, 63, 206⟩ (tableOf []) rfl (by decide +kernel) (by decide +kernel) rfl (by omega) (by show 1 + 10240 ≤ R.locals; omega) (by omega) (by omega) (fun H q9 hE => ?_)
                refine lv_astore (lv' := [(4, .ref q9), (0, .ref x), (1, .int p1), (2, .int p2), (3, .int p3)]) hx hb dX0_plant_63 hl (by decide) rfl (fun ls hl => ?_)
                refine lv_aload_n hx hb dX0_plant_65 rfl (lv_at hl 1 rfl) ?_
                refine lv_iconst (v := 3) hx hb dX0_plant_66 rfl ?_
                refine call_x_met hx hb hml hown hts hK hA hE hl.1 3 (by omega) (lz (show 1 ≤ 8 by decide) hRf) (lz (show 21 ≤ 10300 by decide) hRl) (Nat.le_of_ble_eq_true rfl) dX0_plant_67 ⟨by omega, by omega⟩ (fun H locs hE => ?_)
                exact hret ((x_met 3 Z).1) ((x_met 3 Z).2) hR rfl hE (by omega) (by omega) dX0_plant_70
      · have hR : x_plant p1 p2 p3 Z = ((-1 : Int32), Z) := hR.trans (congrArg (fun z => z) (if_pos c25))
        refine lv_iconst (v := -1) hx hb dX0_plant_28 rfl ?_
        exact hret (-1 : Int32) Z hR rfl hE (by omega) (by omega) dX0_plant_29
def x_eater (p1 : Int32) (p2 : Int32) (p3 : Int32) (Z : ZT) : Int32 × ZT := (if (x_isBeing p1) = 0 then ((-1 : Int32), Z) else (if (x_isIn p2 (0 : Int32) (1000 : Int32)) = 0 then ((-1 : Int32), Z) else (if (x_isIn p3 (0 : Int32) (100 : Int32)) = 0 then ((-1 : Int32), Z) else (if Z.1 30 (ix p1) = 0 then (x_met 1 Z) else (if Z.1 31 (ix p1) = 0 then (x_met 3 Z) else (if Z.1 31 (ix p1) = 1 then (x_met 3 Z) else ((1 : Int32), sI (sI Z 37 (ix p1) p2) 38 (ix p1) p3)))))))
set_option maxHeartbeats 4000000 in
set_option maxRecDepth 100000 in
theorem met_x_eater (l : Launch) (hl0 : l.stackTraces = false) (D : va_G) (cs : Nat → ClassId) (x : Nat) (ar : Nat → Nat) (B : BT) (Y : va_W) (Z : ZT) (sz : Nat) (p1 : Int32) (p2 : Int32) (p3 : Int32) : Met l yX0_eater (wsW_ yX0_eater cX0_eater 5 (some .int) [(30, 54, 55, 90), (30, 54, 63, 206)]) ({ frames := 8, cells := 3, slots := 1010, locals := 10300 }) (va_Pc [.ref x, .int p1, .int p2, .int p3] (wStX D cs (WX x ar cs Z B Y) sz)) (cQi (fun (v : Int32) (u : ZT) => x_eater p1 p2 p3 Z = (v, u)) D (fun u => (WX x ar cs u B Y)) (WX x ar cs Z B Y) sz) 3 1010 (va_A (WX x ar cs Z B Y) sz) := by
  refine gStartX_i (C := RX0) rfl rfl (Nat.le_of_ble_eq_true rfl) ?_
  intro p e s mid args below meth c R Q A hx hb hml hown hts hK hA hRf hRl hRc hRs hlk htab hX0 hret hE ls hl
  have hRf : 8 ≤ R.frames := hRf
  have hRl : 10300 ≤ R.locals := hRl
  have hRc : 3 ≤ R.cells := hRc
  have hRs : 1010 ≤ R.slots := hRs
  have hl : lv_has ls 5 [(0, .ref x), (1, .int p1), (2, .int p2), (3, .int p3)] := hl
  have hR : x_eater p1 p2 p3 Z = (if (x_isBeing p1) = 0 then ((-1 : Int32), Z) else (if (x_isIn p2 (0 : Int32) (1000 : Int32)) = 0 then ((-1 : Int32), Z) else (if (x_isIn p3 (0 : Int32) (100 : Int32)) = 0 then ((-1 : Int32), Z) else (if Z.1 30 (ix p1) = 0 then (x_met 1 Z) else (if Z.1 31 (ix p1) = 0 then (x_met 3 Z) else (if Z.1 31 (ix p1) = 1 then (x_met 3 Z) else ((1 : Int32), sI (sI Z 37 (ix p1) p2) 38 (ix p1) p3))))))) := rfl
  refine lv_iload_n hx hb dX0_eater_0 rfl (lv_at hl 1 rfl) ?_
  refine call_x_isBeing hx hb hml hown hts hK hA hE hl.1 p1 (lz (show 2 ≤ 8 by decide) hRf) (lz (show 42 ≤ 10300 by decide) hRl) (Nat.le_of_ble_eq_true rfl) dX0_eater_1 ⟨by omega, by omega⟩ (fun H locs hE => ?_)
  refine lv_if_eq (tgt := 28) hx hb dX0_eater_4 (by decide) (fun c4 => ?_) (fun c4 => ?_)
  · have hR : x_eater p1 p2 p3 Z = ((-1 : Int32), Z) := hR.trans (congrArg (fun z => z) (if_pos c4))
    refine lv_iconst (v := -1) hx hb dX0_eater_28 rfl ?_
    exact hret (-1 : Int32) Z hR rfl hE (by omega) (by omega) dX0_eater_29
  · have hR : x_eater p1 p2 p3 Z = (if (x_isIn p2 (0 : Int32) (1000 : Int32)) = 0 then ((-1 : Int32), Z) else (if (x_isIn p3 (0 : Int32) (100 : Int32)) = 0 then ((-1 : Int32), Z) else (if Z.1 30 (ix p1) = 0 then (x_met 1 Z) else (if Z.1 31 (ix p1) = 0 then (x_met 3 Z) else (if Z.1 31 (ix p1) = 1 then (x_met 3 Z) else ((1 : Int32), sI (sI Z 37 (ix p1) p2) 38 (ix p1) p3)))))) := hR.trans (congrArg (fun z => z) (if_neg c4))
    refine lv_iload_n hx hb dX0_eater_7 rfl (lv_at hl 2 rfl) ?_
    refine lv_iconst (v := 0) hx hb dX0_eater_8 rfl ?_
    refine lv_sipush (v := 1000) hx hb dX0_eater_9 rfl ?_
    refine call_x_isIn hx hb hml hown hts hK hA hE hl.1 p2 (0 : Int32) (1000 : Int32) (lz (show 1 ≤ 8 by decide) hRf) (lz (show 22 ≤ 10300 by decide) hRl) (Nat.le_of_ble_eq_true rfl) dX0_eater_12 ⟨by omega, by omega⟩ (fun H locs hE => ?_)
    refine lv_if_eq (tgt := 28) hx hb dX0_eater_15 (by decide) (fun c15 => ?_) (fun c15 => ?_)
    · have hR : x_eater p1 p2 p3 Z = ((-1 : Int32), Z) := hR.trans (congrArg (fun z => z) (if_pos c15))
      refine lv_iconst (v := -1) hx hb dX0_eater_28 rfl ?_
      exact hret (-1 : Int32) Z hR rfl hE (by omega) (by omega) dX0_eater_29
    · have hR : x_eater p1 p2 p3 Z = (if (x_isIn p3 (0 : Int32) (100 : Int32)) = 0 then ((-1 : Int32), Z) else (if Z.1 30 (ix p1) = 0 then (x_met 1 Z) else (if Z.1 31 (ix p1) = 0 then (x_met 3 Z) else (if Z.1 31 (ix p1) = 1 then (x_met 3 Z) else ((1 : Int32), sI (sI Z 37 (ix p1) p2) 38 (ix p1) p3))))) := hR.trans (congrArg (fun z => z) (if_neg c15))
      refine lv_iload_n hx hb dX0_eater_18 rfl (lv_at hl 3 rfl) ?_
      refine lv_iconst (v := 0) hx hb dX0_eater_19 rfl ?_
      refine lv_bipush (v := 100) hx hb dX0_eater_20 rfl ?_
      refine call_x_isIn hx hb hml hown hts hK hA hE hl.1 p3 (0 : Int32) (100 : Int32) (lz (show 1 ≤ 8 by decide) hRf) (lz (show 22 ≤ 10300 by decide) hRl) (Nat.le_of_ble_eq_true rfl) dX0_eater_22 ⟨by omega, by omega⟩ (fun H locs hE => ?_)
      refine lv_if_ne (tgt := 30) hx hb dX0_eater_25 (by decide) (fun c25 => ?_) (fun c25 => ?_)
      · have hR : x_eater p1 p2 p3 Z = (if Z.1 30 (ix p1) = 0 then (x_met 1 Z) else (if Z.1 31 (ix p1) = 0 then (x_met 3 Z) else (if Z.1 31 (ix p1) = 1 then (x_met 3 Z) else ((1 : Int32), sI (sI Z 37 (ix p1) p2) 38 (ix p1) p3)))) := hR.trans (congrArg (fun z => z) (if_neg c25))
        have hnp1 := vp_ix (x := p1) (N := 8) (xBe_vp c4) (by decide)
        have hbnp1 := hnp1.2
        refine lv_aload_n hx hb dX0_eater_30 rfl (lv_at hl 0 rfl) ?_
        refine xg_10 hx hb hts hown hK hE dX0_eater_31 ?_
        refine lv_iload_n hx hb dX0_eater_34 rfl (lv_at hl 1 rfl) ?_
        refine top_nat hnp1.1 ?_
        refine xa_10 (n := (ix p1)) (by omega) hx hb hK hE dX0_eater_35 ?_
        by_cases t36_0 : Z.1 30 (ix p1) = 0
        · have hR : x_eater p1 p2 p3 Z = (x_met 1 Z) := hR.trans (congrArg (fun z => z) (if_pos t36_0))
          rw [adr_no t36_0]
          refine xcast_null hx hb dX0_eater_36 ?_
          refine xst (o := none) (lv' := [(4, .null), (0, .ref x), (1, .int p1), (2, .int p2), (3, .int p3)]) hx hb dX0_eater_39 hl (by decide) rfl (fun ls hl => ?_)
          refine xld (o := none) hx hb dX0_eater_41 (lv_at hl 0 rfl) ?_
          refine lv_iload_n hx hb dX0_eater_43 rfl (lv_at hl 3 rfl) ?_
          refine vx_putfNN (D := D) (cl := vwCl) (tys := tyL cs) (ci := 5) (C := RX5) (T := TX5) (N := 5) hx hb hts in_X5 hown hK.1 rfl 3 (by decide) (va_Nw.use rfl (hK.2.1 (.fieldLinkNest "EaterWebs" 208 "EaterWebs$Eater" "loss" "I" "EaterWebs") (by simp [nwL, nwF]))) (fun _ h9 => h9) rfl dX0_eater_44 ?_
          refine xh_N hx hl0 hml hown hts hX0 hE hl.1 hlk htab (tableOf []) ⟨30, 54, 55, 90⟩ (tableOf [(30, 54, 63, 206)]) rfl (by decide +kernel) (by decide +kernel) rfl (by omega) (by show 0 + 10240 ≤ R.locals; omega) (by omega) (by omega) (fun H q9 hE => ?_)
          refine lv_astore (lv' := [(4, .ref q9), (0, .ref x), (1, .int p1), (2, .int p2), (3, .int p3)]) hx hb dX0_eater_55 hl (by decide) rfl (fun ls hl => ?_)
          refine lv_aload_n hx hb dX0_eater_57 rfl (lv_at hl 1 rfl) ?_
          refine lv_iconst (v := 1) hx hb dX0_eater_58 rfl ?_
          refine call_x_met hx hb hml hown hts hK hA hE hl.1 1 (by omega) (lz (show 1 ≤ 8 by decide) hRf) (lz (show 21 ≤ 10300 by decide) hRl) (Nat.le_of_ble_eq_true rfl) dX0_eater_59 ⟨by omega, by omega⟩ (fun H locs hE => ?_)
          exact hret ((x_met 1 Z).1) ((x_met 1 Z).2) hR rfl hE (by omega) (by omega) dX0_eater_62
        · have hR : x_eater p1 p2 p3 Z = (if Z.1 31 (ix p1) = 0 then (x_met 3 Z) else (if Z.1 31 (ix p1) = 1 then (x_met 3 Z) else ((1 : Int32), sI (sI Z 37 (ix p1) p2) 38 (ix p1) p3))) := hR.trans (congrArg (fun z => z) (if_neg t36_0))
          by_cases t36_1 : Z.1 31 (ix p1) = 0
          · have hR : x_eater p1 p2 p3 Z = (x_met 3 Z) := hR.trans (congrArg (fun z => z) (if_pos t36_1))
            rw [adr_of t36_0]
            refine xcc_no (C := "EaterWebs$Being") (nm := "EaterWebs$Eater") hx hb hown (hts _ q484) (hX0.2.1 ("EaterWebs$Being", "EaterWebs$Eater") (by simp [ncX])) hX0.2.2.2.2 (be_recv hbnp1 t36_0 hK hE (q := (RX3, TX3, 3)) (by rw [beF_0 t36_1]; rfl)) (by decide +kernel) (by decide +kernel) dX0_eater_36 (fun tx ht1 ht2 => ?_)
            refine xh_CC ht1 ht2 hx hl0 hml hown hts hX0 hE hl.1 hlk htab (tableOf [(30, 54, 55, 90)]) ⟨30, 54, 63, 206⟩ (tableOf []) rfl (by decide +kernel) (by decide +kernel) rfl (by omega) (by show 1 + 10240 ≤ R.locals; omega) (by omega) (by omega) (fun H q9 hE => ?_)
            refine lv_astore (lv' := [(4, .ref q9), (0, .ref x), (1, .int p1), (2, .int p2), (3, .int p3)]) hx hb dX0_eater_63 hl (by decide) rfl (fun ls hl => ?_)
            refine lv_aload_n hx hb dX0_eater_65 rfl (lv_at hl 1 rfl) ?_
            refine lv_iconst (v := 3) hx hb dX0_eater_66 rfl ?_
            refine call_x_met hx hb hml hown hts hK hA hE hl.1 3 (by omega) (lz (show 1 ≤ 8 by decide) hRf) (lz (show 21 ≤ 10300 by decide) hRl) (Nat.le_of_ble_eq_true rfl) dX0_eater_67 ⟨by omega, by omega⟩ (fun H locs hE => ?_)
            exact hret ((x_met 3 Z).1) ((x_met 3 Z).2) hR rfl hE (by omega) (by omega) dX0_eater_70
          · have hR : x_eater p1 p2 p3 Z = (if Z.1 31 (ix p1) = 1 then (x_met 3 Z) else ((1 : Int32), sI (sI Z 37 (ix p1) p2) 38 (ix p1) p3)) := hR.trans (congrArg (fun z => z) (if_neg t36_1))
            by_cases t36_2 : Z.1 31 (ix p1) = 1
            · have hR : x_eater p1 p2 p3 Z = (x_met 3 Z) := hR.trans (congrArg (fun z => z) (if_pos t36_2))
              rw [adr_of t36_0]
              refine xcc_no (C := "EaterWebs$Plant") (nm := "EaterWebs$Eater") hx hb hown (hts _ q484) (hX0.2.1 ("EaterWebs$Plant", "EaterWebs$Eater") (by simp [ncX])) hX0.2.2.2.2 (be_recv hbnp1 t36_0 hK hE (q := (RX4, TX4, 5)) (by rw [beF_1 t36_2]; rfl)) (by decide +kernel) (by decide +kernel) dX0_eater_36 (fun tx ht1 ht2 => ?_)
              refine xh_CC ht1 ht2 hx hl0 hml hown hts hX0 hE hl.1 hlk htab (tableOf [(30, 54, 55, 90)]) ⟨30, 54, 63, 206⟩ (tableOf []) rfl (by decide +kernel) (by decide +kernel) rfl (by omega) (by show 1 + 10240 ≤ R.locals; omega) (by omega) (by omega) (fun H q9 hE => ?_)
              refine lv_astore (lv' := [(4, .ref q9), (0, .ref x), (1, .int p1), (2, .int p2), (3, .int p3)]) hx hb dX0_eater_63 hl (by decide) rfl (fun ls hl => ?_)
              refine lv_aload_n hx hb dX0_eater_65 rfl (lv_at hl 1 rfl) ?_
              refine lv_iconst (v := 3) hx hb dX0_eater_66 rfl ?_
              refine call_x_met hx hb hml hown hts hK hA hE hl.1 3 (by omega) (lz (show 1 ≤ 8 by decide) hRf) (lz (show 21 ≤ 10300 by decide) hRl) (Nat.le_of_ble_eq_true rfl) dX0_eater_67 ⟨by omega, by omega⟩ (fun H locs hE => ?_)
              exact hret ((x_met 3 Z).1) ((x_met 3 Z).2) hR rfl hE (by omega) (by omega) dX0_eater_70
            · have hR : x_eater p1 p2 p3 Z = ((1 : Int32), sI (sI Z 37 (ix p1) p2) 38 (ix p1) p3) := hR.trans (congrArg (fun z => z) (if_neg t36_2))
              refine xcast_2 (b := (ix p1)) (by omega) (t36_0) (t36_1) (t36_2) hx hb hts hown hK hE dX0_eater_36 ?_
              refine xst (i := 4) (lv' := [(4, va_rf (adr Z B (ix p1))), (0, .ref x), (1, .int p1), (2, .int p2), (3, .int p3)]) hx hb dX0_eater_39 hl (by decide) (by first | rfl | simp [cat_rf] | simp [cat_rf, Value.category]) (fun ls hl => ?_)
              refine xld hx hb dX0_eater_41 (lv_at hl 0 rfl) ?_
              refine lv_iload_n hx hb dX0_eater_43 rfl (lv_at hl 3 rfl) ?_
              refine xbp_37 (b := (ix p1)) (by omega) (t36_0) (t36_1) (t36_2) hx hb hts hown hK hE dX0_eater_44 (fun H locs hE => ?_)
              refine xld hx hb dX0_eater_47 (lv_at hl 0 rfl) ?_
              rw [show adr Z B (ix p1) = adr (sI Z 37 (ix p1) p2) B (ix p1) from adr_eq rfl]
              refine lv_iload_n hx hb dX0_eater_49 rfl (lv_at hl 4 rfl) ?_
              refine xbp_38 (b := (ix p1)) (by omega) (t36_0) (t36_1) (t36_2) hx hb hts hown hK hE dX0_eater_50 (fun H locs hE => ?_)
              refine lv_iconst (v := 1) hx hb dX0_eater_53 rfl ?_
              exact hret (1 : Int32) (sI (sI Z 37 (ix p1) p2) 38 (ix p1) p3) hR rfl hE (by omega) (by omega) dX0_eater_54
      · have hR : x_eater p1 p2 p3 Z = ((-1 : Int32), Z) := hR.trans (congrArg (fun z => z) (if_pos c25))
        refine lv_iconst (v := -1) hx hb dX0_eater_28 rfl ?_
        exact hret (-1 : Int32) Z hR rfl hE (by omega) (by omega) dX0_eater_29
def x_mark (p1 : Int32) (p2 : Int32) (Z : ZT) : Int32 × ZT := (if (x_isBeing p1) = 0 then ((-1 : Int32), Z) else (if (x_isIn p2 (0 : Int32) (3 : Int32)) = 0 then ((-1 : Int32), Z) else (if Z.1 30 (ix p1) = 0 then (x_met 1 Z) else (if p2 = 0 then (Z.1 32 (ix p1), Z) else (if p2 = 1 then (if Z.1 31 (ix p1) = 0 then (x_met 3 Z) else (if Z.1 31 (ix p1) = 2 then (x_met 3 Z) else (if Z.1 31 (ix p1) = 1 then (Z.1 36 (ix p1), Z) else (x_met 3 Z)))) else (if p2 = 2 then (if Z.1 31 (ix p1) = 0 then (x_met 3 Z) else (if Z.1 31 (ix p1) = 1 then (x_met 3 Z) else (Z.1 38 (ix p1), Z))) else (if Z.1 31 (ix p1) = 0 then (x_met 3 Z) else (if Z.1 31 (ix p1) = 1 then (x_met 3 Z) else (if Z.1 31 (ix p1) = 2 then (x_met 3 Z) else (((Z.1 5 0) - (Z.1 39 (ix p1))), Z))))))))))
set_option maxHeartbeats 4000000 in
set_option maxRecDepth 100000 in
theorem met_x_mark (l : Launch) (hl0 : l.stackTraces = false) (D : va_G) (cs : Nat → ClassId) (x : Nat) (ar : Nat → Nat) (B : BT) (Y : va_W) (Z : ZT) (sz : Nat) (p1 : Int32) (p2 : Int32) : Met l yX0_mark (wsW_ yX0_mark cX0_mark 5 (some .int) [(18, 64, 94, 90), (65, 72, 94, 90), (73, 80, 94, 90), (81, 93, 94, 90), (18, 64, 101, 206), (65, 72, 101, 206), (73, 80, 101, 206), (81, 93, 101, 206)]) ({ frames := 8, cells := 3, slots := 1010, locals := 10300 }) (va_Pc [.ref x, .int p1, .int p2] (wStX D cs (WX x ar cs Z B Y) sz)) (cQi (fun (v : Int32) (u : ZT) => x_mark p1 p2 Z = (v, u)) D (fun u => (WX x ar cs u B Y)) (WX x ar cs Z B Y) sz) 3 1010 (va_A (WX x ar cs Z B Y) sz) := by
  refine gStartX_i (C := RX0) rfl rfl (Nat.le_of_ble_eq_true rfl) ?_
  intro p e s mid args below meth c R Q A hx hb hml hown hts hK hA hRf hRl hRc hRs hlk htab hX0 hret hE ls hl
  have hRf : 8 ≤ R.frames := hRf
  have hRl : 10300 ≤ R.locals := hRl
  have hRc : 3 ≤ R.cells := hRc
  have hRs : 1010 ≤ R.slots := hRs
  have hl : lv_has ls 5 [(0, .ref x), (1, .int p1), (2, .int p2)] := hl
  have hR : x_mark p1 p2 Z = (if (x_isBeing p1) = 0 then ((-1 : Int32), Z) else (if (x_isIn p2 (0 : Int32) (3 : Int32)) = 0 then ((-1 : Int32), Z) else (if Z.1 30 (ix p1) = 0 then (x_met 1 Z) else (if p2 = 0 then (Z.1 32 (ix p1), Z) else (if p2 = 1 then (if Z.1 31 (ix p1) = 0 then (x_met 3 Z) else (if Z.1 31 (ix p1) = 2 then (x_met 3 Z) else (if Z.1 31 (ix p1) = 1 then (Z.1 36 (ix p1), Z) else (x_met 3 Z)))) else (if p2 = 2 then (if Z.1 31 (ix p1) = 0 then (x_met 3 Z) else (if Z.1 31 (ix p1) = 1 then (x_met 3 Z) else (Z.1 38 (ix p1), Z))) else (if Z.1 31 (ix p1) = 0 then (x_met 3 Z) else (if Z.1 31 (ix p1) = 1 then (x_met 3 Z) else (if Z.1 31 (ix p1) = 2 then (x_met 3 Z) else (((Z.1 5 0) - (Z.1 39 (ix p1))), Z)))))))))) := rfl
  refine lv_iload_n hx hb dX0_mark_0 rfl (lv_at hl 1 rfl) ?_
  refine call_x_isBeing hx hb hml hown hts hK hA hE hl.1 p1 (lz (show 2 ≤ 8 by decide) hRf) (lz (show 42 ≤ 10300 by decide) hRl) (Nat.le_of_ble_eq_true rfl) dX0_mark_1 ⟨by omega, by omega⟩ (fun H locs hE => ?_)
  refine lv_if_eq (tgt := 16) hx hb dX0_mark_4 (by decide) (fun c4 => ?_) (fun c4 => ?_)
  · have hR : x_mark p1 p2 Z = ((-1 : Int32), Z) := hR.trans (congrArg (fun z => z) (if_pos c4))
    refine lv_iconst (v := -1) hx hb dX0_mark_16 rfl ?_
    exact hret (-1 : Int32) Z hR rfl hE (by omega) (by omega) dX0_mark_17
  · have hR : x_mark p1 p2 Z = (if (x_isIn p2 (0 : Int32) (3 : Int32)) = 0 then ((-1 : Int32), Z) else (if Z.1 30 (ix p1) = 0 then (x_met 1 Z) else (if p2 = 0 then (Z.1 32 (ix p1), Z) else (if p2 = 1 then (if Z.1 31 (ix p1) = 0 then (x_met 3 Z) else (if Z.1 31 (ix p1) = 2 then (x_met 3 Z) else (if Z.1 31 (ix p1) = 1 then (Z.1 36 (ix p1), Z) else (x_met 3 Z)))) else (if p2 = 2 then (if Z.1 31 (ix p1) = 0 then (x_met 3 Z) else (if Z.1 31 (ix p1) = 1 then (x_met 3 Z) else (Z.1 38 (ix p1), Z))) else (if Z.1 31 (ix p1) = 0 then (x_met 3 Z) else (if Z.1 31 (ix p1) = 1 then (x_met 3 Z) else (if Z.1 31 (ix p1) = 2 then (x_met 3 Z) else (((Z.1 5 0) - (Z.1 39 (ix p1))), Z))))))))) := hR.trans (congrArg (fun z => z) (if_neg c4))
    refine lv_iload_n hx hb dX0_mark_7 rfl (lv_at hl 2 rfl) ?_
    refine lv_iconst (v := 0) hx hb dX0_mark_8 rfl ?_
    refine lv_iconst (v := 3) hx hb dX0_mark_9 rfl ?_
    refine call_x_isIn hx hb hml hown hts hK hA hE hl.1 p2 (0 : Int32) (3 : Int32) (lz (show 1 ≤ 8 by decide) hRf) (lz (show 22 ≤ 10300 by decide) hRl) (Nat.le_of_ble_eq_true rfl) dX0_mark_10 ⟨by omega, by omega⟩ (fun H locs hE => ?_)
    refine lv_if_ne (tgt := 18) hx hb dX0_mark_13 (by decide) (fun c13 => ?_) (fun c13 => ?_)
    · have hR : x_mark p1 p2 Z = (if Z.1 30 (ix p1) = 0 then (x_met 1 Z) else (if p2 = 0 then (Z.1 32 (ix p1), Z) else (if p2 = 1 then (if Z.1 31 (ix p1) = 0 then (x_met 3 Z) else (if Z.1 31 (ix p1) = 2 then (x_met 3 Z) else (if Z.1 31 (ix p1) = 1 then (Z.1 36 (ix p1), Z) else (x_met 3 Z)))) else (if p2 = 2 then (if Z.1 31 (ix p1) = 0 then (x_met 3 Z) else (if Z.1 31 (ix p1) = 1 then (x_met 3 Z) else (Z.1 38 (ix p1), Z))) else (if Z.1 31 (ix p1) = 0 then (x_met 3 Z) else (if Z.1 31 (ix p1) = 1 then (x_met 3 Z) else (if Z.1 31 (ix p1) = 2 then (x_met 3 Z) else (((Z.1 5 0) - (Z.1 39 (ix p1))), Z)))))))) := hR.trans (congrArg (fun z => z) (if_neg c13))
      have hnp1 := vp_ix (x := p1) (N := 8) (xBe_vp c4) (by decide)
      have hbnp1 := hnp1.2
      refine lv_aload_n hx hb dX0_mark_18 rfl (lv_at hl 0 rfl) ?_
      refine xg_10 hx hb hts hown hK hE dX0_mark_19 ?_
      refine lv_iload_n hx hb dX0_mark_22 rfl (lv_at hl 1 rfl) ?_
      refine top_nat hnp1.1 ?_
      refine xa_10 (n := (ix p1)) (by omega) hx hb hK hE dX0_mark_23 ?_
      refine xst_n (i := 3) (lv' := [(3, va_rf (adr Z B (ix p1))), (0, .ref x), (1, .int p1), (2, .int p2)]) hx hb dX0_mark_24 rfl hl (by decide) (by first | rfl | simp [cat_rf] | simp [cat_rf, Value.category]) (fun ls hl => ?_)
      refine xld_n hx hb dX0_mark_25 rfl (lv_at hl 0 rfl) ?_
      refine lv_iload_n hx hb dX0_mark_26 rfl (lv_at hl 3 rfl) ?_
      by_cases t27_0 : Z.1 30 (ix p1) = 0
      · have hR : x_mark p1 p2 Z = (x_met 1 Z) := hR.trans (congrArg (fun z => z) (if_pos t27_0))
        rw [adr_no t27_0]
        refine vx_invokeN (As := [.int p2]) hx hb hown (hts _ q518) (hts _ q519) (hts _ q526) (hts _ q520) (by decide) (show _ = some 1 from by decide +kernel) dX0_mark_27 ?_ rfl
        refine xh_N hx hl0 hml hown hts hX0 hE hl.1 hlk htab (tableOf []) ⟨18, 64, 94, 90⟩ (tableOf [(65, 72, 94, 90), (73, 80, 94, 90), (81, 93, 94, 90), (18, 64, 101, 206), (65, 72, 101, 206), (73, 80, 101, 206), (81, 93, 101, 206)]) rfl (by decide +kernel) (by decide +kernel) rfl (by omega) (by show 0 + 10240 ≤ R.locals; omega) (by omega) (by omega) (fun H q9 hE => ?_)
        refine lv_astore_n (lv' := [(3, .ref q9), (0, .ref x), (1, .int p1), (2, .int p2)]) hx hb dX0_mark_94 rfl hl (by decide) rfl (fun ls hl => ?_)
        refine lv_aload_n hx hb dX0_mark_95 rfl (lv_at hl 1 rfl) ?_
        refine lv_iconst (v := 1) hx hb dX0_mark_96 rfl ?_
        refine call_x_met hx hb hml hown hts hK hA hE hl.1 1 (by omega) (lz (show 1 ≤ 8 by decide) hRf) (lz (show 21 ≤ 10300 by decide) hRl) (Nat.le_of_ble_eq_true rfl) dX0_mark_97 ⟨by omega, by omega⟩ (fun H locs hE => ?_)
        exact hret ((x_met 1 Z).1) ((x_met 1 Z).2) hR rfl hE (by omega) (by omega) dX0_mark_100
      · have hR : x_mark p1 p2 Z = (if p2 = 0 then (Z.1 32 (ix p1), Z) else (if p2 = 1 then (if Z.1 31 (ix p1) = 0 then (x_met 3 Z) else (if Z.1 31 (ix p1) = 2 then (x_met 3 Z) else (if Z.1 31 (ix p1) = 1 then (Z.1 36 (ix p1), Z) else (x_met 3 Z)))) else (if p2 = 2 then (if Z.1 31 (ix p1) = 0 then (x_met 3 Z) else (if Z.1 31 (ix p1) = 1 then (x_met 3 Z) else (Z.1 38 (ix p1), Z))) else (if Z.1 31 (ix p1) = 0 then (x_met 3 Z) else (if Z.1 31 (ix p1) = 1 then (x_met 3 Z) else (if Z.1 31 (ix p1) = 2 then (x_met 3 Z) else (((Z.1 5 0) - (Z.1 39 (ix p1))), Z))))))) := hR.trans (congrArg (fun z => z) (if_neg t27_0))
        refine call_v_is hx hb hml hown hts hK hA hE hl.1 (ix p1) p2 (by omega) (t27_0) (lz (show 3 ≤ 8 by decide) hRf) (lz (show 63 ≤ 10300 by decide) hRl) (Nat.le_of_ble_eq_true rfl) dX0_mark_27 ⟨by omega, by omega⟩ (fun H locs hE => ?_)
        refine lv_istore (i := 4) (lv' := [(4, .int (v_is (ix p1) p2 Z)), (3, va_rf (adr Z B (ix p1))), (0, .ref x), (1, .int p1), (2, .int p2)]) hx hb dX0_mark_30 hl (by decide) (by first | rfl | simp [cat_rf] | simp [cat_rf, Value.category]) (fun ls hl => ?_)
        refine lv_iload_n hx hb dX0_mark_32 rfl (lv_at hl 4 rfl) ?_
        by_cases c33_0 : p2 = 0
        · have hR : x_mark p1 p2 Z = (Z.1 32 (ix p1), Z) := hR.trans (congrArg (fun z => z) (if_pos c33_0))
          refine lv_tableIn (off := 27) (tgt := 60) hx hb dX0_mark_33 (by rw [c33_0]; decide) (by rw [c33_0]; decide) (by rw [c33_0]; rfl) (by decide) ?_
          refine xld_n hx hb dX0_mark_60 rfl (lv_at hl 1 rfl) ?_
          refine xbg_32 (b := (ix p1)) (by omega) (t27_0) hx hb hts hown hK hE dX0_mark_61 ?_
          exact hret (Z.1 32 (ix p1)) Z hR rfl hE (by omega) (by omega) dX0_mark_64
        · have hR : x_mark p1 p2 Z = (if p2 = 1 then (if Z.1 31 (ix p1) = 0 then (x_met 3 Z) else (if Z.1 31 (ix p1) = 2 then (x_met 3 Z) else (if Z.1 31 (ix p1) = 1 then (Z.1 36 (ix p1), Z) else (x_met 3 Z)))) else (if p2 = 2 then (if Z.1 31 (ix p1) = 0 then (x_met 3 Z) else (if Z.1 31 (ix p1) = 1 then (x_met 3 Z) else (Z.1 38 (ix p1), Z))) else (if Z.1 31 (ix p1) = 0 then (x_met 3 Z) else (if Z.1 31 (ix p1) = 1 then (x_met 3 Z) else (if Z.1 31 (ix p1) = 2 then (x_met 3 Z) else (((Z.1 5 0) - (Z.1 39 (ix p1))), Z)))))) := hR.trans (congrArg (fun z => z) (if_neg c33_0))
          by_cases c33_1 : p2 = 1
          · have hR : x_mark p1 p2 Z = (if Z.1 31 (ix p1) = 0 then (x_met 3 Z) else (if Z.1 31 (ix p1) = 2 then (x_met 3 Z) else (if Z.1 31 (ix p1) = 1 then (Z.1 36 (ix p1), Z) else (x_met 3 Z)))) := hR.trans (congrArg (fun z => z) (if_pos c33_1))
            refine lv_tableIn (off := 32) (tgt := 65) hx hb dX0_mark_33 (by rw [c33_1]; decide) (by rw [c33_1]; decide) (by rw [c33_1]; rfl) (by decide) ?_
            refine xld_n hx hb dX0_mark_65 rfl (lv_at hl 1 rfl) ?_
            by_cases t66_0 : Z.1 31 (ix p1) = 0
            · have hR : x_mark p1 p2 Z = (x_met 3 Z) := hR.trans (congrArg (fun z => z) (if_pos t66_0))
              rw [adr_of t27_0]
              refine xcc_no (C := "EaterWebs$Being") (nm := "EaterWebs$Plant") hx hb hown (hts _ q466) (hX0.2.1 ("EaterWebs$Being", "EaterWebs$Plant") (by simp [ncX])) hX0.2.2.2.2 (be_recv hbnp1 t27_0 hK hE (q := (RX3, TX3, 3)) (by rw [beF_0 t66_0]; rfl)) (by decide +kernel) (by decide +kernel) dX0_mark_66 (fun tx ht1 ht2 => ?_)
              refine xh_CC ht1 ht2 hx hl0 hml hown hts hX0 hE hl.1 hlk htab (tableOf [(18, 64, 94, 90), (65, 72, 94, 90), (73, 80, 94, 90), (81, 93, 94, 90), (18, 64, 101, 206)]) ⟨65, 72, 101, 206⟩ (tableOf [(73, 80, 101, 206), (81, 93, 101, 206)]) rfl (by decide +kernel) (by decide +kernel) rfl (by omega) (by show 1 + 10240 ≤ R.locals; omega) (by omega) (by omega) (fun H q9 hE => ?_)
              refine lv_astore_n (lv' := [(3, .ref q9), (4, .int (v_is (ix p1) p2 Z)), (0, .ref x), (1, .int p1), (2, .int p2)]) hx hb dX0_mark_101 rfl hl (by decide) rfl (fun ls hl => ?_)
              refine lv_aload_n hx hb dX0_mark_102 rfl (lv_at hl 2 rfl) ?_
              refine lv_iconst (v := 3) hx hb dX0_mark_103 rfl ?_
              refine call_x_met hx hb hml hown hts hK hA hE hl.1 3 (by omega) (lz (show 1 ≤ 8 by decide) hRf) (lz (show 21 ≤ 10300 by decide) hRl) (Nat.le_of_ble_eq_true rfl) dX0_mark_104 ⟨by omega, by omega⟩ (fun H locs hE => ?_)
              exact hret ((x_met 3 Z).1) ((x_met 3 Z).2) hR rfl hE (by omega) (by omega) dX0_mark_107
            · have hR : x_mark p1 p2 Z = (if Z.1 31 (ix p1) = 2 then (x_met 3 Z) else (if Z.1 31 (ix p1) = 1 then (Z.1 36 (ix p1), Z) else (x_met 3 Z))) := hR.trans (congrArg (fun z => z) (if_neg t66_0))
              by_cases t66_1 : Z.1 31 (ix p1) = 2
              · have hR : x_mark p1 p2 Z = (x_met 3 Z) := hR.trans (congrArg (fun z => z) (if_pos t66_1))
                rw [adr_of t27_0]
                refine xcc_no (C := "EaterWebs$Eater") (nm := "EaterWebs$Plant") hx hb hown (hts _ q466) (hX0.2.1 ("EaterWebs$Eater", "EaterWebs$Plant") (by simp [ncX])) hX0.2.2.2.2 (be_recv hbnp1 t27_0 hK hE (q := (RX5, TX5, 5)) (by rw [beF_2 t66_1]; rfl)) (by decide +kernel) (by decide +kernel) dX0_mark_66 (fun tx ht1 ht2 => ?_)
                refine xh_CC ht1 ht2 hx hl0 hml hown hts hX0 hE hl.1 hlk htab (tableOf [(18, 64, 94, 90), (65, 72, 94, 90), (73, 80, 94, 90), (81, 93, 94, 90), (18, 64, 101, 206)]) ⟨65, 72, 101, 206⟩ (tableOf [(73, 80, 101, 206), (81, 93, 101, 206)]) rfl (by decide +kernel) (by decide +kernel) rfl (by omega) (by show 1 + 10240 ≤ R.locals; omega) (by omega) (by omega) (fun H q9 hE => ?_)
                refine lv_astore_n (lv' := [(3, .ref q9), (4, .int (v_is (ix p1) p2 Z)), (0, .ref x), (1, .int p1), (2, .int p2)]) hx hb dX0_mark_101 rfl hl (by decide) rfl (fun ls hl => ?_)
                refine lv_aload_n hx hb dX0_mark_102 rfl (lv_at hl 2 rfl) ?_
                refine lv_iconst (v := 3) hx hb dX0_mark_103 rfl ?_
                refine call_x_met hx hb hml hown hts hK hA hE hl.1 3 (by omega) (lz (show 1 ≤ 8 by decide) hRf) (lz (show 21 ≤ 10300 by decide) hRl) (Nat.le_of_ble_eq_true rfl) dX0_mark_104 ⟨by omega, by omega⟩ (fun H locs hE => ?_)
                exact hret ((x_met 3 Z).1) ((x_met 3 Z).2) hR rfl hE (by omega) (by omega) dX0_mark_107
              · have hR : x_mark p1 p2 Z = (if Z.1 31 (ix p1) = 1 then (Z.1 36 (ix p1), Z) else (x_met 3 Z)) := hR.trans (congrArg (fun z => z) (if_neg t66_1))
                by_cases t66_2 : Z.1 31 (ix p1) = 1
                · have hR : x_mark p1 p2 Z = (Z.1 36 (ix p1), Z) := hR.trans (congrArg (fun z => z) (if_pos t66_2))
                  refine xcast_1 (b := (ix p1)) (by omega) (t27_0) (t66_2) hx hb hts hown hK hE dX0_mark_66 ?_
                  refine xbg_36 (b := (ix p1)) (by omega) (t27_0) (t66_2) hx hb hts hown hK hE dX0_mark_69 ?_
                  exact hret (Z.1 36 (ix p1)) Z hR rfl hE (by omega) (by omega) dX0_mark_72
                · have hR : x_mark p1 p2 Z = (x_met 3 Z) := hR.trans (congrArg (fun z => z) (if_neg t66_2))
                  rw [adr_of t27_0]
                  refine xcc_no (C := "EaterWebs$Guest") (nm := "EaterWebs$Plant") hx hb hown (hts _ q466) (hX0.2.1 ("EaterWebs$Guest", "EaterWebs$Plant") (by simp [ncX])) hX0.2.2.2.2 (be_recv hbnp1 t27_0 hK hE (q := (RX6, TX6, 6)) (by rw [beF_3 t66_0 t66_2 t66_1]; rfl)) (by decide +kernel) (by decide +kernel) dX0_mark_66 (fun tx ht1 ht2 => ?_)
                  refine xh_CC ht1 ht2 hx hl0 hml hown hts hX0 hE hl.1 hlk htab (tableOf [(18, 64, 94, 90), (65, 72, 94, 90), (73, 80, 94, 90), (81, 93, 94, 90), (18, 64, 101, 206)]) ⟨65, 72, 101, 206⟩ (tableOf [(73, 80, 101, 206), (81, 93, 101, 206)]) rfl (by decide +kernel) (by decide +kernel) rfl (by omega) (by show 1 + 10240 ≤ R.locals; omega) (by omega) (by omega) (fun H q9 hE => ?_)
                  refine lv_astore_n (lv' := [(3, .ref q9), (4, .int (v_is (ix p1) p2 Z)), (0, .ref x), (1, .int p1), (2, .int p2)]) hx hb dX0_mark_101 rfl hl (by decide) rfl (fun ls hl => ?_)
                  refine lv_aload_n hx hb dX0_mark_102 rfl (lv_at hl 2 rfl) ?_
                  refine lv_iconst (v := 3) hx hb dX0_mark_103 rfl ?_
                  refine call_x_met hx hb hml hown hts hK hA hE hl.1 3 (by omega) (lz (show 1 ≤ 8 by decide) hRf) (lz (show 21 ≤ 10300 by decide) hRl) (Nat.le_of_ble_eq_true rfl) dX0_mark_104 ⟨by omega, by omega⟩ (fun H locs hE => ?_)
                  exact hret ((x_met 3 Z).1) ((x_met 3 Z).2) hR rfl hE (by omega) (by omega) dX0_mark_107
          · have hR : x_mark p1 p2 Z = (if p2 = 2 then (if Z.1 31 (ix p1) = 0 then (x_met 3 Z) else (if Z.1 31 (ix p1) = 1 then (x_met 3 Z) else (Z.1 38 (ix p1), Z))) else (if Z.1 31 (ix p1) = 0 then (x_met 3 Z) else (if Z.1 31 (ix p1) = 1 then (x_met 3 Z) else (if Z.1 31 (ix p1) = 2 then (x_met 3 Z) else (((Z.1 5 0) - (Z.1 39 (ix p1))), Z))))) := hR.trans (congrArg (fun z => z) (if_neg c33_1))
            by_cases c33_2 : p2 = 2
            · have hR : x_mark p1 p2 Z = (if Z.1 31 (ix p1) = 0 then (x_met 3 Z) else (if Z.1 31 (ix p1) = 1 then (x_met 3 Z) else (Z.1 38 (ix p1), Z))) := hR.trans (congrArg (fun z => z) (if_pos c33_2))
              refine lv_tableIn (off := 40) (tgt := 73) hx hb dX0_mark_33 (by rw [c33_2]; decide) (by rw [c33_2]; decide) (by rw [c33_2]; rfl) (by decide) ?_
              refine xld_n hx hb dX0_mark_73 rfl (lv_at hl 1 rfl) ?_
              by_cases t74_0 : Z.1 31 (ix p1) = 0
              · have hR : x_mark p1 p2 Z = (x_met 3 Z) := hR.trans (congrArg (fun z => z) (if_pos t74_0))
                rw [adr_of t27_0]
                refine xcc_no (C := "EaterWebs$Being") (nm := "EaterWebs$Eater") hx hb hown (hts _ q484) (hX0.2.1 ("EaterWebs$Being", "EaterWebs$Eater") (by simp [ncX])) hX0.2.2.2.2 (be_recv hbnp1 t27_0 hK hE (q := (RX3, TX3, 3)) (by rw [beF_0 t74_0]; rfl)) (by decide +kernel) (by decide +kernel) dX0_mark_74 (fun tx ht1 ht2 => ?_)
                refine xh_CC ht1 ht2 hx hl0 hml hown hts hX0 hE hl.1 hlk htab (tableOf [(18, 64, 94, 90), (65, 72, 94, 90), (73, 80, 94, 90), (81, 93, 94, 90), (18, 64, 101, 206), (65, 72, 101, 206)]) ⟨73, 80, 101, 206⟩ (tableOf [(81, 93, 101, 206)]) rfl (by decide +kernel) (by decide +kernel) rfl (by omega) (by show 1 + 10240 ≤ R.locals; omega) (by omega) (by omega) (fun H q9 hE => ?_)
                refine lv_astore_n (lv' := [(3, .ref q9), (4, .int (v_is (ix p1) p2 Z)), (0, .ref x), (1, .int p1), (2, .int p2)]) hx hb dX0_mark_101 rfl hl (by decide) rfl (fun ls hl => ?_)
                refine lv_aload_n hx hb dX0_mark_102 rfl (lv_at hl 2 rfl) ?_
                refine lv_iconst (v := 3) hx hb dX0_mark_103 rfl ?_
                refine call_x_met hx hb hml hown hts hK hA hE hl.1 3 (by omega) (lz (show 1 ≤ 8 by decide) hRf) (lz (show 21 ≤ 10300 by decide) hRl) (Nat.le_of_ble_eq_true rfl) dX0_mark_104 ⟨by omega, by omega⟩ (fun H locs hE => ?_)
                exact hret ((x_met 3 Z).1) ((x_met 3 Z).2) hR rfl hE (by omega) (by omega) dX0_mark_107
              · have hR : x_mark p1 p2 Z = (if Z.1 31 (ix p1) = 1 then (x_met 3 Z) else (Z.1 38 (ix p1), Z)) := hR.trans (congrArg (fun z => z) (if_neg t74_0))
                by_cases t74_1 : Z.1 31 (ix p1) = 1
                · have hR : x_mark p1 p2 Z = (x_met 3 Z) := hR.trans (congrArg (fun z => z) (if_pos t74_1))
                  rw [adr_of t27_0]
                  refine xcc_no (C := "EaterWebs$Plant") (nm := "EaterWebs$Eater") hx hb hown (hts _ q484) (hX0.2.1 ("EaterWebs$Plant", "EaterWebs$Eater") (by simp [ncX])) hX0.2.2.2.2 (be_recv hbnp1 t27_0 hK hE (q := (RX4, TX4, 5)) (by rw [beF_1 t74_1]; rfl)) (by decide +kernel) (by decide +kernel) dX0_mark_74 (fun tx ht1 ht2 => ?_)
                  refine xh_CC ht1 ht2 hx hl0 hml hown hts hX0 hE hl.1 hlk htab (tableOf [(18, 64, 94, 90), (65, 72, 94, 90), (73, 80, 94, 90), (81, 93, 94, 90), (18, 64, 101, 206), (65, 72, 101, 206)]) ⟨73, 80, 101, 206⟩ (tableOf [(81, 93, 101, 206)]) rfl (by decide +kernel) (by decide +kernel) rfl (by omega) (by show 1 + 10240 ≤ R.locals; omega) (by omega) (by omega) (fun H q9 hE => ?_)
                  refine lv_astore_n (lv' := [(3, .ref q9), (4, .int (v_is (ix p1) p2 Z)), (0, .ref x), (1, .int p1), (2, .int p2)]) hx hb dX0_mark_101 rfl hl (by decide) rfl (fun ls hl => ?_)
                  refine lv_aload_n hx hb dX0_mark_102 rfl (lv_at hl 2 rfl) ?_
                  refine lv_iconst (v := 3) hx hb dX0_mark_103 rfl ?_
                  refine call_x_met hx hb hml hown hts hK hA hE hl.1 3 (by omega) (lz (show 1 ≤ 8 by decide) hRf) (lz (show 21 ≤ 10300 by decide) hRl) (Nat.le_of_ble_eq_true rfl) dX0_mark_104 ⟨by omega, by omega⟩ (fun H locs hE => ?_)
                  exact hret ((x_met 3 Z).1) ((x_met 3 Z).2) hR rfl hE (by omega) (by omega) dX0_mark_107
                · have hR : x_mark p1 p2 Z = (Z.1 38 (ix p1), Z) := hR.trans (congrArg (fun z => z) (if_neg t74_1))
                  refine xcast_2 (b := (ix p1)) (by omega) (t27_0) (t74_0) (t74_1) hx hb hts hown hK hE dX0_mark_74 ?_
                  refine xbg_38 (b := (ix p1)) (by omega) (t27_0) (t74_0) (t74_1) hx hb hts hown hK hE dX0_mark_77 ?_
                  exact hret (Z.1 38 (ix p1)) Z hR rfl hE (by omega) (by omega) dX0_mark_80
            · have hR : x_mark p1 p2 Z = (if Z.1 31 (ix p1) = 0 then (x_met 3 Z) else (if Z.1 31 (ix p1) = 1 then (x_met 3 Z) else (if Z.1 31 (ix p1) = 2 then (x_met 3 Z) else (((Z.1 5 0) - (Z.1 39 (ix p1))), Z)))) := hR.trans (congrArg (fun z => z) (if_neg c33_2))
              refine lv_tableOut (tgt := 81) hx hb dX0_mark_33 (sw_out2 c33_0 c33_1 c33_2) (by decide) ?_
              refine lv_aload_n hx hb dX0_mark_81 rfl (lv_at hl 2 rfl) ?_
              refine xg_5 hx hb hts hown hK hE dX0_mark_82 ?_
              refine xld_n hx hb dX0_mark_85 rfl (lv_at hl 1 rfl) ?_
              by_cases t86_0 : Z.1 31 (ix p1) = 0
              · have hR : x_mark p1 p2 Z = (x_met 3 Z) := hR.trans (congrArg (fun z => z) (if_pos t86_0))
                rw [adr_of t27_0]
                refine xcc_no (C := "EaterWebs$Being") (nm := "EaterWebs$Guest") hx hb hown (hts _ q502) (hX0.2.1 ("EaterWebs$Being", "EaterWebs$Guest") (by simp [ncX])) hX0.2.2.2.2 (be_recv hbnp1 t27_0 hK hE (q := (RX3, TX3, 3)) (by rw [beF_0 t86_0]; rfl)) (by decide +kernel) (by decide +kernel) dX0_mark_86 (fun tx ht1 ht2 => ?_)
                refine xh_CC ht1 ht2 hx hl0 hml hown hts hX0 hE hl.1 hlk htab (tableOf [(18, 64, 94, 90), (65, 72, 94, 90), (73, 80, 94, 90), (81, 93, 94, 90), (18, 64, 101, 206), (65, 72, 101, 206), (73, 80, 101, 206)]) ⟨81, 93, 101, 206⟩ (tableOf []) rfl (by decide +kernel) (by decide +kernel) rfl (by omega) (by show 2 + 10240 ≤ R.locals; omega) (by omega) (by omega) (fun H q9 hE => ?_)
                refine lv_astore_n (lv' := [(3, .ref q9), (4, .int (v_is (ix p1) p2 Z)), (0, .ref x), (1, .int p1), (2, .int p2)]) hx hb dX0_mark_101 rfl hl (by decide) rfl (fun ls hl => ?_)
                refine lv_aload_n hx hb dX0_mark_102 rfl (lv_at hl 2 rfl) ?_
                refine lv_iconst (v := 3) hx hb dX0_mark_103 rfl ?_
                refine call_x_met hx hb hml hown hts hK hA hE hl.1 3 (by omega) (lz (show 1 ≤ 8 by decide) hRf) (lz (show 21 ≤ 10300 by decide) hRl) (Nat.le_of_ble_eq_true rfl) dX0_mark_104 ⟨by omega, by omega⟩ (fun H locs hE => ?_)
                exact hret ((x_met 3 Z).1) ((x_met 3 Z).2) hR rfl hE (by omega) (by omega) dX0_mark_107
              · have hR : x_mark p1 p2 Z = (if Z.1 31 (ix p1) = 1 then (x_met 3 Z) else (if Z.1 31 (ix p1) = 2 then (x_met 3 Z) else (((Z.1 5 0) - (Z.1 39 (ix p1))), Z))) := hR.trans (congrArg (fun z => z) (if_neg t86_0))
                by_cases t86_1 : Z.1 31 (ix p1) = 1
                · have hR : x_mark p1 p2 Z = (x_met 3 Z) := hR.trans (congrArg (fun z => z) (if_pos t86_1))
                  rw [adr_of t27_0]
                  refine xcc_no (C := "EaterWebs$Plant") (nm := "EaterWebs$Guest") hx hb hown (hts _ q502) (hX0.2.1 ("EaterWebs$Plant", "EaterWebs$Guest") (by simp [ncX])) hX0.2.2.2.2 (be_recv hbnp1 t27_0 hK hE (q := (RX4, TX4, 5)) (by rw [beF_1 t86_1]; rfl)) (by decide +kernel) (by decide +kernel) dX0_mark_86 (fun tx ht1 ht2 => ?_)
                  refine xh_CC ht1 ht2 hx hl0 hml hown hts hX0 hE hl.1 hlk htab (tableOf [(18, 64, 94, 90), (65, 72, 94, 90), (73, 80, 94, 90), (81, 93, 94, 90), (18, 64, 101, 206), (65, 72, 101, 206), (73, 80, 101, 206)]) ⟨81, 93, 101, 206⟩ (tableOf []) rfl (by decide +kernel) (by decide +kernel) rfl (by omega) (by show 2 + 10240 ≤ R.locals; omega) (by omega) (by omega) (fun H q9 hE => ?_)
                  refine lv_astore_n (lv' := [(3, .ref q9), (4, .int (v_is (ix p1) p2 Z)), (0, .ref x), (1, .int p1), (2, .int p2)]) hx hb dX0_mark_101 rfl hl (by decide) rfl (fun ls hl => ?_)
                  refine lv_aload_n hx hb dX0_mark_102 rfl (lv_at hl 2 rfl) ?_
                  refine lv_iconst (v := 3) hx hb dX0_mark_103 rfl ?_
                  refine call_x_met hx hb hml hown hts hK hA hE hl.1 3 (by omega) (lz (show 1 ≤ 8 by decide) hRf) (lz (show 21 ≤ 10300 by decide) hRl) (Nat.le_of_ble_eq_true rfl) dX0_mark_104 ⟨by omega, by omega⟩ (fun H locs hE => ?_)
                  exact hret ((x_met 3 Z).1) ((x_met 3 Z).2) hR rfl hE (by omega) (by omega) dX0_mark_107
                · have hR : x_mark p1 p2 Z = (if Z.1 31 (ix p1) = 2 then (x_met 3 Z) else (((Z.1 5 0) - (Z.1 39 (ix p1))), Z)) := hR.trans (congrArg (fun z => z) (if_neg t86_1))
                  by_cases t86_2 : Z.1 31 (ix p1) = 2
                  · have hR : x_mark p1 p2 Z = (x_met 3 Z) := hR.trans (congrArg (fun z => z) (if_pos t86_2))
                    rw [adr_of t27_0]
                    refine xcc_no (C := "EaterWebs$Eater") (nm := "EaterWebs$Guest") hx hb hown (hts _ q502) (hX0.2.1 ("EaterWebs$Eater", "EaterWebs$Guest") (by simp [ncX])) hX0.2.2.2.2 (be_recv hbnp1 t27_0 hK hE (q := (RX5, TX5, 5)) (by rw [beF_2 t86_2]; rfl)) (by decide +kernel) (by decide +kernel) dX0_mark_86 (fun tx ht1 ht2 => ?_)
                    refine xh_CC ht1 ht2 hx hl0 hml hown hts hX0 hE hl.1 hlk htab (tableOf [(18, 64, 94, 90), (65, 72, 94, 90), (73, 80, 94, 90), (81, 93, 94, 90), (18, 64, 101, 206), (65, 72, 101, 206), (73, 80, 101, 206)]) ⟨81, 93, 101, 206⟩ (tableOf []) rfl (by decide +kernel) (by decide +kernel) rfl (by omega) (by show 2 + 10240 ≤ R.locals; omega) (by omega) (by omega) (fun H q9 hE => ?_)
                    refine lv_astore_n (lv' := [(3, .ref q9), (4, .int (v_is (ix p1) p2 Z)), (0, .ref x), (1, .int p1), (2, .int p2)]) hx hb dX0_mark_101 rfl hl (by decide) rfl (fun ls hl => ?_)
                    refine lv_aload_n hx hb dX0_mark_102 rfl (lv_at hl 2 rfl) ?_
                    refine lv_iconst (v := 3) hx hb dX0_mark_103 rfl ?_
                    refine call_x_met hx hb hml hown hts hK hA hE hl.1 3 (by omega) (lz (show 1 ≤ 8 by decide) hRf) (lz (show 21 ≤ 10300 by decide) hRl) (Nat.le_of_ble_eq_true rfl) dX0_mark_104 ⟨by omega, by omega⟩ (fun H locs hE => ?_)
                    exact hret ((x_met 3 Z).1) ((x_met 3 Z).2) hR rfl hE (by omega) (by omega) dX0_mark_107
                  · have hR : x_mark p1 p2 Z = (((Z.1 5 0) - (Z.1 39 (ix p1))), Z) := hR.trans (congrArg (fun z => z) (if_neg t86_2))
                    refine xcast_3 (b := (ix p1)) (by omega) (t27_0) (t86_0) (t86_1) (t86_2) hx hb hts hown hK hE dX0_mark_86 ?_
                    refine xbg_39 (b := (ix p1)) (by omega) (t27_0) (t86_0) (t86_1) (t86_2) hx hb hts hown hK hE dX0_mark_89 ?_
                    refine lv_isub hx hb dX0_mark_92 ?_
                    exact hret ((Z.1 5 0) - (Z.1 39 (ix p1))) Z hR rfl hE (by omega) (by omega) dX0_mark_93
    · have hR : x_mark p1 p2 Z = ((-1 : Int32), Z) := hR.trans (congrArg (fun z => z) (if_pos c13))
      refine lv_iconst (v := -1) hx hb dX0_mark_16 rfl ?_
      exact hret (-1 : Int32) Z hR rfl hE (by omega) (by omega) dX0_mark_17
