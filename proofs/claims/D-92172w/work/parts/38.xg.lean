/-! the component: what is told -/
set_option maxRecDepth 100000
theorem sL_fst {Z : ZT} {k i : Nat} {v : Int64} : (sL Z k i v).1 = Z.1 := rfl
theorem is1_of {b : Nat} {Z : ZT} (h : ¬ v_is b 1 Z = 0) : Z.1 31 b = 1 := by
  unfold v_is b3_is b4_is b5_is b6_is at h
  apply Classical.byContradiction
  intro h1
  apply h
  by_cases h0 : Z.1 31 b = 0
  · rw [if_pos h0]
    rfl
  · rw [if_neg h0, if_neg h1]
    split <;> rfl
theorem is2_of {b : Nat} {Z : ZT} (h : ¬ v_is b 2 Z = 0) : ¬ Z.1 31 b = 0 ∧ ¬ Z.1 31 b = 1 := by
  unfold v_is b3_is b4_is b5_is b6_is at h
  refine ⟨fun h0 => h ?_, fun h1 => h ?_⟩
  · rw [if_pos h0]
    rfl
  · rw [if_neg (by rw [h1]; decide), if_pos h1]
    rfl
/-- a text's size -/
def TI (Z : ZT) : Prop := ∀ t : Nat, t < 4 → Z.1 40 t = -1 ∨ (0 ≤ (Z.1 40 t).toInt ∧ (Z.1 40 t).toInt ≤ 60)
theorem adt_eq {Z Z' : ZT} {B : BT} {t : Nat} (h : Z.1 = Z'.1) : adt Z B t = adt Z' B t := by
  unfold adt
  rw [h]
theorem dg_nn {Z : ZT} {t i : Nat} {v : Int32} (hv : v = Z.1 40 t) (hc : ¬ v ≤ nI i) (hi : i ≤ 60) : ¬ Z.1 40 t = -1 := by
  intro e
  rw [hv, e, Int32.le_iff_toInt_le, nI_toInt (by omega), show (-1 : Int32).toInt = -1 from rfl] at hc
  omega
theorem dg_lt {Z : ZT} (hT : TI Z) {t i : Nat} (ht : t < 4) {v : Int32} (hv : v = Z.1 40 t) (hc : ¬ v ≤ nI i) (hi : i ≤ 60) : i < 60 := by
  have h1 := (hT t ht).resolve_left (dg_nn hv hc hi)
  rw [hv, Int32.le_iff_toInt_le, nI_toInt (by omega)] at hc
  omega
theorem dg_vp {Z : ZT} (hT : TI Z) {t i : Nat} (ht : t < 4) {v : Int32} (hv : v = Z.1 40 t) (hc : ¬ v ≤ nI i) (hi : i ≤ 60) : vp_in (nI i) (ix (Z.1 40 t)) := by
  have h1 := (hT t ht).resolve_left (dg_nn hv hc hi)
  rw [hv, Int32.le_iff_toInt_le, nI_toInt (by omega)] at hc
  have e : (ix (Z.1 40 t) : Int) = (Z.1 40 t).toInt := Int.toNat_of_nonneg h1.1
  exact vp_in_nI (by omega) (by omega)
def x_asked (Z : ZT) : Int32 := Z.1 2 0
set_option maxHeartbeats 4000000 in
set_option maxRecDepth 100000 in
theorem met_x_asked (l : Launch) (D : va_G) (cs : Nat → ClassId) (x : Nat) (ar : Nat → Nat) (B : BT) (Y : va_W) (Z : ZT) (sz : Nat)  : Met l yX0_asked (ws_ yX0_asked cX0_asked 1 (some .int)) ({ frames := 0, cells := 0, slots := 0, locals := 0 }) (va_Pc [.ref x] (wSt D cs (WX x ar cs Z B Y) sz)) (cQi (fun (v : Int32) (_ : Unit) => x_asked Z = v) D (fun _ => (WX x ar cs Z B Y)) (WX x ar cs Z B Y) sz) 0 0 (va_A (WX x ar cs Z B Y) sz) := by
  refine gStart_i (C := RX0) rfl rfl (Nat.le_of_ble_eq_true rfl) ?_
  intro p e s mid args below meth c R Q A hx hb hml hown hts hK hA hRf hRl hRc hRs hret hE ls hl
  have hRf : 0 ≤ R.frames := hRf
  have hRl : 0 ≤ R.locals := hRl
  have hl : lv_has ls 1 [(0, .ref x)] := hl
  have hR : x_asked Z = (Z.1 2 0) := rfl
  refine lv_aload_n hx hb dX0_asked_0 rfl (lv_at hl 0 rfl) ?_
  refine xg_2 hx hb hts hown hK hE dX0_asked_1 ?_
  exact hret (Z.1 2 0) () hR rfl hE (Nat.le_refl 0) (Nat.le_refl 0) dX0_asked_4
def x_upper (Z : ZT) : Int64 := Z.2 3 0
set_option maxHeartbeats 4000000 in
set_option maxRecDepth 100000 in
theorem met_x_upper (l : Launch) (D : va_G) (cs : Nat → ClassId) (x : Nat) (ar : Nat → Nat) (B : BT) (Y : va_W) (Z : ZT) (sz : Nat)  : Met l yX0_upper (ws_ yX0_upper cX0_upper 1 (some .long)) ({ frames := 0, cells := 0, slots := 0, locals := 0 }) (va_Pc [.ref x] (wSt D cs (WX x ar cs Z B Y) sz)) (cQl (fun (v : Int64) (_ : Unit) => x_upper Z = v) D (fun _ => (WX x ar cs Z B Y)) (WX x ar cs Z B Y) sz) 0 0 (va_A (WX x ar cs Z B Y) sz) := by
  refine gStart_l (C := RX0) rfl rfl (Nat.le_of_ble_eq_true rfl) ?_
  intro p e s mid args below meth c R Q A hx hb hml hown hts hK hA hRf hRl hRc hRs hret hE ls hl
  have hRf : 0 ≤ R.frames := hRf
  have hRl : 0 ≤ R.locals := hRl
  have hl : lv_has ls 1 [(0, .ref x)] := hl
  have hR : x_upper Z = (Z.2 3 0) := rfl
  refine lv_aload_n hx hb dX0_upper_0 rfl (lv_at hl 0 rfl) ?_
  refine xg_3 hx hb hts hown hK hE dX0_upper_1 ?_
  exact hret (Z.2 3 0) () hR hE (Nat.le_refl 0) (Nat.le_refl 0) dX0_upper_4
def x_lower (Z : ZT) : Int64 := Z.2 4 0
set_option maxHeartbeats 4000000 in
set_option maxRecDepth 100000 in
theorem met_x_lower (l : Launch) (D : va_G) (cs : Nat → ClassId) (x : Nat) (ar : Nat → Nat) (B : BT) (Y : va_W) (Z : ZT) (sz : Nat)  : Met l yX0_lower (ws_ yX0_lower cX0_lower 1 (some .long)) ({ frames := 0, cells := 0, slots := 0, locals := 0 }) (va_Pc [.ref x] (wSt D cs (WX x ar cs Z B Y) sz)) (cQl (fun (v : Int64) (_ : Unit) => x_lower Z = v) D (fun _ => (WX x ar cs Z B Y)) (WX x ar cs Z B Y) sz) 0 0 (va_A (WX x ar cs Z B Y) sz) := by
  refine gStart_l (C := RX0) rfl rfl (Nat.le_of_ble_eq_true rfl) ?_
  intro p e s mid args below meth c R Q A hx hb hml hown hts hK hA hRf hRl hRc hRs hret hE ls hl
  have hRf : 0 ≤ R.frames := hRf
  have hRl : 0 ≤ R.locals := hRl
  have hl : lv_has ls 1 [(0, .ref x)] := hl
  have hR : x_lower Z = (Z.2 4 0) := rfl
  refine lv_aload_n hx hb dX0_lower_0 rfl (lv_at hl 0 rfl) ?_
  refine xg_4 hx hb hts hown hK hE dX0_lower_1 ?_
  exact hret (Z.2 4 0) () hR hE (Nat.le_refl 0) (Nat.le_refl 0) dX0_lower_4
def x_finding (Z : ZT) : Int32 := Z.1 0 0
set_option maxHeartbeats 4000000 in
set_option maxRecDepth 100000 in
theorem met_x_finding (l : Launch) (D : va_G) (cs : Nat → ClassId) (x : Nat) (ar : Nat → Nat) (B : BT) (Y : va_W) (Z : ZT) (sz : Nat)  : Met l yX0_finding (ws_ yX0_finding cX0_finding 1 (some .int)) ({ frames := 0, cells := 0, slots := 0, locals := 0 }) (va_Pc [.ref x] (wSt D cs (WX x ar cs Z B Y) sz)) (cQi (fun (v : Int32) (_ : Unit) => x_finding Z = v) D (fun _ => (WX x ar cs Z B Y)) (WX x ar cs Z B Y) sz) 0 0 (va_A (WX x ar cs Z B Y) sz) := by
  refine gStart_i (C := RX0) rfl rfl (Nat.le_of_ble_eq_true rfl) ?_
  intro p e s mid args below meth c R Q A hx hb hml hown hts hK hA hRf hRl hRc hRs hret hE ls hl
  have hRf : 0 ≤ R.frames := hRf
  have hRl : 0 ≤ R.locals := hRl
  have hl : lv_has ls 1 [(0, .ref x)] := hl
  have hR : x_finding Z = (Z.1 0 0) := rfl
  refine lv_aload_n hx hb dX0_finding_0 rfl (lv_at hl 0 rfl) ?_
  refine xg_0 hx hb hts hown hK hE dX0_finding_1 ?_
  exact hret (Z.1 0 0) () hR rfl hE (Nat.le_refl 0) (Nat.le_refl 0) dX0_finding_4
def x_findings (p1 : Int32) (Z : ZT) : Int32 := (if (x_isIn p1 (1 : Int32) (5 : Int32)) = 0 then (-1 : Int32) else Z.1 1 (ix p1))
set_option maxHeartbeats 4000000 in
set_option maxRecDepth 100000 in
theorem met_x_findings (l : Launch) (D : va_G) (cs : Nat → ClassId) (x : Nat) (ar : Nat → Nat) (B : BT) (Y : va_W) (Z : ZT) (sz : Nat) (p1 : Int32) : Met l yX0_findings (ws_ yX0_findings cX0_findings 2 (some .int)) ({ frames := 1, cells := 0, slots := 0, locals := 22 }) (va_Pc [.ref x, .int p1] (wSt D cs (WX x ar cs Z B Y) sz)) (cQi (fun (v : Int32) (_ : Unit) => x_findings p1 Z = v) D (fun _ => (WX x ar cs Z B Y)) (WX x ar cs Z B Y) sz) 0 0 (va_A (WX x ar cs Z B Y) sz) := by
  refine gStart_i (C := RX0) rfl rfl (Nat.le_of_ble_eq_true rfl) ?_
  intro p e s mid args below meth c R Q A hx hb hml hown hts hK hA hRf hRl hRc hRs hret hE ls hl
  have hRf : 1 ≤ R.frames := hRf
  have hRl : 22 ≤ R.locals := hRl
  have hl : lv_has ls 2 [(0, .ref x), (1, .int p1)] := hl
  have hR : x_findings p1 Z = (if (x_isIn p1 (1 : Int32) (5 : Int32)) = 0 then (-1 : Int32) else Z.1 1 (ix p1)) := rfl
  refine lv_iload_n hx hb dX0_findings_0 rfl (lv_at hl 1 rfl) ?_
  refine lv_iconst (v := 1) hx hb dX0_findings_1 rfl ?_
  refine lv_iconst (v := 5) hx hb dX0_findings_2 rfl ?_
  refine call_x_isIn hx hb hml hown hts hK hA hE hl.1 p1 (1 : Int32) (5 : Int32) (lz (show 1 ≤ 1 by decide) hRf) (lz (show 22 ≤ 22 by decide) hRl) (Nat.le_of_ble_eq_true rfl) dX0_findings_3 ⟨Nat.zero_le _, Nat.zero_le _⟩ (fun H locs hE => ?_)
  refine lv_if_eq (tgt := 18) hx hb dX0_findings_6 (by decide) (fun c6 => ?_) (fun c6 => ?_)
  · have hR : x_findings p1 Z = (-1 : Int32) := hR.trans (congrArg (fun z => z) (if_pos c6))
    refine lv_iconst (v := -1) hx hb dX0_findings_18 rfl ?_
    exact hret (-1 : Int32) () hR rfl hE (Nat.le_refl 0) (Nat.le_refl 0) dX0_findings_19
  · have hR : x_findings p1 Z = (Z.1 1 (ix p1)) := hR.trans (congrArg (fun z => z) (if_neg c6))
    have hnp1 := vp_ix (x := p1) (N := 6) (vp_of_in c6 (by decide) (by decide)) (by decide)
    have hbnp1 := hnp1.2
    refine lv_aload_n hx hb dX0_findings_9 rfl (lv_at hl 0 rfl) ?_
    refine xg_1 hx hb hts hown hK hE dX0_findings_10 ?_
    refine lv_iload_n hx hb dX0_findings_13 rfl (lv_at hl 1 rfl) ?_
    refine top_nat hnp1.1 ?_
    refine xa_1 (n := (ix p1)) (by omega) hx hb hK hE dX0_findings_14 ?_
    refine lv_goto (tgt := 19) hx hb dX0_findings_15 (by decide) ?_
    exact hret (Z.1 1 (ix p1)) () hR rfl hE (Nat.le_refl 0) (Nat.le_refl 0) dX0_findings_19
def x_linkCount_j36 (w13 : Int32) (w36 : Int32) : Int32 := (w13 + w36)
def x_linkCount_b13 (Z : ZT) (i13 : Nat) (w13 : Int32) : Int32 := x_linkCount_j36 w13 (if Z.1 11 i13 ≤ 0 then (0 : Int32) else (1 : Int32))
def x_linkCount_e13 (w13 : Int32) : Int32 := w13
def x_linkCount (Z : ZT) : Int32 := x_linkCount_e13 (itR (x_linkCount_b13 Z) 0 64 (0 : Int32))
set_option maxHeartbeats 4000000 in
set_option maxRecDepth 100000 in
theorem met_x_linkCount (l : Launch) (D : va_G) (cs : Nat → ClassId) (x : Nat) (ar : Nat → Nat) (B : BT) (Y : va_W) (Z : ZT) (sz : Nat)  : Met l yX0_linkCount (ws_ yX0_linkCount cX0_linkCount 6 (some .int)) ({ frames := 0, cells := 0, slots := 0, locals := 0 }) (va_Pc [.ref x] (wSt D cs (WX x ar cs Z B Y) sz)) (cQi (fun (v : Int32) (_ : Unit) => x_linkCount Z = v) D (fun _ => (WX x ar cs Z B Y)) (WX x ar cs Z B Y) sz) 0 0 (va_A (WX x ar cs Z B Y) sz) := by
  refine gStart_i (C := RX0) rfl rfl (Nat.le_of_ble_eq_true rfl) ?_
  intro p e s mid args below meth c R Q A hx hb hml hown hts hK hA hRf hRl hRc hRs hret hE ls hl
  have hRf : 0 ≤ R.frames := hRf
  have hRl : 0 ≤ R.locals := hRl
  have hl : lv_has ls 6 [(0, .ref x)] := hl
  have hR : x_linkCount Z = (x_linkCount_e13 (itR (x_linkCount_b13 Z) 0 64 (0 : Int32))) := rfl
  refine lv_iconst (v := 0) hx hb dX0_linkCount_0 rfl ?_
  refine lv_istore_n (lv' := [(1, .int (0 : Int32)), (0, .ref x)]) hx hb dX0_linkCount_1 rfl hl (by decide) rfl (fun ls hl => ?_)
  refine lv_aload_n hx hb dX0_linkCount_2 rfl (lv_at hl 1 rfl) ?_
  refine xg_11 hx hb hts hown hK hE dX0_linkCount_3 ?_
  refine lv_astore_n (lv' := [(2, .ref (ar 11)), (1, .int (0 : Int32)), (0, .ref x)]) hx hb dX0_linkCount_6 rfl hl (by decide) rfl (fun ls hl => ?_)
  refine lv_aload_n hx hb dX0_linkCount_7 rfl (lv_at hl 0 rfl) ?_
  refine xn_11 hx hb hK hE dX0_linkCount_8 ?_
  refine lv_istore_n (lv' := [(3, .int (64 : Int32)), (2, .ref (ar 11)), (1, .int (0 : Int32)), (0, .ref x)]) hx hb dX0_linkCount_9 rfl hl (by decide) rfl (fun ls hl => ?_)
  refine lv_iconst (v := 0) hx hb dX0_linkCount_10 rfl ?_
  refine lv_istore (lv' := [(4, .int (0 : Int32)), (3, .int (64 : Int32)), (2, .ref (ar 11)), (1, .int (0 : Int32)), (0, .ref x)]) hx hb dX0_linkCount_11 hl (by decide) rfl (fun ls hl => ?_)
  have hL13 : ∀ (k i13 : Nat) (w13 : Int32) (hi13 : i13 + k = 64) (hR : x_linkCount Z = x_linkCount_e13 (itR (x_linkCount_b13 Z) i13 k w13)), ∀ (H : Heap) (locs : List Loc) (ls : Array Slot), EW D A s.heap (WX x ar cs Z B Y) H locs → lv_has ls 6 [(1, .int w13), (2, .ref (ar 11)), (3, .int (64 : Int32)), (4, .int (nI i13))] → W p l e R s mid args below meth c H locs 0 0 Q (F0 mid 13 ls []) := by
    intro k
    induction k with
    | zero =>
      intro i13 w13 hi13 hR H locs ls hE hl
      have hie13 : i13 = 64 := by omega
      have hR : x_linkCount Z = w13 := hR
      refine lv_iload hx hb dX0_linkCount_13 (lv_at hl 3 rfl) ?_
      refine lv_iload_n hx hb dX0_linkCount_15 rfl (lv_at hl 2 rfl) ?_
      refine n_geT (a := i13) (b := 64) (by omega) (by omega) hx hb dX0_linkCount_16 (tgt := 44) (by decide) ?_
      have hl := lv_sub (l' := [(1, .int w13), (2, .ref (ar 11)), (3, .int (64 : Int32))]) hl [0, 1, 2] rfl
      refine lv_iload_n hx hb dX0_linkCount_44 rfl (lv_at hl 0 rfl) ?_
      exact hret w13 () hR rfl hE (Nat.le_refl 0) (Nat.le_refl 0) dX0_linkCount_45
    | succ k ih13 =>
      intro i13 w13 hi13 hR H locs ls hE hl
      have hlt13 : i13 < 64 := by omega
      have hB13 : x_linkCount_b13 Z i13 w13 = x_linkCount_j36 w13 (if Z.1 11 i13 ≤ 0 then (0 : Int32) else (1 : Int32)) := rfl
      refine lv_iload hx hb dX0_linkCount_13 (lv_at hl 3 rfl) ?_
      refine lv_iload_n hx hb dX0_linkCount_15 rfl (lv_at hl 2 rfl) ?_
      refine n_geF (a := i13) (b := 64) (by omega) (by omega) hx hb dX0_linkCount_16 (tgt := 44) (by decide) ?_
      refine lv_aload_n hx hb dX0_linkCount_19 rfl (lv_at hl 1 rfl) ?_
      refine lv_iload hx hb dX0_linkCount_20 (lv_at hl 3 rfl) ?_
      refine xa_11 (n := i13) (by omega) hx hb hK hE dX0_linkCount_22 ?_
      refine lv_istore (lv' := [(5, .int (Z.1 11 i13)), (1, .int w13), (2, .ref (ar 11)), (3, .int (64 : Int32)), (4, .int (nI i13))]) hx hb dX0_linkCount_23 hl (by decide) rfl (fun ls hl => ?_)
      refine lv_iload_n hx hb dX0_linkCount_25 rfl (lv_at hl 1 rfl) ?_
      refine lv_iload hx hb dX0_linkCount_26 (lv_at hl 0 rfl) ?_
      have hJ36 : ∀ (w36 : Int32) (hB13 : x_linkCount_b13 Z i13 w13 = x_linkCount_j36 w13 w36), ∀ (H : Heap) (locs : List Loc) (ls : Array Slot), EW D A s.heap (WX x ar cs Z B Y) H locs → lv_has ls 6 [(2, .ref (ar 11)), (3, .int (64 : Int32)), (4, .int (nI i13))] → W p l e R s mid args below meth c H locs 0 0 Q (F0 mid 36 ls [.int w36, .int w13]) := by
        intro w36 hB13 H locs ls hE hl
        have hB13 : x_linkCount_b13 Z i13 w13 = (w13 + w36) := hB13
        refine lv_iadd hx hb dX0_linkCount_36 ?_
        refine lv_istore_n (lv' := [(1, .int (w13 + w36)), (2, .ref (ar 11)), (3, .int (64 : Int32)), (4, .int (nI i13))]) hx hb dX0_linkCount_37 rfl hl (by decide) rfl (fun ls hl => ?_)
        refine n_inc (lv' := [(4, .int (nI (i13 + 1))), (1, .int (w13 + w36)), (2, .ref (ar 11)), (3, .int (64 : Int32))]) hx hb dX0_linkCount_38 hl (k := 3) rfl (by decide) rfl (fun ls hl => ?_)
        refine lv_goto (tgt := 13) hx hb dX0_linkCount_41 (by decide) ?_
        exact ih13 (i13 + 1) (w13 + w36) (by omega) (hR.trans (congrArg (fun z => x_linkCount_e13 (itR (x_linkCount_b13 Z) (i13 + 1) k z)) hB13)) _ _ _ hE (lv_sub hl [1, 2, 3, 0] rfl)
      refine lv_if_le (tgt := 35) hx hb dX0_linkCount_28 (by decide) (fun c28 => ?_) (fun c28 => ?_)
      · have hB13 : x_linkCount_b13 Z i13 w13 = x_linkCount_j36 w13 (0 : Int32) := hB13.trans (congrArg (fun z => x_linkCount_j36 w13 z) (if_pos c28))
        refine lv_iconst (v := 0) hx hb dX0_linkCount_35 rfl ?_
        exact hJ36 (0 : Int32)  hB13 _ _ _ hE (lv_sub hl [2, 3, 4] rfl)
      · have hB13 : x_linkCount_b13 Z i13 w13 = x_linkCount_j36 w13 (1 : Int32) := hB13.trans (congrArg (fun z => x_linkCount_j36 w13 z) (if_neg c28))
        refine lv_iconst (v := 1) hx hb dX0_linkCount_31 rfl ?_
        refine lv_goto (tgt := 36) hx hb dX0_linkCount_32 (by decide) ?_
        exact hJ36 (1 : Int32)  hB13 _ _ _ hE (lv_sub hl [2, 3, 4] rfl)
  exact hL13 64 0 (0 : Int32) (by omega) hR _ _ _ hE (lv_sub hl [3, 2, 1, 0] rfl)
section C_x_linkCount
variable {p : Program} {l : Launch} {e : Env} {R : Room} {s : State} {mid : MethodId} {args : Array Value} {below : List Frame} {meth : Method} {c : Code} {H : Heap} {locs : List Loc} {cells slots : Nat} {Q : State → Prop} {cc : ByteArray} {pc : Nat} {ls : Array Slot} {rest : List Value} {D : va_G} {A : Nat → Prop} {x : Nat} {ar : Nat → Nat} {cs : Nat → ClassId} {B : BT} {Y : va_W} {Z : ZT} {nL r : Nat}
theorem call_x_linkCount (hx : p.tables.exec = Jvm.exec) (hb : c.code = cc) (hml : c.maxLocals = nL) (hown : s.vm.findClass RX0 = some mid.cls) (hts : ∀ w ∈ lw_all, w.before args s = true) (hK : KK D cs s) (hA : ∀ q : Nat, s.heap.size ≤ q → A q) (hE : EW D A s.heap (WX x ar cs Z B Y) H locs) (hls : ls.size = nL)  (h1 : 1 ≤ R.frames) (h2 : 25 ≤ R.locals) (h3 : (rest.map fun v => v.category).sum ≤ 8) (hd : decode cc pc = .ok (.invokevirtual 353, 3)) (hf : cells ≤ R.cells ∧ slots ≤ R.slots) (kk : ∀ (H1 : Heap) (locs1 : List Loc), EW D A s.heap (WX x ar cs Z B Y) H1 locs1 → W p l e R s mid args below meth c H1 locs1 cells slots Q (F0 mid (pc + 3) ls (.int (x_linkCount Z) :: rest))) : W p l e R s mid args below meth c H locs cells slots Q (F0 mid pc ls (.ref x :: rest)) := 
  gCall_i (As := []) (rest := rest) (q0 := 0) (ci := 0) (fs := XF ar Z) (T' := TX0) (N' := 29) hx hb hml hown hts hK hA hE hls (met_x_linkCount l D cs x ar B Y Z H.size ) (cwV 0 hts (lw_V q883 q885 qs36 q84 q886) rfl rfl rfl (by decide +kernel) ⟨h1, h2⟩) rfl rfl rfl rfl h3 hd hf (fun v u H1 locs1 hp _ hE => by subst hp; exact kk H1 locs1 hE)
end C_x_linkCount
def x_textCount_j36 (w13 : Int32) (w36 : Int32) : Int32 := (w13 + w36)
def x_textCount_b13 (Z : ZT) (i13 : Nat) (w13 : Int32) : Int32 := x_textCount_j36 w13 (if Z.1 40 i13 = -1 then (0 : Int32) else (1 : Int32))
def x_textCount_e13 (w13 : Int32) : Int32 := w13
def x_textCount (Z : ZT) : Int32 := x_textCount_e13 (itR (x_textCount_b13 Z) 0 4 (0 : Int32))
set_option maxHeartbeats 4000000 in
set_option maxRecDepth 100000 in
theorem met_x_textCount (l : Launch) (D : va_G) (cs : Nat → ClassId) (x : Nat) (ar : Nat → Nat) (B : BT) (Y : va_W) (Z : ZT) (sz : Nat)  : Met l yX0_textCount (ws_ yX0_textCount cX0_textCount 6 (some .int)) ({ frames := 0, cells := 0, slots := 0, locals := 0 }) (va_Pc [.ref x] (wSt D cs (WX x ar cs Z B Y) sz)) (cQi (fun (v : Int32) (_ : Unit) => x_textCount Z = v) D (fun _ => (WX x ar cs Z B Y)) (WX x ar cs Z B Y) sz) 0 0 (va_A (WX x ar cs Z B Y) sz) := by
  refine gStart_i (C := RX0) rfl rfl (Nat.le_of_ble_eq_true rfl) ?_
  intro p e s mid args below meth c R Q A hx hb hml hown hts hK hA hRf hRl hRc hRs hret hE ls hl
  have hRf : 0 ≤ R.frames := hRf
  have hRl : 0 ≤ R.locals := hRl
  have hl : lv_has ls 6 [(0, .ref x)] := hl
  have hR : x_textCount Z = (x_textCount_e13 (itR (x_textCount_b13 Z) 0 4 (0 : Int32))) := rfl
  refine lv_iconst (v := 0) hx hb dX0_textCount_0 rfl ?_
  refine lv_istore_n (lv' := [(1, .int (0 : Int32)), (0, .ref x)]) hx hb dX0_textCount_1 rfl hl (by decide) rfl (fun ls hl => ?_)
  refine lv_aload_n hx hb dX0_textCount_2 rfl (lv_at hl 1 rfl) ?_
  refine xg_6 hx hb hts hown hK hE dX0_textCount_3 ?_
  refine lv_astore_n (lv' := [(2, .ref (ar 6)), (1, .int (0 : Int32)), (0, .ref x)]) hx hb dX0_textCount_6 rfl hl (by decide) rfl (fun ls hl => ?_)
  refine lv_aload_n hx hb dX0_textCount_7 rfl (lv_at hl 0 rfl) ?_
  refine xn_6 hx hb hK hE dX0_textCount_8 ?_
  refine lv_istore_n (lv' := [(3, .int (4 : Int32)), (2, .ref (ar 6)), (1, .int (0 : Int32)), (0, .ref x)]) hx hb dX0_textCount_9 rfl hl (by decide) rfl (fun ls hl => ?_)
  refine lv_iconst (v := 0) hx hb dX0_textCount_10 rfl ?_
  refine lv_istore (lv' := [(4, .int (0 : Int32)), (3, .int (4 : Int32)), (2, .ref (ar 6)), (1, .int (0 : Int32)), (0, .ref x)]) hx hb dX0_textCount_11 hl (by decide) rfl (fun ls hl => ?_)
  have hL13 : ∀ (k i13 : Nat) (w13 : Int32) (hi13 : i13 + k = 4) (hR : x_textCount Z = x_textCount_e13 (itR (x_textCount_b13 Z) i13 k w13)), ∀ (H : Heap) (locs : List Loc) (ls : Array Slot), EW D A s.heap (WX x ar cs Z B Y) H locs → lv_has ls 6 [(1, .int w13), (2, .ref (ar 6)), (3, .int (4 : Int32)), (4, .int (nI i13))] → W p l e R s mid args below meth c H locs 0 0 Q (F0 mid 13 ls []) := by
    intro k
    induction k with
    | zero =>
      intro i13 w13 hi13 hR H locs ls hE hl
      have hie13 : i13 = 4 := by omega
      have hR : x_textCount Z = w13 := hR
      refine lv_iload hx hb dX0_textCount_13 (lv_at hl 3 rfl) ?_
      refine lv_iload_n hx hb dX0_textCount_15 rfl (lv_at hl 2 rfl) ?_
      refine n_geT (a := i13) (b := 4) (by omega) (by omega) hx hb dX0_textCount_16 (tgt := 44) (by decide) ?_
      have hl := lv_sub (l' := [(1, .int w13), (2, .ref (ar 6)), (3, .int (4 : Int32))]) hl [0, 1, 2] rfl
      refine lv_iload_n hx hb dX0_textCount_44 rfl (lv_at hl 0 rfl) ?_
      exact hret w13 () hR rfl hE (Nat.le_refl 0) (Nat.le_refl 0) dX0_textCount_45
    | succ k ih13 =>
      intro i13 w13 hi13 hR H locs ls hE hl
      have hlt13 : i13 < 4 := by omega
      have hB13 : x_textCount_b13 Z i13 w13 = x_textCount_j36 w13 (if Z.1 40 i13 = -1 then (0 : Int32) else (1 : Int32)) := rfl
      refine lv_iload hx hb dX0_textCount_13 (lv_at hl 3 rfl) ?_
      refine lv_iload_n hx hb dX0_textCount_15 rfl (lv_at hl 2 rfl) ?_
      refine n_geF (a := i13) (b := 4) (by omega) (by omega) hx hb dX0_textCount_16 (tgt := 44) (by decide) ?_
      refine lv_aload_n hx hb dX0_textCount_19 rfl (lv_at hl 1 rfl) ?_
      refine lv_iload hx hb dX0_textCount_20 (lv_at hl 3 rfl) ?_
      refine xa_6 (n := i13) (by omega) hx hb hK hE dX0_textCount_22 ?_
      refine xst (lv' := [(5, va_rf (adt Z B i13)), (1, .int w13), (2, .ref (ar 6)), (3, .int (4 : Int32)), (4, .int (nI i13))]) hx hb dX0_textCount_23 hl (by decide) (by first | rfl | simp [cat_rf]) (fun ls hl => ?_)
      refine lv_iload_n hx hb dX0_textCount_25 rfl (lv_at hl 1 rfl) ?_
      refine xld hx hb dX0_textCount_26 (lv_at hl 0 rfl) ?_
      have hJ36 : ∀ (w36 : Int32) (hB13 : x_textCount_b13 Z i13 w13 = x_textCount_j36 w13 w36), ∀ (H : Heap) (locs : List Loc) (ls : Array Slot), EW D A s.heap (WX x ar cs Z B Y) H locs → lv_has ls 6 [(2, .ref (ar 6)), (3, .int (4 : Int32)), (4, .int (nI i13))] → W p l e R s mid args below meth c H locs 0 0 Q (F0 mid 36 ls [.int w36, .int w13]) := by
        intro w36 hB13 H locs ls hE hl
        have hB13 : x_textCount_b13 Z i13 w13 = (w13 + w36) := hB13
        refine lv_iadd hx hb dX0_textCount_36 ?_
        refine lv_istore_n (lv' := [(1, .int (w13 + w36)), (2, .ref (ar 6)), (3, .int (4 : Int32)), (4, .int (nI i13))]) hx hb dX0_textCount_37 rfl hl (by decide) rfl (fun ls hl => ?_)
        refine n_inc (lv' := [(4, .int (nI (i13 + 1))), (1, .int (w13 + w36)), (2, .ref (ar 6)), (3, .int (4 : Int32))]) hx hb dX0_textCount_38 hl (k := 3) rfl (by decide) rfl (fun ls hl => ?_)
        refine lv_goto (tgt := 13) hx hb dX0_textCount_41 (by decide) ?_
        exact ih13 (i13 + 1) (w13 + w36) (by omega) (hR.trans (congrArg (fun z => x_textCount_e13 (itR (x_textCount_b13 Z) (i13 + 1) k z)) hB13)) _ _ _ hE (lv_sub hl [1, 2, 3, 0] rfl)
      refine xnw_tx (t := i13) (tgt := 35) hx hb dX0_textCount_28 (by decide) (fun c28 => ?_) (fun c28 => ?_)
      · have hB13 : x_textCount_b13 Z i13 w13 = x_textCount_j36 w13 (1 : Int32) := hB13.trans (congrArg (fun z => x_textCount_j36 w13 z) (if_neg c28))
        refine lv_iconst (v := 1) hx hb dX0_textCount_35 rfl ?_
        exact hJ36 (1 : Int32)  hB13 _ _ _ hE (lv_sub hl [2, 3, 4] rfl)
      · have hB13 : x_textCount_b13 Z i13 w13 = x_textCount_j36 w13 (0 : Int32) := hB13.trans (congrArg (fun z => x_textCount_j36 w13 z) (if_pos c28))
        refine lv_iconst (v := 0) hx hb dX0_textCount_31 rfl ?_
        refine lv_goto (tgt := 36) hx hb dX0_textCount_32 (by decide) ?_
        exact hJ36 (0 : Int32)  hB13 _ _ _ hE (lv_sub hl [2, 3, 4] rfl)
  exact hL13 4 0 (0 : Int32) (by omega) hR _ _ _ hE (lv_sub hl [3, 2, 1, 0] rfl)
section C_x_textCount
variable {p : Program} {l : Launch} {e : Env} {R : Room} {s : State} {mid : MethodId} {args : Array Value} {below : List Frame} {meth : Method} {c : Code} {H : Heap} {locs : List Loc} {cells slots : Nat} {Q : State → Prop} {cc : ByteArray} {pc : Nat} {ls : Array Slot} {rest : List Value} {D : va_G} {A : Nat → Prop} {x : Nat} {ar : Nat → Nat} {cs : Nat → ClassId} {B : BT} {Y : va_W} {Z : ZT} {nL r : Nat}
theorem call_x_textCount (hx : p.tables.exec = Jvm.exec) (hb : c.code = cc) (hml : c.maxLocals = nL) (hown : s.vm.findClass RX0 = some mid.cls) (hts : ∀ w ∈ lw_all, w.before args s = true) (hK : KK D cs s) (hA : ∀ q : Nat, s.heap.size ≤ q → A q) (hE : EW D A s.heap (WX x ar cs Z B Y) H locs) (hls : ls.size = nL)  (h1 : 1 ≤ R.frames) (h2 : 25 ≤ R.locals) (h3 : (rest.map fun v => v.category).sum ≤ 8) (hd : decode cc pc = .ok (.invokevirtual 356, 3)) (hf : cells ≤ R.cells ∧ slots ≤ R.slots) (kk : ∀ (H1 : Heap) (locs1 : List Loc), EW D A s.heap (WX x ar cs Z B Y) H1 locs1 → W p l e R s mid args below meth c H1 locs1 cells slots Q (F0 mid (pc + 3) ls (.int (x_textCount Z) :: rest))) : W p l e R s mid args below meth c H locs cells slots Q (F0 mid pc ls (.ref x :: rest)) := 
  gCall_i (As := []) (rest := rest) (q0 := 0) (ci := 0) (fs := XF ar Z) (T' := TX0) (N' := 29) hx hb hml hown hts hK hA hE hls (met_x_textCount l D cs x ar B Y Z H.size ) (cwV 0 hts (lw_V q887 q889 qs37 q84 q890) rfl rfl rfl (by decide +kernel) ⟨h1, h2⟩) rfl rfl rfl rfl h3 hd hf (fun v u H1 locs1 hp _ hE => by subst hp; exact kk H1 locs1 hE)
end C_x_textCount
def x_counts (p1 : Int32) (Z : ZT) : Int32 := (if p1 = 0 then Z.1 5 0 else (if p1 = 1 then (x_bits (x_present Z)) else (if p1 = 2 then (x_allStocks Z) else (if p1 = 3 then (x_linkCount Z) else (x_textCount Z)))))
set_option maxHeartbeats 4000000 in
set_option maxRecDepth 100000 in
theorem met_x_counts (l : Launch) (D : va_G) (cs : Nat → ClassId) (x : Nat) (ar : Nat → Nat) (B : BT) (Y : va_W) (Z : ZT) (sz : Nat) (p1 : Int32) : Met l yX0_counts (ws_ yX0_counts cX0_counts 2 (some .int)) ({ frames := 1, cells := 0, slots := 0, locals := 25 }) (va_Pc [.ref x, .int p1] (wSt D cs (WX x ar cs Z B Y) sz)) (cQi (fun (v : Int32) (_ : Unit) => x_counts p1 Z = v) D (fun _ => (WX x ar cs Z B Y)) (WX x ar cs Z B Y) sz) 0 0 (va_A (WX x ar cs Z B Y) sz) := by
  refine gStart_i (C := RX0) rfl rfl (Nat.le_of_ble_eq_true rfl) ?_
  intro p e s mid args below meth c R Q A hx hb hml hown hts hK hA hRf hRl hRc hRs hret hE ls hl
  have hRf : 1 ≤ R.frames := hRf
  have hRl : 25 ≤ R.locals := hRl
  have hl : lv_has ls 2 [(0, .ref x), (1, .int p1)] := hl
  have hR : x_counts p1 Z = (if p1 = 0 then Z.1 5 0 else (if p1 = 1 then (x_bits (x_present Z)) else (if p1 = 2 then (x_allStocks Z) else (if p1 = 3 then (x_linkCount Z) else (x_textCount Z))))) := rfl
  refine lv_iload_n hx hb dX0_counts_0 rfl (lv_at hl 1 rfl) ?_
  by_cases c1_0 : p1 = 0
  · have hR : x_counts p1 Z = (Z.1 5 0) := hR.trans (congrArg (fun z => z) (if_pos c1_0))
    refine lv_tableIn (off := 31) (tgt := 32) hx hb dX0_counts_1 (by rw [c1_0]; decide) (by rw [c1_0]; decide) (by rw [c1_0]; rfl) (by decide) ?_
    refine lv_aload_n hx hb dX0_counts_32 rfl (lv_at hl 0 rfl) ?_
    refine xg_5 hx hb hts hown hK hE dX0_counts_33 ?_
    exact hret (Z.1 5 0) () hR rfl hE (Nat.le_refl 0) (Nat.le_refl 0) dX0_counts_36
  · have hR : x_counts p1 Z = (if p1 = 1 then (x_bits (x_present Z)) else (if p1 = 2 then (x_allStocks Z) else (if p1 = 3 then (x_linkCount Z) else (x_textCount Z)))) := hR.trans (congrArg (fun z => z) (if_neg c1_0))
    by_cases c1_1 : p1 = 1
    · have hR : x_counts p1 Z = (x_bits (x_present Z)) := hR.trans (congrArg (fun z => z) (if_pos c1_1))
      refine lv_tableIn (off := 36) (tgt := 37) hx hb dX0_counts_1 (by rw [c1_1]; decide) (by rw [c1_1]; decide) (by rw [c1_1]; rfl) (by decide) ?_
      refine lv_aload_n hx hb dX0_counts_37 rfl (lv_at hl 0 rfl) ?_
      refine call_x_present hx hb hml hown hts hK hA hE hl.1 (lz (show 1 ≤ 1 by decide) hRf) (lz (show 22 ≤ 25 by decide) hRl) (Nat.le_of_ble_eq_true rfl) dX0_counts_38 ⟨Nat.zero_le _, Nat.zero_le _⟩ (fun H locs hE => ?_)
      refine call_x_bits hx hb hml hown hts hK hA hE hl.1 (x_present Z) (lz (show 1 ≤ 1 by decide) hRf) (lz (show 22 ≤ 25 by decide) hRl) (Nat.le_of_ble_eq_true rfl) dX0_counts_41 ⟨Nat.zero_le _, Nat.zero_le _⟩ (fun H locs hE => ?_)
      exact hret (x_bits (x_present Z)) () hR rfl hE (Nat.le_refl 0) (Nat.le_refl 0) dX0_counts_44
    · have hR : x_counts p1 Z = (if p1 = 2 then (x_allStocks Z) else (if p1 = 3 then (x_linkCount Z) else (x_textCount Z))) := hR.trans (congrArg (fun z => z) (if_neg c1_1))
      by_cases c1_2 : p1 = 2
      · have hR : x_counts p1 Z = (x_allStocks Z) := hR.trans (congrArg (fun z => z) (if_pos c1_2))
        refine lv_tableIn (off := 44) (tgt := 45) hx hb dX0_counts_1 (by rw [c1_2]; decide) (by rw [c1_2]; decide) (by rw [c1_2]; rfl) (by decide) ?_
        refine lv_aload_n hx hb dX0_counts_45 rfl (lv_at hl 0 rfl) ?_
        refine call_x_allStocks hx hb hml hown hts hK hA hE hl.1 (lz (show 1 ≤ 1 by decide) hRf) (lz (show 25 ≤ 25 by decide) hRl) (Nat.le_of_ble_eq_true rfl) dX0_counts_46 ⟨Nat.zero_le _, Nat.zero_le _⟩ (fun H locs hE => ?_)
        exact hret (x_allStocks Z) () hR rfl hE (Nat.le_refl 0) (Nat.le_refl 0) dX0_counts_49
      · have hR : x_counts p1 Z = (if p1 = 3 then (x_linkCount Z) else (x_textCount Z)) := hR.trans (congrArg (fun z => z) (if_neg c1_2))
        by_cases c1_3 : p1 = 3
        · have hR : x_counts p1 Z = (x_linkCount Z) := hR.trans (congrArg (fun z => z) (if_pos c1_3))
          refine lv_tableIn (off := 49) (tgt := 50) hx hb dX0_counts_1 (by rw [c1_3]; decide) (by rw [c1_3]; decide) (by rw [c1_3]; rfl) (by decide) ?_
          refine lv_aload_n hx hb dX0_counts_50 rfl (lv_at hl 0 rfl) ?_
          refine call_x_linkCount hx hb hml hown hts hK hA hE hl.1 (lz (show 1 ≤ 1 by decide) hRf) (lz (show 25 ≤ 25 by decide) hRl) (Nat.le_of_ble_eq_true rfl) dX0_counts_51 ⟨Nat.zero_le _, Nat.zero_le _⟩ (fun H locs hE => ?_)
          exact hret (x_linkCount Z) () hR rfl hE (Nat.le_refl 0) (Nat.le_refl 0) dX0_counts_54
        · have hR : x_counts p1 Z = (x_textCount Z) := hR.trans (congrArg (fun z => z) (if_neg c1_3))
          refine lv_tableOut (tgt := 55) hx hb dX0_counts_1 (sw_out3 c1_0 c1_1 c1_2 c1_3) (by decide) ?_
          refine lv_aload_n hx hb dX0_counts_55 rfl (lv_at hl 0 rfl) ?_
          refine call_x_textCount hx hb hml hown hts hK hA hE hl.1 (lz (show 1 ≤ 1 by decide) hRf) (lz (show 25 ≤ 25 by decide) hRl) (Nat.le_of_ble_eq_true rfl) dX0_counts_56 ⟨Nat.zero_le _, Nat.zero_le _⟩ (fun H locs hE => ?_)
          exact hret (x_textCount Z) () hR rfl hE (Nat.le_refl 0) (Nat.le_refl 0) dX0_counts_59
section C_x_counts
variable {p : Program} {l : Launch} {e : Env} {R : Room} {s : State} {mid : MethodId} {args : Array Value} {below : List Frame} {meth : Method} {c : Code} {H : Heap} {locs : List Loc} {cells slots : Nat} {Q : State → Prop} {cc : ByteArray} {pc : Nat} {ls : Array Slot} {rest : List Value} {D : va_G} {A : Nat → Prop} {x : Nat} {ar : Nat → Nat} {cs : Nat → ClassId} {B : BT} {Y : va_W} {Z : ZT} {nL r : Nat}
theorem call_x_counts (hx : p.tables.exec = Jvm.exec) (hb : c.code = cc) (hml : c.maxLocals = nL) (hown : s.vm.findClass RX0 = some mid.cls) (hts : ∀ w ∈ lw_all, w.before args s = true) (hK : KK D cs s) (hA : ∀ q : Nat, s.heap.size ≤ q → A q) (hE : EW D A s.heap (WX x ar cs Z B Y) H locs) (hls : ls.size = nL) (p1 : Int32) (h1 : 2 ≤ R.frames) (h2 : 46 ≤ R.locals) (h3 : (rest.map fun v => v.category).sum ≤ 8) (hd : decode cc pc = .ok (.invokevirtual 359, 3)) (hf : cells ≤ R.cells ∧ slots ≤ R.slots) (kk : ∀ (H1 : Heap) (locs1 : List Loc), EW D A s.heap (WX x ar cs Z B Y) H1 locs1 → W p l e R s mid args below meth c H1 locs1 cells slots Q (F0 mid (pc + 3) ls (.int (x_counts p1 Z) :: rest))) : W p l e R s mid args below meth c H locs cells slots Q (F0 mid pc ls (.int p1 :: .ref x :: rest)) := 
  gCall_i (As := [.int p1]) (rest := rest) (q0 := 0) (ci := 0) (fs := XF ar Z) (T' := TX0) (N' := 29) hx hb hml hown hts hK hA hE hls (met_x_counts l D cs x ar B Y Z H.size p1) (cwV 1 hts (lw_V q879 q881 qs35 q84 q882) rfl rfl rfl (by decide +kernel) ⟨h1, h2⟩) rfl rfl rfl rfl h3 hd hf (fun v u H1 locs1 hp _ hE => by subst hp; exact kk H1 locs1 hE)
end C_x_counts
def x_count (p1 : Int32) (Z : ZT) : Int32 := (if (x_isIn p1 (0 : Int32) (4 : Int32)) = 0 then (-1 : Int32) else (x_counts p1 Z))
set_option maxHeartbeats 4000000 in
set_option maxRecDepth 100000 in
theorem met_x_count (l : Launch) (D : va_G) (cs : Nat → ClassId) (x : Nat) (ar : Nat → Nat) (B : BT) (Y : va_W) (Z : ZT) (sz : Nat) (p1 : Int32) : Met l yX0_count (ws_ yX0_count cX0_count 2 (some .int)) ({ frames := 2, cells := 0, slots := 0, locals := 46 }) (va_Pc [.ref x, .int p1] (wSt D cs (WX x ar cs Z B Y) sz)) (cQi (fun (v : Int32) (_ : Unit) => x_count p1 Z = v) D (fun _ => (WX x ar cs Z B Y)) (WX x ar cs Z B Y) sz) 0 0 (va_A (WX x ar cs Z B Y) sz) := by
  refine gStart_i (C := RX0) rfl rfl (Nat.le_of_ble_eq_true rfl) ?_
  intro p e s mid args below meth c R Q A hx hb hml hown hts hK hA hRf hRl hRc hRs hret hE ls hl
  have hRf : 2 ≤ R.frames := hRf
  have hRl : 46 ≤ R.locals := hRl
  have hl : lv_has ls 2 [(0, .ref x), (1, .int p1)] := hl
  have hR : x_count p1 Z = (if (x_isIn p1 (0 : Int32) (4 : Int32)) = 0 then (-1 : Int32) else (x_counts p1 Z)) := rfl
  refine lv_iload_n hx hb dX0_count_0 rfl (lv_at hl 1 rfl) ?_
  refine lv_iconst (v := 0) hx hb dX0_count_1 rfl ?_
  refine lv_iconst (v := 4) hx hb dX0_count_2 rfl ?_
  refine call_x_isIn hx hb hml hown hts hK hA hE hl.1 p1 (0 : Int32) (4 : Int32) (lz (show 1 ≤ 2 by decide) hRf) (lz (show 22 ≤ 46 by decide) hRl) (Nat.le_of_ble_eq_true rfl) dX0_count_3 ⟨Nat.zero_le _, Nat.zero_le _⟩ (fun H locs hE => ?_)
  refine lv_if_eq (tgt := 17) hx hb dX0_count_6 (by decide) (fun c6 => ?_) (fun c6 => ?_)
  · have hR : x_count p1 Z = (-1 : Int32) := hR.trans (congrArg (fun z => z) (if_pos c6))
    refine lv_iconst (v := -1) hx hb dX0_count_17 rfl ?_
    exact hret (-1 : Int32) () hR rfl hE (Nat.le_refl 0) (Nat.le_refl 0) dX0_count_18
  · have hR : x_count p1 Z = (x_counts p1 Z) := hR.trans (congrArg (fun z => z) (if_neg c6))
    refine lv_aload_n hx hb dX0_count_9 rfl (lv_at hl 0 rfl) ?_
    refine lv_iload_n hx hb dX0_count_10 rfl (lv_at hl 1 rfl) ?_
    refine call_x_counts hx hb hml hown hts hK hA hE hl.1 p1 (lz (show 2 ≤ 2 by decide) hRf) (lz (show 46 ≤ 46 by decide) hRl) (Nat.le_of_ble_eq_true rfl) dX0_count_11 ⟨Nat.zero_le _, Nat.zero_le _⟩ (fun H locs hE => ?_)
    refine lv_goto (tgt := 18) hx hb dX0_count_14 (by decide) ?_
    exact hret (x_counts p1 Z) () hR rfl hE (Nat.le_refl 0) (Nat.le_refl 0) dX0_count_18
def x_mix (p1 : Int64) (Z : ZT) : ZT := sL Z 28 0 (((31 : Int64) * (Z.2 28 0)) + p1)
theorem mix_fst {v : Int64} {Z : ZT} : (x_mix v Z).1 = Z.1 := rfl
set_option maxHeartbeats 4000000 in
set_option maxRecDepth 100000 in
theorem met_x_mix (l : Launch) (D : va_G) (cs : Nat → ClassId) (x : Nat) (ar : Nat → Nat) (B : BT) (Y : va_W) (Z : ZT) (sz : Nat) (p1 : Int64) : Met l yX0_mix (ws_ yX0_mix cX0_mix 3 none) ({ frames := 0, cells := 0, slots := 0, locals := 0 }) (va_Pc [.ref x, .long p1] (wSt D cs (WX x ar cs Z B Y) sz)) (cQv (fun (u : ZT) => x_mix p1 Z = u) D (fun u => (WX x ar cs u B Y)) (WX x ar cs Z B Y) sz) 0 0 (va_A (WX x ar cs Z B Y) sz) := by
  refine gStart_v (C := RX0) rfl rfl (Nat.le_of_ble_eq_true rfl) ?_
  intro p e s mid args below meth c R Q A hx hb hml hown hts hK hA hRf hRl hRc hRs hnm hret hE ls hl
  have hRf : 0 ≤ R.frames := hRf
  have hRl : 0 ≤ R.locals := hRl
  have hl : lv_has ls 3 [(0, .ref x), (1, .long p1)] := hl
  have hR : x_mix p1 Z = (sL Z 28 0 (((31 : Int64) * (Z.2 28 0)) + p1)) := rfl
  refine lv_aload_n hx hb dX0_mix_0 rfl (lv_at hl 0 rfl) ?_
  refine lv_ldc2 (v := 31) hx hb hown (hts _ q908) dX0_mix_1 ?_
  refine lv_aload_n hx hb dX0_mix_4 rfl (lv_at hl 0 rfl) ?_
  refine xg_28 hx hb hts hown hK hE dX0_mix_5 ?_
  refine lv_lmul hx hb dX0_mix_8 ?_
  refine lv_lload_n hx hb dX0_mix_9 rfl (lv_at hl 1 rfl) ?_
  refine lv_ladd hx hb dX0_mix_10 ?_
  refine xp_28 hx hb hts hown hK hE dX0_mix_11 (fun H locs hE => ?_)
  exact hret (sL Z 28 0 (((31 : Int64) * (Z.2 28 0)) + p1)) hR hE (Nat.le_refl 0) (Nat.le_refl 0) dX0_mix_14
section C_x_mix
variable {p : Program} {l : Launch} {e : Env} {R : Room} {s : State} {mid : MethodId} {args : Array Value} {below : List Frame} {meth : Method} {c : Code} {H : Heap} {locs : List Loc} {cells slots : Nat} {Q : State → Prop} {cc : ByteArray} {pc : Nat} {ls : Array Slot} {rest : List Value} {D : va_G} {A : Nat → Prop} {x : Nat} {ar : Nat → Nat} {cs : Nat → ClassId} {B : BT} {Y : va_W} {Z : ZT} {nL r : Nat}
theorem call_x_mix (hx : p.tables.exec = Jvm.exec) (hb : c.code = cc) (hml : c.maxLocals = nL) (hown : s.vm.findClass RX0 = some mid.cls) (hts : ∀ w ∈ lw_all, w.before args s = true) (hK : KK D cs s) (hA : ∀ q : Nat, s.heap.size ≤ q → A q) (hE : EW D A s.heap (WX x ar cs Z B Y) H locs) (hls : ls.size = nL) (p1 : Int64) (h1 : 1 ≤ R.frames) (h2 : 22 ≤ R.locals) (h3 : (rest.map fun v => v.category).sum ≤ 8) (hd : decode cc pc = .ok (.invokevirtual 367, 3)) (hf : cells ≤ R.cells ∧ slots ≤ R.slots) (kk : ∀ (H1 : Heap) (locs1 : List Loc), EW D A s.heap (WX x ar cs (x_mix p1 Z) B Y) H1 locs1 → W p l e R s mid args below meth c H1 locs1 cells slots Q (F0 mid (pc + 3) ls (rest))) : W p l e R s mid args below meth c H locs cells slots Q (F0 mid pc ls (.long p1 :: .ref x :: rest)) := 
  gCall_v (As := [.long p1]) (rest := rest) (q0 := 0) (ci := 0) (fs := XF ar Z) (T' := TX0) (N' := 29) hx hb hml hown hts hK hA hE hls (met_x_mix l D cs x ar B Y Z H.size p1) (cwV 1 hts (lw_V q904 q906 qs38 q84 q907) rfl rfl rfl (by decide +kernel) ⟨h1, h2⟩) rfl rfl rfl rfl h3 hd hf (fun u H1 locs1 hp _ hE => by subst hp; exact kk H1 locs1 hE)
end C_x_mix
def x_mixBeing_c32 (wc32 : ZT) : ZT := wc32
def x_mixBeing_b19 (p1 : Nat) (i19 : Nat) (w19 : ZT) : ZT := x_mixBeing_c32 (x_mix ((x_tells p1 (nI i19) w19).toInt64) w19)
def x_mixBeing_c154 (wc154 : ZT) : ZT := wc154
def x_mixBeing_b137 (p1 : Nat) (i137 : Nat) (w137 : ZT) : ZT := x_mixBeing_c154 (x_mix ((w137.1 15 ((4 * p1) + i137)).toInt64) w137)
def x_mixBeing_j219 (w219 : ZT) : ZT := w219
def x_mixBeing_c205 (p1 : Nat) (i165 : Nat) (wc205 : ZT) : ZT := x_mix ((wc205.1 13 (8 * p1 + i165)).toInt64) wc205
def x_mixBeing_c185 (p1 : Nat) (i165 : Nat) (wc185 : ZT) : ZT := x_mixBeing_j219 (if wc185.1 11 (8 * p1 + i165) ≤ 0 then wc185 else x_mixBeing_c205 p1 i165 (x_mix ((wc185.1 12 (8 * p1 + i165)).toInt64) wc185))
def x_mixBeing_b165 (p1 : Nat) (i165 : Nat) (w165 : ZT) : ZT := x_mixBeing_c185 p1 i165 (x_mix ((w165.1 11 (8 * p1 + i165)).toInt64) w165)
def x_mixBeing_j257 (w257 : ZT) : ZT := w257
def x_mixBeing_b227 (p1 : Nat) (i227 : Nat) (w227 : ZT) : ZT := x_mixBeing_j257 (if w227.1 30 i227 = 0 then w227 else x_mix ((w227.1 14 (8 * p1 + i227)).toInt64) w227)
def x_mixBeing_e227 (w227 : ZT) : ZT := w227
def x_mixBeing_e165 (p1 : Nat) (w165 : ZT) : ZT := x_mixBeing_e227 (itR (x_mixBeing_b227 p1) 0 8 w165)
def x_mixBeing_e137 (p1 : Nat) (w137 : ZT) : ZT := x_mixBeing_e165 p1 (itR (x_mixBeing_b165 p1) 0 8 w137)
def x_mixBeing_j135 (p1 : Nat) (w135 : ZT) : ZT := x_mixBeing_e137 p1 (itR (x_mixBeing_b137 p1) 0 4 w135)
def x_mixBeing_c115 (p1 : Nat) (wc115 : ZT) : ZT := x_mix ((wc115.1 38 p1).toInt64) wc115
def x_mixBeing_j88 (p1 : Nat) (w88 : ZT) : ZT := x_mixBeing_j135 p1 (if (v_is p1 (2 : Int32) w88) = 0 then w88 else x_mixBeing_c115 p1 (x_mix ((w88.1 37 p1).toInt64) w88))
def x_mixBeing_c68 (p1 : Nat) (wc68 : ZT) : ZT := x_mix ((wc68.1 36 p1).toInt64) wc68
def x_mixBeing_e19 (p1 : Nat) (w19 : ZT) : ZT := x_mixBeing_j88 p1 (if (v_is p1 (1 : Int32) w19) = 0 then w19 else x_mixBeing_c68 p1 (x_mix ((w19.1 35 p1).toInt64) w19))
def x_mixBeing (p1 : Nat) (Z : ZT) : ZT := (if Z.1 30 p1 = 0 then x_mix (-1 : Int64) Z else x_mixBeing_e19 p1 (itR (x_mixBeing_b19 p1) 0 (5 + 1) Z))
theorem itR_fst {f : Nat → ZT → ZT} {Z : ZT} (h : ∀ i s, (f i s).1 = s.1) : ∀ (k i : Nat) (s : ZT), s.1 = Z.1 → (itR f i k s).1 = Z.1 := fun k i s hs => itR_ind (f := f) (P := fun s : ZT => s.1 = Z.1) (fun i s h2 => (h i s).trans h2) k i s hs
theorem mixBeing_fst {b : Nat} {Z : ZT} : (x_mixBeing b Z).1 = Z.1 := by
  have h19 : (itR (x_mixBeing_b19 b) 0 (5 + 1) Z).1 = Z.1 := itR_fst (f := x_mixBeing_b19 b) (fun i s => by
    unfold x_mixBeing_b19 x_mixBeing_c32
    rw [mix_fst]) _ _ _ rfl
  unfold x_mixBeing
  generalize itR (x_mixBeing_b19 b) 0 (5 + 1) Z = a at h19
  have h227 : ∀ u : ZT, u.1 = Z.1 → (itR (x_mixBeing_b227 b) 0 8 u).1 = Z.1 := fun u hu => itR_fst (f := x_mixBeing_b227 b) (fun i s => by
    unfold x_mixBeing_b227 x_mixBeing_j257
    split
    · rfl
    · rw [mix_fst]) _ _ _ hu
  have h165 : ∀ u : ZT, u.1 = Z.1 → (itR (x_mixBeing_b165 b) 0 8 u).1 = Z.1 := fun u hu => itR_fst (f := x_mixBeing_b165 b) (fun i s => by
    unfold x_mixBeing_b165 x_mixBeing_c185 x_mixBeing_j219 x_mixBeing_c205
    split
    · rw [mix_fst]
    · rw [mix_fst, mix_fst, mix_fst]) _ _ _ hu
  have h137 : ∀ u : ZT, u.1 = Z.1 → (itR (x_mixBeing_b137 b) 0 4 u).1 = Z.1 := fun u hu => itR_fst (f := x_mixBeing_b137 b) (fun i s => by
    unfold x_mixBeing_b137 x_mixBeing_c154
    rw [mix_fst]) _ _ _ hu
  have h135 : ∀ u : ZT, u.1 = Z.1 → (x_mixBeing_j135 b u).1 = Z.1 := fun u hu => by
    unfold x_mixBeing_j135 x_mixBeing_e137 x_mixBeing_e165 x_mixBeing_e227
    exact h227 _ (h165 _ (h137 _ hu))
  have h88 : ∀ u : ZT, u.1 = Z.1 → (x_mixBeing_j88 b u).1 = Z.1 := fun u hu => by
    unfold x_mixBeing_j88 x_mixBeing_c115
    apply h135
    split
    · exact hu
    · rw [mix_fst, mix_fst]
      exact hu
  split
  · rw [mix_fst]
  · unfold x_mixBeing_e19 x_mixBeing_c68
    apply h88
    split
    · exact h19
    · rw [mix_fst, mix_fst]
      exact h19
set_option maxHeartbeats 4000000 in
set_option maxRecDepth 100000 in
theorem met_x_mixBeing (l : Launch) (D : va_G) (cs : Nat → ClassId) (x : Nat) (ar : Nat → Nat) (B : BT) (Y : va_W) (Z : ZT) (sz : Nat) (p1 : Nat) (hn1 : p1 < 8) : Met l yX0_mixBeing (ws_ yX0_mixBeing cX0_mixBeing 4 none) ({ frames := 3, cells := 0, slots := 0, locals := 68 }) (va_Pc [.ref x, .int (nI p1)] (wSt D cs (WX x ar cs Z B Y) sz)) (cQv (fun (u : ZT) => x_mixBeing p1 Z = u) D (fun u => (WX x ar cs u B Y)) (WX x ar cs Z B Y) sz) 0 0 (va_A (WX x ar cs Z B Y) sz) := by
  refine gStart_v (C := RX0) rfl rfl (Nat.le_of_ble_eq_true rfl) ?_
  intro p e s mid args below meth c R Q A hx hb hml hown hts hK hA hRf hRl hRc hRs hnm hret hE ls hl
  have hRf : 3 ≤ R.frames := hRf
  have hRl : 68 ≤ R.locals := hRl
  have hl : lv_has ls 4 [(0, .ref x), (1, .int (nI p1))] := hl
  have hR : x_mixBeing p1 Z = (if Z.1 30 p1 = 0 then x_mix (-1 : Int64) Z else x_mixBeing_e19 p1 (itR (x_mixBeing_b19 p1) 0 (5 + 1) Z)) := rfl
  refine lv_aload_n hx hb dX0_mixBeing_0 rfl (lv_at hl 0 rfl) ?_
  refine xg_10 hx hb hts hown hK hE dX0_mixBeing_1 ?_
  refine lv_iload_n hx hb dX0_mixBeing_4 rfl (lv_at hl 1 rfl) ?_
  refine xa_10 (n := p1) (by omega) hx hb hK hE dX0_mixBeing_5 ?_
  refine xnw_be (b := p1) (tgt := 17) hx hb dX0_mixBeing_6 (by decide) (fun c6 => ?_) (fun c6 => ?_)
  · have hR : x_mixBeing p1 Z = (x_mixBeing_e19 p1 (itR (x_mixBeing_b19 p1) 0 (5 + 1) Z)) := hR.trans (congrArg (fun z => z) (if_neg c6))
    refine lv_iconst (v := 0) hx hb dX0_mixBeing_17 rfl ?_
    refine lv_istore_n (lv' := [(2, .int (0 : Int32)), (0, .ref x), (1, .int (nI p1))]) hx hb dX0_mixBeing_18 rfl hl (by decide) rfl (fun ls hl => ?_)
    have hL19 : ∀ (k i19 : Nat) (w19 : ZT) (hi19 : i19 + k = (5 + 1)) (hz19 : w19.1 = Z.1) (hR : x_mixBeing p1 Z = x_mixBeing_e19 p1 (itR (x_mixBeing_b19 p1) i19 k w19)), ∀ (H : Heap) (locs : List Loc) (ls : Array Slot), EW D A s.heap (WX x ar cs w19 B Y) H locs → lv_has ls 4 [(0, .ref x), (1, .int (nI p1)), (2, .int (nI i19))] → W p l e R s mid args below meth c H locs 0 0 Q (F0 mid 19 ls []) := by
      intro k
      induction k with
      | zero =>
        intro i19 w19 hi19 hz19 hR H locs ls hE hl
        have hie19 : i19 = (5 + 1) := by omega
        have hR : x_mixBeing p1 Z = (x_mixBeing_j88 p1 (if (v_is p1 (1 : Int32) w19) = 0 then w19 else x_mixBeing_c68 p1 (x_mix ((w19.1 35 p1).toInt64) w19))) := hR
        refine lv_iload_n hx hb dX0_mixBeing_19 rfl (lv_at hl 2 rfl) ?_
        refine lv_iconst (v := 5) hx hb dX0_mixBeing_20 rfl ?_
        refine n_gtT (a := i19) (b := 5) (by omega) (by omega) hx hb dX0_mixBeing_21 (tgt := 41) (by decide) ?_
        have hl := lv_sub (l' := [(0, .ref x), (1, .int (nI p1))]) hl [0, 1] rfl
        refine lv_aload_n hx hb dX0_mixBeing_41 rfl (lv_at hl 0 rfl) ?_
        refine xg_10 hx hb hts hown hK hE dX0_mixBeing_42 ?_
        refine lv_iload_n hx hb dX0_mixBeing_45 rfl (lv_at hl 1 rfl) ?_
        refine xa_10 (n := p1) (by omega) hx hb hK hE dX0_mixBeing_46 ?_
        refine lv_iconst (v := 1) hx hb dX0_mixBeing_47 rfl ?_
        refine call_v_is hx hb hml hown hts hK hA hE hl.1 p1 (1 : Int32) (by omega) (by rw [hz19]; exact c6) (lz (show 3 ≤ 3 by decide) hRf) (lz (show 63 ≤ 68 by decide) hRl) (Nat.le_of_ble_eq_true rfl) dX0_mixBeing_48 ⟨Nat.zero_le _, Nat.zero_le _⟩ (fun H locs hE => ?_)
        have hJ88 : ∀ (w88 : ZT) (hz88 : w88.1 = Z.1) (hR : x_mixBeing p1 Z = x_mixBeing_j88 p1 w88), ∀ (H : Heap) (locs : List Loc) (ls : Array Slot), EW D A s.heap (WX x ar cs w88 B Y) H locs → lv_has ls 4 [(0, .ref x), (1, .int (nI p1))] → W p l e R s mid args below meth c H locs 0 0 Q (F0 mid 88 ls []) := by
          intro w88 hz88 hR H locs ls hE hl
          have hR : x_mixBeing p1 Z = (x_mixBeing_j135 p1 (if (v_is p1 (2 : Int32) w88) = 0 then w88 else x_mixBeing_c115 p1 (x_mix ((w88.1 37 p1).toInt64) w88))) := hR
          refine lv_aload_n hx hb dX0_mixBeing_88 rfl (lv_at hl 0 rfl) ?_
          refine xg_10 hx hb hts hown hK hE dX0_mixBeing_89 ?_
          refine lv_iload_n hx hb dX0_mixBeing_92 rfl (lv_at hl 1 rfl) ?_
          refine xa_10 (n := p1) (by omega) hx hb hK hE dX0_mixBeing_93 ?_
          refine lv_iconst (v := 2) hx hb dX0_mixBeing_94 rfl ?_
          refine call_v_is hx hb hml hown hts hK hA hE hl.1 p1 (2 : Int32) (by omega) (by rw [hz88]; exact c6) (lz (show 3 ≤ 3 by decide) hRf) (lz (show 63 ≤ 68 by decide) hRl) (Nat.le_of_ble_eq_true rfl) dX0_mixBeing_95 ⟨Nat.zero_le _, Nat.zero_le _⟩ (fun H locs hE => ?_)
          have hJ135 : ∀ (w135 : ZT) (hz135 : w135.1 = Z.1) (hR : x_mixBeing p1 Z = x_mixBeing_j135 p1 w135), ∀ (H : Heap) (locs : List Loc) (ls : Array Slot), EW D A s.heap (WX x ar cs w135 B Y) H locs → lv_has ls 4 [(0, .ref x), (1, .int (nI p1))] → W p l e R s mid args below meth c H locs 0 0 Q (F0 mid 135 ls []) := by
            intro w135 hz135 hR H locs ls hE hl
            have hR : x_mixBeing p1 Z = (x_mixBeing_e137 p1 (itR (x_mixBeing_b137 p1) 0 4 w135)) := hR
            refine lv_iconst (v := 0) hx hb dX0_mixBeing_135 rfl ?_
            refine lv_istore_n (lv' := [(2, .int (0 : Int32)), (0, .ref x), (1, .int (nI p1))]) hx hb dX0_mixBeing_136 rfl hl (by decide) rfl (fun ls hl => ?_)
            have hL137 : ∀ (k i137 : Nat) (w137 : ZT) (hi137 : i137 + k = 4) (hz137 : w137.1 = Z.1) (hR : x_mixBeing p1 Z = x_mixBeing_e137 p1 (itR (x_mixBeing_b137 p1) i137 k w137)), ∀ (H : Heap) (locs : List Loc) (ls : Array Slot), EW D A s.heap (WX x ar cs w137 B Y) H locs → lv_has ls 4 [(0, .ref x), (1, .int (nI p1)), (2, .int (nI i137))] → W p l e R s mid args below meth c H locs 0 0 Q (F0 mid 137 ls []) := by
              intro k
              induction k with
              | zero =>
                intro i137 w137 hi137 hz137 hR H locs ls hE hl
                have hie137 : i137 = 4 := by omega
                have hR : x_mixBeing p1 Z = (x_mixBeing_e165 p1 (itR (x_mixBeing_b165 p1) 0 8 w137)) := hR
                refine lv_iload_n hx hb dX0_mixBeing_137 rfl (lv_at hl 2 rfl) ?_
                refine lv_iconst (v := 4) hx hb dX0_mixBeing_138 rfl ?_
                refine n_geT (a := i137) (b := 4) (by omega) (by omega) hx hb dX0_mixBeing_139 (tgt := 163) (by decide) ?_
                have hl := lv_sub (l' := [(0, .ref x), (1, .int (nI p1))]) hl [0, 1] rfl
                refine lv_iconst (v := 0) hx hb dX0_mixBeing_163 rfl ?_
                refine lv_istore_n (lv' := [(2, .int (0 : Int32)), (0, .ref x), (1, .int (nI p1))]) hx hb dX0_mixBeing_164 rfl hl (by decide) rfl (fun ls hl => ?_)
                have hL165 : ∀ (k i165 : Nat) (w165 : ZT) (hi165 : i165 + k = 8) (hz165 : w165.1 = Z.1) (hR : x_mixBeing p1 Z = x_mixBeing_e165 p1 (itR (x_mixBeing_b165 p1) i165 k w165)), ∀ (H : Heap) (locs : List Loc) (ls : Array Slot), EW D A s.heap (WX x ar cs w165 B Y) H locs → lv_has ls 4 [(0, .ref x), (1, .int (nI p1)), (2, .int (nI i165))] → W p l e R s mid args below meth c H locs 0 0 Q (F0 mid 165 ls []) := by
                  intro k
                  induction k with
                  | zero =>
                    intro i165 w165 hi165 hz165 hR H locs ls hE hl
                    have hie165 : i165 = 8 := by omega
                    have hR : x_mixBeing p1 Z = (x_mixBeing_e227 (itR (x_mixBeing_b227 p1) 0 8 w165)) := hR
                    refine lv_iload_n hx hb dX0_mixBeing_165 rfl (lv_at hl 2 rfl) ?_
                    refine lv_bipush (v := 8) hx hb dX0_mixBeing_166 rfl ?_
                    refine n_geT (a := i165) (b := 8) (by omega) (by omega) hx hb dX0_mixBeing_168 (tgt := 225) (by decide) ?_
                    have hl := lv_sub (l' := [(0, .ref x), (1, .int (nI p1))]) hl [0, 1] rfl
                    refine lv_iconst (v := 0) hx hb dX0_mixBeing_225 rfl ?_
                    refine lv_istore_n (lv' := [(2, .int (0 : Int32)), (0, .ref x), (1, .int (nI p1))]) hx hb dX0_mixBeing_226 rfl hl (by decide) rfl (fun ls hl => ?_)
                    have hL227 : ∀ (k i227 : Nat) (w227 : ZT) (hi227 : i227 + k = 8) (hz227 : w227.1 = Z.1) (hR : x_mixBeing p1 Z = x_mixBeing_e227 (itR (x_mixBeing_b227 p1) i227 k w227)), ∀ (H : Heap) (locs : List Loc) (ls : Array Slot), EW D A s.heap (WX x ar cs w227 B Y) H locs → lv_has ls 4 [(0, .ref x), (1, .int (nI p1)), (2, .int (nI i227))] → W p l e R s mid args below meth c H locs 0 0 Q (F0 mid 227 ls []) := by
                      intro k
                      induction k with
                      | zero =>
                        intro i227 w227 hi227 hz227 hR H locs ls hE hl
                        have hie227 : i227 = 8 := by omega
                        have hR : x_mixBeing p1 Z = w227 := hR
                        refine lv_iload_n hx hb dX0_mixBeing_227 rfl (lv_at hl 2 rfl) ?_
                        refine lv_bipush (v := 8) hx hb dX0_mixBeing_228 rfl ?_
                        refine n_geT (a := i227) (b := 8) (by omega) (by omega) hx hb dX0_mixBeing_230 (tgt := 263) (by decide) ?_
                        have hl := lv_sub (l' := [(0, .ref x), (1, .int (nI p1))]) hl [0, 1] rfl
                        exact hret w227 hR hE (Nat.le_refl 0) (Nat.le_refl 0) dX0_mixBeing_263
                      | succ k ih227 =>
                        intro i227 w227 hi227 hz227 hR H locs ls hE hl
                        have hlt227 : i227 < 8 := by omega
                        have hB227 : x_mixBeing_b227 p1 i227 w227 = x_mixBeing_j257 (if w227.1 30 i227 = 0 then w227 else x_mix ((w227.1 14 (8 * p1 + i227)).toInt64) w227) := rfl
                        refine lv_iload_n hx hb dX0_mixBeing_227 rfl (lv_at hl 2 rfl) ?_
                        refine lv_bipush (v := 8) hx hb dX0_mixBeing_228 rfl ?_
                        refine n_geF (a := i227) (b := 8) (by omega) (by omega) hx hb dX0_mixBeing_230 (tgt := 263) (by decide) ?_
                        refine lv_aload_n hx hb dX0_mixBeing_233 rfl (lv_at hl 0 rfl) ?_
                        refine xg_10 hx hb hts hown hK hE dX0_mixBeing_234 ?_
                        refine lv_iload_n hx hb dX0_mixBeing_237 rfl (lv_at hl 2 rfl) ?_
                        refine xa_10 (n := i227) (by omega) hx hb hK hE dX0_mixBeing_238 ?_
                        have hJ257 : ∀ (w257 : ZT) (hz257 : w257.1 = Z.1) (hB227 : x_mixBeing_b227 p1 i227 w227 = x_mixBeing_j257 w257), ∀ (H : Heap) (locs : List Loc) (ls : Array Slot), EW D A s.heap (WX x ar cs w257 B Y) H locs → lv_has ls 4 [(0, .ref x), (1, .int (nI p1)), (2, .int (nI i227))] → W p l e R s mid args below meth c H locs 0 0 Q (F0 mid 257 ls []) := by
                          intro w257 hz257 hB227 H locs ls hE hl
                          have hB227 : x_mixBeing_b227 p1 i227 w227 = w257 := hB227
                          refine n_inc (lv' := [(2, .int (nI (i227 + 1))), (0, .ref x), (1, .int (nI p1))]) hx hb dX0_mixBeing_257 hl (k := 2) rfl (by decide) rfl (fun ls hl => ?_)
                          refine lv_goto (tgt := 227) hx hb dX0_mixBeing_260 (by decide) ?_
                          exact ih227 (i227 + 1) w257 (by omega) (by exact hz257) (hR.trans (congrArg (fun z => x_mixBeing_e227 (itR (x_mixBeing_b227 p1) (i227 + 1) k z)) hB227)) _ _ _ hE (lv_sub hl [1, 2, 0] rfl)
                        refine xnn_be (b := i227) (tgt := 257) hx hb dX0_mixBeing_239 (by decide) (fun c239 => ?_) (fun c239 => ?_)
                        · have hB227 : x_mixBeing_b227 p1 i227 w227 = x_mixBeing_j257 w227 := hB227.trans (congrArg (fun z => x_mixBeing_j257 z) (if_pos c239))
                          exact hJ257 w227  (by first | exact hz227 | (rw [mix_fst]; exact hz227)) hB227 _ _ _ hE (lv_sub hl [0, 1, 2] rfl)
                        · have hB227 : x_mixBeing_b227 p1 i227 w227 = x_mixBeing_j257 (x_mix ((w227.1 14 (8 * p1 + i227)).toInt64) w227) := hB227.trans (congrArg (fun z => x_mixBeing_j257 z) (if_neg c239))
                          refine lv_aload_n hx hb dX0_mixBeing_242 rfl (lv_at hl 0 rfl) ?_
                          refine lv_aload_n hx hb dX0_mixBeing_243 rfl (lv_at hl 0 rfl) ?_
                          refine xg_14 hx hb hts hown hK hE dX0_mixBeing_244 ?_
                          refine lv_iload_n hx hb dX0_mixBeing_247 rfl (lv_at hl 1 rfl) ?_
                          refine lv_iload_n hx hb dX0_mixBeing_248 rfl (lv_at hl 2 rfl) ?_
                          refine call_x_pair hx hb hml hown hts hK hA hE hl.1 p1 i227 (lz (show 1 ≤ 3 by decide) hRf) (lz (show 21 ≤ 68 by decide) hRl) (Nat.le_of_ble_eq_true rfl) dX0_mixBeing_249 ⟨Nat.zero_le _, Nat.zero_le _⟩ (fun H locs hE => ?_)
                          refine xa_14 (n := (8 * p1 + i227)) (by omega) hx hb hK hE dX0_mixBeing_252 ?_
                          refine lv_i2l hx hb dX0_mixBeing_253 rfl ?_
                          refine call_x_mix hx hb hml hown hts hK hA hE hl.1 ((w227.1 14 (8 * p1 + i227)).toInt64) (lz (show 1 ≤ 3 by decide) hRf) (lz (show 22 ≤ 68 by decide) hRl) (Nat.le_of_ble_eq_true rfl) dX0_mixBeing_254 ⟨Nat.zero_le _, Nat.zero_le _⟩ (fun H locs hE => ?_)
                          exact hJ257 (x_mix ((w227.1 14 (8 * p1 + i227)).toInt64) w227)  (by first | exact hz227 | (rw [mix_fst]; exact hz227)) hB227 _ _ _ hE (lv_sub hl [0, 1, 2] rfl)
                    exact hL227 8 0 w165 (by omega) (by exact hz165) hR _ _ _ hE (lv_sub hl [1, 2, 0] rfl)
                  | succ k ih165 =>
                    intro i165 w165 hi165 hz165 hR H locs ls hE hl
                    have hlt165 : i165 < 8 := by omega
                    have hB165 : x_mixBeing_b165 p1 i165 w165 = x_mixBeing_c185 p1 i165 (x_mix ((w165.1 11 (8 * p1 + i165)).toInt64) w165) := rfl
                    refine lv_iload_n hx hb dX0_mixBeing_165 rfl (lv_at hl 2 rfl) ?_
                    refine lv_bipush (v := 8) hx hb dX0_mixBeing_166 rfl ?_
                    refine n_geF (a := i165) (b := 8) (by omega) (by omega) hx hb dX0_mixBeing_168 (tgt := 225) (by decide) ?_
                    refine lv_iload_n hx hb dX0_mixBeing_171 rfl (lv_at hl 1 rfl) ?_
                    refine lv_iload_n hx hb dX0_mixBeing_172 rfl (lv_at hl 2 rfl) ?_
                    refine call_x_pair hx hb hml hown hts hK hA hE hl.1 p1 i165 (lz (show 1 ≤ 3 by decide) hRf) (lz (show 21 ≤ 68 by decide) hRl) (Nat.le_of_ble_eq_true rfl) dX0_mixBeing_173 ⟨Nat.zero_le _, Nat.zero_le _⟩ (fun H locs hE => ?_)
                    refine lv_istore_n (lv' := [(3, .int (nI (8 * p1 + i165))), (0, .ref x), (1, .int (nI p1)), (2, .int (nI i165))]) hx hb dX0_mixBeing_176 rfl hl (by decide) rfl (fun ls hl => ?_)
                    refine lv_aload_n hx hb dX0_mixBeing_177 rfl (lv_at hl 1 rfl) ?_
                    refine lv_aload_n hx hb dX0_mixBeing_178 rfl (lv_at hl 1 rfl) ?_
                    refine xg_11 hx hb hts hown hK hE dX0_mixBeing_179 ?_
                    refine lv_iload_n hx hb dX0_mixBeing_182 rfl (lv_at hl 0 rfl) ?_
                    refine xa_11 (n := (8 * p1 + i165)) (by omega) hx hb hK hE dX0_mixBeing_183 ?_
                    refine lv_i2l hx hb dX0_mixBeing_184 rfl ?_
                    refine call_x_mix hx hb hml hown hts hK hA hE hl.1 ((w165.1 11 (8 * p1 + i165)).toInt64) (lz (show 1 ≤ 3 by decide) hRf) (lz (show 22 ≤ 68 by decide) hRl) (Nat.le_of_ble_eq_true rfl) dX0_mixBeing_185 ⟨Nat.zero_le _, Nat.zero_le _⟩ (fun H locs hE => ?_)
                    have hNc185 : ∀ (wc185 : ZT) (hewc185 : wc185 = x_mix ((w165.1 11 (8 * p1 + i165)).toInt64) w165) (hB165 : x_mixBeing_b165 p1 i165 w165 = x_mixBeing_c185 p1 i165 wc185), ∀ (H : Heap) (locs : List Loc) (ls : Array Slot), EW D A s.heap (WX x ar cs wc185 B Y) H locs → lv_has ls 4 [(0, .ref x), (1, .int (nI p1)), (2, .int (nI i165)), (3, .int (nI (8 * p1 + i165)))] → W p l e R s mid args below meth c H locs 0 0 Q (F0 mid 188 ls []) := by
                      intro wc185 hewc185 hB165 H locs ls hE hl
                      have hB165 : x_mixBeing_b165 p1 i165 w165 = (x_mixBeing_j219 (if wc185.1 11 (8 * p1 + i165) ≤ 0 then wc185 else x_mixBeing_c205 p1 i165 (x_mix ((wc185.1 12 (8 * p1 + i165)).toInt64) wc185))) := hB165
                      refine lv_aload_n hx hb dX0_mixBeing_188 rfl (lv_at hl 0 rfl) ?_
                      refine xg_11 hx hb hts hown hK hE dX0_mixBeing_189 ?_
                      refine lv_iload_n hx hb dX0_mixBeing_192 rfl (lv_at hl 3 rfl) ?_
                      refine xa_11 (n := (8 * p1 + i165)) (by omega) hx hb hK hE dX0_mixBeing_193 ?_
                      have hJ219 : ∀ (w219 : ZT) (hz219 : w219.1 = Z.1) (hB165 : x_mixBeing_b165 p1 i165 w165 = x_mixBeing_j219 w219), ∀ (H : Heap) (locs : List Loc) (ls : Array Slot), EW D A s.heap (WX x ar cs w219 B Y) H locs → lv_has ls 4 [(0, .ref x), (1, .int (nI p1)), (2, .int (nI i165))] → W p l e R s mid args below meth c H locs 0 0 Q (F0 mid 219 ls []) := by
                        intro w219 hz219 hB165 H locs ls hE hl
                        have hB165 : x_mixBeing_b165 p1 i165 w165 = w219 := hB165
                        refine n_inc (lv' := [(2, .int (nI (i165 + 1))), (0, .ref x), (1, .int (nI p1))]) hx hb dX0_mixBeing_219 hl (k := 2) rfl (by decide) rfl (fun ls hl => ?_)
                        refine lv_goto (tgt := 165) hx hb dX0_mixBeing_222 (by decide) ?_
                        exact ih165 (i165 + 1) w219 (by omega) (by exact hz219) (hR.trans (congrArg (fun z => x_mixBeing_e165 p1 (itR (x_mixBeing_b165 p1) (i165 + 1) k z)) hB165)) _ _ _ hE (lv_sub hl [1, 2, 0] rfl)
                      refine lv_if_le (tgt := 219) hx hb dX0_mixBeing_194 (by decide) (fun c194 => ?_) (fun c194 => ?_)
                      · have hB165 : x_mixBeing_b165 p1 i165 w165 = x_mixBeing_j219 wc185 := hB165.trans (congrArg (fun z => x_mixBeing_j219 z) (if_pos c194))
                        exact hJ219 wc185  (by first | (rw [hewc185, mix_fst]; exact hz165) | (rw [mix_fst, hewc205, mix_fst, hewc185, mix_fst]; exact hz165)) hB165 _ _ _ hE (lv_sub hl [0, 1, 2] rfl)
                      · have hB165 : x_mixBeing_b165 p1 i165 w165 = x_mixBeing_j219 (x_mixBeing_c205 p1 i165 (x_mix ((wc185.1 12 (8 * p1 + i165)).toInt64) wc185)) := hB165.trans (congrArg (fun z => x_mixBeing_j219 z) (if_neg c194))
                        refine lv_aload_n hx hb dX0_mixBeing_197 rfl (lv_at hl 0 rfl) ?_
                        refine lv_aload_n hx hb dX0_mixBeing_198 rfl (lv_at hl 0 rfl) ?_
                        refine xg_12 hx hb hts hown hK hE dX0_mixBeing_199 ?_
                        refine lv_iload_n hx hb dX0_mixBeing_202 rfl (lv_at hl 3 rfl) ?_
                        refine xa_12 (n := (8 * p1 + i165)) (by omega) hx hb hK hE dX0_mixBeing_203 ?_
                        refine lv_i2l hx hb dX0_mixBeing_204 rfl ?_
                        refine call_x_mix hx hb hml hown hts hK hA hE hl.1 ((wc185.1 12 (8 * p1 + i165)).toInt64) (lz (show 1 ≤ 3 by decide) hRf) (lz (show 22 ≤ 68 by decide) hRl) (Nat.le_of_ble_eq_true rfl) dX0_mixBeing_205 ⟨Nat.zero_le _, Nat.zero_le _⟩ (fun H locs hE => ?_)
                        have hNc205 : ∀ (wc205 : ZT) (hewc205 : wc205 = x_mix ((wc185.1 12 (8 * p1 + i165)).toInt64) wc185) (hB165 : x_mixBeing_b165 p1 i165 w165 = x_mixBeing_j219 (x_mixBeing_c205 p1 i165 wc205)), ∀ (H : Heap) (locs : List Loc) (ls : Array Slot), EW D A s.heap (WX x ar cs wc205 B Y) H locs → lv_has ls 4 [(0, .ref x), (1, .int (nI p1)), (2, .int (nI i165)), (3, .int (nI (8 * p1 + i165)))] → W p l e R s mid args below meth c H locs 0 0 Q (F0 mid 208 ls []) := by
                          intro wc205 hewc205 hB165 H locs ls hE hl
                          have hB165 : x_mixBeing_b165 p1 i165 w165 = x_mixBeing_j219 (x_mix ((wc205.1 13 (8 * p1 + i165)).toInt64) wc205) := hB165
                          refine lv_aload_n hx hb dX0_mixBeing_208 rfl (lv_at hl 0 rfl) ?_
                          refine lv_aload_n hx hb dX0_mixBeing_209 rfl (lv_at hl 0 rfl) ?_
                          refine xg_13 hx hb hts hown hK hE dX0_mixBeing_210 ?_
                          refine lv_iload_n hx hb dX0_mixBeing_213 rfl (lv_at hl 3 rfl) ?_
                          refine xa_13 (n := (8 * p1 + i165)) (by omega) hx hb hK hE dX0_mixBeing_214 ?_
                          refine lv_i2l hx hb dX0_mixBeing_215 rfl ?_
                          refine call_x_mix hx hb hml hown hts hK hA hE hl.1 ((wc205.1 13 (8 * p1 + i165)).toInt64) (lz (show 1 ≤ 3 by decide) hRf) (lz (show 22 ≤ 68 by decide) hRl) (Nat.le_of_ble_eq_true rfl) dX0_mixBeing_216 ⟨Nat.zero_le _, Nat.zero_le _⟩ (fun H locs hE => ?_)
                          exact hJ219 (x_mix ((wc205.1 13 (8 * p1 + i165)).toInt64) wc205)  (by first | (rw [hewc185, mix_fst]; exact hz165) | (rw [mix_fst, hewc205, mix_fst, hewc185, mix_fst]; exact hz165)) hB165 _ _ _ hE (lv_sub hl [0, 1, 2] rfl)
                        exact hNc205 (x_mix ((wc185.1 12 (8 * p1 + i165)).toInt64) wc185) rfl hB165 _ _ _ hE (lv_sub hl [0, 1, 2, 3] rfl)
                    exact hNc185 (x_mix ((w165.1 11 (8 * p1 + i165)).toInt64) w165) rfl hB165 _ _ _ hE (lv_sub hl [1, 2, 3, 0] rfl)
                exact hL165 8 0 w137 (by omega) (by exact hz137) hR _ _ _ hE (lv_sub hl [1, 2, 0] rfl)
              | succ k ih137 =>
                intro i137 w137 hi137 hz137 hR H locs ls hE hl
                have hlt137 : i137 < 4 := by omega
                have hB137 : x_mixBeing_b137 p1 i137 w137 = x_mixBeing_c154 (x_mix ((w137.1 15 ((4 * p1) + i137)).toInt64) w137) := rfl
                refine lv_iload_n hx hb dX0_mixBeing_137 rfl (lv_at hl 2 rfl) ?_
                refine lv_iconst (v := 4) hx hb dX0_mixBeing_138 rfl ?_
                refine n_geF (a := i137) (b := 4) (by omega) (by omega) hx hb dX0_mixBeing_139 (tgt := 163) (by decide) ?_
                refine lv_aload_n hx hb dX0_mixBeing_142 rfl (lv_at hl 0 rfl) ?_
                refine lv_aload_n hx hb dX0_mixBeing_143 rfl (lv_at hl 0 rfl) ?_
                refine xg_15 hx hb hts hown hK hE dX0_mixBeing_144 ?_
                refine lv_iconst (v := 4) hx hb dX0_mixBeing_147 rfl ?_
                refine lv_iload_n hx hb dX0_mixBeing_148 rfl (lv_at hl 1 rfl) ?_
                refine n_mul (a := 4) (b := p1) hx hb dX0_mixBeing_149 ?_
                refine lv_iload_n hx hb dX0_mixBeing_150 rfl (lv_at hl 2 rfl) ?_
                refine n_add (a := (4 * p1)) (b := i137) hx hb dX0_mixBeing_151 ?_
                refine xa_15 (n := ((4 * p1) + i137)) (by omega) hx hb hK hE dX0_mixBeing_152 ?_
                refine lv_i2l hx hb dX0_mixBeing_153 rfl ?_
                refine call_x_mix hx hb hml hown hts hK hA hE hl.1 ((w137.1 15 ((4 * p1) + i137)).toInt64) (lz (show 1 ≤ 3 by decide) hRf) (lz (show 22 ≤ 68 by decide) hRl) (Nat.le_of_ble_eq_true rfl) dX0_mixBeing_154 ⟨Nat.zero_le _, Nat.zero_le _⟩ (fun H locs hE => ?_)
                have hNc154 : ∀ (wc154 : ZT) (hewc154 : wc154 = x_mix ((w137.1 15 ((4 * p1) + i137)).toInt64) w137) (hB137 : x_mixBeing_b137 p1 i137 w137 = x_mixBeing_c154 wc154), ∀ (H : Heap) (locs : List Loc) (ls : Array Slot), EW D A s.heap (WX x ar cs wc154 B Y) H locs → lv_has ls 4 [(0, .ref x), (1, .int (nI p1)), (2, .int (nI i137))] → W p l e R s mid args below meth c H locs 0 0 Q (F0 mid 157 ls []) := by
                  intro wc154 hewc154 hB137 H locs ls hE hl
                  have hB137 : x_mixBeing_b137 p1 i137 w137 = wc154 := hB137
                  refine n_inc (lv' := [(2, .int (nI (i137 + 1))), (0, .ref x), (1, .int (nI p1))]) hx hb dX0_mixBeing_157 hl (k := 2) rfl (by decide) rfl (fun ls hl => ?_)
                  refine lv_goto (tgt := 137) hx hb dX0_mixBeing_160 (by decide) ?_
                  exact ih137 (i137 + 1) wc154 (by omega) (by rw [hewc154, mix_fst]; exact hz137) (hR.trans (congrArg (fun z => x_mixBeing_e137 p1 (itR (x_mixBeing_b137 p1) (i137 + 1) k z)) hB137)) _ _ _ hE (lv_sub hl [1, 2, 0] rfl)
                exact hNc154 (x_mix ((w137.1 15 ((4 * p1) + i137)).toInt64) w137) rfl hB137 _ _ _ hE (lv_sub hl [0, 1, 2] rfl)
            exact hL137 4 0 w135 (by omega) (by exact hz135) hR _ _ _ hE (lv_sub hl [1, 2, 0] rfl)
          refine lv_if_eq (tgt := 135) hx hb dX0_mixBeing_98 (by decide) (fun c98 => ?_) (fun c98 => ?_)
          · have hR : x_mixBeing p1 Z = x_mixBeing_j135 p1 w88 := hR.trans (congrArg (fun z => x_mixBeing_j135 p1 z) (if_pos c98))
            exact hJ135 w88  (by first | exact hz88 | (rw [mix_fst, hewc115, mix_fst]; exact hz88)) hR _ _ _ hE (lv_sub hl [0, 1] rfl)
          · have hR : x_mixBeing p1 Z = x_mixBeing_j135 p1 (x_mixBeing_c115 p1 (x_mix ((w88.1 37 p1).toInt64) w88)) := hR.trans (congrArg (fun z => x_mixBeing_j135 p1 z) (if_neg c98))
            refine lv_aload_n hx hb dX0_mixBeing_101 rfl (lv_at hl 0 rfl) ?_
            refine lv_aload_n hx hb dX0_mixBeing_102 rfl (lv_at hl 0 rfl) ?_
            refine xg_10 hx hb hts hown hK hE dX0_mixBeing_103 ?_
            refine lv_iload_n hx hb dX0_mixBeing_106 rfl (lv_at hl 1 rfl) ?_
            refine xa_10 (n := p1) (by omega) hx hb hK hE dX0_mixBeing_107 ?_
            refine xcast_2 (b := p1) (by omega) (by rw [hz88]; exact c6) (is2_of c98).1 (is2_of c98).2 hx hb hts hown hK hE dX0_mixBeing_108 ?_
            refine xbg_37 (b := p1) (by omega) (by rw [hz88]; exact c6) (is2_of c98).1 (is2_of c98).2 hx hb hts hown hK hE dX0_mixBeing_111 ?_
            refine lv_i2l hx hb dX0_mixBeing_114 rfl ?_
            refine call_x_mix hx hb hml hown hts hK hA hE hl.1 ((w88.1 37 p1).toInt64) (lz (show 1 ≤ 3 by decide) hRf) (lz (show 22 ≤ 68 by decide) hRl) (Nat.le_of_ble_eq_true rfl) dX0_mixBeing_115 ⟨Nat.zero_le _, Nat.zero_le _⟩ (fun H locs hE => ?_)
            have hNc115 : ∀ (wc115 : ZT) (hewc115 : wc115 = x_mix ((w88.1 37 p1).toInt64) w88) (hR : x_mixBeing p1 Z = x_mixBeing_j135 p1 (x_mixBeing_c115 p1 wc115)), ∀ (H : Heap) (locs : List Loc) (ls : Array Slot), EW D A s.heap (WX x ar cs wc115 B Y) H locs → lv_has ls 4 [(0, .ref x), (1, .int (nI p1))] → W p l e R s mid args below meth c H locs 0 0 Q (F0 mid 118 ls []) := by
              intro wc115 hewc115 hR H locs ls hE hl
              have hR : x_mixBeing p1 Z = x_mixBeing_j135 p1 (x_mix ((wc115.1 38 p1).toInt64) wc115) := hR
              refine lv_aload_n hx hb dX0_mixBeing_118 rfl (lv_at hl 0 rfl) ?_
              refine lv_aload_n hx hb dX0_mixBeing_119 rfl (lv_at hl 0 rfl) ?_
              refine xg_10 hx hb hts hown hK hE dX0_mixBeing_120 ?_
              refine lv_iload_n hx hb dX0_mixBeing_123 rfl (lv_at hl 1 rfl) ?_
              refine xa_10 (n := p1) (by omega) hx hb hK hE dX0_mixBeing_124 ?_
              refine xcast_2 (b := p1) (by omega) (by rw [hewc115, mix_fst, hz88]; exact c6) (by rw [hewc115, mix_fst]; exact (is2_of c98).1) (by rw [hewc115, mix_fst]; exact (is2_of c98).2) hx hb hts hown hK hE dX0_mixBeing_125 ?_
              refine xbg_38 (b := p1) (by omega) (by rw [hewc115, mix_fst, hz88]; exact c6) (by rw [hewc115, mix_fst]; exact (is2_of c98).1) (by rw [hewc115, mix_fst]; exact (is2_of c98).2) hx hb hts hown hK hE dX0_mixBeing_128 ?_
              refine lv_i2l hx hb dX0_mixBeing_131 rfl ?_
              refine call_x_mix hx hb hml hown hts hK hA hE hl.1 ((wc115.1 38 p1).toInt64) (lz (show 1 ≤ 3 by decide) hRf) (lz (show 22 ≤ 68 by decide) hRl) (Nat.le_of_ble_eq_true rfl) dX0_mixBeing_132 ⟨Nat.zero_le _, Nat.zero_le _⟩ (fun H locs hE => ?_)
              exact hJ135 (x_mix ((wc115.1 38 p1).toInt64) wc115)  (by first | exact hz88 | (rw [mix_fst, hewc115, mix_fst]; exact hz88)) hR _ _ _ hE (lv_sub hl [0, 1] rfl)
            exact hNc115 (x_mix ((w88.1 37 p1).toInt64) w88) rfl hR _ _ _ hE (lv_sub hl [0, 1] rfl)
        refine lv_if_eq (tgt := 88) hx hb dX0_mixBeing_51 (by decide) (fun c51 => ?_) (fun c51 => ?_)
        · have hR : x_mixBeing p1 Z = x_mixBeing_j88 p1 w19 := hR.trans (congrArg (fun z => x_mixBeing_j88 p1 z) (if_pos c51))
          exact hJ88 w19  (by first | exact hz19 | (rw [mix_fst, hewc68, mix_fst]; exact hz19)) hR _ _ _ hE (lv_sub hl [0, 1] rfl)
        · have hR : x_mixBeing p1 Z = x_mixBeing_j88 p1 (x_mixBeing_c68 p1 (x_mix ((w19.1 35 p1).toInt64) w19)) := hR.trans (congrArg (fun z => x_mixBeing_j88 p1 z) (if_neg c51))
          refine lv_aload_n hx hb dX0_mixBeing_54 rfl (lv_at hl 0 rfl) ?_
          refine lv_aload_n hx hb dX0_mixBeing_55 rfl (lv_at hl 0 rfl) ?_
          refine xg_10 hx hb hts hown hK hE dX0_mixBeing_56 ?_
          refine lv_iload_n hx hb dX0_mixBeing_59 rfl (lv_at hl 1 rfl) ?_
          refine xa_10 (n := p1) (by omega) hx hb hK hE dX0_mixBeing_60 ?_
          refine xcast_1 (b := p1) (by omega) (by rw [hz19]; exact c6) (is1_of c51) hx hb hts hown hK hE dX0_mixBeing_61 ?_
          refine xbg_35 (b := p1) (by omega) (by rw [hz19]; exact c6) (is1_of c51) hx hb hts hown hK hE dX0_mixBeing_64 ?_
          refine lv_i2l hx hb dX0_mixBeing_67 rfl ?_
          refine call_x_mix hx hb hml hown hts hK hA hE hl.1 ((w19.1 35 p1).toInt64) (lz (show 1 ≤ 3 by decide) hRf) (lz (show 22 ≤ 68 by decide) hRl) (Nat.le_of_ble_eq_true rfl) dX0_mixBeing_68 ⟨Nat.zero_le _, Nat.zero_le _⟩ (fun H locs hE => ?_)
          have hNc68 : ∀ (wc68 : ZT) (hewc68 : wc68 = x_mix ((w19.1 35 p1).toInt64) w19) (hR : x_mixBeing p1 Z = x_mixBeing_j88 p1 (x_mixBeing_c68 p1 wc68)), ∀ (H : Heap) (locs : List Loc) (ls : Array Slot), EW D A s.heap (WX x ar cs wc68 B Y) H locs → lv_has ls 4 [(0, .ref x), (1, .int (nI p1))] → W p l e R s mid args below meth c H locs 0 0 Q (F0 mid 71 ls []) := by
            intro wc68 hewc68 hR H locs ls hE hl
            have hR : x_mixBeing p1 Z = x_mixBeing_j88 p1 (x_mix ((wc68.1 36 p1).toInt64) wc68) := hR
            refine lv_aload_n hx hb dX0_mixBeing_71 rfl (lv_at hl 0 rfl) ?_
            refine lv_aload_n hx hb dX0_mixBeing_72 rfl (lv_at hl 0 rfl) ?_
            refine xg_10 hx hb hts hown hK hE dX0_mixBeing_73 ?_
            refine lv_iload_n hx hb dX0_mixBeing_76 rfl (lv_at hl 1 rfl) ?_
            refine xa_10 (n := p1) (by omega) hx hb hK hE dX0_mixBeing_77 ?_
            refine xcast_1 (b := p1) (by omega) (by rw [hewc68, mix_fst, hz19]; exact c6) (by rw [hewc68, mix_fst]; exact is1_of c51) hx hb hts hown hK hE dX0_mixBeing_78 ?_
            refine xbg_36 (b := p1) (by omega) (by rw [hewc68, mix_fst, hz19]; exact c6) (by rw [hewc68, mix_fst]; exact is1_of c51) hx hb hts hown hK hE dX0_mixBeing_81 ?_
            refine lv_i2l hx hb dX0_mixBeing_84 rfl ?_
            refine call_x_mix hx hb hml hown hts hK hA hE hl.1 ((wc68.1 36 p1).toInt64) (lz (show 1 ≤ 3 by decide) hRf) (lz (show 22 ≤ 68 by decide) hRl) (Nat.le_of_ble_eq_true rfl) dX0_mixBeing_85 ⟨Nat.zero_le _, Nat.zero_le _⟩ (fun H locs hE => ?_)
            exact hJ88 (x_mix ((wc68.1 36 p1).toInt64) wc68)  (by first | exact hz19 | (rw [mix_fst, hewc68, mix_fst]; exact hz19)) hR _ _ _ hE (lv_sub hl [0, 1] rfl)
          exact hNc68 (x_mix ((w19.1 35 p1).toInt64) w19) rfl hR _ _ _ hE (lv_sub hl [0, 1] rfl)
      | succ k ih19 =>
        intro i19 w19 hi19 hz19 hR H locs ls hE hl
        have hlt19 : i19 < (5 + 1) := by omega
        have hB19 : x_mixBeing_b19 p1 i19 w19 = x_mixBeing_c32 (x_mix ((x_tells p1 (nI i19) w19).toInt64) w19) := rfl
        refine lv_iload_n hx hb dX0_mixBeing_19 rfl (lv_at hl 2 rfl) ?_
        refine lv_iconst (v := 5) hx hb dX0_mixBeing_20 rfl ?_
        refine n_gtF (a := i19) (b := 5) (by omega) (by omega) hx hb dX0_mixBeing_21 (tgt := 41) (by decide) ?_
        refine lv_aload_n hx hb dX0_mixBeing_24 rfl (lv_at hl 0 rfl) ?_
        refine lv_aload_n hx hb dX0_mixBeing_25 rfl (lv_at hl 0 rfl) ?_
        refine lv_iload_n hx hb dX0_mixBeing_26 rfl (lv_at hl 1 rfl) ?_
        refine lv_iload_n hx hb dX0_mixBeing_27 rfl (lv_at hl 2 rfl) ?_
        refine call_x_tells hx hb hml hown hts hK hA hE hl.1 p1 (nI i19) (by omega) (by rw [hz19]; exact c6) (lz (show 3 ≤ 3 by decide) hRf) (lz (show 68 ≤ 68 by decide) hRl) (Nat.le_of_ble_eq_true rfl) dX0_mixBeing_28 ⟨Nat.zero_le _, Nat.zero_le _⟩ (fun H locs hE => ?_)
        refine lv_i2l hx hb dX0_mixBeing_31 rfl ?_
        refine call_x_mix hx hb hml hown hts hK hA hE hl.1 ((x_tells p1 (nI i19) w19).toInt64) (lz (show 1 ≤ 3 by decide) hRf) (lz (show 22 ≤ 68 by decide) hRl) (Nat.le_of_ble_eq_true rfl) dX0_mixBeing_32 ⟨Nat.zero_le _, Nat.zero_le _⟩ (fun H locs hE => ?_)
        have hNc32 : ∀ (wc32 : ZT) (hewc32 : wc32 = x_mix ((x_tells p1 (nI i19) w19).toInt64) w19) (hB19 : x_mixBeing_b19 p1 i19 w19 = x_mixBeing_c32 wc32), ∀ (H : Heap) (locs : List Loc) (ls : Array Slot), EW D A s.heap (WX x ar cs wc32 B Y) H locs → lv_has ls 4 [(0, .ref x), (1, .int (nI p1)), (2, .int (nI i19))] → W p l e R s mid args below meth c H locs 0 0 Q (F0 mid 35 ls []) := by
          intro wc32 hewc32 hB19 H locs ls hE hl
          have hB19 : x_mixBeing_b19 p1 i19 w19 = wc32 := hB19
          refine n_inc (lv' := [(2, .int (nI (i19 + 1))), (0, .ref x), (1, .int (nI p1))]) hx hb dX0_mixBeing_35 hl (k := 2) rfl (by decide) rfl (fun ls hl => ?_)
          refine lv_goto (tgt := 19) hx hb dX0_mixBeing_38 (by decide) ?_
          exact ih19 (i19 + 1) wc32 (by omega) (by rw [hewc32, mix_fst]; exact hz19) (hR.trans (congrArg (fun z => x_mixBeing_e19 p1 (itR (x_mixBeing_b19 p1) (i19 + 1) k z)) hB19)) _ _ _ hE (lv_sub hl [1, 2, 0] rfl)
        exact hNc32 (x_mix ((x_tells p1 (nI i19) w19).toInt64) w19) rfl hB19 _ _ _ hE (lv_sub hl [0, 1, 2] rfl)
    exact hL19 (5 + 1) 0 Z (by omega) (by exact rfl) hR _ _ _ hE (lv_sub hl [1, 2, 0] rfl)
  · have hR : x_mixBeing p1 Z = (x_mix (-1 : Int64) Z) := hR.trans (congrArg (fun z => z) (if_pos c6))
    refine lv_aload_n hx hb dX0_mixBeing_9 rfl (lv_at hl 0 rfl) ?_
    refine lv_ldc2 (v := -1) hx hb hown (hts _ q843) dX0_mixBeing_10 ?_
    refine call_x_mix hx hb hml hown hts hK hA hE hl.1 (-1 : Int64) (lz (show 1 ≤ 3 by decide) hRf) (lz (show 22 ≤ 68 by decide) hRl) (Nat.le_of_ble_eq_true rfl) dX0_mixBeing_13 ⟨Nat.zero_le _, Nat.zero_le _⟩ (fun H locs hE => ?_)
    exact hret (x_mix (-1 : Int64) Z) hR hE (Nat.le_refl 0) (Nat.le_refl 0) dX0_mixBeing_16
section C_x_mixBeing
variable {p : Program} {l : Launch} {e : Env} {R : Room} {s : State} {mid : MethodId} {args : Array Value} {below : List Frame} {meth : Method} {c : Code} {H : Heap} {locs : List Loc} {cells slots : Nat} {Q : State → Prop} {cc : ByteArray} {pc : Nat} {ls : Array Slot} {rest : List Value} {D : va_G} {A : Nat → Prop} {x : Nat} {ar : Nat → Nat} {cs : Nat → ClassId} {B : BT} {Y : va_W} {Z : ZT} {nL r : Nat}
theorem call_x_mixBeing (hx : p.tables.exec = Jvm.exec) (hb : c.code = cc) (hml : c.maxLocals = nL) (hown : s.vm.findClass RX0 = some mid.cls) (hts : ∀ w ∈ lw_all, w.before args s = true) (hK : KK D cs s) (hA : ∀ q : Nat, s.heap.size ≤ q → A q) (hE : EW D A s.heap (WX x ar cs Z B Y) H locs) (hls : ls.size = nL) (p1 : Nat) (hn1 : p1 < 8) (h1 : 4 ≤ R.frames) (h2 : 91 ≤ R.locals) (h3 : (rest.map fun v => v.category).sum ≤ 8) (hd : decode cc pc = .ok (.invokevirtual 373, 3)) (hf : cells ≤ R.cells ∧ slots ≤ R.slots) (kk : ∀ (H1 : Heap) (locs1 : List Loc), EW D A s.heap (WX x ar cs (x_mixBeing p1 Z) B Y) H1 locs1 → W p l e R s mid args below meth c H1 locs1 cells slots Q (F0 mid (pc + 3) ls (rest))) : W p l e R s mid args below meth c H locs cells slots Q (F0 mid pc ls (.int (nI p1) :: .ref x :: rest)) := 
  gCall_v (As := [.int (nI p1)]) (rest := rest) (q0 := 0) (ci := 0) (fs := XF ar Z) (T' := TX0) (N' := 29) hx hb hml hown hts hK hA hE hls (met_x_mixBeing l D cs x ar B Y Z H.size p1 hn1) (cwV 1 hts (lw_V q909 q911 qs39 q84 q912) rfl rfl rfl (by decide +kernel) ⟨h1, h2⟩) rfl rfl rfl rfl h3 hd hf (fun u H1 locs1 hp _ hE => by subst hp; exact kk H1 locs1 hE)
end C_x_mixBeing
def x_digest_c21 (wc21 : ZT) : ZT := wc21
def x_digest_b9 (i9 : Nat) (w9 : ZT) : ZT := x_digest_c21 (x_mix ((x_counts (nI i9) w9).toInt64) w9)
def x_digest_c48 (wc48 : ZT) : ZT := wc48
def x_digest_b40 (i40 : Nat) (w40 : ZT) : ZT := x_digest_c48 (x_mixBeing i40 w40)
def x_digest_c115 (w101 : Nat × ZT) (wc115 : ZT) : Bool × (Nat × ZT) := (true, ((w101.1 + 1), wc115))
def x_digest_b101 (i67 : Nat) (w89 : Int32) (w101 : Nat × ZT) : Bool × (Nat × ZT) := (if w89 ≤ nI w101.1 then (false, (w101.1, w101.2)) else x_digest_c115 w101 (x_mix ((w101.2.1 41 (60 * i67 + ix (nI w101.1))).toInt64) w101.2))
def x_digest_e101 (w101 : Nat × ZT) : ZT := w101.2
def x_digest_c95 (i67 : Nat) (w89 : Int32) (wc95 : ZT) : ZT := x_digest_e101 (wlR (x_digest_b101 i67 w89) 61 (0, wc95))
def x_digest_j89 (i67 : Nat) (w67 : ZT) (w89 : Int32) : ZT := x_digest_c95 i67 w89 (x_mix w89.toInt64 w67)
def x_digest_b67 (i67 : Nat) (w67 : ZT) : ZT := x_digest_j89 i67 w67 (if w67.1 40 i67 = -1 then (-1 : Int32) else w67.1 40 i67)
def x_digest_e67 (w67 : ZT) : Int64 × ZT := (w67.2 28 0, w67)
def x_digest_e40 (w40 : ZT) : Int64 × ZT := x_digest_e67 (itR x_digest_b67 0 4 w40)
def x_digest_c35 (wc35 : ZT) : Int64 × ZT := x_digest_e40 (itR x_digest_b40 0 8 wc35)
def x_digest_e9 (w9 : ZT) : Int64 × ZT := x_digest_c35 (x_mix (w9.2 16 0) w9)
def x_digest (Z : ZT) : Int64 × ZT := x_digest_e9 (itR x_digest_b9 0 (4 + 1) (sL Z 28 0 (17 : Int64)))
set_option maxHeartbeats 4000000 in
set_option maxRecDepth 100000 in
theorem met_x_digest (l : Launch) (D : va_G) (cs : Nat → ClassId) (x : Nat) (ar : Nat → Nat) (B : BT) (Y : va_W) (Z : ZT) (sz : Nat) (hT : TI Z) : Met l yX0_digest (ws_ yX0_digest cX0_digest 7 (some .long)) ({ frames := 4, cells := 0, slots := 0, locals := 91 }) (va_Pc [.ref x] (wSt D cs (WX x ar cs Z B Y) sz)) (cQl (fun (v : Int64) (u : ZT) => x_digest Z = (v, u)) D (fun u => (WX x ar cs u B Y)) (WX x ar cs Z B Y) sz) 0 0 (va_A (WX x ar cs Z B Y) sz) := by
  refine gStart_l (C := RX0) rfl rfl (Nat.le_of_ble_eq_true rfl) ?_
  intro p e s mid args below meth c R Q A hx hb hml hown hts hK hA hRf hRl hRc hRs hret hE ls hl
  have hRf : 4 ≤ R.frames := hRf
  have hRl : 91 ≤ R.locals := hRl
  have hl : lv_has ls 7 [(0, .ref x)] := hl
  have hR : x_digest Z = (x_digest_e9 (itR x_digest_b9 0 (4 + 1) (sL Z 28 0 (17 : Int64)))) := rfl
  refine lv_aload_n hx hb dX0_digest_0 rfl (lv_at hl 0 rfl) ?_
  refine lv_ldc2 (v := 17) hx hb hown (hts _ q903) dX0_digest_1 ?_
  refine xp_28 hx hb hts hown hK hE dX0_digest_4 (fun H locs hE => ?_)
  refine lv_iconst (v := 0) hx hb dX0_digest_7 rfl ?_
  refine lv_istore_n (lv' := [(1, .int (0 : Int32)), (0, .ref x)]) hx hb dX0_digest_8 rfl hl (by decide) rfl (fun ls hl => ?_)
  have hL9 : ∀ (k i9 : Nat) (w9 : ZT) (hi9 : i9 + k = (4 + 1)) (hz9 : w9.1 = Z.1) (hR : x_digest Z = x_digest_e9 (itR x_digest_b9 i9 k w9)), ∀ (H : Heap) (locs : List Loc) (ls : Array Slot), EW D A s.heap (WX x ar cs w9 B Y) H locs → lv_has ls 7 [(0, .ref x), (1, .int (nI i9))] → W p l e R s mid args below meth c H locs 0 0 Q (F0 mid 9 ls []) := by
    intro k
    induction k with
    | zero =>
      intro i9 w9 hi9 hz9 hR H locs ls hE hl
      have hie9 : i9 = (4 + 1) := by omega
      have hR : x_digest Z = (x_digest_c35 (x_mix (w9.2 16 0) w9)) := hR
      refine lv_iload_n hx hb dX0_digest_9 rfl (lv_at hl 1 rfl) ?_
      refine lv_iconst (v := 4) hx hb dX0_digest_10 rfl ?_
      refine n_gtT (a := i9) (b := 4) (by omega) (by omega) hx hb dX0_digest_11 (tgt := 30) (by decide) ?_
      have hl := lv_sub (l' := [(0, .ref x)]) hl [0] rfl
      refine lv_aload_n hx hb dX0_digest_30 rfl (lv_at hl 0 rfl) ?_
      refine lv_aload_n hx hb dX0_digest_31 rfl (lv_at hl 0 rfl) ?_
      refine xg_16 hx hb hts hown hK hE dX0_digest_32 ?_
      refine call_x_mix hx hb hml hown hts hK hA hE hl.1 (w9.2 16 0) (lz (show 1 ≤ 4 by decide) hRf) (lz (show 22 ≤ 91 by decide) hRl) (Nat.le_of_ble_eq_true rfl) dX0_digest_35 ⟨Nat.zero_le _, Nat.zero_le _⟩ (fun H locs hE => ?_)
      have hNc35 : ∀ (wc35 : ZT) (hewc35 : wc35 = x_mix (w9.2 16 0) w9) (hR : x_digest Z = x_digest_c35 wc35), ∀ (H : Heap) (locs : List Loc) (ls : Array Slot), EW D A s.heap (WX x ar cs wc35 B Y) H locs → lv_has ls 7 [(0, .ref x)] → W p l e R s mid args below meth c H locs 0 0 Q (F0 mid 38 ls []) := by
        intro wc35 hewc35 hR H locs ls hE hl
        have hR : x_digest Z = (x_digest_e40 (itR x_digest_b40 0 8 wc35)) := hR
        refine lv_iconst (v := 0) hx hb dX0_digest_38 rfl ?_
        refine lv_istore_n (lv' := [(1, .int (0 : Int32)), (0, .ref x)]) hx hb dX0_digest_39 rfl hl (by decide) rfl (fun ls hl => ?_)
        have hL40 : ∀ (k i40 : Nat) (w40 : ZT) (hi40 : i40 + k = 8) (hz40 : w40.1 = Z.1) (hR : x_digest Z = x_digest_e40 (itR x_digest_b40 i40 k w40)), ∀ (H : Heap) (locs : List Loc) (ls : Array Slot), EW D A s.heap (WX x ar cs w40 B Y) H locs → lv_has ls 7 [(0, .ref x), (1, .int (nI i40))] → W p l e R s mid args below meth c H locs 0 0 Q (F0 mid 40 ls []) := by
          intro k
          induction k with
          | zero =>
            intro i40 w40 hi40 hz40 hR H locs ls hE hl
            have hie40 : i40 = 8 := by omega
            have hR : x_digest Z = (x_digest_e67 (itR x_digest_b67 0 4 w40)) := hR
            refine lv_iload_n hx hb dX0_digest_40 rfl (lv_at hl 1 rfl) ?_
            refine lv_bipush (v := 8) hx hb dX0_digest_41 rfl ?_
            refine n_geT (a := i40) (b := 8) (by omega) (by omega) hx hb dX0_digest_43 (tgt := 57) (by decide) ?_
            have hl := lv_sub (l' := [(0, .ref x)]) hl [0] rfl
            refine lv_aload_n hx hb dX0_digest_57 rfl (lv_at hl 0 rfl) ?_
            refine xg_6 hx hb hts hown hK hE dX0_digest_58 ?_
            refine lv_astore_n (lv' := [(1, .ref (ar 6)), (0, .ref x)]) hx hb dX0_digest_61 rfl hl (by decide) rfl (fun ls hl => ?_)
            refine lv_aload_n hx hb dX0_digest_62 rfl (lv_at hl 0 rfl) ?_
            refine xn_6 hx hb hK hE dX0_digest_63 ?_
            refine lv_istore_n (lv' := [(2, .int (4 : Int32)), (1, .ref (ar 6)), (0, .ref x)]) hx hb dX0_digest_64 rfl hl (by decide) rfl (fun ls hl => ?_)
            refine lv_iconst (v := 0) hx hb dX0_digest_65 rfl ?_
            refine lv_istore_n (lv' := [(3, .int (0 : Int32)), (2, .int (4 : Int32)), (1, .ref (ar 6)), (0, .ref x)]) hx hb dX0_digest_66 rfl hl (by decide) rfl (fun ls hl => ?_)
            have hL67 : ∀ (k i67 : Nat) (w67 : ZT) (hi67 : i67 + k = 4) (hz67 : w67.1 = Z.1) (hR : x_digest Z = x_digest_e67 (itR x_digest_b67 i67 k w67)), ∀ (H : Heap) (locs : List Loc) (ls : Array Slot), EW D A s.heap (WX x ar cs w67 B Y) H locs → lv_has ls 7 [(0, .ref x), (1, .ref (ar 6)), (2, .int (4 : Int32)), (3, .int (nI i67))] → W p l e R s mid args below meth c H locs 0 0 Q (F0 mid 67 ls []) := by
              intro k
              induction k with
              | zero =>
                intro i67 w67 hi67 hz67 hR H locs ls hE hl
                have hie67 : i67 = 4 := by omega
                have hR : x_digest Z = (w67.2 28 0, w67) := hR
                refine lv_iload_n hx hb dX0_digest_67 rfl (lv_at hl 3 rfl) ?_
                refine lv_iload_n hx hb dX0_digest_68 rfl (lv_at hl 2 rfl) ?_
                refine n_geT (a := i67) (b := 4) (by omega) (by omega) hx hb dX0_digest_69 (tgt := 130) (by decide) ?_
                have hl := lv_sub (l' := [(0, .ref x), (1, .ref (ar 6)), (2, .int (4 : Int32))]) hl [0, 1, 2] rfl
                refine lv_aload_n hx hb dX0_digest_130 rfl (lv_at hl 0 rfl) ?_
                refine xg_28 hx hb hts hown hK hE dX0_digest_131 ?_
                exact hret (w67.2 28 0) w67 hR hE (Nat.le_refl 0) (Nat.le_refl 0) dX0_digest_134
              | succ k ih67 =>
                intro i67 w67 hi67 hz67 hR H locs ls hE hl
                have hlt67 : i67 < 4 := by omega
                have hB67 : x_digest_b67 i67 w67 = x_digest_j89 i67 w67 (if w67.1 40 i67 = -1 then (-1 : Int32) else w67.1 40 i67) := rfl
                refine lv_iload_n hx hb dX0_digest_67 rfl (lv_at hl 3 rfl) ?_
                refine lv_iload_n hx hb dX0_digest_68 rfl (lv_at hl 2 rfl) ?_
                refine n_geF (a := i67) (b := 4) (by omega) (by omega) hx hb dX0_digest_69 (tgt := 130) (by decide) ?_
                refine lv_aload_n hx hb dX0_digest_72 rfl (lv_at hl 1 rfl) ?_
                refine lv_iload_n hx hb dX0_digest_73 rfl (lv_at hl 3 rfl) ?_
                refine xa_6 (n := i67) (by omega) hx hb hK hE dX0_digest_74 ?_
                refine xst (lv' := [(4, va_rf (adt w67 B i67)), (0, .ref x), (1, .ref (ar 6)), (2, .int (4 : Int32)), (3, .int (nI i67))]) hx hb dX0_digest_75 hl (by decide) (by first | rfl | simp [cat_rf]) (fun ls hl => ?_)
                refine xld hx hb dX0_digest_77 (lv_at hl 0 rfl) ?_
                have hJ89 : ∀ (w89 : Int32) (hw89 : w89 = Z.1 40 i67) (hB67 : x_digest_b67 i67 w67 = x_digest_j89 i67 w67 w89), ∀ (H : Heap) (locs : List Loc) (ls : Array Slot), EW D A s.heap (WX x ar cs w67 B Y) H locs → lv_has ls 7 [(0, .ref x), (1, .ref (ar 6)), (2, .int (4 : Int32)), (3, .int (nI i67)), (4, va_rf (adt w67 B i67))] → W p l e R s mid args below meth c H locs 0 0 Q (F0 mid 89 ls [.int w89]) := by
                  intro w89 hw89 hB67 H locs ls hE hl
                  have hB67 : x_digest_b67 i67 w67 = (x_digest_c95 i67 w89 (x_mix w89.toInt64 w67)) := hB67
                  refine lv_istore (lv' := [(5, .int w89), (0, .ref x), (1, .ref (ar 6)), (2, .int (4 : Int32)), (3, .int (nI i67)), (4, va_rf (adt w67 B i67))]) hx hb dX0_digest_89 hl (by decide) (by first | rfl | simp [cat_rf]) (fun ls hl => ?_)
                  refine lv_aload_n hx hb dX0_digest_91 rfl (lv_at hl 1 rfl) ?_
                  refine lv_iload hx hb dX0_digest_92 (lv_at hl 0 rfl) ?_
                  refine lv_i2l hx hb dX0_digest_94 rfl ?_
                  refine call_x_mix hx hb hml hown hts hK hA hE hl.1 w89.toInt64 (lz (show 1 ≤ 4 by decide) hRf) (lz (show 22 ≤ 91 by decide) hRl) (Nat.le_of_ble_eq_true rfl) dX0_digest_95 ⟨Nat.zero_le _, Nat.zero_le _⟩ (fun H locs hE => ?_)
                  have hNc95 : ∀ (wc95 : ZT) (hewc95 : wc95 = x_mix w89.toInt64 w67) (hB67 : x_digest_b67 i67 w67 = x_digest_c95 i67 w89 wc95), ∀ (H : Heap) (locs : List Loc) (ls : Array Slot), EW D A s.heap (WX x ar cs wc95 B Y) H locs → lv_has ls 7 [(0, .ref x), (1, .ref (ar 6)), (2, .int (4 : Int32)), (3, .int (nI i67)), (4, va_rf (adt w67 B i67)), (5, .int w89)] → W p l e R s mid args below meth c H locs 0 0 Q (F0 mid 98 ls []) := by
                    intro wc95 hewc95 hB67 H locs ls hE hl
                    have hB67 : x_digest_b67 i67 w67 = (x_digest_e101 (wlR (x_digest_b101 i67 w89) 61 (0, wc95))) := hB67
                    refine lv_iconst (v := 0) hx hb dX0_digest_98 rfl ?_
                    refine lv_istore (lv' := [(6, .int (0 : Int32)), (0, .ref x), (1, .ref (ar 6)), (2, .int (4 : Int32)), (3, .int (nI i67)), (4, va_rf (adt w67 B i67)), (5, .int w89)]) hx hb dX0_digest_99 hl (by decide) (by first | rfl | simp [cat_rf]) (fun ls hl => ?_)
                    have hX101 : ∀ (w101 : Nat × ZT) (hb101 : w101.1 ≤ 60) (hz101 : w101.2.1 = Z.1) (hB67 : x_digest_b67 i67 w67 = x_digest_e101 w101), ∀ (H : Heap) (locs : List Loc) (ls : Array Slot), EW D A s.heap (WX x ar cs w101.2 B Y) H locs → lv_has ls 7 [(0, .ref x), (1, .ref (ar 6)), (2, .int (4 : Int32)), (3, .int (nI i67))] → W p l e R s mid args below meth c H locs 0 0 Q (F0 mid 124 ls []) := by
                      intro w101 hb101 hz101 hB67 H locs ls hE hl
                      have hB67 : x_digest_b67 i67 w67 = w101.2 := hB67
                      refine n_inc (lv' := [(3, .int (nI (i67 + 1))), (0, .ref x), (1, .ref (ar 6)), (2, .int (4 : Int32))]) hx hb dX0_digest_124 hl (k := 3) rfl (by decide) rfl (fun ls hl => ?_)
                      refine lv_goto (tgt := 67) hx hb dX0_digest_127 (by decide) ?_
                      exact ih67 (i67 + 1) w101.2 (by omega) (by exact hz101) (hR.trans (congrArg (fun z => x_digest_e67 (itR x_digest_b67 (i67 + 1) k z)) hB67)) _ _ _ hE (lv_sub hl [1, 2, 3, 0] rfl)
                    have hL101 : ∀ (n : Nat) (w101 : Nat × ZT) (hm101 : 60 - w101.1 < n) (hb101 : w101.1 ≤ 60) (hz101 : w101.2.1 = Z.1) (hB67 : x_digest_b67 i67 w67 = x_digest_e101 (wlR (x_digest_b101 i67 w89) n w101)), ∀ (H : Heap) (locs : List Loc) (ls : Array Slot), EW D A s.heap (WX x ar cs w101.2 B Y) H locs → lv_has ls 7 [(0, .ref x), (1, .ref (ar 6)), (2, .int (4 : Int32)), (3, .int (nI i67)), (4, va_rf (adt w67 B i67)), (5, .int w89), (6, .int (nI w101.1))] → W p l e R s mid args below meth c H locs 0 0 Q (F0 mid 101 ls []) := by
                      intro n
                      induction n with
                      | zero =>
                        intro w101 hm101
                        exact absurd hm101 (Nat.not_lt_zero _)
                      | succ n ih101 =>
                        intro w101 hm101 hb101 hz101 hB67 H locs ls hE hl
                        have hB101 : x_digest_b101 i67 w89 w101 = (if w89 ≤ nI w101.1 then (false, (w101.1, w101.2)) else x_digest_c115 w101 (x_mix ((w101.2.1 41 (60 * i67 + ix (nI w101.1))).toInt64) w101.2)) := rfl
                        refine lv_iload hx hb dX0_digest_101 (lv_at hl 6 rfl) ?_
                        refine lv_iload hx hb dX0_digest_103 (lv_at hl 5 rfl) ?_
                        refine lv_icmp_ge (tgt := 124) hx hb dX0_digest_105 (by decide) (fun c105 => ?_) (fun c105 => ?_)
                        · have hB101 : x_digest_b101 i67 w89 w101 = (false, (w101.1, w101.2)) := hB101.trans (congrArg (fun z => z) (if_pos c105))
                          exact hX101 (w101.1, w101.2) (by exact hb101) (by exact hz101) (hB67.trans (congrArg (fun z => x_digest_e101 z) (wl_f hB101))) _ _ _ hE (lv_sub hl [0, 1, 2, 3] rfl)
                        · have hB101 : x_digest_b101 i67 w89 w101 = (x_digest_c115 w101 (x_mix ((w101.2.1 41 (60 * i67 + ix (nI w101.1))).toInt64) w101.2)) := hB101.trans (congrArg (fun z => z) (if_neg c105))
                          refine lv_aload_n hx hb dX0_digest_108 rfl (lv_at hl 0 rfl) ?_
                          refine xld hx hb dX0_digest_109 (lv_at hl 4 rfl) ?_
                          rw [show adt w67 B i67 = adt w101.2 B i67 from adt_eq (by rw [hz67, hz101])]
                          refine lv_iload hx hb dX0_digest_111 (lv_at hl 6 rfl) ?_
                          refine xta (t := i67) (i := nI w101.1) (by omega) (by rw [hz101]; exact dg_nn hw89 c105 hb101) (by rw [hz101]; exact dg_vp hT hlt67 hw89 c105 hb101) (by rw [ix_nI (by omega)]; exact dg_lt hT hlt67 hw89 c105 hb101) hx hb hK hE dX0_digest_113 ?_
                          refine lv_i2l hx hb dX0_digest_114 rfl ?_
                          refine call_x_mix hx hb hml hown hts hK hA hE hl.1 ((w101.2.1 41 (60 * i67 + ix (nI w101.1))).toInt64) (lz (show 1 ≤ 4 by decide) hRf) (lz (show 22 ≤ 91 by decide) hRl) (Nat.le_of_ble_eq_true rfl) dX0_digest_115 ⟨Nat.zero_le _, Nat.zero_le _⟩ (fun H locs hE => ?_)
                          have hNc115 : ∀ (wc115 : ZT) (hewc115 : wc115 = x_mix ((w101.2.1 41 (60 * i67 + ix (nI w101.1))).toInt64) w101.2) (hB101 : x_digest_b101 i67 w89 w101 = x_digest_c115 w101 wc115), ∀ (H : Heap) (locs : List Loc) (ls : Array Slot), EW D A s.heap (WX x ar cs wc115 B Y) H locs → lv_has ls 7 [(0, .ref x), (1, .ref (ar 6)), (2, .int (4 : Int32)), (3, .int (nI i67)), (4, va_rf (adt w67 B i67)), (5, .int w89), (6, .int (nI w101.1))] → W p l e R s mid args below meth c H locs 0 0 Q (F0 mid 118 ls []) := by
                            intro wc115 hewc115 hB101 H locs ls hE hl
                            have hB101 : x_digest_b101 i67 w89 w101 = (true, ((w101.1 + 1), wc115)) := hB101
                            refine n_inc (lv' := [(6, .int (nI (w101.1 + 1))), (0, .ref x), (1, .ref (ar 6)), (2, .int (4 : Int32)), (3, .int (nI i67)), (4, va_rf (adt w67 B i67)), (5, .int w89)]) hx hb dX0_digest_118 hl (k := 6) rfl (by decide) rfl (fun ls hl => ?_)
                            refine lv_goto (tgt := 101) hx hb dX0_digest_121 (by decide) ?_
                            exact ih101 ((w101.1 + 1), wc115) (by show 60 - (w101.1 + 1) < n; have := dg_lt hT hlt67 hw89 c105 hb101; omega) (by show w101.1 + 1 ≤ 60; have := dg_lt hT hlt67 hw89 c105 hb101; omega) (by show wc115.1 = _; rw [hewc115, mix_fst]; exact hz101) (hB67.trans (congrArg (fun z => x_digest_e101 z) (wl_t hB101))) _ _ _ hE (lv_sub hl [1, 2, 3, 4, 5, 6, 0] rfl)
                          exact hNc115 (x_mix ((w101.2.1 41 (60 * i67 + ix (nI w101.1))).toInt64) w101.2) rfl hB101 _ _ _ hE (lv_sub hl [0, 1, 2, 3, 4, 5, 6] rfl)
                    exact hL101 61 (0, wc95) (by show 60 - 0 < 61; decide) (by exact Nat.zero_le _) (by show wc95.1 = _; rw [hewc95, mix_fst]; exact hz67) hB67 _ _ _ hE (lv_sub hl [1, 2, 3, 4, 5, 6, 0] rfl)
                  exact hNc95 (x_mix w89.toInt64 w67) rfl hB67 _ _ _ hE (lv_sub hl [1, 2, 3, 4, 5, 0] rfl)
                refine xnw_tx (t := i67) (tgt := 86) hx hb dX0_digest_79 (by decide) (fun c79 => ?_) (fun c79 => ?_)
                · have hB67 : x_digest_b67 i67 w67 = x_digest_j89 i67 w67 (w67.1 40 i67) := hB67.trans (congrArg (fun z => x_digest_j89 i67 w67 z) (if_neg c79))
                  refine xld hx hb dX0_digest_86 (lv_at hl 0 rfl) ?_
                  refine xtl (t := i67) (by omega) (c79) (by rw [hz67]; exact ((hT _ hlt67).resolve_left (by rw [← hz67]; exact c79)).1) hx hb hK hE dX0_digest_88 ?_
                  exact hJ89 (w67.1 40 i67)  (by first | (rw [← hz67]; exact c79.symm) | (rw [hz67])) hB67 _ _ _ hE (lv_sub hl [1, 2, 3, 4, 0] rfl)
                · have hB67 : x_digest_b67 i67 w67 = x_digest_j89 i67 w67 (-1 : Int32) := hB67.trans (congrArg (fun z => x_digest_j89 i67 w67 z) (if_pos c79))
                  refine lv_iconst (v := -1) hx hb dX0_digest_82 rfl ?_
                  refine lv_goto (tgt := 89) hx hb dX0_digest_83 (by decide) ?_
                  exact hJ89 (-1 : Int32)  (by first | (rw [← hz67]; exact c79.symm) | (rw [hz67])) hB67 _ _ _ hE (lv_sub hl [1, 2, 3, 4, 0] rfl)
            exact hL67 4 0 w40 (by omega) (by exact hz40) hR _ _ _ hE (lv_sub hl [3, 2, 1, 0] rfl)
          | succ k ih40 =>
            intro i40 w40 hi40 hz40 hR H locs ls hE hl
            have hlt40 : i40 < 8 := by omega
            have hB40 : x_digest_b40 i40 w40 = x_digest_c48 (x_mixBeing i40 w40) := rfl
            refine lv_iload_n hx hb dX0_digest_40 rfl (lv_at hl 1 rfl) ?_
            refine lv_bipush (v := 8) hx hb dX0_digest_41 rfl ?_
            refine n_geF (a := i40) (b := 8) (by omega) (by omega) hx hb dX0_digest_43 (tgt := 57) (by decide) ?_
            refine lv_aload_n hx hb dX0_digest_46 rfl (lv_at hl 0 rfl) ?_
            refine lv_iload_n hx hb dX0_digest_47 rfl (lv_at hl 1 rfl) ?_
            refine call_x_mixBeing hx hb hml hown hts hK hA hE hl.1 i40 (by omega) (lz (show 4 ≤ 4 by decide) hRf) (lz (show 91 ≤ 91 by decide) hRl) (Nat.le_of_ble_eq_true rfl) dX0_digest_48 ⟨Nat.zero_le _, Nat.zero_le _⟩ (fun H locs hE => ?_)
            have hNc48 : ∀ (wc48 : ZT) (hewc48 : wc48 = x_mixBeing i40 w40) (hB40 : x_digest_b40 i40 w40 = x_digest_c48 wc48), ∀ (H : Heap) (locs : List Loc) (ls : Array Slot), EW D A s.heap (WX x ar cs wc48 B Y) H locs → lv_has ls 7 [(0, .ref x), (1, .int (nI i40))] → W p l e R s mid args below meth c H locs 0 0 Q (F0 mid 51 ls []) := by
              intro wc48 hewc48 hB40 H locs ls hE hl
              have hB40 : x_digest_b40 i40 w40 = wc48 := hB40
              refine n_inc (lv' := [(1, .int (nI (i40 + 1))), (0, .ref x)]) hx hb dX0_digest_51 hl (k := 1) rfl (by decide) rfl (fun ls hl => ?_)
              refine lv_goto (tgt := 40) hx hb dX0_digest_54 (by decide) ?_
              exact ih40 (i40 + 1) wc48 (by omega) (by rw [hewc48, mixBeing_fst]; exact hz40) (hR.trans (congrArg (fun z => x_digest_e40 (itR x_digest_b40 (i40 + 1) k z)) hB40)) _ _ _ hE (lv_sub hl [1, 0] rfl)
            exact hNc48 (x_mixBeing i40 w40) rfl hB40 _ _ _ hE (lv_sub hl [0, 1] rfl)
        exact hL40 8 0 wc35 (by omega) (by rw [hewc35, mix_fst]; exact hz9) hR _ _ _ hE (lv_sub hl [1, 0] rfl)
      exact hNc35 (x_mix (w9.2 16 0) w9) rfl hR _ _ _ hE (lv_sub hl [0] rfl)
    | succ k ih9 =>
      intro i9 w9 hi9 hz9 hR H locs ls hE hl
      have hlt9 : i9 < (4 + 1) := by omega
      have hB9 : x_digest_b9 i9 w9 = x_digest_c21 (x_mix ((x_counts (nI i9) w9).toInt64) w9) := rfl
      refine lv_iload_n hx hb dX0_digest_9 rfl (lv_at hl 1 rfl) ?_
      refine lv_iconst (v := 4) hx hb dX0_digest_10 rfl ?_
      refine n_gtF (a := i9) (b := 4) (by omega) (by omega) hx hb dX0_digest_11 (tgt := 30) (by decide) ?_
      refine lv_aload_n hx hb dX0_digest_14 rfl (lv_at hl 0 rfl) ?_
      refine lv_aload_n hx hb dX0_digest_15 rfl (lv_at hl 0 rfl) ?_
      refine lv_iload_n hx hb dX0_digest_16 rfl (lv_at hl 1 rfl) ?_
      refine call_x_counts hx hb hml hown hts hK hA hE hl.1 (nI i9) (lz (show 2 ≤ 4 by decide) hRf) (lz (show 46 ≤ 91 by decide) hRl) (Nat.le_of_ble_eq_true rfl) dX0_digest_17 ⟨Nat.zero_le _, Nat.zero_le _⟩ (fun H locs hE => ?_)
      refine lv_i2l hx hb dX0_digest_20 rfl ?_
      refine call_x_mix hx hb hml hown hts hK hA hE hl.1 ((x_counts (nI i9) w9).toInt64) (lz (show 1 ≤ 4 by decide) hRf) (lz (show 22 ≤ 91 by decide) hRl) (Nat.le_of_ble_eq_true rfl) dX0_digest_21 ⟨Nat.zero_le _, Nat.zero_le _⟩ (fun H locs hE => ?_)
      have hNc21 : ∀ (wc21 : ZT) (hewc21 : wc21 = x_mix ((x_counts (nI i9) w9).toInt64) w9) (hB9 : x_digest_b9 i9 w9 = x_digest_c21 wc21), ∀ (H : Heap) (locs : List Loc) (ls : Array Slot), EW D A s.heap (WX x ar cs wc21 B Y) H locs → lv_has ls 7 [(0, .ref x), (1, .int (nI i9))] → W p l e R s mid args below meth c H locs 0 0 Q (F0 mid 24 ls []) := by
        intro wc21 hewc21 hB9 H locs ls hE hl
        have hB9 : x_digest_b9 i9 w9 = wc21 := hB9
        refine n_inc (lv' := [(1, .int (nI (i9 + 1))), (0, .ref x)]) hx hb dX0_digest_24 hl (k := 1) rfl (by decide) rfl (fun ls hl => ?_)
        refine lv_goto (tgt := 9) hx hb dX0_digest_27 (by decide) ?_
        exact ih9 (i9 + 1) wc21 (by omega) (by rw [hewc21, mix_fst]; exact hz9) (hR.trans (congrArg (fun z => x_digest_e9 (itR x_digest_b9 (i9 + 1) k z)) hB9)) _ _ _ hE (lv_sub hl [1, 0] rfl)
      exact hNc21 (x_mix ((x_counts (nI i9) w9).toInt64) w9) rfl hB9 _ _ _ hE (lv_sub hl [0, 1] rfl)
  exact hL9 (4 + 1) 0 (sL Z 28 0 (17 : Int64)) (by omega) (by exact rfl) hR _ _ _ hE (lv_sub hl [1, 0] rfl)
