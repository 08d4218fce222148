/-! the twin: weeks over rows -/
set_option maxRecDepth 100000
theorem itR_ind {σ : Type} {f : Nat → σ → σ} {P : σ → Prop} (h : ∀ i s, P s → P (f i s)) : ∀ (k i : Nat) (s : σ), P s → P (itR f i k s) := by
  intro k
  induction k with
  | zero => intro i s hp; exact hp
  | succ k ih => intro i s hp; exact ih (i + 1) (f i s) (h i s hp)
theorem itR_inv {σ : Type} {f : Nat → σ → σ} {n : Nat} {P : Nat → σ → Prop} (h : ∀ i s, i < n → P i s → P (i + 1) (f i s)) : ∀ (k i : Nat) (s : σ), i + k = n → P i s → P n (itR f i k s) := by
  intro k
  induction k with
  | zero =>
    intro i s hi hp
    have e : i = n := by omega
    subst e
    exact hp
  | succ k ih => intro i s hi hp; exact ih (i + 1) (f i s) (by omega) (h i s (by omega) hp)
theorem m_layWants_fst (rk : Nat) (Z : ZT) : (m_layWants rk Z).1 = Z.1 := by
  unfold m_layWants m_layWants_e2
  refine itR_ind (P := fun s : ZT => s.1 = Z.1) (fun i s hs => ?_) 8 0 Z rfl
  unfold m_layWants_b2
  have h1 : ∀ k j (s' : Int64 × ZT), s'.2.1 = Z.1 → (itR (m_layWants_b13 rk i) j k s').2.1 = Z.1 := fun k j s' h => itR_ind (f := m_layWants_b13 rk i) (P := fun s : Int64 × ZT => s.2.1 = Z.1) (fun a b hb => hb) k j s' h
  have h2 : ∀ k j w (s' : ZT), s'.1 = Z.1 → (itR (m_layWants_b73 rk i w) j k s').1 = Z.1 := fun k j w s' h => itR_ind (f := m_layWants_b73 rk i w) (P := fun s : ZT => s.1 = Z.1) (fun a b hb => hb) k j s' h
  generalize hw : itR (m_layWants_b13 rk i) 0 8 (0, s) = w
  have hw2 : w.2.1 = Z.1 := by rw [← hw]; exact h1 8 0 (0, s) hs
  unfold m_layWants_e13 m_layWants_j117 m_layWants_e73
  split
  · exact hw2
  · exact h2 8 0 w w.2 hw2
theorem m_layChanges_fst (rk : Nat) (Z : ZT) : (m_layChanges rk Z).1 = Z.1 := by
  unfold m_layChanges
  have h1 : (itR (m_layChanges_b9 rk) 0 8 (0, -9, Z)).2.2.1 = Z.1 := by
    refine itR_ind (P := fun s : Int64 × Int32 × ZT => s.2.2.1 = Z.1) (fun i s hs => ?_) 8 0 _ rfl
    unfold m_layChanges_b9
    generalize itR (m_layChanges_b25 i s) 0 8 (0, 0) = v
    unfold m_layChanges_e25
    have h156 : ∀ w : ZT, w.1 = Z.1 → (m_layChanges_j156 rk i s v w).2.2.1 = Z.1 := by
      intro w hw
      unfold m_layChanges_j156
      have h242 : ∀ u : Int64 × ZT, u.2.1 = Z.1 → (m_layChanges_j242 i s u).2.2.1 = Z.1 := fun u hu => hu
      apply h242
      split
      · exact hw
      · split
        · exact hw
        · exact hw
    apply h156
    split
    · exact hs
    · split
      · exact hs
      · exact hs
  generalize hw : itR (m_layChanges_b9 rk) 0 8 (0, -9, Z) = w at h1
  unfold m_layChanges_e9
  split
  · exact h1
  · exact h1
def MI (Z : ZT) : Prop := (∀ b : Nat, b < 8 → 0 ≤ (Z.1 15 b).toInt ∧ (Z.1 15 b).toInt ≤ 100000) ∧ (∀ b : Nat, b < 8 → 0 ≤ (Z.1 34 b).toInt ∧ (Z.1 34 b).toInt ≤ 100000) ∧ (∀ b : Nat, b < 8 → 1 ≤ (Z.1 18 b).toInt ∧ (Z.1 18 b).toInt ≤ 100000) ∧ (∀ b : Nat, b < 8 → 0 ≤ (Z.1 16 b).toInt ∧ (Z.1 16 b).toInt ≤ 100000)
theorem MI_row_15 {Z : ZT} (h : MI Z) : ∀ b : Nat, b < 8 → 0 ≤ (Z.1 15 b).toInt := fun b hb => (h.1 b hb).1
theorem MI_row_34 {Z : ZT} (h : MI Z) : ∀ b : Nat, b < 8 → 0 ≤ (Z.1 34 b).toInt := fun b hb => (h.2.1 b hb).1
def m_week_j181 (w181 : ZT) : ZT := w181
def m_week_j177 (wm152 : ZT) (w177 : Int32) : ZT := sI wm152 33 0 ((wm152.1 33 0) ||| w177)
def m_week_m152 (rk : Nat) (i18 : Nat) (w18 : ZT) (wm152 : ZT) : ZT := m_week_j177 wm152 (if w18.1 rk i18 ≤ 0 then (0 : Int32) else (if wm152.1 rk i18 = 0 then ((1 : Int32) <<< ((nI i18) &&& 31)) else (0 : Int32)))
def m_week_j136 (rk : Nat) (i18 : Nat) (w18 : ZT) (w92 : Int64) (w136 : Int32) : ZT := m_week_m152 rk i18 w18 (sI (sI (sI w18 32 i18 (0 : Int32)) 32 i18 w136) rk i18 (w92.toInt32 - ((sI (sI w18 32 i18 (0 : Int32)) 32 i18 w136).1 32 i18)))
def m_week_j111 (rk : Nat) (i18 : Nat) (w18 : ZT) (w92 : Int64) (w111 : Int32) : ZT := m_week_j136 rk i18 w18 w92 (if w92 ≤ w111.toInt64 then w92.toInt32 else w111)
def m_week_j92 (rk : Nat) (p2 : Int32) (p3 : Int32) (i18 : Nat) (w18 : ZT) (w92 : Int64) : ZT := m_week_j111 rk i18 w18 w92 (if nI i18 = p2 then p3 else w18.1 16 i18)
def m_week_b18 (rk : Nat) (p2 : Int32) (p3 : Int32) (i18 : Nat) (w18 : ZT) : ZT := m_week_j181 (if w18.1 13 i18 = 0 then sI w18 32 i18 (0 : Int32) else m_week_j92 rk p2 p3 i18 w18 (if (0 : Int64) ≤ (((w18.1 rk i18).toInt64) + (w18.2 31 i18)) then (if (((w18.1 rk i18).toInt64) + (w18.2 31 i18)) ≤ (100000 : Int64) then (((w18.1 rk i18).toInt64) + (w18.2 31 i18)) else (100000 : Int64)) else (0 : Int64)))
def m_week_e18 (w18 : ZT) : ZT := w18
def m_week_c7 (rk : Nat) (p2 : Int32) (p3 : Int32) (wc7 : ZT) : ZT := m_week_e18 (itR (m_week_b18 rk p2 p3) 0 8 (sI wc7 33 0 (0 : Int32)))
def m_week_c2 (rk : Nat) (p2 : Int32) (p3 : Int32) (wc2 : ZT) : ZT := m_week_c7 rk p2 p3 (m_layChanges rk wc2)
def m_week (rk : Nat) (p2 : Int32) (p3 : Int32) (Z : ZT) : ZT := m_week_c2 rk p2 p3 (m_layWants rk Z)
set_option maxHeartbeats 4000000 in
set_option maxRecDepth 100000 in
theorem met_m_week_15 (l : Launch) (D : va_G) (cs : Nat → ClassId) (m : Nat) (ar : Nat → Nat) (Z : ZT) (sz : Nat) (p2 : Int32) (p3 : Int32) (hM : MI Z) : Met l yX1_week (ws_ yX1_week cX1_week 9 none) ({ frames := 3, cells := 0, slots := 0, locals := 70 }) (va_Pc [.ref m, .ref (ar 15), .int p2, .int p3] (wSt D cs (MW m ar cs Z) sz)) (cQv (fun (u : ZT) => m_week 15 p2 p3 Z = u) D (fun u => MW m ar cs u) (MW m ar cs Z) sz) 0 0 (va_A (MW m ar cs Z) sz) := by
  refine gStart_v (C := RX1) rfl rfl (Nat.le_of_ble_eq_true rfl) ?_
  intro p e s mid args below meth c R Q A hx hb hml hown hts hK hA hRf hRl hRc hRs hnm hret hE ls hl
  have hRf : 3 ≤ R.frames := hRf
  have hRl : 70 ≤ R.locals := hRl
  have hl : lv_has ls 9 [(0, .ref m), (1, .ref (ar 15)), (2, .int p2), (3, .int p3)] := hl
  have hR : m_week 15 p2 p3 Z = (m_week_c2 15 p2 p3 (m_layWants 15 Z)) := rfl
  refine lv_aload_n hx hb dX1_week_0 rfl (lv_at hl 0 rfl) ?_
  refine lv_aload_n hx hb dX1_week_1 rfl (lv_at hl 1 rfl) ?_
  refine call_m_layWants_15 hx hb hml hown hts hK hA hE hl.1 (by exact MI_row_15 hM) (lz (show 3 ≤ 3 by decide) hRf) (lz (show 70 ≤ 70 by decide) hRl) (Nat.le_of_ble_eq_true rfl) dX1_week_2 (fun H locs hE => ?_)
  have hNc2 : ∀ (wc2 : ZT) (hewc2 : wc2 = m_layWants 15 Z) (hR : m_week 15 p2 p3 Z = m_week_c2 15 p2 p3 wc2), ∀ (H : Heap) (locs : List Loc) (ls : Array Slot), EW D A s.heap (MW m ar cs wc2) H locs → lv_has ls 9 [(0, .ref m), (1, .ref (ar 15)), (2, .int p2), (3, .int p3)] → W p l e R s mid args below meth c H locs 0 0 Q (F0 mid 5 ls []) := by
    intro wc2 hewc2 hR H locs ls hE hl
    have hR : m_week 15 p2 p3 Z = (m_week_c7 15 p2 p3 (m_layChanges 15 wc2)) := hR
    refine lv_aload_n hx hb dX1_week_5 rfl (lv_at hl 0 rfl) ?_
    refine lv_aload_n hx hb dX1_week_6 rfl (lv_at hl 1 rfl) ?_
    refine call_m_layChanges_15 hx hb hml hown hts hK hA hE hl.1 (by rw [hewc2, m_layWants_fst]; exact hM.2.2.1) (lz (show 2 ≤ 3 by decide) hRf) (lz (show 54 ≤ 70 by decide) hRl) (Nat.le_of_ble_eq_true rfl) dX1_week_7 (fun H locs hE => ?_)
    have hNc7 : ∀ (wc7 : ZT) (hewc7 : wc7 = m_layChanges 15 wc2) (hR : m_week 15 p2 p3 Z = m_week_c7 15 p2 p3 wc7), ∀ (H : Heap) (locs : List Loc) (ls : Array Slot), EW D A s.heap (MW m ar cs wc7) H locs → lv_has ls 9 [(0, .ref m), (1, .ref (ar 15)), (2, .int p2), (3, .int p3)] → W p l e R s mid args below meth c H locs 0 0 Q (F0 mid 10 ls []) := by
      intro wc7 hewc7 hR H locs ls hE hl
      have hR : m_week 15 p2 p3 Z = (m_week_e18 (itR (m_week_b18 15 p2 p3) 0 8 (sI wc7 33 0 (0 : Int32)))) := hR
      refine lv_aload_n hx hb dX1_week_10 rfl (lv_at hl 0 rfl) ?_
      refine lv_iconst (v := 0) hx hb dX1_week_11 rfl ?_
      refine mp_33 hx hb hts hown hK hE dX1_week_12 (fun H locs hE => ?_)
      refine lv_iconst (v := 0) hx hb dX1_week_15 rfl ?_
      refine lv_istore (lv' := [(4, .int (0 : Int32)), (0, .ref m), (1, .ref (ar 15)), (2, .int p2), (3, .int p3)]) hx hb dX1_week_16 hl (by decide) rfl (fun ls hl => ?_)
      have hL18 : ∀ (k i18 : Nat) (w18 : ZT) (hi18 : i18 + k = 8) (hR : m_week 15 p2 p3 Z = m_week_e18 (itR (m_week_b18 15 p2 p3) i18 k w18)), ∀ (H : Heap) (locs : List Loc) (ls : Array Slot), EW D A s.heap (MW m ar cs w18) H locs → lv_has ls 9 [(0, .ref m), (1, .ref (ar 15)), (2, .int p2), (3, .int p3), (4, .int (nI i18))] → W p l e R s mid args below meth c H locs 0 0 Q (F0 mid 18 ls []) := by
        intro k
        induction k with
        | zero =>
          intro i18 w18 hi18 hR H locs ls hE hl
          have hie18 : i18 = 8 := by omega
          have hR : m_week 15 p2 p3 Z = w18 := hR
          refine lv_iload hx hb dX1_week_18 (lv_at hl 4 rfl) ?_
          refine lv_bipush (v := 8) hx hb dX1_week_20 rfl ?_
          refine n_geT (a := i18) (b := 8) (by omega) (by omega) hx hb dX1_week_22 (tgt := 187) (by decide) ?_
          have hl := lv_sub (l' := [(0, .ref m), (1, .ref (ar 15)), (2, .int p2), (3, .int p3)]) hl [0, 1, 2, 3] rfl
          exact hret w18 hR hE (Nat.le_refl 0) (Nat.le_refl 0) dX1_week_187
        | succ k ih18 =>
          intro i18 w18 hi18 hR H locs ls hE hl
          have hlt18 : i18 < 8 := by omega
          have hB18 : m_week_b18 15 p2 p3 i18 w18 = m_week_j181 (if w18.1 13 i18 = 0 then sI w18 32 i18 (0 : Int32) else m_week_j92 15 p2 p3 i18 w18 (if (0 : Int64) ≤ (((w18.1 15 i18).toInt64) + (w18.2 31 i18)) then (if (((w18.1 15 i18).toInt64) + (w18.2 31 i18)) ≤ (100000 : Int64) then (((w18.1 15 i18).toInt64) + (w18.2 31 i18)) else (100000 : Int64)) else (0 : Int64))) := rfl
          refine lv_iload hx hb dX1_week_18 (lv_at hl 4 rfl) ?_
          refine lv_bipush (v := 8) hx hb dX1_week_20 rfl ?_
          refine n_geF (a := i18) (b := 8) (by omega) (by omega) hx hb dX1_week_22 (tgt := 187) (by decide) ?_
          refine lv_aload_n hx hb dX1_week_25 rfl (lv_at hl 0 rfl) ?_
          refine mg_32 hx hb hts hown hK hE dX1_week_26 ?_
          refine lv_iload hx hb dX1_week_29 (lv_at hl 4 rfl) ?_
          refine lv_iconst (v := 0) hx hb dX1_week_31 rfl ?_
          refine ms_32 (n := i18) (by omega) hx hb hK hE dX1_week_32 (fun H locs hE => ?_)
          refine lv_aload_n hx hb dX1_week_33 rfl (lv_at hl 0 rfl) ?_
          refine mg_13 hx hb hts hown hK hE dX1_week_34 ?_
          refine lv_iload hx hb dX1_week_37 (lv_at hl 4 rfl) ?_
          refine ma_13 (n := i18) (by omega) hx hb hK hE dX1_week_39 ?_
          have hJ181 : ∀ (w181 : ZT) (hB18 : m_week_b18 15 p2 p3 i18 w18 = m_week_j181 w181), ∀ (H : Heap) (locs : List Loc) (ls : Array Slot), EW D A s.heap (MW m ar cs w181) H locs → lv_has ls 9 [(0, .ref m), (1, .ref (ar 15)), (2, .int p2), (3, .int p3), (4, .int (nI i18))] → W p l e R s mid args below meth c H locs 0 0 Q (F0 mid 181 ls []) := by
            intro w181 hB18 H locs ls hE hl
            have hB18 : m_week_b18 15 p2 p3 i18 w18 = w181 := hB18
            refine n_inc (lv' := [(4, .int (nI (i18 + 1))), (0, .ref m), (1, .ref (ar 15)), (2, .int p2), (3, .int p3)]) hx hb dX1_week_181 hl (k := 4) rfl (by decide) rfl (fun ls hl => ?_)
            refine lv_goto (tgt := 18) hx hb dX1_week_184 (by decide) ?_
            exact ih18 (i18 + 1) w181 (by omega) (hR.trans (congrArg (fun z => m_week_e18 (itR (m_week_b18 15 p2 p3) (i18 + 1) k z)) hB18)) _ _ _ hE (lv_sub hl [1, 2, 3, 4, 0] rfl)
          refine lv_if_eq (tgt := 181) hx hb dX1_week_40 (by decide) (fun c40 => ?_) (fun c40 => ?_)
          · have hB18 : m_week_b18 15 p2 p3 i18 w18 = m_week_j181 (sI w18 32 i18 (0 : Int32)) := hB18.trans (congrArg (fun z => m_week_j181 z) (if_pos c40))
            exact hJ181 (sI w18 32 i18 (0 : Int32))  hB18 _ _ _ hE (lv_sub hl [0, 1, 2, 3, 4] rfl)
          · have hB18 : m_week_b18 15 p2 p3 i18 w18 = m_week_j181 (m_week_j92 15 p2 p3 i18 w18 (if (0 : Int64) ≤ (((w18.1 15 i18).toInt64) + (w18.2 31 i18)) then (if (((w18.1 15 i18).toInt64) + (w18.2 31 i18)) ≤ (100000 : Int64) then (((w18.1 15 i18).toInt64) + (w18.2 31 i18)) else (100000 : Int64)) else (0 : Int64))) := hB18.trans (congrArg (fun z => m_week_j181 z) (if_neg c40))
            refine lv_aload_n hx hb dX1_week_43 rfl (lv_at hl 1 rfl) ?_
            refine lv_iload hx hb dX1_week_44 (lv_at hl 4 rfl) ?_
            refine ma_15 (n := i18) (by omega) hx hb hK hE dX1_week_46 ?_
            refine lv_istore (lv' := [(5, .int (w18.1 15 i18)), (0, .ref m), (1, .ref (ar 15)), (2, .int p2), (3, .int p3), (4, .int (nI i18))]) hx hb dX1_week_47 hl (by decide) rfl (fun ls hl => ?_)
            refine lv_aload_n hx hb dX1_week_49 rfl (lv_at hl 2 rfl) ?_
            refine lv_iload hx hb dX1_week_50 (lv_at hl 5 rfl) ?_
            refine ma_15 (n := i18) (by omega) hx hb hK hE dX1_week_52 ?_
            refine lv_i2l hx hb dX1_week_53 rfl ?_
            refine lv_aload_n hx hb dX1_week_54 rfl (lv_at hl 1 rfl) ?_
            refine mg_31 hx hb hts hown hK hE dX1_week_55 ?_
            refine lv_iload hx hb dX1_week_58 (lv_at hl 5 rfl) ?_
            refine ma_31 (n := i18) (by omega) hx hb hK hE dX1_week_60 ?_
            refine lv_ladd hx hb dX1_week_61 ?_
            refine lv_lstore (lv' := [(6, .long (((w18.1 15 i18).toInt64) + (w18.2 31 i18))), (5, .int (w18.1 15 i18)), (0, .ref m), (1, .ref (ar 15)), (2, .int p2), (3, .int p3), (4, .int (nI i18))]) hx hb dX1_week_62 hl (by decide) rfl (fun ls hl => ?_)
            refine lv_lload hx hb dX1_week_64 (lv_at hl 0 rfl) ?_
            refine lv_lconst (v := 0) hx hb dX1_week_66 rfl ?_
            have hJ92 : ∀ (w92 : Int64) (hB18 : m_week_b18 15 p2 p3 i18 w18 = m_week_j181 (m_week_j92 15 p2 p3 i18 w18 w92)), ∀ (H : Heap) (locs : List Loc) (ls : Array Slot), EW D A s.heap (MW m ar cs (sI w18 32 i18 (0 : Int32))) H locs → lv_has ls 9 [(0, .ref m), (1, .ref (ar 15)), (2, .int p2), (3, .int p3), (4, .int (nI i18)), (5, .int (w18.1 15 i18))] → W p l e R s mid args below meth c H locs 0 0 Q (F0 mid 92 ls [.long w92]) := by
              intro w92 hB18 H locs ls hE hl
              have hB18 : m_week_b18 15 p2 p3 i18 w18 = m_week_j181 (m_week_j111 15 i18 w18 w92 (if nI i18 = p2 then p3 else w18.1 16 i18)) := hB18
              refine lv_lstore (lv' := [(6, .long w92), (0, .ref m), (1, .ref (ar 15)), (2, .int p2), (3, .int p3), (4, .int (nI i18)), (5, .int (w18.1 15 i18))]) hx hb dX1_week_92 hl (by decide) rfl (fun ls hl => ?_)
              refine lv_iload hx hb dX1_week_94 (lv_at hl 5 rfl) ?_
              refine lv_iload_n hx hb dX1_week_96 rfl (lv_at hl 3 rfl) ?_
              have hJ111 : ∀ (w111 : Int32) (hB18 : m_week_b18 15 p2 p3 i18 w18 = m_week_j181 (m_week_j111 15 i18 w18 w92 w111)), ∀ (H : Heap) (locs : List Loc) (ls : Array Slot), EW D A s.heap (MW m ar cs (sI w18 32 i18 (0 : Int32))) H locs → lv_has ls 9 [(0, .ref m), (1, .ref (ar 15)), (2, .int p2), (3, .int p3), (4, .int (nI i18)), (5, .int (w18.1 15 i18)), (6, .long w92)] → W p l e R s mid args below meth c H locs 0 0 Q (F0 mid 111 ls [.int w111]) := by
                intro w111 hB18 H locs ls hE hl
                have hB18 : m_week_b18 15 p2 p3 i18 w18 = m_week_j181 (m_week_j136 15 i18 w18 w92 (if w92 ≤ w111.toInt64 then w92.toInt32 else w111)) := hB18
                refine lv_istore (lv' := [(8, .int w111), (0, .ref m), (1, .ref (ar 15)), (2, .int p2), (3, .int p3), (4, .int (nI i18)), (5, .int (w18.1 15 i18)), (6, .long w92)]) hx hb dX1_week_111 hl (by decide) rfl (fun ls hl => ?_)
                refine lv_aload_n hx hb dX1_week_113 rfl (lv_at hl 1 rfl) ?_
                refine mg_32 hx hb hts hown hK hE dX1_week_114 ?_
                refine lv_iload hx hb dX1_week_117 (lv_at hl 5 rfl) ?_
                refine lv_iload hx hb dX1_week_119 (lv_at hl 0 rfl) ?_
                refine lv_i2l hx hb dX1_week_121 rfl ?_
                refine lv_lload hx hb dX1_week_122 (lv_at hl 7 rfl) ?_
                have hJ136 : ∀ (w136 : Int32) (hB18 : m_week_b18 15 p2 p3 i18 w18 = m_week_j181 (m_week_j136 15 i18 w18 w92 w136)), ∀ (H : Heap) (locs : List Loc) (ls : Array Slot), EW D A s.heap (MW m ar cs (sI w18 32 i18 (0 : Int32))) H locs → lv_has ls 9 [(0, .ref m), (1, .ref (ar 15)), (2, .int p2), (3, .int p3), (4, .int (nI i18)), (5, .int (w18.1 15 i18)), (6, .long w92)] → W p l e R s mid args below meth c H locs 0 0 Q (F0 mid 136 ls [.int w136, .int (nI i18), .ref (ar 32)]) := by
                  intro w136 hB18 H locs ls hE hl
                  have hB18 : m_week_b18 15 p2 p3 i18 w18 = m_week_j181 (m_week_m152 15 i18 w18 (sI (sI (sI w18 32 i18 (0 : Int32)) 32 i18 w136) 15 i18 (w92.toInt32 - ((sI (sI w18 32 i18 (0 : Int32)) 32 i18 w136).1 32 i18)))) := hB18
                  refine ms_32 (n := i18) (by omega) hx hb hK hE dX1_week_136 (fun H locs hE => ?_)
                  refine lv_aload_n hx hb dX1_week_137 rfl (lv_at hl 1 rfl) ?_
                  refine lv_iload hx hb dX1_week_138 (lv_at hl 4 rfl) ?_
                  refine lv_lload hx hb dX1_week_140 (lv_at hl 6 rfl) ?_
                  refine lv_l2i hx hb dX1_week_142 rfl ?_
                  refine lv_aload_n hx hb dX1_week_143 rfl (lv_at hl 0 rfl) ?_
                  refine mg_32 hx hb hts hown hK hE dX1_week_144 ?_
                  refine lv_iload hx hb dX1_week_147 (lv_at hl 4 rfl) ?_
                  refine ma_32 (n := i18) (by omega) hx hb hK hE dX1_week_149 ?_
                  refine lv_isub hx hb dX1_week_150 ?_
                  refine ms_15 (n := i18) (by omega) hx hb hK hE dX1_week_151 (fun H locs hE => ?_)
                  have hNm152 : ∀ (wm152 : ZT) (hewm152 : wm152 = sI (sI (sI w18 32 i18 (0 : Int32)) 32 i18 w136) 15 i18 (w92.toInt32 - ((sI (sI w18 32 i18 (0 : Int32)) 32 i18 w136).1 32 i18))) (hB18 : m_week_b18 15 p2 p3 i18 w18 = m_week_j181 (m_week_m152 15 i18 w18 wm152)), ∀ (H : Heap) (locs : List Loc) (ls : Array Slot), EW D A s.heap (MW m ar cs wm152) H locs → lv_has ls 9 [(0, .ref m), (1, .ref (ar 15)), (2, .int p2), (3, .int p3), (4, .int (nI i18)), (5, .int (w18.1 15 i18))] → W p l e R s mid args below meth c H locs 0 0 Q (F0 mid 152 ls []) := by
                    intro wm152 hewm152 hB18 H locs ls hE hl
                    have hB18 : m_week_b18 15 p2 p3 i18 w18 = m_week_j181 (m_week_j177 wm152 (if w18.1 15 i18 ≤ 0 then (0 : Int32) else (if wm152.1 15 i18 = 0 then ((1 : Int32) <<< ((nI i18) &&& 31)) else (0 : Int32)))) := hB18
                    refine lv_aload_n hx hb dX1_week_152 rfl (lv_at hl 0 rfl) ?_
                    refine lv_dup hx hb dX1_week_153 rfl ?_
                    refine mg_33 hx hb hts hown hK hE dX1_week_154 ?_
                    refine lv_iload hx hb dX1_week_157 (lv_at hl 5 rfl) ?_
                    have hJ177 : ∀ (w177 : Int32) (hB18 : m_week_b18 15 p2 p3 i18 w18 = m_week_j181 (m_week_j177 wm152 w177)), ∀ (H : Heap) (locs : List Loc) (ls : Array Slot), EW D A s.heap (MW m ar cs wm152) H locs → lv_has ls 9 [(0, .ref m), (1, .ref (ar 15)), (2, .int p2), (3, .int p3), (4, .int (nI i18))] → W p l e R s mid args below meth c H locs 0 0 Q (F0 mid 177 ls [.int w177, .int (wm152.1 33 0), .ref m]) := by
                      intro w177 hB18 H locs ls hE hl
                      have hB18 : m_week_b18 15 p2 p3 i18 w18 = m_week_j181 (sI wm152 33 0 ((wm152.1 33 0) ||| w177)) := hB18
                      refine lv_ior hx hb dX1_week_177 ?_
                      refine mp_33 hx hb hts hown hK hE dX1_week_178 (fun H locs hE => ?_)
                      exact hJ181 (sI wm152 33 0 ((wm152.1 33 0) ||| w177))  hB18 _ _ _ hE (lv_sub hl [0, 1, 2, 3, 4] rfl)
                    refine lv_if_le (tgt := 176) hx hb dX1_week_159 (by decide) (fun c159 => ?_) (fun c159 => ?_)
                    · have hB18 : m_week_b18 15 p2 p3 i18 w18 = m_week_j181 (m_week_j177 wm152 (0 : Int32)) := hB18.trans (congrArg (fun z => m_week_j181 (m_week_j177 wm152 z)) (if_pos c159))
                      refine lv_iconst (v := 0) hx hb dX1_week_176 rfl ?_
                      exact hJ177 (0 : Int32)  hB18 _ _ _ hE (lv_sub hl [0, 1, 2, 3, 4] rfl)
                    · have hB18 : m_week_b18 15 p2 p3 i18 w18 = m_week_j181 (m_week_j177 wm152 (if wm152.1 15 i18 = 0 then ((1 : Int32) <<< ((nI i18) &&& 31)) else (0 : Int32))) := hB18.trans (congrArg (fun z => m_week_j181 (m_week_j177 wm152 z)) (if_neg c159))
                      refine lv_aload_n hx hb dX1_week_162 rfl (lv_at hl 1 rfl) ?_
                      refine lv_iload hx hb dX1_week_163 (lv_at hl 4 rfl) ?_
                      refine ma_15 (n := i18) (by omega) hx hb hK hE dX1_week_165 ?_
                      refine lv_if_ne (tgt := 176) hx hb dX1_week_166 (by decide) (fun c166 => ?_) (fun c166 => ?_)
                      · have hB18 : m_week_b18 15 p2 p3 i18 w18 = m_week_j181 (m_week_j177 wm152 (0 : Int32)) := hB18.trans (congrArg (fun z => m_week_j181 (m_week_j177 wm152 z)) (if_neg c166))
                        refine lv_iconst (v := 0) hx hb dX1_week_176 rfl ?_
                        exact hJ177 (0 : Int32)  hB18 _ _ _ hE (lv_sub hl [0, 1, 2, 3, 4] rfl)
                      · have hB18 : m_week_b18 15 p2 p3 i18 w18 = m_week_j181 (m_week_j177 wm152 ((1 : Int32) <<< ((nI i18) &&& 31))) := hB18.trans (congrArg (fun z => m_week_j181 (m_week_j177 wm152 z)) (if_pos c166))
                        refine lv_iconst (v := 1) hx hb dX1_week_169 rfl ?_
                        refine lv_iload hx hb dX1_week_170 (lv_at hl 4 rfl) ?_
                        refine lv_ishl hx hb dX1_week_172 ?_
                        refine lv_goto (tgt := 177) hx hb dX1_week_173 (by decide) ?_
                        exact hJ177 ((1 : Int32) <<< ((nI i18) &&& 31))  hB18 _ _ _ hE (lv_sub hl [0, 1, 2, 3, 4] rfl)
                  exact hNm152 (sI (sI (sI w18 32 i18 (0 : Int32)) 32 i18 w136) 15 i18 (w92.toInt32 - ((sI (sI w18 32 i18 (0 : Int32)) 32 i18 w136).1 32 i18))) rfl hB18 _ _ _ hE (lv_sub hl [0, 1, 2, 3, 4, 5] rfl)
                refine l_ge (tgt := 133) hx hb dX1_week_124 dX1_week_125 (by decide) (fun c124 => ?_) (fun c124 => ?_)
                · have hB18 : m_week_b18 15 p2 p3 i18 w18 = m_week_j181 (m_week_j136 15 i18 w18 w92 w92.toInt32) := hB18.trans (congrArg (fun z => m_week_j181 (m_week_j136 15 i18 w18 w92 z)) (if_pos c124))
                  refine lv_lload hx hb dX1_week_133 (lv_at hl 7 rfl) ?_
                  refine lv_l2i hx hb dX1_week_135 rfl ?_
                  exact hJ136 w92.toInt32  hB18 _ _ _ hE (lv_sub hl [1, 2, 3, 4, 5, 6, 7] rfl)
                · have hB18 : m_week_b18 15 p2 p3 i18 w18 = m_week_j181 (m_week_j136 15 i18 w18 w92 w111) := hB18.trans (congrArg (fun z => m_week_j181 (m_week_j136 15 i18 w18 w92 z)) (if_neg c124))
                  refine lv_iload hx hb dX1_week_128 (lv_at hl 0 rfl) ?_
                  refine lv_goto (tgt := 136) hx hb dX1_week_130 (by decide) ?_
                  exact hJ136 w111  hB18 _ _ _ hE (lv_sub hl [1, 2, 3, 4, 5, 6, 7] rfl)
              refine lv_icmp_ne (tgt := 104) hx hb dX1_week_97 (by decide) (fun c97 => ?_) (fun c97 => ?_)
              · have hB18 : m_week_b18 15 p2 p3 i18 w18 = m_week_j181 (m_week_j111 15 i18 w18 w92 (w18.1 16 i18)) := hB18.trans (congrArg (fun z => m_week_j181 (m_week_j111 15 i18 w18 w92 z)) (if_neg c97))
                refine lv_aload_n hx hb dX1_week_104 rfl (lv_at hl 1 rfl) ?_
                refine mg_16 hx hb hts hown hK hE dX1_week_105 ?_
                refine lv_iload hx hb dX1_week_108 (lv_at hl 5 rfl) ?_
                refine ma_16 (n := i18) (by omega) hx hb hK hE dX1_week_110 ?_
                exact hJ111 (w18.1 16 i18)  hB18 _ _ _ hE (lv_sub hl [1, 2, 3, 4, 5, 6, 0] rfl)
              · have hB18 : m_week_b18 15 p2 p3 i18 w18 = m_week_j181 (m_week_j111 15 i18 w18 w92 p3) := hB18.trans (congrArg (fun z => m_week_j181 (m_week_j111 15 i18 w18 w92 z)) (if_pos c97))
                refine lv_iload_n hx hb dX1_week_100 rfl (lv_at hl 4 rfl) ?_
                refine lv_goto (tgt := 111) hx hb dX1_week_101 (by decide) ?_
                exact hJ111 p3  hB18 _ _ _ hE (lv_sub hl [1, 2, 3, 4, 5, 6, 0] rfl)
            refine l_ge (tgt := 75) hx hb dX1_week_67 dX1_week_68 (by decide) (fun c67 => ?_) (fun c67 => ?_)
            · have hB18 : m_week_b18 15 p2 p3 i18 w18 = m_week_j181 (m_week_j92 15 p2 p3 i18 w18 (if (((w18.1 15 i18).toInt64) + (w18.2 31 i18)) ≤ (100000 : Int64) then (((w18.1 15 i18).toInt64) + (w18.2 31 i18)) else (100000 : Int64))) := hB18.trans (congrArg (fun z => m_week_j181 (m_week_j92 15 p2 p3 i18 w18 z)) (if_pos c67))
              refine lv_lload hx hb dX1_week_75 (lv_at hl 0 rfl) ?_
              refine lv_ldc2 (v := 100000) hx hb hown (hts _ q1264) dX1_week_77 ?_
              refine l_le (tgt := 90) hx hb dX1_week_80 dX1_week_81 (by decide) (fun c80 => ?_) (fun c80 => ?_)
              · have hB18 : m_week_b18 15 p2 p3 i18 w18 = m_week_j181 (m_week_j92 15 p2 p3 i18 w18 (((w18.1 15 i18).toInt64) + (w18.2 31 i18))) := hB18.trans (congrArg (fun z => m_week_j181 (m_week_j92 15 p2 p3 i18 w18 z)) (if_pos c80))
                refine lv_lload hx hb dX1_week_90 (lv_at hl 0 rfl) ?_
                exact hJ92 (((w18.1 15 i18).toInt64) + (w18.2 31 i18))  hB18 _ _ _ hE (lv_sub hl [2, 3, 4, 5, 6, 1] rfl)
              · have hB18 : m_week_b18 15 p2 p3 i18 w18 = m_week_j181 (m_week_j92 15 p2 p3 i18 w18 (100000 : Int64)) := hB18.trans (congrArg (fun z => m_week_j181 (m_week_j92 15 p2 p3 i18 w18 z)) (if_neg c80))
                refine lv_ldc2 (v := 100000) hx hb hown (hts _ q1264) dX1_week_84 ?_
                refine lv_goto (tgt := 92) hx hb dX1_week_87 (by decide) ?_
                exact hJ92 (100000 : Int64)  hB18 _ _ _ hE (lv_sub hl [2, 3, 4, 5, 6, 1] rfl)
            · have hB18 : m_week_b18 15 p2 p3 i18 w18 = m_week_j181 (m_week_j92 15 p2 p3 i18 w18 (0 : Int64)) := hB18.trans (congrArg (fun z => m_week_j181 (m_week_j92 15 p2 p3 i18 w18 z)) (if_neg c67))
              refine lv_lconst (v := 0) hx hb dX1_week_71 rfl ?_
              refine lv_goto (tgt := 92) hx hb dX1_week_72 (by decide) ?_
              exact hJ92 (0 : Int64)  hB18 _ _ _ hE (lv_sub hl [2, 3, 4, 5, 6, 1] rfl)
      exact hL18 8 0 (sI wc7 33 0 (0 : Int32)) (by omega) hR _ _ _ hE (lv_sub hl [1, 2, 3, 4, 0] rfl)
    exact hNc7 (m_layChanges 15 wc2) rfl hR _ _ _ hE (lv_sub hl [0, 1, 2, 3] rfl)
  exact hNc2 (m_layWants 15 Z) rfl hR _ _ _ hE (lv_sub hl [0, 1, 2, 3] rfl)
section C_week
variable {p : Program} {l : Launch} {e : Env} {R : Room} {s : State} {mid : MethodId} {args : Array Value} {below : List Frame} {meth : Method} {c : Code} {H : Heap} {locs : List Loc} {Q : State → Prop} {cc : ByteArray} {pc : Nat} {ls : Array Slot} {rest : List Value} {D : va_G} {A : Nat → Prop} {m : Nat} {ar : Nat → Nat} {cs : Nat → ClassId} {Z : ZT} {nL : Nat}
theorem call_m_week_15 (hx : p.tables.exec = Jvm.exec) (hb : c.code = cc) (hml : c.maxLocals = nL) (hown : s.vm.findClass RX1 = some mid.cls) (hts : ∀ w ∈ lw_all, w.before args s = true) (hK : KK D cs s) (hA : ∀ q : Nat, s.heap.size ≤ q → A q) (hE : EW D A s.heap (MW m ar cs Z) H locs) (hls : ls.size = nL) (p2 : Int32) (p3 : Int32) (hM : MI Z) (h1 : 4 ≤ R.frames) (h2 : 98 ≤ R.locals) (h3 : (rest.map fun v => v.category).sum ≤ 8) (hd : decode cc pc = .ok (.invokevirtual 233, 3)) (kk : ∀ (H1 : Heap) (locs1 : List Loc), EW D A s.heap (MW m ar cs (m_week 15 p2 p3 Z)) H1 locs1 → W p l e R s mid args below meth c H1 locs1 0 0 Q (F0 mid (pc + 3) ls (rest))) : W p l e R s mid args below meth c H locs 0 0 Q (F0 mid pc ls (.int p3 :: .int p2 :: .ref (ar 15) :: .ref m :: rest)) :=
  gCall_v (As := [.ref (ar 15), .int p2, .int p3]) (rest := rest) (q0 := 0) (ci := 1) (fs := MF ar Z) (T' := TX1) (N' := 52) hx hb hml hown hts hK hA hE hls (met_m_week_15 l D cs m ar Z H.size p2 p3 hM) (cwV 3 hts (lw_V q1252 q1254 qs59 q85 q1255) rfl rfl rfl (by decide +kernel) ⟨h1, h2⟩) rfl rfl rfl rfl h3 hd ⟨Nat.zero_le _, Nat.zero_le _⟩ (fun u H1 locs1 hp _ hE => by subst hp; exact kk H1 locs1 hE)
end C_week
set_option maxHeartbeats 4000000 in
set_option maxRecDepth 100000 in
theorem met_m_week_34 (l : Launch) (D : va_G) (cs : Nat → ClassId) (m : Nat) (ar : Nat → Nat) (Z : ZT) (sz : Nat) (p2 : Int32) (p3 : Int32) (hM : MI Z) : Met l yX1_week (ws_ yX1_week cX1_week 9 none) ({ frames := 3, cells := 0, slots := 0, locals := 70 }) (va_Pc [.ref m, .ref (ar 34), .int p2, .int p3] (wSt D cs (MW m ar cs Z) sz)) (cQv (fun (u : ZT) => m_week 34 p2 p3 Z = u) D (fun u => MW m ar cs u) (MW m ar cs Z) sz) 0 0 (va_A (MW m ar cs Z) sz) := by
  refine gStart_v (C := RX1) rfl rfl (Nat.le_of_ble_eq_true rfl) ?_
  intro p e s mid args below meth c R Q A hx hb hml hown hts hK hA hRf hRl hRc hRs hnm hret hE ls hl
  have hRf : 3 ≤ R.frames := hRf
  have hRl : 70 ≤ R.locals := hRl
  have hl : lv_has ls 9 [(0, .ref m), (1, .ref (ar 34)), (2, .int p2), (3, .int p3)] := hl
  have hR : m_week 34 p2 p3 Z = (m_week_c2 34 p2 p3 (m_layWants 34 Z)) := rfl
  refine lv_aload_n hx hb dX1_week_0 rfl (lv_at hl 0 rfl) ?_
  refine lv_aload_n hx hb dX1_week_1 rfl (lv_at hl 1 rfl) ?_
  refine call_m_layWants_34 hx hb hml hown hts hK hA hE hl.1 (by exact MI_row_34 hM) (lz (show 3 ≤ 3 by decide) hRf) (lz (show 70 ≤ 70 by decide) hRl) (Nat.le_of_ble_eq_true rfl) dX1_week_2 (fun H locs hE => ?_)
  have hNc2 : ∀ (wc2 : ZT) (hewc2 : wc2 = m_layWants 34 Z) (hR : m_week 34 p2 p3 Z = m_week_c2 34 p2 p3 wc2), ∀ (H : Heap) (locs : List Loc) (ls : Array Slot), EW D A s.heap (MW m ar cs wc2) H locs → lv_has ls 9 [(0, .ref m), (1, .ref (ar 34)), (2, .int p2), (3, .int p3)] → W p l e R s mid args below meth c H locs 0 0 Q (F0 mid 5 ls []) := by
    intro wc2 hewc2 hR H locs ls hE hl
    have hR : m_week 34 p2 p3 Z = (m_week_c7 34 p2 p3 (m_layChanges 34 wc2)) := hR
    refine lv_aload_n hx hb dX1_week_5 rfl (lv_at hl 0 rfl) ?_
    refine lv_aload_n hx hb dX1_week_6 rfl (lv_at hl 1 rfl) ?_
    refine call_m_layChanges_34 hx hb hml hown hts hK hA hE hl.1 (by rw [hewc2, m_layWants_fst]; exact hM.2.2.1) (lz (show 2 ≤ 3 by decide) hRf) (lz (show 54 ≤ 70 by decide) hRl) (Nat.le_of_ble_eq_true rfl) dX1_week_7 (fun H locs hE => ?_)
    have hNc7 : ∀ (wc7 : ZT) (hewc7 : wc7 = m_layChanges 34 wc2) (hR : m_week 34 p2 p3 Z = m_week_c7 34 p2 p3 wc7), ∀ (H : Heap) (locs : List Loc) (ls : Array Slot), EW D A s.heap (MW m ar cs wc7) H locs → lv_has ls 9 [(0, .ref m), (1, .ref (ar 34)), (2, .int p2), (3, .int p3)] → W p l e R s mid args below meth c H locs 0 0 Q (F0 mid 10 ls []) := by
      intro wc7 hewc7 hR H locs ls hE hl
      have hR : m_week 34 p2 p3 Z = (m_week_e18 (itR (m_week_b18 34 p2 p3) 0 8 (sI wc7 33 0 (0 : Int32)))) := hR
      refine lv_aload_n hx hb dX1_week_10 rfl (lv_at hl 0 rfl) ?_
      refine lv_iconst (v := 0) hx hb dX1_week_11 rfl ?_
      refine mp_33 hx hb hts hown hK hE dX1_week_12 (fun H locs hE => ?_)
      refine lv_iconst (v := 0) hx hb dX1_week_15 rfl ?_
      refine lv_istore (lv' := [(4, .int (0 : Int32)), (0, .ref m), (1, .ref (ar 34)), (2, .int p2), (3, .int p3)]) hx hb dX1_week_16 hl (by decide) rfl (fun ls hl => ?_)
      have hL18 : ∀ (k i18 : Nat) (w18 : ZT) (hi18 : i18 + k = 8) (hR : m_week 34 p2 p3 Z = m_week_e18 (itR (m_week_b18 34 p2 p3) i18 k w18)), ∀ (H : Heap) (locs : List Loc) (ls : Array Slot), EW D A s.heap (MW m ar cs w18) H locs → lv_has ls 9 [(0, .ref m), (1, .ref (ar 34)), (2, .int p2), (3, .int p3), (4, .int (nI i18))] → W p l e R s mid args below meth c H locs 0 0 Q (F0 mid 18 ls []) := by
        intro k
        induction k with
        | zero =>
          intro i18 w18 hi18 hR H locs ls hE hl
          have hie18 : i18 = 8 := by omega
          have hR : m_week 34 p2 p3 Z = w18 := hR
          refine lv_iload hx hb dX1_week_18 (lv_at hl 4 rfl) ?_
          refine lv_bipush (v := 8) hx hb dX1_week_20 rfl ?_
          refine n_geT (a := i18) (b := 8) (by omega) (by omega) hx hb dX1_week_22 (tgt := 187) (by decide) ?_
          have hl := lv_sub (l' := [(0, .ref m), (1, .ref (ar 34)), (2, .int p2), (3, .int p3)]) hl [0, 1, 2, 3] rfl
          exact hret w18 hR hE (Nat.le_refl 0) (Nat.le_refl 0) dX1_week_187
        | succ k ih18 =>
          intro i18 w18 hi18 hR H locs ls hE hl
          have hlt18 : i18 < 8 := by omega
          have hB18 : m_week_b18 34 p2 p3 i18 w18 = m_week_j181 (if w18.1 13 i18 = 0 then sI w18 32 i18 (0 : Int32) else m_week_j92 34 p2 p3 i18 w18 (if (0 : Int64) ≤ (((w18.1 34 i18).toInt64) + (w18.2 31 i18)) then (if (((w18.1 34 i18).toInt64) + (w18.2 31 i18)) ≤ (100000 : Int64) then (((w18.1 34 i18).toInt64) + (w18.2 31 i18)) else (100000 : Int64)) else (0 : Int64))) := rfl
          refine lv_iload hx hb dX1_week_18 (lv_at hl 4 rfl) ?_
          refine lv_bipush (v := 8) hx hb dX1_week_20 rfl ?_
          refine n_geF (a := i18) (b := 8) (by omega) (by omega) hx hb dX1_week_22 (tgt := 187) (by decide) ?_
          refine lv_aload_n hx hb dX1_week_25 rfl (lv_at hl 0 rfl) ?_
          refine mg_32 hx hb hts hown hK hE dX1_week_26 ?_
          refine lv_iload hx hb dX1_week_29 (lv_at hl 4 rfl) ?_
          refine lv_iconst (v := 0) hx hb dX1_week_31 rfl ?_
          refine ms_32 (n := i18) (by omega) hx hb hK hE dX1_week_32 (fun H locs hE => ?_)
          refine lv_aload_n hx hb dX1_week_33 rfl (lv_at hl 0 rfl) ?_
          refine mg_13 hx hb hts hown hK hE dX1_week_34 ?_
          refine lv_iload hx hb dX1_week_37 (lv_at hl 4 rfl) ?_
          refine ma_13 (n := i18) (by omega) hx hb hK hE dX1_week_39 ?_
          have hJ181 : ∀ (w181 : ZT) (hB18 : m_week_b18 34 p2 p3 i18 w18 = m_week_j181 w181), ∀ (H : Heap) (locs : List Loc) (ls : Array Slot), EW D A s.heap (MW m ar cs w181) H locs → lv_has ls 9 [(0, .ref m), (1, .ref (ar 34)), (2, .int p2), (3, .int p3), (4, .int (nI i18))] → W p l e R s mid args below meth c H locs 0 0 Q (F0 mid 181 ls []) := by
            intro w181 hB18 H locs ls hE hl
            have hB18 : m_week_b18 34 p2 p3 i18 w18 = w181 := hB18
            refine n_inc (lv' := [(4, .int (nI (i18 + 1))), (0, .ref m), (1, .ref (ar 34)), (2, .int p2), (3, .int p3)]) hx hb dX1_week_181 hl (k := 4) rfl (by decide) rfl (fun ls hl => ?_)
            refine lv_goto (tgt := 18) hx hb dX1_week_184 (by decide) ?_
            exact ih18 (i18 + 1) w181 (by omega) (hR.trans (congrArg (fun z => m_week_e18 (itR (m_week_b18 34 p2 p3) (i18 + 1) k z)) hB18)) _ _ _ hE (lv_sub hl [1, 2, 3, 4, 0] rfl)
          refine lv_if_eq (tgt := 181) hx hb dX1_week_40 (by decide) (fun c40 => ?_) (fun c40 => ?_)
          · have hB18 : m_week_b18 34 p2 p3 i18 w18 = m_week_j181 (sI w18 32 i18 (0 : Int32)) := hB18.trans (congrArg (fun z => m_week_j181 z) (if_pos c40))
            exact hJ181 (sI w18 32 i18 (0 : Int32))  hB18 _ _ _ hE (lv_sub hl [0, 1, 2, 3, 4] rfl)
          · have hB18 : m_week_b18 34 p2 p3 i18 w18 = m_week_j181 (m_week_j92 34 p2 p3 i18 w18 (if (0 : Int64) ≤ (((w18.1 34 i18).toInt64) + (w18.2 31 i18)) then (if (((w18.1 34 i18).toInt64) + (w18.2 31 i18)) ≤ (100000 : Int64) then (((w18.1 34 i18).toInt64) + (w18.2 31 i18)) else (100000 : Int64)) else (0 : Int64))) := hB18.trans (congrArg (fun z => m_week_j181 z) (if_neg c40))
            refine lv_aload_n hx hb dX1_week_43 rfl (lv_at hl 1 rfl) ?_
            refine lv_iload hx hb dX1_week_44 (lv_at hl 4 rfl) ?_
            refine ma_34 (n := i18) (by omega) hx hb hK hE dX1_week_46 ?_
            refine lv_istore (lv' := [(5, .int (w18.1 34 i18)), (0, .ref m), (1, .ref (ar 34)), (2, .int p2), (3, .int p3), (4, .int (nI i18))]) hx hb dX1_week_47 hl (by decide) rfl (fun ls hl => ?_)
            refine lv_aload_n hx hb dX1_week_49 rfl (lv_at hl 2 rfl) ?_
            refine lv_iload hx hb dX1_week_50 (lv_at hl 5 rfl) ?_
            refine ma_34 (n := i18) (by omega) hx hb hK hE dX1_week_52 ?_
            refine lv_i2l hx hb dX1_week_53 rfl ?_
            refine lv_aload_n hx hb dX1_week_54 rfl (lv_at hl 1 rfl) ?_
            refine mg_31 hx hb hts hown hK hE dX1_week_55 ?_
            refine lv_iload hx hb dX1_week_58 (lv_at hl 5 rfl) ?_
            refine ma_31 (n := i18) (by omega) hx hb hK hE dX1_week_60 ?_
            refine lv_ladd hx hb dX1_week_61 ?_
            refine lv_lstore (lv' := [(6, .long (((w18.1 34 i18).toInt64) + (w18.2 31 i18))), (5, .int (w18.1 34 i18)), (0, .ref m), (1, .ref (ar 34)), (2, .int p2), (3, .int p3), (4, .int (nI i18))]) hx hb dX1_week_62 hl (by decide) rfl (fun ls hl => ?_)
            refine lv_lload hx hb dX1_week_64 (lv_at hl 0 rfl) ?_
            refine lv_lconst (v := 0) hx hb dX1_week_66 rfl ?_
            have hJ92 : ∀ (w92 : Int64) (hB18 : m_week_b18 34 p2 p3 i18 w18 = m_week_j181 (m_week_j92 34 p2 p3 i18 w18 w92)), ∀ (H : Heap) (locs : List Loc) (ls : Array Slot), EW D A s.heap (MW m ar cs (sI w18 32 i18 (0 : Int32))) H locs → lv_has ls 9 [(0, .ref m), (1, .ref (ar 34)), (2, .int p2), (3, .int p3), (4, .int (nI i18)), (5, .int (w18.1 34 i18))] → W p l e R s mid args below meth c H locs 0 0 Q (F0 mid 92 ls [.long w92]) := by
              intro w92 hB18 H locs ls hE hl
              have hB18 : m_week_b18 34 p2 p3 i18 w18 = m_week_j181 (m_week_j111 34 i18 w18 w92 (if nI i18 = p2 then p3 else w18.1 16 i18)) := hB18
              refine lv_lstore (lv' := [(6, .long w92), (0, .ref m), (1, .ref (ar 34)), (2, .int p2), (3, .int p3), (4, .int (nI i18)), (5, .int (w18.1 34 i18))]) hx hb dX1_week_92 hl (by decide) rfl (fun ls hl => ?_)
              refine lv_iload hx hb dX1_week_94 (lv_at hl 5 rfl) ?_
              refine lv_iload_n hx hb dX1_week_96 rfl (lv_at hl 3 rfl) ?_
              have hJ111 : ∀ (w111 : Int32) (hB18 : m_week_b18 34 p2 p3 i18 w18 = m_week_j181 (m_week_j111 34 i18 w18 w92 w111)), ∀ (H : Heap) (locs : List Loc) (ls : Array Slot), EW D A s.heap (MW m ar cs (sI w18 32 i18 (0 : Int32))) H locs → lv_has ls 9 [(0, .ref m), (1, .ref (ar 34)), (2, .int p2), (3, .int p3), (4, .int (nI i18)), (5, .int (w18.1 34 i18)), (6, .long w92)] → W p l e R s mid args below meth c H locs 0 0 Q (F0 mid 111 ls [.int w111]) := by
                intro w111 hB18 H locs ls hE hl
                have hB18 : m_week_b18 34 p2 p3 i18 w18 = m_week_j181 (m_week_j136 34 i18 w18 w92 (if w92 ≤ w111.toInt64 then w92.toInt32 else w111)) := hB18
                refine lv_istore (lv' := [(8, .int w111), (0, .ref m), (1, .ref (ar 34)), (2, .int p2), (3, .int p3), (4, .int (nI i18)), (5, .int (w18.1 34 i18)), (6, .long w92)]) hx hb dX1_week_111 hl (by decide) rfl (fun ls hl => ?_)
                refine lv_aload_n hx hb dX1_week_113 rfl (lv_at hl 1 rfl) ?_
                refine mg_32 hx hb hts hown hK hE dX1_week_114 ?_
                refine lv_iload hx hb dX1_week_117 (lv_at hl 5 rfl) ?_
                refine lv_iload hx hb dX1_week_119 (lv_at hl 0 rfl) ?_
                refine lv_i2l hx hb dX1_week_121 rfl ?_
                refine lv_lload hx hb dX1_week_122 (lv_at hl 7 rfl) ?_
                have hJ136 : ∀ (w136 : Int32) (hB18 : m_week_b18 34 p2 p3 i18 w18 = m_week_j181 (m_week_j136 34 i18 w18 w92 w136)), ∀ (H : Heap) (locs : List Loc) (ls : Array Slot), EW D A s.heap (MW m ar cs (sI w18 32 i18 (0 : Int32))) H locs → lv_has ls 9 [(0, .ref m), (1, .ref (ar 34)), (2, .int p2), (3, .int p3), (4, .int (nI i18)), (5, .int (w18.1 34 i18)), (6, .long w92)] → W p l e R s mid args below meth c H locs 0 0 Q (F0 mid 136 ls [.int w136, .int (nI i18), .ref (ar 32)]) := by
                  intro w136 hB18 H locs ls hE hl
                  have hB18 : m_week_b18 34 p2 p3 i18 w18 = m_week_j181 (m_week_m152 34 i18 w18 (sI (sI (sI w18 32 i18 (0 : Int32)) 32 i18 w136) 34 i18 (w92.toInt32 - ((sI (sI w18 32 i18 (0 : Int32)) 32 i18 w136).1 32 i18)))) := hB18
                  refine ms_32 (n := i18) (by omega) hx hb hK hE dX1_week_136 (fun H locs hE => ?_)
                  refine lv_aload_n hx hb dX1_week_137 rfl (lv_at hl 1 rfl) ?_
                  refine lv_iload hx hb dX1_week_138 (lv_at hl 4 rfl) ?_
                  refine lv_lload hx hb dX1_week_140 (lv_at hl 6 rfl) ?_
                  refine lv_l2i hx hb dX1_week_142 rfl ?_
                  refine lv_aload_n hx hb dX1_week_143 rfl (lv_at hl 0 rfl) ?_
                  refine mg_32 hx hb hts hown hK hE dX1_week_144 ?_
                  refine lv_iload hx hb dX1_week_147 (lv_at hl 4 rfl) ?_
                  refine ma_32 (n := i18) (by omega) hx hb hK hE dX1_week_149 ?_
                  refine lv_isub hx hb dX1_week_150 ?_
                  refine ms_34 (n := i18) (by omega) hx hb hK hE dX1_week_151 (fun H locs hE => ?_)
                  have hNm152 : ∀ (wm152 : ZT) (hewm152 : wm152 = sI (sI (sI w18 32 i18 (0 : Int32)) 32 i18 w136) 34 i18 (w92.toInt32 - ((sI (sI w18 32 i18 (0 : Int32)) 32 i18 w136).1 32 i18))) (hB18 : m_week_b18 34 p2 p3 i18 w18 = m_week_j181 (m_week_m152 34 i18 w18 wm152)), ∀ (H : Heap) (locs : List Loc) (ls : Array Slot), EW D A s.heap (MW m ar cs wm152) H locs → lv_has ls 9 [(0, .ref m), (1, .ref (ar 34)), (2, .int p2), (3, .int p3), (4, .int (nI i18)), (5, .int (w18.1 34 i18))] → W p l e R s mid args below meth c H locs 0 0 Q (F0 mid 152 ls []) := by
                    intro wm152 hewm152 hB18 H locs ls hE hl
                    have hB18 : m_week_b18 34 p2 p3 i18 w18 = m_week_j181 (m_week_j177 wm152 (if w18.1 34 i18 ≤ 0 then (0 : Int32) else (if wm152.1 34 i18 = 0 then ((1 : Int32) <<< ((nI i18) &&& 31)) else (0 : Int32)))) := hB18
                    refine lv_aload_n hx hb dX1_week_152 rfl (lv_at hl 0 rfl) ?_
                    refine lv_dup hx hb dX1_week_153 rfl ?_
                    refine mg_33 hx hb hts hown hK hE dX1_week_154 ?_
                    refine lv_iload hx hb dX1_week_157 (lv_at hl 5 rfl) ?_
                    have hJ177 : ∀ (w177 : Int32) (hB18 : m_week_b18 34 p2 p3 i18 w18 = m_week_j181 (m_week_j177 wm152 w177)), ∀ (H : Heap) (locs : List Loc) (ls : Array Slot), EW D A s.heap (MW m ar cs wm152) H locs → lv_has ls 9 [(0, .ref m), (1, .ref (ar 34)), (2, .int p2), (3, .int p3), (4, .int (nI i18))] → W p l e R s mid args below meth c H locs 0 0 Q (F0 mid 177 ls [.int w177, .int (wm152.1 33 0), .ref m]) := by
                      intro w177 hB18 H locs ls hE hl
                      have hB18 : m_week_b18 34 p2 p3 i18 w18 = m_week_j181 (sI wm152 33 0 ((wm152.1 33 0) ||| w177)) := hB18
                      refine lv_ior hx hb dX1_week_177 ?_
                      refine mp_33 hx hb hts hown hK hE dX1_week_178 (fun H locs hE => ?_)
                      exact hJ181 (sI wm152 33 0 ((wm152.1 33 0) ||| w177))  hB18 _ _ _ hE (lv_sub hl [0, 1, 2, 3, 4] rfl)
                    refine lv_if_le (tgt := 176) hx hb dX1_week_159 (by decide) (fun c159 => ?_) (fun c159 => ?_)
                    · have hB18 : m_week_b18 34 p2 p3 i18 w18 = m_week_j181 (m_week_j177 wm152 (0 : Int32)) := hB18.trans (congrArg (fun z => m_week_j181 (m_week_j177 wm152 z)) (if_pos c159))
                      refine lv_iconst (v := 0) hx hb dX1_week_176 rfl ?_
                      exact hJ177 (0 : Int32)  hB18 _ _ _ hE (lv_sub hl [0, 1, 2, 3, 4] rfl)
                    · have hB18 : m_week_b18 34 p2 p3 i18 w18 = m_week_j181 (m_week_j177 wm152 (if wm152.1 34 i18 = 0 then ((1 : Int32) <<< ((nI i18) &&& 31)) else (0 : Int32))) := hB18.trans (congrArg (fun z => m_week_j181 (m_week_j177 wm152 z)) (if_neg c159))
                      refine lv_aload_n hx hb dX1_week_162 rfl (lv_at hl 1 rfl) ?_
                      refine lv_iload hx hb dX1_week_163 (lv_at hl 4 rfl) ?_
                      refine ma_34 (n := i18) (by omega) hx hb hK hE dX1_week_165 ?_
                      refine lv_if_ne (tgt := 176) hx hb dX1_week_166 (by decide) (fun c166 => ?_) (fun c166 => ?_)
                      · have hB18 : m_week_b18 34 p2 p3 i18 w18 = m_week_j181 (m_week_j177 wm152 (0 : Int32)) := hB18.trans (congrArg (fun z => m_week_j181 (m_week_j177 wm152 z)) (if_neg c166))
                        refine lv_iconst (v := 0) hx hb dX1_week_176 rfl ?_
                        exact hJ177 (0 : Int32)  hB18 _ _ _ hE (lv_sub hl [0, 1, 2, 3, 4] rfl)
                      · have hB18 : m_week_b18 34 p2 p3 i18 w18 = m_week_j181 (m_week_j177 wm152 ((1 : Int32) <<< ((nI i18) &&& 31))) := hB18.trans (congrArg (fun z => m_week_j181 (m_week_j177 wm152 z)) (if_pos c166))
                        refine lv_iconst (v := 1) hx hb dX1_week_169 rfl ?_
                        refine lv_iload hx hb dX1_week_170 (lv_at hl 4 rfl) ?_
                        refine lv_ishl hx hb dX1_week_172 ?_
                        refine lv_goto (tgt := 177) hx hb dX1_week_173 (by decide) ?_
                        exact hJ177 ((1 : Int32) <<< ((nI i18) &&& 31))  hB18 _ _ _ hE (lv_sub hl [0, 1, 2, 3, 4] rfl)
                  exact hNm152 (sI (sI (sI w18 32 i18 (0 : Int32)) 32 i18 w136) 34 i18 (w92.toInt32 - ((sI (sI w18 32 i18 (0 : Int32)) 32 i18 w136).1 32 i18))) rfl hB18 _ _ _ hE (lv_sub hl [0, 1, 2, 3, 4, 5] rfl)
                refine l_ge (tgt := 133) hx hb dX1_week_124 dX1_week_125 (by decide) (fun c124 => ?_) (fun c124 => ?_)
                · have hB18 : m_week_b18 34 p2 p3 i18 w18 = m_week_j181 (m_week_j136 34 i18 w18 w92 w92.toInt32) := hB18.trans (congrArg (fun z => m_week_j181 (m_week_j136 34 i18 w18 w92 z)) (if_pos c124))
                  refine lv_lload hx hb dX1_week_133 (lv_at hl 7 rfl) ?_
                  refine lv_l2i hx hb dX1_week_135 rfl ?_
                  exact hJ136 w92.toInt32  hB18 _ _ _ hE (lv_sub hl [1, 2, 3, 4, 5, 6, 7] rfl)
                · have hB18 : m_week_b18 34 p2 p3 i18 w18 = m_week_j181 (m_week_j136 34 i18 w18 w92 w111) := hB18.trans (congrArg (fun z => m_week_j181 (m_week_j136 34 i18 w18 w92 z)) (if_neg c124))
                  refine lv_iload hx hb dX1_week_128 (lv_at hl 0 rfl) ?_
                  refine lv_goto (tgt := 136) hx hb dX1_week_130 (by decide) ?_
                  exact hJ136 w111  hB18 _ _ _ hE (lv_sub hl [1, 2, 3, 4, 5, 6, 7] rfl)
              refine lv_icmp_ne (tgt := 104) hx hb dX1_week_97 (by decide) (fun c97 => ?_) (fun c97 => ?_)
              · have hB18 : m_week_b18 34 p2 p3 i18 w18 = m_week_j181 (m_week_j111 34 i18 w18 w92 (w18.1 16 i18)) := hB18.trans (congrArg (fun z => m_week_j181 (m_week_j111 34 i18 w18 w92 z)) (if_neg c97))
                refine lv_aload_n hx hb dX1_week_104 rfl (lv_at hl 1 rfl) ?_
                refine mg_16 hx hb hts hown hK hE dX1_week_105 ?_
                refine lv_iload hx hb dX1_week_108 (lv_at hl 5 rfl) ?_
                refine ma_16 (n := i18) (by omega) hx hb hK hE dX1_week_110 ?_
                exact hJ111 (w18.1 16 i18)  hB18 _ _ _ hE (lv_sub hl [1, 2, 3, 4, 5, 6, 0] rfl)
              · have hB18 : m_week_b18 34 p2 p3 i18 w18 = m_week_j181 (m_week_j111 34 i18 w18 w92 p3) := hB18.trans (congrArg (fun z => m_week_j181 (m_week_j111 34 i18 w18 w92 z)) (if_pos c97))
                refine lv_iload_n hx hb dX1_week_100 rfl (lv_at hl 4 rfl) ?_
                refine lv_goto (tgt := 111) hx hb dX1_week_101 (by decide) ?_
                exact hJ111 p3  hB18 _ _ _ hE (lv_sub hl [1, 2, 3, 4, 5, 6, 0] rfl)
            refine l_ge (tgt := 75) hx hb dX1_week_67 dX1_week_68 (by decide) (fun c67 => ?_) (fun c67 => ?_)
            · have hB18 : m_week_b18 34 p2 p3 i18 w18 = m_week_j181 (m_week_j92 34 p2 p3 i18 w18 (if (((w18.1 34 i18).toInt64) + (w18.2 31 i18)) ≤ (100000 : Int64) then (((w18.1 34 i18).toInt64) + (w18.2 31 i18)) else (100000 : Int64))) := hB18.trans (congrArg (fun z => m_week_j181 (m_week_j92 34 p2 p3 i18 w18 z)) (if_pos c67))
              refine lv_lload hx hb dX1_week_75 (lv_at hl 0 rfl) ?_
              refine lv_ldc2 (v := 100000) hx hb hown (hts _ q1264) dX1_week_77 ?_
              refine l_le (tgt := 90) hx hb dX1_week_80 dX1_week_81 (by decide) (fun c80 => ?_) (fun c80 => ?_)
              · have hB18 : m_week_b18 34 p2 p3 i18 w18 = m_week_j181 (m_week_j92 34 p2 p3 i18 w18 (((w18.1 34 i18).toInt64) + (w18.2 31 i18))) := hB18.trans (congrArg (fun z => m_week_j181 (m_week_j92 34 p2 p3 i18 w18 z)) (if_pos c80))
                refine lv_lload hx hb dX1_week_90 (lv_at hl 0 rfl) ?_
                exact hJ92 (((w18.1 34 i18).toInt64) + (w18.2 31 i18))  hB18 _ _ _ hE (lv_sub hl [2, 3, 4, 5, 6, 1] rfl)
              · have hB18 : m_week_b18 34 p2 p3 i18 w18 = m_week_j181 (m_week_j92 34 p2 p3 i18 w18 (100000 : Int64)) := hB18.trans (congrArg (fun z => m_week_j181 (m_week_j92 34 p2 p3 i18 w18 z)) (if_neg c80))
                refine lv_ldc2 (v := 100000) hx hb hown (hts _ q1264) dX1_week_84 ?_
                refine lv_goto (tgt := 92) hx hb dX1_week_87 (by decide) ?_
                exact hJ92 (100000 : Int64)  hB18 _ _ _ hE (lv_sub hl [2, 3, 4, 5, 6, 1] rfl)
            · have hB18 : m_week_b18 34 p2 p3 i18 w18 = m_week_j181 (m_week_j92 34 p2 p3 i18 w18 (0 : Int64)) := hB18.trans (congrArg (fun z => m_week_j181 (m_week_j92 34 p2 p3 i18 w18 z)) (if_neg c67))
              refine lv_lconst (v := 0) hx hb dX1_week_71 rfl ?_
              refine lv_goto (tgt := 92) hx hb dX1_week_72 (by decide) ?_
              exact hJ92 (0 : Int64)  hB18 _ _ _ hE (lv_sub hl [2, 3, 4, 5, 6, 1] rfl)
      exact hL18 8 0 (sI wc7 33 0 (0 : Int32)) (by omega) hR _ _ _ hE (lv_sub hl [1, 2, 3, 4, 0] rfl)
    exact hNc7 (m_layChanges 34 wc2) rfl hR _ _ _ hE (lv_sub hl [0, 1, 2, 3] rfl)
  exact hNc2 (m_layWants 34 Z) rfl hR _ _ _ hE (lv_sub hl [0, 1, 2, 3] rfl)
section C_week
variable {p : Program} {l : Launch} {e : Env} {R : Room} {s : State} {mid : MethodId} {args : Array Value} {below : List Frame} {meth : Method} {c : Code} {H : Heap} {locs : List Loc} {Q : State → Prop} {cc : ByteArray} {pc : Nat} {ls : Array Slot} {rest : List Value} {D : va_G} {A : Nat → Prop} {m : Nat} {ar : Nat → Nat} {cs : Nat → ClassId} {Z : ZT} {nL : Nat}
theorem call_m_week_34 (hx : p.tables.exec = Jvm.exec) (hb : c.code = cc) (hml : c.maxLocals = nL) (hown : s.vm.findClass RX1 = some mid.cls) (hts : ∀ w ∈ lw_all, w.before args s = true) (hK : KK D cs s) (hA : ∀ q : Nat, s.heap.size ≤ q → A q) (hE : EW D A s.heap (MW m ar cs Z) H locs) (hls : ls.size = nL) (p2 : Int32) (p3 : Int32) (hM : MI Z) (h1 : 4 ≤ R.frames) (h2 : 98 ≤ R.locals) (h3 : (rest.map fun v => v.category).sum ≤ 8) (hd : decode cc pc = .ok (.invokevirtual 233, 3)) (kk : ∀ (H1 : Heap) (locs1 : List Loc), EW D A s.heap (MW m ar cs (m_week 34 p2 p3 Z)) H1 locs1 → W p l e R s mid args below meth c H1 locs1 0 0 Q (F0 mid (pc + 3) ls (rest))) : W p l e R s mid args below meth c H locs 0 0 Q (F0 mid pc ls (.int p3 :: .int p2 :: .ref (ar 34) :: .ref m :: rest)) :=
  gCall_v (As := [.ref (ar 34), .int p2, .int p3]) (rest := rest) (q0 := 0) (ci := 1) (fs := MF ar Z) (T' := TX1) (N' := 52) hx hb hml hown hts hK hA hE hls (met_m_week_34 l D cs m ar Z H.size p2 p3 hM) (cwV 3 hts (lw_V q1252 q1254 qs59 q85 q1255) rfl rfl rfl (by decide +kernel) ⟨h1, h2⟩) rfl rfl rfl rfl h3 hd ⟨Nat.zero_le _, Nat.zero_le _⟩ (fun u H1 locs1 hp _ hE => by subst hp; exact kk H1 locs1 hE)
end C_week
def m_caught (Z : ZT) : Int64 := Z.2 29 0
set_option maxHeartbeats 4000000 in
set_option maxRecDepth 100000 in
theorem met_m_caught (l : Launch) (D : va_G) (cs : Nat → ClassId) (m : Nat) (ar : Nat → Nat) (Z : ZT) (sz : Nat)  : Met l yX1_caught (ws_ yX1_caught cX1_caught 1 (some .long)) ({ frames := 0, cells := 0, slots := 0, locals := 0 }) (va_Pc [.ref m] (wSt D cs (MW m ar cs Z) sz)) (cQl (fun (v : Int64) (_ : Unit) => m_caught Z = v) D (fun _ => (MW m ar cs Z)) (MW m ar cs Z) sz) 0 0 (va_A (MW m ar cs Z) sz) := by
  refine gStart_l (C := RX1) rfl rfl (Nat.le_of_ble_eq_true rfl) ?_
  intro p e s mid args below meth c R Q A hx hb hml hown hts hK hA hRf hRl hRc hRs hret hE ls hl
  have hRf : 0 ≤ R.frames := hRf
  have hRl : 0 ≤ R.locals := hRl
  have hl : lv_has ls 1 [(0, .ref m)] := hl
  have hR : m_caught Z = (Z.2 29 0) := rfl
  refine lv_aload_n hx hb dX1_caught_0 rfl (lv_at hl 0 rfl) ?_
  refine mg_29 hx hb hts hown hK hE dX1_caught_1 ?_
  exact hret (Z.2 29 0) () hR hE (Nat.le_refl 0) (Nat.le_refl 0) dX1_caught_4
def m_caughtBy (Z : ZT) : Int64 := Z.2 36 0
set_option maxHeartbeats 4000000 in
set_option maxRecDepth 100000 in
theorem met_m_caughtBy (l : Launch) (D : va_G) (cs : Nat → ClassId) (m : Nat) (ar : Nat → Nat) (Z : ZT) (sz : Nat)  : Met l yX1_caughtBy (ws_ yX1_caughtBy cX1_caughtBy 1 (some .long)) ({ frames := 0, cells := 0, slots := 0, locals := 0 }) (va_Pc [.ref m] (wSt D cs (MW m ar cs Z) sz)) (cQl (fun (v : Int64) (_ : Unit) => m_caughtBy Z = v) D (fun _ => (MW m ar cs Z)) (MW m ar cs Z) sz) 0 0 (va_A (MW m ar cs Z) sz) := by
  refine gStart_l (C := RX1) rfl rfl (Nat.le_of_ble_eq_true rfl) ?_
  intro p e s mid args below meth c R Q A hx hb hml hown hts hK hA hRf hRl hRc hRs hret hE ls hl
  have hRf : 0 ≤ R.frames := hRf
  have hRl : 0 ≤ R.locals := hRl
  have hl : lv_has ls 1 [(0, .ref m)] := hl
  have hR : m_caughtBy Z = (Z.2 36 0) := rfl
  refine lv_aload_n hx hb dX1_caughtBy_0 rfl (lv_at hl 0 rfl) ?_
  refine mg_36 hx hb hts hown hK hE dX1_caughtBy_1 ?_
  exact hret (Z.2 36 0) () hR hE (Nat.le_refl 0) (Nat.le_refl 0) dX1_caughtBy_4
def m_beginTrial_j32 (i2 : Nat) (w2 : ZT) (w32 : Int32) : ZT := sI w2 34 i2 w32
def m_beginTrial_b2 (i2 : Nat) (w2 : ZT) : ZT := m_beginTrial_j32 i2 w2 (if w2.1 13 i2 = 0 then (0 : Int32) else w2.1 15 i2)
def m_beginTrial_e2 (w2 : ZT) : ZT := w2
def m_beginTrial (Z : ZT) : ZT := m_beginTrial_e2 (itR m_beginTrial_b2 0 8 Z)
set_option maxHeartbeats 4000000 in
set_option maxRecDepth 100000 in
theorem met_m_beginTrial (l : Launch) (D : va_G) (cs : Nat → ClassId) (m : Nat) (ar : Nat → Nat) (Z : ZT) (sz : Nat)  : Met l yX1_beginTrial (ws_ yX1_beginTrial cX1_beginTrial 2 none) ({ frames := 0, cells := 0, slots := 0, locals := 0 }) (va_Pc [.ref m] (wSt D cs (MW m ar cs Z) sz)) (cQv (fun (u : ZT) => m_beginTrial Z = u) D (fun u => MW m ar cs u) (MW m ar cs Z) sz) 0 0 (va_A (MW m ar cs Z) sz) := by
  refine gStart_v (C := RX1) rfl rfl (Nat.le_of_ble_eq_true rfl) ?_
  intro p e s mid args below meth c R Q A hx hb hml hown hts hK hA hRf hRl hRc hRs hnm hret hE ls hl
  have hRf : 0 ≤ R.frames := hRf
  have hRl : 0 ≤ R.locals := hRl
  have hl : lv_has ls 2 [(0, .ref m)] := hl
  have hR : m_beginTrial Z = (m_beginTrial_e2 (itR m_beginTrial_b2 0 8 Z)) := rfl
  refine lv_iconst (v := 0) hx hb dX1_beginTrial_0 rfl ?_
  refine lv_istore_n (lv' := [(1, .int (0 : Int32)), (0, .ref m)]) hx hb dX1_beginTrial_1 rfl hl (by decide) rfl (fun ls hl => ?_)
  have hL2 : ∀ (k i2 : Nat) (w2 : ZT) (hi2 : i2 + k = 8) (hR : m_beginTrial Z = m_beginTrial_e2 (itR m_beginTrial_b2 i2 k w2)), ∀ (H : Heap) (locs : List Loc) (ls : Array Slot), EW D A s.heap (MW m ar cs w2) H locs → lv_has ls 2 [(0, .ref m), (1, .int (nI i2))] → W p l e R s mid args below meth c H locs 0 0 Q (F0 mid 2 ls []) := by
    intro k
    induction k with
    | zero =>
      intro i2 w2 hi2 hR H locs ls hE hl
      have hie2 : i2 = 8 := by omega
      have hR : m_beginTrial Z = w2 := hR
      refine lv_iload_n hx hb dX1_beginTrial_2 rfl (lv_at hl 1 rfl) ?_
      refine lv_bipush (v := 8) hx hb dX1_beginTrial_3 rfl ?_
      refine n_geT (a := i2) (b := 8) (by omega) (by omega) hx hb dX1_beginTrial_5 (tgt := 39) (by decide) ?_
      have hl := lv_sub (l' := [(0, .ref m)]) hl [0] rfl
      exact hret w2 hR hE (Nat.le_refl 0) (Nat.le_refl 0) dX1_beginTrial_39
    | succ k ih2 =>
      intro i2 w2 hi2 hR H locs ls hE hl
      have hlt2 : i2 < 8 := by omega
      have hB2 : m_beginTrial_b2 i2 w2 = m_beginTrial_j32 i2 w2 (if w2.1 13 i2 = 0 then (0 : Int32) else w2.1 15 i2) := rfl
      refine lv_iload_n hx hb dX1_beginTrial_2 rfl (lv_at hl 1 rfl) ?_
      refine lv_bipush (v := 8) hx hb dX1_beginTrial_3 rfl ?_
      refine n_geF (a := i2) (b := 8) (by omega) (by omega) hx hb dX1_beginTrial_5 (tgt := 39) (by decide) ?_
      refine lv_aload_n hx hb dX1_beginTrial_8 rfl (lv_at hl 0 rfl) ?_
      refine mg_34 hx hb hts hown hK hE dX1_beginTrial_9 ?_
      refine lv_iload_n hx hb dX1_beginTrial_12 rfl (lv_at hl 1 rfl) ?_
      refine lv_aload_n hx hb dX1_beginTrial_13 rfl (lv_at hl 0 rfl) ?_
      refine mg_13 hx hb hts hown hK hE dX1_beginTrial_14 ?_
      refine lv_iload_n hx hb dX1_beginTrial_17 rfl (lv_at hl 1 rfl) ?_
      refine ma_13 (n := i2) (by omega) hx hb hK hE dX1_beginTrial_18 ?_
      have hJ32 : ∀ (w32 : Int32) (hB2 : m_beginTrial_b2 i2 w2 = m_beginTrial_j32 i2 w2 w32), ∀ (H : Heap) (locs : List Loc) (ls : Array Slot), EW D A s.heap (MW m ar cs w2) H locs → lv_has ls 2 [(0, .ref m), (1, .int (nI i2))] → W p l e R s mid args below meth c H locs 0 0 Q (F0 mid 32 ls [.int w32, .int (nI i2), .ref (ar 34)]) := by
        intro w32 hB2 H locs ls hE hl
        have hB2 : m_beginTrial_b2 i2 w2 = (sI w2 34 i2 w32) := hB2
        refine ms_34 (n := i2) (by omega) hx hb hK hE dX1_beginTrial_32 (fun H locs hE => ?_)
        refine n_inc (lv' := [(1, .int (nI (i2 + 1))), (0, .ref m)]) hx hb dX1_beginTrial_33 hl (k := 1) rfl (by decide) rfl (fun ls hl => ?_)
        refine lv_goto (tgt := 2) hx hb dX1_beginTrial_36 (by decide) ?_
        exact ih2 (i2 + 1) (sI w2 34 i2 w32) (by omega) (hR.trans (congrArg (fun z => m_beginTrial_e2 (itR m_beginTrial_b2 (i2 + 1) k z)) hB2)) _ _ _ hE (lv_sub hl [1, 0] rfl)
      refine lv_if_eq (tgt := 31) hx hb dX1_beginTrial_19 (by decide) (fun c19 => ?_) (fun c19 => ?_)
      · have hB2 : m_beginTrial_b2 i2 w2 = m_beginTrial_j32 i2 w2 (0 : Int32) := hB2.trans (congrArg (fun z => m_beginTrial_j32 i2 w2 z) (if_pos c19))
        refine lv_iconst (v := 0) hx hb dX1_beginTrial_31 rfl ?_
        exact hJ32 (0 : Int32)  hB2 _ _ _ hE (lv_sub hl [0, 1] rfl)
      · have hB2 : m_beginTrial_b2 i2 w2 = m_beginTrial_j32 i2 w2 (w2.1 15 i2) := hB2.trans (congrArg (fun z => m_beginTrial_j32 i2 w2 z) (if_neg c19))
        refine lv_aload_n hx hb dX1_beginTrial_22 rfl (lv_at hl 0 rfl) ?_
        refine mg_15 hx hb hts hown hK hE dX1_beginTrial_23 ?_
        refine lv_iload_n hx hb dX1_beginTrial_26 rfl (lv_at hl 1 rfl) ?_
        refine ma_15 (n := i2) (by omega) hx hb hK hE dX1_beginTrial_27 ?_
        refine lv_goto (tgt := 32) hx hb dX1_beginTrial_28 (by decide) ?_
        exact hJ32 (w2.1 15 i2)  hB2 _ _ _ hE (lv_sub hl [0, 1] rfl)
  exact hL2 8 0 Z (by omega) hR _ _ _ hE (lv_sub hl [1, 0] rfl)
section C_beginTrial
variable {p : Program} {l : Launch} {e : Env} {R : Room} {s : State} {mid : MethodId} {args : Array Value} {below : List Frame} {meth : Method} {c : Code} {H : Heap} {locs : List Loc} {Q : State → Prop} {cc : ByteArray} {pc : Nat} {ls : Array Slot} {rest : List Value} {D : va_G} {A : Nat → Prop} {m : Nat} {ar : Nat → Nat} {cs : Nat → ClassId} {Z : ZT} {nL : Nat}
theorem call_m_beginTrial (hx : p.tables.exec = Jvm.exec) (hb : c.code = cc) (hml : c.maxLocals = nL) (hown : s.vm.findClass RX1 = some mid.cls) (hts : ∀ w ∈ lw_all, w.before args s = true) (hK : KK D cs s) (hA : ∀ q : Nat, s.heap.size ≤ q → A q) (hE : EW D A s.heap (MW m ar cs Z) H locs) (hls : ls.size = nL)  (h1 : 1 ≤ R.frames) (h2 : 21 ≤ R.locals) (h3 : (rest.map fun v => v.category).sum ≤ 8) (hd : decode cc pc = .ok (.invokevirtual 243, 3)) (kk : ∀ (H1 : Heap) (locs1 : List Loc), EW D A s.heap (MW m ar cs (m_beginTrial Z)) H1 locs1 → W p l e R s mid args below meth c H1 locs1 0 0 Q (F0 mid (pc + 3) ls (rest))) : W p l e R s mid args below meth c H locs 0 0 Q (F0 mid pc ls (.ref m :: rest)) :=
  gCall_v (As := []) (rest := rest) (q0 := 0) (ci := 1) (fs := MF ar Z) (T' := TX1) (N' := 52) hx hb hml hown hts hK hA hE hls (met_m_beginTrial l D cs m ar Z H.size ) (cwV 0 hts (lw_V q1283 q1285 qs63 q85 q1286) rfl rfl rfl (by decide +kernel) ⟨h1, h2⟩) rfl rfl rfl rfl h3 hd ⟨Nat.zero_le _, Nat.zero_le _⟩ (fun u H1 locs1 hp _ hE => by subst hp; exact kk H1 locs1 hE)
end C_beginTrial
