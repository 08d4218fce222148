/-! the twin: who falls, rims, ranges -/
set_option maxRecDepth 100000
theorem m_has_bt {g : Int32} {b : Nat} (hb : b < 32) : m_has g b = if bt g b = true then 1 else 0 := by
  unfold m_has
  by_cases h : bt g b = true
  · rw [if_pos ((b_sh1_ne g hb).mpr h), if_pos h]
  · rw [if_neg (fun q => h ((b_sh1_ne g hb).mp q)), if_neg h]
theorem m_has_0 {g : Int32} {b : Nat} (hb : b < 32) : m_has g b = 0 ↔ bt g b = false := by
  rw [m_has_bt hb]
  cases bt g b <;> simp
theorem gw_mu (a : Int32) (g : Int32) : (if a = 0 then 0 else 1 + zc g) ≤ 9 := by
  have := zc_le8 g
  split <;> omega
theorem gw_step {g g0 : Int32} {e : Nat} (h : zc g ≤ zc g0) (he : e < 8) (hh : m_has g e = 0) : zc (g ||| ((1 : Int32) <<< (nI e &&& 31))) ≤ zc g0 ∧ ((1 : Int32) = 0 ∨ zc (g ||| ((1 : Int32) <<< (nI e &&& 31))) < zc g0) := by
  have := zc_or he ((m_has_0 (by omega)).mp hh)
  exact ⟨by omega, Or.inr (by omega)⟩
theorem gw_dec {w v : Int32 × Int32} {n : Nat} (hm : (if w.2 = 0 then 0 else 1 + zc w.1) < n + 1) (hc : ¬ w.2 = 0) (hq : zc v.1 ≤ zc w.1 ∧ (v.2 = 0 ∨ zc v.1 < zc w.1)) : (if v.2 = 0 then 0 else 1 + zc v.1) < n := by
  rw [if_neg hc] at hm
  rcases hq with ⟨h1, h2 | h2⟩
  · rw [if_pos h2]
    omega
  · split <;> omega
def m_goneWithout_j59 (w31 : Int32) (w59 : Int32) : Int32 := (w31 ||| w59)
def m_goneWithout_b31 (Z : ZT) (i18 : Nat) (i31 : Nat) (w31 : Int32) : Int32 := m_goneWithout_j59 w31 (if (m_isLink i18 i31 Z) = 0 then (0 : Int32) else ((1 : Int32) <<< ((nI i31) &&& 31)))
def m_goneWithout_j110 (w110 : Int32 × Int32) : Int32 × Int32 := (w110.1, w110.2)
def m_goneWithout_e31 (Z : ZT) (i18 : Nat) (w18 : Int32 × Int32) (w31 : Int32) : Int32 × Int32 := m_goneWithout_j110 (if Z.1 13 i18 = 0 then (w18.1, w18.2) else (if (m_has w18.1 i18) = 0 then (if w31 = 0 then (w18.1, w18.2) else (if (w31 &&& (w18.1 ^^^ (-1 : Int32))) = 0 then ((w18.1 ||| ((1 : Int32) <<< ((nI i18) &&& 31))), (1 : Int32)) else (w18.1, w18.2))) else (w18.1, w18.2)))
def m_goneWithout_b18 (Z : ZT) (i18 : Nat) (w18 : Int32 × Int32) : Int32 × Int32 := m_goneWithout_e31 Z i18 w18 (itR (m_goneWithout_b31 Z i18) 0 8 (0 : Int32))
def m_goneWithout_e18 (w18 : Int32 × Int32) : Bool × (Int32 × Int32) := (true, (w18.1, w18.2))
def m_goneWithout_b9 (Z : ZT) (w9 : Int32 × Int32) : Bool × (Int32 × Int32) := (if w9.2 = 0 then (false, (w9.1, w9.2)) else m_goneWithout_e18 (itR (m_goneWithout_b18 Z) 0 8 (w9.1, (0 : Int32))))
def m_goneWithout_e9 (w9 : Int32 × Int32) : Int32 := w9.1
def m_goneWithout (p1 : Int32) (Z : ZT) : Int32 := m_goneWithout_e9 (wlR (m_goneWithout_b9 Z) 10 ((p1 &&& (m_thereSet Z)), (1 : Int32)))
set_option maxHeartbeats 4000000 in
set_option maxRecDepth 100000 in
theorem met_m_goneWithout (l : Launch) (D : va_G) (cs : Nat → ClassId) (m : Nat) (ar : Nat → Nat) (Z : ZT) (sz : Nat) (p1 : Int32) : Met l yX1_goneWithout (ws_ yX1_goneWithout cX1_goneWithout 7 (some .int)) ({ frames := 1, cells := 0, slots := 0, locals := 22 }) (va_Pc [.ref m, .int p1] (wSt D cs (MW m ar cs Z) sz)) (cQi (fun (v : Int32) (_ : Unit) => m_goneWithout p1 Z = v) D (fun _ => (MW m ar cs Z)) (MW m ar cs Z) sz) 0 0 (va_A (MW m ar cs Z) sz) := by
  refine gStart_i (C := RX1) rfl rfl (Nat.le_of_ble_eq_true rfl) ?_
  intro p e s mid args below meth c R Q A hx hb hml hown hts hK hA hRf hRl hRc hRs hret hE ls hl
  have hRf : 1 ≤ R.frames := hRf
  have hRl : 22 ≤ R.locals := hRl
  have hl : lv_has ls 7 [(0, .ref m), (1, .int p1)] := hl
  have hR : m_goneWithout p1 Z = (m_goneWithout_e9 (wlR (m_goneWithout_b9 Z) 10 ((p1 &&& (m_thereSet Z)), (1 : Int32)))) := rfl
  refine lv_iload_n hx hb dX1_goneWithout_0 rfl (lv_at hl 1 rfl) ?_
  refine lv_aload_n hx hb dX1_goneWithout_1 rfl (lv_at hl 0 rfl) ?_
  refine call_m_thereSet hx hb hml hown hts hK hA hE hl.1 (lz (show 1 ≤ 1 by decide) hRf) (lz (show 22 ≤ 22 by decide) hRl) (Nat.le_of_ble_eq_true rfl) dX1_goneWithout_2 (fun H locs hE => ?_)
  refine lv_iand hx hb dX1_goneWithout_5 ?_
  refine lv_istore_n (lv' := [(2, .int (p1 &&& (m_thereSet Z))), (0, .ref m), (1, .int p1)]) hx hb dX1_goneWithout_6 rfl hl (by decide) rfl (fun ls hl => ?_)
  refine lv_iconst (v := 1) hx hb dX1_goneWithout_7 rfl ?_
  refine lv_istore_n (lv' := [(3, .int (1 : Int32)), (2, .int (p1 &&& (m_thereSet Z))), (0, .ref m), (1, .int p1)]) hx hb dX1_goneWithout_8 rfl hl (by decide) rfl (fun ls hl => ?_)
  have hX9 : ∀ (w9 : Int32 × Int32) (hR : m_goneWithout p1 Z = m_goneWithout_e9 w9), ∀ (H : Heap) (locs : List Loc) (ls : Array Slot), EW D A s.heap (MW m ar cs Z) H locs → lv_has ls 7 [(2, .int w9.1)] → W p l e R s mid args below meth c H locs 0 0 Q (F0 mid 119 ls []) := by
    intro w9 hR H locs ls hE hl
    have hR : m_goneWithout p1 Z = w9.1 := hR
    refine lv_iload_n hx hb dX1_goneWithout_119 rfl (lv_at hl 0 rfl) ?_
    exact hret w9.1 () hR rfl hE (Nat.le_refl 0) (Nat.le_refl 0) dX1_goneWithout_120
  have hL9 : ∀ (n : Nat) (w9 : Int32 × Int32) (hm9 : (if w9.2 = 0 then 0 else 1 + zc w9.1) < n) (hR : m_goneWithout p1 Z = m_goneWithout_e9 (wlR (m_goneWithout_b9 Z) n w9)), ∀ (H : Heap) (locs : List Loc) (ls : Array Slot), EW D A s.heap (MW m ar cs Z) H locs → lv_has ls 7 [(0, .ref m), (2, .int w9.1), (3, .int w9.2)] → W p l e R s mid args below meth c H locs 0 0 Q (F0 mid 9 ls []) := by
    intro n
    induction n with
    | zero =>
      intro w9 hm9
      exact absurd hm9 (Nat.not_lt_zero _)
    | succ n ih9 =>
      intro w9 hm9 hR H locs ls hE hl
      have hB9 : m_goneWithout_b9 Z w9 = (if w9.2 = 0 then (false, (w9.1, w9.2)) else m_goneWithout_e18 (itR (m_goneWithout_b18 Z) 0 8 (w9.1, (0 : Int32)))) := rfl
      refine lv_iload_n hx hb dX1_goneWithout_9 rfl (lv_at hl 2 rfl) ?_
      refine lv_if_eq (tgt := 119) hx hb dX1_goneWithout_10 (by decide) (fun c10 => ?_) (fun c10 => ?_)
      · have hB9 : m_goneWithout_b9 Z w9 = (false, (w9.1, w9.2)) := hB9.trans (congrArg (fun z => z) (if_pos c10))
        exact hX9 (w9.1, w9.2) (hR.trans (congrArg (fun z => m_goneWithout_e9 z) (wl_f hB9))) _ _ _ hE (lv_sub hl [1] rfl)
      · have hB9 : m_goneWithout_b9 Z w9 = (m_goneWithout_e18 (itR (m_goneWithout_b18 Z) 0 8 (w9.1, (0 : Int32)))) := hB9.trans (congrArg (fun z => z) (if_neg c10))
        refine lv_iconst (v := 0) hx hb dX1_goneWithout_13 rfl ?_
        refine lv_istore_n (lv' := [(3, .int (0 : Int32)), (0, .ref m), (2, .int w9.1)]) hx hb dX1_goneWithout_14 rfl hl (by decide) rfl (fun ls hl => ?_)
        refine lv_iconst (v := 0) hx hb dX1_goneWithout_15 rfl ?_
        refine lv_istore (lv' := [(4, .int (0 : Int32)), (3, .int (0 : Int32)), (0, .ref m), (2, .int w9.1)]) hx hb dX1_goneWithout_16 hl (by decide) rfl (fun ls hl => ?_)
        have hL18 : ∀ (k i18 : Nat) (w18 : Int32 × Int32) (hi18 : i18 + k = 8) (hq18 : zc w18.1 ≤ zc w9.1 ∧ (w18.2 = 0 ∨ zc w18.1 < zc w9.1)) (hB9 : m_goneWithout_b9 Z w9 = m_goneWithout_e18 (itR (m_goneWithout_b18 Z) i18 k w18)), ∀ (H : Heap) (locs : List Loc) (ls : Array Slot), EW D A s.heap (MW m ar cs Z) H locs → lv_has ls 7 [(0, .ref m), (2, .int w18.1), (3, .int w18.2), (4, .int (nI i18))] → W p l e R s mid args below meth c H locs 0 0 Q (F0 mid 18 ls []) := by
          intro k
          induction k with
          | zero =>
            intro i18 w18 hi18 hq18 hB9 H locs ls hE hl
            have hie18 : i18 = 8 := by omega
            have hB9 : m_goneWithout_b9 Z w9 = (true, (w18.1, w18.2)) := hB9
            refine lv_iload hx hb dX1_goneWithout_18 (lv_at hl 3 rfl) ?_
            refine lv_bipush (v := 8) hx hb dX1_goneWithout_20 rfl ?_
            refine n_geT (a := i18) (b := 8) (by omega) (by omega) hx hb dX1_goneWithout_22 (tgt := 116) (by decide) ?_
            have hl := lv_sub (l' := [(0, .ref m), (2, .int w18.1), (3, .int w18.2)]) hl [0, 1, 2] rfl
            refine lv_goto (tgt := 9) hx hb dX1_goneWithout_116 (by decide) ?_
            exact ih9 (w18.1, w18.2) (by exact gw_dec hm9 c10 hq18) (hR.trans (congrArg (fun z => m_goneWithout_e9 z) (wl_t hB9))) _ _ _ hE (lv_sub hl [0, 1, 2] rfl)
          | succ k ih18 =>
            intro i18 w18 hi18 hq18 hB9 H locs ls hE hl
            have hlt18 : i18 < 8 := by omega
            have hB18 : m_goneWithout_b18 Z i18 w18 = m_goneWithout_e31 Z i18 w18 (itR (m_goneWithout_b31 Z i18) 0 8 (0 : Int32)) := rfl
            refine lv_iload hx hb dX1_goneWithout_18 (lv_at hl 3 rfl) ?_
            refine lv_bipush (v := 8) hx hb dX1_goneWithout_20 rfl ?_
            refine n_geF (a := i18) (b := 8) (by omega) (by omega) hx hb dX1_goneWithout_22 (tgt := 116) (by decide) ?_
            refine lv_iconst (v := 0) hx hb dX1_goneWithout_25 rfl ?_
            refine lv_istore (lv' := [(5, .int (0 : Int32)), (0, .ref m), (2, .int w18.1), (3, .int w18.2), (4, .int (nI i18))]) hx hb dX1_goneWithout_26 hl (by decide) rfl (fun ls hl => ?_)
            refine lv_iconst (v := 0) hx hb dX1_goneWithout_28 rfl ?_
            refine lv_istore (lv' := [(6, .int (0 : Int32)), (5, .int (0 : Int32)), (0, .ref m), (2, .int w18.1), (3, .int w18.2), (4, .int (nI i18))]) hx hb dX1_goneWithout_29 hl (by decide) rfl (fun ls hl => ?_)
            have hL31 : ∀ (k i31 : Nat) (w31 : Int32) (hi31 : i31 + k = 8) (hB18 : m_goneWithout_b18 Z i18 w18 = m_goneWithout_e31 Z i18 w18 (itR (m_goneWithout_b31 Z i18) i31 k w31)), ∀ (H : Heap) (locs : List Loc) (ls : Array Slot), EW D A s.heap (MW m ar cs Z) H locs → lv_has ls 7 [(0, .ref m), (2, .int w18.1), (3, .int w18.2), (4, .int (nI i18)), (5, .int w31), (6, .int (nI i31))] → W p l e R s mid args below meth c H locs 0 0 Q (F0 mid 31 ls []) := by
              intro k
              induction k with
              | zero =>
                intro i31 w31 hi31 hB18 H locs ls hE hl
                have hie31 : i31 = 8 := by omega
                have hB18 : m_goneWithout_b18 Z i18 w18 = (m_goneWithout_j110 (if Z.1 13 i18 = 0 then (w18.1, w18.2) else (if (m_has w18.1 i18) = 0 then (if w31 = 0 then (w18.1, w18.2) else (if (w31 &&& (w18.1 ^^^ (-1 : Int32))) = 0 then ((w18.1 ||| ((1 : Int32) <<< ((nI i18) &&& 31))), (1 : Int32)) else (w18.1, w18.2))) else (w18.1, w18.2)))) := hB18
                refine lv_iload hx hb dX1_goneWithout_31 (lv_at hl 5 rfl) ?_
                refine lv_bipush (v := 8) hx hb dX1_goneWithout_33 rfl ?_
                refine n_geT (a := i31) (b := 8) (by omega) (by omega) hx hb dX1_goneWithout_35 (tgt := 68) (by decide) ?_
                have hl := lv_sub (l' := [(0, .ref m), (2, .int w18.1), (3, .int w18.2), (4, .int (nI i18)), (5, .int w31)]) hl [0, 1, 2, 3, 4] rfl
                refine lv_aload_n hx hb dX1_goneWithout_68 rfl (lv_at hl 0 rfl) ?_
                refine mg_13 hx hb hts hown hK hE dX1_goneWithout_69 ?_
                refine lv_iload hx hb dX1_goneWithout_72 (lv_at hl 3 rfl) ?_
                refine ma_13 (n := i18) (by omega) hx hb hK hE dX1_goneWithout_74 ?_
                have hJ110 : ∀ (w110 : Int32 × Int32) (hq110 : zc w110.1 ≤ zc w9.1 ∧ (w110.2 = 0 ∨ zc w110.1 < zc w9.1)) (hB18 : m_goneWithout_b18 Z i18 w18 = m_goneWithout_j110 w110), ∀ (H : Heap) (locs : List Loc) (ls : Array Slot), EW D A s.heap (MW m ar cs Z) H locs → lv_has ls 7 [(0, .ref m), (2, .int w110.1), (3, .int w110.2), (4, .int (nI i18))] → W p l e R s mid args below meth c H locs 0 0 Q (F0 mid 110 ls []) := by
                  intro w110 hq110 hB18 H locs ls hE hl
                  have hB18 : m_goneWithout_b18 Z i18 w18 = (w110.1, w110.2) := hB18
                  refine n_inc (lv' := [(4, .int (nI (i18 + 1))), (0, .ref m), (2, .int w110.1), (3, .int w110.2)]) hx hb dX1_goneWithout_110 hl (k := 3) rfl (by decide) rfl (fun ls hl => ?_)
                  refine lv_goto (tgt := 18) hx hb dX1_goneWithout_113 (by decide) ?_
                  exact ih18 (i18 + 1) (w110.1, w110.2) (by omega) (by exact hq110) (hB9.trans (congrArg (fun z => m_goneWithout_e18 (itR (m_goneWithout_b18 Z) (i18 + 1) k z)) hB18)) _ _ _ hE (lv_sub hl [1, 2, 3, 0] rfl)
                refine lv_if_eq (tgt := 110) hx hb dX1_goneWithout_75 (by decide) (fun c75 => ?_) (fun c75 => ?_)
                · have hB18 : m_goneWithout_b18 Z i18 w18 = m_goneWithout_j110 (w18.1, w18.2) := hB18.trans (congrArg (fun z => m_goneWithout_j110 z) (if_pos c75))
                  exact hJ110 (w18.1, w18.2)  (by first | exact hq18 | exact gw_step hq18.1 hlt18 c84) hB18 _ _ _ hE (lv_sub hl [0, 1, 2, 3] rfl)
                · have hB18 : m_goneWithout_b18 Z i18 w18 = m_goneWithout_j110 (if (m_has w18.1 i18) = 0 then (if w31 = 0 then (w18.1, w18.2) else (if (w31 &&& (w18.1 ^^^ (-1 : Int32))) = 0 then ((w18.1 ||| ((1 : Int32) <<< ((nI i18) &&& 31))), (1 : Int32)) else (w18.1, w18.2))) else (w18.1, w18.2)) := hB18.trans (congrArg (fun z => m_goneWithout_j110 z) (if_neg c75))
                  refine lv_iload_n hx hb dX1_goneWithout_78 rfl (lv_at hl 1 rfl) ?_
                  refine lv_iload hx hb dX1_goneWithout_79 (lv_at hl 3 rfl) ?_
                  refine call_m_has hx hb hml hown hts hK hA hE hl.1 w18.1 i18 (lz (show 1 ≤ 1 by decide) hRf) (lz (show 21 ≤ 22 by decide) hRl) (Nat.le_of_ble_eq_true rfl) dX1_goneWithout_81 (fun H locs hE => ?_)
                  refine lv_if_ne (tgt := 110) hx hb dX1_goneWithout_84 (by decide) (fun c84 => ?_) (fun c84 => ?_)
                  · have hB18 : m_goneWithout_b18 Z i18 w18 = m_goneWithout_j110 (w18.1, w18.2) := hB18.trans (congrArg (fun z => m_goneWithout_j110 z) (if_neg c84))
                    exact hJ110 (w18.1, w18.2)  (by first | exact hq18 | exact gw_step hq18.1 hlt18 c84) hB18 _ _ _ hE (lv_sub hl [0, 1, 2, 3] rfl)
                  · have hB18 : m_goneWithout_b18 Z i18 w18 = m_goneWithout_j110 (if w31 = 0 then (w18.1, w18.2) else (if (w31 &&& (w18.1 ^^^ (-1 : Int32))) = 0 then ((w18.1 ||| ((1 : Int32) <<< ((nI i18) &&& 31))), (1 : Int32)) else (w18.1, w18.2))) := hB18.trans (congrArg (fun z => m_goneWithout_j110 z) (if_pos c84))
                    refine lv_iload hx hb dX1_goneWithout_87 (lv_at hl 4 rfl) ?_
                    refine lv_if_eq (tgt := 110) hx hb dX1_goneWithout_89 (by decide) (fun c89 => ?_) (fun c89 => ?_)
                    · have hB18 : m_goneWithout_b18 Z i18 w18 = m_goneWithout_j110 (w18.1, w18.2) := hB18.trans (congrArg (fun z => m_goneWithout_j110 z) (if_pos c89))
                      exact hJ110 (w18.1, w18.2)  (by first | exact hq18 | exact gw_step hq18.1 hlt18 c84) hB18 _ _ _ hE (lv_sub hl [0, 1, 2, 3] rfl)
                    · have hB18 : m_goneWithout_b18 Z i18 w18 = m_goneWithout_j110 (if (w31 &&& (w18.1 ^^^ (-1 : Int32))) = 0 then ((w18.1 ||| ((1 : Int32) <<< ((nI i18) &&& 31))), (1 : Int32)) else (w18.1, w18.2)) := hB18.trans (congrArg (fun z => m_goneWithout_j110 z) (if_neg c89))
                      refine lv_iload hx hb dX1_goneWithout_92 (lv_at hl 4 rfl) ?_
                      refine lv_iload_n hx hb dX1_goneWithout_94 rfl (lv_at hl 1 rfl) ?_
                      refine lv_iconst (v := -1) hx hb dX1_goneWithout_95 rfl ?_
                      refine lv_ixor hx hb dX1_goneWithout_96 ?_
                      refine lv_iand hx hb dX1_goneWithout_97 ?_
                      refine lv_if_ne (tgt := 110) hx hb dX1_goneWithout_98 (by decide) (fun c98 => ?_) (fun c98 => ?_)
                      · have hB18 : m_goneWithout_b18 Z i18 w18 = m_goneWithout_j110 (w18.1, w18.2) := hB18.trans (congrArg (fun z => m_goneWithout_j110 z) (if_neg c98))
                        exact hJ110 (w18.1, w18.2)  (by first | exact hq18 | exact gw_step hq18.1 hlt18 c84) hB18 _ _ _ hE (lv_sub hl [0, 1, 2, 3] rfl)
                      · have hB18 : m_goneWithout_b18 Z i18 w18 = m_goneWithout_j110 ((w18.1 ||| ((1 : Int32) <<< ((nI i18) &&& 31))), (1 : Int32)) := hB18.trans (congrArg (fun z => m_goneWithout_j110 z) (if_pos c98))
                        refine lv_iload_n hx hb dX1_goneWithout_101 rfl (lv_at hl 1 rfl) ?_
                        refine lv_iconst (v := 1) hx hb dX1_goneWithout_102 rfl ?_
                        refine lv_iload hx hb dX1_goneWithout_103 (lv_at hl 3 rfl) ?_
                        refine lv_ishl hx hb dX1_goneWithout_105 ?_
                        refine lv_ior hx hb dX1_goneWithout_106 ?_
                        refine lv_istore_n (lv' := [(2, .int (w18.1 ||| ((1 : Int32) <<< ((nI i18) &&& 31)))), (0, .ref m), (3, .int w18.2), (4, .int (nI i18)), (5, .int w31)]) hx hb dX1_goneWithout_107 rfl hl (by decide) rfl (fun ls hl => ?_)
                        refine lv_iconst (v := 1) hx hb dX1_goneWithout_108 rfl ?_
                        refine lv_istore_n (lv' := [(3, .int (1 : Int32)), (2, .int (w18.1 ||| ((1 : Int32) <<< ((nI i18) &&& 31)))), (0, .ref m), (4, .int (nI i18)), (5, .int w31)]) hx hb dX1_goneWithout_109 rfl hl (by decide) rfl (fun ls hl => ?_)
                        exact hJ110 ((w18.1 ||| ((1 : Int32) <<< ((nI i18) &&& 31))), (1 : Int32))  (by first | exact hq18 | exact gw_step hq18.1 hlt18 c84) hB18 _ _ _ hE (lv_sub hl [2, 1, 0, 3] rfl)
              | succ k ih31 =>
                intro i31 w31 hi31 hB18 H locs ls hE hl
                have hlt31 : i31 < 8 := by omega
                have hB31 : m_goneWithout_b31 Z i18 i31 w31 = m_goneWithout_j59 w31 (if (m_isLink i18 i31 Z) = 0 then (0 : Int32) else ((1 : Int32) <<< ((nI i31) &&& 31))) := rfl
                refine lv_iload hx hb dX1_goneWithout_31 (lv_at hl 5 rfl) ?_
                refine lv_bipush (v := 8) hx hb dX1_goneWithout_33 rfl ?_
                refine n_geF (a := i31) (b := 8) (by omega) (by omega) hx hb dX1_goneWithout_35 (tgt := 68) (by decide) ?_
                refine lv_iload hx hb dX1_goneWithout_38 (lv_at hl 4 rfl) ?_
                refine lv_aload_n hx hb dX1_goneWithout_40 rfl (lv_at hl 0 rfl) ?_
                refine lv_iload hx hb dX1_goneWithout_41 (lv_at hl 3 rfl) ?_
                refine lv_iload hx hb dX1_goneWithout_43 (lv_at hl 5 rfl) ?_
                refine call_m_isLink hx hb hml hown hts hK hA hE hl.1 i18 i31 (by omega) (by omega) (lz (show 1 ≤ 1 by decide) hRf) (lz (show 22 ≤ 22 by decide) hRl) (Nat.le_of_ble_eq_true rfl) dX1_goneWithout_45 (fun H locs hE => ?_)
                have hJ59 : ∀ (w59 : Int32) (hB31 : m_goneWithout_b31 Z i18 i31 w31 = m_goneWithout_j59 w31 w59), ∀ (H : Heap) (locs : List Loc) (ls : Array Slot), EW D A s.heap (MW m ar cs Z) H locs → lv_has ls 7 [(0, .ref m), (2, .int w18.1), (3, .int w18.2), (4, .int (nI i18)), (6, .int (nI i31))] → W p l e R s mid args below meth c H locs 0 0 Q (F0 mid 59 ls [.int w59, .int w31]) := by
                  intro w59 hB31 H locs ls hE hl
                  have hB31 : m_goneWithout_b31 Z i18 i31 w31 = (w31 ||| w59) := hB31
                  refine lv_ior hx hb dX1_goneWithout_59 ?_
                  refine lv_istore (lv' := [(5, .int (w31 ||| w59)), (0, .ref m), (2, .int w18.1), (3, .int w18.2), (4, .int (nI i18)), (6, .int (nI i31))]) hx hb dX1_goneWithout_60 hl (by decide) rfl (fun ls hl => ?_)
                  refine n_inc (lv' := [(6, .int (nI (i31 + 1))), (5, .int (w31 ||| w59)), (0, .ref m), (2, .int w18.1), (3, .int w18.2), (4, .int (nI i18))]) hx hb dX1_goneWithout_62 hl (k := 5) rfl (by decide) rfl (fun ls hl => ?_)
                  refine lv_goto (tgt := 31) hx hb dX1_goneWithout_65 (by decide) ?_
                  exact ih31 (i31 + 1) (w31 ||| w59) (by omega) (hB18.trans (congrArg (fun z => m_goneWithout_e31 Z i18 w18 (itR (m_goneWithout_b31 Z i18) (i31 + 1) k z)) hB31)) _ _ _ hE (lv_sub hl [2, 3, 4, 5, 1, 0] rfl)
                refine lv_if_eq (tgt := 58) hx hb dX1_goneWithout_48 (by decide) (fun c48 => ?_) (fun c48 => ?_)
                · have hB31 : m_goneWithout_b31 Z i18 i31 w31 = m_goneWithout_j59 w31 (0 : Int32) := hB31.trans (congrArg (fun z => m_goneWithout_j59 w31 z) (if_pos c48))
                  refine lv_iconst (v := 0) hx hb dX1_goneWithout_58 rfl ?_
                  exact hJ59 (0 : Int32)  hB31 _ _ _ hE (lv_sub hl [0, 1, 2, 3, 5] rfl)
                · have hB31 : m_goneWithout_b31 Z i18 i31 w31 = m_goneWithout_j59 w31 ((1 : Int32) <<< ((nI i31) &&& 31)) := hB31.trans (congrArg (fun z => m_goneWithout_j59 w31 z) (if_neg c48))
                  refine lv_iconst (v := 1) hx hb dX1_goneWithout_51 rfl ?_
                  refine lv_iload hx hb dX1_goneWithout_52 (lv_at hl 5 rfl) ?_
                  refine lv_ishl hx hb dX1_goneWithout_54 ?_
                  refine lv_goto (tgt := 59) hx hb dX1_goneWithout_55 (by decide) ?_
                  exact hJ59 ((1 : Int32) <<< ((nI i31) &&& 31))  hB31 _ _ _ hE (lv_sub hl [0, 1, 2, 3, 5] rfl)
            exact hL31 8 0 (0 : Int32) (by omega) hB18 _ _ _ hE (lv_sub hl [2, 3, 4, 5, 1, 0] rfl)
        exact hL18 8 0 (w9.1, (0 : Int32)) (by omega) (by exact ⟨Nat.le_refl _, Or.inl rfl⟩) hB9 _ _ _ hE (lv_sub hl [2, 3, 1, 0] rfl)
  exact hL9 10 ((p1 &&& (m_thereSet Z)), (1 : Int32)) (by exact Nat.lt_of_le_of_lt (gw_mu _ _) (by decide)) hR _ _ _ hE (lv_sub hl [2, 1, 0] rfl)
section C_goneWithout
variable {p : Program} {l : Launch} {e : Env} {R : Room} {s : State} {mid : MethodId} {args : Array Value} {below : List Frame} {meth : Method} {c : Code} {H : Heap} {locs : List Loc} {Q : State → Prop} {cc : ByteArray} {pc : Nat} {ls : Array Slot} {rest : List Value} {D : va_G} {A : Nat → Prop} {m : Nat} {ar : Nat → Nat} {cs : Nat → ClassId} {Z : ZT} {nL : Nat}
theorem call_m_goneWithout (hx : p.tables.exec = Jvm.exec) (hb : c.code = cc) (hml : c.maxLocals = nL) (hown : s.vm.findClass RX1 = some mid.cls) (hts : ∀ w ∈ lw_all, w.before args s = true) (hK : KK D cs s) (hA : ∀ q : Nat, s.heap.size ≤ q → A q) (hE : EW D A s.heap (MW m ar cs Z) H locs) (hls : ls.size = nL) (p1 : Int32) (h1 : 2 ≤ R.frames) (h2 : 48 ≤ R.locals) (h3 : (rest.map fun v => v.category).sum ≤ 8) (hd : decode cc pc = .ok (.invokevirtual 255, 3)) (kk : ∀ (H1 : Heap) (locs1 : List Loc), EW D A s.heap (MW m ar cs Z) H1 locs1 → W p l e R s mid args below meth c H1 locs1 0 0 Q (F0 mid (pc + 3) ls (.int (m_goneWithout p1 Z) :: rest))) : W p l e R s mid args below meth c H locs 0 0 Q (F0 mid pc ls (.int p1 :: .ref m :: rest)) :=
  gCall_i (As := [.int p1]) (rest := rest) (q0 := 0) (ci := 1) (fs := MF ar Z) (T' := TX1) (N' := 52) hx hb hml hown hts hK hA hE hls (met_m_goneWithout l D cs m ar Z H.size p1) (cwV 1 hts (lw_V q1303 q1305 qs65 q85 q1306) rfl rfl rfl (by decide +kernel) ⟨h1, h2⟩) rfl rfl rfl rfl h3 hd ⟨Nat.zero_le _, Nat.zero_le _⟩ (fun v u H1 locs1 hp _ hE => by subst hp; exact kk H1 locs1 hE)
end C_goneWithout
def m_without (p1 : Int32) (Z : ZT) : Int32 × ZT := (if (m_in p1 (0 : Int32) (255 : Int32)) = 0 then ((-1 : Int32), Z) else (m_tells (m_goneWithout p1 Z) (m_bitsOf (m_goneWithout p1 Z)) Z))
set_option maxHeartbeats 4000000 in
set_option maxRecDepth 100000 in
theorem met_m_without (l : Launch) (D : va_G) (cs : Nat → ClassId) (m : Nat) (ar : Nat → Nat) (Z : ZT) (sz : Nat) (p1 : Int32) : Met l yX1_without (ws_ yX1_without cX1_without 3 (some .int)) ({ frames := 2, cells := 0, slots := 0, locals := 48 }) (va_Pc [.ref m, .int p1] (wSt D cs (MW m ar cs Z) sz)) (cQi (fun (v : Int32) (u : ZT) => m_without p1 Z = (v, u)) D (fun u => MW m ar cs u) (MW m ar cs Z) sz) 0 0 (va_A (MW m ar cs Z) sz) := by
  refine gStart_i (C := RX1) rfl rfl (Nat.le_of_ble_eq_true rfl) ?_
  intro p e s mid args below meth c R Q A hx hb hml hown hts hK hA hRf hRl hRc hRs hret hE ls hl
  have hRf : 2 ≤ R.frames := hRf
  have hRl : 48 ≤ R.locals := hRl
  have hl : lv_has ls 3 [(0, .ref m), (1, .int p1)] := hl
  have hR : m_without p1 Z = (if (m_in p1 (0 : Int32) (255 : Int32)) = 0 then ((-1 : Int32), Z) else (m_tells (m_goneWithout p1 Z) (m_bitsOf (m_goneWithout p1 Z)) Z)) := rfl
  refine lv_iload_n hx hb dX1_without_0 rfl (lv_at hl 1 rfl) ?_
  refine lv_iconst (v := 0) hx hb dX1_without_1 rfl ?_
  refine lv_sipush (v := 255) hx hb dX1_without_2 rfl ?_
  refine call_m_in hx hb hml hown hts hK hA hE hl.1 p1 (0 : Int32) (255 : Int32) (lz (show 1 ≤ 2 by decide) hRf) (lz (show 22 ≤ 48 by decide) hRl) (Nat.le_of_ble_eq_true rfl) dX1_without_5 (fun H locs hE => ?_)
  refine lv_if_ne (tgt := 13) hx hb dX1_without_8 (by decide) (fun c8 => ?_) (fun c8 => ?_)
  · have hR : m_without p1 Z = (m_tells (m_goneWithout p1 Z) (m_bitsOf (m_goneWithout p1 Z)) Z) := hR.trans (congrArg (fun z => z) (if_neg c8))
    refine lv_aload_n hx hb dX1_without_13 rfl (lv_at hl 0 rfl) ?_
    refine lv_iload_n hx hb dX1_without_14 rfl (lv_at hl 1 rfl) ?_
    refine call_m_goneWithout hx hb hml hown hts hK hA hE hl.1 p1 (lz (show 2 ≤ 2 by decide) hRf) (lz (show 48 ≤ 48 by decide) hRl) (Nat.le_of_ble_eq_true rfl) dX1_without_15 (fun H locs hE => ?_)
    refine lv_istore_n (lv' := [(2, .int (m_goneWithout p1 Z)), (0, .ref m), (1, .int p1)]) hx hb dX1_without_18 rfl hl (by decide) rfl (fun ls hl => ?_)
    refine lv_aload_n hx hb dX1_without_19 rfl (lv_at hl 1 rfl) ?_
    refine lv_iload_n hx hb dX1_without_20 rfl (lv_at hl 0 rfl) ?_
    refine lv_iload_n hx hb dX1_without_21 rfl (lv_at hl 0 rfl) ?_
    refine call_m_bitsOf hx hb hml hown hts hK hA hE hl.1 (m_goneWithout p1 Z) (lz (show 1 ≤ 2 by decide) hRf) (lz (show 22 ≤ 48 by decide) hRl) (Nat.le_of_ble_eq_true rfl) dX1_without_22 (fun H locs hE => ?_)
    refine call_m_tells hx hb hml hown hts hK hA hE hl.1 (m_goneWithout p1 Z) (m_bitsOf (m_goneWithout p1 Z)) (lz (show 1 ≤ 2 by decide) hRf) (lz (show 22 ≤ 48 by decide) hRl) (Nat.le_of_ble_eq_true rfl) dX1_without_25 (fun H locs hE => ?_)
    exact hret ((m_tells (m_goneWithout p1 Z) (m_bitsOf (m_goneWithout p1 Z)) Z).1) ((m_tells (m_goneWithout p1 Z) (m_bitsOf (m_goneWithout p1 Z)) Z).2) hR rfl hE (Nat.le_refl 0) (Nat.le_refl 0) dX1_without_28
  · have hR : m_without p1 Z = ((-1 : Int32), Z) := hR.trans (congrArg (fun z => z) (if_pos c8))
    refine lv_iconst (v := -1) hx hb dX1_without_11 rfl ?_
    exact hret (-1 : Int32) Z hR rfl hE (Nat.le_refl 0) (Nat.le_refl 0) dX1_without_12
def m_worst_j86 (w86 : Int32 × Int32) : Int32 × Int32 := (w86.1, w86.2)
def m_worst_j53 (Z : ZT) (i19 : Nat) (w19 : Int32 × Int32) (w53 : Int32) : Int32 × Int32 := m_worst_j86 (if w53 = 0 then (w19.1, w19.2) else (if (m_bitsOf (m_goneWithout (nI i19) Z)) ≤ w19.2 then (w19.1, w19.2) else (nI i19, (m_bitsOf (m_goneWithout (nI i19) Z)))))
def m_worst_b19 (p1 : Int32) (Z : ZT) (i19 : Nat) (w19 : Int32 × Int32) : Int32 × Int32 := m_worst_j53 Z i19 w19 (if ((nI i19) &&& ((m_thereSet Z) ^^^ (-1 : Int32))) = 0 then (if (m_bitsOf (nI i19)) = p1 then (1 : Int32) else (0 : Int32)) else (0 : Int32))
def m_worst_e19 (Z : ZT) (w19 : Int32 × Int32) : Int32 × ZT := (if w19.1 = (-9 : Int32) then ((-9 : Int32), Z) else (m_tells w19.2 w19.1 Z))
def m_worst (p1 : Int32) (Z : ZT) : Int32 × ZT := (if (m_in p1 (0 : Int32) (4 : Int32)) = 0 then ((-1 : Int32), Z) else m_worst_e19 Z (itR (m_worst_b19 p1 Z) 0 256 ((-9 : Int32), (-1 : Int32))))
set_option maxHeartbeats 4000000 in
set_option maxRecDepth 100000 in
theorem met_m_worst (l : Launch) (D : va_G) (cs : Nat → ClassId) (m : Nat) (ar : Nat → Nat) (Z : ZT) (sz : Nat) (p1 : Int32) : Met l yX1_worst (ws_ yX1_worst cX1_worst 6 (some .int)) ({ frames := 2, cells := 0, slots := 0, locals := 48 }) (va_Pc [.ref m, .int p1] (wSt D cs (MW m ar cs Z) sz)) (cQi (fun (v : Int32) (u : ZT) => m_worst p1 Z = (v, u)) D (fun u => MW m ar cs u) (MW m ar cs Z) sz) 0 0 (va_A (MW m ar cs Z) sz) := by
  refine gStart_i (C := RX1) rfl rfl (Nat.le_of_ble_eq_true rfl) ?_
  intro p e s mid args below meth c R Q A hx hb hml hown hts hK hA hRf hRl hRc hRs hret hE ls hl
  have hRf : 2 ≤ R.frames := hRf
  have hRl : 48 ≤ R.locals := hRl
  have hl : lv_has ls 6 [(0, .ref m), (1, .int p1)] := hl
  have hR : m_worst p1 Z = (if (m_in p1 (0 : Int32) (4 : Int32)) = 0 then ((-1 : Int32), Z) else m_worst_e19 Z (itR (m_worst_b19 p1 Z) 0 256 ((-9 : Int32), (-1 : Int32)))) := rfl
  refine lv_iload_n hx hb dX1_worst_0 rfl (lv_at hl 1 rfl) ?_
  refine lv_iconst (v := 0) hx hb dX1_worst_1 rfl ?_
  refine lv_iconst (v := 4) hx hb dX1_worst_2 rfl ?_
  refine call_m_in hx hb hml hown hts hK hA hE hl.1 p1 (0 : Int32) (4 : Int32) (lz (show 1 ≤ 2 by decide) hRf) (lz (show 22 ≤ 48 by decide) hRl) (Nat.le_of_ble_eq_true rfl) dX1_worst_3 (fun H locs hE => ?_)
  refine lv_if_ne (tgt := 11) hx hb dX1_worst_6 (by decide) (fun c6 => ?_) (fun c6 => ?_)
  · have hR : m_worst p1 Z = (m_worst_e19 Z (itR (m_worst_b19 p1 Z) 0 256 ((-9 : Int32), (-1 : Int32)))) := hR.trans (congrArg (fun z => z) (if_neg c6))
    refine lv_bipush (v := -9) hx hb dX1_worst_11 rfl ?_
    refine lv_istore_n (lv' := [(2, .int (-9 : Int32)), (0, .ref m), (1, .int p1)]) hx hb dX1_worst_13 rfl hl (by decide) rfl (fun ls hl => ?_)
    refine lv_iconst (v := -1) hx hb dX1_worst_14 rfl ?_
    refine lv_istore_n (lv' := [(3, .int (-1 : Int32)), (2, .int (-9 : Int32)), (0, .ref m), (1, .int p1)]) hx hb dX1_worst_15 rfl hl (by decide) rfl (fun ls hl => ?_)
    refine lv_iconst (v := 0) hx hb dX1_worst_16 rfl ?_
    refine lv_istore (lv' := [(4, .int (0 : Int32)), (3, .int (-1 : Int32)), (2, .int (-9 : Int32)), (0, .ref m), (1, .int p1)]) hx hb dX1_worst_17 hl (by decide) rfl (fun ls hl => ?_)
    have hL19 : ∀ (k i19 : Nat) (w19 : Int32 × Int32) (hi19 : i19 + k = 256) (hR : m_worst p1 Z = m_worst_e19 Z (itR (m_worst_b19 p1 Z) i19 k w19)), ∀ (H : Heap) (locs : List Loc) (ls : Array Slot), EW D A s.heap (MW m ar cs Z) H locs → lv_has ls 6 [(0, .ref m), (1, .int p1), (2, .int w19.1), (3, .int w19.2), (4, .int (nI i19))] → W p l e R s mid args below meth c H locs 0 0 Q (F0 mid 19 ls []) := by
      intro k
      induction k with
      | zero =>
        intro i19 w19 hi19 hR H locs ls hE hl
        have hie19 : i19 = 256 := by omega
        have hR : m_worst p1 Z = (if w19.1 = (-9 : Int32) then ((-9 : Int32), Z) else (m_tells w19.2 w19.1 Z)) := hR
        refine lv_iload hx hb dX1_worst_19 (lv_at hl 4 rfl) ?_
        refine lv_sipush (v := 256) hx hb dX1_worst_21 rfl ?_
        refine n_geT (a := i19) (b := 256) (by omega) (by omega) hx hb dX1_worst_24 (tgt := 92) (by decide) ?_
        have hl := lv_sub (l' := [(0, .ref m), (1, .int p1), (2, .int w19.1), (3, .int w19.2)]) hl [0, 1, 2, 3] rfl
        refine lv_iload_n hx hb dX1_worst_92 rfl (lv_at hl 2 rfl) ?_
        refine lv_bipush (v := -9) hx hb dX1_worst_93 rfl ?_
        refine lv_icmp_ne (tgt := 103) hx hb dX1_worst_95 (by decide) (fun c95 => ?_) (fun c95 => ?_)
        · have hR : m_worst p1 Z = (m_tells w19.2 w19.1 Z) := hR.trans (congrArg (fun z => z) (if_neg c95))
          refine lv_aload_n hx hb dX1_worst_103 rfl (lv_at hl 0 rfl) ?_
          refine lv_iload_n hx hb dX1_worst_104 rfl (lv_at hl 3 rfl) ?_
          refine lv_iload_n hx hb dX1_worst_105 rfl (lv_at hl 2 rfl) ?_
          refine call_m_tells hx hb hml hown hts hK hA hE hl.1 w19.2 w19.1 (lz (show 1 ≤ 2 by decide) hRf) (lz (show 22 ≤ 48 by decide) hRl) (Nat.le_of_ble_eq_true rfl) dX1_worst_106 (fun H locs hE => ?_)
          exact hret ((m_tells w19.2 w19.1 Z).1) ((m_tells w19.2 w19.1 Z).2) hR rfl hE (Nat.le_refl 0) (Nat.le_refl 0) dX1_worst_109
        · have hR : m_worst p1 Z = ((-9 : Int32), Z) := hR.trans (congrArg (fun z => z) (if_pos c95))
          refine lv_bipush (v := -9) hx hb dX1_worst_98 rfl ?_
          refine lv_goto (tgt := 109) hx hb dX1_worst_100 (by decide) ?_
          exact hret (-9 : Int32) Z hR rfl hE (Nat.le_refl 0) (Nat.le_refl 0) dX1_worst_109
      | succ k ih19 =>
        intro i19 w19 hi19 hR H locs ls hE hl
        have hlt19 : i19 < 256 := by omega
        have hB19 : m_worst_b19 p1 Z i19 w19 = m_worst_j53 Z i19 w19 (if ((nI i19) &&& ((m_thereSet Z) ^^^ (-1 : Int32))) = 0 then (if (m_bitsOf (nI i19)) = p1 then (1 : Int32) else (0 : Int32)) else (0 : Int32)) := rfl
        refine lv_iload hx hb dX1_worst_19 (lv_at hl 4 rfl) ?_
        refine lv_sipush (v := 256) hx hb dX1_worst_21 rfl ?_
        refine n_geF (a := i19) (b := 256) (by omega) (by omega) hx hb dX1_worst_24 (tgt := 92) (by decide) ?_
        refine lv_iload hx hb dX1_worst_27 (lv_at hl 4 rfl) ?_
        refine lv_aload_n hx hb dX1_worst_29 rfl (lv_at hl 0 rfl) ?_
        refine call_m_thereSet hx hb hml hown hts hK hA hE hl.1 (lz (show 1 ≤ 2 by decide) hRf) (lz (show 22 ≤ 48 by decide) hRl) (Nat.le_of_ble_eq_true rfl) dX1_worst_30 (fun H locs hE => ?_)
        refine lv_iconst (v := -1) hx hb dX1_worst_33 rfl ?_
        refine lv_ixor hx hb dX1_worst_34 ?_
        refine lv_iand hx hb dX1_worst_35 ?_
        have hJ53 : ∀ (w53 : Int32) (hB19 : m_worst_b19 p1 Z i19 w19 = m_worst_j53 Z i19 w19 w53), ∀ (H : Heap) (locs : List Loc) (ls : Array Slot), EW D A s.heap (MW m ar cs Z) H locs → lv_has ls 6 [(0, .ref m), (1, .int p1), (2, .int w19.1), (3, .int w19.2), (4, .int (nI i19))] → W p l e R s mid args below meth c H locs 0 0 Q (F0 mid 53 ls [.int w53]) := by
          intro w53 hB19 H locs ls hE hl
          have hB19 : m_worst_b19 p1 Z i19 w19 = (m_worst_j86 (if w53 = 0 then (w19.1, w19.2) else (if (m_bitsOf (m_goneWithout (nI i19) Z)) ≤ w19.2 then (w19.1, w19.2) else (nI i19, (m_bitsOf (m_goneWithout (nI i19) Z)))))) := hB19
          refine lv_istore (lv' := [(5, .int w53), (0, .ref m), (1, .int p1), (2, .int w19.1), (3, .int w19.2), (4, .int (nI i19))]) hx hb dX1_worst_53 hl (by decide) rfl (fun ls hl => ?_)
          refine lv_iload hx hb dX1_worst_55 (lv_at hl 0 rfl) ?_
          have hJ86 : ∀ (w86 : Int32 × Int32) (hB19 : m_worst_b19 p1 Z i19 w19 = m_worst_j86 w86), ∀ (H : Heap) (locs : List Loc) (ls : Array Slot), EW D A s.heap (MW m ar cs Z) H locs → lv_has ls 6 [(0, .ref m), (1, .int p1), (2, .int w86.1), (3, .int w86.2), (4, .int (nI i19))] → W p l e R s mid args below meth c H locs 0 0 Q (F0 mid 86 ls []) := by
            intro w86 hB19 H locs ls hE hl
            have hB19 : m_worst_b19 p1 Z i19 w19 = (w86.1, w86.2) := hB19
            refine n_inc (lv' := [(4, .int (nI (i19 + 1))), (0, .ref m), (1, .int p1), (2, .int w86.1), (3, .int w86.2)]) hx hb dX1_worst_86 hl (k := 4) rfl (by decide) rfl (fun ls hl => ?_)
            refine lv_goto (tgt := 19) hx hb dX1_worst_89 (by decide) ?_
            exact ih19 (i19 + 1) (w86.1, w86.2) (by omega) (hR.trans (congrArg (fun z => m_worst_e19 Z (itR (m_worst_b19 p1 Z) (i19 + 1) k z)) hB19)) _ _ _ hE (lv_sub hl [1, 2, 3, 4, 0] rfl)
          refine lv_if_eq (tgt := 86) hx hb dX1_worst_57 (by decide) (fun c57 => ?_) (fun c57 => ?_)
          · have hB19 : m_worst_b19 p1 Z i19 w19 = m_worst_j86 (w19.1, w19.2) := hB19.trans (congrArg (fun z => m_worst_j86 z) (if_pos c57))
            exact hJ86 (w19.1, w19.2)  hB19 _ _ _ hE (lv_sub hl [1, 2, 3, 4, 5] rfl)
          · have hB19 : m_worst_b19 p1 Z i19 w19 = m_worst_j86 (if (m_bitsOf (m_goneWithout (nI i19) Z)) ≤ w19.2 then (w19.1, w19.2) else (nI i19, (m_bitsOf (m_goneWithout (nI i19) Z)))) := hB19.trans (congrArg (fun z => m_worst_j86 z) (if_neg c57))
            refine lv_aload_n hx hb dX1_worst_60 rfl (lv_at hl 1 rfl) ?_
            refine lv_iload hx hb dX1_worst_61 (lv_at hl 5 rfl) ?_
            refine call_m_goneWithout hx hb hml hown hts hK hA hE hl.1 (nI i19) (lz (show 2 ≤ 2 by decide) hRf) (lz (show 48 ≤ 48 by decide) hRl) (Nat.le_of_ble_eq_true rfl) dX1_worst_63 (fun H locs hE => ?_)
            refine call_m_bitsOf hx hb hml hown hts hK hA hE hl.1 (m_goneWithout (nI i19) Z) (lz (show 1 ≤ 2 by decide) hRf) (lz (show 22 ≤ 48 by decide) hRl) (Nat.le_of_ble_eq_true rfl) dX1_worst_66 (fun H locs hE => ?_)
            refine lv_iload_n hx hb dX1_worst_69 rfl (lv_at hl 4 rfl) ?_
            refine lv_icmp_le (tgt := 86) hx hb dX1_worst_70 (by decide) (fun c70 => ?_) (fun c70 => ?_)
            · have hB19 : m_worst_b19 p1 Z i19 w19 = m_worst_j86 (w19.1, w19.2) := hB19.trans (congrArg (fun z => m_worst_j86 z) (if_pos c70))
              exact hJ86 (w19.1, w19.2)  hB19 _ _ _ hE (lv_sub hl [1, 2, 3, 4, 5] rfl)
            · have hB19 : m_worst_b19 p1 Z i19 w19 = m_worst_j86 (nI i19, (m_bitsOf (m_goneWithout (nI i19) Z))) := hB19.trans (congrArg (fun z => m_worst_j86 z) (if_neg c70))
              refine lv_iload hx hb dX1_worst_73 (lv_at hl 5 rfl) ?_
              refine lv_istore_n (lv' := [(2, .int (nI i19)), (5, .int w53), (0, .ref m), (1, .int p1), (3, .int w19.2), (4, .int (nI i19))]) hx hb dX1_worst_75 rfl hl (by decide) rfl (fun ls hl => ?_)
              refine lv_aload_n hx hb dX1_worst_76 rfl (lv_at hl 2 rfl) ?_
              refine lv_iload hx hb dX1_worst_77 (lv_at hl 5 rfl) ?_
              refine call_m_goneWithout hx hb hml hown hts hK hA hE hl.1 (nI i19) (lz (show 2 ≤ 2 by decide) hRf) (lz (show 48 ≤ 48 by decide) hRl) (Nat.le_of_ble_eq_true rfl) dX1_worst_79 (fun H locs hE => ?_)
              refine call_m_bitsOf hx hb hml hown hts hK hA hE hl.1 (m_goneWithout (nI i19) Z) (lz (show 1 ≤ 2 by decide) hRf) (lz (show 22 ≤ 48 by decide) hRl) (Nat.le_of_ble_eq_true rfl) dX1_worst_82 (fun H locs hE => ?_)
              refine lv_istore_n (lv' := [(3, .int (m_bitsOf (m_goneWithout (nI i19) Z))), (2, .int (nI i19)), (5, .int w53), (0, .ref m), (1, .int p1), (4, .int (nI i19))]) hx hb dX1_worst_85 rfl hl (by decide) rfl (fun ls hl => ?_)
              exact hJ86 (nI i19, (m_bitsOf (m_goneWithout (nI i19) Z)))  hB19 _ _ _ hE (lv_sub hl [3, 4, 1, 0, 5] rfl)
        refine lv_if_ne (tgt := 52) hx hb dX1_worst_36 (by decide) (fun c36 => ?_) (fun c36 => ?_)
        · have hB19 : m_worst_b19 p1 Z i19 w19 = m_worst_j53 Z i19 w19 (0 : Int32) := hB19.trans (congrArg (fun z => m_worst_j53 Z i19 w19 z) (if_neg c36))
          refine lv_iconst (v := 0) hx hb dX1_worst_52 rfl ?_
          exact hJ53 (0 : Int32)  hB19 _ _ _ hE (lv_sub hl [0, 1, 2, 3, 4] rfl)
        · have hB19 : m_worst_b19 p1 Z i19 w19 = m_worst_j53 Z i19 w19 (if (m_bitsOf (nI i19)) = p1 then (1 : Int32) else (0 : Int32)) := hB19.trans (congrArg (fun z => m_worst_j53 Z i19 w19 z) (if_pos c36))
          refine lv_iload hx hb dX1_worst_39 (lv_at hl 4 rfl) ?_
          refine call_m_bitsOf hx hb hml hown hts hK hA hE hl.1 (nI i19) (lz (show 1 ≤ 2 by decide) hRf) (lz (show 22 ≤ 48 by decide) hRl) (Nat.le_of_ble_eq_true rfl) dX1_worst_41 (fun H locs hE => ?_)
          refine lv_iload_n hx hb dX1_worst_44 rfl (lv_at hl 1 rfl) ?_
          refine lv_icmp_ne (tgt := 52) hx hb dX1_worst_45 (by decide) (fun c45 => ?_) (fun c45 => ?_)
          · have hB19 : m_worst_b19 p1 Z i19 w19 = m_worst_j53 Z i19 w19 (0 : Int32) := hB19.trans (congrArg (fun z => m_worst_j53 Z i19 w19 z) (if_neg c45))
            refine lv_iconst (v := 0) hx hb dX1_worst_52 rfl ?_
            exact hJ53 (0 : Int32)  hB19 _ _ _ hE (lv_sub hl [0, 1, 2, 3, 4] rfl)
          · have hB19 : m_worst_b19 p1 Z i19 w19 = m_worst_j53 Z i19 w19 (1 : Int32) := hB19.trans (congrArg (fun z => m_worst_j53 Z i19 w19 z) (if_pos c45))
            refine lv_iconst (v := 1) hx hb dX1_worst_48 rfl ?_
            refine lv_goto (tgt := 53) hx hb dX1_worst_49 (by decide) ?_
            exact hJ53 (1 : Int32)  hB19 _ _ _ hE (lv_sub hl [0, 1, 2, 3, 4] rfl)
    exact hL19 256 0 ((-9 : Int32), (-1 : Int32)) (by omega) hR _ _ _ hE (lv_sub hl [3, 4, 2, 1, 0] rfl)
  · have hR : m_worst p1 Z = ((-1 : Int32), Z) := hR.trans (congrArg (fun z => z) (if_pos c6))
    refine lv_iconst (v := -1) hx hb dX1_worst_9 rfl ?_
    exact hret (-1 : Int32) Z hR rfl hE (Nat.le_refl 0) (Nat.le_refl 0) dX1_worst_10
def m_needs_c4 (p1 : Int32) (p2 : Int32) (wc4 : Int32 × ZT) : Int32 × ZT := (if 0 ≤ wc4.1 then (if (ix p1) = (ix p2) then ((0 : Int32), wc4.2) else (if (m_has (m_goneWithout ((1 : Int32) <<< ((nI (ix p2)) &&& 31)) wc4.2) (ix p1)) = 0 then ((0 : Int32), wc4.2) else ((1 : Int32), wc4.2))) else (wc4.1, wc4.2))
def m_needs (p1 : Int32) (p2 : Int32) (Z : ZT) : Int32 × ZT := m_needs_c4 p1 p2 (m_needTwo (1 : Int32) p1 p2 Z)
set_option maxHeartbeats 4000000 in
set_option maxRecDepth 100000 in
theorem met_m_needs (l : Launch) (D : va_G) (cs : Nat → ClassId) (m : Nat) (ar : Nat → Nat) (Z : ZT) (sz : Nat) (p1 : Int32) (p2 : Int32) : Met l yX1_needs (ws_ yX1_needs cX1_needs 4 (some .int)) ({ frames := 3, cells := 0, slots := 0, locals := 65 }) (va_Pc [.ref m, .int p1, .int p2] (wSt D cs (MW m ar cs Z) sz)) (cQi (fun (v : Int32) (u : ZT) => m_needs p1 p2 Z = (v, u)) D (fun u => MW m ar cs u) (MW m ar cs Z) sz) 0 0 (va_A (MW m ar cs Z) sz) := by
  refine gStart_i (C := RX1) rfl rfl (Nat.le_of_ble_eq_true rfl) ?_
  intro p e s mid args below meth c R Q A hx hb hml hown hts hK hA hRf hRl hRc hRs hret hE ls hl
  have hRf : 3 ≤ R.frames := hRf
  have hRl : 65 ≤ R.locals := hRl
  have hl : lv_has ls 4 [(0, .ref m), (1, .int p1), (2, .int p2)] := hl
  have hR : m_needs p1 p2 Z = (m_needs_c4 p1 p2 (m_needTwo (1 : Int32) p1 p2 Z)) := rfl
  refine lv_aload_n hx hb dX1_needs_0 rfl (lv_at hl 0 rfl) ?_
  refine lv_iconst (v := 1) hx hb dX1_needs_1 rfl ?_
  refine lv_iload_n hx hb dX1_needs_2 rfl (lv_at hl 1 rfl) ?_
  refine lv_iload_n hx hb dX1_needs_3 rfl (lv_at hl 2 rfl) ?_
  refine call_m_needTwo hx hb hml hown hts hK hA hE hl.1 (1 : Int32) p1 p2 (lz (show 3 ≤ 3 by decide) hRf) (lz (show 65 ≤ 65 by decide) hRl) (Nat.le_of_ble_eq_true rfl) dX1_needs_4 (fun H locs hE => ?_)
  have hNc4 : ∀ (wc4 : Int32 × ZT) (hewc4 : wc4 = m_needTwo (1 : Int32) p1 p2 Z) (hR : m_needs p1 p2 Z = m_needs_c4 p1 p2 wc4), ∀ (H : Heap) (locs : List Loc) (ls : Array Slot), EW D A s.heap (MW m ar cs wc4.2) H locs → lv_has ls 4 [(0, .ref m), (1, .int p1), (2, .int p2)] → W p l e R s mid args below meth c H locs 0 0 Q (F0 mid 7 ls [.int wc4.1]) := by
    intro wc4 hewc4 hR H locs ls hE hl
    have hR : m_needs p1 p2 Z = (if 0 ≤ wc4.1 then (if (ix p1) = (ix p2) then ((0 : Int32), wc4.2) else (if (m_has (m_goneWithout ((1 : Int32) <<< ((nI (ix p2)) &&& 31)) wc4.2) (ix p1)) = 0 then ((0 : Int32), wc4.2) else ((1 : Int32), wc4.2))) else (wc4.1, wc4.2)) := hR
    refine lv_istore_n (lv' := [(3, .int wc4.1), (0, .ref m), (1, .int p1), (2, .int p2)]) hx hb dX1_needs_7 rfl hl (by decide) rfl (fun ls hl => ?_)
    refine lv_iload_n hx hb dX1_needs_8 rfl (lv_at hl 0 rfl) ?_
    refine lv_if_ge (tgt := 16) hx hb dX1_needs_9 (by decide) (fun c9 => ?_) (fun c9 => ?_)
    · have hR : m_needs p1 p2 Z = (if (ix p1) = (ix p2) then ((0 : Int32), wc4.2) else (if (m_has (m_goneWithout ((1 : Int32) <<< ((nI (ix p2)) &&& 31)) wc4.2) (ix p1)) = 0 then ((0 : Int32), wc4.2) else ((1 : Int32), wc4.2))) := hR.trans (congrArg (fun z => z) (if_pos c9))
      have hnp1 := vp_ix (x := p1) (N := 8) ((needTwo_ok (by rw [← hewc4]; exact c9)).1) (by decide)
      have hbnp1 := hnp1.2
      have hnp2 := vp_ix (x := p2) (N := 8) ((needTwo_ok (by rw [← hewc4]; exact c9)).2.1) (by decide)
      have hbnp2 := hnp2.2
      refine lv_iload_n hx hb dX1_needs_16 rfl (lv_at hl 2 rfl) ?_
      refine top_nat hnp1.1 ?_
      refine lv_iload_n hx hb dX1_needs_17 rfl (lv_at hl 3 rfl) ?_
      refine top_nat hnp2.1 ?_
      refine n_icmp_eq (a := (ix p1)) (b := (ix p2)) (tgt := 39) (by omega) (by omega) hx hb dX1_needs_18 (by decide) (fun c18 => ?_) (fun c18 => ?_)
      · have hR : m_needs p1 p2 Z = ((0 : Int32), wc4.2) := hR.trans (congrArg (fun z => z) (if_pos c18))
        refine lv_iconst (v := 0) hx hb dX1_needs_39 rfl ?_
        exact hret (0 : Int32) wc4.2 hR rfl hE (Nat.le_refl 0) (Nat.le_refl 0) dX1_needs_40
      · have hR : m_needs p1 p2 Z = (if (m_has (m_goneWithout ((1 : Int32) <<< ((nI (ix p2)) &&& 31)) wc4.2) (ix p1)) = 0 then ((0 : Int32), wc4.2) else ((1 : Int32), wc4.2)) := hR.trans (congrArg (fun z => z) (if_neg c18))
        refine lv_aload_n hx hb dX1_needs_21 rfl (lv_at hl 1 rfl) ?_
        refine lv_iconst (v := 1) hx hb dX1_needs_22 rfl ?_
        refine lv_iload_n hx hb dX1_needs_23 rfl (lv_at hl 3 rfl) ?_
        refine top_nat hnp2.1 ?_
        refine lv_ishl hx hb dX1_needs_24 ?_
        refine call_m_goneWithout hx hb hml hown hts hK hA hE hl.1 ((1 : Int32) <<< ((nI (ix p2)) &&& 31)) (lz (show 2 ≤ 3 by decide) hRf) (lz (show 48 ≤ 65 by decide) hRl) (Nat.le_of_ble_eq_true rfl) dX1_needs_25 (fun H locs hE => ?_)
        refine lv_iload_n hx hb dX1_needs_28 rfl (lv_at hl 2 rfl) ?_
        refine top_nat hnp1.1 ?_
        refine call_m_has hx hb hml hown hts hK hA hE hl.1 (m_goneWithout ((1 : Int32) <<< ((nI (ix p2)) &&& 31)) wc4.2) (ix p1) (lz (show 1 ≤ 3 by decide) hRf) (lz (show 21 ≤ 65 by decide) hRl) (Nat.le_of_ble_eq_true rfl) dX1_needs_29 (fun H locs hE => ?_)
        refine lv_if_eq (tgt := 39) hx hb dX1_needs_32 (by decide) (fun c32 => ?_) (fun c32 => ?_)
        · have hR : m_needs p1 p2 Z = ((0 : Int32), wc4.2) := hR.trans (congrArg (fun z => z) (if_pos c32))
          refine lv_iconst (v := 0) hx hb dX1_needs_39 rfl ?_
          exact hret (0 : Int32) wc4.2 hR rfl hE (Nat.le_refl 0) (Nat.le_refl 0) dX1_needs_40
        · have hR : m_needs p1 p2 Z = ((1 : Int32), wc4.2) := hR.trans (congrArg (fun z => z) (if_neg c32))
          refine lv_iconst (v := 1) hx hb dX1_needs_35 rfl ?_
          refine lv_goto (tgt := 40) hx hb dX1_needs_36 (by decide) ?_
          exact hret (1 : Int32) wc4.2 hR rfl hE (Nat.le_refl 0) (Nat.le_refl 0) dX1_needs_40
    · have hR : m_needs p1 p2 Z = (wc4.1, wc4.2) := hR.trans (congrArg (fun z => z) (if_neg c9))
      refine lv_iload_n hx hb dX1_needs_12 rfl (lv_at hl 0 rfl) ?_
      refine lv_goto (tgt := 40) hx hb dX1_needs_13 (by decide) ?_
      exact hret wc4.1 wc4.2 hR rfl hE (Nat.le_refl 0) (Nat.le_refl 0) dX1_needs_40
  exact hNc4 (m_needTwo (1 : Int32) p1 p2 Z) rfl hR _ _ _ hE (lv_sub hl [0, 1, 2] rfl)
def m_rung_j53 (w18 : Int32) (w53 : Int32) : Int32 := (w18 ||| w53)
def m_rung_b18 (wc3 : Int32 × ZT) (i18 : Nat) (w18 : Int32) : Int32 := m_rung_j53 w18 (if wc3.2.1 13 i18 = 0 then (0 : Int32) else (if (m_eats i18 wc3.2) = 0 then ((1 : Int32) <<< ((nI i18) &&& 31)) else (0 : Int32)))
def m_rung_j135 (w98 : Int32) (w135 : Int32) : Int32 := (w98 ||| w135)
def m_rung_b98 (wc3 : Int32 × ZT) (w64 : Int32 × Nat) (i88 : Nat) (i98 : Nat) (w98 : Int32) : Int32 := m_rung_j135 w98 (if (m_isLink i88 i98 wc3.2) = 0 then (0 : Int32) else (if (m_has w64.1 i98) = 0 then (0 : Int32) else ((1 : Int32) <<< ((nI i88) &&& 31))))
def m_rung_e98 (w98 : Int32) : Int32 := w98
def m_rung_b88 (wc3 : Int32 × ZT) (w64 : Int32 × Nat) (i88 : Nat) (w88 : Int32) : Int32 := m_rung_e98 (itR (m_rung_b98 wc3 w64 i88) 0 8 w88)
def m_rung_e88 (w64 : Int32 × Nat) (w88 : Int32) : (Int32 × ZT) ⊕ (Bool × (Int32 × Nat)) := (.inr (true, (w88, (w64.2 + 1))))
def m_rung_b64 (p1 : Int32) (wc3 : Int32 × ZT) (w64 : Int32 × Nat) : (Int32 × ZT) ⊕ (Bool × (Int32 × Nat)) := (if 8 < w64.2 then (.inr (false, (w64.1, w64.2))) else (if (m_has w64.1 (ix p1)) = 0 then m_rung_e88 w64 (itR (m_rung_b88 wc3 w64) 0 8 w64.1) else (.inl (nI w64.2, wc3.2))))
def m_rung_e64 (wc3 : Int32 × ZT) (w64 : Int32 × Nat) : Int32 × ZT := ((-9 : Int32), wc3.2)
def m_rung_e18 (p1 : Int32) (wc3 : Int32 × ZT) (w18 : Int32) : Int32 × ZT := wrR (m_rung_b64 p1 wc3) (m_rung_e64 wc3) 10 (w18, 0)
def m_rung_c3 (p1 : Int32) (wc3 : Int32 × ZT) : Int32 × ZT := (if 0 ≤ wc3.1 then m_rung_e18 p1 wc3 (itR (m_rung_b18 wc3) 0 8 (0 : Int32)) else (wc3.1, wc3.2))
def m_rung (p1 : Int32) (Z : ZT) : Int32 × ZT := m_rung_c3 p1 (m_need (1 : Int32) p1 Z)
set_option maxHeartbeats 4000000 in
set_option maxRecDepth 100000 in
theorem met_m_rung (l : Launch) (D : va_G) (cs : Nat → ClassId) (m : Nat) (ar : Nat → Nat) (Z : ZT) (sz : Nat) (p1 : Int32) : Met l yX1_rung (ws_ yX1_rung cX1_rung 8 (some .int)) ({ frames := 3, cells := 0, slots := 0, locals := 64 }) (va_Pc [.ref m, .int p1] (wSt D cs (MW m ar cs Z) sz)) (cQi (fun (v : Int32) (u : ZT) => m_rung p1 Z = (v, u)) D (fun u => MW m ar cs u) (MW m ar cs Z) sz) 0 0 (va_A (MW m ar cs Z) sz) := by
  refine gStart_i (C := RX1) rfl rfl (Nat.le_of_ble_eq_true rfl) ?_
  intro p e s mid args below meth c R Q A hx hb hml hown hts hK hA hRf hRl hRc hRs hret hE ls hl
  have hRf : 3 ≤ R.frames := hRf
  have hRl : 64 ≤ R.locals := hRl
  have hl : lv_has ls 8 [(0, .ref m), (1, .int p1)] := hl
  have hR : m_rung p1 Z = (m_rung_c3 p1 (m_need (1 : Int32) p1 Z)) := rfl
  refine lv_aload_n hx hb dX1_rung_0 rfl (lv_at hl 0 rfl) ?_
  refine lv_iconst (v := 1) hx hb dX1_rung_1 rfl ?_
  refine lv_iload_n hx hb dX1_rung_2 rfl (lv_at hl 1 rfl) ?_
  refine call_m_need hx hb hml hown hts hK hA hE hl.1 (1 : Int32) p1 (lz (show 3 ≤ 3 by decide) hRf) (lz (show 64 ≤ 64 by decide) hRl) (Nat.le_of_ble_eq_true rfl) dX1_rung_3 (fun H locs hE => ?_)
  have hNc3 : ∀ (wc3 : Int32 × ZT) (hewc3 : wc3 = m_need (1 : Int32) p1 Z) (hR : m_rung p1 Z = m_rung_c3 p1 wc3), ∀ (H : Heap) (locs : List Loc) (ls : Array Slot), EW D A s.heap (MW m ar cs wc3.2) H locs → lv_has ls 8 [(0, .ref m), (1, .int p1)] → W p l e R s mid args below meth c H locs 0 0 Q (F0 mid 6 ls [.int wc3.1]) := by
    intro wc3 hewc3 hR H locs ls hE hl
    have hR : m_rung p1 Z = (if 0 ≤ wc3.1 then m_rung_e18 p1 wc3 (itR (m_rung_b18 wc3) 0 8 (0 : Int32)) else (wc3.1, wc3.2)) := hR
    refine lv_istore_n (lv' := [(2, .int wc3.1), (0, .ref m), (1, .int p1)]) hx hb dX1_rung_6 rfl hl (by decide) rfl (fun ls hl => ?_)
    refine lv_iload_n hx hb dX1_rung_7 rfl (lv_at hl 0 rfl) ?_
    refine lv_if_ge (tgt := 13) hx hb dX1_rung_8 (by decide) (fun c8 => ?_) (fun c8 => ?_)
    · have hR : m_rung p1 Z = (m_rung_e18 p1 wc3 (itR (m_rung_b18 wc3) 0 8 (0 : Int32))) := hR.trans (congrArg (fun z => z) (if_pos c8))
      have hnp1 := vp_ix (x := p1) (N := 8) ((need_ok (by rw [← hewc3]; exact c8)).1) (by decide)
      have hbnp1 := hnp1.2
      refine lv_iconst (v := 0) hx hb dX1_rung_13 rfl ?_
      refine lv_istore_n (lv' := [(3, .int (0 : Int32)), (2, .int wc3.1), (0, .ref m), (1, .int p1)]) hx hb dX1_rung_14 rfl hl (by decide) rfl (fun ls hl => ?_)
      refine lv_iconst (v := 0) hx hb dX1_rung_15 rfl ?_
      refine lv_istore (lv' := [(4, .int (0 : Int32)), (3, .int (0 : Int32)), (2, .int wc3.1), (0, .ref m), (1, .int p1)]) hx hb dX1_rung_16 hl (by decide) rfl (fun ls hl => ?_)
      have hL18 : ∀ (k i18 : Nat) (w18 : Int32) (hi18 : i18 + k = 8) (hR : m_rung p1 Z = m_rung_e18 p1 wc3 (itR (m_rung_b18 wc3) i18 k w18)), ∀ (H : Heap) (locs : List Loc) (ls : Array Slot), EW D A s.heap (MW m ar cs wc3.2) H locs → lv_has ls 8 [(0, .ref m), (1, .int p1), (3, .int w18), (4, .int (nI i18))] → W p l e R s mid args below meth c H locs 0 0 Q (F0 mid 18 ls []) := by
        intro k
        induction k with
        | zero =>
          intro i18 w18 hi18 hR H locs ls hE hl
          have hie18 : i18 = 8 := by omega
          have hR : m_rung p1 Z = (wrR (m_rung_b64 p1 wc3) (m_rung_e64 wc3) 10 (w18, 0)) := hR
          refine lv_iload hx hb dX1_rung_18 (lv_at hl 3 rfl) ?_
          refine lv_bipush (v := 8) hx hb dX1_rung_20 rfl ?_
          refine n_geT (a := i18) (b := 8) (by omega) (by omega) hx hb dX1_rung_22 (tgt := 61) (by decide) ?_
          have hl := lv_sub (l' := [(0, .ref m), (1, .int p1), (3, .int w18)]) hl [0, 1, 2] rfl
          refine lv_iconst (v := 0) hx hb dX1_rung_61 rfl ?_
          refine lv_istore (lv' := [(4, .int (0 : Int32)), (0, .ref m), (1, .int p1), (3, .int w18)]) hx hb dX1_rung_62 hl (by decide) rfl (fun ls hl => ?_)
          have hX64 : ∀ (w64 : Int32 × Nat) (hb64 : w64.2 ≤ 9) (hR : m_rung p1 Z = m_rung_e64 wc3 w64), ∀ (H : Heap) (locs : List Loc) (ls : Array Slot), EW D A s.heap (MW m ar cs wc3.2) H locs → lv_has ls 8 [] → W p l e R s mid args below meth c H locs 0 0 Q (F0 mid 159 ls []) := by
            intro w64 hb64 hR H locs ls hE hl
            have hR : m_rung p1 Z = ((-9 : Int32), wc3.2) := hR
            refine lv_bipush (v := -9) hx hb dX1_rung_159 rfl ?_
            exact hret (-9 : Int32) wc3.2 hR rfl hE (Nat.le_refl 0) (Nat.le_refl 0) dX1_rung_161
          have hL64 : ∀ (n : Nat) (w64 : Int32 × Nat) (hm64 : 9 - w64.2 < n) (hb64 : w64.2 ≤ 9) (hR : m_rung p1 Z = wrR (m_rung_b64 p1 wc3) (m_rung_e64 wc3) n w64), ∀ (H : Heap) (locs : List Loc) (ls : Array Slot), EW D A s.heap (MW m ar cs wc3.2) H locs → lv_has ls 8 [(0, .ref m), (1, .int p1), (3, .int w64.1), (4, .int (nI w64.2))] → W p l e R s mid args below meth c H locs 0 0 Q (F0 mid 64 ls []) := by
            intro n
            induction n with
            | zero =>
              intro w64 hm64
              exact absurd hm64 (Nat.not_lt_zero _)
            | succ n ih64 =>
              intro w64 hm64 hb64 hR H locs ls hE hl
              have hB64 : m_rung_b64 p1 wc3 w64 = (if 8 < w64.2 then (.inr (false, (w64.1, w64.2))) else (if (m_has w64.1 (ix p1)) = 0 then m_rung_e88 w64 (itR (m_rung_b88 wc3 w64) 0 8 w64.1) else (.inl (nI w64.2, wc3.2)))) := rfl
              refine lv_iload hx hb dX1_rung_64 (lv_at hl 3 rfl) ?_
              refine lv_bipush (v := 8) hx hb dX1_rung_66 rfl ?_
              refine n_icmp_gt (a := w64.2) (b := 8) (tgt := 159) (by omega) (by omega) hx hb dX1_rung_68 (by decide) (fun c68 => ?_) (fun c68 => ?_)
              · have hB64 : m_rung_b64 p1 wc3 w64 = (.inr (false, (w64.1, w64.2))) := hB64.trans (congrArg (fun z => z) (if_pos c68))
                exact hX64 (w64.1, w64.2) (by exact hb64) (hR.trans (congrArg (fun z => z) (wr_f hB64))) _ _ _ hE (lv_sub hl [] rfl)
              · have hB64 : m_rung_b64 p1 wc3 w64 = (if (m_has w64.1 (ix p1)) = 0 then m_rung_e88 w64 (itR (m_rung_b88 wc3 w64) 0 8 w64.1) else (.inl (nI w64.2, wc3.2))) := hB64.trans (congrArg (fun z => z) (if_neg c68))
                refine lv_iload_n hx hb dX1_rung_71 rfl (lv_at hl 2 rfl) ?_
                refine lv_iload_n hx hb dX1_rung_72 rfl (lv_at hl 1 rfl) ?_
                refine top_nat hnp1.1 ?_
                refine call_m_has hx hb hml hown hts hK hA hE hl.1 w64.1 (ix p1) (lz (show 1 ≤ 3 by decide) hRf) (lz (show 21 ≤ 64 by decide) hRl) (Nat.le_of_ble_eq_true rfl) dX1_rung_73 (fun H locs hE => ?_)
                refine lv_if_eq (tgt := 82) hx hb dX1_rung_76 (by decide) (fun c76 => ?_) (fun c76 => ?_)
                · have hB64 : m_rung_b64 p1 wc3 w64 = (m_rung_e88 w64 (itR (m_rung_b88 wc3 w64) 0 8 w64.1)) := hB64.trans (congrArg (fun z => z) (if_pos c76))
                  refine lv_iload_n hx hb dX1_rung_82 rfl (lv_at hl 2 rfl) ?_
                  refine lv_istore (lv' := [(5, .int w64.1), (0, .ref m), (1, .int p1), (3, .int w64.1), (4, .int (nI w64.2))]) hx hb dX1_rung_83 hl (by decide) rfl (fun ls hl => ?_)
                  refine lv_iconst (v := 0) hx hb dX1_rung_85 rfl ?_
                  refine lv_istore (lv' := [(6, .int (0 : Int32)), (5, .int w64.1), (0, .ref m), (1, .int p1), (3, .int w64.1), (4, .int (nI w64.2))]) hx hb dX1_rung_86 hl (by decide) rfl (fun ls hl => ?_)
                  have hL88 : ∀ (k i88 : Nat) (w88 : Int32) (hi88 : i88 + k = 8) (hB64 : m_rung_b64 p1 wc3 w64 = m_rung_e88 w64 (itR (m_rung_b88 wc3 w64) i88 k w88)), ∀ (H : Heap) (locs : List Loc) (ls : Array Slot), EW D A s.heap (MW m ar cs wc3.2) H locs → lv_has ls 8 [(0, .ref m), (1, .int p1), (3, .int w64.1), (4, .int (nI w64.2)), (5, .int w88), (6, .int (nI i88))] → W p l e R s mid args below meth c H locs 0 0 Q (F0 mid 88 ls []) := by
                    intro k
                    induction k with
                    | zero =>
                      intro i88 w88 hi88 hB64 H locs ls hE hl
                      have hie88 : i88 = 8 := by omega
                      have hB64 : m_rung_b64 p1 wc3 w64 = (.inr (true, (w88, (w64.2 + 1)))) := hB64
                      refine lv_iload hx hb dX1_rung_88 (lv_at hl 5 rfl) ?_
                      refine lv_bipush (v := 8) hx hb dX1_rung_90 rfl ?_
                      refine n_geT (a := i88) (b := 8) (by omega) (by omega) hx hb dX1_rung_92 (tgt := 150) (by decide) ?_
                      have hl := lv_sub (l' := [(0, .ref m), (1, .int p1), (3, .int w64.1), (4, .int (nI w64.2)), (5, .int w88)]) hl [0, 1, 2, 3, 4] rfl
                      refine lv_iload hx hb dX1_rung_150 (lv_at hl 4 rfl) ?_
                      refine lv_istore_n (lv' := [(3, .int w88), (0, .ref m), (1, .int p1), (4, .int (nI w64.2)), (5, .int w88)]) hx hb dX1_rung_152 rfl hl (by decide) rfl (fun ls hl => ?_)
                      refine n_inc (lv' := [(4, .int (nI (w64.2 + 1))), (3, .int w88), (0, .ref m), (1, .int p1), (5, .int w88)]) hx hb dX1_rung_153 hl (k := 3) rfl (by decide) rfl (fun ls hl => ?_)
                      refine lv_goto (tgt := 64) hx hb dX1_rung_156 (by decide) ?_
                      exact ih64 (w88, (w64.2 + 1)) (by show 9 - (w64.2 + 1) < n; omega) (by show w64.2 + 1 ≤ 9; omega) (hR.trans (congrArg (fun z => z) (wr_t hB64))) _ _ _ hE (lv_sub hl [2, 3, 1, 0] rfl)
                    | succ k ih88 =>
                      intro i88 w88 hi88 hB64 H locs ls hE hl
                      have hlt88 : i88 < 8 := by omega
                      have hB88 : m_rung_b88 wc3 w64 i88 w88 = m_rung_e98 (itR (m_rung_b98 wc3 w64 i88) 0 8 w88) := rfl
                      refine lv_iload hx hb dX1_rung_88 (lv_at hl 5 rfl) ?_
                      refine lv_bipush (v := 8) hx hb dX1_rung_90 rfl ?_
                      refine n_geF (a := i88) (b := 8) (by omega) (by omega) hx hb dX1_rung_92 (tgt := 150) (by decide) ?_
                      refine lv_iconst (v := 0) hx hb dX1_rung_95 rfl ?_
                      refine lv_istore (lv' := [(7, .int (0 : Int32)), (0, .ref m), (1, .int p1), (3, .int w64.1), (4, .int (nI w64.2)), (5, .int w88), (6, .int (nI i88))]) hx hb dX1_rung_96 hl (by decide) rfl (fun ls hl => ?_)
                      have hL98 : ∀ (k i98 : Nat) (w98 : Int32) (hi98 : i98 + k = 8) (hB88 : m_rung_b88 wc3 w64 i88 w88 = m_rung_e98 (itR (m_rung_b98 wc3 w64 i88) i98 k w98)), ∀ (H : Heap) (locs : List Loc) (ls : Array Slot), EW D A s.heap (MW m ar cs wc3.2) H locs → lv_has ls 8 [(0, .ref m), (1, .int p1), (3, .int w64.1), (4, .int (nI w64.2)), (5, .int w98), (6, .int (nI i88)), (7, .int (nI i98))] → W p l e R s mid args below meth c H locs 0 0 Q (F0 mid 98 ls []) := by
                        intro k
                        induction k with
                        | zero =>
                          intro i98 w98 hi98 hB88 H locs ls hE hl
                          have hie98 : i98 = 8 := by omega
                          have hB88 : m_rung_b88 wc3 w64 i88 w88 = w98 := hB88
                          refine lv_iload hx hb dX1_rung_98 (lv_at hl 6 rfl) ?_
                          refine lv_bipush (v := 8) hx hb dX1_rung_100 rfl ?_
                          refine n_geT (a := i98) (b := 8) (by omega) (by omega) hx hb dX1_rung_102 (tgt := 144) (by decide) ?_
                          have hl := lv_sub (l' := [(0, .ref m), (1, .int p1), (3, .int w64.1), (4, .int (nI w64.2)), (5, .int w98), (6, .int (nI i88))]) hl [0, 1, 2, 3, 4, 5] rfl
                          refine n_inc (lv' := [(6, .int (nI (i88 + 1))), (0, .ref m), (1, .int p1), (3, .int w64.1), (4, .int (nI w64.2)), (5, .int w98)]) hx hb dX1_rung_144 hl (k := 5) rfl (by decide) rfl (fun ls hl => ?_)
                          refine lv_goto (tgt := 88) hx hb dX1_rung_147 (by decide) ?_
                          exact ih88 (i88 + 1) w98 (by omega) (hB64.trans (congrArg (fun z => m_rung_e88 w64 (itR (m_rung_b88 wc3 w64) (i88 + 1) k z)) hB88)) _ _ _ hE (lv_sub hl [1, 2, 3, 4, 5, 0] rfl)
                        | succ k ih98 =>
                          intro i98 w98 hi98 hB88 H locs ls hE hl
                          have hlt98 : i98 < 8 := by omega
                          have hB98 : m_rung_b98 wc3 w64 i88 i98 w98 = m_rung_j135 w98 (if (m_isLink i88 i98 wc3.2) = 0 then (0 : Int32) else (if (m_has w64.1 i98) = 0 then (0 : Int32) else ((1 : Int32) <<< ((nI i88) &&& 31)))) := rfl
                          refine lv_iload hx hb dX1_rung_98 (lv_at hl 6 rfl) ?_
                          refine lv_bipush (v := 8) hx hb dX1_rung_100 rfl ?_
                          refine n_geF (a := i98) (b := 8) (by omega) (by omega) hx hb dX1_rung_102 (tgt := 144) (by decide) ?_
                          refine lv_iload hx hb dX1_rung_105 (lv_at hl 4 rfl) ?_
                          refine lv_aload_n hx hb dX1_rung_107 rfl (lv_at hl 0 rfl) ?_
                          refine lv_iload hx hb dX1_rung_108 (lv_at hl 5 rfl) ?_
                          refine lv_iload hx hb dX1_rung_110 (lv_at hl 6 rfl) ?_
                          refine call_m_isLink hx hb hml hown hts hK hA hE hl.1 i88 i98 (by omega) (by omega) (lz (show 1 ≤ 3 by decide) hRf) (lz (show 22 ≤ 64 by decide) hRl) (Nat.le_of_ble_eq_true rfl) dX1_rung_112 (fun H locs hE => ?_)
                          have hJ135 : ∀ (w135 : Int32) (hB98 : m_rung_b98 wc3 w64 i88 i98 w98 = m_rung_j135 w98 w135), ∀ (H : Heap) (locs : List Loc) (ls : Array Slot), EW D A s.heap (MW m ar cs wc3.2) H locs → lv_has ls 8 [(0, .ref m), (1, .int p1), (3, .int w64.1), (4, .int (nI w64.2)), (6, .int (nI i88)), (7, .int (nI i98))] → W p l e R s mid args below meth c H locs 0 0 Q (F0 mid 135 ls [.int w135, .int w98]) := by
                            intro w135 hB98 H locs ls hE hl
                            have hB98 : m_rung_b98 wc3 w64 i88 i98 w98 = (w98 ||| w135) := hB98
                            refine lv_ior hx hb dX1_rung_135 ?_
                            refine lv_istore (lv' := [(5, .int (w98 ||| w135)), (0, .ref m), (1, .int p1), (3, .int w64.1), (4, .int (nI w64.2)), (6, .int (nI i88)), (7, .int (nI i98))]) hx hb dX1_rung_136 hl (by decide) rfl (fun ls hl => ?_)
                            refine n_inc (lv' := [(7, .int (nI (i98 + 1))), (5, .int (w98 ||| w135)), (0, .ref m), (1, .int p1), (3, .int w64.1), (4, .int (nI w64.2)), (6, .int (nI i88))]) hx hb dX1_rung_138 hl (k := 6) rfl (by decide) rfl (fun ls hl => ?_)
                            refine lv_goto (tgt := 98) hx hb dX1_rung_141 (by decide) ?_
                            exact ih98 (i98 + 1) (w98 ||| w135) (by omega) (hB88.trans (congrArg (fun z => m_rung_e98 (itR (m_rung_b98 wc3 w64 i88) (i98 + 1) k z)) hB98)) _ _ _ hE (lv_sub hl [2, 3, 4, 5, 1, 6, 0] rfl)
                          refine lv_if_eq (tgt := 134) hx hb dX1_rung_115 (by decide) (fun c115 => ?_) (fun c115 => ?_)
                          · have hB98 : m_rung_b98 wc3 w64 i88 i98 w98 = m_rung_j135 w98 (0 : Int32) := hB98.trans (congrArg (fun z => m_rung_j135 w98 z) (if_pos c115))
                            refine lv_iconst (v := 0) hx hb dX1_rung_134 rfl ?_
                            exact hJ135 (0 : Int32)  hB98 _ _ _ hE (lv_sub hl [0, 1, 2, 3, 5, 6] rfl)
                          · have hB98 : m_rung_b98 wc3 w64 i88 i98 w98 = m_rung_j135 w98 (if (m_has w64.1 i98) = 0 then (0 : Int32) else ((1 : Int32) <<< ((nI i88) &&& 31))) := hB98.trans (congrArg (fun z => m_rung_j135 w98 z) (if_neg c115))
                            refine lv_iload_n hx hb dX1_rung_118 rfl (lv_at hl 2 rfl) ?_
                            refine lv_iload hx hb dX1_rung_119 (lv_at hl 6 rfl) ?_
                            refine call_m_has hx hb hml hown hts hK hA hE hl.1 w64.1 i98 (lz (show 1 ≤ 3 by decide) hRf) (lz (show 21 ≤ 64 by decide) hRl) (Nat.le_of_ble_eq_true rfl) dX1_rung_121 (fun H locs hE => ?_)
                            refine lv_if_eq (tgt := 134) hx hb dX1_rung_124 (by decide) (fun c124 => ?_) (fun c124 => ?_)
                            · have hB98 : m_rung_b98 wc3 w64 i88 i98 w98 = m_rung_j135 w98 (0 : Int32) := hB98.trans (congrArg (fun z => m_rung_j135 w98 z) (if_pos c124))
                              refine lv_iconst (v := 0) hx hb dX1_rung_134 rfl ?_
                              exact hJ135 (0 : Int32)  hB98 _ _ _ hE (lv_sub hl [0, 1, 2, 3, 5, 6] rfl)
                            · have hB98 : m_rung_b98 wc3 w64 i88 i98 w98 = m_rung_j135 w98 ((1 : Int32) <<< ((nI i88) &&& 31)) := hB98.trans (congrArg (fun z => m_rung_j135 w98 z) (if_neg c124))
                              refine lv_iconst (v := 1) hx hb dX1_rung_127 rfl ?_
                              refine lv_iload hx hb dX1_rung_128 (lv_at hl 5 rfl) ?_
                              refine lv_ishl hx hb dX1_rung_130 ?_
                              refine lv_goto (tgt := 135) hx hb dX1_rung_131 (by decide) ?_
                              exact hJ135 ((1 : Int32) <<< ((nI i88) &&& 31))  hB98 _ _ _ hE (lv_sub hl [0, 1, 2, 3, 5, 6] rfl)
                      exact hL98 8 0 w88 (by omega) hB88 _ _ _ hE (lv_sub hl [1, 2, 3, 4, 5, 6, 0] rfl)
                  exact hL88 8 0 w64.1 (by omega) hB64 _ _ _ hE (lv_sub hl [2, 3, 4, 5, 1, 0] rfl)
                · have hB64 : m_rung_b64 p1 wc3 w64 = (.inl (nI w64.2, wc3.2)) := hB64.trans (congrArg (fun z => z) (if_neg c76))
                  refine lv_iload hx hb dX1_rung_79 (lv_at hl 3 rfl) ?_
                  have hR : m_rung p1 Z = (nI w64.2, wc3.2) := hR.trans (congrArg (fun z => z) (wr_r hB64))
                  exact hret (nI w64.2) wc3.2 hR rfl hE (Nat.le_refl 0) (Nat.le_refl 0) dX1_rung_81
          exact hL64 10 (w18, 0) (by show 9 - 0 < 10; decide) (by exact Nat.zero_le _) hR _ _ _ hE (lv_sub hl [1, 2, 3, 0] rfl)
        | succ k ih18 =>
          intro i18 w18 hi18 hR H locs ls hE hl
          have hlt18 : i18 < 8 := by omega
          have hB18 : m_rung_b18 wc3 i18 w18 = m_rung_j53 w18 (if wc3.2.1 13 i18 = 0 then (0 : Int32) else (if (m_eats i18 wc3.2) = 0 then ((1 : Int32) <<< ((nI i18) &&& 31)) else (0 : Int32))) := rfl
          refine lv_iload hx hb dX1_rung_18 (lv_at hl 3 rfl) ?_
          refine lv_bipush (v := 8) hx hb dX1_rung_20 rfl ?_
          refine n_geF (a := i18) (b := 8) (by omega) (by omega) hx hb dX1_rung_22 (tgt := 61) (by decide) ?_
          refine lv_iload_n hx hb dX1_rung_25 rfl (lv_at hl 2 rfl) ?_
          refine lv_aload_n hx hb dX1_rung_26 rfl (lv_at hl 0 rfl) ?_
          refine mg_13 hx hb hts hown hK hE dX1_rung_27 ?_
          refine lv_iload hx hb dX1_rung_30 (lv_at hl 3 rfl) ?_
          refine ma_13 (n := i18) (by omega) hx hb hK hE dX1_rung_32 ?_
          have hJ53 : ∀ (w53 : Int32) (hB18 : m_rung_b18 wc3 i18 w18 = m_rung_j53 w18 w53), ∀ (H : Heap) (locs : List Loc) (ls : Array Slot), EW D A s.heap (MW m ar cs wc3.2) H locs → lv_has ls 8 [(0, .ref m), (1, .int p1), (4, .int (nI i18))] → W p l e R s mid args below meth c H locs 0 0 Q (F0 mid 53 ls [.int w53, .int w18]) := by
            intro w53 hB18 H locs ls hE hl
            have hB18 : m_rung_b18 wc3 i18 w18 = (w18 ||| w53) := hB18
            refine lv_ior hx hb dX1_rung_53 ?_
            refine lv_istore_n (lv' := [(3, .int (w18 ||| w53)), (0, .ref m), (1, .int p1), (4, .int (nI i18))]) hx hb dX1_rung_54 rfl hl (by decide) rfl (fun ls hl => ?_)
            refine n_inc (lv' := [(4, .int (nI (i18 + 1))), (3, .int (w18 ||| w53)), (0, .ref m), (1, .int p1)]) hx hb dX1_rung_55 hl (k := 3) rfl (by decide) rfl (fun ls hl => ?_)
            refine lv_goto (tgt := 18) hx hb dX1_rung_58 (by decide) ?_
            exact ih18 (i18 + 1) (w18 ||| w53) (by omega) (hR.trans (congrArg (fun z => m_rung_e18 p1 wc3 (itR (m_rung_b18 wc3) (i18 + 1) k z)) hB18)) _ _ _ hE (lv_sub hl [2, 3, 1, 0] rfl)
          refine lv_if_eq (tgt := 52) hx hb dX1_rung_33 (by decide) (fun c33 => ?_) (fun c33 => ?_)
          · have hB18 : m_rung_b18 wc3 i18 w18 = m_rung_j53 w18 (0 : Int32) := hB18.trans (congrArg (fun z => m_rung_j53 w18 z) (if_pos c33))
            refine lv_iconst (v := 0) hx hb dX1_rung_52 rfl ?_
            exact hJ53 (0 : Int32)  hB18 _ _ _ hE (lv_sub hl [0, 1, 3] rfl)
          · have hB18 : m_rung_b18 wc3 i18 w18 = m_rung_j53 w18 (if (m_eats i18 wc3.2) = 0 then ((1 : Int32) <<< ((nI i18) &&& 31)) else (0 : Int32)) := hB18.trans (congrArg (fun z => m_rung_j53 w18 z) (if_neg c33))
            refine lv_aload_n hx hb dX1_rung_36 rfl (lv_at hl 0 rfl) ?_
            refine lv_iload hx hb dX1_rung_37 (lv_at hl 3 rfl) ?_
            refine call_m_eats hx hb hml hown hts hK hA hE hl.1 i18 (by omega) (lz (show 1 ≤ 3 by decide) hRf) (lz (show 21 ≤ 64 by decide) hRl) (Nat.le_of_ble_eq_true rfl) dX1_rung_39 (fun H locs hE => ?_)
            refine lv_if_ne (tgt := 52) hx hb dX1_rung_42 (by decide) (fun c42 => ?_) (fun c42 => ?_)
            · have hB18 : m_rung_b18 wc3 i18 w18 = m_rung_j53 w18 (0 : Int32) := hB18.trans (congrArg (fun z => m_rung_j53 w18 z) (if_neg c42))
              refine lv_iconst (v := 0) hx hb dX1_rung_52 rfl ?_
              exact hJ53 (0 : Int32)  hB18 _ _ _ hE (lv_sub hl [0, 1, 3] rfl)
            · have hB18 : m_rung_b18 wc3 i18 w18 = m_rung_j53 w18 ((1 : Int32) <<< ((nI i18) &&& 31)) := hB18.trans (congrArg (fun z => m_rung_j53 w18 z) (if_pos c42))
              refine lv_iconst (v := 1) hx hb dX1_rung_45 rfl ?_
              refine lv_iload hx hb dX1_rung_46 (lv_at hl 3 rfl) ?_
              refine lv_ishl hx hb dX1_rung_48 ?_
              refine lv_goto (tgt := 53) hx hb dX1_rung_49 (by decide) ?_
              exact hJ53 ((1 : Int32) <<< ((nI i18) &&& 31))  hB18 _ _ _ hE (lv_sub hl [0, 1, 3] rfl)
      exact hL18 8 0 (0 : Int32) (by omega) hR _ _ _ hE (lv_sub hl [3, 4, 1, 0] rfl)
    · have hR : m_rung p1 Z = (wc3.1, wc3.2) := hR.trans (congrArg (fun z => z) (if_neg c8))
      refine lv_iload_n hx hb dX1_rung_11 rfl (lv_at hl 0 rfl) ?_
      exact hret wc3.1 wc3.2 hR rfl hE (Nat.le_refl 0) (Nat.le_refl 0) dX1_rung_12
  exact hNc3 (m_need (1 : Int32) p1 Z) rfl hR _ _ _ hE (lv_sub hl [0, 1] rfl)
def m_layRim_j261 (w261 : ZT) : ZT := w261
def m_layRim_j257 (w112 : ZT) (w173 : Int32) (w201 : Int32) (w229 : Int32) (w257 : Int32) : ZT := sI (sI (sI (sI w112 37 0 ((w112.1 37 0) + w173)) 38 0 ((w112.1 38 0) + w201)) 39 0 ((w112.1 39 0) + w229)) 40 0 ((w112.1 40 0) + w257)
def m_layRim_j229 (p1 : Int32) (i22 : Nat) (i112 : Nat) (w112 : ZT) (w173 : Int32) (w201 : Int32) (w229 : Int32) : ZT := m_layRim_j257 w112 w173 w201 w229 (if (m_has p1 i112) = 0 then (0 : Int32) else w112.1 25 ((8 * i22) + i112))
def m_layRim_j201 (p1 : Int32) (i22 : Nat) (i112 : Nat) (w112 : ZT) (w173 : Int32) (w201 : Int32) : ZT := m_layRim_j229 p1 i22 i112 w112 w173 w201 (if (m_has p1 i112) = 0 then (0 : Int32) else w112.1 24 ((8 * i22) + i112))
def m_layRim_j173 (p1 : Int32) (i22 : Nat) (i112 : Nat) (w112 : ZT) (w173 : Int32) : ZT := m_layRim_j201 p1 i22 i112 w112 w173 (if (m_has p1 i22) = 0 then (0 : Int32) else w112.1 25 ((8 * i22) + i112))
def m_layRim_b112 (p1 : Int32) (i22 : Nat) (i112 : Nat) (w112 : ZT) : ZT := m_layRim_j261 (if w112.1 23 ((8 * i22) + i112) ≤ 0 then w112 else (if (m_has p1 i22) = (m_has p1 i112) then w112 else m_layRim_j173 p1 i22 i112 w112 (if (m_has p1 i22) = 0 then (0 : Int32) else w112.1 24 ((8 * i22) + i112))))
def m_layRim_e112 (w112 : ZT) : ZT := w112
def m_layRim_j110 (p1 : Int32) (i22 : Nat) (w110 : ZT) : ZT := m_layRim_e112 (itR (m_layRim_b112 p1 i22) 0 8 w110)
def m_layRim_m91 (i22 : Nat) (wm91 : ZT) : ZT := sI wm91 40 0 ((wm91.1 40 0) + (wm91.1 26 ((4 * i22) + 3)))
def m_layRim_b22 (p1 : Int32) (i22 : Nat) (w22 : ZT) : ZT := m_layRim_j110 p1 i22 (if (m_has p1 i22) = 0 then w22 else m_layRim_m91 i22 (sI (sI (sI w22 37 0 ((w22.1 37 0) + (w22.1 26 (4 * i22)))) 38 0 ((w22.1 38 0) + (w22.1 26 ((4 * i22) + 1)))) 39 0 ((w22.1 39 0) + (w22.1 26 ((4 * i22) + 2)))))
def m_layRim_e22 (w22 : ZT) : ZT := w22
def m_layRim (p1 : Int32) (Z : ZT) : ZT := m_layRim_e22 (itR (m_layRim_b22 p1) 0 8 (sI (sI (sI (sI Z 37 0 (0 : Int32)) 38 0 (0 : Int32)) 39 0 (0 : Int32)) 40 0 (0 : Int32)))
set_option maxHeartbeats 4000000 in
set_option maxRecDepth 100000 in
theorem met_m_layRim (l : Launch) (D : va_G) (cs : Nat → ClassId) (m : Nat) (ar : Nat → Nat) (Z : ZT) (sz : Nat) (p1 : Int32) : Met l yX1_layRim (ws_ yX1_layRim cX1_layRim 5 none) ({ frames := 1, cells := 0, slots := 0, locals := 21 }) (va_Pc [.ref m, .int p1] (wSt D cs (MW m ar cs Z) sz)) (cQv (fun (u : ZT) => m_layRim p1 Z = u) D (fun u => MW m ar cs u) (MW m ar cs Z) sz) 0 0 (va_A (MW m ar cs Z) sz) := by
  refine gStart_v (C := RX1) rfl rfl (Nat.le_of_ble_eq_true rfl) ?_
  intro p e s mid args below meth c R Q A hx hb hml hown hts hK hA hRf hRl hRc hRs hnm hret hE ls hl
  have hRf : 1 ≤ R.frames := hRf
  have hRl : 21 ≤ R.locals := hRl
  have hl : lv_has ls 5 [(0, .ref m), (1, .int p1)] := hl
  have hR : m_layRim p1 Z = (m_layRim_e22 (itR (m_layRim_b22 p1) 0 8 (sI (sI (sI (sI Z 37 0 (0 : Int32)) 38 0 (0 : Int32)) 39 0 (0 : Int32)) 40 0 (0 : Int32)))) := rfl
  refine lv_aload_n hx hb dX1_layRim_0 rfl (lv_at hl 0 rfl) ?_
  refine lv_iconst (v := 0) hx hb dX1_layRim_1 rfl ?_
  refine mp_37 hx hb hts hown hK hE dX1_layRim_2 (fun H locs hE => ?_)
  refine lv_aload_n hx hb dX1_layRim_5 rfl (lv_at hl 0 rfl) ?_
  refine lv_iconst (v := 0) hx hb dX1_layRim_6 rfl ?_
  refine mp_38 hx hb hts hown hK hE dX1_layRim_7 (fun H locs hE => ?_)
  refine lv_aload_n hx hb dX1_layRim_10 rfl (lv_at hl 0 rfl) ?_
  refine lv_iconst (v := 0) hx hb dX1_layRim_11 rfl ?_
  refine mp_39 hx hb hts hown hK hE dX1_layRim_12 (fun H locs hE => ?_)
  refine lv_aload_n hx hb dX1_layRim_15 rfl (lv_at hl 0 rfl) ?_
  refine lv_iconst (v := 0) hx hb dX1_layRim_16 rfl ?_
  refine mp_40 hx hb hts hown hK hE dX1_layRim_17 (fun H locs hE => ?_)
  refine lv_iconst (v := 0) hx hb dX1_layRim_20 rfl ?_
  refine lv_istore_n (lv' := [(2, .int (0 : Int32)), (0, .ref m), (1, .int p1)]) hx hb dX1_layRim_21 rfl hl (by decide) rfl (fun ls hl => ?_)
  have hL22 : ∀ (k i22 : Nat) (w22 : ZT) (hi22 : i22 + k = 8) (hR : m_layRim p1 Z = m_layRim_e22 (itR (m_layRim_b22 p1) i22 k w22)), ∀ (H : Heap) (locs : List Loc) (ls : Array Slot), EW D A s.heap (MW m ar cs w22) H locs → lv_has ls 5 [(0, .ref m), (1, .int p1), (2, .int (nI i22))] → W p l e R s mid args below meth c H locs 0 0 Q (F0 mid 22 ls []) := by
    intro k
    induction k with
    | zero =>
      intro i22 w22 hi22 hR H locs ls hE hl
      have hie22 : i22 = 8 := by omega
      have hR : m_layRim p1 Z = w22 := hR
      refine lv_iload_n hx hb dX1_layRim_22 rfl (lv_at hl 2 rfl) ?_
      refine lv_bipush (v := 8) hx hb dX1_layRim_23 rfl ?_
      refine n_geT (a := i22) (b := 8) (by omega) (by omega) hx hb dX1_layRim_25 (tgt := 273) (by decide) ?_
      have hl := lv_sub (l' := [(0, .ref m), (1, .int p1)]) hl [0, 1] rfl
      exact hret w22 hR hE (Nat.le_refl 0) (Nat.le_refl 0) dX1_layRim_273
    | succ k ih22 =>
      intro i22 w22 hi22 hR H locs ls hE hl
      have hlt22 : i22 < 8 := by omega
      have hB22 : m_layRim_b22 p1 i22 w22 = m_layRim_j110 p1 i22 (if (m_has p1 i22) = 0 then w22 else m_layRim_m91 i22 (sI (sI (sI w22 37 0 ((w22.1 37 0) + (w22.1 26 (4 * i22)))) 38 0 ((w22.1 38 0) + (w22.1 26 ((4 * i22) + 1)))) 39 0 ((w22.1 39 0) + (w22.1 26 ((4 * i22) + 2))))) := rfl
      refine lv_iload_n hx hb dX1_layRim_22 rfl (lv_at hl 2 rfl) ?_
      refine lv_bipush (v := 8) hx hb dX1_layRim_23 rfl ?_
      refine n_geF (a := i22) (b := 8) (by omega) (by omega) hx hb dX1_layRim_25 (tgt := 273) (by decide) ?_
      refine lv_iload_n hx hb dX1_layRim_28 rfl (lv_at hl 1 rfl) ?_
      refine lv_iload_n hx hb dX1_layRim_29 rfl (lv_at hl 2 rfl) ?_
      refine call_m_has hx hb hml hown hts hK hA hE hl.1 p1 i22 (lz (show 1 ≤ 1 by decide) hRf) (lz (show 21 ≤ 21 by decide) hRl) (Nat.le_of_ble_eq_true rfl) dX1_layRim_30 (fun H locs hE => ?_)
      have hJ110 : ∀ (w110 : ZT) (hB22 : m_layRim_b22 p1 i22 w22 = m_layRim_j110 p1 i22 w110), ∀ (H : Heap) (locs : List Loc) (ls : Array Slot), EW D A s.heap (MW m ar cs w110) H locs → lv_has ls 5 [(0, .ref m), (1, .int p1), (2, .int (nI i22))] → W p l e R s mid args below meth c H locs 0 0 Q (F0 mid 110 ls []) := by
        intro w110 hB22 H locs ls hE hl
        have hB22 : m_layRim_b22 p1 i22 w22 = (m_layRim_e112 (itR (m_layRim_b112 p1 i22) 0 8 w110)) := hB22
        refine lv_iconst (v := 0) hx hb dX1_layRim_110 rfl ?_
        refine lv_istore_n (lv' := [(3, .int (0 : Int32)), (0, .ref m), (1, .int p1), (2, .int (nI i22))]) hx hb dX1_layRim_111 rfl hl (by decide) rfl (fun ls hl => ?_)
        have hL112 : ∀ (k i112 : Nat) (w112 : ZT) (hi112 : i112 + k = 8) (hB22 : m_layRim_b22 p1 i22 w22 = m_layRim_e112 (itR (m_layRim_b112 p1 i22) i112 k w112)), ∀ (H : Heap) (locs : List Loc) (ls : Array Slot), EW D A s.heap (MW m ar cs w112) H locs → lv_has ls 5 [(0, .ref m), (1, .int p1), (2, .int (nI i22)), (3, .int (nI i112))] → W p l e R s mid args below meth c H locs 0 0 Q (F0 mid 112 ls []) := by
          intro k
          induction k with
          | zero =>
            intro i112 w112 hi112 hB22 H locs ls hE hl
            have hie112 : i112 = 8 := by omega
            have hB22 : m_layRim_b22 p1 i22 w22 = w112 := hB22
            refine lv_iload_n hx hb dX1_layRim_112 rfl (lv_at hl 3 rfl) ?_
            refine lv_bipush (v := 8) hx hb dX1_layRim_113 rfl ?_
            refine n_geT (a := i112) (b := 8) (by omega) (by omega) hx hb dX1_layRim_115 (tgt := 267) (by decide) ?_
            have hl := lv_sub (l' := [(0, .ref m), (1, .int p1), (2, .int (nI i22))]) hl [0, 1, 2] rfl
            refine n_inc (lv' := [(2, .int (nI (i22 + 1))), (0, .ref m), (1, .int p1)]) hx hb dX1_layRim_267 hl (k := 2) rfl (by decide) rfl (fun ls hl => ?_)
            refine lv_goto (tgt := 22) hx hb dX1_layRim_270 (by decide) ?_
            exact ih22 (i22 + 1) w112 (by omega) (hR.trans (congrArg (fun z => m_layRim_e22 (itR (m_layRim_b22 p1) (i22 + 1) k z)) hB22)) _ _ _ hE (lv_sub hl [1, 2, 0] rfl)
          | succ k ih112 =>
            intro i112 w112 hi112 hB22 H locs ls hE hl
            have hlt112 : i112 < 8 := by omega
            have hB112 : m_layRim_b112 p1 i22 i112 w112 = m_layRim_j261 (if w112.1 23 ((8 * i22) + i112) ≤ 0 then w112 else (if (m_has p1 i22) = (m_has p1 i112) then w112 else m_layRim_j173 p1 i22 i112 w112 (if (m_has p1 i22) = 0 then (0 : Int32) else w112.1 24 ((8 * i22) + i112)))) := rfl
            refine lv_iload_n hx hb dX1_layRim_112 rfl (lv_at hl 3 rfl) ?_
            refine lv_bipush (v := 8) hx hb dX1_layRim_113 rfl ?_
            refine n_geF (a := i112) (b := 8) (by omega) (by omega) hx hb dX1_layRim_115 (tgt := 267) (by decide) ?_
            refine lv_bipush (v := 8) hx hb dX1_layRim_118 rfl ?_
            refine lv_iload_n hx hb dX1_layRim_120 rfl (lv_at hl 2 rfl) ?_
            refine n_mul (a := 8) (b := i22) hx hb dX1_layRim_121 ?_
            refine lv_iload_n hx hb dX1_layRim_122 rfl (lv_at hl 3 rfl) ?_
            refine n_add (a := (8 * i22)) (b := i112) hx hb dX1_layRim_123 ?_
            refine lv_istore (lv' := [(4, .int (nI ((8 * i22) + i112))), (0, .ref m), (1, .int p1), (2, .int (nI i22)), (3, .int (nI i112))]) hx hb dX1_layRim_124 hl (by decide) rfl (fun ls hl => ?_)
            refine lv_aload_n hx hb dX1_layRim_126 rfl (lv_at hl 1 rfl) ?_
            refine mg_23 hx hb hts hown hK hE dX1_layRim_127 ?_
            refine lv_iload hx hb dX1_layRim_130 (lv_at hl 0 rfl) ?_
            refine ma_23 (n := ((8 * i22) + i112)) (by omega) hx hb hK hE dX1_layRim_132 ?_
            have hJ261 : ∀ (w261 : ZT) (hB112 : m_layRim_b112 p1 i22 i112 w112 = m_layRim_j261 w261), ∀ (H : Heap) (locs : List Loc) (ls : Array Slot), EW D A s.heap (MW m ar cs w261) H locs → lv_has ls 5 [(0, .ref m), (1, .int p1), (2, .int (nI i22)), (3, .int (nI i112))] → W p l e R s mid args below meth c H locs 0 0 Q (F0 mid 261 ls []) := by
              intro w261 hB112 H locs ls hE hl
              have hB112 : m_layRim_b112 p1 i22 i112 w112 = w261 := hB112
              refine n_inc (lv' := [(3, .int (nI (i112 + 1))), (0, .ref m), (1, .int p1), (2, .int (nI i22))]) hx hb dX1_layRim_261 hl (k := 3) rfl (by decide) rfl (fun ls hl => ?_)
              refine lv_goto (tgt := 112) hx hb dX1_layRim_264 (by decide) ?_
              exact ih112 (i112 + 1) w261 (by omega) (hB22.trans (congrArg (fun z => m_layRim_e112 (itR (m_layRim_b112 p1 i22) (i112 + 1) k z)) hB112)) _ _ _ hE (lv_sub hl [1, 2, 3, 0] rfl)
            refine lv_if_le (tgt := 261) hx hb dX1_layRim_133 (by decide) (fun c133 => ?_) (fun c133 => ?_)
            · have hB112 : m_layRim_b112 p1 i22 i112 w112 = m_layRim_j261 w112 := hB112.trans (congrArg (fun z => m_layRim_j261 z) (if_pos c133))
              exact hJ261 w112  hB112 _ _ _ hE (lv_sub hl [1, 2, 3, 4] rfl)
            · have hB112 : m_layRim_b112 p1 i22 i112 w112 = m_layRim_j261 (if (m_has p1 i22) = (m_has p1 i112) then w112 else m_layRim_j173 p1 i22 i112 w112 (if (m_has p1 i22) = 0 then (0 : Int32) else w112.1 24 ((8 * i22) + i112))) := hB112.trans (congrArg (fun z => m_layRim_j261 z) (if_neg c133))
              refine lv_iload_n hx hb dX1_layRim_136 rfl (lv_at hl 2 rfl) ?_
              refine lv_iload_n hx hb dX1_layRim_137 rfl (lv_at hl 3 rfl) ?_
              refine call_m_has hx hb hml hown hts hK hA hE hl.1 p1 i22 (lz (show 1 ≤ 1 by decide) hRf) (lz (show 21 ≤ 21 by decide) hRl) (Nat.le_of_ble_eq_true rfl) dX1_layRim_138 (fun H locs hE => ?_)
              refine lv_iload_n hx hb dX1_layRim_141 rfl (lv_at hl 2 rfl) ?_
              refine lv_iload_n hx hb dX1_layRim_142 rfl (lv_at hl 4 rfl) ?_
              refine call_m_has hx hb hml hown hts hK hA hE hl.1 p1 i112 (lz (show 1 ≤ 1 by decide) hRf) (lz (show 21 ≤ 21 by decide) hRl) (Nat.le_of_ble_eq_true rfl) dX1_layRim_143 (fun H locs hE => ?_)
              refine lv_icmp_eq (tgt := 261) hx hb dX1_layRim_146 (by decide) (fun c146 => ?_) (fun c146 => ?_)
              · have hB112 : m_layRim_b112 p1 i22 i112 w112 = m_layRim_j261 w112 := hB112.trans (congrArg (fun z => m_layRim_j261 z) (if_pos c146))
                exact hJ261 w112  hB112 _ _ _ hE (lv_sub hl [1, 2, 3, 4] rfl)
              · have hB112 : m_layRim_b112 p1 i22 i112 w112 = m_layRim_j261 (m_layRim_j173 p1 i22 i112 w112 (if (m_has p1 i22) = 0 then (0 : Int32) else w112.1 24 ((8 * i22) + i112))) := hB112.trans (congrArg (fun z => m_layRim_j261 z) (if_neg c146))
                refine lv_aload_n hx hb dX1_layRim_149 rfl (lv_at hl 1 rfl) ?_
                refine lv_dup hx hb dX1_layRim_150 rfl ?_
                refine mg_37 hx hb hts hown hK hE dX1_layRim_151 ?_
                refine lv_iload_n hx hb dX1_layRim_154 rfl (lv_at hl 2 rfl) ?_
                refine lv_iload_n hx hb dX1_layRim_155 rfl (lv_at hl 3 rfl) ?_
                refine call_m_has hx hb hml hown hts hK hA hE hl.1 p1 i22 (lz (show 1 ≤ 1 by decide) hRf) (lz (show 21 ≤ 21 by decide) hRl) (Nat.le_of_ble_eq_true rfl) dX1_layRim_156 (fun H locs hE => ?_)
                have hJ173 : ∀ (w173 : Int32) (hB112 : m_layRim_b112 p1 i22 i112 w112 = m_layRim_j261 (m_layRim_j173 p1 i22 i112 w112 w173)), ∀ (H : Heap) (locs : List Loc) (ls : Array Slot), EW D A s.heap (MW m ar cs w112) H locs → lv_has ls 5 [(0, .ref m), (1, .int p1), (2, .int (nI i22)), (3, .int (nI i112)), (4, .int (nI ((8 * i22) + i112)))] → W p l e R s mid args below meth c H locs 0 0 Q (F0 mid 173 ls [.int w173, .int (w112.1 37 0), .ref m]) := by
                  intro w173 hB112 H locs ls hE hl
                  have hB112 : m_layRim_b112 p1 i22 i112 w112 = m_layRim_j261 (m_layRim_j201 p1 i22 i112 w112 w173 (if (m_has p1 i22) = 0 then (0 : Int32) else w112.1 25 ((8 * i22) + i112))) := hB112
                  refine lv_iadd hx hb dX1_layRim_173 ?_
                  refine mp_37 hx hb hts hown hK hE dX1_layRim_174 (fun H locs hE => ?_)
                  refine lv_aload_n hx hb dX1_layRim_177 rfl (lv_at hl 0 rfl) ?_
                  refine lv_dup hx hb dX1_layRim_178 rfl ?_
                  refine mg_38 hx hb hts hown hK hE dX1_layRim_179 ?_
                  refine lv_iload_n hx hb dX1_layRim_182 rfl (lv_at hl 1 rfl) ?_
                  refine lv_iload_n hx hb dX1_layRim_183 rfl (lv_at hl 2 rfl) ?_
                  refine call_m_has hx hb hml hown hts hK hA hE hl.1 p1 i22 (lz (show 1 ≤ 1 by decide) hRf) (lz (show 21 ≤ 21 by decide) hRl) (Nat.le_of_ble_eq_true rfl) dX1_layRim_184 (fun H locs hE => ?_)
                  have hJ201 : ∀ (w201 : Int32) (hB112 : m_layRim_b112 p1 i22 i112 w112 = m_layRim_j261 (m_layRim_j201 p1 i22 i112 w112 w173 w201)), ∀ (H : Heap) (locs : List Loc) (ls : Array Slot), EW D A s.heap (MW m ar cs (sI w112 37 0 ((w112.1 37 0) + w173))) H locs → lv_has ls 5 [(0, .ref m), (1, .int p1), (2, .int (nI i22)), (3, .int (nI i112)), (4, .int (nI ((8 * i22) + i112)))] → W p l e R s mid args below meth c H locs 0 0 Q (F0 mid 201 ls [.int w201, .int (w112.1 38 0), .ref m]) := by
                    intro w201 hB112 H locs ls hE hl
                    have hB112 : m_layRim_b112 p1 i22 i112 w112 = m_layRim_j261 (m_layRim_j229 p1 i22 i112 w112 w173 w201 (if (m_has p1 i112) = 0 then (0 : Int32) else w112.1 24 ((8 * i22) + i112))) := hB112
                    refine lv_iadd hx hb dX1_layRim_201 ?_
                    refine mp_38 hx hb hts hown hK hE dX1_layRim_202 (fun H locs hE => ?_)
                    refine lv_aload_n hx hb dX1_layRim_205 rfl (lv_at hl 0 rfl) ?_
                    refine lv_dup hx hb dX1_layRim_206 rfl ?_
                    refine mg_39 hx hb hts hown hK hE dX1_layRim_207 ?_
                    refine lv_iload_n hx hb dX1_layRim_210 rfl (lv_at hl 1 rfl) ?_
                    refine lv_iload_n hx hb dX1_layRim_211 rfl (lv_at hl 3 rfl) ?_
                    refine call_m_has hx hb hml hown hts hK hA hE hl.1 p1 i112 (lz (show 1 ≤ 1 by decide) hRf) (lz (show 21 ≤ 21 by decide) hRl) (Nat.le_of_ble_eq_true rfl) dX1_layRim_212 (fun H locs hE => ?_)
                    have hJ229 : ∀ (w229 : Int32) (hB112 : m_layRim_b112 p1 i22 i112 w112 = m_layRim_j261 (m_layRim_j229 p1 i22 i112 w112 w173 w201 w229)), ∀ (H : Heap) (locs : List Loc) (ls : Array Slot), EW D A s.heap (MW m ar cs (sI (sI w112 37 0 ((w112.1 37 0) + w173)) 38 0 ((w112.1 38 0) + w201))) H locs → lv_has ls 5 [(0, .ref m), (1, .int p1), (2, .int (nI i22)), (3, .int (nI i112)), (4, .int (nI ((8 * i22) + i112)))] → W p l e R s mid args below meth c H locs 0 0 Q (F0 mid 229 ls [.int w229, .int (w112.1 39 0), .ref m]) := by
                      intro w229 hB112 H locs ls hE hl
                      have hB112 : m_layRim_b112 p1 i22 i112 w112 = m_layRim_j261 (m_layRim_j257 w112 w173 w201 w229 (if (m_has p1 i112) = 0 then (0 : Int32) else w112.1 25 ((8 * i22) + i112))) := hB112
                      refine lv_iadd hx hb dX1_layRim_229 ?_
                      refine mp_39 hx hb hts hown hK hE dX1_layRim_230 (fun H locs hE => ?_)
                      refine lv_aload_n hx hb dX1_layRim_233 rfl (lv_at hl 0 rfl) ?_
                      refine lv_dup hx hb dX1_layRim_234 rfl ?_
                      refine mg_40 hx hb hts hown hK hE dX1_layRim_235 ?_
                      refine lv_iload_n hx hb dX1_layRim_238 rfl (lv_at hl 1 rfl) ?_
                      refine lv_iload_n hx hb dX1_layRim_239 rfl (lv_at hl 3 rfl) ?_
                      refine call_m_has hx hb hml hown hts hK hA hE hl.1 p1 i112 (lz (show 1 ≤ 1 by decide) hRf) (lz (show 21 ≤ 21 by decide) hRl) (Nat.le_of_ble_eq_true rfl) dX1_layRim_240 (fun H locs hE => ?_)
                      have hJ257 : ∀ (w257 : Int32) (hB112 : m_layRim_b112 p1 i22 i112 w112 = m_layRim_j261 (m_layRim_j257 w112 w173 w201 w229 w257)), ∀ (H : Heap) (locs : List Loc) (ls : Array Slot), EW D A s.heap (MW m ar cs (sI (sI (sI w112 37 0 ((w112.1 37 0) + w173)) 38 0 ((w112.1 38 0) + w201)) 39 0 ((w112.1 39 0) + w229))) H locs → lv_has ls 5 [(0, .ref m), (1, .int p1), (2, .int (nI i22)), (3, .int (nI i112))] → W p l e R s mid args below meth c H locs 0 0 Q (F0 mid 257 ls [.int w257, .int (w112.1 40 0), .ref m]) := by
                        intro w257 hB112 H locs ls hE hl
                        have hB112 : m_layRim_b112 p1 i22 i112 w112 = m_layRim_j261 (sI (sI (sI (sI w112 37 0 ((w112.1 37 0) + w173)) 38 0 ((w112.1 38 0) + w201)) 39 0 ((w112.1 39 0) + w229)) 40 0 ((w112.1 40 0) + w257)) := hB112
                        refine lv_iadd hx hb dX1_layRim_257 ?_
                        refine mp_40 hx hb hts hown hK hE dX1_layRim_258 (fun H locs hE => ?_)
                        exact hJ261 (sI (sI (sI (sI w112 37 0 ((w112.1 37 0) + w173)) 38 0 ((w112.1 38 0) + w201)) 39 0 ((w112.1 39 0) + w229)) 40 0 ((w112.1 40 0) + w257))  hB112 _ _ _ hE (lv_sub hl [0, 1, 2, 3] rfl)
                      refine lv_if_eq (tgt := 256) hx hb dX1_layRim_243 (by decide) (fun c243 => ?_) (fun c243 => ?_)
                      · have hB112 : m_layRim_b112 p1 i22 i112 w112 = m_layRim_j261 (m_layRim_j257 w112 w173 w201 w229 (0 : Int32)) := hB112.trans (congrArg (fun z => m_layRim_j261 (m_layRim_j257 w112 w173 w201 w229 z)) (if_pos c243))
                        refine lv_iconst (v := 0) hx hb dX1_layRim_256 rfl ?_
                        exact hJ257 (0 : Int32)  hB112 _ _ _ hE (lv_sub hl [0, 1, 2, 3] rfl)
                      · have hB112 : m_layRim_b112 p1 i22 i112 w112 = m_layRim_j261 (m_layRim_j257 w112 w173 w201 w229 (w112.1 25 ((8 * i22) + i112))) := hB112.trans (congrArg (fun z => m_layRim_j261 (m_layRim_j257 w112 w173 w201 w229 z)) (if_neg c243))
                        refine lv_aload_n hx hb dX1_layRim_246 rfl (lv_at hl 0 rfl) ?_
                        refine mg_25 hx hb hts hown hK hE dX1_layRim_247 ?_
                        refine lv_iload hx hb dX1_layRim_250 (lv_at hl 4 rfl) ?_
                        refine ma_25 (n := ((8 * i22) + i112)) (by omega) hx hb hK hE dX1_layRim_252 ?_
                        refine lv_goto (tgt := 257) hx hb dX1_layRim_253 (by decide) ?_
                        exact hJ257 (w112.1 25 ((8 * i22) + i112))  hB112 _ _ _ hE (lv_sub hl [0, 1, 2, 3] rfl)
                    refine lv_if_eq (tgt := 228) hx hb dX1_layRim_215 (by decide) (fun c215 => ?_) (fun c215 => ?_)
                    · have hB112 : m_layRim_b112 p1 i22 i112 w112 = m_layRim_j261 (m_layRim_j229 p1 i22 i112 w112 w173 w201 (0 : Int32)) := hB112.trans (congrArg (fun z => m_layRim_j261 (m_layRim_j229 p1 i22 i112 w112 w173 w201 z)) (if_pos c215))
                      refine lv_iconst (v := 0) hx hb dX1_layRim_228 rfl ?_
                      exact hJ229 (0 : Int32)  hB112 _ _ _ hE (lv_sub hl [0, 1, 2, 3, 4] rfl)
                    · have hB112 : m_layRim_b112 p1 i22 i112 w112 = m_layRim_j261 (m_layRim_j229 p1 i22 i112 w112 w173 w201 (w112.1 24 ((8 * i22) + i112))) := hB112.trans (congrArg (fun z => m_layRim_j261 (m_layRim_j229 p1 i22 i112 w112 w173 w201 z)) (if_neg c215))
                      refine lv_aload_n hx hb dX1_layRim_218 rfl (lv_at hl 0 rfl) ?_
                      refine mg_24 hx hb hts hown hK hE dX1_layRim_219 ?_
                      refine lv_iload hx hb dX1_layRim_222 (lv_at hl 4 rfl) ?_
                      refine ma_24 (n := ((8 * i22) + i112)) (by omega) hx hb hK hE dX1_layRim_224 ?_
                      refine lv_goto (tgt := 229) hx hb dX1_layRim_225 (by decide) ?_
                      exact hJ229 (w112.1 24 ((8 * i22) + i112))  hB112 _ _ _ hE (lv_sub hl [0, 1, 2, 3, 4] rfl)
                  refine lv_if_eq (tgt := 200) hx hb dX1_layRim_187 (by decide) (fun c187 => ?_) (fun c187 => ?_)
                  · have hB112 : m_layRim_b112 p1 i22 i112 w112 = m_layRim_j261 (m_layRim_j201 p1 i22 i112 w112 w173 (0 : Int32)) := hB112.trans (congrArg (fun z => m_layRim_j261 (m_layRim_j201 p1 i22 i112 w112 w173 z)) (if_pos c187))
                    refine lv_iconst (v := 0) hx hb dX1_layRim_200 rfl ?_
                    exact hJ201 (0 : Int32)  hB112 _ _ _ hE (lv_sub hl [0, 1, 2, 3, 4] rfl)
                  · have hB112 : m_layRim_b112 p1 i22 i112 w112 = m_layRim_j261 (m_layRim_j201 p1 i22 i112 w112 w173 (w112.1 25 ((8 * i22) + i112))) := hB112.trans (congrArg (fun z => m_layRim_j261 (m_layRim_j201 p1 i22 i112 w112 w173 z)) (if_neg c187))
                    refine lv_aload_n hx hb dX1_layRim_190 rfl (lv_at hl 0 rfl) ?_
                    refine mg_25 hx hb hts hown hK hE dX1_layRim_191 ?_
                    refine lv_iload hx hb dX1_layRim_194 (lv_at hl 4 rfl) ?_
                    refine ma_25 (n := ((8 * i22) + i112)) (by omega) hx hb hK hE dX1_layRim_196 ?_
                    refine lv_goto (tgt := 201) hx hb dX1_layRim_197 (by decide) ?_
                    exact hJ201 (w112.1 25 ((8 * i22) + i112))  hB112 _ _ _ hE (lv_sub hl [0, 1, 2, 3, 4] rfl)
                refine lv_if_eq (tgt := 172) hx hb dX1_layRim_159 (by decide) (fun c159 => ?_) (fun c159 => ?_)
                · have hB112 : m_layRim_b112 p1 i22 i112 w112 = m_layRim_j261 (m_layRim_j173 p1 i22 i112 w112 (0 : Int32)) := hB112.trans (congrArg (fun z => m_layRim_j261 (m_layRim_j173 p1 i22 i112 w112 z)) (if_pos c159))
                  refine lv_iconst (v := 0) hx hb dX1_layRim_172 rfl ?_
                  exact hJ173 (0 : Int32)  hB112 _ _ _ hE (lv_sub hl [1, 2, 3, 4, 0] rfl)
                · have hB112 : m_layRim_b112 p1 i22 i112 w112 = m_layRim_j261 (m_layRim_j173 p1 i22 i112 w112 (w112.1 24 ((8 * i22) + i112))) := hB112.trans (congrArg (fun z => m_layRim_j261 (m_layRim_j173 p1 i22 i112 w112 z)) (if_neg c159))
                  refine lv_aload_n hx hb dX1_layRim_162 rfl (lv_at hl 1 rfl) ?_
                  refine mg_24 hx hb hts hown hK hE dX1_layRim_163 ?_
                  refine lv_iload hx hb dX1_layRim_166 (lv_at hl 0 rfl) ?_
                  refine ma_24 (n := ((8 * i22) + i112)) (by omega) hx hb hK hE dX1_layRim_168 ?_
                  refine lv_goto (tgt := 173) hx hb dX1_layRim_169 (by decide) ?_
                  exact hJ173 (w112.1 24 ((8 * i22) + i112))  hB112 _ _ _ hE (lv_sub hl [1, 2, 3, 4, 0] rfl)
        exact hL112 8 0 w110 (by omega) hB22 _ _ _ hE (lv_sub hl [1, 2, 3, 0] rfl)
      refine lv_if_eq (tgt := 110) hx hb dX1_layRim_33 (by decide) (fun c33 => ?_) (fun c33 => ?_)
      · have hB22 : m_layRim_b22 p1 i22 w22 = m_layRim_j110 p1 i22 w22 := hB22.trans (congrArg (fun z => m_layRim_j110 p1 i22 z) (if_pos c33))
        exact hJ110 w22  hB22 _ _ _ hE (lv_sub hl [0, 1, 2] rfl)
      · have hB22 : m_layRim_b22 p1 i22 w22 = m_layRim_j110 p1 i22 (m_layRim_m91 i22 (sI (sI (sI w22 37 0 ((w22.1 37 0) + (w22.1 26 (4 * i22)))) 38 0 ((w22.1 38 0) + (w22.1 26 ((4 * i22) + 1)))) 39 0 ((w22.1 39 0) + (w22.1 26 ((4 * i22) + 2))))) := hB22.trans (congrArg (fun z => m_layRim_j110 p1 i22 z) (if_neg c33))
        refine lv_aload_n hx hb dX1_layRim_36 rfl (lv_at hl 0 rfl) ?_
        refine lv_dup hx hb dX1_layRim_37 rfl ?_
        refine mg_37 hx hb hts hown hK hE dX1_layRim_38 ?_
        refine lv_aload_n hx hb dX1_layRim_41 rfl (lv_at hl 0 rfl) ?_
        refine mg_26 hx hb hts hown hK hE dX1_layRim_42 ?_
        refine lv_iconst (v := 4) hx hb dX1_layRim_45 rfl ?_
        refine lv_iload_n hx hb dX1_layRim_46 rfl (lv_at hl 2 rfl) ?_
        refine n_mul (a := 4) (b := i22) hx hb dX1_layRim_47 ?_
        refine ma_26 (n := (4 * i22)) (by omega) hx hb hK hE dX1_layRim_48 ?_
        refine lv_iadd hx hb dX1_layRim_49 ?_
        refine mp_37 hx hb hts hown hK hE dX1_layRim_50 (fun H locs hE => ?_)
        refine lv_aload_n hx hb dX1_layRim_53 rfl (lv_at hl 0 rfl) ?_
        refine lv_dup hx hb dX1_layRim_54 rfl ?_
        refine mg_38 hx hb hts hown hK hE dX1_layRim_55 ?_
        refine lv_aload_n hx hb dX1_layRim_58 rfl (lv_at hl 0 rfl) ?_
        refine mg_26 hx hb hts hown hK hE dX1_layRim_59 ?_
        refine lv_iconst (v := 4) hx hb dX1_layRim_62 rfl ?_
        refine lv_iload_n hx hb dX1_layRim_63 rfl (lv_at hl 2 rfl) ?_
        refine n_mul (a := 4) (b := i22) hx hb dX1_layRim_64 ?_
        refine lv_iconst (v := 1) hx hb dX1_layRim_65 rfl ?_
        refine n_add (a := (4 * i22)) (b := 1) hx hb dX1_layRim_66 ?_
        refine ma_26 (n := ((4 * i22) + 1)) (by omega) hx hb hK hE dX1_layRim_67 ?_
        refine lv_iadd hx hb dX1_layRim_68 ?_
        refine mp_38 hx hb hts hown hK hE dX1_layRim_69 (fun H locs hE => ?_)
        refine lv_aload_n hx hb dX1_layRim_72 rfl (lv_at hl 0 rfl) ?_
        refine lv_dup hx hb dX1_layRim_73 rfl ?_
        refine mg_39 hx hb hts hown hK hE dX1_layRim_74 ?_
        refine lv_aload_n hx hb dX1_layRim_77 rfl (lv_at hl 0 rfl) ?_
        refine mg_26 hx hb hts hown hK hE dX1_layRim_78 ?_
        refine lv_iconst (v := 4) hx hb dX1_layRim_81 rfl ?_
        refine lv_iload_n hx hb dX1_layRim_82 rfl (lv_at hl 2 rfl) ?_
        refine n_mul (a := 4) (b := i22) hx hb dX1_layRim_83 ?_
        refine lv_iconst (v := 2) hx hb dX1_layRim_84 rfl ?_
        refine n_add (a := (4 * i22)) (b := 2) hx hb dX1_layRim_85 ?_
        refine ma_26 (n := ((4 * i22) + 2)) (by omega) hx hb hK hE dX1_layRim_86 ?_
        refine lv_iadd hx hb dX1_layRim_87 ?_
        refine mp_39 hx hb hts hown hK hE dX1_layRim_88 (fun H locs hE => ?_)
        have hNm91 : ∀ (wm91 : ZT) (hB22 : m_layRim_b22 p1 i22 w22 = m_layRim_j110 p1 i22 (m_layRim_m91 i22 wm91)), ∀ (H : Heap) (locs : List Loc) (ls : Array Slot), EW D A s.heap (MW m ar cs wm91) H locs → lv_has ls 5 [(0, .ref m), (1, .int p1), (2, .int (nI i22))] → W p l e R s mid args below meth c H locs 0 0 Q (F0 mid 91 ls []) := by
          intro wm91 hB22 H locs ls hE hl
          have hB22 : m_layRim_b22 p1 i22 w22 = m_layRim_j110 p1 i22 (sI wm91 40 0 ((wm91.1 40 0) + (wm91.1 26 ((4 * i22) + 3)))) := hB22
          refine lv_aload_n hx hb dX1_layRim_91 rfl (lv_at hl 0 rfl) ?_
          refine lv_dup hx hb dX1_layRim_92 rfl ?_
          refine mg_40 hx hb hts hown hK hE dX1_layRim_93 ?_
          refine lv_aload_n hx hb dX1_layRim_96 rfl (lv_at hl 0 rfl) ?_
          refine mg_26 hx hb hts hown hK hE dX1_layRim_97 ?_
          refine lv_iconst (v := 4) hx hb dX1_layRim_100 rfl ?_
          refine lv_iload_n hx hb dX1_layRim_101 rfl (lv_at hl 2 rfl) ?_
          refine n_mul (a := 4) (b := i22) hx hb dX1_layRim_102 ?_
          refine lv_iconst (v := 3) hx hb dX1_layRim_103 rfl ?_
          refine n_add (a := (4 * i22)) (b := 3) hx hb dX1_layRim_104 ?_
          refine ma_26 (n := ((4 * i22) + 3)) (by omega) hx hb hK hE dX1_layRim_105 ?_
          refine lv_iadd hx hb dX1_layRim_106 ?_
          refine mp_40 hx hb hts hown hK hE dX1_layRim_107 (fun H locs hE => ?_)
          exact hJ110 (sI wm91 40 0 ((wm91.1 40 0) + (wm91.1 26 ((4 * i22) + 3))))  hB22 _ _ _ hE (lv_sub hl [0, 1, 2] rfl)
        exact hNm91 (sI (sI (sI w22 37 0 ((w22.1 37 0) + (w22.1 26 (4 * i22)))) 38 0 ((w22.1 38 0) + (w22.1 26 ((4 * i22) + 1)))) 39 0 ((w22.1 39 0) + (w22.1 26 ((4 * i22) + 2)))) hB22 _ _ _ hE (lv_sub hl [0, 1, 2] rfl)
  exact hL22 8 0 (sI (sI (sI (sI Z 37 0 (0 : Int32)) 38 0 (0 : Int32)) 39 0 (0 : Int32)) 40 0 (0 : Int32)) (by omega) hR _ _ _ hE (lv_sub hl [1, 2, 0] rfl)
section C_layRim
variable {p : Program} {l : Launch} {e : Env} {R : Room} {s : State} {mid : MethodId} {args : Array Value} {below : List Frame} {meth : Method} {c : Code} {H : Heap} {locs : List Loc} {Q : State → Prop} {cc : ByteArray} {pc : Nat} {ls : Array Slot} {rest : List Value} {D : va_G} {A : Nat → Prop} {m : Nat} {ar : Nat → Nat} {cs : Nat → ClassId} {Z : ZT} {nL : Nat}
theorem call_m_layRim (hx : p.tables.exec = Jvm.exec) (hb : c.code = cc) (hml : c.maxLocals = nL) (hown : s.vm.findClass RX1 = some mid.cls) (hts : ∀ w ∈ lw_all, w.before args s = true) (hK : KK D cs s) (hA : ∀ q : Nat, s.heap.size ≤ q → A q) (hE : EW D A s.heap (MW m ar cs Z) H locs) (hls : ls.size = nL) (p1 : Int32) (h1 : 2 ≤ R.frames) (h2 : 45 ≤ R.locals) (h3 : (rest.map fun v => v.category).sum ≤ 8) (hd : decode cc pc = .ok (.invokevirtual 277, 3)) (kk : ∀ (H1 : Heap) (locs1 : List Loc), EW D A s.heap (MW m ar cs (m_layRim p1 Z)) H1 locs1 → W p l e R s mid args below meth c H1 locs1 0 0 Q (F0 mid (pc + 3) ls (rest))) : W p l e R s mid args below meth c H locs 0 0 Q (F0 mid pc ls (.int p1 :: .ref m :: rest)) :=
  gCall_v (As := [.int p1]) (rest := rest) (q0 := 0) (ci := 1) (fs := MF ar Z) (T' := TX1) (N' := 52) hx hb hml hown hts hK hA hE hls (met_m_layRim l D cs m ar Z H.size p1) (cwV 1 hts (lw_V q1350 q1352 qs69 q85 q1353) rfl rfl rfl (by decide +kernel) ⟨h1, h2⟩) rfl rfl rfl rfl h3 hd ⟨Nat.zero_le _, Nat.zero_le _⟩ (fun u H1 locs1 hp _ hE => by subst hp; exact kk H1 locs1 hE)
end C_layRim
def m_quarrelSet_j83 (w83 : Int32 × ZT) : Int32 × ZT := (w83.1, w83.2)
def m_quarrelSet_j82 (wc25 : ZT) (w82 : Int32) : Int32 × ZT := (w82, wc25)
def m_quarrelSet_k77 (i5 : Nat) : Int32 := nI i5
def m_quarrelSet_j55 (i5 : Nat) (w5 : Int32 × ZT) (wc25 : ZT) (w55 : Int32) : Int32 × ZT := m_quarrelSet_j82 wc25 (if w55 = 0 then w5.1 else (if w5.1 = (-9 : Int32) then m_quarrelSet_k77 i5 else (if (m_bitsOf w5.1) ≤ (m_bitsOf (nI i5)) then w5.1 else m_quarrelSet_k77 i5)))
def m_quarrelSet_c25 (i5 : Nat) (w5 : Int32 × ZT) (wc25 : ZT) : Int32 × ZT := m_quarrelSet_j55 i5 w5 wc25 (if wc25.1 40 0 < wc25.1 37 0 then (1 : Int32) else (if wc25.1 39 0 ≤ wc25.1 38 0 then (0 : Int32) else (1 : Int32)))
def m_quarrelSet_b5 (i5 : Nat) (w5 : Int32 × ZT) : Int32 × ZT := m_quarrelSet_j83 (if ((nI i5) &&& ((m_thereSet w5.2) ^^^ (-1 : Int32))) = 0 then m_quarrelSet_c25 i5 w5 (m_layRim (nI i5) w5.2) else (w5.1, w5.2))
def m_quarrelSet_e5 (w5 : Int32 × ZT) : Int32 × ZT := (w5.1, w5.2)
def m_quarrelSet (Z : ZT) : Int32 × ZT := m_quarrelSet_e5 (itR m_quarrelSet_b5 1 (256 - 1) ((-9 : Int32), Z))
set_option maxHeartbeats 4000000 in
set_option maxRecDepth 100000 in
theorem met_m_quarrelSet (l : Launch) (D : va_G) (cs : Nat → ClassId) (m : Nat) (ar : Nat → Nat) (Z : ZT) (sz : Nat)  : Met l yX1_quarrelSet (ws_ yX1_quarrelSet cX1_quarrelSet 4 (some .int)) ({ frames := 2, cells := 0, slots := 0, locals := 45 }) (va_Pc [.ref m] (wSt D cs (MW m ar cs Z) sz)) (cQi (fun (v : Int32) (u : ZT) => m_quarrelSet Z = (v, u)) D (fun u => MW m ar cs u) (MW m ar cs Z) sz) 0 0 (va_A (MW m ar cs Z) sz) := by
  refine gStart_i (C := RX1) rfl rfl (Nat.le_of_ble_eq_true rfl) ?_
  intro p e s mid args below meth c R Q A hx hb hml hown hts hK hA hRf hRl hRc hRs hret hE ls hl
  have hRf : 2 ≤ R.frames := hRf
  have hRl : 45 ≤ R.locals := hRl
  have hl : lv_has ls 4 [(0, .ref m)] := hl
  have hR : m_quarrelSet Z = (m_quarrelSet_e5 (itR m_quarrelSet_b5 1 (256 - 1) ((-9 : Int32), Z))) := rfl
  refine lv_bipush (v := -9) hx hb dX1_quarrelSet_0 rfl ?_
  refine lv_istore_n (lv' := [(1, .int (-9 : Int32)), (0, .ref m)]) hx hb dX1_quarrelSet_2 rfl hl (by decide) rfl (fun ls hl => ?_)
  refine lv_iconst (v := 1) hx hb dX1_quarrelSet_3 rfl ?_
  refine lv_istore_n (lv' := [(2, .int (1 : Int32)), (1, .int (-9 : Int32)), (0, .ref m)]) hx hb dX1_quarrelSet_4 rfl hl (by decide) rfl (fun ls hl => ?_)
  have hL5 : ∀ (k i5 : Nat) (w5 : Int32 × ZT) (hi5 : i5 + k = 256) (hR : m_quarrelSet Z = m_quarrelSet_e5 (itR m_quarrelSet_b5 i5 k w5)), ∀ (H : Heap) (locs : List Loc) (ls : Array Slot), EW D A s.heap (MW m ar cs w5.2) H locs → lv_has ls 4 [(0, .ref m), (1, .int w5.1), (2, .int (nI i5))] → W p l e R s mid args below meth c H locs 0 0 Q (F0 mid 5 ls []) := by
    intro k
    induction k with
    | zero =>
      intro i5 w5 hi5 hR H locs ls hE hl
      have hie5 : i5 = 256 := by omega
      have hR : m_quarrelSet Z = (w5.1, w5.2) := hR
      refine lv_iload_n hx hb dX1_quarrelSet_5 rfl (lv_at hl 2 rfl) ?_
      refine lv_sipush (v := 256) hx hb dX1_quarrelSet_6 rfl ?_
      refine n_geT (a := i5) (b := 256) (by omega) (by omega) hx hb dX1_quarrelSet_9 (tgt := 89) (by decide) ?_
      have hl := lv_sub (l' := [(0, .ref m), (1, .int w5.1)]) hl [0, 1] rfl
      refine lv_iload_n hx hb dX1_quarrelSet_89 rfl (lv_at hl 1 rfl) ?_
      exact hret w5.1 w5.2 hR rfl hE (Nat.le_refl 0) (Nat.le_refl 0) dX1_quarrelSet_90
    | succ k ih5 =>
      intro i5 w5 hi5 hR H locs ls hE hl
      have hlt5 : i5 < 256 := by omega
      have hB5 : m_quarrelSet_b5 i5 w5 = m_quarrelSet_j83 (if ((nI i5) &&& ((m_thereSet w5.2) ^^^ (-1 : Int32))) = 0 then m_quarrelSet_c25 i5 w5 (m_layRim (nI i5) w5.2) else (w5.1, w5.2)) := rfl
      refine lv_iload_n hx hb dX1_quarrelSet_5 rfl (lv_at hl 2 rfl) ?_
      refine lv_sipush (v := 256) hx hb dX1_quarrelSet_6 rfl ?_
      refine n_geF (a := i5) (b := 256) (by omega) (by omega) hx hb dX1_quarrelSet_9 (tgt := 89) (by decide) ?_
      refine lv_iload_n hx hb dX1_quarrelSet_12 rfl (lv_at hl 2 rfl) ?_
      refine lv_aload_n hx hb dX1_quarrelSet_13 rfl (lv_at hl 0 rfl) ?_
      refine call_m_thereSet hx hb hml hown hts hK hA hE hl.1 (lz (show 1 ≤ 2 by decide) hRf) (lz (show 22 ≤ 45 by decide) hRl) (Nat.le_of_ble_eq_true rfl) dX1_quarrelSet_14 (fun H locs hE => ?_)
      refine lv_iconst (v := -1) hx hb dX1_quarrelSet_17 rfl ?_
      refine lv_ixor hx hb dX1_quarrelSet_18 ?_
      refine lv_iand hx hb dX1_quarrelSet_19 ?_
      have hJ83 : ∀ (w83 : Int32 × ZT) (hB5 : m_quarrelSet_b5 i5 w5 = m_quarrelSet_j83 w83), ∀ (H : Heap) (locs : List Loc) (ls : Array Slot), EW D A s.heap (MW m ar cs w83.2) H locs → lv_has ls 4 [(0, .ref m), (1, .int w83.1), (2, .int (nI i5))] → W p l e R s mid args below meth c H locs 0 0 Q (F0 mid 83 ls []) := by
        intro w83 hB5 H locs ls hE hl
        have hB5 : m_quarrelSet_b5 i5 w5 = (w83.1, w83.2) := hB5
        refine n_inc (lv' := [(2, .int (nI (i5 + 1))), (0, .ref m), (1, .int w83.1)]) hx hb dX1_quarrelSet_83 hl (k := 2) rfl (by decide) rfl (fun ls hl => ?_)
        refine lv_goto (tgt := 5) hx hb dX1_quarrelSet_86 (by decide) ?_
        exact ih5 (i5 + 1) (w83.1, w83.2) (by omega) (hR.trans (congrArg (fun z => m_quarrelSet_e5 (itR m_quarrelSet_b5 (i5 + 1) k z)) hB5)) _ _ _ hE (lv_sub hl [1, 2, 0] rfl)
      refine lv_if_ne (tgt := 83) hx hb dX1_quarrelSet_20 (by decide) (fun c20 => ?_) (fun c20 => ?_)
      · have hB5 : m_quarrelSet_b5 i5 w5 = m_quarrelSet_j83 (w5.1, w5.2) := hB5.trans (congrArg (fun z => m_quarrelSet_j83 z) (if_neg c20))
        exact hJ83 (w5.1, w5.2)  hB5 _ _ _ hE (lv_sub hl [0, 1, 2] rfl)
      · have hB5 : m_quarrelSet_b5 i5 w5 = m_quarrelSet_j83 (m_quarrelSet_c25 i5 w5 (m_layRim (nI i5) w5.2)) := hB5.trans (congrArg (fun z => m_quarrelSet_j83 z) (if_pos c20))
        refine lv_aload_n hx hb dX1_quarrelSet_23 rfl (lv_at hl 0 rfl) ?_
        refine lv_iload_n hx hb dX1_quarrelSet_24 rfl (lv_at hl 2 rfl) ?_
        refine call_m_layRim hx hb hml hown hts hK hA hE hl.1 (nI i5) (lz (show 2 ≤ 2 by decide) hRf) (lz (show 45 ≤ 45 by decide) hRl) (Nat.le_of_ble_eq_true rfl) dX1_quarrelSet_25 (fun H locs hE => ?_)
        have hNc25 : ∀ (wc25 : ZT) (hB5 : m_quarrelSet_b5 i5 w5 = m_quarrelSet_j83 (m_quarrelSet_c25 i5 w5 wc25)), ∀ (H : Heap) (locs : List Loc) (ls : Array Slot), EW D A s.heap (MW m ar cs wc25) H locs → lv_has ls 4 [(0, .ref m), (1, .int w5.1), (2, .int (nI i5))] → W p l e R s mid args below meth c H locs 0 0 Q (F0 mid 28 ls []) := by
          intro wc25 hB5 H locs ls hE hl
          have hB5 : m_quarrelSet_b5 i5 w5 = m_quarrelSet_j83 (m_quarrelSet_j55 i5 w5 wc25 (if wc25.1 40 0 < wc25.1 37 0 then (1 : Int32) else (if wc25.1 39 0 ≤ wc25.1 38 0 then (0 : Int32) else (1 : Int32)))) := hB5
          refine lv_aload_n hx hb dX1_quarrelSet_28 rfl (lv_at hl 0 rfl) ?_
          refine mg_37 hx hb hts hown hK hE dX1_quarrelSet_29 ?_
          refine lv_aload_n hx hb dX1_quarrelSet_32 rfl (lv_at hl 0 rfl) ?_
          refine mg_40 hx hb hts hown hK hE dX1_quarrelSet_33 ?_
          have hJ55 : ∀ (w55 : Int32) (hB5 : m_quarrelSet_b5 i5 w5 = m_quarrelSet_j83 (m_quarrelSet_j55 i5 w5 wc25 w55)), ∀ (H : Heap) (locs : List Loc) (ls : Array Slot), EW D A s.heap (MW m ar cs wc25) H locs → lv_has ls 4 [(0, .ref m), (1, .int w5.1), (2, .int (nI i5))] → W p l e R s mid args below meth c H locs 0 0 Q (F0 mid 55 ls [.int w55]) := by
            intro w55 hB5 H locs ls hE hl
            have hB5 : m_quarrelSet_b5 i5 w5 = m_quarrelSet_j83 (m_quarrelSet_j82 wc25 (if w55 = 0 then w5.1 else (if w5.1 = (-9 : Int32) then m_quarrelSet_k77 i5 else (if (m_bitsOf w5.1) ≤ (m_bitsOf (nI i5)) then w5.1 else m_quarrelSet_k77 i5)))) := hB5
            refine lv_istore_n (lv' := [(3, .int w55), (0, .ref m), (1, .int w5.1), (2, .int (nI i5))]) hx hb dX1_quarrelSet_55 rfl hl (by decide) rfl (fun ls hl => ?_)
            refine lv_iload_n hx hb dX1_quarrelSet_56 rfl (lv_at hl 0 rfl) ?_
            have hJ82 : ∀ (w82 : Int32) (hB5 : m_quarrelSet_b5 i5 w5 = m_quarrelSet_j83 (m_quarrelSet_j82 wc25 w82)), ∀ (H : Heap) (locs : List Loc) (ls : Array Slot), EW D A s.heap (MW m ar cs wc25) H locs → lv_has ls 4 [(0, .ref m), (2, .int (nI i5))] → W p l e R s mid args below meth c H locs 0 0 Q (F0 mid 82 ls [.int w82]) := by
              intro w82 hB5 H locs ls hE hl
              have hB5 : m_quarrelSet_b5 i5 w5 = m_quarrelSet_j83 (w82, wc25) := hB5
              refine lv_istore_n (lv' := [(1, .int w82), (0, .ref m), (2, .int (nI i5))]) hx hb dX1_quarrelSet_82 rfl hl (by decide) rfl (fun ls hl => ?_)
              exact hJ83 (w82, wc25)  hB5 _ _ _ hE (lv_sub hl [1, 0, 2] rfl)
            refine lv_if_eq (tgt := 81) hx hb dX1_quarrelSet_57 (by decide) (fun c57 => ?_) (fun c57 => ?_)
            · have hB5 : m_quarrelSet_b5 i5 w5 = m_quarrelSet_j83 (m_quarrelSet_j82 wc25 w5.1) := hB5.trans (congrArg (fun z => m_quarrelSet_j83 (m_quarrelSet_j82 wc25 z)) (if_pos c57))
              refine lv_iload_n hx hb dX1_quarrelSet_81 rfl (lv_at hl 2 rfl) ?_
              exact hJ82 w5.1  hB5 _ _ _ hE (lv_sub hl [1, 3] rfl)
            · have hB5 : m_quarrelSet_b5 i5 w5 = m_quarrelSet_j83 (m_quarrelSet_j82 wc25 (if w5.1 = (-9 : Int32) then m_quarrelSet_k77 i5 else (if (m_bitsOf w5.1) ≤ (m_bitsOf (nI i5)) then w5.1 else m_quarrelSet_k77 i5))) := hB5.trans (congrArg (fun z => m_quarrelSet_j83 (m_quarrelSet_j82 wc25 z)) (if_neg c57))
              refine lv_iload_n hx hb dX1_quarrelSet_60 rfl (lv_at hl 2 rfl) ?_
              refine lv_bipush (v := -9) hx hb dX1_quarrelSet_61 rfl ?_
              have hJ77 : ∀ (hB5 : m_quarrelSet_b5 i5 w5 = m_quarrelSet_j83 (m_quarrelSet_j82 wc25 (m_quarrelSet_k77 i5))), ∀ (H : Heap) (locs : List Loc) (ls : Array Slot), EW D A s.heap (MW m ar cs wc25) H locs → lv_has ls 4 [(0, .ref m), (2, .int (nI i5))] → W p l e R s mid args below meth c H locs 0 0 Q (F0 mid 77 ls []) := by
                intro hB5 H locs ls hE hl
                have hB5 : m_quarrelSet_b5 i5 w5 = m_quarrelSet_j83 (m_quarrelSet_j82 wc25 (nI i5)) := hB5
                refine lv_iload_n hx hb dX1_quarrelSet_77 rfl (lv_at hl 1 rfl) ?_
                refine lv_goto (tgt := 82) hx hb dX1_quarrelSet_78 (by decide) ?_
                exact hJ82 (nI i5)  hB5 _ _ _ hE (lv_sub hl [0, 1] rfl)
              refine lv_icmp_eq (tgt := 77) hx hb dX1_quarrelSet_63 (by decide) (fun c63 => ?_) (fun c63 => ?_)
              · have hB5 : m_quarrelSet_b5 i5 w5 = m_quarrelSet_j83 (m_quarrelSet_j82 wc25 (m_quarrelSet_k77 i5)) := hB5.trans (congrArg (fun z => m_quarrelSet_j83 (m_quarrelSet_j82 wc25 z)) (if_pos c63))
                exact hJ77  hB5 _ _ _ hE (lv_sub hl [1, 3] rfl)
              · have hB5 : m_quarrelSet_b5 i5 w5 = m_quarrelSet_j83 (m_quarrelSet_j82 wc25 (if (m_bitsOf w5.1) ≤ (m_bitsOf (nI i5)) then w5.1 else m_quarrelSet_k77 i5)) := hB5.trans (congrArg (fun z => m_quarrelSet_j83 (m_quarrelSet_j82 wc25 z)) (if_neg c63))
                refine lv_iload_n hx hb dX1_quarrelSet_66 rfl (lv_at hl 3 rfl) ?_
                refine call_m_bitsOf hx hb hml hown hts hK hA hE hl.1 (nI i5) (lz (show 1 ≤ 2 by decide) hRf) (lz (show 22 ≤ 45 by decide) hRl) (Nat.le_of_ble_eq_true rfl) dX1_quarrelSet_67 (fun H locs hE => ?_)
                refine lv_iload_n hx hb dX1_quarrelSet_70 rfl (lv_at hl 2 rfl) ?_
                refine call_m_bitsOf hx hb hml hown hts hK hA hE hl.1 w5.1 (lz (show 1 ≤ 2 by decide) hRf) (lz (show 22 ≤ 45 by decide) hRl) (Nat.le_of_ble_eq_true rfl) dX1_quarrelSet_71 (fun H locs hE => ?_)
                refine lv_icmp_ge (tgt := 81) hx hb dX1_quarrelSet_74 (by decide) (fun c74 => ?_) (fun c74 => ?_)
                · have hB5 : m_quarrelSet_b5 i5 w5 = m_quarrelSet_j83 (m_quarrelSet_j82 wc25 w5.1) := hB5.trans (congrArg (fun z => m_quarrelSet_j83 (m_quarrelSet_j82 wc25 z)) (if_pos c74))
                  refine lv_iload_n hx hb dX1_quarrelSet_81 rfl (lv_at hl 2 rfl) ?_
                  exact hJ82 w5.1  hB5 _ _ _ hE (lv_sub hl [1, 3] rfl)
                · have hB5 : m_quarrelSet_b5 i5 w5 = m_quarrelSet_j83 (m_quarrelSet_j82 wc25 (m_quarrelSet_k77 i5)) := hB5.trans (congrArg (fun z => m_quarrelSet_j83 (m_quarrelSet_j82 wc25 z)) (if_neg c74))
                  exact hJ77  hB5 _ _ _ hE (lv_sub hl [1, 3] rfl)
          refine lv_icmp_gt (tgt := 50) hx hb dX1_quarrelSet_36 (by decide) (fun c36 => ?_) (fun c36 => ?_)
          · have hB5 : m_quarrelSet_b5 i5 w5 = m_quarrelSet_j83 (m_quarrelSet_j55 i5 w5 wc25 (1 : Int32)) := hB5.trans (congrArg (fun z => m_quarrelSet_j83 (m_quarrelSet_j55 i5 w5 wc25 z)) (if_pos c36))
            refine lv_iconst (v := 1) hx hb dX1_quarrelSet_50 rfl ?_
            refine lv_goto (tgt := 55) hx hb dX1_quarrelSet_51 (by decide) ?_
            exact hJ55 (1 : Int32)  hB5 _ _ _ hE (lv_sub hl [0, 1, 2] rfl)
          · have hB5 : m_quarrelSet_b5 i5 w5 = m_quarrelSet_j83 (m_quarrelSet_j55 i5 w5 wc25 (if wc25.1 39 0 ≤ wc25.1 38 0 then (0 : Int32) else (1 : Int32))) := hB5.trans (congrArg (fun z => m_quarrelSet_j83 (m_quarrelSet_j55 i5 w5 wc25 z)) (if_neg c36))
            refine lv_aload_n hx hb dX1_quarrelSet_39 rfl (lv_at hl 0 rfl) ?_
            refine mg_39 hx hb hts hown hK hE dX1_quarrelSet_40 ?_
            refine lv_aload_n hx hb dX1_quarrelSet_43 rfl (lv_at hl 0 rfl) ?_
            refine mg_38 hx hb hts hown hK hE dX1_quarrelSet_44 ?_
            refine lv_icmp_le (tgt := 54) hx hb dX1_quarrelSet_47 (by decide) (fun c47 => ?_) (fun c47 => ?_)
            · have hB5 : m_quarrelSet_b5 i5 w5 = m_quarrelSet_j83 (m_quarrelSet_j55 i5 w5 wc25 (0 : Int32)) := hB5.trans (congrArg (fun z => m_quarrelSet_j83 (m_quarrelSet_j55 i5 w5 wc25 z)) (if_pos c47))
              refine lv_iconst (v := 0) hx hb dX1_quarrelSet_54 rfl ?_
              exact hJ55 (0 : Int32)  hB5 _ _ _ hE (lv_sub hl [0, 1, 2] rfl)
            · have hB5 : m_quarrelSet_b5 i5 w5 = m_quarrelSet_j83 (m_quarrelSet_j55 i5 w5 wc25 (1 : Int32)) := hB5.trans (congrArg (fun z => m_quarrelSet_j83 (m_quarrelSet_j55 i5 w5 wc25 z)) (if_neg c47))
              refine lv_iconst (v := 1) hx hb dX1_quarrelSet_50 rfl ?_
              refine lv_goto (tgt := 55) hx hb dX1_quarrelSet_51 (by decide) ?_
              exact hJ55 (1 : Int32)  hB5 _ _ _ hE (lv_sub hl [0, 1, 2] rfl)
        exact hNc25 (m_layRim (nI i5) w5.2) hB5 _ _ _ hE (lv_sub hl [0, 1, 2] rfl)
  exact hL5 (256 - 1) 1 ((-9 : Int32), Z) (by omega) hR _ _ _ hE (lv_sub hl [2, 1, 0] rfl)
section C_quarrelSet
variable {p : Program} {l : Launch} {e : Env} {R : Room} {s : State} {mid : MethodId} {args : Array Value} {below : List Frame} {meth : Method} {c : Code} {H : Heap} {locs : List Loc} {Q : State → Prop} {cc : ByteArray} {pc : Nat} {ls : Array Slot} {rest : List Value} {D : va_G} {A : Nat → Prop} {m : Nat} {ar : Nat → Nat} {cs : Nat → ClassId} {Z : ZT} {nL : Nat}
theorem call_m_quarrelSet (hx : p.tables.exec = Jvm.exec) (hb : c.code = cc) (hml : c.maxLocals = nL) (hown : s.vm.findClass RX1 = some mid.cls) (hts : ∀ w ∈ lw_all, w.before args s = true) (hK : KK D cs s) (hA : ∀ q : Nat, s.heap.size ≤ q → A q) (hE : EW D A s.heap (MW m ar cs Z) H locs) (hls : ls.size = nL)  (h1 : 3 ≤ R.frames) (h2 : 68 ≤ R.locals) (h3 : (rest.map fun v => v.category).sum ≤ 8) (hd : decode cc pc = .ok (.invokevirtual 280, 3)) (kk : ∀ (H1 : Heap) (locs1 : List Loc), EW D A s.heap (MW m ar cs (m_quarrelSet Z).2) H1 locs1 → W p l e R s mid args below meth c H1 locs1 0 0 Q (F0 mid (pc + 3) ls (.int (m_quarrelSet Z).1 :: rest))) : W p l e R s mid args below meth c H locs 0 0 Q (F0 mid pc ls (.ref m :: rest)) :=
  gCall_i (As := []) (rest := rest) (q0 := 0) (ci := 1) (fs := MF ar Z) (T' := TX1) (N' := 52) hx hb hml hown hts hK hA hE hls (met_m_quarrelSet l D cs m ar Z H.size ) (cwV 0 hts (lw_V q1346 q1348 qs68 q85 q1349) rfl rfl rfl (by decide +kernel) ⟨h1, h2⟩) rfl rfl rfl rfl h3 hd ⟨Nat.zero_le _, Nat.zero_le _⟩ (fun v u H1 locs1 hp _ hE => by rw [hp] at kk; exact kk H1 locs1 hE)
end C_quarrelSet
def m_span_c29 (p1 : Int32) (p2 : Int32) (p3 : Int32) (p4 : Int32) (wc29 : Int32 × ZT) : Int32 × ZT := (if 0 ≤ wc29.1 then (if (m_isLink (ix p1) (ix p2) wc29.2) = 0 then (m_meets 1 wc29.2) else ((1 : Int32), sI (sI wc29.2 24 ((8 * (ix p1)) + (ix p2)) p3) 25 ((8 * (ix p1)) + (ix p2)) p4)) else (wc29.1, wc29.2))
def m_span_j27 (p1 : Int32) (p2 : Int32) (p3 : Int32) (p4 : Int32) (Z : ZT) (w27 : Int32) : Int32 × ZT := m_span_c29 p1 p2 p3 p4 (m_needTwo w27 p1 p2 Z)
def m_span (p1 : Int32) (p2 : Int32) (p3 : Int32) (p4 : Int32) (Z : ZT) : Int32 × ZT := m_span_j27 p1 p2 p3 p4 Z (if (m_in p3 (0 : Int32) (100000 : Int32)) = 0 then (0 : Int32) else (if (m_in p4 p3 (100000 : Int32)) = 0 then (0 : Int32) else (1 : Int32)))
set_option maxHeartbeats 4000000 in
set_option maxRecDepth 100000 in
theorem met_m_span (l : Launch) (D : va_G) (cs : Nat → ClassId) (m : Nat) (ar : Nat → Nat) (Z : ZT) (sz : Nat) (p1 : Int32) (p2 : Int32) (p3 : Int32) (p4 : Int32) : Met l yX1_span (ws_ yX1_span cX1_span 6 (some .int)) ({ frames := 3, cells := 0, slots := 0, locals := 65 }) (va_Pc [.ref m, .int p1, .int p2, .int p3, .int p4] (wSt D cs (MW m ar cs Z) sz)) (cQi (fun (v : Int32) (u : ZT) => m_span p1 p2 p3 p4 Z = (v, u)) D (fun u => MW m ar cs u) (MW m ar cs Z) sz) 0 0 (va_A (MW m ar cs Z) sz) := by
  refine gStart_i (C := RX1) rfl rfl (Nat.le_of_ble_eq_true rfl) ?_
  intro p e s mid args below meth c R Q A hx hb hml hown hts hK hA hRf hRl hRc hRs hret hE ls hl
  have hRf : 3 ≤ R.frames := hRf
  have hRl : 65 ≤ R.locals := hRl
  have hl : lv_has ls 6 [(0, .ref m), (1, .int p1), (2, .int p2), (3, .int p3), (4, .int p4)] := hl
  have hR : m_span p1 p2 p3 p4 Z = (m_span_j27 p1 p2 p3 p4 Z (if (m_in p3 (0 : Int32) (100000 : Int32)) = 0 then (0 : Int32) else (if (m_in p4 p3 (100000 : Int32)) = 0 then (0 : Int32) else (1 : Int32)))) := rfl
  refine lv_aload_n hx hb dX1_span_0 rfl (lv_at hl 0 rfl) ?_
  refine lv_iload_n hx hb dX1_span_1 rfl (lv_at hl 3 rfl) ?_
  refine lv_iconst (v := 0) hx hb dX1_span_2 rfl ?_
  refine lv_ldc (v := 100000) hx hb hown (hts _ q1151) dX1_span_3 ?_
  refine call_m_in hx hb hml hown hts hK hA hE hl.1 p3 (0 : Int32) (100000 : Int32) (lz (show 1 ≤ 3 by decide) hRf) (lz (show 22 ≤ 65 by decide) hRl) (Nat.le_of_ble_eq_true rfl) dX1_span_5 (fun H locs hE => ?_)
  have hJ27 : ∀ (w27 : Int32) (hR : m_span p1 p2 p3 p4 Z = m_span_j27 p1 p2 p3 p4 Z w27), ∀ (H : Heap) (locs : List Loc) (ls : Array Slot), EW D A s.heap (MW m ar cs Z) H locs → lv_has ls 6 [(0, .ref m), (1, .int p1), (2, .int p2), (3, .int p3), (4, .int p4)] → W p l e R s mid args below meth c H locs 0 0 Q (F0 mid 27 ls [.int w27, .ref m]) := by
    intro w27 hR H locs ls hE hl
    have hR : m_span p1 p2 p3 p4 Z = (m_span_c29 p1 p2 p3 p4 (m_needTwo w27 p1 p2 Z)) := hR
    refine lv_iload_n hx hb dX1_span_27 rfl (lv_at hl 1 rfl) ?_
    refine lv_iload_n hx hb dX1_span_28 rfl (lv_at hl 2 rfl) ?_
    refine call_m_needTwo hx hb hml hown hts hK hA hE hl.1 w27 p1 p2 (lz (show 3 ≤ 3 by decide) hRf) (lz (show 65 ≤ 65 by decide) hRl) (Nat.le_of_ble_eq_true rfl) dX1_span_29 (fun H locs hE => ?_)
    have hNc29 : ∀ (wc29 : Int32 × ZT) (hewc29 : wc29 = m_needTwo w27 p1 p2 Z) (hR : m_span p1 p2 p3 p4 Z = m_span_c29 p1 p2 p3 p4 wc29), ∀ (H : Heap) (locs : List Loc) (ls : Array Slot), EW D A s.heap (MW m ar cs wc29.2) H locs → lv_has ls 6 [(0, .ref m), (1, .int p1), (2, .int p2), (3, .int p3), (4, .int p4)] → W p l e R s mid args below meth c H locs 0 0 Q (F0 mid 32 ls [.int wc29.1]) := by
      intro wc29 hewc29 hR H locs ls hE hl
      have hR : m_span p1 p2 p3 p4 Z = (if 0 ≤ wc29.1 then (if (m_isLink (ix p1) (ix p2) wc29.2) = 0 then (m_meets 1 wc29.2) else ((1 : Int32), sI (sI wc29.2 24 ((8 * (ix p1)) + (ix p2)) p3) 25 ((8 * (ix p1)) + (ix p2)) p4)) else (wc29.1, wc29.2)) := hR
      refine lv_istore (lv' := [(5, .int wc29.1), (0, .ref m), (1, .int p1), (2, .int p2), (3, .int p3), (4, .int p4)]) hx hb dX1_span_32 hl (by decide) rfl (fun ls hl => ?_)
      refine lv_iload hx hb dX1_span_34 (lv_at hl 0 rfl) ?_
      refine lv_if_ge (tgt := 42) hx hb dX1_span_36 (by decide) (fun c36 => ?_) (fun c36 => ?_)
      · have hR : m_span p1 p2 p3 p4 Z = (if (m_isLink (ix p1) (ix p2) wc29.2) = 0 then (m_meets 1 wc29.2) else ((1 : Int32), sI (sI wc29.2 24 ((8 * (ix p1)) + (ix p2)) p3) 25 ((8 * (ix p1)) + (ix p2)) p4)) := hR.trans (congrArg (fun z => z) (if_pos c36))
        have hnp1 := vp_ix (x := p1) (N := 8) ((needTwo_ok (by rw [← hewc29]; exact c36)).1) (by decide)
        have hbnp1 := hnp1.2
        have hnp2 := vp_ix (x := p2) (N := 8) ((needTwo_ok (by rw [← hewc29]; exact c36)).2.1) (by decide)
        have hbnp2 := hnp2.2
        refine lv_aload_n hx hb dX1_span_42 rfl (lv_at hl 1 rfl) ?_
        refine lv_iload_n hx hb dX1_span_43 rfl (lv_at hl 2 rfl) ?_
        refine top_nat hnp1.1 ?_
        refine lv_iload_n hx hb dX1_span_44 rfl (lv_at hl 3 rfl) ?_
        refine top_nat hnp2.1 ?_
        refine call_m_isLink hx hb hml hown hts hK hA hE hl.1 (ix p1) (ix p2) (by omega) (by omega) (lz (show 1 ≤ 3 by decide) hRf) (lz (show 22 ≤ 65 by decide) hRl) (Nat.le_of_ble_eq_true rfl) dX1_span_45 (fun H locs hE => ?_)
        refine lv_if_ne (tgt := 57) hx hb dX1_span_48 (by decide) (fun c48 => ?_) (fun c48 => ?_)
        · have hR : m_span p1 p2 p3 p4 Z = ((1 : Int32), sI (sI wc29.2 24 ((8 * (ix p1)) + (ix p2)) p3) 25 ((8 * (ix p1)) + (ix p2)) p4) := hR.trans (congrArg (fun z => z) (if_neg c48))
          refine lv_aload_n hx hb dX1_span_57 rfl (lv_at hl 1 rfl) ?_
          refine mg_24 hx hb hts hown hK hE dX1_span_58 ?_
          refine lv_bipush (v := 8) hx hb dX1_span_61 rfl ?_
          refine lv_iload_n hx hb dX1_span_63 rfl (lv_at hl 2 rfl) ?_
          refine top_nat hnp1.1 ?_
          refine n_mul (a := 8) (b := (ix p1)) hx hb dX1_span_64 ?_
          refine lv_iload_n hx hb dX1_span_65 rfl (lv_at hl 3 rfl) ?_
          refine top_nat hnp2.1 ?_
          refine n_add (a := (8 * (ix p1))) (b := (ix p2)) hx hb dX1_span_66 ?_
          refine lv_iload_n hx hb dX1_span_67 rfl (lv_at hl 4 rfl) ?_
          refine ms_24 (n := ((8 * (ix p1)) + (ix p2))) (by omega) hx hb hK hE dX1_span_68 (fun H locs hE => ?_)
          refine lv_aload_n hx hb dX1_span_69 rfl (lv_at hl 1 rfl) ?_
          refine mg_25 hx hb hts hown hK hE dX1_span_70 ?_
          refine lv_bipush (v := 8) hx hb dX1_span_73 rfl ?_
          refine lv_iload_n hx hb dX1_span_75 rfl (lv_at hl 2 rfl) ?_
          refine top_nat hnp1.1 ?_
          refine n_mul (a := 8) (b := (ix p1)) hx hb dX1_span_76 ?_
          refine lv_iload_n hx hb dX1_span_77 rfl (lv_at hl 3 rfl) ?_
          refine top_nat hnp2.1 ?_
          refine n_add (a := (8 * (ix p1))) (b := (ix p2)) hx hb dX1_span_78 ?_
          refine lv_iload hx hb dX1_span_79 (lv_at hl 5 rfl) ?_
          refine ms_25 (n := ((8 * (ix p1)) + (ix p2))) (by omega) hx hb hK hE dX1_span_81 (fun H locs hE => ?_)
          refine lv_iconst (v := 1) hx hb dX1_span_82 rfl ?_
          exact hret (1 : Int32) (sI (sI wc29.2 24 ((8 * (ix p1)) + (ix p2)) p3) 25 ((8 * (ix p1)) + (ix p2)) p4) hR rfl hE (Nat.le_refl 0) (Nat.le_refl 0) dX1_span_83
        · have hR : m_span p1 p2 p3 p4 Z = (m_meets 1 wc29.2) := hR.trans (congrArg (fun z => z) (if_pos c48))
          refine lv_aload_n hx hb dX1_span_51 rfl (lv_at hl 1 rfl) ?_
          refine lv_iconst (v := 1) hx hb dX1_span_52 rfl ?_
          refine call_m_meets hx hb hml hown hts hK hA hE hl.1 1 (by omega) (lz (show 1 ≤ 3 by decide) hRf) (lz (show 21 ≤ 65 by decide) hRl) (Nat.le_of_ble_eq_true rfl) dX1_span_53 (fun H locs hE => ?_)
          exact hret ((m_meets 1 wc29.2).1) ((m_meets 1 wc29.2).2) hR rfl hE (Nat.le_refl 0) (Nat.le_refl 0) dX1_span_56
      · have hR : m_span p1 p2 p3 p4 Z = (wc29.1, wc29.2) := hR.trans (congrArg (fun z => z) (if_neg c36))
        refine lv_iload hx hb dX1_span_39 (lv_at hl 0 rfl) ?_
        exact hret wc29.1 wc29.2 hR rfl hE (Nat.le_refl 0) (Nat.le_refl 0) dX1_span_41
    exact hNc29 (m_needTwo w27 p1 p2 Z) rfl hR _ _ _ hE (lv_sub hl [0, 1, 2, 3, 4] rfl)
  refine lv_if_eq (tgt := 26) hx hb dX1_span_8 (by decide) (fun c8 => ?_) (fun c8 => ?_)
  · have hR : m_span p1 p2 p3 p4 Z = m_span_j27 p1 p2 p3 p4 Z (0 : Int32) := hR.trans (congrArg (fun z => m_span_j27 p1 p2 p3 p4 Z z) (if_pos c8))
    refine lv_iconst (v := 0) hx hb dX1_span_26 rfl ?_
    exact hJ27 (0 : Int32)  hR _ _ _ hE (lv_sub hl [0, 1, 2, 3, 4] rfl)
  · have hR : m_span p1 p2 p3 p4 Z = m_span_j27 p1 p2 p3 p4 Z (if (m_in p4 p3 (100000 : Int32)) = 0 then (0 : Int32) else (1 : Int32)) := hR.trans (congrArg (fun z => m_span_j27 p1 p2 p3 p4 Z z) (if_neg c8))
    refine lv_iload hx hb dX1_span_11 (lv_at hl 4 rfl) ?_
    refine lv_iload_n hx hb dX1_span_13 rfl (lv_at hl 3 rfl) ?_
    refine lv_ldc (v := 100000) hx hb hown (hts _ q1151) dX1_span_14 ?_
    refine call_m_in hx hb hml hown hts hK hA hE hl.1 p4 p3 (100000 : Int32) (lz (show 1 ≤ 3 by decide) hRf) (lz (show 22 ≤ 65 by decide) hRl) (Nat.le_of_ble_eq_true rfl) dX1_span_16 (fun H locs hE => ?_)
    refine lv_if_eq (tgt := 26) hx hb dX1_span_19 (by decide) (fun c19 => ?_) (fun c19 => ?_)
    · have hR : m_span p1 p2 p3 p4 Z = m_span_j27 p1 p2 p3 p4 Z (0 : Int32) := hR.trans (congrArg (fun z => m_span_j27 p1 p2 p3 p4 Z z) (if_pos c19))
      refine lv_iconst (v := 0) hx hb dX1_span_26 rfl ?_
      exact hJ27 (0 : Int32)  hR _ _ _ hE (lv_sub hl [0, 1, 2, 3, 4] rfl)
    · have hR : m_span p1 p2 p3 p4 Z = m_span_j27 p1 p2 p3 p4 Z (1 : Int32) := hR.trans (congrArg (fun z => m_span_j27 p1 p2 p3 p4 Z z) (if_neg c19))
      refine lv_iconst (v := 1) hx hb dX1_span_22 rfl ?_
      refine lv_goto (tgt := 27) hx hb dX1_span_23 (by decide) ?_
      exact hJ27 (1 : Int32)  hR _ _ _ hE (lv_sub hl [0, 1, 2, 3, 4] rfl)
def m_door_j76 (p1 : Int32) (p3 : Int32) (p4 : Int32) (wc28 : Int32 × ZT) (w57 : Nat) (w76 : Nat) : Int32 × ZT := ((1 : Int32), sI (sI wc28.2 26 ((4 * (ix p1)) + w57) p3) 26 ((4 * (ix p1)) + w76) p4)
def m_door_j57 (p1 : Int32) (p2 : Int32) (p3 : Int32) (p4 : Int32) (wc28 : Int32 × ZT) (w57 : Nat) : Int32 × ZT := m_door_j76 p1 p3 p4 wc28 w57 (if p2 = 0 then 1 else 3)
def m_door_c28 (p1 : Int32) (p2 : Int32) (p3 : Int32) (p4 : Int32) (wc28 : Int32 × ZT) : Int32 × ZT := (if 0 ≤ wc28.1 then m_door_j57 p1 p2 p3 p4 wc28 (if p2 = 0 then 0 else 2) else (wc28.1, wc28.2))
def m_door_j27 (p1 : Int32) (p2 : Int32) (p3 : Int32) (p4 : Int32) (Z : ZT) (w27 : Int32) : Int32 × ZT := m_door_c28 p1 p2 p3 p4 (m_need w27 p1 Z)
def m_door (p1 : Int32) (p2 : Int32) (p3 : Int32) (p4 : Int32) (Z : ZT) : Int32 × ZT := m_door_j27 p1 p2 p3 p4 Z (if (m_in p3 (0 : Int32) (100000 : Int32)) = 0 then (0 : Int32) else (if (m_in p4 p3 (100000 : Int32)) = 0 then (0 : Int32) else (1 : Int32)))
set_option maxHeartbeats 4000000 in
set_option maxRecDepth 100000 in
theorem met_m_door (l : Launch) (D : va_G) (cs : Nat → ClassId) (m : Nat) (ar : Nat → Nat) (Z : ZT) (sz : Nat) (p1 : Int32) (p2 : Int32) (p3 : Int32) (p4 : Int32) : Met l yX1_door (ws_ yX1_door cX1_door 6 (some .int)) ({ frames := 3, cells := 0, slots := 0, locals := 64 }) (va_Pc [.ref m, .int p1, .int p2, .int p3, .int p4] (wSt D cs (MW m ar cs Z) sz)) (cQi (fun (v : Int32) (u : ZT) => m_door p1 p2 p3 p4 Z = (v, u)) D (fun u => MW m ar cs u) (MW m ar cs Z) sz) 0 0 (va_A (MW m ar cs Z) sz) := by
  refine gStart_i (C := RX1) rfl rfl (Nat.le_of_ble_eq_true rfl) ?_
  intro p e s mid args below meth c R Q A hx hb hml hown hts hK hA hRf hRl hRc hRs hret hE ls hl
  have hRf : 3 ≤ R.frames := hRf
  have hRl : 64 ≤ R.locals := hRl
  have hl : lv_has ls 6 [(0, .ref m), (1, .int p1), (2, .int p2), (3, .int p3), (4, .int p4)] := hl
  have hR : m_door p1 p2 p3 p4 Z = (m_door_j27 p1 p2 p3 p4 Z (if (m_in p3 (0 : Int32) (100000 : Int32)) = 0 then (0 : Int32) else (if (m_in p4 p3 (100000 : Int32)) = 0 then (0 : Int32) else (1 : Int32)))) := rfl
  refine lv_aload_n hx hb dX1_door_0 rfl (lv_at hl 0 rfl) ?_
  refine lv_iload_n hx hb dX1_door_1 rfl (lv_at hl 3 rfl) ?_
  refine lv_iconst (v := 0) hx hb dX1_door_2 rfl ?_
  refine lv_ldc (v := 100000) hx hb hown (hts _ q1151) dX1_door_3 ?_
  refine call_m_in hx hb hml hown hts hK hA hE hl.1 p3 (0 : Int32) (100000 : Int32) (lz (show 1 ≤ 3 by decide) hRf) (lz (show 22 ≤ 64 by decide) hRl) (Nat.le_of_ble_eq_true rfl) dX1_door_5 (fun H locs hE => ?_)
  have hJ27 : ∀ (w27 : Int32) (hR : m_door p1 p2 p3 p4 Z = m_door_j27 p1 p2 p3 p4 Z w27), ∀ (H : Heap) (locs : List Loc) (ls : Array Slot), EW D A s.heap (MW m ar cs Z) H locs → lv_has ls 6 [(0, .ref m), (1, .int p1), (2, .int p2), (3, .int p3), (4, .int p4)] → W p l e R s mid args below meth c H locs 0 0 Q (F0 mid 27 ls [.int w27, .ref m]) := by
    intro w27 hR H locs ls hE hl
    have hR : m_door p1 p2 p3 p4 Z = (m_door_c28 p1 p2 p3 p4 (m_need w27 p1 Z)) := hR
    refine lv_iload_n hx hb dX1_door_27 rfl (lv_at hl 1 rfl) ?_
    refine call_m_need hx hb hml hown hts hK hA hE hl.1 w27 p1 (lz (show 3 ≤ 3 by decide) hRf) (lz (show 64 ≤ 64 by decide) hRl) (Nat.le_of_ble_eq_true rfl) dX1_door_28 (fun H locs hE => ?_)
    have hNc28 : ∀ (wc28 : Int32 × ZT) (hewc28 : wc28 = m_need w27 p1 Z) (hR : m_door p1 p2 p3 p4 Z = m_door_c28 p1 p2 p3 p4 wc28), ∀ (H : Heap) (locs : List Loc) (ls : Array Slot), EW D A s.heap (MW m ar cs wc28.2) H locs → lv_has ls 6 [(0, .ref m), (1, .int p1), (2, .int p2), (3, .int p3), (4, .int p4)] → W p l e R s mid args below meth c H locs 0 0 Q (F0 mid 31 ls [.int wc28.1]) := by
      intro wc28 hewc28 hR H locs ls hE hl
      have hR : m_door p1 p2 p3 p4 Z = (if 0 ≤ wc28.1 then m_door_j57 p1 p2 p3 p4 wc28 (if p2 = 0 then 0 else 2) else (wc28.1, wc28.2)) := hR
      refine lv_istore (lv' := [(5, .int wc28.1), (0, .ref m), (1, .int p1), (2, .int p2), (3, .int p3), (4, .int p4)]) hx hb dX1_door_31 hl (by decide) rfl (fun ls hl => ?_)
      refine lv_iload hx hb dX1_door_33 (lv_at hl 0 rfl) ?_
      refine lv_if_ge (tgt := 41) hx hb dX1_door_35 (by decide) (fun c35 => ?_) (fun c35 => ?_)
      · have hR : m_door p1 p2 p3 p4 Z = (m_door_j57 p1 p2 p3 p4 wc28 (if p2 = 0 then 0 else 2)) := hR.trans (congrArg (fun z => z) (if_pos c35))
        have hnp1 := vp_ix (x := p1) (N := 8) ((need_ok (by rw [← hewc28]; exact c35)).1) (by decide)
        have hbnp1 := hnp1.2
        refine lv_aload_n hx hb dX1_door_41 rfl (lv_at hl 1 rfl) ?_
        refine mg_26 hx hb hts hown hK hE dX1_door_42 ?_
        refine lv_iconst (v := 4) hx hb dX1_door_45 rfl ?_
        refine lv_iload_n hx hb dX1_door_46 rfl (lv_at hl 2 rfl) ?_
        refine top_nat hnp1.1 ?_
        refine n_mul (a := 4) (b := (ix p1)) hx hb dX1_door_47 ?_
        refine lv_iload_n hx hb dX1_door_48 rfl (lv_at hl 3 rfl) ?_
        have hJ57 : ∀ (w57 : Nat) (hw57 : w57 ≤ 2) (hR : m_door p1 p2 p3 p4 Z = m_door_j57 p1 p2 p3 p4 wc28 w57), ∀ (H : Heap) (locs : List Loc) (ls : Array Slot), EW D A s.heap (MW m ar cs wc28.2) H locs → lv_has ls 6 [(0, .ref m), (1, .int p1), (2, .int p2), (3, .int p3), (4, .int p4)] → W p l e R s mid args below meth c H locs 0 0 Q (F0 mid 57 ls [.int (nI w57), .int (nI (4 * (ix p1))), .ref (ar 26)]) := by
          intro w57 hw57 hR H locs ls hE hl
          have hR : m_door p1 p2 p3 p4 Z = (m_door_j76 p1 p3 p4 wc28 w57 (if p2 = 0 then 1 else 3)) := hR
          refine n_add (a := (4 * (ix p1))) (b := w57) hx hb dX1_door_57 ?_
          refine lv_iload_n hx hb dX1_door_58 rfl (lv_at hl 3 rfl) ?_
          refine ms_26 (n := ((4 * (ix p1)) + w57)) (by omega) hx hb hK hE dX1_door_59 (fun H locs hE => ?_)
          refine lv_aload_n hx hb dX1_door_60 rfl (lv_at hl 0 rfl) ?_
          refine mg_26 hx hb hts hown hK hE dX1_door_61 ?_
          refine lv_iconst (v := 4) hx hb dX1_door_64 rfl ?_
          refine lv_iload_n hx hb dX1_door_65 rfl (lv_at hl 1 rfl) ?_
          refine top_nat hnp1.1 ?_
          refine n_mul (a := 4) (b := (ix p1)) hx hb dX1_door_66 ?_
          refine lv_iload_n hx hb dX1_door_67 rfl (lv_at hl 2 rfl) ?_
          have hJ76 : ∀ (w76 : Nat) (hw76 : w76 ≤ 3) (hR : m_door p1 p2 p3 p4 Z = m_door_j76 p1 p3 p4 wc28 w57 w76), ∀ (H : Heap) (locs : List Loc) (ls : Array Slot), EW D A s.heap (MW m ar cs (sI wc28.2 26 ((4 * (ix p1)) + w57) p3)) H locs → lv_has ls 6 [(4, .int p4)] → W p l e R s mid args below meth c H locs 0 0 Q (F0 mid 76 ls [.int (nI w76), .int (nI (4 * (ix p1))), .ref (ar 26)]) := by
            intro w76 hw76 hR H locs ls hE hl
            have hR : m_door p1 p2 p3 p4 Z = ((1 : Int32), sI (sI wc28.2 26 ((4 * (ix p1)) + w57) p3) 26 ((4 * (ix p1)) + w76) p4) := hR
            refine n_add (a := (4 * (ix p1))) (b := w76) hx hb dX1_door_76 ?_
            refine lv_iload hx hb dX1_door_77 (lv_at hl 0 rfl) ?_
            refine ms_26 (n := ((4 * (ix p1)) + w76)) (by omega) hx hb hK hE dX1_door_79 (fun H locs hE => ?_)
            refine lv_iconst (v := 1) hx hb dX1_door_80 rfl ?_
            exact hret (1 : Int32) (sI (sI wc28.2 26 ((4 * (ix p1)) + w57) p3) 26 ((4 * (ix p1)) + w76) p4) hR rfl hE (Nat.le_refl 0) (Nat.le_refl 0) dX1_door_81
          refine lv_if_eq (tgt := 75) hx hb dX1_door_68 (by decide) (fun c68 => ?_) (fun c68 => ?_)
          · have hR : m_door p1 p2 p3 p4 Z = m_door_j76 p1 p3 p4 wc28 w57 1 := hR.trans (congrArg (fun z => m_door_j76 p1 p3 p4 wc28 w57 z) (if_pos c68))
            refine lv_iconst (v := 1) hx hb dX1_door_75 rfl ?_
            exact hJ76 1  (by decide) hR _ _ _ hE (lv_sub hl [4] rfl)
          · have hR : m_door p1 p2 p3 p4 Z = m_door_j76 p1 p3 p4 wc28 w57 3 := hR.trans (congrArg (fun z => m_door_j76 p1 p3 p4 wc28 w57 z) (if_neg c68))
            refine lv_iconst (v := 3) hx hb dX1_door_71 rfl ?_
            refine lv_goto (tgt := 76) hx hb dX1_door_72 (by decide) ?_
            exact hJ76 3  (by decide) hR _ _ _ hE (lv_sub hl [4] rfl)
        refine lv_if_eq (tgt := 56) hx hb dX1_door_49 (by decide) (fun c49 => ?_) (fun c49 => ?_)
        · have hR : m_door p1 p2 p3 p4 Z = m_door_j57 p1 p2 p3 p4 wc28 0 := hR.trans (congrArg (fun z => m_door_j57 p1 p2 p3 p4 wc28 z) (if_pos c49))
          refine lv_iconst (v := 0) hx hb dX1_door_56 rfl ?_
          exact hJ57 0  (by decide) hR _ _ _ hE (lv_sub hl [1, 2, 3, 4, 5] rfl)
        · have hR : m_door p1 p2 p3 p4 Z = m_door_j57 p1 p2 p3 p4 wc28 2 := hR.trans (congrArg (fun z => m_door_j57 p1 p2 p3 p4 wc28 z) (if_neg c49))
          refine lv_iconst (v := 2) hx hb dX1_door_52 rfl ?_
          refine lv_goto (tgt := 57) hx hb dX1_door_53 (by decide) ?_
          exact hJ57 2  (by decide) hR _ _ _ hE (lv_sub hl [1, 2, 3, 4, 5] rfl)
      · have hR : m_door p1 p2 p3 p4 Z = (wc28.1, wc28.2) := hR.trans (congrArg (fun z => z) (if_neg c35))
        refine lv_iload hx hb dX1_door_38 (lv_at hl 0 rfl) ?_
        exact hret wc28.1 wc28.2 hR rfl hE (Nat.le_refl 0) (Nat.le_refl 0) dX1_door_40
    exact hNc28 (m_need w27 p1 Z) rfl hR _ _ _ hE (lv_sub hl [0, 1, 2, 3, 4] rfl)
  refine lv_if_eq (tgt := 26) hx hb dX1_door_8 (by decide) (fun c8 => ?_) (fun c8 => ?_)
  · have hR : m_door p1 p2 p3 p4 Z = m_door_j27 p1 p2 p3 p4 Z (0 : Int32) := hR.trans (congrArg (fun z => m_door_j27 p1 p2 p3 p4 Z z) (if_pos c8))
    refine lv_iconst (v := 0) hx hb dX1_door_26 rfl ?_
    exact hJ27 (0 : Int32)  hR _ _ _ hE (lv_sub hl [0, 1, 2, 3, 4] rfl)
  · have hR : m_door p1 p2 p3 p4 Z = m_door_j27 p1 p2 p3 p4 Z (if (m_in p4 p3 (100000 : Int32)) = 0 then (0 : Int32) else (1 : Int32)) := hR.trans (congrArg (fun z => m_door_j27 p1 p2 p3 p4 Z z) (if_neg c8))
    refine lv_iload hx hb dX1_door_11 (lv_at hl 4 rfl) ?_
    refine lv_iload_n hx hb dX1_door_13 rfl (lv_at hl 3 rfl) ?_
    refine lv_ldc (v := 100000) hx hb hown (hts _ q1151) dX1_door_14 ?_
    refine call_m_in hx hb hml hown hts hK hA hE hl.1 p4 p3 (100000 : Int32) (lz (show 1 ≤ 3 by decide) hRf) (lz (show 22 ≤ 64 by decide) hRl) (Nat.le_of_ble_eq_true rfl) dX1_door_16 (fun H locs hE => ?_)
    refine lv_if_eq (tgt := 26) hx hb dX1_door_19 (by decide) (fun c19 => ?_) (fun c19 => ?_)
    · have hR : m_door p1 p2 p3 p4 Z = m_door_j27 p1 p2 p3 p4 Z (0 : Int32) := hR.trans (congrArg (fun z => m_door_j27 p1 p2 p3 p4 Z z) (if_pos c19))
      refine lv_iconst (v := 0) hx hb dX1_door_26 rfl ?_
      exact hJ27 (0 : Int32)  hR _ _ _ hE (lv_sub hl [0, 1, 2, 3, 4] rfl)
    · have hR : m_door p1 p2 p3 p4 Z = m_door_j27 p1 p2 p3 p4 Z (1 : Int32) := hR.trans (congrArg (fun z => m_door_j27 p1 p2 p3 p4 Z z) (if_neg c19))
      refine lv_iconst (v := 1) hx hb dX1_door_22 rfl ?_
      refine lv_goto (tgt := 27) hx hb dX1_door_23 (by decide) ?_
      exact hJ27 (1 : Int32)  hR _ _ _ hE (lv_sub hl [0, 1, 2, 3, 4] rfl)
def m_balanced_c1 (wc1 : Int32 × ZT) : Int32 × ZT := (if wc1.1 = (-9 : Int32) then ((1 : Int32), wc1.2) else ((0 : Int32), wc1.2))
def m_balanced (Z : ZT) : Int32 × ZT := m_balanced_c1 (m_quarrelSet Z)
set_option maxHeartbeats 4000000 in
set_option maxRecDepth 100000 in
theorem met_m_balanced (l : Launch) (D : va_G) (cs : Nat → ClassId) (m : Nat) (ar : Nat → Nat) (Z : ZT) (sz : Nat)  : Met l yX1_balanced (ws_ yX1_balanced cX1_balanced 1 (some .int)) ({ frames := 3, cells := 0, slots := 0, locals := 68 }) (va_Pc [.ref m] (wSt D cs (MW m ar cs Z) sz)) (cQi (fun (v : Int32) (u : ZT) => m_balanced Z = (v, u)) D (fun u => MW m ar cs u) (MW m ar cs Z) sz) 0 0 (va_A (MW m ar cs Z) sz) := by
  refine gStart_i (C := RX1) rfl rfl (Nat.le_of_ble_eq_true rfl) ?_
  intro p e s mid args below meth c R Q A hx hb hml hown hts hK hA hRf hRl hRc hRs hret hE ls hl
  have hRf : 3 ≤ R.frames := hRf
  have hRl : 68 ≤ R.locals := hRl
  have hl : lv_has ls 1 [(0, .ref m)] := hl
  have hR : m_balanced Z = (m_balanced_c1 (m_quarrelSet Z)) := rfl
  refine lv_aload_n hx hb dX1_balanced_0 rfl (lv_at hl 0 rfl) ?_
  refine call_m_quarrelSet hx hb hml hown hts hK hA hE hl.1 (lz (show 3 ≤ 3 by decide) hRf) (lz (show 68 ≤ 68 by decide) hRl) (Nat.le_of_ble_eq_true rfl) dX1_balanced_1 (fun H locs hE => ?_)
  have hNc1 : ∀ (wc1 : Int32 × ZT) (hR : m_balanced Z = m_balanced_c1 wc1), ∀ (H : Heap) (locs : List Loc) (ls : Array Slot), EW D A s.heap (MW m ar cs wc1.2) H locs → lv_has ls 1 [] → W p l e R s mid args below meth c H locs 0 0 Q (F0 mid 4 ls [.int wc1.1]) := by
    intro wc1 hR H locs ls hE hl
    have hR : m_balanced Z = (if wc1.1 = (-9 : Int32) then ((1 : Int32), wc1.2) else ((0 : Int32), wc1.2)) := hR
    refine lv_bipush (v := -9) hx hb dX1_balanced_4 rfl ?_
    refine lv_icmp_ne (tgt := 13) hx hb dX1_balanced_6 (by decide) (fun c6 => ?_) (fun c6 => ?_)
    · have hR : m_balanced Z = ((0 : Int32), wc1.2) := hR.trans (congrArg (fun z => z) (if_neg c6))
      refine lv_iconst (v := 0) hx hb dX1_balanced_13 rfl ?_
      exact hret (0 : Int32) wc1.2 hR rfl hE (Nat.le_refl 0) (Nat.le_refl 0) dX1_balanced_14
    · have hR : m_balanced Z = ((1 : Int32), wc1.2) := hR.trans (congrArg (fun z => z) (if_pos c6))
      refine lv_iconst (v := 1) hx hb dX1_balanced_9 rfl ?_
      refine lv_goto (tgt := 14) hx hb dX1_balanced_10 (by decide) ?_
      exact hret (1 : Int32) wc1.2 hR rfl hE (Nat.le_refl 0) (Nat.le_refl 0) dX1_balanced_14
  exact hNc1 (m_quarrelSet Z) hR _ _ _ hE (lv_sub hl [] rfl)
def m_quarrel (Z : ZT) : Int32 × ZT := (m_quarrelSet Z)
set_option maxHeartbeats 4000000 in
set_option maxRecDepth 100000 in
theorem met_m_quarrel (l : Launch) (D : va_G) (cs : Nat → ClassId) (m : Nat) (ar : Nat → Nat) (Z : ZT) (sz : Nat)  : Met l yX1_quarrel (ws_ yX1_quarrel cX1_quarrel 1 (some .int)) ({ frames := 3, cells := 0, slots := 0, locals := 68 }) (va_Pc [.ref m] (wSt D cs (MW m ar cs Z) sz)) (cQi (fun (v : Int32) (u : ZT) => m_quarrel Z = (v, u)) D (fun u => MW m ar cs u) (MW m ar cs Z) sz) 0 0 (va_A (MW m ar cs Z) sz) := by
  refine gStart_i (C := RX1) rfl rfl (Nat.le_of_ble_eq_true rfl) ?_
  intro p e s mid args below meth c R Q A hx hb hml hown hts hK hA hRf hRl hRc hRs hret hE ls hl
  have hRf : 3 ≤ R.frames := hRf
  have hRl : 68 ≤ R.locals := hRl
  have hl : lv_has ls 1 [(0, .ref m)] := hl
  have hR : m_quarrel Z = (m_quarrelSet Z) := rfl
  refine lv_aload_n hx hb dX1_quarrel_0 rfl (lv_at hl 0 rfl) ?_
  refine call_m_quarrelSet hx hb hml hown hts hK hA hE hl.1 (lz (show 3 ≤ 3 by decide) hRf) (lz (show 68 ≤ 68 by decide) hRl) (Nat.le_of_ble_eq_true rfl) dX1_quarrel_1 (fun H locs hE => ?_)
  exact hret ((m_quarrelSet Z).1) ((m_quarrelSet Z).2) hR rfl hE (Nat.le_refl 0) (Nat.le_refl 0) dX1_quarrel_4
def m_layRange_j212 (w30 : Nat × ZT) (w212 : ZT) : Bool × (Nat × ZT) := (true, ((w30.1 + 1), w212))
def m_layRange_j209 (wc73 : ZT) (w187 : Int32) (w209 : Int32) : ZT := sI (sI wc73 41 0 w187) 42 0 w209
def m_layRange_j187 (wc73 : ZT) (w166 : Int32) (w187 : Int32) : ZT := m_layRange_j209 wc73 w187 (if wc73.1 42 0 ≤ w166 then wc73.1 42 0 else w166)
def m_layRange_j166 (wc73 : ZT) (w124 : Int32) (w166 : Int32) : ZT := m_layRange_j187 wc73 w166 (if w124 ≤ wc73.1 41 0 then wc73.1 41 0 else w124)
def m_layRange_j124 (p1 : Nat) (p2 : Nat) (w30 : Nat × ZT) (wc73 : ZT) (w124 : Int32) : ZT := m_layRange_j166 wc73 w124 (if (m_has (nI w30.1) p1) = 0 then ((wc73.1 38 0) - ((wc73.1 39 0) - (wc73.1 24 ((8 * p1) + p2)))) else ((wc73.1 40 0) - ((wc73.1 37 0) - (wc73.1 24 ((8 * p1) + p2)))))
def m_layRange_c73 (p1 : Nat) (p2 : Nat) (w30 : Nat × ZT) (wc73 : ZT) : ZT := m_layRange_j124 p1 p2 w30 wc73 (if (m_has (nI w30.1) p1) = 0 then ((wc73.1 37 0) - ((wc73.1 40 0) - (wc73.1 25 ((8 * p1) + p2)))) else ((wc73.1 39 0) - ((wc73.1 38 0) - (wc73.1 25 ((8 * p1) + p2)))))
def m_layRange_b30 (p1 : Nat) (p2 : Nat) (w30 : Nat × ZT) : Bool × (Nat × ZT) := (if 256 ≤ w30.1 then (false, (w30.1, w30.2)) else (if p1 = p2 then (false, (w30.1, w30.2)) else m_layRange_j212 w30 (if ((nI w30.1) &&& ((m_thereSet w30.2) ^^^ (-1 : Int32))) = 0 then (if (m_has (nI w30.1) p1) = (m_has (nI w30.1) p2) then w30.2 else m_layRange_c73 p1 p2 w30 (m_layRim (nI w30.1) w30.2)) else w30.2)))
def m_layRange_e30 (w30 : Nat × ZT) : ZT := w30.2
def m_layRange (p1 : Nat) (p2 : Nat) (Z : ZT) : ZT := m_layRange_e30 (wlR (m_layRange_b30 p1 p2) 257 (1, sI (sI Z 41 0 (Z.1 24 ((8 * p1) + p2))) 42 0 (Z.1 25 ((8 * p1) + p2))))
set_option maxHeartbeats 4000000 in
set_option maxRecDepth 100000 in
theorem met_m_layRange (l : Launch) (D : va_G) (cs : Nat → ClassId) (m : Nat) (ar : Nat → Nat) (Z : ZT) (sz : Nat) (p1 : Nat) (p2 : Nat) (hn1 : p1 < 8) (hn2 : p2 < 8) : Met l yX1_layRange (ws_ yX1_layRange cX1_layRange 8 none) ({ frames := 2, cells := 0, slots := 0, locals := 45 }) (va_Pc [.ref m, .int (nI p1), .int (nI p2)] (wSt D cs (MW m ar cs Z) sz)) (cQv (fun (u : ZT) => m_layRange p1 p2 Z = u) D (fun u => MW m ar cs u) (MW m ar cs Z) sz) 0 0 (va_A (MW m ar cs Z) sz) := by
  refine gStart_v (C := RX1) rfl rfl (Nat.le_of_ble_eq_true rfl) ?_
  intro p e s mid args below meth c R Q A hx hb hml hown hts hK hA hRf hRl hRc hRs hnm hret hE ls hl
  have hRf : 2 ≤ R.frames := hRf
  have hRl : 45 ≤ R.locals := hRl
  have hl : lv_has ls 8 [(0, .ref m), (1, .int (nI p1)), (2, .int (nI p2))] := hl
  have hR : m_layRange p1 p2 Z = (m_layRange_e30 (wlR (m_layRange_b30 p1 p2) 257 (1, sI (sI Z 41 0 (Z.1 24 ((8 * p1) + p2))) 42 0 (Z.1 25 ((8 * p1) + p2))))) := rfl
  refine lv_bipush (v := 8) hx hb dX1_layRange_0 rfl ?_
  refine lv_iload_n hx hb dX1_layRange_2 rfl (lv_at hl 1 rfl) ?_
  refine n_mul (a := 8) (b := p1) hx hb dX1_layRange_3 ?_
  refine lv_iload_n hx hb dX1_layRange_4 rfl (lv_at hl 2 rfl) ?_
  refine n_add (a := (8 * p1)) (b := p2) hx hb dX1_layRange_5 ?_
  refine lv_istore_n (lv' := [(3, .int (nI ((8 * p1) + p2))), (0, .ref m), (1, .int (nI p1)), (2, .int (nI p2))]) hx hb dX1_layRange_6 rfl hl (by decide) rfl (fun ls hl => ?_)
  refine lv_aload_n hx hb dX1_layRange_7 rfl (lv_at hl 1 rfl) ?_
  refine lv_aload_n hx hb dX1_layRange_8 rfl (lv_at hl 1 rfl) ?_
  refine mg_24 hx hb hts hown hK hE dX1_layRange_9 ?_
  refine lv_iload_n hx hb dX1_layRange_12 rfl (lv_at hl 0 rfl) ?_
  refine ma_24 (n := ((8 * p1) + p2)) (by omega) hx hb hK hE dX1_layRange_13 ?_
  refine mp_41 hx hb hts hown hK hE dX1_layRange_14 (fun H locs hE => ?_)
  refine lv_aload_n hx hb dX1_layRange_17 rfl (lv_at hl 1 rfl) ?_
  refine lv_aload_n hx hb dX1_layRange_18 rfl (lv_at hl 1 rfl) ?_
  refine mg_25 hx hb hts hown hK hE dX1_layRange_19 ?_
  refine lv_iload_n hx hb dX1_layRange_22 rfl (lv_at hl 0 rfl) ?_
  refine ma_25 (n := ((8 * p1) + p2)) (by omega) hx hb hK hE dX1_layRange_23 ?_
  refine mp_42 hx hb hts hown hK hE dX1_layRange_24 (fun H locs hE => ?_)
  refine lv_iconst (v := 1) hx hb dX1_layRange_27 rfl ?_
  refine lv_istore (lv' := [(4, .int (1 : Int32)), (3, .int (nI ((8 * p1) + p2))), (0, .ref m), (1, .int (nI p1)), (2, .int (nI p2))]) hx hb dX1_layRange_28 hl (by decide) rfl (fun ls hl => ?_)
  have hX30 : ∀ (w30 : Nat × ZT) (hb30 : w30.1 ≤ 256) (hR : m_layRange p1 p2 Z = m_layRange_e30 w30), ∀ (H : Heap) (locs : List Loc) (ls : Array Slot), EW D A s.heap (MW m ar cs w30.2) H locs → lv_has ls 8 [] → W p l e R s mid args below meth c H locs 0 0 Q (F0 mid 218 ls []) := by
    intro w30 hb30 hR H locs ls hE hl
    have hR : m_layRange p1 p2 Z = w30.2 := hR
    exact hret w30.2 hR hE (Nat.le_refl 0) (Nat.le_refl 0) dX1_layRange_218
  have hL30 : ∀ (n : Nat) (w30 : Nat × ZT) (hm30 : 256 - w30.1 < n) (hb30 : w30.1 ≤ 256) (hR : m_layRange p1 p2 Z = m_layRange_e30 (wlR (m_layRange_b30 p1 p2) n w30)), ∀ (H : Heap) (locs : List Loc) (ls : Array Slot), EW D A s.heap (MW m ar cs w30.2) H locs → lv_has ls 8 [(0, .ref m), (1, .int (nI p1)), (2, .int (nI p2)), (3, .int (nI ((8 * p1) + p2))), (4, .int (nI w30.1))] → W p l e R s mid args below meth c H locs 0 0 Q (F0 mid 30 ls []) := by
    intro n
    induction n with
    | zero =>
      intro w30 hm30
      exact absurd hm30 (Nat.not_lt_zero _)
    | succ n ih30 =>
      intro w30 hm30 hb30 hR H locs ls hE hl
      have hB30 : m_layRange_b30 p1 p2 w30 = (if 256 ≤ w30.1 then (false, (w30.1, w30.2)) else (if p1 = p2 then (false, (w30.1, w30.2)) else m_layRange_j212 w30 (if ((nI w30.1) &&& ((m_thereSet w30.2) ^^^ (-1 : Int32))) = 0 then (if (m_has (nI w30.1) p1) = (m_has (nI w30.1) p2) then w30.2 else m_layRange_c73 p1 p2 w30 (m_layRim (nI w30.1) w30.2)) else w30.2))) := rfl
      refine lv_iload hx hb dX1_layRange_30 (lv_at hl 4 rfl) ?_
      refine lv_sipush (v := 256) hx hb dX1_layRange_32 rfl ?_
      refine n_icmp_ge (a := w30.1) (b := 256) (tgt := 218) (by omega) (by omega) hx hb dX1_layRange_35 (by decide) (fun c35 => ?_) (fun c35 => ?_)
      · have hB30 : m_layRange_b30 p1 p2 w30 = (false, (w30.1, w30.2)) := hB30.trans (congrArg (fun z => z) (if_pos c35))
        exact hX30 (w30.1, w30.2) (by exact hb30) (hR.trans (congrArg (fun z => m_layRange_e30 z) (wl_f hB30))) _ _ _ hE (lv_sub hl [] rfl)
      · have hB30 : m_layRange_b30 p1 p2 w30 = (if p1 = p2 then (false, (w30.1, w30.2)) else m_layRange_j212 w30 (if ((nI w30.1) &&& ((m_thereSet w30.2) ^^^ (-1 : Int32))) = 0 then (if (m_has (nI w30.1) p1) = (m_has (nI w30.1) p2) then w30.2 else m_layRange_c73 p1 p2 w30 (m_layRim (nI w30.1) w30.2)) else w30.2)) := hB30.trans (congrArg (fun z => z) (if_neg c35))
        refine lv_iload_n hx hb dX1_layRange_38 rfl (lv_at hl 1 rfl) ?_
        refine lv_iload_n hx hb dX1_layRange_39 rfl (lv_at hl 2 rfl) ?_
        refine n_icmp_eq (a := p1) (b := p2) (tgt := 218) (by omega) (by omega) hx hb dX1_layRange_40 (by decide) (fun c40 => ?_) (fun c40 => ?_)
        · have hB30 : m_layRange_b30 p1 p2 w30 = (false, (w30.1, w30.2)) := hB30.trans (congrArg (fun z => z) (if_pos c40))
          exact hX30 (w30.1, w30.2) (by exact hb30) (hR.trans (congrArg (fun z => m_layRange_e30 z) (wl_f hB30))) _ _ _ hE (lv_sub hl [] rfl)
        · have hB30 : m_layRange_b30 p1 p2 w30 = (m_layRange_j212 w30 (if ((nI w30.1) &&& ((m_thereSet w30.2) ^^^ (-1 : Int32))) = 0 then (if (m_has (nI w30.1) p1) = (m_has (nI w30.1) p2) then w30.2 else m_layRange_c73 p1 p2 w30 (m_layRim (nI w30.1) w30.2)) else w30.2)) := hB30.trans (congrArg (fun z => z) (if_neg c40))
          refine lv_iload hx hb dX1_layRange_43 (lv_at hl 4 rfl) ?_
          refine lv_aload_n hx hb dX1_layRange_45 rfl (lv_at hl 0 rfl) ?_
          refine call_m_thereSet hx hb hml hown hts hK hA hE hl.1 (lz (show 1 ≤ 2 by decide) hRf) (lz (show 22 ≤ 45 by decide) hRl) (Nat.le_of_ble_eq_true rfl) dX1_layRange_46 (fun H locs hE => ?_)
          refine lv_iconst (v := -1) hx hb dX1_layRange_49 rfl ?_
          refine lv_ixor hx hb dX1_layRange_50 ?_
          refine lv_iand hx hb dX1_layRange_51 ?_
          have hJ212 : ∀ (w212 : ZT) (hB30 : m_layRange_b30 p1 p2 w30 = m_layRange_j212 w30 w212), ∀ (H : Heap) (locs : List Loc) (ls : Array Slot), EW D A s.heap (MW m ar cs w212) H locs → lv_has ls 8 [(0, .ref m), (1, .int (nI p1)), (2, .int (nI p2)), (3, .int (nI ((8 * p1) + p2))), (4, .int (nI w30.1))] → W p l e R s mid args below meth c H locs 0 0 Q (F0 mid 212 ls []) := by
            intro w212 hB30 H locs ls hE hl
            have hB30 : m_layRange_b30 p1 p2 w30 = (true, ((w30.1 + 1), w212)) := hB30
            refine n_inc (lv' := [(4, .int (nI (w30.1 + 1))), (0, .ref m), (1, .int (nI p1)), (2, .int (nI p2)), (3, .int (nI ((8 * p1) + p2)))]) hx hb dX1_layRange_212 hl (k := 4) rfl (by decide) rfl (fun ls hl => ?_)
            refine lv_goto (tgt := 30) hx hb dX1_layRange_215 (by decide) ?_
            exact ih30 ((w30.1 + 1), w212) (by show 256 - (w30.1 + 1) < n; omega) (by show w30.1 + 1 ≤ 256; omega) (hR.trans (congrArg (fun z => m_layRange_e30 z) (wl_t hB30))) _ _ _ hE (lv_sub hl [1, 2, 3, 4, 0] rfl)
          refine lv_if_ne (tgt := 212) hx hb dX1_layRange_52 (by decide) (fun c52 => ?_) (fun c52 => ?_)
          · have hB30 : m_layRange_b30 p1 p2 w30 = m_layRange_j212 w30 w30.2 := hB30.trans (congrArg (fun z => m_layRange_j212 w30 z) (if_neg c52))
            exact hJ212 w30.2  hB30 _ _ _ hE (lv_sub hl [0, 1, 2, 3, 4] rfl)
          · have hB30 : m_layRange_b30 p1 p2 w30 = m_layRange_j212 w30 (if (m_has (nI w30.1) p1) = (m_has (nI w30.1) p2) then w30.2 else m_layRange_c73 p1 p2 w30 (m_layRim (nI w30.1) w30.2)) := hB30.trans (congrArg (fun z => m_layRange_j212 w30 z) (if_pos c52))
            refine lv_iload hx hb dX1_layRange_55 (lv_at hl 4 rfl) ?_
            refine lv_iload_n hx hb dX1_layRange_57 rfl (lv_at hl 1 rfl) ?_
            refine call_m_has hx hb hml hown hts hK hA hE hl.1 (nI w30.1) p1 (lz (show 1 ≤ 2 by decide) hRf) (lz (show 21 ≤ 45 by decide) hRl) (Nat.le_of_ble_eq_true rfl) dX1_layRange_58 (fun H locs hE => ?_)
            refine lv_iload hx hb dX1_layRange_61 (lv_at hl 4 rfl) ?_
            refine lv_iload_n hx hb dX1_layRange_63 rfl (lv_at hl 2 rfl) ?_
            refine call_m_has hx hb hml hown hts hK hA hE hl.1 (nI w30.1) p2 (lz (show 1 ≤ 2 by decide) hRf) (lz (show 21 ≤ 45 by decide) hRl) (Nat.le_of_ble_eq_true rfl) dX1_layRange_64 (fun H locs hE => ?_)
            refine lv_icmp_eq (tgt := 212) hx hb dX1_layRange_67 (by decide) (fun c67 => ?_) (fun c67 => ?_)
            · have hB30 : m_layRange_b30 p1 p2 w30 = m_layRange_j212 w30 w30.2 := hB30.trans (congrArg (fun z => m_layRange_j212 w30 z) (if_pos c67))
              exact hJ212 w30.2  hB30 _ _ _ hE (lv_sub hl [0, 1, 2, 3, 4] rfl)
            · have hB30 : m_layRange_b30 p1 p2 w30 = m_layRange_j212 w30 (m_layRange_c73 p1 p2 w30 (m_layRim (nI w30.1) w30.2)) := hB30.trans (congrArg (fun z => m_layRange_j212 w30 z) (if_neg c67))
              refine lv_aload_n hx hb dX1_layRange_70 rfl (lv_at hl 0 rfl) ?_
              refine lv_iload hx hb dX1_layRange_71 (lv_at hl 4 rfl) ?_
              refine call_m_layRim hx hb hml hown hts hK hA hE hl.1 (nI w30.1) (lz (show 2 ≤ 2 by decide) hRf) (lz (show 45 ≤ 45 by decide) hRl) (Nat.le_of_ble_eq_true rfl) dX1_layRange_73 (fun H locs hE => ?_)
              have hNc73 : ∀ (wc73 : ZT) (hB30 : m_layRange_b30 p1 p2 w30 = m_layRange_j212 w30 (m_layRange_c73 p1 p2 w30 wc73)), ∀ (H : Heap) (locs : List Loc) (ls : Array Slot), EW D A s.heap (MW m ar cs wc73) H locs → lv_has ls 8 [(0, .ref m), (1, .int (nI p1)), (2, .int (nI p2)), (3, .int (nI ((8 * p1) + p2))), (4, .int (nI w30.1))] → W p l e R s mid args below meth c H locs 0 0 Q (F0 mid 76 ls []) := by
                intro wc73 hB30 H locs ls hE hl
                have hB30 : m_layRange_b30 p1 p2 w30 = m_layRange_j212 w30 (m_layRange_j124 p1 p2 w30 wc73 (if (m_has (nI w30.1) p1) = 0 then ((wc73.1 37 0) - ((wc73.1 40 0) - (wc73.1 25 ((8 * p1) + p2)))) else ((wc73.1 39 0) - ((wc73.1 38 0) - (wc73.1 25 ((8 * p1) + p2)))))) := hB30
                refine lv_iload hx hb dX1_layRange_76 (lv_at hl 4 rfl) ?_
                refine lv_iload_n hx hb dX1_layRange_78 rfl (lv_at hl 1 rfl) ?_
                refine call_m_has hx hb hml hown hts hK hA hE hl.1 (nI w30.1) p1 (lz (show 1 ≤ 2 by decide) hRf) (lz (show 21 ≤ 45 by decide) hRl) (Nat.le_of_ble_eq_true rfl) dX1_layRange_79 (fun H locs hE => ?_)
                refine lv_istore (lv' := [(5, .int (m_has (nI w30.1) p1)), (0, .ref m), (1, .int (nI p1)), (2, .int (nI p2)), (3, .int (nI ((8 * p1) + p2))), (4, .int (nI w30.1))]) hx hb dX1_layRange_82 hl (by decide) rfl (fun ls hl => ?_)
                refine lv_iload hx hb dX1_layRange_84 (lv_at hl 0 rfl) ?_
                have hJ124 : ∀ (w124 : Int32) (hB30 : m_layRange_b30 p1 p2 w30 = m_layRange_j212 w30 (m_layRange_j124 p1 p2 w30 wc73 w124)), ∀ (H : Heap) (locs : List Loc) (ls : Array Slot), EW D A s.heap (MW m ar cs wc73) H locs → lv_has ls 8 [(0, .ref m), (1, .int (nI p1)), (2, .int (nI p2)), (3, .int (nI ((8 * p1) + p2))), (4, .int (nI w30.1)), (5, .int (m_has (nI w30.1) p1))] → W p l e R s mid args below meth c H locs 0 0 Q (F0 mid 124 ls [.int w124]) := by
                  intro w124 hB30 H locs ls hE hl
                  have hB30 : m_layRange_b30 p1 p2 w30 = m_layRange_j212 w30 (m_layRange_j166 wc73 w124 (if (m_has (nI w30.1) p1) = 0 then ((wc73.1 38 0) - ((wc73.1 39 0) - (wc73.1 24 ((8 * p1) + p2)))) else ((wc73.1 40 0) - ((wc73.1 37 0) - (wc73.1 24 ((8 * p1) + p2)))))) := hB30
                  refine lv_istore (lv' := [(6, .int w124), (0, .ref m), (1, .int (nI p1)), (2, .int (nI p2)), (3, .int (nI ((8 * p1) + p2))), (4, .int (nI w30.1)), (5, .int (m_has (nI w30.1) p1))]) hx hb dX1_layRange_124 hl (by decide) rfl (fun ls hl => ?_)
                  refine lv_iload hx hb dX1_layRange_126 (lv_at hl 6 rfl) ?_
                  have hJ166 : ∀ (w166 : Int32) (hB30 : m_layRange_b30 p1 p2 w30 = m_layRange_j212 w30 (m_layRange_j166 wc73 w124 w166)), ∀ (H : Heap) (locs : List Loc) (ls : Array Slot), EW D A s.heap (MW m ar cs wc73) H locs → lv_has ls 8 [(0, .ref m), (1, .int (nI p1)), (2, .int (nI p2)), (3, .int (nI ((8 * p1) + p2))), (4, .int (nI w30.1)), (6, .int w124)] → W p l e R s mid args below meth c H locs 0 0 Q (F0 mid 166 ls [.int w166]) := by
                    intro w166 hB30 H locs ls hE hl
                    have hB30 : m_layRange_b30 p1 p2 w30 = m_layRange_j212 w30 (m_layRange_j187 wc73 w166 (if w124 ≤ wc73.1 41 0 then wc73.1 41 0 else w124)) := hB30
                    refine lv_istore (lv' := [(7, .int w166), (0, .ref m), (1, .int (nI p1)), (2, .int (nI p2)), (3, .int (nI ((8 * p1) + p2))), (4, .int (nI w30.1)), (6, .int w124)]) hx hb dX1_layRange_166 hl (by decide) rfl (fun ls hl => ?_)
                    refine lv_aload_n hx hb dX1_layRange_168 rfl (lv_at hl 1 rfl) ?_
                    refine lv_iload hx hb dX1_layRange_169 (lv_at hl 6 rfl) ?_
                    refine lv_aload_n hx hb dX1_layRange_171 rfl (lv_at hl 1 rfl) ?_
                    refine mg_41 hx hb hts hown hK hE dX1_layRange_172 ?_
                    have hJ187 : ∀ (w187 : Int32) (hB30 : m_layRange_b30 p1 p2 w30 = m_layRange_j212 w30 (m_layRange_j187 wc73 w166 w187)), ∀ (H : Heap) (locs : List Loc) (ls : Array Slot), EW D A s.heap (MW m ar cs wc73) H locs → lv_has ls 8 [(0, .ref m), (1, .int (nI p1)), (2, .int (nI p2)), (3, .int (nI ((8 * p1) + p2))), (4, .int (nI w30.1)), (7, .int w166)] → W p l e R s mid args below meth c H locs 0 0 Q (F0 mid 187 ls [.int w187, .ref m]) := by
                      intro w187 hB30 H locs ls hE hl
                      have hB30 : m_layRange_b30 p1 p2 w30 = m_layRange_j212 w30 (m_layRange_j209 wc73 w187 (if wc73.1 42 0 ≤ w166 then wc73.1 42 0 else w166)) := hB30
                      refine mp_41 hx hb hts hown hK hE dX1_layRange_187 (fun H locs hE => ?_)
                      refine lv_aload_n hx hb dX1_layRange_190 rfl (lv_at hl 0 rfl) ?_
                      refine lv_iload hx hb dX1_layRange_191 (lv_at hl 5 rfl) ?_
                      refine lv_aload_n hx hb dX1_layRange_193 rfl (lv_at hl 0 rfl) ?_
                      refine mg_42 hx hb hts hown hK hE dX1_layRange_194 ?_
                      have hJ209 : ∀ (w209 : Int32) (hB30 : m_layRange_b30 p1 p2 w30 = m_layRange_j212 w30 (m_layRange_j209 wc73 w187 w209)), ∀ (H : Heap) (locs : List Loc) (ls : Array Slot), EW D A s.heap (MW m ar cs (sI wc73 41 0 w187)) H locs → lv_has ls 8 [(0, .ref m), (1, .int (nI p1)), (2, .int (nI p2)), (3, .int (nI ((8 * p1) + p2))), (4, .int (nI w30.1))] → W p l e R s mid args below meth c H locs 0 0 Q (F0 mid 209 ls [.int w209, .ref m]) := by
                        intro w209 hB30 H locs ls hE hl
                        have hB30 : m_layRange_b30 p1 p2 w30 = m_layRange_j212 w30 (sI (sI wc73 41 0 w187) 42 0 w209) := hB30
                        refine mp_42 hx hb hts hown hK hE dX1_layRange_209 (fun H locs hE => ?_)
                        exact hJ212 (sI (sI wc73 41 0 w187) 42 0 w209)  hB30 _ _ _ hE (lv_sub hl [0, 1, 2, 3, 4] rfl)
                      refine lv_icmp_ge (tgt := 205) hx hb dX1_layRange_197 (by decide) (fun c197 => ?_) (fun c197 => ?_)
                      · have hB30 : m_layRange_b30 p1 p2 w30 = m_layRange_j212 w30 (m_layRange_j209 wc73 w187 (wc73.1 42 0)) := hB30.trans (congrArg (fun z => m_layRange_j212 w30 (m_layRange_j209 wc73 w187 z)) (if_pos c197))
                        refine lv_aload_n hx hb dX1_layRange_205 rfl (lv_at hl 0 rfl) ?_
                        refine mg_42 hx hb hts hown hK hE dX1_layRange_206 ?_
                        exact hJ209 (wc73.1 42 0)  hB30 _ _ _ hE (lv_sub hl [0, 1, 2, 3, 4] rfl)
                      · have hB30 : m_layRange_b30 p1 p2 w30 = m_layRange_j212 w30 (m_layRange_j209 wc73 w187 w166) := hB30.trans (congrArg (fun z => m_layRange_j212 w30 (m_layRange_j209 wc73 w187 z)) (if_neg c197))
                        refine lv_iload hx hb dX1_layRange_200 (lv_at hl 5 rfl) ?_
                        refine lv_goto (tgt := 209) hx hb dX1_layRange_202 (by decide) ?_
                        exact hJ209 w166  hB30 _ _ _ hE (lv_sub hl [0, 1, 2, 3, 4] rfl)
                    refine lv_icmp_le (tgt := 183) hx hb dX1_layRange_175 (by decide) (fun c175 => ?_) (fun c175 => ?_)
                    · have hB30 : m_layRange_b30 p1 p2 w30 = m_layRange_j212 w30 (m_layRange_j187 wc73 w166 (wc73.1 41 0)) := hB30.trans (congrArg (fun z => m_layRange_j212 w30 (m_layRange_j187 wc73 w166 z)) (if_pos c175))
                      refine lv_aload_n hx hb dX1_layRange_183 rfl (lv_at hl 1 rfl) ?_
                      refine mg_41 hx hb hts hown hK hE dX1_layRange_184 ?_
                      exact hJ187 (wc73.1 41 0)  hB30 _ _ _ hE (lv_sub hl [1, 2, 3, 4, 5, 0] rfl)
                    · have hB30 : m_layRange_b30 p1 p2 w30 = m_layRange_j212 w30 (m_layRange_j187 wc73 w166 w124) := hB30.trans (congrArg (fun z => m_layRange_j212 w30 (m_layRange_j187 wc73 w166 z)) (if_neg c175))
                      refine lv_iload hx hb dX1_layRange_178 (lv_at hl 6 rfl) ?_
                      refine lv_goto (tgt := 187) hx hb dX1_layRange_180 (by decide) ?_
                      exact hJ187 w124  hB30 _ _ _ hE (lv_sub hl [1, 2, 3, 4, 5, 0] rfl)
                  refine lv_if_eq (tgt := 150) hx hb dX1_layRange_128 (by decide) (fun c128 => ?_) (fun c128 => ?_)
                  · have hB30 : m_layRange_b30 p1 p2 w30 = m_layRange_j212 w30 (m_layRange_j166 wc73 w124 ((wc73.1 38 0) - ((wc73.1 39 0) - (wc73.1 24 ((8 * p1) + p2))))) := hB30.trans (congrArg (fun z => m_layRange_j212 w30 (m_layRange_j166 wc73 w124 z)) (if_pos c128))
                    refine lv_aload_n hx hb dX1_layRange_150 rfl (lv_at hl 1 rfl) ?_
                    refine mg_38 hx hb hts hown hK hE dX1_layRange_151 ?_
                    refine lv_aload_n hx hb dX1_layRange_154 rfl (lv_at hl 1 rfl) ?_
                    refine mg_39 hx hb hts hown hK hE dX1_layRange_155 ?_
                    refine lv_aload_n hx hb dX1_layRange_158 rfl (lv_at hl 1 rfl) ?_
                    refine mg_24 hx hb hts hown hK hE dX1_layRange_159 ?_
                    refine lv_iload_n hx hb dX1_layRange_162 rfl (lv_at hl 4 rfl) ?_
                    refine ma_24 (n := ((8 * p1) + p2)) (by omega) hx hb hK hE dX1_layRange_163 ?_
                    refine lv_isub hx hb dX1_layRange_164 ?_
                    refine lv_isub hx hb dX1_layRange_165 ?_
                    exact hJ166 ((wc73.1 38 0) - ((wc73.1 39 0) - (wc73.1 24 ((8 * p1) + p2))))  hB30 _ _ _ hE (lv_sub hl [1, 2, 3, 4, 5, 0] rfl)
                  · have hB30 : m_layRange_b30 p1 p2 w30 = m_layRange_j212 w30 (m_layRange_j166 wc73 w124 ((wc73.1 40 0) - ((wc73.1 37 0) - (wc73.1 24 ((8 * p1) + p2))))) := hB30.trans (congrArg (fun z => m_layRange_j212 w30 (m_layRange_j166 wc73 w124 z)) (if_neg c128))
                    refine lv_aload_n hx hb dX1_layRange_131 rfl (lv_at hl 1 rfl) ?_
                    refine mg_40 hx hb hts hown hK hE dX1_layRange_132 ?_
                    refine lv_aload_n hx hb dX1_layRange_135 rfl (lv_at hl 1 rfl) ?_
                    refine mg_37 hx hb hts hown hK hE dX1_layRange_136 ?_
                    refine lv_aload_n hx hb dX1_layRange_139 rfl (lv_at hl 1 rfl) ?_
                    refine mg_24 hx hb hts hown hK hE dX1_layRange_140 ?_
                    refine lv_iload_n hx hb dX1_layRange_143 rfl (lv_at hl 4 rfl) ?_
                    refine ma_24 (n := ((8 * p1) + p2)) (by omega) hx hb hK hE dX1_layRange_144 ?_
                    refine lv_isub hx hb dX1_layRange_145 ?_
                    refine lv_isub hx hb dX1_layRange_146 ?_
                    refine lv_goto (tgt := 166) hx hb dX1_layRange_147 (by decide) ?_
                    exact hJ166 ((wc73.1 40 0) - ((wc73.1 37 0) - (wc73.1 24 ((8 * p1) + p2))))  hB30 _ _ _ hE (lv_sub hl [1, 2, 3, 4, 5, 0] rfl)
                refine lv_if_eq (tgt := 108) hx hb dX1_layRange_86 (by decide) (fun c86 => ?_) (fun c86 => ?_)
                · have hB30 : m_layRange_b30 p1 p2 w30 = m_layRange_j212 w30 (m_layRange_j124 p1 p2 w30 wc73 ((wc73.1 37 0) - ((wc73.1 40 0) - (wc73.1 25 ((8 * p1) + p2))))) := hB30.trans (congrArg (fun z => m_layRange_j212 w30 (m_layRange_j124 p1 p2 w30 wc73 z)) (if_pos c86))
                  refine lv_aload_n hx hb dX1_layRange_108 rfl (lv_at hl 1 rfl) ?_
                  refine mg_37 hx hb hts hown hK hE dX1_layRange_109 ?_
                  refine lv_aload_n hx hb dX1_layRange_112 rfl (lv_at hl 1 rfl) ?_
                  refine mg_40 hx hb hts hown hK hE dX1_layRange_113 ?_
                  refine lv_aload_n hx hb dX1_layRange_116 rfl (lv_at hl 1 rfl) ?_
                  refine mg_25 hx hb hts hown hK hE dX1_layRange_117 ?_
                  refine lv_iload_n hx hb dX1_layRange_120 rfl (lv_at hl 4 rfl) ?_
                  refine ma_25 (n := ((8 * p1) + p2)) (by omega) hx hb hK hE dX1_layRange_121 ?_
                  refine lv_isub hx hb dX1_layRange_122 ?_
                  refine lv_isub hx hb dX1_layRange_123 ?_
                  exact hJ124 ((wc73.1 37 0) - ((wc73.1 40 0) - (wc73.1 25 ((8 * p1) + p2))))  hB30 _ _ _ hE (lv_sub hl [1, 2, 3, 4, 5, 0] rfl)
                · have hB30 : m_layRange_b30 p1 p2 w30 = m_layRange_j212 w30 (m_layRange_j124 p1 p2 w30 wc73 ((wc73.1 39 0) - ((wc73.1 38 0) - (wc73.1 25 ((8 * p1) + p2))))) := hB30.trans (congrArg (fun z => m_layRange_j212 w30 (m_layRange_j124 p1 p2 w30 wc73 z)) (if_neg c86))
                  refine lv_aload_n hx hb dX1_layRange_89 rfl (lv_at hl 1 rfl) ?_
                  refine mg_39 hx hb hts hown hK hE dX1_layRange_90 ?_
                  refine lv_aload_n hx hb dX1_layRange_93 rfl (lv_at hl 1 rfl) ?_
                  refine mg_38 hx hb hts hown hK hE dX1_layRange_94 ?_
                  refine lv_aload_n hx hb dX1_layRange_97 rfl (lv_at hl 1 rfl) ?_
                  refine mg_25 hx hb hts hown hK hE dX1_layRange_98 ?_
                  refine lv_iload_n hx hb dX1_layRange_101 rfl (lv_at hl 4 rfl) ?_
                  refine ma_25 (n := ((8 * p1) + p2)) (by omega) hx hb hK hE dX1_layRange_102 ?_
                  refine lv_isub hx hb dX1_layRange_103 ?_
                  refine lv_isub hx hb dX1_layRange_104 ?_
                  refine lv_goto (tgt := 124) hx hb dX1_layRange_105 (by decide) ?_
                  exact hJ124 ((wc73.1 39 0) - ((wc73.1 38 0) - (wc73.1 25 ((8 * p1) + p2))))  hB30 _ _ _ hE (lv_sub hl [1, 2, 3, 4, 5, 0] rfl)
              exact hNc73 (m_layRim (nI w30.1) w30.2) hB30 _ _ _ hE (lv_sub hl [0, 1, 2, 3, 4] rfl)
  exact hL30 257 (1, sI (sI Z 41 0 (Z.1 24 ((8 * p1) + p2))) 42 0 (Z.1 25 ((8 * p1) + p2))) (by show 256 - 1 < 257; decide) (by exact (by decide : 1 ≤ 256)) hR _ _ _ hE (lv_sub hl [2, 3, 4, 1, 0] rfl)
section C_layRange
variable {p : Program} {l : Launch} {e : Env} {R : Room} {s : State} {mid : MethodId} {args : Array Value} {below : List Frame} {meth : Method} {c : Code} {H : Heap} {locs : List Loc} {Q : State → Prop} {cc : ByteArray} {pc : Nat} {ls : Array Slot} {rest : List Value} {D : va_G} {A : Nat → Prop} {m : Nat} {ar : Nat → Nat} {cs : Nat → ClassId} {Z : ZT} {nL : Nat}
theorem call_m_layRange (hx : p.tables.exec = Jvm.exec) (hb : c.code = cc) (hml : c.maxLocals = nL) (hown : s.vm.findClass RX1 = some mid.cls) (hts : ∀ w ∈ lw_all, w.before args s = true) (hK : KK D cs s) (hA : ∀ q : Nat, s.heap.size ≤ q → A q) (hE : EW D A s.heap (MW m ar cs Z) H locs) (hls : ls.size = nL) (p1 : Nat) (p2 : Nat) (hn1 : p1 < 8) (hn2 : p2 < 8) (h1 : 3 ≤ R.frames) (h2 : 72 ≤ R.locals) (h3 : (rest.map fun v => v.category).sum ≤ 8) (hd : decode cc pc = .ok (.invokevirtual 289, 3)) (kk : ∀ (H1 : Heap) (locs1 : List Loc), EW D A s.heap (MW m ar cs (m_layRange p1 p2 Z)) H1 locs1 → W p l e R s mid args below meth c H1 locs1 0 0 Q (F0 mid (pc + 3) ls (rest))) : W p l e R s mid args below meth c H locs 0 0 Q (F0 mid pc ls (.int (nI p2) :: .int (nI p1) :: .ref m :: rest)) :=
  gCall_v (As := [.int (nI p1), .int (nI p2)]) (rest := rest) (q0 := 0) (ci := 1) (fs := MF ar Z) (T' := TX1) (N' := 52) hx hb hml hown hts hK hA hE hls (met_m_layRange l D cs m ar Z H.size p1 p2 hn1 hn2) (cwV 2 hts (lw_V q1362 q1364 qs70 q85 q1365) rfl rfl rfl (by decide +kernel) ⟨h1, h2⟩) rfl rfl rfl rfl h3 hd ⟨Nat.zero_le _, Nat.zero_le _⟩ (fun u H1 locs1 hp _ hE => by subst hp; exact kk H1 locs1 hE)
end C_layRange
def m_range_c47 (p3 : Int32) (wc47 : ZT) : Int32 × ZT := (if p3 = 0 then (wc47.1 41 0, wc47) else (wc47.1 42 0, wc47))
def m_range_c33 (p1 : Int32) (p2 : Int32) (p3 : Int32) (wc33 : Int32 × ZT) : Int32 × ZT := (if wc33.1 = (-9 : Int32) then m_range_c47 p3 (m_layRange (ix p1) (ix p2) wc33.2) else ((-9 : Int32), wc33.2))
def m_range_c4 (p1 : Int32) (p2 : Int32) (p3 : Int32) (wc4 : Int32 × ZT) : Int32 × ZT := (if 0 ≤ wc4.1 then (if (m_isLink (ix p1) (ix p2) wc4.2) = 0 then (m_meets 1 wc4.2) else m_range_c33 p1 p2 p3 (m_quarrelSet wc4.2)) else (wc4.1, wc4.2))
def m_range (p1 : Int32) (p2 : Int32) (p3 : Int32) (Z : ZT) : Int32 × ZT := m_range_c4 p1 p2 p3 (m_needTwo (1 : Int32) p1 p2 Z)
set_option maxHeartbeats 4000000 in
set_option maxRecDepth 100000 in
theorem met_m_range (l : Launch) (D : va_G) (cs : Nat → ClassId) (m : Nat) (ar : Nat → Nat) (Z : ZT) (sz : Nat) (p1 : Int32) (p2 : Int32) (p3 : Int32) : Met l yX1_range (ws_ yX1_range cX1_range 5 (some .int)) ({ frames := 3, cells := 0, slots := 0, locals := 72 }) (va_Pc [.ref m, .int p1, .int p2, .int p3] (wSt D cs (MW m ar cs Z) sz)) (cQi (fun (v : Int32) (u : ZT) => m_range p1 p2 p3 Z = (v, u)) D (fun u => MW m ar cs u) (MW m ar cs Z) sz) 0 0 (va_A (MW m ar cs Z) sz) := by
  refine gStart_i (C := RX1) rfl rfl (Nat.le_of_ble_eq_true rfl) ?_
  intro p e s mid args below meth c R Q A hx hb hml hown hts hK hA hRf hRl hRc hRs hret hE ls hl
  have hRf : 3 ≤ R.frames := hRf
  have hRl : 72 ≤ R.locals := hRl
  have hl : lv_has ls 5 [(0, .ref m), (1, .int p1), (2, .int p2), (3, .int p3)] := hl
  have hR : m_range p1 p2 p3 Z = (m_range_c4 p1 p2 p3 (m_needTwo (1 : Int32) p1 p2 Z)) := rfl
  refine lv_aload_n hx hb dX1_range_0 rfl (lv_at hl 0 rfl) ?_
  refine lv_iconst (v := 1) hx hb dX1_range_1 rfl ?_
  refine lv_iload_n hx hb dX1_range_2 rfl (lv_at hl 1 rfl) ?_
  refine lv_iload_n hx hb dX1_range_3 rfl (lv_at hl 2 rfl) ?_
  refine call_m_needTwo hx hb hml hown hts hK hA hE hl.1 (1 : Int32) p1 p2 (lz (show 3 ≤ 3 by decide) hRf) (lz (show 65 ≤ 72 by decide) hRl) (Nat.le_of_ble_eq_true rfl) dX1_range_4 (fun H locs hE => ?_)
  have hNc4 : ∀ (wc4 : Int32 × ZT) (hewc4 : wc4 = m_needTwo (1 : Int32) p1 p2 Z) (hR : m_range p1 p2 p3 Z = m_range_c4 p1 p2 p3 wc4), ∀ (H : Heap) (locs : List Loc) (ls : Array Slot), EW D A s.heap (MW m ar cs wc4.2) H locs → lv_has ls 5 [(0, .ref m), (1, .int p1), (2, .int p2), (3, .int p3)] → W p l e R s mid args below meth c H locs 0 0 Q (F0 mid 7 ls [.int wc4.1]) := by
    intro wc4 hewc4 hR H locs ls hE hl
    have hR : m_range p1 p2 p3 Z = (if 0 ≤ wc4.1 then (if (m_isLink (ix p1) (ix p2) wc4.2) = 0 then (m_meets 1 wc4.2) else m_range_c33 p1 p2 p3 (m_quarrelSet wc4.2)) else (wc4.1, wc4.2)) := hR
    refine lv_istore (lv' := [(4, .int wc4.1), (0, .ref m), (1, .int p1), (2, .int p2), (3, .int p3)]) hx hb dX1_range_7 hl (by decide) rfl (fun ls hl => ?_)
    refine lv_iload hx hb dX1_range_9 (lv_at hl 0 rfl) ?_
    refine lv_if_ge (tgt := 17) hx hb dX1_range_11 (by decide) (fun c11 => ?_) (fun c11 => ?_)
    · have hR : m_range p1 p2 p3 Z = (if (m_isLink (ix p1) (ix p2) wc4.2) = 0 then (m_meets 1 wc4.2) else m_range_c33 p1 p2 p3 (m_quarrelSet wc4.2)) := hR.trans (congrArg (fun z => z) (if_pos c11))
      have hnp1 := vp_ix (x := p1) (N := 8) ((needTwo_ok (by rw [← hewc4]; exact c11)).1) (by decide)
      have hbnp1 := hnp1.2
      have hnp2 := vp_ix (x := p2) (N := 8) ((needTwo_ok (by rw [← hewc4]; exact c11)).2.1) (by decide)
      have hbnp2 := hnp2.2
      refine lv_aload_n hx hb dX1_range_17 rfl (lv_at hl 1 rfl) ?_
      refine lv_iload_n hx hb dX1_range_18 rfl (lv_at hl 2 rfl) ?_
      refine top_nat hnp1.1 ?_
      refine lv_iload_n hx hb dX1_range_19 rfl (lv_at hl 3 rfl) ?_
      refine top_nat hnp2.1 ?_
      refine call_m_isLink hx hb hml hown hts hK hA hE hl.1 (ix p1) (ix p2) (by omega) (by omega) (lz (show 1 ≤ 3 by decide) hRf) (lz (show 22 ≤ 72 by decide) hRl) (Nat.le_of_ble_eq_true rfl) dX1_range_20 (fun H locs hE => ?_)
      refine lv_if_ne (tgt := 32) hx hb dX1_range_23 (by decide) (fun c23 => ?_) (fun c23 => ?_)
      · have hR : m_range p1 p2 p3 Z = (m_range_c33 p1 p2 p3 (m_quarrelSet wc4.2)) := hR.trans (congrArg (fun z => z) (if_neg c23))
        refine lv_aload_n hx hb dX1_range_32 rfl (lv_at hl 1 rfl) ?_
        refine call_m_quarrelSet hx hb hml hown hts hK hA hE hl.1 (lz (show 3 ≤ 3 by decide) hRf) (lz (show 68 ≤ 72 by decide) hRl) (Nat.le_of_ble_eq_true rfl) dX1_range_33 (fun H locs hE => ?_)
        have hNc33 : ∀ (wc33 : Int32 × ZT) (hewc33 : wc33 = m_quarrelSet wc4.2) (hR : m_range p1 p2 p3 Z = m_range_c33 p1 p2 p3 wc33), ∀ (H : Heap) (locs : List Loc) (ls : Array Slot), EW D A s.heap (MW m ar cs wc33.2) H locs → lv_has ls 5 [(0, .ref m), (1, .int p1), (2, .int p2), (3, .int p3)] → W p l e R s mid args below meth c H locs 0 0 Q (F0 mid 36 ls [.int wc33.1]) := by
          intro wc33 hewc33 hR H locs ls hE hl
          have hR : m_range p1 p2 p3 Z = (if wc33.1 = (-9 : Int32) then m_range_c47 p3 (m_layRange (ix p1) (ix p2) wc33.2) else ((-9 : Int32), wc33.2)) := hR
          refine lv_bipush (v := -9) hx hb dX1_range_36 rfl ?_
          refine lv_icmp_eq (tgt := 44) hx hb dX1_range_38 (by decide) (fun c38 => ?_) (fun c38 => ?_)
          · have hR : m_range p1 p2 p3 Z = (m_range_c47 p3 (m_layRange (ix p1) (ix p2) wc33.2)) := hR.trans (congrArg (fun z => z) (if_pos c38))
            refine lv_aload_n hx hb dX1_range_44 rfl (lv_at hl 0 rfl) ?_
            refine lv_iload_n hx hb dX1_range_45 rfl (lv_at hl 1 rfl) ?_
            refine top_nat hnp1.1 ?_
            refine lv_iload_n hx hb dX1_range_46 rfl (lv_at hl 2 rfl) ?_
            refine top_nat hnp2.1 ?_
            refine call_m_layRange hx hb hml hown hts hK hA hE hl.1 (ix p1) (ix p2) (by omega) (by omega) (lz (show 3 ≤ 3 by decide) hRf) (lz (show 72 ≤ 72 by decide) hRl) (Nat.le_of_ble_eq_true rfl) dX1_range_47 (fun H locs hE => ?_)
            have hNc47 : ∀ (wc47 : ZT) (hewc47 : wc47 = m_layRange (ix p1) (ix p2) wc33.2) (hR : m_range p1 p2 p3 Z = m_range_c47 p3 wc47), ∀ (H : Heap) (locs : List Loc) (ls : Array Slot), EW D A s.heap (MW m ar cs wc47) H locs → lv_has ls 5 [(0, .ref m), (3, .int p3)] → W p l e R s mid args below meth c H locs 0 0 Q (F0 mid 50 ls []) := by
              intro wc47 hewc47 hR H locs ls hE hl
              have hR : m_range p1 p2 p3 Z = (if p3 = 0 then (wc47.1 41 0, wc47) else (wc47.1 42 0, wc47)) := hR
              refine lv_iload_n hx hb dX1_range_50 rfl (lv_at hl 1 rfl) ?_
              refine lv_if_eq (tgt := 61) hx hb dX1_range_51 (by decide) (fun c51 => ?_) (fun c51 => ?_)
              · have hR : m_range p1 p2 p3 Z = (wc47.1 41 0, wc47) := hR.trans (congrArg (fun z => z) (if_pos c51))
                refine lv_aload_n hx hb dX1_range_61 rfl (lv_at hl 0 rfl) ?_
                refine mg_41 hx hb hts hown hK hE dX1_range_62 ?_
                exact hret (wc47.1 41 0) wc47 hR rfl hE (Nat.le_refl 0) (Nat.le_refl 0) dX1_range_65
              · have hR : m_range p1 p2 p3 Z = (wc47.1 42 0, wc47) := hR.trans (congrArg (fun z => z) (if_neg c51))
                refine lv_aload_n hx hb dX1_range_54 rfl (lv_at hl 0 rfl) ?_
                refine mg_42 hx hb hts hown hK hE dX1_range_55 ?_
                refine lv_goto (tgt := 65) hx hb dX1_range_58 (by decide) ?_
                exact hret (wc47.1 42 0) wc47 hR rfl hE (Nat.le_refl 0) (Nat.le_refl 0) dX1_range_65
            exact hNc47 (m_layRange (ix p1) (ix p2) wc33.2) rfl hR _ _ _ hE (lv_sub hl [0, 3] rfl)
          · have hR : m_range p1 p2 p3 Z = ((-9 : Int32), wc33.2) := hR.trans (congrArg (fun z => z) (if_neg c38))
            refine lv_bipush (v := -9) hx hb dX1_range_41 rfl ?_
            exact hret (-9 : Int32) wc33.2 hR rfl hE (Nat.le_refl 0) (Nat.le_refl 0) dX1_range_43
        exact hNc33 (m_quarrelSet wc4.2) rfl hR _ _ _ hE (lv_sub hl [1, 2, 3, 4] rfl)
      · have hR : m_range p1 p2 p3 Z = (m_meets 1 wc4.2) := hR.trans (congrArg (fun z => z) (if_pos c23))
        refine lv_aload_n hx hb dX1_range_26 rfl (lv_at hl 1 rfl) ?_
        refine lv_iconst (v := 1) hx hb dX1_range_27 rfl ?_
        refine call_m_meets hx hb hml hown hts hK hA hE hl.1 1 (by omega) (lz (show 1 ≤ 3 by decide) hRf) (lz (show 21 ≤ 72 by decide) hRl) (Nat.le_of_ble_eq_true rfl) dX1_range_28 (fun H locs hE => ?_)
        exact hret ((m_meets 1 wc4.2).1) ((m_meets 1 wc4.2).2) hR rfl hE (Nat.le_refl 0) (Nat.le_refl 0) dX1_range_31
    · have hR : m_range p1 p2 p3 Z = (wc4.1, wc4.2) := hR.trans (congrArg (fun z => z) (if_neg c11))
      refine lv_iload hx hb dX1_range_14 (lv_at hl 0 rfl) ?_
      exact hret wc4.1 wc4.2 hR rfl hE (Nat.le_refl 0) (Nat.le_refl 0) dX1_range_16
  exact hNc4 (m_needTwo (1 : Int32) p1 p2 Z) rfl hR _ _ _ hE (lv_sub hl [0, 1, 2, 3] rfl)
def m_nextSight_j83 (w83 : Int32 × Int32 × ZT) : Int32 × Int32 × ZT := (w83.1, w83.2.1, w83.2.2)
def m_nextSight_c49 (i19 : Nat) (i28 : Nat) (w28 : Int32 × Int32 × ZT) (wc49 : ZT) : Int32 × Int32 × ZT := (if ((wc49.1 42 0) - (wc49.1 41 0)) ≤ w28.2.1 then (w28.1, w28.2.1, wc49) else (nI ((10 * i19) + i28), ((wc49.1 42 0) - (wc49.1 41 0)), wc49))
def m_nextSight_b28 (i19 : Nat) (i28 : Nat) (w28 : Int32 × Int32 × ZT) : Int32 × Int32 × ZT := m_nextSight_j83 (if (m_isLink i19 i28 w28.2.2) = 0 then (w28.1, w28.2.1, w28.2.2) else m_nextSight_c49 i19 i28 w28 (m_layRange i19 i28 w28.2.2))
def m_nextSight_e28 (w28 : Int32 × Int32 × ZT) : Int32 × Int32 × ZT := (w28.1, w28.2.1, w28.2.2)
def m_nextSight_b19 (i19 : Nat) (w19 : Int32 × Int32 × ZT) : Int32 × Int32 × ZT := m_nextSight_e28 (itR (m_nextSight_b28 i19) 0 8 (w19.1, w19.2.1, w19.2.2))
def m_nextSight_e19 (w19 : Int32 × Int32 × ZT) : Int32 × ZT := (if w19.1 = (-9 : Int32) then ((-9 : Int32), w19.2.2) else (m_tells w19.2.1 w19.1 w19.2.2))
def m_nextSight_c6 (wc6 : Int32 × ZT) : Int32 × ZT := (if wc6.1 = (-9 : Int32) then m_nextSight_e19 (itR m_nextSight_b19 0 8 ((-9 : Int32), (0 : Int32), wc6.2)) else ((-9 : Int32), wc6.2))
def m_nextSight (Z : ZT) : Int32 × ZT := m_nextSight_c6 (m_quarrelSet Z)
set_option maxHeartbeats 4000000 in
set_option maxRecDepth 100000 in
theorem met_m_nextSight (l : Launch) (D : va_G) (cs : Nat → ClassId) (m : Nat) (ar : Nat → Nat) (Z : ZT) (sz : Nat)  : Met l yX1_nextSight (ws_ yX1_nextSight cX1_nextSight 5 (some .int)) ({ frames := 3, cells := 0, slots := 0, locals := 72 }) (va_Pc [.ref m] (wSt D cs (MW m ar cs Z) sz)) (cQi (fun (v : Int32) (u : ZT) => m_nextSight Z = (v, u)) D (fun u => MW m ar cs u) (MW m ar cs Z) sz) 0 0 (va_A (MW m ar cs Z) sz) := by
  refine gStart_i (C := RX1) rfl rfl (Nat.le_of_ble_eq_true rfl) ?_
  intro p e s mid args below meth c R Q A hx hb hml hown hts hK hA hRf hRl hRc hRs hret hE ls hl
  have hRf : 3 ≤ R.frames := hRf
  have hRl : 72 ≤ R.locals := hRl
  have hl : lv_has ls 5 [(0, .ref m)] := hl
  have hR : m_nextSight Z = (m_nextSight_c6 (m_quarrelSet Z)) := rfl
  refine lv_bipush (v := -9) hx hb dX1_nextSight_0 rfl ?_
  refine lv_istore_n (lv' := [(1, .int (-9 : Int32)), (0, .ref m)]) hx hb dX1_nextSight_2 rfl hl (by decide) rfl (fun ls hl => ?_)
  refine lv_iconst (v := 0) hx hb dX1_nextSight_3 rfl ?_
  refine lv_istore_n (lv' := [(2, .int (0 : Int32)), (1, .int (-9 : Int32)), (0, .ref m)]) hx hb dX1_nextSight_4 rfl hl (by decide) rfl (fun ls hl => ?_)
  refine lv_aload_n hx hb dX1_nextSight_5 rfl (lv_at hl 2 rfl) ?_
  refine call_m_quarrelSet hx hb hml hown hts hK hA hE hl.1 (lz (show 3 ≤ 3 by decide) hRf) (lz (show 68 ≤ 72 by decide) hRl) (Nat.le_of_ble_eq_true rfl) dX1_nextSight_6 (fun H locs hE => ?_)
  have hNc6 : ∀ (wc6 : Int32 × ZT) (hR : m_nextSight Z = m_nextSight_c6 wc6), ∀ (H : Heap) (locs : List Loc) (ls : Array Slot), EW D A s.heap (MW m ar cs wc6.2) H locs → lv_has ls 5 [(0, .ref m), (1, .int (-9 : Int32)), (2, .int (0 : Int32))] → W p l e R s mid args below meth c H locs 0 0 Q (F0 mid 9 ls [.int wc6.1]) := by
    intro wc6 hR H locs ls hE hl
    have hR : m_nextSight Z = (if wc6.1 = (-9 : Int32) then m_nextSight_e19 (itR m_nextSight_b19 0 8 ((-9 : Int32), (0 : Int32), wc6.2)) else ((-9 : Int32), wc6.2)) := hR
    refine lv_bipush (v := -9) hx hb dX1_nextSight_9 rfl ?_
    refine lv_icmp_eq (tgt := 17) hx hb dX1_nextSight_11 (by decide) (fun c11 => ?_) (fun c11 => ?_)
    · have hR : m_nextSight Z = (m_nextSight_e19 (itR m_nextSight_b19 0 8 ((-9 : Int32), (0 : Int32), wc6.2))) := hR.trans (congrArg (fun z => z) (if_pos c11))
      refine lv_iconst (v := 0) hx hb dX1_nextSight_17 rfl ?_
      refine lv_istore_n (lv' := [(3, .int (0 : Int32)), (0, .ref m), (1, .int (-9 : Int32)), (2, .int (0 : Int32))]) hx hb dX1_nextSight_18 rfl hl (by decide) rfl (fun ls hl => ?_)
      have hL19 : ∀ (k i19 : Nat) (w19 : Int32 × Int32 × ZT) (hi19 : i19 + k = 8) (hR : m_nextSight Z = m_nextSight_e19 (itR m_nextSight_b19 i19 k w19)), ∀ (H : Heap) (locs : List Loc) (ls : Array Slot), EW D A s.heap (MW m ar cs w19.2.2) H locs → lv_has ls 5 [(0, .ref m), (1, .int w19.1), (2, .int w19.2.1), (3, .int (nI i19))] → W p l e R s mid args below meth c H locs 0 0 Q (F0 mid 19 ls []) := by
        intro k
        induction k with
        | zero =>
          intro i19 w19 hi19 hR H locs ls hE hl
          have hie19 : i19 = 8 := by omega
          have hR : m_nextSight Z = (if w19.1 = (-9 : Int32) then ((-9 : Int32), w19.2.2) else (m_tells w19.2.1 w19.1 w19.2.2)) := hR
          refine lv_iload_n hx hb dX1_nextSight_19 rfl (lv_at hl 3 rfl) ?_
          refine lv_bipush (v := 8) hx hb dX1_nextSight_20 rfl ?_
          refine n_geT (a := i19) (b := 8) (by omega) (by omega) hx hb dX1_nextSight_22 (tgt := 95) (by decide) ?_
          have hl := lv_sub (l' := [(0, .ref m), (1, .int w19.1), (2, .int w19.2.1)]) hl [0, 1, 2] rfl
          refine lv_iload_n hx hb dX1_nextSight_95 rfl (lv_at hl 1 rfl) ?_
          refine lv_bipush (v := -9) hx hb dX1_nextSight_96 rfl ?_
          refine lv_icmp_ne (tgt := 106) hx hb dX1_nextSight_98 (by decide) (fun c98 => ?_) (fun c98 => ?_)
          · have hR : m_nextSight Z = (m_tells w19.2.1 w19.1 w19.2.2) := hR.trans (congrArg (fun z => z) (if_neg c98))
            refine lv_aload_n hx hb dX1_nextSight_106 rfl (lv_at hl 0 rfl) ?_
            refine lv_iload_n hx hb dX1_nextSight_107 rfl (lv_at hl 2 rfl) ?_
            refine lv_iload_n hx hb dX1_nextSight_108 rfl (lv_at hl 1 rfl) ?_
            refine call_m_tells hx hb hml hown hts hK hA hE hl.1 w19.2.1 w19.1 (lz (show 1 ≤ 3 by decide) hRf) (lz (show 22 ≤ 72 by decide) hRl) (Nat.le_of_ble_eq_true rfl) dX1_nextSight_109 (fun H locs hE => ?_)
            exact hret ((m_tells w19.2.1 w19.1 w19.2.2).1) ((m_tells w19.2.1 w19.1 w19.2.2).2) hR rfl hE (Nat.le_refl 0) (Nat.le_refl 0) dX1_nextSight_112
          · have hR : m_nextSight Z = ((-9 : Int32), w19.2.2) := hR.trans (congrArg (fun z => z) (if_pos c98))
            refine lv_bipush (v := -9) hx hb dX1_nextSight_101 rfl ?_
            refine lv_goto (tgt := 112) hx hb dX1_nextSight_103 (by decide) ?_
            exact hret (-9 : Int32) w19.2.2 hR rfl hE (Nat.le_refl 0) (Nat.le_refl 0) dX1_nextSight_112
        | succ k ih19 =>
          intro i19 w19 hi19 hR H locs ls hE hl
          have hlt19 : i19 < 8 := by omega
          have hB19 : m_nextSight_b19 i19 w19 = m_nextSight_e28 (itR (m_nextSight_b28 i19) 0 8 (w19.1, w19.2.1, w19.2.2)) := rfl
          refine lv_iload_n hx hb dX1_nextSight_19 rfl (lv_at hl 3 rfl) ?_
          refine lv_bipush (v := 8) hx hb dX1_nextSight_20 rfl ?_
          refine n_geF (a := i19) (b := 8) (by omega) (by omega) hx hb dX1_nextSight_22 (tgt := 95) (by decide) ?_
          refine lv_iconst (v := 0) hx hb dX1_nextSight_25 rfl ?_
          refine lv_istore (lv' := [(4, .int (0 : Int32)), (0, .ref m), (1, .int w19.1), (2, .int w19.2.1), (3, .int (nI i19))]) hx hb dX1_nextSight_26 hl (by decide) rfl (fun ls hl => ?_)
          have hL28 : ∀ (k i28 : Nat) (w28 : Int32 × Int32 × ZT) (hi28 : i28 + k = 8) (hB19 : m_nextSight_b19 i19 w19 = m_nextSight_e28 (itR (m_nextSight_b28 i19) i28 k w28)), ∀ (H : Heap) (locs : List Loc) (ls : Array Slot), EW D A s.heap (MW m ar cs w28.2.2) H locs → lv_has ls 5 [(0, .ref m), (1, .int w28.1), (2, .int w28.2.1), (3, .int (nI i19)), (4, .int (nI i28))] → W p l e R s mid args below meth c H locs 0 0 Q (F0 mid 28 ls []) := by
            intro k
            induction k with
            | zero =>
              intro i28 w28 hi28 hB19 H locs ls hE hl
              have hie28 : i28 = 8 := by omega
              have hB19 : m_nextSight_b19 i19 w19 = (w28.1, w28.2.1, w28.2.2) := hB19
              refine lv_iload hx hb dX1_nextSight_28 (lv_at hl 4 rfl) ?_
              refine lv_bipush (v := 8) hx hb dX1_nextSight_30 rfl ?_
              refine n_geT (a := i28) (b := 8) (by omega) (by omega) hx hb dX1_nextSight_32 (tgt := 89) (by decide) ?_
              have hl := lv_sub (l' := [(0, .ref m), (1, .int w28.1), (2, .int w28.2.1), (3, .int (nI i19))]) hl [0, 1, 2, 3] rfl
              refine n_inc (lv' := [(3, .int (nI (i19 + 1))), (0, .ref m), (1, .int w28.1), (2, .int w28.2.1)]) hx hb dX1_nextSight_89 hl (k := 3) rfl (by decide) rfl (fun ls hl => ?_)
              refine lv_goto (tgt := 19) hx hb dX1_nextSight_92 (by decide) ?_
              exact ih19 (i19 + 1) (w28.1, w28.2.1, w28.2.2) (by omega) (hR.trans (congrArg (fun z => m_nextSight_e19 (itR m_nextSight_b19 (i19 + 1) k z)) hB19)) _ _ _ hE (lv_sub hl [1, 2, 3, 0] rfl)
            | succ k ih28 =>
              intro i28 w28 hi28 hB19 H locs ls hE hl
              have hlt28 : i28 < 8 := by omega
              have hB28 : m_nextSight_b28 i19 i28 w28 = m_nextSight_j83 (if (m_isLink i19 i28 w28.2.2) = 0 then (w28.1, w28.2.1, w28.2.2) else m_nextSight_c49 i19 i28 w28 (m_layRange i19 i28 w28.2.2)) := rfl
              refine lv_iload hx hb dX1_nextSight_28 (lv_at hl 4 rfl) ?_
              refine lv_bipush (v := 8) hx hb dX1_nextSight_30 rfl ?_
              refine n_geF (a := i28) (b := 8) (by omega) (by omega) hx hb dX1_nextSight_32 (tgt := 89) (by decide) ?_
              refine lv_aload_n hx hb dX1_nextSight_35 rfl (lv_at hl 0 rfl) ?_
              refine lv_iload_n hx hb dX1_nextSight_36 rfl (lv_at hl 3 rfl) ?_
              refine lv_iload hx hb dX1_nextSight_37 (lv_at hl 4 rfl) ?_
              refine call_m_isLink hx hb hml hown hts hK hA hE hl.1 i19 i28 (by omega) (by omega) (lz (show 1 ≤ 3 by decide) hRf) (lz (show 22 ≤ 72 by decide) hRl) (Nat.le_of_ble_eq_true rfl) dX1_nextSight_39 (fun H locs hE => ?_)
              have hJ83 : ∀ (w83 : Int32 × Int32 × ZT) (hB28 : m_nextSight_b28 i19 i28 w28 = m_nextSight_j83 w83), ∀ (H : Heap) (locs : List Loc) (ls : Array Slot), EW D A s.heap (MW m ar cs w83.2.2) H locs → lv_has ls 5 [(0, .ref m), (1, .int w83.1), (2, .int w83.2.1), (3, .int (nI i19)), (4, .int (nI i28))] → W p l e R s mid args below meth c H locs 0 0 Q (F0 mid 83 ls []) := by
                intro w83 hB28 H locs ls hE hl
                have hB28 : m_nextSight_b28 i19 i28 w28 = (w83.1, w83.2.1, w83.2.2) := hB28
                refine n_inc (lv' := [(4, .int (nI (i28 + 1))), (0, .ref m), (1, .int w83.1), (2, .int w83.2.1), (3, .int (nI i19))]) hx hb dX1_nextSight_83 hl (k := 4) rfl (by decide) rfl (fun ls hl => ?_)
                refine lv_goto (tgt := 28) hx hb dX1_nextSight_86 (by decide) ?_
                exact ih28 (i28 + 1) (w83.1, w83.2.1, w83.2.2) (by omega) (hB19.trans (congrArg (fun z => m_nextSight_e28 (itR (m_nextSight_b28 i19) (i28 + 1) k z)) hB28)) _ _ _ hE (lv_sub hl [1, 2, 3, 4, 0] rfl)
              refine lv_if_eq (tgt := 83) hx hb dX1_nextSight_42 (by decide) (fun c42 => ?_) (fun c42 => ?_)
              · have hB28 : m_nextSight_b28 i19 i28 w28 = m_nextSight_j83 (w28.1, w28.2.1, w28.2.2) := hB28.trans (congrArg (fun z => m_nextSight_j83 z) (if_pos c42))
                exact hJ83 (w28.1, w28.2.1, w28.2.2)  hB28 _ _ _ hE (lv_sub hl [0, 1, 2, 3, 4] rfl)
              · have hB28 : m_nextSight_b28 i19 i28 w28 = m_nextSight_j83 (m_nextSight_c49 i19 i28 w28 (m_layRange i19 i28 w28.2.2)) := hB28.trans (congrArg (fun z => m_nextSight_j83 z) (if_neg c42))
                refine lv_aload_n hx hb dX1_nextSight_45 rfl (lv_at hl 0 rfl) ?_
                refine lv_iload_n hx hb dX1_nextSight_46 rfl (lv_at hl 3 rfl) ?_
                refine lv_iload hx hb dX1_nextSight_47 (lv_at hl 4 rfl) ?_
                refine call_m_layRange hx hb hml hown hts hK hA hE hl.1 i19 i28 (by omega) (by omega) (lz (show 3 ≤ 3 by decide) hRf) (lz (show 72 ≤ 72 by decide) hRl) (Nat.le_of_ble_eq_true rfl) dX1_nextSight_49 (fun H locs hE => ?_)
                have hNc49 : ∀ (wc49 : ZT) (hB28 : m_nextSight_b28 i19 i28 w28 = m_nextSight_j83 (m_nextSight_c49 i19 i28 w28 wc49)), ∀ (H : Heap) (locs : List Loc) (ls : Array Slot), EW D A s.heap (MW m ar cs wc49) H locs → lv_has ls 5 [(0, .ref m), (1, .int w28.1), (2, .int w28.2.1), (3, .int (nI i19)), (4, .int (nI i28))] → W p l e R s mid args below meth c H locs 0 0 Q (F0 mid 52 ls []) := by
                  intro wc49 hB28 H locs ls hE hl
                  have hB28 : m_nextSight_b28 i19 i28 w28 = m_nextSight_j83 (if ((wc49.1 42 0) - (wc49.1 41 0)) ≤ w28.2.1 then (w28.1, w28.2.1, wc49) else (nI ((10 * i19) + i28), ((wc49.1 42 0) - (wc49.1 41 0)), wc49)) := hB28
                  refine lv_aload_n hx hb dX1_nextSight_52 rfl (lv_at hl 0 rfl) ?_
                  refine mg_42 hx hb hts hown hK hE dX1_nextSight_53 ?_
                  refine lv_aload_n hx hb dX1_nextSight_56 rfl (lv_at hl 0 rfl) ?_
                  refine mg_41 hx hb hts hown hK hE dX1_nextSight_57 ?_
                  refine lv_isub hx hb dX1_nextSight_60 ?_
                  refine lv_iload_n hx hb dX1_nextSight_61 rfl (lv_at hl 2 rfl) ?_
                  refine lv_icmp_le (tgt := 83) hx hb dX1_nextSight_62 (by decide) (fun c62 => ?_) (fun c62 => ?_)
                  · have hB28 : m_nextSight_b28 i19 i28 w28 = m_nextSight_j83 (w28.1, w28.2.1, wc49) := hB28.trans (congrArg (fun z => m_nextSight_j83 z) (if_pos c62))
                    exact hJ83 (w28.1, w28.2.1, wc49)  hB28 _ _ _ hE (lv_sub hl [0, 1, 2, 3, 4] rfl)
                  · have hB28 : m_nextSight_b28 i19 i28 w28 = m_nextSight_j83 (nI ((10 * i19) + i28), ((wc49.1 42 0) - (wc49.1 41 0)), wc49) := hB28.trans (congrArg (fun z => m_nextSight_j83 z) (if_neg c62))
                    refine lv_bipush (v := 10) hx hb dX1_nextSight_65 rfl ?_
                    refine lv_iload_n hx hb dX1_nextSight_67 rfl (lv_at hl 3 rfl) ?_
                    refine n_mul (a := 10) (b := i19) hx hb dX1_nextSight_68 ?_
                    refine lv_iload hx hb dX1_nextSight_69 (lv_at hl 4 rfl) ?_
                    refine n_add (a := (10 * i19)) (b := i28) hx hb dX1_nextSight_71 ?_
                    refine lv_istore_n (lv' := [(1, .int (nI ((10 * i19) + i28))), (0, .ref m), (2, .int w28.2.1), (3, .int (nI i19)), (4, .int (nI i28))]) hx hb dX1_nextSight_72 rfl hl (by decide) rfl (fun ls hl => ?_)
                    refine lv_aload_n hx hb dX1_nextSight_73 rfl (lv_at hl 1 rfl) ?_
                    refine mg_42 hx hb hts hown hK hE dX1_nextSight_74 ?_
                    refine lv_aload_n hx hb dX1_nextSight_77 rfl (lv_at hl 1 rfl) ?_
                    refine mg_41 hx hb hts hown hK hE dX1_nextSight_78 ?_
                    refine lv_isub hx hb dX1_nextSight_81 ?_
                    refine lv_istore_n (lv' := [(2, .int ((wc49.1 42 0) - (wc49.1 41 0))), (1, .int (nI ((10 * i19) + i28))), (0, .ref m), (3, .int (nI i19)), (4, .int (nI i28))]) hx hb dX1_nextSight_82 rfl hl (by decide) rfl (fun ls hl => ?_)
                    exact hJ83 (nI ((10 * i19) + i28), ((wc49.1 42 0) - (wc49.1 41 0)), wc49)  hB28 _ _ _ hE (lv_sub hl [2, 1, 0, 3, 4] rfl)
                exact hNc49 (m_layRange i19 i28 w28.2.2) hB28 _ _ _ hE (lv_sub hl [0, 1, 2, 3, 4] rfl)
          exact hL28 8 0 (w19.1, w19.2.1, w19.2.2) (by omega) hB19 _ _ _ hE (lv_sub hl [1, 2, 3, 4, 0] rfl)
      exact hL19 8 0 ((-9 : Int32), (0 : Int32), wc6.2) (by omega) hR _ _ _ hE (lv_sub hl [1, 2, 3, 0] rfl)
    · have hR : m_nextSight Z = ((-9 : Int32), wc6.2) := hR.trans (congrArg (fun z => z) (if_neg c11))
      refine lv_bipush (v := -9) hx hb dX1_nextSight_14 rfl ?_
      exact hret (-9 : Int32) wc6.2 hR rfl hE (Nat.le_refl 0) (Nat.le_refl 0) dX1_nextSight_16
  exact hNc6 (m_quarrelSet Z) hR _ _ _ hE (lv_sub hl [2, 1, 0] rfl)
