/-! the twin: weeks passed and tried -/
set_option maxRecDepth 100000
theorem MI_fst {Z Z' : ZT} (h : Z'.1 = Z.1) (hM : MI Z) : MI Z' := by
  unfold MI
  rw [h]
  exact hM
theorem upd_rng {f : Nat → Int32} {i : Nat} {x lo hi : Int32} (hx : lo.toInt ≤ x.toInt ∧ x.toInt ≤ hi.toInt) (hf : ∀ b : Nat, b < 8 → lo.toInt ≤ (f b).toInt ∧ (f b).toInt ≤ hi.toInt) : ∀ b : Nat, b < 8 → lo.toInt ≤ (upd f i x b).toInt ∧ (upd f i x b).toInt ≤ hi.toInt := by
  intro b hb
  unfold upd
  split
  · exact hx
  · exact hf b hb
theorem MI_s15 {Z : ZT} {i : Nat} {x : Int32} (hx : 0 ≤ x.toInt ∧ x.toInt ≤ 100000) (hM : MI Z) : MI (sI Z 15 i x) := ⟨upd_rng (lo := 0) (hi := 100000) hx hM.1, hM.2.1, hM.2.2.1, hM.2.2.2⟩
theorem MI_s34 {Z : ZT} {i : Nat} {x : Int32} (hx : 0 ≤ x.toInt ∧ x.toInt ≤ 100000) (hM : MI Z) : MI (sI Z 34 i x) := ⟨hM.1, upd_rng (lo := 0) (hi := 100000) hx hM.2.1, hM.2.2.1, hM.2.2.2⟩
theorem l2i_toInt {v : Int64} (h : 0 ≤ v.toInt ∧ v.toInt ≤ 100000) : v.toInt32.toInt = v.toInt := by
  rw [Int64.toInt_toInt32, Int.bmod_eq_of_le (by omega) (by omega)]
theorem clamp_ok (x : Int64) : 0 ≤ (if (0 : Int64) ≤ x then (if x ≤ 100000 then x else 100000) else 0).toInt ∧ (if (0 : Int64) ≤ x then (if x ≤ 100000 then x else 100000) else 0).toInt ≤ 100000 := by
  split
  · rename_i h
    rw [Int64.le_iff_toInt_le, show (0 : Int64).toInt = 0 from rfl] at h
    split
    · rename_i h2
      rw [Int64.le_iff_toInt_le, show (100000 : Int64).toInt = 100000 from rfl] at h2
      exact ⟨h, h2⟩
    · exact ⟨by decide, by decide⟩
  · exact ⟨by decide, by decide⟩
theorem left_ok {v : Int64} {d : Int32} (hv : 0 ≤ v.toInt ∧ v.toInt ≤ 100000) (hd : 0 ≤ d.toInt) : 0 ≤ (v.toInt32 - (if v ≤ d.toInt64 then v.toInt32 else d)).toInt ∧ (v.toInt32 - (if v ≤ d.toInt64 then v.toInt32 else d)).toInt ≤ 100000 := by
  have e := l2i_toInt hv
  split
  · rw [Int32.sub_self]
    exact ⟨by decide, by decide⟩
  · rename_i h
    rw [Int64.le_iff_toInt_le, Int32.toInt_toInt64] at h
    rw [Int32.toInt_sub, e, Int.bmod_eq_of_le (by omega) (by omega)]
    omega
theorem week_b_MI {rk : Nat} (hr : rk = 15 ∨ rk = 34) {o a : Int32} (ha : 0 ≤ a.toInt) {i : Nat} (hi : i < 8) {s : ZT} (hM : MI s) : MI (m_week_b18 rk o a i s) := by
  unfold m_week_b18 m_week_j181
  split
  · exact hM
  · generalize hx : ((s.1 rk i).toInt64 + s.2 31 i) = x
    have hv := clamp_ok x
    generalize (if (0 : Int64) ≤ x then (if x ≤ 100000 then x else 100000) else 0) = v at hv
    unfold m_week_j92 m_week_j111
    have hd : 0 ≤ (if nI i = o then a else s.1 16 i).toInt := by
      split
      · exact ha
      · exact (hM.2.2.2 i hi).1
    generalize (if nI i = o then a else s.1 16 i) = d at hd
    have hl := left_ok hv hd
    generalize (if v ≤ d.toInt64 then v.toInt32 else d) = cc at hl
    unfold m_week_j136 m_week_m152
    have e : (sI (sI s 32 i 0) 32 i cc).1 32 i = cc := by simp [sI, va_up, upd]
    rw [e]
    have hM2 : MI (sI (sI (sI s 32 i 0) 32 i cc) rk i (v.toInt32 - cc)) := by
      rcases hr with rfl | rfl
      · exact MI_s15 hl hM
      · exact MI_s34 hl hM
    exact hM2
theorem week_MI {rk : Nat} (hr : rk = 15 ∨ rk = 34) {o a : Int32} {Z : ZT} (hM : MI Z) (ha : 0 ≤ a.toInt) : MI (m_week rk o a Z) := by
  unfold m_week m_week_c2 m_week_c7 m_week_e18
  have h0 : (m_layChanges rk (m_layWants rk Z)).1 = Z.1 := by rw [m_layChanges_fst, m_layWants_fst]
  generalize m_layChanges rk (m_layWants rk Z) = Y at h0
  have h2 : MI Y := MI_fst h0 hM
  have h1 : MI (sI Y 33 0 0) := h2
  exact itR_inv (n := 8) (P := fun _ s => MI s) (fun i s hi hs => week_b_MI hr ha hi hs) 8 0 _ rfl h1
theorem beginTrial_MI {Z : ZT} (hM : MI Z) : MI (m_beginTrial Z) := by
  unfold m_beginTrial m_beginTrial_e2
  refine itR_inv (n := 8) (P := fun _ s => MI s) (fun i s hi hs => ?_) 8 0 _ rfl hM
  unfold m_beginTrial_b2 m_beginTrial_j32
  refine MI_s34 ?_ hs
  split
  · exact ⟨by decide, by decide⟩
  · exact hs.1 i hi
theorem amt_ok {k : Nat} {p : Int32} (hk : k ≤ 20) (hp : (1 : Int32).toInt ≤ p.toInt ∧ p.toInt ≤ (100000 : Int32).toInt) : 0 ≤ (nI k * p).toInt := by
  have h1 : 1 ≤ p.toInt ∧ p.toInt ≤ 100000 := hp
  have e : (k : Int) * p.toInt ≤ 20 * 100000 := Int.mul_le_mul (by omega) h1.2 (by omega) (by omega)
  have e0 : 0 ≤ (k : Int) * p.toInt := Int.mul_nonneg (by omega) (by omega)
  rw [Int32.toInt_mul, nI_toInt (by omega), Int.bmod_eq_of_le (by omega) (by omega)]
  exact e0
def m_pass_j98 (i47 : Nat) (w47 : ZT) (w98 : Int32) : ZT := sI (sI (sL w47 29 0 ((w47.2 29 0) + ((w47.1 32 i47).toInt64))) 21 i47 w98) 22 i47 ((w47.1 22 i47) + (1 : Int32))
def m_pass_b47 (i47 : Nat) (w47 : ZT) : ZT := m_pass_j98 i47 w47 (if (m_has (w47.1 33 0) i47) = 0 then w47.1 21 i47 else w47.1 28 0)
def m_pass_e47 (w47 : ZT) : ZT := sI w47 28 0 ((w47.1 28 0) + (1 : Int32))
def m_pass_c42 (wc42 : ZT) : ZT := m_pass_e47 (itR m_pass_b47 0 8 wc42)
def m_pass_b29 (i29 : Nat) (w29 : ZT) : ZT := m_pass_c42 (m_week 15 (-9 : Int32) (0 : Int32) w29)
def m_pass_e29 (w29 : ZT) : Int32 × ZT := (w29.1 28 0, w29)
def m_pass (p1 : Int32) (Z : ZT) : Int32 × ZT := (if (m_in p1 (0 : Int32) (500 : Int32)) = 0 then ((-1 : Int32), Z) else (if ((Z.1 28 0) + p1) ≤ (1000000 : Int32) then m_pass_e29 (itR m_pass_b29 0 (ix p1) Z) else ((-2 : Int32), Z)))
set_option maxHeartbeats 4000000 in
set_option maxRecDepth 100000 in
theorem met_m_pass (l : Launch) (D : va_G) (cs : Nat → ClassId) (m : Nat) (ar : Nat → Nat) (Z : ZT) (sz : Nat) (p1 : Int32) (hM : MI Z) : Met l yX1_pass (ws_ yX1_pass cX1_pass 4 (some .int)) ({ frames := 4, cells := 0, slots := 0, locals := 98 }) (va_Pc [.ref m, .int p1] (wSt D cs (MW m ar cs Z) sz)) (cQi (fun (v : Int32) (u : ZT) => m_pass p1 Z = (v, u)) D (fun u => MW m ar cs u) (MW m ar cs Z) sz) 0 0 (va_A (MW m ar cs Z) sz) := by
  refine gStart_i (C := RX1) rfl rfl (Nat.le_of_ble_eq_true rfl) ?_
  intro p e s mid args below meth c R Q A hx hb hml hown hts hK hA hRf hRl hRc hRs hret hE ls hl
  have hRf : 4 ≤ R.frames := hRf
  have hRl : 98 ≤ R.locals := hRl
  have hl : lv_has ls 4 [(0, .ref m), (1, .int p1)] := hl
  have hR : m_pass p1 Z = (if (m_in p1 (0 : Int32) (500 : Int32)) = 0 then ((-1 : Int32), Z) else (if ((Z.1 28 0) + p1) ≤ (1000000 : Int32) then m_pass_e29 (itR m_pass_b29 0 (ix p1) Z) else ((-2 : Int32), Z))) := rfl
  refine lv_iload_n hx hb dX1_pass_0 rfl (lv_at hl 1 rfl) ?_
  refine lv_iconst (v := 0) hx hb dX1_pass_1 rfl ?_
  refine lv_sipush (v := 500) hx hb dX1_pass_2 rfl ?_
  refine call_m_in hx hb hml hown hts hK hA hE hl.1 p1 (0 : Int32) (500 : Int32) (lz (show 1 ≤ 4 by decide) hRf) (lz (show 22 ≤ 98 by decide) hRl) (Nat.le_of_ble_eq_true rfl) dX1_pass_5 (fun H locs hE => ?_)
  refine lv_if_ne (tgt := 13) hx hb dX1_pass_8 (by decide) (fun c8 => ?_) (fun c8 => ?_)
  · have hR : m_pass p1 Z = (if ((Z.1 28 0) + p1) ≤ (1000000 : Int32) then m_pass_e29 (itR m_pass_b29 0 (ix p1) Z) else ((-2 : Int32), Z)) := hR.trans (congrArg (fun z => z) (if_neg c8))
    refine lv_aload_n hx hb dX1_pass_13 rfl (lv_at hl 0 rfl) ?_
    refine mg_28 hx hb hts hown hK hE dX1_pass_14 ?_
    refine lv_iload_n hx hb dX1_pass_17 rfl (lv_at hl 1 rfl) ?_
    refine lv_iadd hx hb dX1_pass_18 ?_
    refine lv_ldc (v := 1000000) hx hb hown (hts _ q1251) dX1_pass_19 ?_
    refine lv_icmp_le (tgt := 27) hx hb dX1_pass_21 (by decide) (fun c21 => ?_) (fun c21 => ?_)
    · have hR : m_pass p1 Z = (m_pass_e29 (itR m_pass_b29 0 (ix p1) Z)) := hR.trans (congrArg (fun z => z) (if_pos c21))
      have hnp1 := vp_ix (x := p1) (N := 501) (vp_of_in c8 (by decide) (by decide)) (by decide)
      have hbnp1 := hnp1.2
      refine lv_iconst (v := 0) hx hb dX1_pass_27 rfl ?_
      refine lv_istore_n (lv' := [(2, .int (0 : Int32)), (0, .ref m), (1, .int p1)]) hx hb dX1_pass_28 rfl hl (by decide) rfl (fun ls hl => ?_)
      have hL29 : ∀ (k i29 : Nat) (w29 : ZT) (hi29 : i29 + k = (ix p1)) (hM29 : MI w29) (hR : m_pass p1 Z = m_pass_e29 (itR m_pass_b29 i29 k w29)), ∀ (H : Heap) (locs : List Loc) (ls : Array Slot), EW D A s.heap (MW m ar cs w29) H locs → lv_has ls 4 [(0, .ref m), (1, .int p1), (2, .int (nI i29))] → W p l e R s mid args below meth c H locs 0 0 Q (F0 mid 29 ls []) := by
        intro k
        induction k with
        | zero =>
          intro i29 w29 hi29 hM29 hR H locs ls hE hl
          have hie29 : i29 = (ix p1) := by omega
          have hR : m_pass p1 Z = (w29.1 28 0, w29) := hR
          refine lv_iload_n hx hb dX1_pass_29 rfl (lv_at hl 2 rfl) ?_
          refine lv_iload_n hx hb dX1_pass_30 rfl (lv_at hl 1 rfl) ?_
          refine top_nat hnp1.1 ?_
          refine n_geT (a := i29) (b := (ix p1)) (by omega) (by omega) hx hb dX1_pass_31 (tgt := 131) (by decide) ?_
          have hl := lv_sub (l' := [(0, .ref m), (1, .int p1)]) hl [0, 1] rfl
          refine lv_aload_n hx hb dX1_pass_131 rfl (lv_at hl 0 rfl) ?_
          refine mg_28 hx hb hts hown hK hE dX1_pass_132 ?_
          exact hret (w29.1 28 0) w29 hR rfl hE (Nat.le_refl 0) (Nat.le_refl 0) dX1_pass_135
        | succ k ih29 =>
          intro i29 w29 hi29 hM29 hR H locs ls hE hl
          have hlt29 : i29 < (ix p1) := by omega
          have hB29 : m_pass_b29 i29 w29 = m_pass_c42 (m_week 15 (-9 : Int32) (0 : Int32) w29) := rfl
          refine lv_iload_n hx hb dX1_pass_29 rfl (lv_at hl 2 rfl) ?_
          refine lv_iload_n hx hb dX1_pass_30 rfl (lv_at hl 1 rfl) ?_
          refine top_nat hnp1.1 ?_
          refine n_geF (a := i29) (b := (ix p1)) (by omega) (by omega) hx hb dX1_pass_31 (tgt := 131) (by decide) ?_
          refine lv_aload_n hx hb dX1_pass_34 rfl (lv_at hl 0 rfl) ?_
          refine lv_aload_n hx hb dX1_pass_35 rfl (lv_at hl 0 rfl) ?_
          refine mg_15 hx hb hts hown hK hE dX1_pass_36 ?_
          refine lv_bipush (v := -9) hx hb dX1_pass_39 rfl ?_
          refine lv_iconst (v := 0) hx hb dX1_pass_41 rfl ?_
          refine call_m_week_15 hx hb hml hown hts hK hA hE hl.1 (-9 : Int32) (0 : Int32) (by exact hM29) (lz (show 4 ≤ 4 by decide) hRf) (lz (show 98 ≤ 98 by decide) hRl) (Nat.le_of_ble_eq_true rfl) dX1_pass_42 (fun H locs hE => ?_)
          have hNc42 : ∀ (wc42 : ZT) (hewc42 : wc42 = m_week 15 (-9 : Int32) (0 : Int32) w29) (hB29 : m_pass_b29 i29 w29 = m_pass_c42 wc42), ∀ (H : Heap) (locs : List Loc) (ls : Array Slot), EW D A s.heap (MW m ar cs wc42) H locs → lv_has ls 4 [(0, .ref m), (1, .int p1), (2, .int (nI i29))] → W p l e R s mid args below meth c H locs 0 0 Q (F0 mid 45 ls []) := by
            intro wc42 hewc42 hB29 H locs ls hE hl
            have hB29 : m_pass_b29 i29 w29 = (m_pass_e47 (itR m_pass_b47 0 8 wc42)) := hB29
            refine lv_iconst (v := 0) hx hb dX1_pass_45 rfl ?_
            refine lv_istore_n (lv' := [(3, .int (0 : Int32)), (0, .ref m), (1, .int p1), (2, .int (nI i29))]) hx hb dX1_pass_46 rfl hl (by decide) rfl (fun ls hl => ?_)
            have hL47 : ∀ (k i47 : Nat) (w47 : ZT) (hi47 : i47 + k = 8) (hM47 : MI w47) (hB29 : m_pass_b29 i29 w29 = m_pass_e47 (itR m_pass_b47 i47 k w47)), ∀ (H : Heap) (locs : List Loc) (ls : Array Slot), EW D A s.heap (MW m ar cs w47) H locs → lv_has ls 4 [(0, .ref m), (1, .int p1), (2, .int (nI i29)), (3, .int (nI i47))] → W p l e R s mid args below meth c H locs 0 0 Q (F0 mid 47 ls []) := by
              intro k
              induction k with
              | zero =>
                intro i47 w47 hi47 hM47 hB29 H locs ls hE hl
                have hie47 : i47 = 8 := by omega
                have hB29 : m_pass_b29 i29 w29 = (sI w47 28 0 ((w47.1 28 0) + (1 : Int32))) := hB29
                refine lv_iload_n hx hb dX1_pass_47 rfl (lv_at hl 3 rfl) ?_
                refine lv_bipush (v := 8) hx hb dX1_pass_48 rfl ?_
                refine n_geT (a := i47) (b := 8) (by omega) (by omega) hx hb dX1_pass_50 (tgt := 115) (by decide) ?_
                have hl := lv_sub (l' := [(0, .ref m), (1, .int p1), (2, .int (nI i29))]) hl [0, 1, 2] rfl
                refine lv_aload_n hx hb dX1_pass_115 rfl (lv_at hl 0 rfl) ?_
                refine lv_dup hx hb dX1_pass_116 rfl ?_
                refine mg_28 hx hb hts hown hK hE dX1_pass_117 ?_
                refine lv_iconst (v := 1) hx hb dX1_pass_120 rfl ?_
                refine lv_iadd hx hb dX1_pass_121 ?_
                refine mp_28 hx hb hts hown hK hE dX1_pass_122 (fun H locs hE => ?_)
                refine n_inc (lv' := [(2, .int (nI (i29 + 1))), (0, .ref m), (1, .int p1)]) hx hb dX1_pass_125 hl (k := 2) rfl (by decide) rfl (fun ls hl => ?_)
                refine lv_goto (tgt := 29) hx hb dX1_pass_128 (by decide) ?_
                exact ih29 (i29 + 1) (sI w47 28 0 ((w47.1 28 0) + (1 : Int32))) (by omega) (by exact hM47) (hR.trans (congrArg (fun z => m_pass_e29 (itR m_pass_b29 (i29 + 1) k z)) hB29)) _ _ _ hE (lv_sub hl [1, 2, 0] rfl)
              | succ k ih47 =>
                intro i47 w47 hi47 hM47 hB29 H locs ls hE hl
                have hlt47 : i47 < 8 := by omega
                have hB47 : m_pass_b47 i47 w47 = m_pass_j98 i47 w47 (if (m_has (w47.1 33 0) i47) = 0 then w47.1 21 i47 else w47.1 28 0) := rfl
                refine lv_iload_n hx hb dX1_pass_47 rfl (lv_at hl 3 rfl) ?_
                refine lv_bipush (v := 8) hx hb dX1_pass_48 rfl ?_
                refine n_geF (a := i47) (b := 8) (by omega) (by omega) hx hb dX1_pass_50 (tgt := 115) (by decide) ?_
                refine lv_aload_n hx hb dX1_pass_53 rfl (lv_at hl 0 rfl) ?_
                refine lv_dup hx hb dX1_pass_54 rfl ?_
                refine mg_29 hx hb hts hown hK hE dX1_pass_55 ?_
                refine lv_aload_n hx hb dX1_pass_58 rfl (lv_at hl 0 rfl) ?_
                refine mg_32 hx hb hts hown hK hE dX1_pass_59 ?_
                refine lv_iload_n hx hb dX1_pass_62 rfl (lv_at hl 3 rfl) ?_
                refine ma_32 (n := i47) (by omega) hx hb hK hE dX1_pass_63 ?_
                refine lv_i2l hx hb dX1_pass_64 rfl ?_
                refine lv_ladd hx hb dX1_pass_65 ?_
                refine mp_29 hx hb hts hown hK hE dX1_pass_66 (fun H locs hE => ?_)
                refine lv_aload_n hx hb dX1_pass_69 rfl (lv_at hl 0 rfl) ?_
                refine mg_21 hx hb hts hown hK hE dX1_pass_70 ?_
                refine lv_iload_n hx hb dX1_pass_73 rfl (lv_at hl 3 rfl) ?_
                refine lv_aload_n hx hb dX1_pass_74 rfl (lv_at hl 0 rfl) ?_
                refine mg_33 hx hb hts hown hK hE dX1_pass_75 ?_
                refine lv_iload_n hx hb dX1_pass_78 rfl (lv_at hl 3 rfl) ?_
                refine call_m_has hx hb hml hown hts hK hA hE hl.1 (w47.1 33 0) i47 (lz (show 1 ≤ 4 by decide) hRf) (lz (show 21 ≤ 98 by decide) hRl) (Nat.le_of_ble_eq_true rfl) dX1_pass_79 (fun H locs hE => ?_)
                have hJ98 : ∀ (w98 : Int32) (hB47 : m_pass_b47 i47 w47 = m_pass_j98 i47 w47 w98), ∀ (H : Heap) (locs : List Loc) (ls : Array Slot), EW D A s.heap (MW m ar cs (sL w47 29 0 ((w47.2 29 0) + ((w47.1 32 i47).toInt64)))) H locs → lv_has ls 4 [(0, .ref m), (1, .int p1), (2, .int (nI i29)), (3, .int (nI i47))] → W p l e R s mid args below meth c H locs 0 0 Q (F0 mid 98 ls [.int w98, .int (nI i47), .ref (ar 21)]) := by
                  intro w98 hB47 H locs ls hE hl
                  have hB47 : m_pass_b47 i47 w47 = (sI (sI (sL w47 29 0 ((w47.2 29 0) + ((w47.1 32 i47).toInt64))) 21 i47 w98) 22 i47 ((w47.1 22 i47) + (1 : Int32))) := hB47
                  refine ms_21 (n := i47) (by omega) hx hb hK hE dX1_pass_98 (fun H locs hE => ?_)
                  refine lv_aload_n hx hb dX1_pass_99 rfl (lv_at hl 0 rfl) ?_
                  refine mg_22 hx hb hts hown hK hE dX1_pass_100 ?_
                  refine lv_iload_n hx hb dX1_pass_103 rfl (lv_at hl 3 rfl) ?_
                  refine lv_dup2_11 hx hb dX1_pass_104 rfl rfl ?_
                  refine ma_22 (n := i47) (by omega) hx hb hK hE dX1_pass_105 ?_
                  refine lv_iconst (v := 1) hx hb dX1_pass_106 rfl ?_
                  refine lv_iadd hx hb dX1_pass_107 ?_
                  refine ms_22 (n := i47) (by omega) hx hb hK hE dX1_pass_108 (fun H locs hE => ?_)
                  refine n_inc (lv' := [(3, .int (nI (i47 + 1))), (0, .ref m), (1, .int p1), (2, .int (nI i29))]) hx hb dX1_pass_109 hl (k := 3) rfl (by decide) rfl (fun ls hl => ?_)
                  refine lv_goto (tgt := 47) hx hb dX1_pass_112 (by decide) ?_
                  exact ih47 (i47 + 1) (sI (sI (sL w47 29 0 ((w47.2 29 0) + ((w47.1 32 i47).toInt64))) 21 i47 w98) 22 i47 ((w47.1 22 i47) + (1 : Int32))) (by omega) (by exact hM47) (hB29.trans (congrArg (fun z => m_pass_e47 (itR m_pass_b47 (i47 + 1) k z)) hB47)) _ _ _ hE (lv_sub hl [1, 2, 3, 0] rfl)
                refine lv_if_eq (tgt := 92) hx hb dX1_pass_82 (by decide) (fun c82 => ?_) (fun c82 => ?_)
                · have hB47 : m_pass_b47 i47 w47 = m_pass_j98 i47 w47 (w47.1 21 i47) := hB47.trans (congrArg (fun z => m_pass_j98 i47 w47 z) (if_pos c82))
                  refine lv_aload_n hx hb dX1_pass_92 rfl (lv_at hl 0 rfl) ?_
                  refine mg_21 hx hb hts hown hK hE dX1_pass_93 ?_
                  refine lv_iload_n hx hb dX1_pass_96 rfl (lv_at hl 3 rfl) ?_
                  refine ma_21 (n := i47) (by omega) hx hb hK hE dX1_pass_97 ?_
                  exact hJ98 (w47.1 21 i47)  hB47 _ _ _ hE (lv_sub hl [0, 1, 2, 3] rfl)
                · have hB47 : m_pass_b47 i47 w47 = m_pass_j98 i47 w47 (w47.1 28 0) := hB47.trans (congrArg (fun z => m_pass_j98 i47 w47 z) (if_neg c82))
                  refine lv_aload_n hx hb dX1_pass_85 rfl (lv_at hl 0 rfl) ?_
                  refine mg_28 hx hb hts hown hK hE dX1_pass_86 ?_
                  refine lv_goto (tgt := 98) hx hb dX1_pass_89 (by decide) ?_
                  exact hJ98 (w47.1 28 0)  hB47 _ _ _ hE (lv_sub hl [0, 1, 2, 3] rfl)
            exact hL47 8 0 wc42 (by omega) (by have h := week_MI (o := -9) (a := 0) (Or.inl rfl) hM29 (by decide); rw [← hewc42] at h; exact h) hB29 _ _ _ hE (lv_sub hl [1, 2, 3, 0] rfl)
          exact hNc42 (m_week 15 (-9 : Int32) (0 : Int32) w29) rfl hB29 _ _ _ hE (lv_sub hl [0, 1, 2] rfl)
      exact hL29 (ix p1) 0 Z (by omega) (by exact hM) hR _ _ _ hE (lv_sub hl [1, 2, 0] rfl)
    · have hR : m_pass p1 Z = ((-2 : Int32), Z) := hR.trans (congrArg (fun z => z) (if_neg c21))
      refine lv_bipush (v := -2) hx hb dX1_pass_24 rfl ?_
      exact hret (-2 : Int32) Z hR rfl hE (Nat.le_refl 0) (Nat.le_refl 0) dX1_pass_26
  · have hR : m_pass p1 Z = ((-1 : Int32), Z) := hR.trans (congrArg (fun z => z) (if_pos c8))
    refine lv_iconst (v := -1) hx hb dX1_pass_11 rfl ?_
    exact hret (-1 : Int32) Z hR rfl hE (Nat.le_refl 0) (Nat.le_refl 0) dX1_pass_12
def m_swings_b26 (w19 : Nat × ZT) (i26 : Nat) (w26 : ZT) : ZT := sI w26 35 ((8 * w19.1) + i26) (w26.1 34 i26)
def m_swings_j107 (w107 : Int32) : Int32 := w107
def m_swings_b68 (w26 : ZT) (w57 : Nat) (i68 : Nat) (w68 : Int32) : Int32 := m_swings_j107 (if w68 = 0 then (0 : Int32) else (if w26.1 35 ((8 * w57) + i68) = w26.1 34 i68 then (1 : Int32) else (0 : Int32)))
def m_swings_e68 (w19 : Nat × ZT) (w26 : ZT) (w57 : Nat) (w68 : Int32) : ((Int32 × ZT) ⊕ (Bool × (Nat × ZT))) ⊕ (Bool × (Nat)) := (if w68 = 0 then (.inr (true, (w57 + 1))) else (.inl (.inl (m_tells (nI w57) ((nI w19.1) - (nI w57)) w26))))
def m_swings_b57 (w19 : Nat × ZT) (w26 : ZT) (w57 : Nat) : ((Int32 × ZT) ⊕ (Bool × (Nat × ZT))) ⊕ (Bool × (Nat)) := (if w19.1 ≤ w57 then (.inr (false, w57)) else m_swings_e68 w19 w26 w57 (itR (m_swings_b68 w26 w57) 0 8 (1 : Int32)))
def m_swings_c143 (w19 : Nat × ZT) (wc143 : ZT) : (Int32 × ZT) ⊕ (Bool × (Nat × ZT)) := (.inr (true, ((w19.1 + 1), wc143)))
def m_swings_e57 (w19 : Nat × ZT) (w26 : ZT) (w57 : Nat) : (Int32 × ZT) ⊕ (Bool × (Nat × ZT)) := m_swings_c143 w19 (m_week 34 (-9 : Int32) (0 : Int32) w26)
def m_swings_e26 (w19 : Nat × ZT) (w26 : ZT) : (Int32 × ZT) ⊕ (Bool × (Nat × ZT)) := wrR (m_swings_b57 w19 w26) (m_swings_e57 w19 w26) (w19.1 + 1) 0
def m_swings_b19 (p1 : Int32) (w19 : Nat × ZT) : (Int32 × ZT) ⊕ (Bool × (Nat × ZT)) := (if (ix p1) < w19.1 then (.inr (false, (w19.1, w19.2))) else m_swings_e26 w19 (itR (m_swings_b26 w19) 0 8 w19.2))
def m_swings_e19 (w19 : Nat × ZT) : Int32 × ZT := ((-9 : Int32), w19.2)
def m_swings_c14 (p1 : Int32) (wc14 : ZT) : Int32 × ZT := wrR (m_swings_b19 p1) m_swings_e19 ((ix p1) + 2) (0, wc14)
def m_swings (p1 : Int32) (Z : ZT) : Int32 × ZT := (if (m_in p1 (1 : Int32) (300 : Int32)) = 0 then ((-1 : Int32), Z) else m_swings_c14 p1 (m_beginTrial Z))
set_option maxHeartbeats 4000000 in
set_option maxRecDepth 100000 in
theorem met_m_swings (l : Launch) (D : va_G) (cs : Nat → ClassId) (m : Nat) (ar : Nat → Nat) (Z : ZT) (sz : Nat) (p1 : Int32) (hM : MI Z) : Met l yX1_swings (ws_ yX1_swings cX1_swings 6 (some .int)) ({ frames := 4, cells := 0, slots := 0, locals := 98 }) (va_Pc [.ref m, .int p1] (wSt D cs (MW m ar cs Z) sz)) (cQi (fun (v : Int32) (u : ZT) => m_swings p1 Z = (v, u)) D (fun u => MW m ar cs u) (MW m ar cs Z) sz) 0 0 (va_A (MW m ar cs Z) sz) := by
  refine gStart_i (C := RX1) rfl rfl (Nat.le_of_ble_eq_true rfl) ?_
  intro p e s mid args below meth c R Q A hx hb hml hown hts hK hA hRf hRl hRc hRs hret hE ls hl
  have hRf : 4 ≤ R.frames := hRf
  have hRl : 98 ≤ R.locals := hRl
  have hl : lv_has ls 6 [(0, .ref m), (1, .int p1)] := hl
  have hR : m_swings p1 Z = (if (m_in p1 (1 : Int32) (300 : Int32)) = 0 then ((-1 : Int32), Z) else m_swings_c14 p1 (m_beginTrial Z)) := rfl
  refine lv_iload_n hx hb dX1_swings_0 rfl (lv_at hl 1 rfl) ?_
  refine lv_iconst (v := 1) hx hb dX1_swings_1 rfl ?_
  refine lv_sipush (v := 300) hx hb dX1_swings_2 rfl ?_
  refine call_m_in hx hb hml hown hts hK hA hE hl.1 p1 (1 : Int32) (300 : Int32) (lz (show 1 ≤ 4 by decide) hRf) (lz (show 22 ≤ 98 by decide) hRl) (Nat.le_of_ble_eq_true rfl) dX1_swings_5 (fun H locs hE => ?_)
  refine lv_if_ne (tgt := 13) hx hb dX1_swings_8 (by decide) (fun c8 => ?_) (fun c8 => ?_)
  · have hR : m_swings p1 Z = (m_swings_c14 p1 (m_beginTrial Z)) := hR.trans (congrArg (fun z => z) (if_neg c8))
    have hnp1 := vp_ix (x := p1) (N := 301) (vp_of_in c8 (by decide) (by decide)) (by decide)
    have hbnp1 := hnp1.2
    refine lv_aload_n hx hb dX1_swings_13 rfl (lv_at hl 0 rfl) ?_
    refine call_m_beginTrial hx hb hml hown hts hK hA hE hl.1 (lz (show 1 ≤ 4 by decide) hRf) (lz (show 21 ≤ 98 by decide) hRl) (Nat.le_of_ble_eq_true rfl) dX1_swings_14 (fun H locs hE => ?_)
    have hNc14 : ∀ (wc14 : ZT) (hewc14 : wc14 = m_beginTrial Z) (hR : m_swings p1 Z = m_swings_c14 p1 wc14), ∀ (H : Heap) (locs : List Loc) (ls : Array Slot), EW D A s.heap (MW m ar cs wc14) H locs → lv_has ls 6 [(0, .ref m), (1, .int p1)] → W p l e R s mid args below meth c H locs 0 0 Q (F0 mid 17 ls []) := by
      intro wc14 hewc14 hR H locs ls hE hl
      have hR : m_swings p1 Z = (wrR (m_swings_b19 p1) m_swings_e19 ((ix p1) + 2) (0, wc14)) := hR
      refine lv_iconst (v := 0) hx hb dX1_swings_17 rfl ?_
      refine lv_istore_n (lv' := [(2, .int (0 : Int32)), (0, .ref m), (1, .int p1)]) hx hb dX1_swings_18 rfl hl (by decide) rfl (fun ls hl => ?_)
      have hX19 : ∀ (w19 : Nat × ZT) (hb19 : w19.1 ≤ (ix p1) + 1) (hM19 : MI w19.2) (hR : m_swings p1 Z = m_swings_e19 w19), ∀ (H : Heap) (locs : List Loc) (ls : Array Slot), EW D A s.heap (MW m ar cs w19.2) H locs → lv_has ls 6 [] → W p l e R s mid args below meth c H locs 0 0 Q (F0 mid 152 ls []) := by
        intro w19 hb19 hM19 hR H locs ls hE hl
        have hR : m_swings p1 Z = ((-9 : Int32), w19.2) := hR
        refine lv_bipush (v := -9) hx hb dX1_swings_152 rfl ?_
        exact hret (-9 : Int32) w19.2 hR rfl hE (Nat.le_refl 0) (Nat.le_refl 0) dX1_swings_154
      have hL19 : ∀ (n : Nat) (w19 : Nat × ZT) (hm19 : (ix p1) + 1 - w19.1 < n) (hb19 : w19.1 ≤ (ix p1) + 1) (hM19 : MI w19.2) (hR : m_swings p1 Z = wrR (m_swings_b19 p1) m_swings_e19 n w19), ∀ (H : Heap) (locs : List Loc) (ls : Array Slot), EW D A s.heap (MW m ar cs w19.2) H locs → lv_has ls 6 [(0, .ref m), (1, .int p1), (2, .int (nI w19.1))] → W p l e R s mid args below meth c H locs 0 0 Q (F0 mid 19 ls []) := by
        intro n
        induction n with
        | zero =>
          intro w19 hm19
          exact absurd hm19 (Nat.not_lt_zero _)
        | succ n ih19 =>
          intro w19 hm19 hb19 hM19 hR H locs ls hE hl
          have hB19 : m_swings_b19 p1 w19 = (if (ix p1) < w19.1 then (.inr (false, (w19.1, w19.2))) else m_swings_e26 w19 (itR (m_swings_b26 w19) 0 8 w19.2)) := rfl
          refine lv_iload_n hx hb dX1_swings_19 rfl (lv_at hl 2 rfl) ?_
          refine lv_iload_n hx hb dX1_swings_20 rfl (lv_at hl 1 rfl) ?_
          refine top_nat hnp1.1 ?_
          refine n_icmp_gt (a := w19.1) (b := (ix p1)) (tgt := 152) (by omega) (by omega) hx hb dX1_swings_21 (by decide) (fun c21 => ?_) (fun c21 => ?_)
          · have hB19 : m_swings_b19 p1 w19 = (.inr (false, (w19.1, w19.2))) := hB19.trans (congrArg (fun z => z) (if_pos c21))
            exact hX19 (w19.1, w19.2) (by exact hb19) (by exact hM19) (hR.trans (congrArg (fun z => z) (wr_f hB19))) _ _ _ hE (lv_sub hl [] rfl)
          · have hB19 : m_swings_b19 p1 w19 = (m_swings_e26 w19 (itR (m_swings_b26 w19) 0 8 w19.2)) := hB19.trans (congrArg (fun z => z) (if_neg c21))
            refine lv_iconst (v := 0) hx hb dX1_swings_24 rfl ?_
            refine lv_istore_n (lv' := [(3, .int (0 : Int32)), (0, .ref m), (1, .int p1), (2, .int (nI w19.1))]) hx hb dX1_swings_25 rfl hl (by decide) rfl (fun ls hl => ?_)
            have hL26 : ∀ (k i26 : Nat) (w26 : ZT) (hi26 : i26 + k = 8) (hM26 : MI w26) (hB19 : m_swings_b19 p1 w19 = m_swings_e26 w19 (itR (m_swings_b26 w19) i26 k w26)), ∀ (H : Heap) (locs : List Loc) (ls : Array Slot), EW D A s.heap (MW m ar cs w26) H locs → lv_has ls 6 [(0, .ref m), (1, .int p1), (2, .int (nI w19.1)), (3, .int (nI i26))] → W p l e R s mid args below meth c H locs 0 0 Q (F0 mid 26 ls []) := by
              intro k
              induction k with
              | zero =>
                intro i26 w26 hi26 hM26 hB19 H locs ls hE hl
                have hie26 : i26 = 8 := by omega
                have hB19 : m_swings_b19 p1 w19 = (wrR (m_swings_b57 w19 w26) (m_swings_e57 w19 w26) (w19.1 + 1) 0) := hB19
                refine lv_iload_n hx hb dX1_swings_26 rfl (lv_at hl 3 rfl) ?_
                refine lv_bipush (v := 8) hx hb dX1_swings_27 rfl ?_
                refine n_geT (a := i26) (b := 8) (by omega) (by omega) hx hb dX1_swings_29 (tgt := 55) (by decide) ?_
                have hl := lv_sub (l' := [(0, .ref m), (1, .int p1), (2, .int (nI w19.1))]) hl [0, 1, 2] rfl
                refine lv_iconst (v := 0) hx hb dX1_swings_55 rfl ?_
                refine lv_istore_n (lv' := [(3, .int (0 : Int32)), (0, .ref m), (1, .int p1), (2, .int (nI w19.1))]) hx hb dX1_swings_56 rfl hl (by decide) rfl (fun ls hl => ?_)
                have hX57 : ∀ (w57 : Nat) (hb57 : w57 ≤ w19.1) (hB19 : m_swings_b19 p1 w19 = m_swings_e57 w19 w26 w57), ∀ (H : Heap) (locs : List Loc) (ls : Array Slot), EW D A s.heap (MW m ar cs w26) H locs → lv_has ls 6 [(0, .ref m), (1, .int p1), (2, .int (nI w19.1))] → W p l e R s mid args below meth c H locs 0 0 Q (F0 mid 135 ls []) := by
                  intro w57 hb57 hB19 H locs ls hE hl
                  have hB19 : m_swings_b19 p1 w19 = (m_swings_c143 w19 (m_week 34 (-9 : Int32) (0 : Int32) w26)) := hB19
                  refine lv_aload_n hx hb dX1_swings_135 rfl (lv_at hl 0 rfl) ?_
                  refine lv_aload_n hx hb dX1_swings_136 rfl (lv_at hl 0 rfl) ?_
                  refine mg_34 hx hb hts hown hK hE dX1_swings_137 ?_
                  refine lv_bipush (v := -9) hx hb dX1_swings_140 rfl ?_
                  refine lv_iconst (v := 0) hx hb dX1_swings_142 rfl ?_
                  refine call_m_week_34 hx hb hml hown hts hK hA hE hl.1 (-9 : Int32) (0 : Int32) (by exact hM26) (lz (show 4 ≤ 4 by decide) hRf) (lz (show 98 ≤ 98 by decide) hRl) (Nat.le_of_ble_eq_true rfl) dX1_swings_143 (fun H locs hE => ?_)
                  have hNc143 : ∀ (wc143 : ZT) (hewc143 : wc143 = m_week 34 (-9 : Int32) (0 : Int32) w26) (hB19 : m_swings_b19 p1 w19 = m_swings_c143 w19 wc143), ∀ (H : Heap) (locs : List Loc) (ls : Array Slot), EW D A s.heap (MW m ar cs wc143) H locs → lv_has ls 6 [(0, .ref m), (1, .int p1), (2, .int (nI w19.1))] → W p l e R s mid args below meth c H locs 0 0 Q (F0 mid 146 ls []) := by
                    intro wc143 hewc143 hB19 H locs ls hE hl
                    have hB19 : m_swings_b19 p1 w19 = (.inr (true, ((w19.1 + 1), wc143))) := hB19
                    refine n_inc (lv' := [(2, .int (nI (w19.1 + 1))), (0, .ref m), (1, .int p1)]) hx hb dX1_swings_146 hl (k := 2) rfl (by decide) rfl (fun ls hl => ?_)
                    refine lv_goto (tgt := 19) hx hb dX1_swings_149 (by decide) ?_
                    exact ih19 ((w19.1 + 1), wc143) (by show (ix p1) + 1 - (w19.1 + 1) < n; omega) (by show w19.1 + 1 ≤ (ix p1) + 1; omega) (by have h := week_MI (o := -9) (a := 0) (Or.inr rfl) hM26 (by decide); rw [← hewc143] at h; exact h) (hR.trans (congrArg (fun z => z) (wr_t hB19))) _ _ _ hE (lv_sub hl [1, 2, 0] rfl)
                  exact hNc143 (m_week 34 (-9 : Int32) (0 : Int32) w26) rfl hB19 _ _ _ hE (lv_sub hl [0, 1, 2] rfl)
                have hL57 : ∀ (n : Nat) (w57 : Nat) (hm57 : w19.1 - w57 < n) (hb57 : w57 ≤ w19.1) (hB19 : m_swings_b19 p1 w19 = wrR (m_swings_b57 w19 w26) (m_swings_e57 w19 w26) n w57), ∀ (H : Heap) (locs : List Loc) (ls : Array Slot), EW D A s.heap (MW m ar cs w26) H locs → lv_has ls 6 [(0, .ref m), (1, .int p1), (2, .int (nI w19.1)), (3, .int (nI w57))] → W p l e R s mid args below meth c H locs 0 0 Q (F0 mid 57 ls []) := by
                  intro n
                  induction n with
                  | zero =>
                    intro w57 hm57
                    exact absurd hm57 (Nat.not_lt_zero _)
                  | succ n ih57 =>
                    intro w57 hm57 hb57 hB19 H locs ls hE hl
                    have hB57 : m_swings_b57 w19 w26 w57 = (if w19.1 ≤ w57 then (.inr (false, w57)) else m_swings_e68 w19 w26 w57 (itR (m_swings_b68 w26 w57) 0 8 (1 : Int32))) := rfl
                    refine lv_iload_n hx hb dX1_swings_57 rfl (lv_at hl 3 rfl) ?_
                    refine lv_iload_n hx hb dX1_swings_58 rfl (lv_at hl 2 rfl) ?_
                    refine n_icmp_ge (a := w57) (b := w19.1) (tgt := 135) (by omega) (by omega) hx hb dX1_swings_59 (by decide) (fun c59 => ?_) (fun c59 => ?_)
                    · have hB57 : m_swings_b57 w19 w26 w57 = (.inr (false, w57)) := hB57.trans (congrArg (fun z => z) (if_pos c59))
                      exact hX57 w57 (by omega) (hB19.trans (congrArg (fun z => z) (wr_f hB57))) _ _ _ hE (lv_sub hl [0, 1, 2] rfl)
                    · have hB57 : m_swings_b57 w19 w26 w57 = (m_swings_e68 w19 w26 w57 (itR (m_swings_b68 w26 w57) 0 8 (1 : Int32))) := hB57.trans (congrArg (fun z => z) (if_neg c59))
                      refine lv_iconst (v := 1) hx hb dX1_swings_62 rfl ?_
                      refine lv_istore (lv' := [(4, .int (1 : Int32)), (0, .ref m), (1, .int p1), (2, .int (nI w19.1)), (3, .int (nI w57))]) hx hb dX1_swings_63 hl (by decide) rfl (fun ls hl => ?_)
                      refine lv_iconst (v := 0) hx hb dX1_swings_65 rfl ?_
                      refine lv_istore (lv' := [(5, .int (0 : Int32)), (4, .int (1 : Int32)), (0, .ref m), (1, .int p1), (2, .int (nI w19.1)), (3, .int (nI w57))]) hx hb dX1_swings_66 hl (by decide) rfl (fun ls hl => ?_)
                      have hL68 : ∀ (k i68 : Nat) (w68 : Int32) (hi68 : i68 + k = 8) (hB57 : m_swings_b57 w19 w26 w57 = m_swings_e68 w19 w26 w57 (itR (m_swings_b68 w26 w57) i68 k w68)), ∀ (H : Heap) (locs : List Loc) (ls : Array Slot), EW D A s.heap (MW m ar cs w26) H locs → lv_has ls 6 [(0, .ref m), (1, .int p1), (2, .int (nI w19.1)), (3, .int (nI w57)), (4, .int w68), (5, .int (nI i68))] → W p l e R s mid args below meth c H locs 0 0 Q (F0 mid 68 ls []) := by
                        intro k
                        induction k with
                        | zero =>
                          intro i68 w68 hi68 hB57 H locs ls hE hl
                          have hie68 : i68 = 8 := by omega
                          have hB57 : m_swings_b57 w19 w26 w57 = (if w68 = 0 then (.inr (true, (w57 + 1))) else (.inl (.inl (m_tells (nI w57) ((nI w19.1) - (nI w57)) w26)))) := hB57
                          refine lv_iload hx hb dX1_swings_68 (lv_at hl 5 rfl) ?_
                          refine lv_bipush (v := 8) hx hb dX1_swings_70 rfl ?_
                          refine n_geT (a := i68) (b := 8) (by omega) (by omega) hx hb dX1_swings_72 (tgt := 115) (by decide) ?_
                          have hl := lv_sub (l' := [(0, .ref m), (1, .int p1), (2, .int (nI w19.1)), (3, .int (nI w57)), (4, .int w68)]) hl [0, 1, 2, 3, 4] rfl
                          refine lv_iload hx hb dX1_swings_115 (lv_at hl 4 rfl) ?_
                          refine lv_if_eq (tgt := 129) hx hb dX1_swings_117 (by decide) (fun c117 => ?_) (fun c117 => ?_)
                          · have hB57 : m_swings_b57 w19 w26 w57 = (.inr (true, (w57 + 1))) := hB57.trans (congrArg (fun z => z) (if_pos c117))
                            refine n_inc (lv' := [(3, .int (nI (w57 + 1))), (0, .ref m), (1, .int p1), (2, .int (nI w19.1)), (4, .int w68)]) hx hb dX1_swings_129 hl (k := 3) rfl (by decide) rfl (fun ls hl => ?_)
                            refine lv_goto (tgt := 57) hx hb dX1_swings_132 (by decide) ?_
                            exact ih57 (w57 + 1) (by omega) (by omega) (hB19.trans (congrArg (fun z => z) (wr_t hB57))) _ _ _ hE (lv_sub hl [1, 2, 3, 0] rfl)
                          · have hB57 : m_swings_b57 w19 w26 w57 = (.inl (.inl (m_tells (nI w57) ((nI w19.1) - (nI w57)) w26))) := hB57.trans (congrArg (fun z => z) (if_neg c117))
                            refine lv_aload_n hx hb dX1_swings_120 rfl (lv_at hl 0 rfl) ?_
                            refine lv_iload_n hx hb dX1_swings_121 rfl (lv_at hl 3 rfl) ?_
                            refine lv_iload_n hx hb dX1_swings_122 rfl (lv_at hl 2 rfl) ?_
                            refine lv_iload_n hx hb dX1_swings_123 rfl (lv_at hl 3 rfl) ?_
                            refine lv_isub hx hb dX1_swings_124 ?_
                            refine call_m_tells hx hb hml hown hts hK hA hE hl.1 (nI w57) ((nI w19.1) - (nI w57)) (lz (show 1 ≤ 4 by decide) hRf) (lz (show 22 ≤ 98 by decide) hRl) (Nat.le_of_ble_eq_true rfl) dX1_swings_125 (fun H locs hE => ?_)
                            have hB19 : m_swings_b19 p1 w19 = (.inl (m_tells (nI w57) ((nI w19.1) - (nI w57)) w26)) := hB19.trans (congrArg (fun z => z) (wr_r hB57))
                            have hR : m_swings p1 Z = (m_tells (nI w57) ((nI w19.1) - (nI w57)) w26) := hR.trans (congrArg (fun z => z) (wr_r hB19))
                            exact hret ((m_tells (nI w57) ((nI w19.1) - (nI w57)) w26).1) ((m_tells (nI w57) ((nI w19.1) - (nI w57)) w26).2) hR rfl hE (Nat.le_refl 0) (Nat.le_refl 0) dX1_swings_128
                        | succ k ih68 =>
                          intro i68 w68 hi68 hB57 H locs ls hE hl
                          have hlt68 : i68 < 8 := by omega
                          have hB68 : m_swings_b68 w26 w57 i68 w68 = m_swings_j107 (if w68 = 0 then (0 : Int32) else (if w26.1 35 ((8 * w57) + i68) = w26.1 34 i68 then (1 : Int32) else (0 : Int32))) := rfl
                          refine lv_iload hx hb dX1_swings_68 (lv_at hl 5 rfl) ?_
                          refine lv_bipush (v := 8) hx hb dX1_swings_70 rfl ?_
                          refine n_geF (a := i68) (b := 8) (by omega) (by omega) hx hb dX1_swings_72 (tgt := 115) (by decide) ?_
                          refine lv_iload hx hb dX1_swings_75 (lv_at hl 4 rfl) ?_
                          have hJ107 : ∀ (w107 : Int32) (hB68 : m_swings_b68 w26 w57 i68 w68 = m_swings_j107 w107), ∀ (H : Heap) (locs : List Loc) (ls : Array Slot), EW D A s.heap (MW m ar cs w26) H locs → lv_has ls 6 [(0, .ref m), (1, .int p1), (2, .int (nI w19.1)), (3, .int (nI w57)), (5, .int (nI i68))] → W p l e R s mid args below meth c H locs 0 0 Q (F0 mid 107 ls [.int w107]) := by
                            intro w107 hB68 H locs ls hE hl
                            have hB68 : m_swings_b68 w26 w57 i68 w68 = w107 := hB68
                            refine lv_istore (lv' := [(4, .int w107), (0, .ref m), (1, .int p1), (2, .int (nI w19.1)), (3, .int (nI w57)), (5, .int (nI i68))]) hx hb dX1_swings_107 hl (by decide) rfl (fun ls hl => ?_)
                            refine n_inc (lv' := [(5, .int (nI (i68 + 1))), (4, .int w107), (0, .ref m), (1, .int p1), (2, .int (nI w19.1)), (3, .int (nI w57))]) hx hb dX1_swings_109 hl (k := 5) rfl (by decide) rfl (fun ls hl => ?_)
                            refine lv_goto (tgt := 68) hx hb dX1_swings_112 (by decide) ?_
                            exact ih68 (i68 + 1) w107 (by omega) (hB57.trans (congrArg (fun z => m_swings_e68 w19 w26 w57 (itR (m_swings_b68 w26 w57) (i68 + 1) k z)) hB68)) _ _ _ hE (lv_sub hl [2, 3, 4, 5, 1, 0] rfl)
                          refine lv_if_eq (tgt := 106) hx hb dX1_swings_77 (by decide) (fun c77 => ?_) (fun c77 => ?_)
                          · have hB68 : m_swings_b68 w26 w57 i68 w68 = m_swings_j107 (0 : Int32) := hB68.trans (congrArg (fun z => m_swings_j107 z) (if_pos c77))
                            refine lv_iconst (v := 0) hx hb dX1_swings_106 rfl ?_
                            exact hJ107 (0 : Int32)  hB68 _ _ _ hE (lv_sub hl [0, 1, 2, 3, 5] rfl)
                          · have hB68 : m_swings_b68 w26 w57 i68 w68 = m_swings_j107 (if w26.1 35 ((8 * w57) + i68) = w26.1 34 i68 then (1 : Int32) else (0 : Int32)) := hB68.trans (congrArg (fun z => m_swings_j107 z) (if_neg c77))
                            refine lv_aload_n hx hb dX1_swings_80 rfl (lv_at hl 0 rfl) ?_
                            refine mg_35 hx hb hts hown hK hE dX1_swings_81 ?_
                            refine lv_bipush (v := 8) hx hb dX1_swings_84 rfl ?_
                            refine lv_iload_n hx hb dX1_swings_86 rfl (lv_at hl 3 rfl) ?_
                            refine n_mul (a := 8) (b := w57) hx hb dX1_swings_87 ?_
                            refine lv_iload hx hb dX1_swings_88 (lv_at hl 5 rfl) ?_
                            refine n_add (a := (8 * w57)) (b := i68) hx hb dX1_swings_90 ?_
                            refine ma_35 (n := ((8 * w57) + i68)) (by omega) hx hb hK hE dX1_swings_91 ?_
                            refine lv_aload_n hx hb dX1_swings_92 rfl (lv_at hl 0 rfl) ?_
                            refine mg_34 hx hb hts hown hK hE dX1_swings_93 ?_
                            refine lv_iload hx hb dX1_swings_96 (lv_at hl 5 rfl) ?_
                            refine ma_34 (n := i68) (by omega) hx hb hK hE dX1_swings_98 ?_
                            refine lv_icmp_ne (tgt := 106) hx hb dX1_swings_99 (by decide) (fun c99 => ?_) (fun c99 => ?_)
                            · have hB68 : m_swings_b68 w26 w57 i68 w68 = m_swings_j107 (0 : Int32) := hB68.trans (congrArg (fun z => m_swings_j107 z) (if_neg c99))
                              refine lv_iconst (v := 0) hx hb dX1_swings_106 rfl ?_
                              exact hJ107 (0 : Int32)  hB68 _ _ _ hE (lv_sub hl [0, 1, 2, 3, 5] rfl)
                            · have hB68 : m_swings_b68 w26 w57 i68 w68 = m_swings_j107 (1 : Int32) := hB68.trans (congrArg (fun z => m_swings_j107 z) (if_pos c99))
                              refine lv_iconst (v := 1) hx hb dX1_swings_102 rfl ?_
                              refine lv_goto (tgt := 107) hx hb dX1_swings_103 (by decide) ?_
                              exact hJ107 (1 : Int32)  hB68 _ _ _ hE (lv_sub hl [0, 1, 2, 3, 5] rfl)
                      exact hL68 8 0 (1 : Int32) (by omega) hB57 _ _ _ hE (lv_sub hl [2, 3, 4, 5, 1, 0] rfl)
                exact hL57 (w19.1 + 1) 0 (by omega) (by omega) hB19 _ _ _ hE (lv_sub hl [1, 2, 3, 0] rfl)
              | succ k ih26 =>
                intro i26 w26 hi26 hM26 hB19 H locs ls hE hl
                have hlt26 : i26 < 8 := by omega
                have hB26 : m_swings_b26 w19 i26 w26 = sI w26 35 ((8 * w19.1) + i26) (w26.1 34 i26) := rfl
                refine lv_iload_n hx hb dX1_swings_26 rfl (lv_at hl 3 rfl) ?_
                refine lv_bipush (v := 8) hx hb dX1_swings_27 rfl ?_
                refine n_geF (a := i26) (b := 8) (by omega) (by omega) hx hb dX1_swings_29 (tgt := 55) (by decide) ?_
                refine lv_aload_n hx hb dX1_swings_32 rfl (lv_at hl 0 rfl) ?_
                refine mg_35 hx hb hts hown hK hE dX1_swings_33 ?_
                refine lv_bipush (v := 8) hx hb dX1_swings_36 rfl ?_
                refine lv_iload_n hx hb dX1_swings_38 rfl (lv_at hl 2 rfl) ?_
                refine n_mul (a := 8) (b := w19.1) hx hb dX1_swings_39 ?_
                refine lv_iload_n hx hb dX1_swings_40 rfl (lv_at hl 3 rfl) ?_
                refine n_add (a := (8 * w19.1)) (b := i26) hx hb dX1_swings_41 ?_
                refine lv_aload_n hx hb dX1_swings_42 rfl (lv_at hl 0 rfl) ?_
                refine mg_34 hx hb hts hown hK hE dX1_swings_43 ?_
                refine lv_iload_n hx hb dX1_swings_46 rfl (lv_at hl 3 rfl) ?_
                refine ma_34 (n := i26) (by omega) hx hb hK hE dX1_swings_47 ?_
                refine ms_35 (n := ((8 * w19.1) + i26)) (by omega) hx hb hK hE dX1_swings_48 (fun H locs hE => ?_)
                refine n_inc (lv' := [(3, .int (nI (i26 + 1))), (0, .ref m), (1, .int p1), (2, .int (nI w19.1))]) hx hb dX1_swings_49 hl (k := 3) rfl (by decide) rfl (fun ls hl => ?_)
                refine lv_goto (tgt := 26) hx hb dX1_swings_52 (by decide) ?_
                exact ih26 (i26 + 1) (sI w26 35 ((8 * w19.1) + i26) (w26.1 34 i26)) (by omega) (by exact hM26) (hB19.trans (congrArg (fun z => m_swings_e26 w19 (itR (m_swings_b26 w19) (i26 + 1) k z)) hB26)) _ _ _ hE (lv_sub hl [1, 2, 3, 0] rfl)
            exact hL26 8 0 w19.2 (by omega) (by exact hM19) hB19 _ _ _ hE (lv_sub hl [1, 2, 3, 0] rfl)
      exact hL19 ((ix p1) + 2) (0, wc14) (by show (ix p1) + 1 - 0 < (ix p1) + 2; omega) (by exact Nat.zero_le _) (by have h := beginTrial_MI hM; rw [← hewc14] at h; exact h) hR _ _ _ hE (lv_sub hl [1, 2, 0] rfl)
    exact hNc14 (m_beginTrial Z) rfl hR _ _ _ hE (lv_sub hl [0, 1] rfl)
  · have hR : m_swings p1 Z = ((-1 : Int32), Z) := hR.trans (congrArg (fun z => z) (if_pos c8))
    refine lv_iconst (v := -1) hx hb dX1_swings_11 rfl ?_
    exact hret (-1 : Int32) Z hR rfl hE (Nat.le_refl 0) (Nat.le_refl 0) dX1_swings_12
def m_bestTake_j132 (p1 : Int32) (w84 : Int64 × Int32 × ZT) (wc100 : ZT) (w132 : Int32) : Int64 × Int32 × ZT := ((w84.1 + ((wc100.1 32 (ix p1)).toInt64)), w132, wc100)
def m_bestTake_c100 (p1 : Int32) (w84 : Int64 × Int32 × ZT) (wc100 : ZT) : Int64 × Int32 × ZT := m_bestTake_j132 p1 w84 wc100 (if w84.2.1 = 0 then (0 : Int32) else (if wc100.1 33 0 = 0 then (1 : Int32) else (0 : Int32)))
def m_bestTake_b84 (p1 : Int32) (p2 : Int32) (w51 : Int32 × Int64 × Nat × ZT) (i84 : Nat) (w84 : Int64 × Int32 × ZT) : Int64 × Int32 × ZT := m_bestTake_c100 p1 w84 (m_week 34 (nI (ix p1)) ((nI w51.2.2.1) * p2) w84.2.2)
def m_bestTake_j170 (w51 : Int32 × Int64 × Nat × ZT) (w84 : Int64 × Int32 × ZT) (w170 : Int32 × Int64) : Bool × (Int32 × Int64 × Nat × ZT) := (true, (w170.1, w170.2, (w51.2.2.1 + 1), w84.2.2))
def m_bestTake_k160 (p2 : Int32) (w51 : Int32 × Int64 × Nat × ZT) (w84 : Int64 × Int32 × ZT) : Int32 × Int64 := (((nI w51.2.2.1) * p2), w84.1)
def m_bestTake_e84 (p2 : Int32) (w51 : Int32 × Int64 × Nat × ZT) (w84 : Int64 × Int32 × ZT) : Bool × (Int32 × Int64 × Nat × ZT) := m_bestTake_j170 w51 w84 (if w84.2.1 = 0 then (w51.1, w51.2.1) else (if w51.1 = (-9 : Int32) then m_bestTake_k160 p2 w51 w84 else (if w84.1 ≤ w51.2.1 then (w51.1, w51.2.1) else m_bestTake_k160 p2 w51 w84)))
def m_bestTake_c72 (p1 : Int32) (p2 : Int32) (p3 : Int32) (w51 : Int32 × Int64 × Nat × ZT) (wc72 : ZT) : Bool × (Int32 × Int64 × Nat × ZT) := m_bestTake_e84 p2 w51 (itR (m_bestTake_b84 p1 p2 w51) 0 (ix p3) ((0 : Int64), (1 : Int32), wc72))
def m_bestTake_b51 (p1 : Int32) (p2 : Int32) (p3 : Int32) (w51 : Int32 × Int64 × Nat × ZT) : Bool × (Int32 × Int64 × Nat × ZT) := (if 20 ≤ w51.2.2.1 then (false, (w51.1, w51.2.1, w51.2.2.1, w51.2.2.2)) else (if (100000 : Int64) < (((nI w51.2.2.1).toInt64) * p2.toInt64) then (false, (w51.1, w51.2.1, w51.2.2.1, w51.2.2.2)) else m_bestTake_c72 p1 p2 p3 w51 (m_beginTrial w51.2.2.2)))
def m_bestTake_j193 (w51 : Int32 × Int64 × Nat × ZT) (w193 : Int64) : Int32 × ZT := (w51.1, sL w51.2.2.2 36 0 w193)
def m_bestTake_e51 (w51 : Int32 × Int64 × Nat × ZT) : Int32 × ZT := m_bestTake_j193 w51 (if w51.1 = (-9 : Int32) then w51.2.2.2.2 36 0 else w51.2.1)
def m_bestTake_c28 (p1 : Int32) (p2 : Int32) (p3 : Int32) (wc28 : Int32 × ZT) : Int32 × ZT := (if 0 ≤ wc28.1 then m_bestTake_e51 (wlR (m_bestTake_b51 p1 p2 p3) 21 ((-9 : Int32), (0 : Int64), 0, wc28.2)) else (wc28.1, wc28.2))
def m_bestTake_j27 (p1 : Int32) (p2 : Int32) (p3 : Int32) (Z : ZT) (w27 : Int32) : Int32 × ZT := m_bestTake_c28 p1 p2 p3 (m_need w27 p1 Z)
def m_bestTake (p1 : Int32) (p2 : Int32) (p3 : Int32) (Z : ZT) : Int32 × ZT := m_bestTake_j27 p1 p2 p3 Z (if (m_in p2 (1 : Int32) (100000 : Int32)) = 0 then (0 : Int32) else (if (m_in p3 (0 : Int32) (200 : Int32)) = 0 then (0 : Int32) else (1 : Int32)))
set_option maxHeartbeats 4000000 in
set_option maxRecDepth 100000 in
theorem met_m_bestTake (l : Launch) (D : va_G) (cs : Nat → ClassId) (m : Nat) (ar : Nat → Nat) (Z : ZT) (sz : Nat) (p1 : Int32) (p2 : Int32) (p3 : Int32) (hM : MI Z) : Met l yX1_bestTake (ws_ yX1_bestTake cX1_bestTake 13 (some .int)) ({ frames := 4, cells := 0, slots := 0, locals := 98 }) (va_Pc [.ref m, .int p1, .int p2, .int p3] (wSt D cs (MW m ar cs Z) sz)) (cQi (fun (v : Int32) (u : ZT) => m_bestTake p1 p2 p3 Z = (v, u)) D (fun u => MW m ar cs u) (MW m ar cs Z) sz) 0 0 (va_A (MW m ar cs Z) sz) := by
  refine gStart_i (C := RX1) rfl rfl (Nat.le_of_ble_eq_true rfl) ?_
  intro p e s mid args below meth c R Q A hx hb hml hown hts hK hA hRf hRl hRc hRs hret hE ls hl
  have hRf : 4 ≤ R.frames := hRf
  have hRl : 98 ≤ R.locals := hRl
  have hl : lv_has ls 13 [(0, .ref m), (1, .int p1), (2, .int p2), (3, .int p3)] := hl
  have hR : m_bestTake p1 p2 p3 Z = (m_bestTake_j27 p1 p2 p3 Z (if (m_in p2 (1 : Int32) (100000 : Int32)) = 0 then (0 : Int32) else (if (m_in p3 (0 : Int32) (200 : Int32)) = 0 then (0 : Int32) else (1 : Int32)))) := rfl
  refine lv_aload_n hx hb dX1_bestTake_0 rfl (lv_at hl 0 rfl) ?_
  refine lv_iload_n hx hb dX1_bestTake_1 rfl (lv_at hl 2 rfl) ?_
  refine lv_iconst (v := 1) hx hb dX1_bestTake_2 rfl ?_
  refine lv_ldc (v := 100000) hx hb hown (hts _ q1151) dX1_bestTake_3 ?_
  refine call_m_in hx hb hml hown hts hK hA hE hl.1 p2 (1 : Int32) (100000 : Int32) (lz (show 1 ≤ 4 by decide) hRf) (lz (show 22 ≤ 98 by decide) hRl) (Nat.le_of_ble_eq_true rfl) dX1_bestTake_5 (fun H locs hE => ?_)
  have hJ27 : ∀ (w27 : Int32) (hw27 : ¬ w27 = 0 → ¬ m_in p2 1 100000 = 0 ∧ ¬ m_in p3 0 200 = 0) (hR : m_bestTake p1 p2 p3 Z = m_bestTake_j27 p1 p2 p3 Z w27), ∀ (H : Heap) (locs : List Loc) (ls : Array Slot), EW D A s.heap (MW m ar cs Z) H locs → lv_has ls 13 [(0, .ref m), (1, .int p1), (2, .int p2), (3, .int p3)] → W p l e R s mid args below meth c H locs 0 0 Q (F0 mid 27 ls [.int w27, .ref m]) := by
    intro w27 hw27 hR H locs ls hE hl
    have hR : m_bestTake p1 p2 p3 Z = (m_bestTake_c28 p1 p2 p3 (m_need w27 p1 Z)) := hR
    refine lv_iload_n hx hb dX1_bestTake_27 rfl (lv_at hl 1 rfl) ?_
    refine call_m_need hx hb hml hown hts hK hA hE hl.1 w27 p1 (lz (show 3 ≤ 4 by decide) hRf) (lz (show 64 ≤ 98 by decide) hRl) (Nat.le_of_ble_eq_true rfl) dX1_bestTake_28 (fun H locs hE => ?_)
    have hNc28 : ∀ (wc28 : Int32 × ZT) (hewc28 : wc28 = m_need w27 p1 Z) (hR : m_bestTake p1 p2 p3 Z = m_bestTake_c28 p1 p2 p3 wc28), ∀ (H : Heap) (locs : List Loc) (ls : Array Slot), EW D A s.heap (MW m ar cs wc28.2) H locs → lv_has ls 13 [(0, .ref m), (1, .int p1), (2, .int p2), (3, .int p3)] → W p l e R s mid args below meth c H locs 0 0 Q (F0 mid 31 ls [.int wc28.1]) := by
      intro wc28 hewc28 hR H locs ls hE hl
      have hR : m_bestTake p1 p2 p3 Z = (if 0 ≤ wc28.1 then m_bestTake_e51 (wlR (m_bestTake_b51 p1 p2 p3) 21 ((-9 : Int32), (0 : Int64), 0, wc28.2)) else (wc28.1, wc28.2)) := hR
      refine lv_istore (lv' := [(4, .int wc28.1), (0, .ref m), (1, .int p1), (2, .int p2), (3, .int p3)]) hx hb dX1_bestTake_31 hl (by decide) rfl (fun ls hl => ?_)
      refine lv_iload hx hb dX1_bestTake_33 (lv_at hl 0 rfl) ?_
      refine lv_if_ge (tgt := 41) hx hb dX1_bestTake_35 (by decide) (fun c35 => ?_) (fun c35 => ?_)
      · have hR : m_bestTake p1 p2 p3 Z = (m_bestTake_e51 (wlR (m_bestTake_b51 p1 p2 p3) 21 ((-9 : Int32), (0 : Int64), 0, wc28.2))) := hR.trans (congrArg (fun z => z) (if_pos c35))
        have hZ28 : wc28.2 = Z := by rw [hewc28, (need_ok (by rw [← hewc28]; exact c35)).2.2.2]
        have hp2 := m_in_bd (hw27 (need_ok (by rw [← hewc28]; exact c35)).2.1).1
        have hnp1 := vp_ix (x := p1) (N := 8) ((need_ok (by rw [← hewc28]; exact c35)).1) (by decide)
        have hbnp1 := hnp1.2
        have hnp3 := vp_ix (x := p3) (N := 201) (vp_of_in (hw27 (need_ok (by rw [← hewc28]; exact c35)).2.1).2 (by decide) (by decide)) (by decide)
        have hbnp3 := hnp3.2
        refine lv_bipush (v := -9) hx hb dX1_bestTake_41 rfl ?_
        refine lv_istore (lv' := [(5, .int (-9 : Int32)), (4, .int wc28.1), (0, .ref m), (1, .int p1), (2, .int p2), (3, .int p3)]) hx hb dX1_bestTake_43 hl (by decide) rfl (fun ls hl => ?_)
        refine lv_lconst (v := 0) hx hb dX1_bestTake_45 rfl ?_
        refine lv_lstore (lv' := [(6, .long (0 : Int64)), (5, .int (-9 : Int32)), (4, .int wc28.1), (0, .ref m), (1, .int p1), (2, .int p2), (3, .int p3)]) hx hb dX1_bestTake_46 hl (by decide) rfl (fun ls hl => ?_)
        refine lv_iconst (v := 0) hx hb dX1_bestTake_48 rfl ?_
        refine lv_istore (lv' := [(8, .int (0 : Int32)), (6, .long (0 : Int64)), (5, .int (-9 : Int32)), (4, .int wc28.1), (0, .ref m), (1, .int p1), (2, .int p2), (3, .int p3)]) hx hb dX1_bestTake_49 hl (by decide) rfl (fun ls hl => ?_)
        have hX51 : ∀ (w51 : Int32 × Int64 × Nat × ZT) (hb51 : w51.2.2.1 ≤ 20) (hM51 : MI w51.2.2.2) (hR : m_bestTake p1 p2 p3 Z = m_bestTake_e51 w51), ∀ (H : Heap) (locs : List Loc) (ls : Array Slot), EW D A s.heap (MW m ar cs w51.2.2.2) H locs → lv_has ls 13 [(0, .ref m), (5, .int w51.1), (6, .long w51.2.1)] → W p l e R s mid args below meth c H locs 0 0 Q (F0 mid 176 ls []) := by
          intro w51 hb51 hM51 hR H locs ls hE hl
          have hR : m_bestTake p1 p2 p3 Z = (m_bestTake_j193 w51 (if w51.1 = (-9 : Int32) then w51.2.2.2.2 36 0 else w51.2.1)) := hR
          refine lv_aload_n hx hb dX1_bestTake_176 rfl (lv_at hl 0 rfl) ?_
          refine lv_iload hx hb dX1_bestTake_177 (lv_at hl 1 rfl) ?_
          refine lv_bipush (v := -9) hx hb dX1_bestTake_179 rfl ?_
          have hJ193 : ∀ (w193 : Int64) (hR : m_bestTake p1 p2 p3 Z = m_bestTake_j193 w51 w193), ∀ (H : Heap) (locs : List Loc) (ls : Array Slot), EW D A s.heap (MW m ar cs w51.2.2.2) H locs → lv_has ls 13 [(5, .int w51.1)] → W p l e R s mid args below meth c H locs 0 0 Q (F0 mid 193 ls [.long w193, .ref m]) := by
            intro w193 hR H locs ls hE hl
            have hR : m_bestTake p1 p2 p3 Z = (w51.1, sL w51.2.2.2 36 0 w193) := hR
            refine mp_36 hx hb hts hown hK hE dX1_bestTake_193 (fun H locs hE => ?_)
            refine lv_iload hx hb dX1_bestTake_196 (lv_at hl 0 rfl) ?_
            exact hret w51.1 (sL w51.2.2.2 36 0 w193) hR rfl hE (Nat.le_refl 0) (Nat.le_refl 0) dX1_bestTake_198
          refine lv_icmp_ne (tgt := 191) hx hb dX1_bestTake_181 (by decide) (fun c181 => ?_) (fun c181 => ?_)
          · have hR : m_bestTake p1 p2 p3 Z = m_bestTake_j193 w51 w51.2.1 := hR.trans (congrArg (fun z => m_bestTake_j193 w51 z) (if_neg c181))
            refine lv_lload hx hb dX1_bestTake_191 (lv_at hl 2 rfl) ?_
            exact hJ193 w51.2.1  hR _ _ _ hE (lv_sub hl [1] rfl)
          · have hR : m_bestTake p1 p2 p3 Z = m_bestTake_j193 w51 (w51.2.2.2.2 36 0) := hR.trans (congrArg (fun z => m_bestTake_j193 w51 z) (if_pos c181))
            refine lv_aload_n hx hb dX1_bestTake_184 rfl (lv_at hl 0 rfl) ?_
            refine mg_36 hx hb hts hown hK hE dX1_bestTake_185 ?_
            refine lv_goto (tgt := 193) hx hb dX1_bestTake_188 (by decide) ?_
            exact hJ193 (w51.2.2.2.2 36 0)  hR _ _ _ hE (lv_sub hl [1] rfl)
        have hL51 : ∀ (n : Nat) (w51 : Int32 × Int64 × Nat × ZT) (hm51 : 20 - w51.2.2.1 < n) (hb51 : w51.2.2.1 ≤ 20) (hM51 : MI w51.2.2.2) (hR : m_bestTake p1 p2 p3 Z = m_bestTake_e51 (wlR (m_bestTake_b51 p1 p2 p3) n w51)), ∀ (H : Heap) (locs : List Loc) (ls : Array Slot), EW D A s.heap (MW m ar cs w51.2.2.2) H locs → lv_has ls 13 [(0, .ref m), (1, .int p1), (2, .int p2), (3, .int p3), (5, .int w51.1), (6, .long w51.2.1), (8, .int (nI w51.2.2.1))] → W p l e R s mid args below meth c H locs 0 0 Q (F0 mid 51 ls []) := by
          intro n
          induction n with
          | zero =>
            intro w51 hm51
            exact absurd hm51 (Nat.not_lt_zero _)
          | succ n ih51 =>
            intro w51 hm51 hb51 hM51 hR H locs ls hE hl
            have hB51 : m_bestTake_b51 p1 p2 p3 w51 = (if 20 ≤ w51.2.2.1 then (false, (w51.1, w51.2.1, w51.2.2.1, w51.2.2.2)) else (if (100000 : Int64) < (((nI w51.2.2.1).toInt64) * p2.toInt64) then (false, (w51.1, w51.2.1, w51.2.2.1, w51.2.2.2)) else m_bestTake_c72 p1 p2 p3 w51 (m_beginTrial w51.2.2.2))) := rfl
            refine lv_iload hx hb dX1_bestTake_51 (lv_at hl 6 rfl) ?_
            refine lv_bipush (v := 20) hx hb dX1_bestTake_53 rfl ?_
            refine n_icmp_ge (a := w51.2.2.1) (b := 20) (tgt := 176) (by omega) (by omega) hx hb dX1_bestTake_55 (by decide) (fun c55 => ?_) (fun c55 => ?_)
            · have hB51 : m_bestTake_b51 p1 p2 p3 w51 = (false, (w51.1, w51.2.1, w51.2.2.1, w51.2.2.2)) := hB51.trans (congrArg (fun z => z) (if_pos c55))
              exact hX51 (w51.1, w51.2.1, w51.2.2.1, w51.2.2.2) (by exact hb51) (by exact hM51) (hR.trans (congrArg (fun z => m_bestTake_e51 z) (wl_f hB51))) _ _ _ hE (lv_sub hl [0, 4, 5] rfl)
            · have hB51 : m_bestTake_b51 p1 p2 p3 w51 = (if (100000 : Int64) < (((nI w51.2.2.1).toInt64) * p2.toInt64) then (false, (w51.1, w51.2.1, w51.2.2.1, w51.2.2.2)) else m_bestTake_c72 p1 p2 p3 w51 (m_beginTrial w51.2.2.2)) := hB51.trans (congrArg (fun z => z) (if_neg c55))
              refine lv_iload hx hb dX1_bestTake_58 (lv_at hl 6 rfl) ?_
              refine lv_i2l hx hb dX1_bestTake_60 rfl ?_
              refine lv_iload_n hx hb dX1_bestTake_61 rfl (lv_at hl 2 rfl) ?_
              refine lv_i2l hx hb dX1_bestTake_62 rfl ?_
              refine lv_lmul hx hb dX1_bestTake_63 ?_
              refine lv_ldc2 (v := 100000) hx hb hown (hts _ q1264) dX1_bestTake_64 ?_
              refine l_gt (tgt := 176) hx hb dX1_bestTake_67 dX1_bestTake_68 (by decide) (fun c67 => ?_) (fun c67 => ?_)
              · have hB51 : m_bestTake_b51 p1 p2 p3 w51 = (false, (w51.1, w51.2.1, w51.2.2.1, w51.2.2.2)) := hB51.trans (congrArg (fun z => z) (if_pos c67))
                exact hX51 (w51.1, w51.2.1, w51.2.2.1, w51.2.2.2) (by exact hb51) (by exact hM51) (hR.trans (congrArg (fun z => m_bestTake_e51 z) (wl_f hB51))) _ _ _ hE (lv_sub hl [0, 4, 5] rfl)
              · have hB51 : m_bestTake_b51 p1 p2 p3 w51 = (m_bestTake_c72 p1 p2 p3 w51 (m_beginTrial w51.2.2.2)) := hB51.trans (congrArg (fun z => z) (if_neg c67))
                refine lv_aload_n hx hb dX1_bestTake_71 rfl (lv_at hl 0 rfl) ?_
                refine call_m_beginTrial hx hb hml hown hts hK hA hE hl.1 (lz (show 1 ≤ 4 by decide) hRf) (lz (show 21 ≤ 98 by decide) hRl) (Nat.le_of_ble_eq_true rfl) dX1_bestTake_72 (fun H locs hE => ?_)
                have hNc72 : ∀ (wc72 : ZT) (hewc72 : wc72 = m_beginTrial w51.2.2.2) (hB51 : m_bestTake_b51 p1 p2 p3 w51 = m_bestTake_c72 p1 p2 p3 w51 wc72), ∀ (H : Heap) (locs : List Loc) (ls : Array Slot), EW D A s.heap (MW m ar cs wc72) H locs → lv_has ls 13 [(0, .ref m), (1, .int p1), (2, .int p2), (3, .int p3), (5, .int w51.1), (6, .long w51.2.1), (8, .int (nI w51.2.2.1))] → W p l e R s mid args below meth c H locs 0 0 Q (F0 mid 75 ls []) := by
                  intro wc72 hewc72 hB51 H locs ls hE hl
                  have hB51 : m_bestTake_b51 p1 p2 p3 w51 = (m_bestTake_e84 p2 w51 (itR (m_bestTake_b84 p1 p2 w51) 0 (ix p3) ((0 : Int64), (1 : Int32), wc72))) := hB51
                  refine lv_lconst (v := 0) hx hb dX1_bestTake_75 rfl ?_
                  refine lv_lstore (lv' := [(9, .long (0 : Int64)), (0, .ref m), (1, .int p1), (2, .int p2), (3, .int p3), (5, .int w51.1), (6, .long w51.2.1), (8, .int (nI w51.2.2.1))]) hx hb dX1_bestTake_76 hl (by decide) rfl (fun ls hl => ?_)
                  refine lv_iconst (v := 1) hx hb dX1_bestTake_78 rfl ?_
                  refine lv_istore (lv' := [(11, .int (1 : Int32)), (9, .long (0 : Int64)), (0, .ref m), (1, .int p1), (2, .int p2), (3, .int p3), (5, .int w51.1), (6, .long w51.2.1), (8, .int (nI w51.2.2.1))]) hx hb dX1_bestTake_79 hl (by decide) rfl (fun ls hl => ?_)
                  refine lv_iconst (v := 0) hx hb dX1_bestTake_81 rfl ?_
                  refine lv_istore (lv' := [(12, .int (0 : Int32)), (11, .int (1 : Int32)), (9, .long (0 : Int64)), (0, .ref m), (1, .int p1), (2, .int p2), (3, .int p3), (5, .int w51.1), (6, .long w51.2.1), (8, .int (nI w51.2.2.1))]) hx hb dX1_bestTake_82 hl (by decide) rfl (fun ls hl => ?_)
                  have hL84 : ∀ (k i84 : Nat) (w84 : Int64 × Int32 × ZT) (hi84 : i84 + k = (ix p3)) (hM84 : MI w84.2.2) (hB51 : m_bestTake_b51 p1 p2 p3 w51 = m_bestTake_e84 p2 w51 (itR (m_bestTake_b84 p1 p2 w51) i84 k w84)), ∀ (H : Heap) (locs : List Loc) (ls : Array Slot), EW D A s.heap (MW m ar cs w84.2.2) H locs → lv_has ls 13 [(0, .ref m), (1, .int p1), (2, .int p2), (3, .int p3), (5, .int w51.1), (6, .long w51.2.1), (8, .int (nI w51.2.2.1)), (9, .long w84.1), (11, .int w84.2.1), (12, .int (nI i84))] → W p l e R s mid args below meth c H locs 0 0 Q (F0 mid 84 ls []) := by
                    intro k
                    induction k with
                    | zero =>
                      intro i84 w84 hi84 hM84 hB51 H locs ls hE hl
                      have hie84 : i84 = (ix p3) := by omega
                      have hB51 : m_bestTake_b51 p1 p2 p3 w51 = (m_bestTake_j170 w51 w84 (if w84.2.1 = 0 then (w51.1, w51.2.1) else (if w51.1 = (-9 : Int32) then m_bestTake_k160 p2 w51 w84 else (if w84.1 ≤ w51.2.1 then (w51.1, w51.2.1) else m_bestTake_k160 p2 w51 w84)))) := hB51
                      refine lv_iload hx hb dX1_bestTake_84 (lv_at hl 9 rfl) ?_
                      refine lv_iload_n hx hb dX1_bestTake_86 rfl (lv_at hl 3 rfl) ?_
                      refine top_nat hnp3.1 ?_
                      refine n_geT (a := i84) (b := (ix p3)) (by omega) (by omega) hx hb dX1_bestTake_87 (tgt := 140) (by decide) ?_
                      have hl := lv_sub (l' := [(0, .ref m), (1, .int p1), (2, .int p2), (3, .int p3), (5, .int w51.1), (6, .long w51.2.1), (8, .int (nI w51.2.2.1)), (9, .long w84.1), (11, .int w84.2.1)]) hl [0, 1, 2, 3, 4, 5, 6, 7, 8] rfl
                      refine lv_iload hx hb dX1_bestTake_140 (lv_at hl 8 rfl) ?_
                      have hJ170 : ∀ (w170 : Int32 × Int64) (hB51 : m_bestTake_b51 p1 p2 p3 w51 = m_bestTake_j170 w51 w84 w170), ∀ (H : Heap) (locs : List Loc) (ls : Array Slot), EW D A s.heap (MW m ar cs w84.2.2) H locs → lv_has ls 13 [(0, .ref m), (1, .int p1), (2, .int p2), (3, .int p3), (5, .int w170.1), (6, .long w170.2), (8, .int (nI w51.2.2.1))] → W p l e R s mid args below meth c H locs 0 0 Q (F0 mid 170 ls []) := by
                        intro w170 hB51 H locs ls hE hl
                        have hB51 : m_bestTake_b51 p1 p2 p3 w51 = (true, (w170.1, w170.2, (w51.2.2.1 + 1), w84.2.2)) := hB51
                        refine n_inc (lv' := [(8, .int (nI (w51.2.2.1 + 1))), (0, .ref m), (1, .int p1), (2, .int p2), (3, .int p3), (5, .int w170.1), (6, .long w170.2)]) hx hb dX1_bestTake_170 hl (k := 6) rfl (by decide) rfl (fun ls hl => ?_)
                        refine lv_goto (tgt := 51) hx hb dX1_bestTake_173 (by decide) ?_
                        exact ih51 (w170.1, w170.2, (w51.2.2.1 + 1), w84.2.2) (by show 20 - (w51.2.2.1 + 1) < n; omega) (by show w51.2.2.1 + 1 ≤ 20; omega) (by exact hM84) (hR.trans (congrArg (fun z => m_bestTake_e51 z) (wl_t hB51))) _ _ _ hE (lv_sub hl [1, 2, 3, 4, 5, 6, 0] rfl)
                      refine lv_if_eq (tgt := 170) hx hb dX1_bestTake_142 (by decide) (fun c142 => ?_) (fun c142 => ?_)
                      · have hB51 : m_bestTake_b51 p1 p2 p3 w51 = m_bestTake_j170 w51 w84 (w51.1, w51.2.1) := hB51.trans (congrArg (fun z => m_bestTake_j170 w51 w84 z) (if_pos c142))
                        exact hJ170 (w51.1, w51.2.1)  hB51 _ _ _ hE (lv_sub hl [0, 1, 2, 3, 4, 5, 6] rfl)
                      · have hB51 : m_bestTake_b51 p1 p2 p3 w51 = m_bestTake_j170 w51 w84 (if w51.1 = (-9 : Int32) then m_bestTake_k160 p2 w51 w84 else (if w84.1 ≤ w51.2.1 then (w51.1, w51.2.1) else m_bestTake_k160 p2 w51 w84)) := hB51.trans (congrArg (fun z => m_bestTake_j170 w51 w84 z) (if_neg c142))
                        refine lv_iload hx hb dX1_bestTake_145 (lv_at hl 4 rfl) ?_
                        refine lv_bipush (v := -9) hx hb dX1_bestTake_147 rfl ?_
                        have hJ160 : ∀ (hB51 : m_bestTake_b51 p1 p2 p3 w51 = m_bestTake_j170 w51 w84 (m_bestTake_k160 p2 w51 w84)), ∀ (H : Heap) (locs : List Loc) (ls : Array Slot), EW D A s.heap (MW m ar cs w84.2.2) H locs → lv_has ls 13 [(0, .ref m), (1, .int p1), (2, .int p2), (3, .int p3), (8, .int (nI w51.2.2.1)), (9, .long w84.1)] → W p l e R s mid args below meth c H locs 0 0 Q (F0 mid 160 ls []) := by
                          intro hB51 H locs ls hE hl
                          have hB51 : m_bestTake_b51 p1 p2 p3 w51 = m_bestTake_j170 w51 w84 (((nI w51.2.2.1) * p2), w84.1) := hB51
                          refine lv_iload hx hb dX1_bestTake_160 (lv_at hl 4 rfl) ?_
                          refine lv_iload_n hx hb dX1_bestTake_162 rfl (lv_at hl 2 rfl) ?_
                          refine lv_imul hx hb dX1_bestTake_163 ?_
                          refine lv_istore (lv' := [(5, .int ((nI w51.2.2.1) * p2)), (0, .ref m), (1, .int p1), (2, .int p2), (3, .int p3), (8, .int (nI w51.2.2.1)), (9, .long w84.1)]) hx hb dX1_bestTake_164 hl (by decide) rfl (fun ls hl => ?_)
                          refine lv_lload hx hb dX1_bestTake_166 (lv_at hl 6 rfl) ?_
                          refine lv_lstore (lv' := [(6, .long w84.1), (5, .int ((nI w51.2.2.1) * p2)), (0, .ref m), (1, .int p1), (2, .int p2), (3, .int p3), (8, .int (nI w51.2.2.1)), (9, .long w84.1)]) hx hb dX1_bestTake_168 hl (by decide) rfl (fun ls hl => ?_)
                          exact hJ170 (((nI w51.2.2.1) * p2), w84.1)  hB51 _ _ _ hE (lv_sub hl [2, 3, 4, 5, 1, 0, 6] rfl)
                        refine lv_icmp_eq (tgt := 160) hx hb dX1_bestTake_149 (by decide) (fun c149 => ?_) (fun c149 => ?_)
                        · have hB51 : m_bestTake_b51 p1 p2 p3 w51 = m_bestTake_j170 w51 w84 (m_bestTake_k160 p2 w51 w84) := hB51.trans (congrArg (fun z => m_bestTake_j170 w51 w84 z) (if_pos c149))
                          exact hJ160  hB51 _ _ _ hE (lv_sub hl [0, 1, 2, 3, 6, 7] rfl)
                        · have hB51 : m_bestTake_b51 p1 p2 p3 w51 = m_bestTake_j170 w51 w84 (if w84.1 ≤ w51.2.1 then (w51.1, w51.2.1) else m_bestTake_k160 p2 w51 w84) := hB51.trans (congrArg (fun z => m_bestTake_j170 w51 w84 z) (if_neg c149))
                          refine lv_lload hx hb dX1_bestTake_152 (lv_at hl 7 rfl) ?_
                          refine lv_lload hx hb dX1_bestTake_154 (lv_at hl 5 rfl) ?_
                          refine l_le (tgt := 170) hx hb dX1_bestTake_156 dX1_bestTake_157 (by decide) (fun c156 => ?_) (fun c156 => ?_)
                          · have hB51 : m_bestTake_b51 p1 p2 p3 w51 = m_bestTake_j170 w51 w84 (w51.1, w51.2.1) := hB51.trans (congrArg (fun z => m_bestTake_j170 w51 w84 z) (if_pos c156))
                            exact hJ170 (w51.1, w51.2.1)  hB51 _ _ _ hE (lv_sub hl [0, 1, 2, 3, 4, 5, 6] rfl)
                          · have hB51 : m_bestTake_b51 p1 p2 p3 w51 = m_bestTake_j170 w51 w84 (m_bestTake_k160 p2 w51 w84) := hB51.trans (congrArg (fun z => m_bestTake_j170 w51 w84 z) (if_neg c156))
                            exact hJ160  hB51 _ _ _ hE (lv_sub hl [0, 1, 2, 3, 6, 7] rfl)
                    | succ k ih84 =>
                      intro i84 w84 hi84 hM84 hB51 H locs ls hE hl
                      have hlt84 : i84 < (ix p3) := by omega
                      have hB84 : m_bestTake_b84 p1 p2 w51 i84 w84 = m_bestTake_c100 p1 w84 (m_week 34 (nI (ix p1)) ((nI w51.2.2.1) * p2) w84.2.2) := rfl
                      refine lv_iload hx hb dX1_bestTake_84 (lv_at hl 9 rfl) ?_
                      refine lv_iload_n hx hb dX1_bestTake_86 rfl (lv_at hl 3 rfl) ?_
                      refine top_nat hnp3.1 ?_
                      refine n_geF (a := i84) (b := (ix p3)) (by omega) (by omega) hx hb dX1_bestTake_87 (tgt := 140) (by decide) ?_
                      refine lv_aload_n hx hb dX1_bestTake_90 rfl (lv_at hl 0 rfl) ?_
                      refine lv_aload_n hx hb dX1_bestTake_91 rfl (lv_at hl 0 rfl) ?_
                      refine mg_34 hx hb hts hown hK hE dX1_bestTake_92 ?_
                      refine lv_iload_n hx hb dX1_bestTake_95 rfl (lv_at hl 1 rfl) ?_
                      refine top_nat hnp1.1 ?_
                      refine lv_iload hx hb dX1_bestTake_96 (lv_at hl 6 rfl) ?_
                      refine lv_iload_n hx hb dX1_bestTake_98 rfl (lv_at hl 2 rfl) ?_
                      refine lv_imul hx hb dX1_bestTake_99 ?_
                      refine call_m_week_34 hx hb hml hown hts hK hA hE hl.1 (nI (ix p1)) ((nI w51.2.2.1) * p2) (by exact hM84) (lz (show 4 ≤ 4 by decide) hRf) (lz (show 98 ≤ 98 by decide) hRl) (Nat.le_of_ble_eq_true rfl) dX1_bestTake_100 (fun H locs hE => ?_)
                      have hNc100 : ∀ (wc100 : ZT) (hewc100 : wc100 = m_week 34 (nI (ix p1)) ((nI w51.2.2.1) * p2) w84.2.2) (hB84 : m_bestTake_b84 p1 p2 w51 i84 w84 = m_bestTake_c100 p1 w84 wc100), ∀ (H : Heap) (locs : List Loc) (ls : Array Slot), EW D A s.heap (MW m ar cs wc100) H locs → lv_has ls 13 [(0, .ref m), (1, .int p1), (2, .int p2), (3, .int p3), (5, .int w51.1), (6, .long w51.2.1), (8, .int (nI w51.2.2.1)), (9, .long w84.1), (11, .int w84.2.1), (12, .int (nI i84))] → W p l e R s mid args below meth c H locs 0 0 Q (F0 mid 103 ls []) := by
                        intro wc100 hewc100 hB84 H locs ls hE hl
                        have hB84 : m_bestTake_b84 p1 p2 w51 i84 w84 = (m_bestTake_j132 p1 w84 wc100 (if w84.2.1 = 0 then (0 : Int32) else (if wc100.1 33 0 = 0 then (1 : Int32) else (0 : Int32)))) := hB84
                        refine lv_lload hx hb dX1_bestTake_103 (lv_at hl 7 rfl) ?_
                        refine lv_aload_n hx hb dX1_bestTake_105 rfl (lv_at hl 0 rfl) ?_
                        refine mg_32 hx hb hts hown hK hE dX1_bestTake_106 ?_
                        refine lv_iload_n hx hb dX1_bestTake_109 rfl (lv_at hl 1 rfl) ?_
                        refine top_nat hnp1.1 ?_
                        refine ma_32 (n := (ix p1)) (by omega) hx hb hK hE dX1_bestTake_110 ?_
                        refine lv_i2l hx hb dX1_bestTake_111 rfl ?_
                        refine lv_ladd hx hb dX1_bestTake_112 ?_
                        refine lv_lstore (lv' := [(9, .long (w84.1 + ((wc100.1 32 (ix p1)).toInt64))), (0, .ref m), (1, .int p1), (2, .int p2), (3, .int p3), (5, .int w51.1), (6, .long w51.2.1), (8, .int (nI w51.2.2.1)), (11, .int w84.2.1), (12, .int (nI i84))]) hx hb dX1_bestTake_113 hl (by decide) rfl (fun ls hl => ?_)
                        refine lv_iload hx hb dX1_bestTake_115 (lv_at hl 8 rfl) ?_
                        have hJ132 : ∀ (w132 : Int32) (hB84 : m_bestTake_b84 p1 p2 w51 i84 w84 = m_bestTake_j132 p1 w84 wc100 w132), ∀ (H : Heap) (locs : List Loc) (ls : Array Slot), EW D A s.heap (MW m ar cs wc100) H locs → lv_has ls 13 [(0, .ref m), (1, .int p1), (2, .int p2), (3, .int p3), (5, .int w51.1), (6, .long w51.2.1), (8, .int (nI w51.2.2.1)), (9, .long (w84.1 + ((wc100.1 32 (ix p1)).toInt64))), (12, .int (nI i84))] → W p l e R s mid args below meth c H locs 0 0 Q (F0 mid 132 ls [.int w132]) := by
                          intro w132 hB84 H locs ls hE hl
                          have hB84 : m_bestTake_b84 p1 p2 w51 i84 w84 = ((w84.1 + ((wc100.1 32 (ix p1)).toInt64)), w132, wc100) := hB84
                          refine lv_istore (lv' := [(11, .int w132), (0, .ref m), (1, .int p1), (2, .int p2), (3, .int p3), (5, .int w51.1), (6, .long w51.2.1), (8, .int (nI w51.2.2.1)), (9, .long (w84.1 + ((wc100.1 32 (ix p1)).toInt64))), (12, .int (nI i84))]) hx hb dX1_bestTake_132 hl (by decide) rfl (fun ls hl => ?_)
                          refine n_inc (lv' := [(12, .int (nI (i84 + 1))), (11, .int w132), (0, .ref m), (1, .int p1), (2, .int p2), (3, .int p3), (5, .int w51.1), (6, .long w51.2.1), (8, .int (nI w51.2.2.1)), (9, .long (w84.1 + ((wc100.1 32 (ix p1)).toInt64)))]) hx hb dX1_bestTake_134 hl (k := 9) rfl (by decide) rfl (fun ls hl => ?_)
                          refine lv_goto (tgt := 84) hx hb dX1_bestTake_137 (by decide) ?_
                          exact ih84 (i84 + 1) ((w84.1 + ((wc100.1 32 (ix p1)).toInt64)), w132, wc100) (by omega) (by have h := week_MI (o := nI (ix p1)) (a := nI w51.2.2.1 * p2) (Or.inr rfl) hM84 (amt_ok hb51 hp2); rw [← hewc100] at h; exact h) (hB51.trans (congrArg (fun z => m_bestTake_e84 p2 w51 (itR (m_bestTake_b84 p1 p2 w51) (i84 + 1) k z)) hB84)) _ _ _ hE (lv_sub hl [2, 3, 4, 5, 6, 7, 8, 9, 1, 0] rfl)
                        refine lv_if_eq (tgt := 131) hx hb dX1_bestTake_117 (by decide) (fun c117 => ?_) (fun c117 => ?_)
                        · have hB84 : m_bestTake_b84 p1 p2 w51 i84 w84 = m_bestTake_j132 p1 w84 wc100 (0 : Int32) := hB84.trans (congrArg (fun z => m_bestTake_j132 p1 w84 wc100 z) (if_pos c117))
                          refine lv_iconst (v := 0) hx hb dX1_bestTake_131 rfl ?_
                          exact hJ132 (0 : Int32)  hB84 _ _ _ hE (lv_sub hl [1, 2, 3, 4, 5, 6, 7, 0, 9] rfl)
                        · have hB84 : m_bestTake_b84 p1 p2 w51 i84 w84 = m_bestTake_j132 p1 w84 wc100 (if wc100.1 33 0 = 0 then (1 : Int32) else (0 : Int32)) := hB84.trans (congrArg (fun z => m_bestTake_j132 p1 w84 wc100 z) (if_neg c117))
                          refine lv_aload_n hx hb dX1_bestTake_120 rfl (lv_at hl 1 rfl) ?_
                          refine mg_33 hx hb hts hown hK hE dX1_bestTake_121 ?_
                          refine lv_if_ne (tgt := 131) hx hb dX1_bestTake_124 (by decide) (fun c124 => ?_) (fun c124 => ?_)
                          · have hB84 : m_bestTake_b84 p1 p2 w51 i84 w84 = m_bestTake_j132 p1 w84 wc100 (0 : Int32) := hB84.trans (congrArg (fun z => m_bestTake_j132 p1 w84 wc100 z) (if_neg c124))
                            refine lv_iconst (v := 0) hx hb dX1_bestTake_131 rfl ?_
                            exact hJ132 (0 : Int32)  hB84 _ _ _ hE (lv_sub hl [1, 2, 3, 4, 5, 6, 7, 0, 9] rfl)
                          · have hB84 : m_bestTake_b84 p1 p2 w51 i84 w84 = m_bestTake_j132 p1 w84 wc100 (1 : Int32) := hB84.trans (congrArg (fun z => m_bestTake_j132 p1 w84 wc100 z) (if_pos c124))
                            refine lv_iconst (v := 1) hx hb dX1_bestTake_127 rfl ?_
                            refine lv_goto (tgt := 132) hx hb dX1_bestTake_128 (by decide) ?_
                            exact hJ132 (1 : Int32)  hB84 _ _ _ hE (lv_sub hl [1, 2, 3, 4, 5, 6, 7, 0, 9] rfl)
                      exact hNc100 (m_week 34 (nI (ix p1)) ((nI w51.2.2.1) * p2) w84.2.2) rfl hB84 _ _ _ hE (lv_sub hl [0, 1, 2, 3, 4, 5, 6, 7, 8, 9] rfl)
                  exact hL84 (ix p3) 0 ((0 : Int64), (1 : Int32), wc72) (by omega) (by have h := beginTrial_MI hM51; rw [← hewc72] at h; exact h) hB51 _ _ _ hE (lv_sub hl [3, 4, 5, 6, 7, 8, 9, 2, 1, 0] rfl)
                exact hNc72 (m_beginTrial w51.2.2.2) rfl hB51 _ _ _ hE (lv_sub hl [0, 1, 2, 3, 4, 5, 6] rfl)
        exact hL51 21 ((-9 : Int32), (0 : Int64), 0, wc28.2) (by show 20 - 0 < 21; decide) (by exact Nat.zero_le _) (by rw [hZ28]; exact hM) hR _ _ _ hE (lv_sub hl [4, 5, 6, 7, 2, 1, 0] rfl)
      · have hR : m_bestTake p1 p2 p3 Z = (wc28.1, wc28.2) := hR.trans (congrArg (fun z => z) (if_neg c35))
        refine lv_iload hx hb dX1_bestTake_38 (lv_at hl 0 rfl) ?_
        exact hret wc28.1 wc28.2 hR rfl hE (Nat.le_refl 0) (Nat.le_refl 0) dX1_bestTake_40
    exact hNc28 (m_need w27 p1 Z) rfl hR _ _ _ hE (lv_sub hl [0, 1, 2, 3] rfl)
  refine lv_if_eq (tgt := 26) hx hb dX1_bestTake_8 (by decide) (fun c8 => ?_) (fun c8 => ?_)
  · have hR : m_bestTake p1 p2 p3 Z = m_bestTake_j27 p1 p2 p3 Z (0 : Int32) := hR.trans (congrArg (fun z => m_bestTake_j27 p1 p2 p3 Z z) (if_pos c8))
    refine lv_iconst (v := 0) hx hb dX1_bestTake_26 rfl ?_
    exact hJ27 (0 : Int32)  (by first | exact fun h => absurd rfl h | exact fun _ => ⟨c8, c19⟩) hR _ _ _ hE (lv_sub hl [0, 1, 2, 3] rfl)
  · have hR : m_bestTake p1 p2 p3 Z = m_bestTake_j27 p1 p2 p3 Z (if (m_in p3 (0 : Int32) (200 : Int32)) = 0 then (0 : Int32) else (1 : Int32)) := hR.trans (congrArg (fun z => m_bestTake_j27 p1 p2 p3 Z z) (if_neg c8))
    refine lv_iload_n hx hb dX1_bestTake_11 rfl (lv_at hl 3 rfl) ?_
    refine lv_iconst (v := 0) hx hb dX1_bestTake_12 rfl ?_
    refine lv_sipush (v := 200) hx hb dX1_bestTake_13 rfl ?_
    refine call_m_in hx hb hml hown hts hK hA hE hl.1 p3 (0 : Int32) (200 : Int32) (lz (show 1 ≤ 4 by decide) hRf) (lz (show 22 ≤ 98 by decide) hRl) (Nat.le_of_ble_eq_true rfl) dX1_bestTake_16 (fun H locs hE => ?_)
    refine lv_if_eq (tgt := 26) hx hb dX1_bestTake_19 (by decide) (fun c19 => ?_) (fun c19 => ?_)
    · have hR : m_bestTake p1 p2 p3 Z = m_bestTake_j27 p1 p2 p3 Z (0 : Int32) := hR.trans (congrArg (fun z => m_bestTake_j27 p1 p2 p3 Z z) (if_pos c19))
      refine lv_iconst (v := 0) hx hb dX1_bestTake_26 rfl ?_
      exact hJ27 (0 : Int32)  (by first | exact fun h => absurd rfl h | exact fun _ => ⟨c8, c19⟩) hR _ _ _ hE (lv_sub hl [0, 1, 2, 3] rfl)
    · have hR : m_bestTake p1 p2 p3 Z = m_bestTake_j27 p1 p2 p3 Z (1 : Int32) := hR.trans (congrArg (fun z => m_bestTake_j27 p1 p2 p3 Z z) (if_neg c19))
      refine lv_iconst (v := 1) hx hb dX1_bestTake_22 rfl ?_
      refine lv_goto (tgt := 27) hx hb dX1_bestTake_23 (by decide) ?_
      exact hJ27 (1 : Int32)  (by first | exact fun h => absurd rfl h | exact fun _ => ⟨c8, c19⟩) hR _ _ _ hE (lv_sub hl [0, 1, 2, 3] rfl)
