/-! the twin: a text is gone through -/
set_option maxRecDepth 100000
theorem mch_end {t : Nat} {Z : ZT} {n j : Nat} (h : (Z.1 5 t).toInt ≤ n) (hj : n ≤ j) (h2 : j < 2 ^ 31) : mch t Z j = 0 := by
  unfold mch m_at
  rw [if_pos]
  rw [Int32.le_iff_toInt_le, nI_toInt h2]
  omega
/-- an item without a fault: where it ended -/
theorem item_ok {t i : Nat} {Z : ZT} (h : (m_item t i Z).1 = -9) (hi : i < 60) (hT : (Z.1 5 t).toInt ≤ (60 : Nat)) : vp_in ((m_item t i Z).2.1 12 0) 61 ∧ (i < ix ((m_item t i Z).2.1 12 0) ∧ ix ((m_item t i Z).2.1 12 0) ≤ 60) ∧ ∃ w b x v e, pItem (mch t Z) i = .inr (w, b, x, v, e) ∧ (m_item t i Z).2.1 8 0 = w ∧ (m_item t i Z).2.1 9 0 = b ∧ (w = 33 ∨ (m_item t i Z).2.1 10 0 = x) ∧ (m_item t i Z).2.1 11 0 = v ∧ (m_item t i Z).2.1 12 0 = nI e := by
  have hs := (item_spec t i (by omega) Z).1
  cases hp : pItem (mch t Z) i with
  | inl p =>
    rw [hp] at hs
    have hs : (m_item t i Z).1 = nI p := hs
    have hp3 : p ≤ i + 3 := by
      unfold pItem at hp
      repeat' split at hp
      all_goals first | (cases hp; omega) | cases hp
    rw [h] at hs
    have := congrArg Int32.toInt hs
    rw [nI_toInt (by omega), show (-9 : Int32).toInt = -9 from rfl] at this
    omega
  | inr q =>
    obtain ⟨w, b, x, v, e⟩ := q
    rw [hp] at hs
    obtain ⟨h1, h2, h3, h4, h5, h6⟩ := hs
    have hin := pItem_in (n := 60) (fun j hj hk => mch_end hT hj (by omega)) hp
    have he : ix ((m_item t i Z).2.1 12 0) = e := by rw [h6]; exact ix_nI (by omega)
    exact ⟨by rw [h6]; exact vp_in_nI (by omega) (by decide), by rw [he]; exact ⟨hin.2.1, hin.2.2.1⟩, w, b, x, v, e, rfl, h2, h3, h4, h5, h6⟩
def m_faultOf_c32 (p1 : Nat) (wc32 : Int32 × ZT) : (Int32 × ZT) ⊕ (Bool × (Nat × ZT)) := (if wc32.1 = (-9 : Int32) then (.inr (true, ((ix (wc32.2.1 12 0)), wc32.2))) else (if wc32.1 ≤ wc32.2.1 5 p1 then (.inl (wc32.1, wc32.2)) else (.inl (wc32.2.1 5 p1, wc32.2))))
def m_faultOf_b2 (p1 : Nat) (w2 : Nat × ZT) : (Int32 × ZT) ⊕ (Bool × (Nat × ZT)) := (if w2.2.1 5 p1 ≤ nI w2.1 then (.inr (false, (w2.1, w2.2))) else (if (m_at p1 w2.1 w2.2) = (32 : Int32) then (.inr (true, ((w2.1 + 1), w2.2))) else m_faultOf_c32 p1 (m_item p1 w2.1 w2.2)))
def m_faultOf_e2 (w2 : Nat × ZT) : Int32 × ZT := ((-9 : Int32), w2.2)
def m_faultOf (p1 : Nat) (Z : ZT) : Int32 × ZT := wrR (m_faultOf_b2 p1) m_faultOf_e2 62 (0, Z)

set_option maxHeartbeats 4000000 in
set_option maxRecDepth 100000 in
theorem met_m_faultOf (l : Launch) (D : va_G) (cs : Nat → ClassId) (m : Nat) (ar : Nat → Nat) (Z : ZT) (sz : Nat) (p1 : Nat) (hn1 : p1 < 4) (hT : (Z.1 5 p1).toInt ≤ 60) : Met l yX1_faultOf (ws_ yX1_faultOf cX1_faultOf 4 (some .int)) ({ frames := 4, cells := 0, slots := 0, locals := 92 }) (va_Pc [.ref m, .int (nI p1)] (wSt D cs (MW m ar cs Z) sz)) (cQi (fun (v : Int32) (u : ZT) => m_faultOf p1 Z = (v, u)) D (fun u => MW m ar cs u) (MW m ar cs Z) sz) 0 0 (va_A (MW m ar cs Z) sz) := by
  refine gStart_i (C := RX1) rfl rfl (Nat.le_of_ble_eq_true rfl) ?_
  intro p e s mid args below meth c R Q A hx hb hml hown hts hK hA hRf hRl hRc hRs hret hE ls hl
  have hRf : 4 ≤ R.frames := hRf
  have hRl : 92 ≤ R.locals := hRl
  have hl : lv_has ls 4 [(0, .ref m), (1, .int (nI p1))] := hl
  have hR : m_faultOf p1 Z = (wrR (m_faultOf_b2 p1) m_faultOf_e2 62 (0, Z)) := rfl
  refine lv_iconst (v := 0) hx hb dX1_faultOf_0 rfl ?_
  refine lv_istore_n (lv' := [(2, .int (0 : Int32)), (0, .ref m), (1, .int (nI p1))]) hx hb dX1_faultOf_1 rfl hl (by decide) rfl (fun ls hl => ?_)
  have hX2 : ∀ (w2 : Nat × ZT) (hb2 : w2.1 ≤ 60) (hf2 : ∀ r : Nat, r < 8 → w2.2.1 r = Z.1 r) (hR : m_faultOf p1 Z = m_faultOf_e2 w2), ∀ (H : Heap) (locs : List Loc) (ls : Array Slot), EW D A s.heap (MW m ar cs w2.2) H locs → lv_has ls 4 [] → W p l e R s mid args below meth c H locs 0 0 Q (F0 mid 71 ls []) := by
    intro w2 hb2 hf2 hR H locs ls hE hl
    have hR : m_faultOf p1 Z = ((-9 : Int32), w2.2) := hR
    refine lv_bipush (v := -9) hx hb dX1_faultOf_71 rfl ?_
    exact hret (-9 : Int32) w2.2 hR rfl hE (Nat.le_refl 0) (Nat.le_refl 0) dX1_faultOf_73
  have hL2 : ∀ (n : Nat) (w2 : Nat × ZT) (hm2 : 61 - w2.1 < n) (hb2 : w2.1 ≤ 60) (hf2 : ∀ r : Nat, r < 8 → w2.2.1 r = Z.1 r) (hR : m_faultOf p1 Z = wrR (m_faultOf_b2 p1) m_faultOf_e2 n w2), ∀ (H : Heap) (locs : List Loc) (ls : Array Slot), EW D A s.heap (MW m ar cs w2.2) H locs → lv_has ls 4 [(0, .ref m), (1, .int (nI p1)), (2, .int (nI w2.1))] → W p l e R s mid args below meth c H locs 0 0 Q (F0 mid 2 ls []) := by
    intro n
    induction n with
    | zero =>
      intro w2 hm2
      exact absurd hm2 (Nat.not_lt_zero _)
    | succ n ih2 =>
      intro w2 hm2 hb2 hf2 hR H locs ls hE hl
      have hB2 : m_faultOf_b2 p1 w2 = (if w2.2.1 5 p1 ≤ nI w2.1 then (.inr (false, (w2.1, w2.2))) else (if (m_at p1 w2.1 w2.2) = (32 : Int32) then (.inr (true, ((w2.1 + 1), w2.2))) else m_faultOf_c32 p1 (m_item p1 w2.1 w2.2))) := rfl
      refine lv_iload_n hx hb dX1_faultOf_2 rfl (lv_at hl 2 rfl) ?_
      refine lv_aload_n hx hb dX1_faultOf_3 rfl (lv_at hl 0 rfl) ?_
      refine mg_5 hx hb hts hown hK hE dX1_faultOf_4 ?_
      refine lv_iload_n hx hb dX1_faultOf_7 rfl (lv_at hl 1 rfl) ?_
      refine ma_5 (n := p1) (by omega) hx hb hK hE dX1_faultOf_8 ?_
      refine lv_icmp_ge (tgt := 71) hx hb dX1_faultOf_9 (by decide) (fun c9 => ?_) (fun c9 => ?_)
      · have hB2 : m_faultOf_b2 p1 w2 = (.inr (false, (w2.1, w2.2))) := hB2.trans (congrArg (fun z => z) (if_pos c9))
        exact hX2 (w2.1, w2.2) (by exact hb2) (by exact hf2) (hR.trans (congrArg (fun z => z) (wr_f hB2))) _ _ _ hE (lv_sub hl [] rfl)
      · have hB2 : m_faultOf_b2 p1 w2 = (if (m_at p1 w2.1 w2.2) = (32 : Int32) then (.inr (true, ((w2.1 + 1), w2.2))) else m_faultOf_c32 p1 (m_item p1 w2.1 w2.2)) := hB2.trans (congrArg (fun z => z) (if_neg c9))
        have hi60 : w2.1 < 60 := nlt_of c9 (by omega) (by rw [hf2 5 (by decide)]; exact hT)
        have hT2 : (w2.2.1 5 p1).toInt ≤ (60 : Nat) := by rw [hf2 5 (by decide)]; exact hT
        refine lv_aload_n hx hb dX1_faultOf_12 rfl (lv_at hl 0 rfl) ?_
        refine lv_iload_n hx hb dX1_faultOf_13 rfl (lv_at hl 1 rfl) ?_
        refine lv_iload_n hx hb dX1_faultOf_14 rfl (lv_at hl 2 rfl) ?_
        refine call_m_at hx hb hml hown hts hK hA hE hl.1 p1 w2.1 (by omega) (by omega) (by rw [hf2 5 (by decide)]; exact hT) (lz (show 1 ≤ 4 by decide) hRf) (lz (show 22 ≤ 92 by decide) hRl) (Nat.le_of_ble_eq_true rfl) dX1_faultOf_15 (fun H locs hE => ?_)
        refine lv_bipush (v := 32) hx hb dX1_faultOf_18 rfl ?_
        refine lv_icmp_ne (tgt := 29) hx hb dX1_faultOf_20 (by decide) (fun c20 => ?_) (fun c20 => ?_)
        · have hB2 : m_faultOf_b2 p1 w2 = (m_faultOf_c32 p1 (m_item p1 w2.1 w2.2)) := hB2.trans (congrArg (fun z => z) (if_neg c20))
          refine lv_aload_n hx hb dX1_faultOf_29 rfl (lv_at hl 0 rfl) ?_
          refine lv_iload_n hx hb dX1_faultOf_30 rfl (lv_at hl 1 rfl) ?_
          refine lv_iload_n hx hb dX1_faultOf_31 rfl (lv_at hl 2 rfl) ?_
          refine call_m_item hx hb hml hown hts hK hA hE hl.1 p1 w2.1 (by omega) (by omega) (by rw [hf2 5 (by decide)]; exact hT) (lz (show 4 ≤ 4 by decide) hRf) (lz (show 92 ≤ 92 by decide) hRl) (Nat.le_of_ble_eq_true rfl) dX1_faultOf_32 (fun H locs hE => ?_)
          have hNc32 : ∀ (wc32 : Int32 × ZT) (hewc32 : wc32 = m_item p1 w2.1 w2.2) (hB2 : m_faultOf_b2 p1 w2 = m_faultOf_c32 p1 wc32), ∀ (H : Heap) (locs : List Loc) (ls : Array Slot), EW D A s.heap (MW m ar cs wc32.2) H locs → lv_has ls 4 [(0, .ref m), (1, .int (nI p1))] → W p l e R s mid args below meth c H locs 0 0 Q (F0 mid 35 ls [.int wc32.1]) := by
            intro wc32 hewc32 hB2 H locs ls hE hl
            have hB2 : m_faultOf_b2 p1 w2 = (if wc32.1 = (-9 : Int32) then (.inr (true, ((ix (wc32.2.1 12 0)), wc32.2))) else (if wc32.1 ≤ wc32.2.1 5 p1 then (.inl (wc32.1, wc32.2)) else (.inl (wc32.2.1 5 p1, wc32.2)))) := hB2
            refine lv_istore_n (lv' := [(3, .int wc32.1), (0, .ref m), (1, .int (nI p1))]) hx hb dX1_faultOf_35 rfl hl (by decide) rfl (fun ls hl => ?_)
            refine lv_iload_n hx hb dX1_faultOf_36 rfl (lv_at hl 0 rfl) ?_
            refine lv_bipush (v := -9) hx hb dX1_faultOf_37 rfl ?_
            refine lv_icmp_eq (tgt := 63) hx hb dX1_faultOf_39 (by decide) (fun c39 => ?_) (fun c39 => ?_)
            · have hB2 : m_faultOf_b2 p1 w2 = (.inr (true, ((ix (wc32.2.1 12 0)), wc32.2))) := hB2.trans (congrArg (fun z => z) (if_pos c39))
              have hok := item_ok (by rw [← hewc32]; exact c39) hi60 hT2
              have hv32 : vp_in (wc32.2.1 12 0) 61 := by rw [hewc32]; exact hok.1
              have hx32 : w2.1 < ix (wc32.2.1 12 0) ∧ ix (wc32.2.1 12 0) ≤ 60 := by rw [hewc32]; exact hok.2.1
              refine lv_aload_n hx hb dX1_faultOf_63 rfl (lv_at hl 1 rfl) ?_
              refine mg_12 hx hb hts hown hK hE dX1_faultOf_64 ?_
              have hna64 := vp_ix (x := wc32.2.1 12 0) (N := 61) (hv32) (by decide)
              have hna64b := hna64.2
              refine top_nat hna64.1 ?_
              refine lv_istore_n (lv' := [(2, .int (nI (ix (wc32.2.1 12 0)))), (3, .int wc32.1), (0, .ref m), (1, .int (nI p1))]) hx hb dX1_faultOf_67 rfl hl (by decide) rfl (fun ls hl => ?_)
              refine lv_goto (tgt := 2) hx hb dX1_faultOf_68 (by decide) ?_
              exact ih2 ((ix (wc32.2.1 12 0)), wc32.2) (by first | (show 61 - (w2.1 + 1) < n; omega) | (show 61 - ix (wc32.2.1 12 0) < n; omega)) (by first | (show w2.1 + 1 ≤ 60; omega) | exact hx32.2) (by first | exact hf2 | exact fun r hr => by show wc32.2.1 r = _; rw [hewc32, (item_spec p1 w2.1 (by omega) w2.2).2.1 r (Or.inl hr)]; exact hf2 r hr) (hR.trans (congrArg (fun z => z) (wr_t hB2))) _ _ _ hE (lv_sub hl [2, 3, 0] rfl)
            · have hB2 : m_faultOf_b2 p1 w2 = (if wc32.1 ≤ wc32.2.1 5 p1 then (.inl (wc32.1, wc32.2)) else (.inl (wc32.2.1 5 p1, wc32.2))) := hB2.trans (congrArg (fun z => z) (if_neg c39))
              refine lv_iload_n hx hb dX1_faultOf_42 rfl (lv_at hl 0 rfl) ?_
              refine lv_aload_n hx hb dX1_faultOf_43 rfl (lv_at hl 1 rfl) ?_
              refine mg_5 hx hb hts hown hK hE dX1_faultOf_44 ?_
              refine lv_iload_n hx hb dX1_faultOf_47 rfl (lv_at hl 2 rfl) ?_
              refine ma_5 (n := p1) (by omega) hx hb hK hE dX1_faultOf_48 ?_
              refine lv_icmp_le (tgt := 61) hx hb dX1_faultOf_49 (by decide) (fun c49 => ?_) (fun c49 => ?_)
              · have hB2 : m_faultOf_b2 p1 w2 = (.inl (wc32.1, wc32.2)) := hB2.trans (congrArg (fun z => z) (if_pos c49))
                refine lv_iload_n hx hb dX1_faultOf_61 rfl (lv_at hl 0 rfl) ?_
                have hR : m_faultOf p1 Z = (wc32.1, wc32.2) := hR.trans (congrArg (fun z => z) (wr_r hB2))
                exact hret wc32.1 wc32.2 hR rfl hE (Nat.le_refl 0) (Nat.le_refl 0) dX1_faultOf_62
              · have hB2 : m_faultOf_b2 p1 w2 = (.inl (wc32.2.1 5 p1, wc32.2)) := hB2.trans (congrArg (fun z => z) (if_neg c49))
                refine lv_aload_n hx hb dX1_faultOf_52 rfl (lv_at hl 1 rfl) ?_
                refine mg_5 hx hb hts hown hK hE dX1_faultOf_53 ?_
                refine lv_iload_n hx hb dX1_faultOf_56 rfl (lv_at hl 2 rfl) ?_
                refine ma_5 (n := p1) (by omega) hx hb hK hE dX1_faultOf_57 ?_
                refine lv_goto (tgt := 62) hx hb dX1_faultOf_58 (by decide) ?_
                have hR : m_faultOf p1 Z = (wc32.2.1 5 p1, wc32.2) := hR.trans (congrArg (fun z => z) (wr_r hB2))
                exact hret (wc32.2.1 5 p1) wc32.2 hR rfl hE (Nat.le_refl 0) (Nat.le_refl 0) dX1_faultOf_62
          exact hNc32 (m_item p1 w2.1 w2.2) rfl hB2 _ _ _ hE (lv_sub hl [0, 1] rfl)
        · have hB2 : m_faultOf_b2 p1 w2 = (.inr (true, ((w2.1 + 1), w2.2))) := hB2.trans (congrArg (fun z => z) (if_pos c20))
          refine n_inc (lv' := [(2, .int (nI (w2.1 + 1))), (0, .ref m), (1, .int (nI p1))]) hx hb dX1_faultOf_23 hl (k := 2) rfl (by decide) rfl (fun ls hl => ?_)
          refine lv_goto (tgt := 2) hx hb dX1_faultOf_26 (by decide) ?_
          exact ih2 ((w2.1 + 1), w2.2) (by first | (show 61 - (w2.1 + 1) < n; omega) | (show 61 - ix (wc32.2.1 12 0) < n; omega)) (by first | (show w2.1 + 1 ≤ 60; omega) | exact hx32.2) (by first | exact hf2 | exact fun r hr => by show wc32.2.1 r = _; rw [hewc32, (item_spec p1 w2.1 (by omega) w2.2).2.1 r (Or.inl hr)]; exact hf2 r hr) (hR.trans (congrArg (fun z => z) (wr_t hB2))) _ _ _ hE (lv_sub hl [1, 2, 0] rfl)
  exact hL2 62 (0, Z) (by show 61 - 0 < 62; decide) (by exact Nat.zero_le _) (by exact fun r hr => rfl) hR _ _ _ hE (lv_sub hl [1, 2, 0] rfl)
section C_faultOf
variable {p : Program} {l : Launch} {e : Env} {R : Room} {s : State} {mid : MethodId} {args : Array Value} {below : List Frame} {meth : Method} {c : Code} {H : Heap} {locs : List Loc} {Q : State → Prop} {cc : ByteArray} {pc : Nat} {ls : Array Slot} {rest : List Value} {D : va_G} {A : Nat → Prop} {m : Nat} {ar : Nat → Nat} {cs : Nat → ClassId} {Z : ZT} {nL : Nat}
theorem call_m_faultOf (hx : p.tables.exec = Jvm.exec) (hb : c.code = cc) (hml : c.maxLocals = nL) (hown : s.vm.findClass RX1 = some mid.cls) (hts : ∀ w ∈ lw_all, w.before args s = true) (hK : KK D cs s) (hA : ∀ q : Nat, s.heap.size ≤ q → A q) (hE : EW D A s.heap (MW m ar cs Z) H locs) (hls : ls.size = nL) (p1 : Nat) (hn1 : p1 < 4) (hT : (Z.1 5 p1).toInt ≤ 60) (h1 : 5 ≤ R.frames) (h2 : 115 ≤ R.locals) (h3 : (rest.map fun v => v.category).sum ≤ 8) (hd : decode cc pc = .ok (.invokevirtual 157, 3)) (kk : ∀ (H1 : Heap) (locs1 : List Loc), EW D A s.heap (MW m ar cs (m_faultOf p1 Z).2) H1 locs1 → W p l e R s mid args below meth c H1 locs1 0 0 Q (F0 mid (pc + 3) ls (.int (m_faultOf p1 Z).1 :: rest))) : W p l e R s mid args below meth c H locs 0 0 Q (F0 mid pc ls (.int (nI p1) :: .ref m :: rest)) :=
  gCall_i (As := [.int (nI p1)]) (rest := rest) (q0 := 0) (ci := 1) (fs := MF ar Z) (T' := TX1) (N' := 52) hx hb hml hown hts hK hA hE hls (met_m_faultOf l D cs m ar Z H.size p1 hn1 hT) (cwV 1 hts (lw_V q1127 q1129 qs41 q85 q1130) rfl rfl rfl (by decide +kernel) ⟨h1, h2⟩) rfl rfl rfl rfl h3 hd ⟨Nat.zero_le _, Nat.zero_le _⟩ (fun v u H1 locs1 hp _ hE => by rw [hp] at kk; exact kk H1 locs1 hE)
end C_faultOf
def m_fault_c20 (wc20 : Int32 × ZT) : Int32 × ZT := (wc20.1, wc20.2)
def m_fault (p1 : Int32) (Z : ZT) : Int32 × ZT := (if (m_isText p1) = 0 then ((-1 : Int32), Z) else (if 0 ≤ Z.1 5 (ix p1) then (m_faultOf (ix p1) Z) else m_fault_c20 (m_meets 1 Z)))
set_option maxHeartbeats 4000000 in
set_option maxRecDepth 100000 in
theorem met_m_fault (l : Launch) (D : va_G) (cs : Nat → ClassId) (m : Nat) (ar : Nat → Nat) (Z : ZT) (sz : Nat) (p1 : Int32) (hT : ∀ t : Nat, t < 4 → (Z.1 5 t).toInt ≤ 60) : Met l yX1_fault (ws_ yX1_fault cX1_fault 2 (some .int)) ({ frames := 5, cells := 0, slots := 0, locals := 115 }) (va_Pc [.ref m, .int p1] (wSt D cs (MW m ar cs Z) sz)) (cQi (fun (v : Int32) (u : ZT) => m_fault p1 Z = (v, u)) D (fun u => MW m ar cs u) (MW m ar cs Z) sz) 0 0 (va_A (MW m ar cs Z) sz) := by
  refine gStart_i (C := RX1) rfl rfl (Nat.le_of_ble_eq_true rfl) ?_
  intro p e s mid args below meth c R Q A hx hb hml hown hts hK hA hRf hRl hRc hRs hret hE ls hl
  have hRf : 5 ≤ R.frames := hRf
  have hRl : 115 ≤ R.locals := hRl
  have hl : lv_has ls 2 [(0, .ref m), (1, .int p1)] := hl
  have hR : m_fault p1 Z = (if (m_isText p1) = 0 then ((-1 : Int32), Z) else (if 0 ≤ Z.1 5 (ix p1) then (m_faultOf (ix p1) Z) else m_fault_c20 (m_meets 1 Z))) := rfl
  refine lv_iload_n hx hb dX1_fault_0 rfl (lv_at hl 1 rfl) ?_
  refine call_m_isText hx hb hml hown hts hK hA hE hl.1 p1 (lz (show 2 ≤ 5 by decide) hRf) (lz (show 42 ≤ 115 by decide) hRl) (Nat.le_of_ble_eq_true rfl) dX1_fault_1 (fun H locs hE => ?_)
  refine lv_if_ne (tgt := 9) hx hb dX1_fault_4 (by decide) (fun c4 => ?_) (fun c4 => ?_)
  · have hR : m_fault p1 Z = (if 0 ≤ Z.1 5 (ix p1) then (m_faultOf (ix p1) Z) else m_fault_c20 (m_meets 1 Z)) := hR.trans (congrArg (fun z => z) (if_neg c4))
    have hnp1 := vp_ix (x := p1) (N := 4) (isText_vp c4) (by decide)
    have hbnp1 := hnp1.2
    refine lv_aload_n hx hb dX1_fault_9 rfl (lv_at hl 0 rfl) ?_
    refine mg_5 hx hb hts hown hK hE dX1_fault_10 ?_
    refine lv_iload_n hx hb dX1_fault_13 rfl (lv_at hl 1 rfl) ?_
    refine top_nat hnp1.1 ?_
    refine ma_5 (n := (ix p1)) (by omega) hx hb hK hE dX1_fault_14 ?_
    refine lv_if_ge (tgt := 26) hx hb dX1_fault_15 (by decide) (fun c15 => ?_) (fun c15 => ?_)
    · have hR : m_fault p1 Z = (m_faultOf (ix p1) Z) := hR.trans (congrArg (fun z => z) (if_pos c15))
      refine lv_aload_n hx hb dX1_fault_26 rfl (lv_at hl 0 rfl) ?_
      refine lv_iload_n hx hb dX1_fault_27 rfl (lv_at hl 1 rfl) ?_
      refine top_nat hnp1.1 ?_
      refine call_m_faultOf hx hb hml hown hts hK hA hE hl.1 (ix p1) (by omega) (hT _ hbnp1) (lz (show 5 ≤ 5 by decide) hRf) (lz (show 115 ≤ 115 by decide) hRl) (Nat.le_of_ble_eq_true rfl) dX1_fault_28 (fun H locs hE => ?_)
      exact hret ((m_faultOf (ix p1) Z).1) ((m_faultOf (ix p1) Z).2) hR rfl hE (Nat.le_refl 0) (Nat.le_refl 0) dX1_fault_31
    · have hR : m_fault p1 Z = (m_fault_c20 (m_meets 1 Z)) := hR.trans (congrArg (fun z => z) (if_neg c15))
      refine lv_aload_n hx hb dX1_fault_18 rfl (lv_at hl 0 rfl) ?_
      refine lv_iconst (v := 1) hx hb dX1_fault_19 rfl ?_
      refine call_m_meets hx hb hml hown hts hK hA hE hl.1 1 (by omega) (lz (show 1 ≤ 5 by decide) hRf) (lz (show 21 ≤ 115 by decide) hRl) (Nat.le_of_ble_eq_true rfl) dX1_fault_20 (fun H locs hE => ?_)
      have hNc20 : ∀ (wc20 : Int32 × ZT) (hR : m_fault p1 Z = m_fault_c20 wc20), ∀ (H : Heap) (locs : List Loc) (ls : Array Slot), EW D A s.heap (MW m ar cs wc20.2) H locs → lv_has ls 2 [] → W p l e R s mid args below meth c H locs 0 0 Q (F0 mid 23 ls [.int wc20.1]) := by
        intro wc20 hR H locs ls hE hl
        have hR : m_fault p1 Z = (wc20.1, wc20.2) := hR
        refine lv_goto (tgt := 31) hx hb dX1_fault_23 (by decide) ?_
        exact hret wc20.1 wc20.2 hR rfl hE (Nat.le_refl 0) (Nat.le_refl 0) dX1_fault_31
      exact hNc20 (m_meets 1 Z) hR _ _ _ hE (lv_sub hl [] rfl)
  · have hR : m_fault p1 Z = ((-1 : Int32), Z) := hR.trans (congrArg (fun z => z) (if_pos c4))
    refine lv_iconst (v := -1) hx hb dX1_fault_7 rfl ?_
    exact hret (-1 : Int32) Z hR rfl hE (Nat.le_refl 0) (Nat.le_refl 0) dX1_fault_8
def m_doItem_c112 (wc112 : ZT) : Int32 × ZT := ((1 : Int32), wc112)
def m_doItem_c18 (wc18 : ZT) : Int32 × ZT := ((1 : Int32), wc18)
def m_doItem (Z : ZT) : Int32 × ZT := (if Z.1 8 0 = (33 : Int32) then m_doItem_c18 (m_begin (ix (Z.1 9 0)) (Z.1 11 0) Z) else (if Z.1 13 (ix (Z.1 9 0)) = 0 then ((0 : Int32), Z) else (if Z.1 8 0 = (42 : Int32) then ((1 : Int32), sI Z 15 (ix (Z.1 9 0)) (Z.1 11 0)) else (if Z.1 13 (ix (Z.1 10 0)) = 0 then ((0 : Int32), Z) else (if (m_eats (ix (Z.1 9 0)) Z) = 0 then ((0 : Int32), Z) else (if Z.1 14 (ix (Z.1 10 0)) = (3 : Int32) then ((0 : Int32), Z) else m_doItem_c112 (m_layLink (ix (Z.1 9 0)) (ix (Z.1 10 0)) (Z.1 11 0) Z)))))))
def pFt (c : Nat → Int32) (sz : Int32) : Nat → Nat → Option Nat
  | 0, _ => none
  | f + 1, i => if sz ≤ nI i then none else if c i = 32 then pFt c sz f (i + 1) else match pItem c i with
    | .inl p => some p
    | .inr q => pFt c sz f q.2.2.2.2
def pFo (sz : Int32) (r : Option Nat) : Int32 := match r with
  | none => -9
  | some p => if nI p ≤ sz then nI p else sz
theorem pItem_le {c : Nat → Int32} {i p : Nat} (hp : pItem c i = .inl p) : p ≤ i + 3 := by
  unfold pItem at hp
  repeat' split at hp
  all_goals first | (cases hp; omega) | cases hp
theorem faultOf_run {t : Nat} {Z : ZT} (hT : (Z.1 5 t).toInt ≤ (60 : Nat)) : ∀ (f i : Nat) (Y : ZT), i ≤ 60 → (∀ r, r < 8 ∨ 12 < r → Y.1 r = Z.1 r) → Y.2 = Z.2 →
    (∀ r, r < 8 ∨ 12 < r → (wrR (m_faultOf_b2 t) m_faultOf_e2 f (i, Y)).2.1 r = Z.1 r) ∧ (wrR (m_faultOf_b2 t) m_faultOf_e2 f (i, Y)).2.2 = Z.2 ∧ (wrR (m_faultOf_b2 t) m_faultOf_e2 f (i, Y)).1 = pFo (Z.1 5 t) (pFt (mch t Z) (Z.1 5 t) f i) := by
  intro f
  induction f with
  | zero => intro i Y hi hf h2; exact ⟨hf, h2, rfl⟩
  | succ f ih =>
    intro i Y hi hf h2
    have h5 : Y.1 5 = Z.1 5 := hf 5 (Or.inl (by decide))
    have hc : mch t Y = mch t Z := mch_congr h5 (hf 6 (Or.inl (by decide)))
    simp only [pFt]
    by_cases ha : Z.1 5 t ≤ nI i
    · have hb : m_faultOf_b2 t (i, Y) = .inr (false, (i, Y)) := by
        unfold m_faultOf_b2
        rw [if_pos (by show Y.1 5 t ≤ nI i; rw [h5]; exact ha)]
      rw [wr_f hb, if_pos ha]
      exact ⟨hf, h2, rfl⟩
    rw [if_neg ha]
    have hi60 : i < 60 := nlt_of ha (by omega) hT
    by_cases h32 : mch t Z i = 32
    · have hb : m_faultOf_b2 t (i, Y) = .inr (true, (i + 1, Y)) := by
        unfold m_faultOf_b2
        rw [if_neg (by show ¬ Y.1 5 t ≤ nI i; rw [h5]; exact ha), if_pos (by show mch t Y i = 32; rw [hc]; exact h32)]
      rw [wr_t hb, if_pos h32]
      exact ih (i + 1) Y (by omega) hf h2
    rw [if_neg h32]
    have hb0 : m_faultOf_b2 t (i, Y) = m_faultOf_c32 t (m_item t i Y) := by
      unfold m_faultOf_b2
      rw [if_neg (by show ¬ Y.1 5 t ≤ nI i; rw [h5]; exact ha), if_neg (by show ¬ mch t Y i = 32; rw [hc]; exact h32)]
    obtain ⟨ho, hfi, h2i⟩ := item_spec t i (by omega) Y
    rw [hc] at ho
    have hfo : ∀ r, r < 8 ∨ 12 < r → (m_item t i Y).2.1 r = Z.1 r := fun r hr => by rw [hfi r hr]; exact hf r hr
    cases hp : pItem (mch t Z) i with
    | inl p =>
      rw [hp] at ho
      have ho : (m_item t i Y).1 = nI p := ho
      have hle := pItem_le hp
      have hne : ¬ nI p = (-9 : Int32) := fun q => by
        have := congrArg Int32.toInt q
        rw [nI_toInt (by omega), show (-9 : Int32).toInt = -9 from rfl] at this
        omega
      by_cases hs : nI p ≤ Z.1 5 t
      · have hb : m_faultOf_b2 t (i, Y) = .inl (nI p, (m_item t i Y).2) := by
          rw [hb0]
          unfold m_faultOf_c32
          rw [ho, if_neg hne, hfo 5 (Or.inl (by decide)), if_pos hs]
        rw [wr_r hb]
        refine ⟨hfo, by rw [h2i]; exact h2, ?_⟩
        show nI p = if nI p ≤ Z.1 5 t then nI p else Z.1 5 t
        rw [if_pos hs]
      · have hb : m_faultOf_b2 t (i, Y) = .inl (Z.1 5 t, (m_item t i Y).2) := by
          rw [hb0]
          unfold m_faultOf_c32
          rw [ho, if_neg hne, hfo 5 (Or.inl (by decide)), if_neg hs]
        rw [wr_r hb]
        refine ⟨hfo, by rw [h2i]; exact h2, ?_⟩
        show Z.1 5 t = if nI p ≤ Z.1 5 t then nI p else Z.1 5 t
        rw [if_neg hs]
    | inr q =>
      obtain ⟨w, b, x, v, e⟩ := q
      rw [hp] at ho
      obtain ⟨o1, -, -, -, -, o6⟩ := ho
      have hin := pItem_in (n := 60) (fun j hj hk => mch_end hT hj (by omega)) hp
      have he : ix ((m_item t i Y).2.1 12 0) = e := by rw [o6]; exact ix_nI (by omega)
      have hb : m_faultOf_b2 t (i, Y) = .inr (true, (e, (m_item t i Y).2)) := by
        rw [hb0]
        unfold m_faultOf_c32
        rw [if_pos o1, he]
      rw [wr_t hb]
      exact ih e _ hin.2.2.1 hfo (by rw [h2i]; exact h2)
theorem faultOf_spec {t : Nat} {Z : ZT} (hT : (Z.1 5 t).toInt ≤ (60 : Nat)) : (∀ r, r < 8 ∨ 12 < r → (m_faultOf t Z).2.1 r = Z.1 r) ∧ (m_faultOf t Z).2.2 = Z.2 ∧ (m_faultOf t Z).1 = pFo (Z.1 5 t) (pFt (mch t Z) (Z.1 5 t) 62 0) := faultOf_run hT 62 0 Z (by decide) (fun _ _ => rfl) rfl
def GF (c : Nat → Int32) (sz : Int32) (i : Nat) : Prop := ∃ f, 60 < f + i ∧ pFt c sz f i = none
theorem pFo_none {sz : Int32} {r : Option Nat} (hs : sz.toInt ≤ (60 : Nat)) (h0 : 0 ≤ sz) (h : pFo sz r = -9) (hr : ∀ p, r = some p → p < 2 ^ 31) : r = none := by
  cases r with
  | none => rfl
  | some p =>
    have hp := hr p rfl
    rw [Int32.le_iff_toInt_le, show (0 : Int32).toInt = 0 from rfl] at h0
    have h : (if nI p ≤ sz then nI p else sz) = -9 := h
    split at h
    · have := congrArg Int32.toInt h
      rw [nI_toInt hp, show (-9 : Int32).toInt = -9 from rfl] at this
      omega
    · have := congrArg Int32.toInt h
      rw [show (-9 : Int32).toInt = -9 from rfl] at this
      omega
theorem pFt_lt {c : Nat → Int32} {sz : Int32} (hs : sz.toInt ≤ (60 : Nat)) (hc : ∀ j, 60 ≤ j → j < 100 → c j = 0) : ∀ (f i p : Nat), i ≤ 60 → pFt c sz f i = some p → p < 64 := by
  intro f
  induction f with
  | zero => intro i p _ h; cases h
  | succ f ih =>
    intro i p hi h
    simp only [pFt] at h
    by_cases ha : sz ≤ nI i
    · rw [if_pos ha] at h; cases h
    rw [if_neg ha] at h
    have hi60 : i < 60 := nlt_of ha (by omega) hs
    by_cases h32 : c i = 32
    · rw [if_pos h32] at h
      exact ih (i + 1) p (by omega) h
    rw [if_neg h32] at h
    cases hp : pItem c i with
    | inl q =>
      rw [hp] at h
      cases h
      have := pItem_le hp
      omega
    | inr q =>
      rw [hp] at h
      obtain ⟨w, b, x, v, e⟩ := q
      have hin := pItem_in (n := 60) (fun j hj hk => hc j hj (by omega)) hp
      exact ih e p hin.2.2.1 h
theorem read_start {t : Nat} {Z : ZT} (h : (m_faultOf t Z).1 = -9) (hT : (Z.1 5 t).toInt ≤ (60 : Nat)) (h0 : 0 ≤ Z.1 5 t) : GF (mch t (m_faultOf t Z).2) ((m_faultOf t Z).2.1 5 t) 0 := by
  obtain ⟨hf, -, ho⟩ := faultOf_spec hT
  rw [ho] at h
  have h5 := hf 5 (Or.inl (by decide))
  rw [mch_congr h5 (hf 6 (Or.inl (by decide))), h5]
  exact ⟨62, by decide, pFo_none hT h0 h (fun p hp => by
    have := pFt_lt hT (fun j hj hk => mch_end hT hj (by omega)) 62 0 p (by decide) hp
    omega)⟩
theorem read_sp {t i : Nat} {Y : ZT} {c : Nat → Int32} {sz : Int32} (hc : mch t Y = c) (ha : ¬ sz ≤ nI i) (h32 : m_at t i Y = 32) (hi : i < 60) (h : GF c sz i) : GF c sz (i + 1) := by
  obtain ⟨f, hf, h⟩ := h
  obtain ⟨g, rfl⟩ : ∃ g, f = g + 1 := ⟨f - 1, by omega⟩
  subst hc
  simp only [pFt] at h
  rw [if_neg ha, if_pos (show mch t Y i = 32 from h32)] at h
  exact ⟨g, by omega, h⟩
theorem read_item {t i : Nat} {Y : ZT} {c : Nat → Int32} {sz : Int32} (hc : mch t Y = c) (hs : Y.1 5 t = sz) (hi : i < 60) (hT : (Y.1 5 t).toInt ≤ (60 : Nat)) (ha : ¬ Y.1 5 t ≤ nI i) (h32 : ¬ m_at t i Y = 32) (h : GF c sz i) : vp_in ((m_item t i Y).2.1 12 0) 61 ∧ (i < ix ((m_item t i Y).2.1 12 0) ∧ ix ((m_item t i Y).2.1 12 0) ≤ 60) ∧ vp_in ((m_item t i Y).2.1 9 0) 8 ∧ (¬ (m_item t i Y).2.1 8 0 = 33 → vp_in ((m_item t i Y).2.1 10 0) 8) ∧ GF c sz (ix ((m_item t i Y).2.1 12 0)) := by
  obtain ⟨f, hf, h⟩ := h
  obtain ⟨g, rfl⟩ : ∃ g, f = g + 1 := ⟨f - 1, by omega⟩
  subst hc
  subst hs
  simp only [pFt] at h
  rw [if_neg ha, if_neg (show ¬ mch t Y i = 32 from h32)] at h
  obtain ⟨ho, -, -⟩ := item_spec t i (by omega) Y
  cases hp : pItem (mch t Y) i with
  | inl p => rw [hp] at h; cases h
  | inr q =>
    obtain ⟨w, b, x, v, e⟩ := q
    rw [hp] at ho h
    obtain ⟨o1, o2, o3, o4, o5, o6⟩ := ho
    have hin := pItem_in (n := 60) (fun j hj hk => mch_end hT hj (by omega)) hp
    have he : ix ((m_item t i Y).2.1 12 0) = e := by rw [o6]; exact ix_nI (by omega)
    rw [he, o6, o3, o2]
    refine ⟨vp_in_nI (by omega) (by decide), ⟨hin.2.1, hin.2.2.1⟩, hin.2.2.2.1, fun hw => ?_, g, by omega, h⟩
    rw [o4.resolve_left hw]
    exact hin.2.2.2.2.1
theorem layLink_fr {r : Nat} (hr : r < 13) (a b : Nat) (v : Int32) (Z : ZT) : (m_layLink a b v Z).1 r = Z.1 r := by
  unfold m_layLink m_layLink_j27 m_layLink_j59
  simp only [sI]
  repeat' split
  all_goals simp only [va_up, show ¬ r = 23 by omega, show ¬ r = 24 by omega, show ¬ r = 25 by omega, if_false]
theorem unlink_fr {r : Nat} (hr : r < 13) (a : Nat) (Z : ZT) : (m_unlink a Z).1 r = Z.1 r := by
  unfold m_unlink m_unlink_e2
  refine itR_ind (P := fun s : ZT => s.1 r = Z.1 r) (fun i s hs => ?_) _ _ _ rfl
  unfold m_unlink_b2 m_unlink_c12 m_unlink_c19
  rw [layLink_fr hr, layLink_fr hr]
  exact hs
theorem sI_fr {Z : ZT} {k i r : Nat} {v : Int32} (h : r ≠ k) : (sI Z k i v).1 r = Z.1 r := va_up_ne _ _ h
theorem begin_fr {r : Nat} (hr : r < 13) (a : Nat) (v : Int32) (Z : ZT) : (m_begin a v Z).1 r = Z.1 r := by
  unfold m_begin m_begin_c2 m_begin_e83 m_begin_e139
  refine itR_ind (P := fun s : ZT => s.1 r = Z.1 r) (fun i s hs => ?_) _ _ _ (itR_ind (P := fun s : ZT => s.1 r = Z.1 r) (fun i s hs => ?_) _ _ _ ?_)
  · unfold m_begin_b139 m_begin_j166
    rw [sI_fr (by omega)]
    exact hs
  · unfold m_begin_b83 m_begin_j109 m_begin_j130
    rw [sI_fr (by omega), sI_fr (by omega)]
    exact hs
  · rw [sI_fr (by omega), sI_fr (by omega), sI_fr (by omega), sI_fr (by omega), sI_fr (by omega), sI_fr (by omega), sI_fr (by omega), sI_fr (by omega), sI_fr (by omega), sI_fr (by omega)]
    exact unlink_fr hr a Z
theorem doItem_fr {r : Nat} (hr : r < 13) {Z : ZT} : (m_doItem Z).2.1 r = Z.1 r := by
  unfold m_doItem m_doItem_c18 m_doItem_c112
  repeat' split
  all_goals first | rfl | exact begin_fr hr _ _ _ | exact layLink_fr hr _ _ _ _ | exact sI_fr (by omega)
set_option maxHeartbeats 4000000 in
set_option maxRecDepth 100000 in
theorem met_m_doItem (l : Launch) (D : va_G) (cs : Nat → ClassId) (m : Nat) (ar : Nat → Nat) (Z : ZT) (sz : Nat) (hB : vp_in (Z.1 9 0) 8) (hO : ¬ Z.1 8 0 = 33 → vp_in (Z.1 10 0) 8) : Met l yX1_doItem (ws_ yX1_doItem cX1_doItem 1 (some .boolean)) ({ frames := 3, cells := 0, slots := 0, locals := 70 }) (va_Pc [.ref m] (wSt D cs (MW m ar cs Z) sz)) (cQi (fun (v : Int32) (u : ZT) => m_doItem Z = (v, u)) D (fun u => MW m ar cs u) (MW m ar cs Z) sz) 0 0 (va_A (MW m ar cs Z) sz) := by
  refine gStart_i (C := RX1) rfl rfl (Nat.le_of_ble_eq_true rfl) ?_
  intro p e s mid args below meth c R Q A hx hb hml hown hts hK hA hRf hRl hRc hRs hret hE ls hl
  have hRf : 3 ≤ R.frames := hRf
  have hRl : 70 ≤ R.locals := hRl
  have hl : lv_has ls 1 [(0, .ref m)] := hl
  have hR : m_doItem Z = (if Z.1 8 0 = (33 : Int32) then m_doItem_c18 (m_begin (ix (Z.1 9 0)) (Z.1 11 0) Z) else (if Z.1 13 (ix (Z.1 9 0)) = 0 then ((0 : Int32), Z) else (if Z.1 8 0 = (42 : Int32) then ((1 : Int32), sI Z 15 (ix (Z.1 9 0)) (Z.1 11 0)) else (if Z.1 13 (ix (Z.1 10 0)) = 0 then ((0 : Int32), Z) else (if (m_eats (ix (Z.1 9 0)) Z) = 0 then ((0 : Int32), Z) else (if Z.1 14 (ix (Z.1 10 0)) = (3 : Int32) then ((0 : Int32), Z) else m_doItem_c112 (m_layLink (ix (Z.1 9 0)) (ix (Z.1 10 0)) (Z.1 11 0) Z))))))) := rfl
  refine lv_aload_n hx hb dX1_doItem_0 rfl (lv_at hl 0 rfl) ?_
  refine mg_8 hx hb hts hown hK hE dX1_doItem_1 ?_
  refine lv_bipush (v := 33) hx hb dX1_doItem_4 rfl ?_
  refine lv_icmp_ne (tgt := 23) hx hb dX1_doItem_6 (by decide) (fun c6 => ?_) (fun c6 => ?_)
  · have hR : m_doItem Z = (if Z.1 13 (ix (Z.1 9 0)) = 0 then ((0 : Int32), Z) else (if Z.1 8 0 = (42 : Int32) then ((1 : Int32), sI Z 15 (ix (Z.1 9 0)) (Z.1 11 0)) else (if Z.1 13 (ix (Z.1 10 0)) = 0 then ((0 : Int32), Z) else (if (m_eats (ix (Z.1 9 0)) Z) = 0 then ((0 : Int32), Z) else (if Z.1 14 (ix (Z.1 10 0)) = (3 : Int32) then ((0 : Int32), Z) else m_doItem_c112 (m_layLink (ix (Z.1 9 0)) (ix (Z.1 10 0)) (Z.1 11 0) Z)))))) := hR.trans (congrArg (fun z => z) (if_neg c6))
    refine lv_aload_n hx hb dX1_doItem_23 rfl (lv_at hl 0 rfl) ?_
    refine mg_13 hx hb hts hown hK hE dX1_doItem_24 ?_
    refine lv_aload_n hx hb dX1_doItem_27 rfl (lv_at hl 0 rfl) ?_
    refine mg_9 hx hb hts hown hK hE dX1_doItem_28 ?_
    have hna28 := vp_ix (x := Z.1 9 0) (N := 8) (hB) (by decide)
    have hna28b := hna28.2
    refine top_nat hna28.1 ?_
    refine ma_13 (n := (ix (Z.1 9 0))) (by omega) hx hb hK hE dX1_doItem_31 ?_
    refine lv_if_ne (tgt := 37) hx hb dX1_doItem_32 (by decide) (fun c32 => ?_) (fun c32 => ?_)
    · have hR : m_doItem Z = (if Z.1 8 0 = (42 : Int32) then ((1 : Int32), sI Z 15 (ix (Z.1 9 0)) (Z.1 11 0)) else (if Z.1 13 (ix (Z.1 10 0)) = 0 then ((0 : Int32), Z) else (if (m_eats (ix (Z.1 9 0)) Z) = 0 then ((0 : Int32), Z) else (if Z.1 14 (ix (Z.1 10 0)) = (3 : Int32) then ((0 : Int32), Z) else m_doItem_c112 (m_layLink (ix (Z.1 9 0)) (ix (Z.1 10 0)) (Z.1 11 0) Z))))) := hR.trans (congrArg (fun z => z) (if_neg c32))
      refine lv_aload_n hx hb dX1_doItem_37 rfl (lv_at hl 0 rfl) ?_
      refine mg_8 hx hb hts hown hK hE dX1_doItem_38 ?_
      refine lv_bipush (v := 42) hx hb dX1_doItem_41 rfl ?_
      refine lv_icmp_ne (tgt := 61) hx hb dX1_doItem_43 (by decide) (fun c43 => ?_) (fun c43 => ?_)
      · have hR : m_doItem Z = (if Z.1 13 (ix (Z.1 10 0)) = 0 then ((0 : Int32), Z) else (if (m_eats (ix (Z.1 9 0)) Z) = 0 then ((0 : Int32), Z) else (if Z.1 14 (ix (Z.1 10 0)) = (3 : Int32) then ((0 : Int32), Z) else m_doItem_c112 (m_layLink (ix (Z.1 9 0)) (ix (Z.1 10 0)) (Z.1 11 0) Z)))) := hR.trans (congrArg (fun z => z) (if_neg c43))
        refine lv_aload_n hx hb dX1_doItem_61 rfl (lv_at hl 0 rfl) ?_
        refine mg_13 hx hb hts hown hK hE dX1_doItem_62 ?_
        refine lv_aload_n hx hb dX1_doItem_65 rfl (lv_at hl 0 rfl) ?_
        refine mg_10 hx hb hts hown hK hE dX1_doItem_66 ?_
        have hna66 := vp_ix (x := Z.1 10 0) (N := 8) (hO c6) (by decide)
        have hna66b := hna66.2
        refine top_nat hna66.1 ?_
        refine ma_13 (n := (ix (Z.1 10 0))) (by omega) hx hb hK hE dX1_doItem_69 ?_
        refine lv_if_eq (tgt := 97) hx hb dX1_doItem_70 (by decide) (fun c70 => ?_) (fun c70 => ?_)
        · have hR : m_doItem Z = ((0 : Int32), Z) := hR.trans (congrArg (fun z => z) (if_pos c70))
          refine lv_iconst (v := 0) hx hb dX1_doItem_97 rfl ?_
          exact hret (0 : Int32) Z hR rfl hE (Nat.le_refl 0) (Nat.le_refl 0) dX1_doItem_98
        · have hR : m_doItem Z = (if (m_eats (ix (Z.1 9 0)) Z) = 0 then ((0 : Int32), Z) else (if Z.1 14 (ix (Z.1 10 0)) = (3 : Int32) then ((0 : Int32), Z) else m_doItem_c112 (m_layLink (ix (Z.1 9 0)) (ix (Z.1 10 0)) (Z.1 11 0) Z))) := hR.trans (congrArg (fun z => z) (if_neg c70))
          refine lv_aload_n hx hb dX1_doItem_73 rfl (lv_at hl 0 rfl) ?_
          refine lv_aload_n hx hb dX1_doItem_74 rfl (lv_at hl 0 rfl) ?_
          refine mg_9 hx hb hts hown hK hE dX1_doItem_75 ?_
          have hna75 := vp_ix (x := Z.1 9 0) (N := 8) (hB) (by decide)
          have hna75b := hna75.2
          refine top_nat hna75.1 ?_
          refine call_m_eats hx hb hml hown hts hK hA hE hl.1 (ix (Z.1 9 0)) (by omega) (lz (show 1 ≤ 3 by decide) hRf) (lz (show 21 ≤ 70 by decide) hRl) (Nat.le_of_ble_eq_true rfl) dX1_doItem_78 (fun H locs hE => ?_)
          refine lv_if_eq (tgt := 97) hx hb dX1_doItem_81 (by decide) (fun c81 => ?_) (fun c81 => ?_)
          · have hR : m_doItem Z = ((0 : Int32), Z) := hR.trans (congrArg (fun z => z) (if_pos c81))
            refine lv_iconst (v := 0) hx hb dX1_doItem_97 rfl ?_
            exact hret (0 : Int32) Z hR rfl hE (Nat.le_refl 0) (Nat.le_refl 0) dX1_doItem_98
          · have hR : m_doItem Z = (if Z.1 14 (ix (Z.1 10 0)) = (3 : Int32) then ((0 : Int32), Z) else m_doItem_c112 (m_layLink (ix (Z.1 9 0)) (ix (Z.1 10 0)) (Z.1 11 0) Z)) := hR.trans (congrArg (fun z => z) (if_neg c81))
            refine lv_aload_n hx hb dX1_doItem_84 rfl (lv_at hl 0 rfl) ?_
            refine mg_14 hx hb hts hown hK hE dX1_doItem_85 ?_
            refine lv_aload_n hx hb dX1_doItem_88 rfl (lv_at hl 0 rfl) ?_
            refine mg_10 hx hb hts hown hK hE dX1_doItem_89 ?_
            have hna89 := vp_ix (x := Z.1 10 0) (N := 8) (hO c6) (by decide)
            have hna89b := hna89.2
            refine top_nat hna89.1 ?_
            refine ma_14 (n := (ix (Z.1 10 0))) (by omega) hx hb hK hE dX1_doItem_92 ?_
            refine lv_iconst (v := 3) hx hb dX1_doItem_93 rfl ?_
            refine lv_icmp_ne (tgt := 99) hx hb dX1_doItem_94 (by decide) (fun c94 => ?_) (fun c94 => ?_)
            · have hR : m_doItem Z = (m_doItem_c112 (m_layLink (ix (Z.1 9 0)) (ix (Z.1 10 0)) (Z.1 11 0) Z)) := hR.trans (congrArg (fun z => z) (if_neg c94))
              refine lv_aload_n hx hb dX1_doItem_99 rfl (lv_at hl 0 rfl) ?_
              refine lv_aload_n hx hb dX1_doItem_100 rfl (lv_at hl 0 rfl) ?_
              refine mg_9 hx hb hts hown hK hE dX1_doItem_101 ?_
              have hna101 := vp_ix (x := Z.1 9 0) (N := 8) (hB) (by decide)
              have hna101b := hna101.2
              refine top_nat hna101.1 ?_
              refine lv_aload_n hx hb dX1_doItem_104 rfl (lv_at hl 0 rfl) ?_
              refine mg_10 hx hb hts hown hK hE dX1_doItem_105 ?_
              have hna105 := vp_ix (x := Z.1 10 0) (N := 8) (hO c6) (by decide)
              have hna105b := hna105.2
              refine top_nat hna105.1 ?_
              refine lv_aload_n hx hb dX1_doItem_108 rfl (lv_at hl 0 rfl) ?_
              refine mg_11 hx hb hts hown hK hE dX1_doItem_109 ?_
              refine call_m_layLink hx hb hml hown hts hK hA hE hl.1 (ix (Z.1 9 0)) (ix (Z.1 10 0)) (Z.1 11 0) (by omega) (by omega) (lz (show 1 ≤ 3 by decide) hRf) (lz (show 25 ≤ 70 by decide) hRl) (Nat.le_of_ble_eq_true rfl) dX1_doItem_112 (fun H locs hE => ?_)
              have hNc112 : ∀ (wc112 : ZT) (hR : m_doItem Z = m_doItem_c112 wc112), ∀ (H : Heap) (locs : List Loc) (ls : Array Slot), EW D A s.heap (MW m ar cs wc112) H locs → lv_has ls 1 [] → W p l e R s mid args below meth c H locs 0 0 Q (F0 mid 115 ls []) := by
                intro wc112 hR H locs ls hE hl
                have hR : m_doItem Z = ((1 : Int32), wc112) := hR
                refine lv_iconst (v := 1) hx hb dX1_doItem_115 rfl ?_
                exact hret (1 : Int32) wc112 hR rfl hE (Nat.le_refl 0) (Nat.le_refl 0) dX1_doItem_116
              exact hNc112 (m_layLink (ix (Z.1 9 0)) (ix (Z.1 10 0)) (Z.1 11 0) Z) hR _ _ _ hE (lv_sub hl [] rfl)
            · have hR : m_doItem Z = ((0 : Int32), Z) := hR.trans (congrArg (fun z => z) (if_pos c94))
              refine lv_iconst (v := 0) hx hb dX1_doItem_97 rfl ?_
              exact hret (0 : Int32) Z hR rfl hE (Nat.le_refl 0) (Nat.le_refl 0) dX1_doItem_98
      · have hR : m_doItem Z = ((1 : Int32), sI Z 15 (ix (Z.1 9 0)) (Z.1 11 0)) := hR.trans (congrArg (fun z => z) (if_pos c43))
        refine lv_aload_n hx hb dX1_doItem_46 rfl (lv_at hl 0 rfl) ?_
        refine mg_15 hx hb hts hown hK hE dX1_doItem_47 ?_
        refine lv_aload_n hx hb dX1_doItem_50 rfl (lv_at hl 0 rfl) ?_
        refine mg_9 hx hb hts hown hK hE dX1_doItem_51 ?_
        have hna51 := vp_ix (x := Z.1 9 0) (N := 8) (hB) (by decide)
        have hna51b := hna51.2
        refine top_nat hna51.1 ?_
        refine lv_aload_n hx hb dX1_doItem_54 rfl (lv_at hl 0 rfl) ?_
        refine mg_11 hx hb hts hown hK hE dX1_doItem_55 ?_
        refine ms_15 (n := (ix (Z.1 9 0))) (by omega) hx hb hK hE dX1_doItem_58 (fun H locs hE => ?_)
        refine lv_iconst (v := 1) hx hb dX1_doItem_59 rfl ?_
        exact hret (1 : Int32) (sI Z 15 (ix (Z.1 9 0)) (Z.1 11 0)) hR rfl hE (Nat.le_refl 0) (Nat.le_refl 0) dX1_doItem_60
    · have hR : m_doItem Z = ((0 : Int32), Z) := hR.trans (congrArg (fun z => z) (if_pos c32))
      refine lv_iconst (v := 0) hx hb dX1_doItem_35 rfl ?_
      exact hret (0 : Int32) Z hR rfl hE (Nat.le_refl 0) (Nat.le_refl 0) dX1_doItem_36
  · have hR : m_doItem Z = (m_doItem_c18 (m_begin (ix (Z.1 9 0)) (Z.1 11 0) Z)) := hR.trans (congrArg (fun z => z) (if_pos c6))
    refine lv_aload_n hx hb dX1_doItem_9 rfl (lv_at hl 0 rfl) ?_
    refine lv_aload_n hx hb dX1_doItem_10 rfl (lv_at hl 0 rfl) ?_
    refine mg_9 hx hb hts hown hK hE dX1_doItem_11 ?_
    have hna11 := vp_ix (x := Z.1 9 0) (N := 8) (hB) (by decide)
    have hna11b := hna11.2
    refine top_nat hna11.1 ?_
    refine lv_aload_n hx hb dX1_doItem_14 rfl (lv_at hl 0 rfl) ?_
    refine mg_11 hx hb hts hown hK hE dX1_doItem_15 ?_
    refine call_m_begin hx hb hml hown hts hK hA hE hl.1 (ix (Z.1 9 0)) (Z.1 11 0) (by omega) (lz (show 3 ≤ 3 by decide) hRf) (lz (show 70 ≤ 70 by decide) hRl) (Nat.le_of_ble_eq_true rfl) dX1_doItem_18 (fun H locs hE => ?_)
    have hNc18 : ∀ (wc18 : ZT) (hR : m_doItem Z = m_doItem_c18 wc18), ∀ (H : Heap) (locs : List Loc) (ls : Array Slot), EW D A s.heap (MW m ar cs wc18) H locs → lv_has ls 1 [] → W p l e R s mid args below meth c H locs 0 0 Q (F0 mid 21 ls []) := by
      intro wc18 hR H locs ls hE hl
      have hR : m_doItem Z = ((1 : Int32), wc18) := hR
      refine lv_iconst (v := 1) hx hb dX1_doItem_21 rfl ?_
      exact hret (1 : Int32) wc18 hR rfl hE (Nat.le_refl 0) (Nat.le_refl 0) dX1_doItem_22
    exact hNc18 (m_begin (ix (Z.1 9 0)) (Z.1 11 0) Z) hR _ _ _ hE (lv_sub hl [] rfl)
section C_doItem
variable {p : Program} {l : Launch} {e : Env} {R : Room} {s : State} {mid : MethodId} {args : Array Value} {below : List Frame} {meth : Method} {c : Code} {H : Heap} {locs : List Loc} {Q : State → Prop} {cc : ByteArray} {pc : Nat} {ls : Array Slot} {rest : List Value} {D : va_G} {A : Nat → Prop} {m : Nat} {ar : Nat → Nat} {cs : Nat → ClassId} {Z : ZT} {nL : Nat}
theorem call_m_doItem (hx : p.tables.exec = Jvm.exec) (hb : c.code = cc) (hml : c.maxLocals = nL) (hown : s.vm.findClass RX1 = some mid.cls) (hts : ∀ w ∈ lw_all, w.before args s = true) (hK : KK D cs s) (hA : ∀ q : Nat, s.heap.size ≤ q → A q) (hE : EW D A s.heap (MW m ar cs Z) H locs) (hls : ls.size = nL) (hB : vp_in (Z.1 9 0) 8) (hO : ¬ Z.1 8 0 = 33 → vp_in (Z.1 10 0) 8) (h1 : 4 ≤ R.frames) (h2 : 90 ≤ R.locals) (h3 : (rest.map fun v => v.category).sum ≤ 8) (hd : decode cc pc = .ok (.invokevirtual 160, 3)) (kk : ∀ (H1 : Heap) (locs1 : List Loc), EW D A s.heap (MW m ar cs (m_doItem Z).2) H1 locs1 → W p l e R s mid args below meth c H1 locs1 0 0 Q (F0 mid (pc + 3) ls (.int (m_doItem Z).1 :: rest))) : W p l e R s mid args below meth c H locs 0 0 Q (F0 mid pc ls (.ref m :: rest)) :=
  gCall_i (As := []) (rest := rest) (q0 := 0) (ci := 1) (fs := MF ar Z) (T' := TX1) (N' := 52) hx hb hml hown hts hK hA hE hls (met_m_doItem l D cs m ar Z H.size hB hO) (cwV 0 hts (lw_V q1156 q1158 qs47 q85 q1159) rfl rfl rfl (by decide +kernel) ⟨h1, h2⟩) rfl rfl rfl rfl h3 hd ⟨Nat.zero_le _, Nat.zero_le _⟩ (fun v u H1 locs1 hp _ hE => by rw [hp] at kk; exact kk H1 locs1 hE)
end C_doItem
def m_read_j93 (w41 : Int32 × Nat × ZT) (wc71 : Int32 × ZT) (wc82 : Int32 × ZT) (w93 : Int32) : Bool × (Int32 × Nat × ZT) := (true, ((w41.1 + w93), (ix (wc71.2.1 12 0)), wc82.2))
def m_read_c82 (w41 : Int32 × Nat × ZT) (wc71 : Int32 × ZT) (wc82 : Int32 × ZT) : Bool × (Int32 × Nat × ZT) := m_read_j93 w41 wc71 wc82 (if wc82.1 = 0 then (0 : Int32) else (1 : Int32))
def m_read_c71 (w41 : Int32 × Nat × ZT) (wc71 : Int32 × ZT) : Bool × (Int32 × Nat × ZT) := m_read_c82 w41 wc71 (m_doItem wc71.2)
def m_read_b41 (p1 : Int32) (w41 : Int32 × Nat × ZT) : Bool × (Int32 × Nat × ZT) := (if w41.2.2.1 5 (ix p1) ≤ nI w41.2.1 then (false, (w41.1, w41.2.1, w41.2.2)) else (if (m_at (ix p1) w41.2.1 w41.2.2) = (32 : Int32) then (true, (w41.1, (w41.2.1 + 1), w41.2.2)) else m_read_c71 w41 (m_item (ix p1) w41.2.1 w41.2.2)))
def m_read_e41 (w41 : Int32 × Nat × ZT) : Int32 × ZT := (w41.1, w41.2.2)
def m_read_c26 (p1 : Int32) (wc26 : Int32 × ZT) : Int32 × ZT := (if wc26.1 = (-9 : Int32) then m_read_e41 (wlR (m_read_b41 p1) 62 ((0 : Int32), 0, wc26.2)) else ((-4 : Int32), wc26.2))
def m_read (p1 : Int32) (Z : ZT) : Int32 × ZT := (if (m_isText p1) = 0 then ((-1 : Int32), Z) else (if 0 ≤ Z.1 5 (ix p1) then m_read_c26 p1 (m_faultOf (ix p1) Z) else (m_meets 1 Z)))
set_option maxHeartbeats 4000000 in
set_option maxRecDepth 100000 in
theorem met_m_read (l : Launch) (D : va_G) (cs : Nat → ClassId) (m : Nat) (ar : Nat → Nat) (Z : ZT) (sz : Nat) (p1 : Int32) (hT : ∀ t : Nat, t < 4 → (Z.1 5 t).toInt ≤ 60) : Met l yX1_read (ws_ yX1_read cX1_read 4 (some .int)) ({ frames := 5, cells := 0, slots := 0, locals := 115 }) (va_Pc [.ref m, .int p1] (wSt D cs (MW m ar cs Z) sz)) (cQi (fun (v : Int32) (u : ZT) => m_read p1 Z = (v, u)) D (fun u => MW m ar cs u) (MW m ar cs Z) sz) 0 0 (va_A (MW m ar cs Z) sz) := by
  refine gStart_i (C := RX1) rfl rfl (Nat.le_of_ble_eq_true rfl) ?_
  intro p e s mid args below meth c R Q A hx hb hml hown hts hK hA hRf hRl hRc hRs hret hE ls hl
  have hRf : 5 ≤ R.frames := hRf
  have hRl : 115 ≤ R.locals := hRl
  have hl : lv_has ls 4 [(0, .ref m), (1, .int p1)] := hl
  have hR : m_read p1 Z = (if (m_isText p1) = 0 then ((-1 : Int32), Z) else (if 0 ≤ Z.1 5 (ix p1) then m_read_c26 p1 (m_faultOf (ix p1) Z) else (m_meets 1 Z))) := rfl
  refine lv_iload_n hx hb dX1_read_0 rfl (lv_at hl 1 rfl) ?_
  refine call_m_isText hx hb hml hown hts hK hA hE hl.1 p1 (lz (show 2 ≤ 5 by decide) hRf) (lz (show 42 ≤ 115 by decide) hRl) (Nat.le_of_ble_eq_true rfl) dX1_read_1 (fun H locs hE => ?_)
  refine lv_if_ne (tgt := 9) hx hb dX1_read_4 (by decide) (fun c4 => ?_) (fun c4 => ?_)
  · have hR : m_read p1 Z = (if 0 ≤ Z.1 5 (ix p1) then m_read_c26 p1 (m_faultOf (ix p1) Z) else (m_meets 1 Z)) := hR.trans (congrArg (fun z => z) (if_neg c4))
    have hnp1 := vp_ix (x := p1) (N := 4) (isText_vp c4) (by decide)
    have hbnp1 := hnp1.2
    refine lv_aload_n hx hb dX1_read_9 rfl (lv_at hl 0 rfl) ?_
    refine mg_5 hx hb hts hown hK hE dX1_read_10 ?_
    refine lv_iload_n hx hb dX1_read_13 rfl (lv_at hl 1 rfl) ?_
    refine top_nat hnp1.1 ?_
    refine ma_5 (n := (ix p1)) (by omega) hx hb hK hE dX1_read_14 ?_
    refine lv_if_ge (tgt := 24) hx hb dX1_read_15 (by decide) (fun c15 => ?_) (fun c15 => ?_)
    · have hR : m_read p1 Z = (m_read_c26 p1 (m_faultOf (ix p1) Z)) := hR.trans (congrArg (fun z => z) (if_pos c15))
      refine lv_aload_n hx hb dX1_read_24 rfl (lv_at hl 0 rfl) ?_
      refine lv_iload_n hx hb dX1_read_25 rfl (lv_at hl 1 rfl) ?_
      refine top_nat hnp1.1 ?_
      refine call_m_faultOf hx hb hml hown hts hK hA hE hl.1 (ix p1) (by omega) (hT _ hbnp1) (lz (show 5 ≤ 5 by decide) hRf) (lz (show 115 ≤ 115 by decide) hRl) (Nat.le_of_ble_eq_true rfl) dX1_read_26 (fun H locs hE => ?_)
      have hNc26 : ∀ (wc26 : Int32 × ZT) (hewc26 : wc26 = m_faultOf (ix p1) Z) (hR : m_read p1 Z = m_read_c26 p1 wc26), ∀ (H : Heap) (locs : List Loc) (ls : Array Slot), EW D A s.heap (MW m ar cs wc26.2) H locs → lv_has ls 4 [(0, .ref m), (1, .int p1)] → W p l e R s mid args below meth c H locs 0 0 Q (F0 mid 29 ls [.int wc26.1]) := by
        intro wc26 hewc26 hR H locs ls hE hl
        have hR : m_read p1 Z = (if wc26.1 = (-9 : Int32) then m_read_e41 (wlR (m_read_b41 p1) 62 ((0 : Int32), 0, wc26.2)) else ((-4 : Int32), wc26.2)) := hR
        refine lv_bipush (v := -9) hx hb dX1_read_29 rfl ?_
        refine lv_icmp_eq (tgt := 37) hx hb dX1_read_31 (by decide) (fun c31 => ?_) (fun c31 => ?_)
        · have hR : m_read p1 Z = (m_read_e41 (wlR (m_read_b41 p1) 62 ((0 : Int32), 0, wc26.2))) := hR.trans (congrArg (fun z => z) (if_pos c31))
          have hg0 := read_start (t := ix p1) (Z := Z) (by rw [← hewc26]; exact c31) (hT _ hbnp1) c15
          have hT26 : (wc26.2.1 5 (ix p1)).toInt ≤ (60 : Nat) := by rw [hewc26, (faultOf_spec (hT _ hbnp1)).1 5 (Or.inl (by decide))]; exact hT _ hbnp1
          refine lv_iconst (v := 0) hx hb dX1_read_37 rfl ?_
          refine lv_istore_n (lv' := [(2, .int (0 : Int32)), (0, .ref m), (1, .int p1)]) hx hb dX1_read_38 rfl hl (by decide) rfl (fun ls hl => ?_)
          refine lv_iconst (v := 0) hx hb dX1_read_39 rfl ?_
          refine lv_istore_n (lv' := [(3, .int (0 : Int32)), (2, .int (0 : Int32)), (0, .ref m), (1, .int p1)]) hx hb dX1_read_40 rfl hl (by decide) rfl (fun ls hl => ?_)
          have hX41 : ∀ (w41 : Int32 × Nat × ZT) (hb41 : w41.2.1 ≤ 60) (hf41 : ∀ r : Nat, r < 8 → w41.2.2.1 r = wc26.2.1 r) (hg41 : GF (mch (ix p1) wc26.2) (wc26.2.1 5 (ix p1)) w41.2.1) (hR : m_read p1 Z = m_read_e41 w41), ∀ (H : Heap) (locs : List Loc) (ls : Array Slot), EW D A s.heap (MW m ar cs w41.2.2) H locs → lv_has ls 4 [(2, .int w41.1)] → W p l e R s mid args below meth c H locs 0 0 Q (F0 mid 98 ls []) := by
            intro w41 hb41 hf41 hg41 hR H locs ls hE hl
            have hR : m_read p1 Z = (w41.1, w41.2.2) := hR
            refine lv_iload_n hx hb dX1_read_98 rfl (lv_at hl 0 rfl) ?_
            exact hret w41.1 w41.2.2 hR rfl hE (Nat.le_refl 0) (Nat.le_refl 0) dX1_read_99
          have hL41 : ∀ (n : Nat) (w41 : Int32 × Nat × ZT) (hm41 : 61 - w41.2.1 < n) (hb41 : w41.2.1 ≤ 60) (hf41 : ∀ r : Nat, r < 8 → w41.2.2.1 r = wc26.2.1 r) (hg41 : GF (mch (ix p1) wc26.2) (wc26.2.1 5 (ix p1)) w41.2.1) (hR : m_read p1 Z = m_read_e41 (wlR (m_read_b41 p1) n w41)), ∀ (H : Heap) (locs : List Loc) (ls : Array Slot), EW D A s.heap (MW m ar cs w41.2.2) H locs → lv_has ls 4 [(0, .ref m), (1, .int p1), (2, .int w41.1), (3, .int (nI w41.2.1))] → W p l e R s mid args below meth c H locs 0 0 Q (F0 mid 41 ls []) := by
            intro n
            induction n with
            | zero =>
              intro w41 hm41
              exact absurd hm41 (Nat.not_lt_zero _)
            | succ n ih41 =>
              intro w41 hm41 hb41 hf41 hg41 hR H locs ls hE hl
              have hB41 : m_read_b41 p1 w41 = (if w41.2.2.1 5 (ix p1) ≤ nI w41.2.1 then (false, (w41.1, w41.2.1, w41.2.2)) else (if (m_at (ix p1) w41.2.1 w41.2.2) = (32 : Int32) then (true, (w41.1, (w41.2.1 + 1), w41.2.2)) else m_read_c71 w41 (m_item (ix p1) w41.2.1 w41.2.2))) := rfl
              refine lv_iload_n hx hb dX1_read_41 rfl (lv_at hl 3 rfl) ?_
              refine lv_aload_n hx hb dX1_read_42 rfl (lv_at hl 0 rfl) ?_
              refine mg_5 hx hb hts hown hK hE dX1_read_43 ?_
              refine lv_iload_n hx hb dX1_read_46 rfl (lv_at hl 1 rfl) ?_
              refine top_nat hnp1.1 ?_
              refine ma_5 (n := (ix p1)) (by omega) hx hb hK hE dX1_read_47 ?_
              refine lv_icmp_ge (tgt := 98) hx hb dX1_read_48 (by decide) (fun c48 => ?_) (fun c48 => ?_)
              · have hB41 : m_read_b41 p1 w41 = (false, (w41.1, w41.2.1, w41.2.2)) := hB41.trans (congrArg (fun z => z) (if_pos c48))
                exact hX41 (w41.1, w41.2.1, w41.2.2) (by exact hb41) (by exact hf41) (by exact hg41) (hR.trans (congrArg (fun z => m_read_e41 z) (wl_f hB41))) _ _ _ hE (lv_sub hl [2] rfl)
              · have hB41 : m_read_b41 p1 w41 = (if (m_at (ix p1) w41.2.1 w41.2.2) = (32 : Int32) then (true, (w41.1, (w41.2.1 + 1), w41.2.2)) else m_read_c71 w41 (m_item (ix p1) w41.2.1 w41.2.2)) := hB41.trans (congrArg (fun z => z) (if_neg c48))
                have hT41 : (w41.2.2.1 5 (ix p1)).toInt ≤ 60 := by rw [hf41 5 (by decide)]; exact hT26
                have hi60 : w41.2.1 < 60 := nlt_of c48 (by omega) hT41
                refine lv_aload_n hx hb dX1_read_51 rfl (lv_at hl 0 rfl) ?_
                refine lv_iload_n hx hb dX1_read_52 rfl (lv_at hl 1 rfl) ?_
                refine top_nat hnp1.1 ?_
                refine lv_iload_n hx hb dX1_read_53 rfl (lv_at hl 3 rfl) ?_
                refine call_m_at hx hb hml hown hts hK hA hE hl.1 (ix p1) w41.2.1 (by omega) (by omega) (hT41) (lz (show 1 ≤ 5 by decide) hRf) (lz (show 22 ≤ 115 by decide) hRl) (Nat.le_of_ble_eq_true rfl) dX1_read_54 (fun H locs hE => ?_)
                refine lv_bipush (v := 32) hx hb dX1_read_57 rfl ?_
                refine lv_icmp_ne (tgt := 68) hx hb dX1_read_59 (by decide) (fun c59 => ?_) (fun c59 => ?_)
                · have hB41 : m_read_b41 p1 w41 = (m_read_c71 w41 (m_item (ix p1) w41.2.1 w41.2.2)) := hB41.trans (congrArg (fun z => z) (if_neg c59))
                  have hgi := read_item (mch_congr (hf41 5 (by decide)) (hf41 6 (by decide))) (congrFun (hf41 5 (by decide)) _) hi60 hT41 c48 c59 hg41
                  refine lv_aload_n hx hb dX1_read_68 rfl (lv_at hl 0 rfl) ?_
                  refine lv_iload_n hx hb dX1_read_69 rfl (lv_at hl 1 rfl) ?_
                  refine top_nat hnp1.1 ?_
                  refine lv_iload_n hx hb dX1_read_70 rfl (lv_at hl 3 rfl) ?_
                  refine call_m_item hx hb hml hown hts hK hA hE hl.1 (ix p1) w41.2.1 (by omega) (by omega) (hT41) (lz (show 4 ≤ 5 by decide) hRf) (lz (show 92 ≤ 115 by decide) hRl) (Nat.le_of_ble_eq_true rfl) dX1_read_71 (fun H locs hE => ?_)
                  have hNc71 : ∀ (wc71 : Int32 × ZT) (hewc71 : wc71 = m_item (ix p1) w41.2.1 w41.2.2) (hB41 : m_read_b41 p1 w41 = m_read_c71 w41 wc71), ∀ (H : Heap) (locs : List Loc) (ls : Array Slot), EW D A s.heap (MW m ar cs wc71.2) H locs → lv_has ls 4 [(0, .ref m), (1, .int p1), (2, .int w41.1)] → W p l e R s mid args below meth c H locs 0 0 Q (F0 mid 74 ls [.int wc71.1]) := by
                    intro wc71 hewc71 hB41 H locs ls hE hl
                    have hB41 : m_read_b41 p1 w41 = (m_read_c82 w41 wc71 (m_doItem wc71.2)) := hB41
                    have hv71 : vp_in (wc71.2.1 12 0) 61 := by rw [hewc71]; exact hgi.1
                    have hx71 : w41.2.1 < ix (wc71.2.1 12 0) ∧ ix (wc71.2.1 12 0) ≤ 60 := by rw [hewc71]; exact hgi.2.1
                    have hokB : vp_in (wc71.2.1 9 0) 8 := by rw [hewc71]; exact hgi.2.2.1
                    have hokO : ¬ wc71.2.1 8 0 = 33 → vp_in (wc71.2.1 10 0) 8 := by rw [hewc71]; exact hgi.2.2.2.1
                    have hg71 : GF (mch (ix p1) wc26.2) (wc26.2.1 5 (ix p1)) (ix (wc71.2.1 12 0)) := by rw [hewc71]; exact hgi.2.2.2.2
                    have hf71 : ∀ r : Nat, r < 8 → wc71.2.1 r = wc26.2.1 r := fun r hr => by rw [hewc71, (item_spec (ix p1) w41.2.1 (by omega) w41.2.2).2.1 r (Or.inl hr)]; exact hf41 r hr
                    refine lv_pop hx hb dX1_read_74 rfl ?_
                    refine lv_aload_n hx hb dX1_read_75 rfl (lv_at hl 0 rfl) ?_
                    refine mg_12 hx hb hts hown hK hE dX1_read_76 ?_
                    have hna76 := vp_ix (x := wc71.2.1 12 0) (N := 61) (hv71) (by decide)
                    have hna76b := hna76.2
                    refine top_nat hna76.1 ?_
                    refine lv_istore_n (lv' := [(3, .int (nI (ix (wc71.2.1 12 0)))), (0, .ref m), (1, .int p1), (2, .int w41.1)]) hx hb dX1_read_79 rfl hl (by decide) rfl (fun ls hl => ?_)
                    refine lv_iload_n hx hb dX1_read_80 rfl (lv_at hl 3 rfl) ?_
                    refine lv_aload_n hx hb dX1_read_81 rfl (lv_at hl 1 rfl) ?_
                    refine call_m_doItem hx hb hml hown hts hK hA hE hl.1 (hokB) (hokO) (lz (show 4 ≤ 5 by decide) hRf) (lz (show 90 ≤ 115 by decide) hRl) (Nat.le_of_ble_eq_true rfl) dX1_read_82 (fun H locs hE => ?_)
                    have hNc82 : ∀ (wc82 : Int32 × ZT) (hewc82 : wc82 = m_doItem wc71.2) (hB41 : m_read_b41 p1 w41 = m_read_c82 w41 wc71 wc82), ∀ (H : Heap) (locs : List Loc) (ls : Array Slot), EW D A s.heap (MW m ar cs wc82.2) H locs → lv_has ls 4 [(0, .ref m), (1, .int p1), (3, .int (nI (ix (wc71.2.1 12 0))))] → W p l e R s mid args below meth c H locs 0 0 Q (F0 mid 85 ls [.int wc82.1, .int w41.1]) := by
                      intro wc82 hewc82 hB41 H locs ls hE hl
                      have hB41 : m_read_b41 p1 w41 = (m_read_j93 w41 wc71 wc82 (if wc82.1 = 0 then (0 : Int32) else (1 : Int32))) := hB41
                      have hJ93 : ∀ (w93 : Int32) (hB41 : m_read_b41 p1 w41 = m_read_j93 w41 wc71 wc82 w93), ∀ (H : Heap) (locs : List Loc) (ls : Array Slot), EW D A s.heap (MW m ar cs wc82.2) H locs → lv_has ls 4 [(0, .ref m), (1, .int p1), (3, .int (nI (ix (wc71.2.1 12 0))))] → W p l e R s mid args below meth c H locs 0 0 Q (F0 mid 93 ls [.int w93, .int w41.1]) := by
                        intro w93 hB41 H locs ls hE hl
                        have hB41 : m_read_b41 p1 w41 = (true, ((w41.1 + w93), (ix (wc71.2.1 12 0)), wc82.2)) := hB41
                        have hf82 : ∀ r : Nat, r < 8 → wc82.2.1 r = wc26.2.1 r := fun r hr => by rw [hewc82, doItem_fr (by omega)]; exact hf71 r hr
                        refine lv_iadd hx hb dX1_read_93 ?_
                        refine lv_istore_n (lv' := [(2, .int (w41.1 + w93)), (0, .ref m), (1, .int p1), (3, .int (nI (ix (wc71.2.1 12 0))))]) hx hb dX1_read_94 rfl hl (by decide) rfl (fun ls hl => ?_)
                        refine lv_goto (tgt := 41) hx hb dX1_read_95 (by decide) ?_
                        exact ih41 ((w41.1 + w93), (ix (wc71.2.1 12 0)), wc82.2) (by first | (show 61 - (w41.2.1 + 1) < n; omega) | (show 61 - ix (wc71.2.1 12 0) < n; omega)) (by first | (show w41.2.1 + 1 ≤ 60; omega) | exact hx71.2) (by first | exact hf41 | exact hf82) (by first | exact hg71 | exact read_sp (mch_congr (hf41 5 (by decide)) (hf41 6 (by decide))) (by rw [← hf41 5 (by decide)]; exact c48) c59 (by omega) hg41) (hR.trans (congrArg (fun z => m_read_e41 z) (wl_t hB41))) _ _ _ hE (lv_sub hl [1, 2, 0, 3] rfl)
                      refine lv_if_eq (tgt := 92) hx hb dX1_read_85 (by decide) (fun c85 => ?_) (fun c85 => ?_)
                      · have hB41 : m_read_b41 p1 w41 = m_read_j93 w41 wc71 wc82 (0 : Int32) := hB41.trans (congrArg (fun z => m_read_j93 w41 wc71 wc82 z) (if_pos c85))
                        refine lv_iconst (v := 0) hx hb dX1_read_92 rfl ?_
                        exact hJ93 (0 : Int32)  hB41 _ _ _ hE (lv_sub hl [0, 1, 2] rfl)
                      · have hB41 : m_read_b41 p1 w41 = m_read_j93 w41 wc71 wc82 (1 : Int32) := hB41.trans (congrArg (fun z => m_read_j93 w41 wc71 wc82 z) (if_neg c85))
                        refine lv_iconst (v := 1) hx hb dX1_read_88 rfl ?_
                        refine lv_goto (tgt := 93) hx hb dX1_read_89 (by decide) ?_
                        exact hJ93 (1 : Int32)  hB41 _ _ _ hE (lv_sub hl [0, 1, 2] rfl)
                    exact hNc82 (m_doItem wc71.2) rfl hB41 _ _ _ hE (lv_sub hl [1, 2, 0] rfl)
                  exact hNc71 (m_item (ix p1) w41.2.1 w41.2.2) rfl hB41 _ _ _ hE (lv_sub hl [0, 1, 2] rfl)
                · have hB41 : m_read_b41 p1 w41 = (true, (w41.1, (w41.2.1 + 1), w41.2.2)) := hB41.trans (congrArg (fun z => z) (if_pos c59))
                  refine n_inc (lv' := [(3, .int (nI (w41.2.1 + 1))), (0, .ref m), (1, .int p1), (2, .int w41.1)]) hx hb dX1_read_62 hl (k := 3) rfl (by decide) rfl (fun ls hl => ?_)
                  refine lv_goto (tgt := 41) hx hb dX1_read_65 (by decide) ?_
                  exact ih41 (w41.1, (w41.2.1 + 1), w41.2.2) (by first | (show 61 - (w41.2.1 + 1) < n; omega) | (show 61 - ix (wc71.2.1 12 0) < n; omega)) (by first | (show w41.2.1 + 1 ≤ 60; omega) | exact hx71.2) (by first | exact hf41 | exact hf82) (by first | exact hg71 | exact read_sp (mch_congr (hf41 5 (by decide)) (hf41 6 (by decide))) (by rw [← hf41 5 (by decide)]; exact c48) c59 (by omega) hg41) (hR.trans (congrArg (fun z => m_read_e41 z) (wl_t hB41))) _ _ _ hE (lv_sub hl [1, 2, 3, 0] rfl)
          exact hL41 62 ((0 : Int32), 0, wc26.2) (by show 61 - 0 < 62; decide) (by exact Nat.zero_le _) (by exact fun r hr => rfl) (by rw [hewc26]; exact hg0) hR _ _ _ hE (lv_sub hl [2, 3, 1, 0] rfl)
        · have hR : m_read p1 Z = ((-4 : Int32), wc26.2) := hR.trans (congrArg (fun z => z) (if_neg c31))
          refine lv_bipush (v := -4) hx hb dX1_read_34 rfl ?_
          exact hret (-4 : Int32) wc26.2 hR rfl hE (Nat.le_refl 0) (Nat.le_refl 0) dX1_read_36
      exact hNc26 (m_faultOf (ix p1) Z) rfl hR _ _ _ hE (lv_sub hl [0, 1] rfl)
    · have hR : m_read p1 Z = (m_meets 1 Z) := hR.trans (congrArg (fun z => z) (if_neg c15))
      refine lv_aload_n hx hb dX1_read_18 rfl (lv_at hl 0 rfl) ?_
      refine lv_iconst (v := 1) hx hb dX1_read_19 rfl ?_
      refine call_m_meets hx hb hml hown hts hK hA hE hl.1 1 (by omega) (lz (show 1 ≤ 5 by decide) hRf) (lz (show 21 ≤ 115 by decide) hRl) (Nat.le_of_ble_eq_true rfl) dX1_read_20 (fun H locs hE => ?_)
      exact hret ((m_meets 1 Z).1) ((m_meets 1 Z).2) hR rfl hE (Nat.le_refl 0) (Nat.le_refl 0) dX1_read_23
  · have hR : m_read p1 Z = ((-1 : Int32), Z) := hR.trans (congrArg (fun z => z) (if_pos c4))
    refine lv_iconst (v := -1) hx hb dX1_read_7 rfl ?_
    exact hret (-1 : Int32) Z hR rfl hE (Nat.le_refl 0) (Nat.le_refl 0) dX1_read_8
