/-! the twin: minors, the digest -/
set_option maxRecDepth 100000
theorem sw_out1_3 {x : Int32} (h1 : ¬ x = 1) (h2 : ¬ x = 2) (h3 : ¬ x = 3) : x.toInt < 1 ∨ 3 < x.toInt := by
  have e1 : x.toInt ≠ 1 := fun q => h1 (Int32.toInt_inj.mp (by rw [q]; rfl))
  have e2 : x.toInt ≠ 2 := fun q => h2 (Int32.toInt_inj.mp (by rw [q]; rfl))
  have e3 : x.toInt ≠ 3 := fun q => h3 (Int32.toInt_inj.mp (by rw [q]; rfl))
  omega
def pcN (g : Int32) : Nat → Nat
  | 0 => 0
  | n + 1 => pcN g n + (if bt g n = true then 1 else 0)
theorem pcN_le (g : Int32) : ∀ n, pcN g n ≤ n := by
  intro n
  induction n with
  | zero => exact Nat.le_refl 0
  | succ n ih => simp only [pcN]; split <;> omega
theorem pcN_mono (g : Int32) {a : Nat} : ∀ b, a ≤ b → pcN g a ≤ pcN g b := by
  intro b
  induction b with
  | zero => intro h; rw [Nat.le_zero.mp h]; exact Nat.le_refl _
  | succ b ih =>
    intro h
    by_cases e : a = b + 1
    · subst e; exact Nat.le_refl _
    · have := ih (by omega)
      simp only [pcN]
      omega
theorem bitsOf_pc (g : Int32) : m_bitsOf g = nI (pcN g 8) := by
  unfold m_bitsOf m_bitsOf_e4
  refine itR_inv (n := 8) (P := fun (i : Nat) (w : Int32) => w = nI (pcN g i)) (fun i s hi hs => ?_) 8 0 _ rfl rfl
  show s + ((g >>> (nI i &&& 31)) &&& 1) = nI (pcN g (i + 1))
  rw [hs, b_sh1 g (by omega)]
  simp only [pcN]
  cases bt g i
  · show nI (pcN g i) + 0 = nI (pcN g i + 0)
    rw [Int32.add_zero, Nat.add_zero]
  · exact nI_1 _
theorem mo_lt {g : Int32} {k i : Nat} (hb : m_bitsOf g = nI k) (hk : k < 5) (hi : i < 8) (hh : ¬ m_has g i = 0) : pcN g i < 4 := by
  rw [bitsOf_pc] at hb
  have e : pcN g 8 = k := (nI_eq (by have := pcN_le g 8; omega) (by omega)).mp hb
  have h1 : bt g i = true := by
    cases q : bt g i
    · exact absurd ((m_has_0 (by omega)).mpr q) hh
    · rfl
  have h2 := pcN_mono g 8 (show i + 1 ≤ 8 by omega)
  simp only [pcN, h1, if_true] at h2
  have e2 : pcN g 8 = k := e
  simp only [pcN] at e2 h2
  omega
theorem pc_same {g : Int32} {n i : Nat} (h : n = pcN g i) (hi : i < 8) (hh : m_has g i = 0) : n = pcN g (i + 1) := by
  have h1 := (m_has_0 (by omega)).mp hh
  simp only [pcN, h1]
  exact h
theorem pc_next {g : Int32} {n i : Nat} (h : n = pcN g i) (hi : i < 8) (hh : ¬ m_has g i = 0) : n + 1 = pcN g (i + 1) := by
  have h1 : bt g i = true := by
    cases q : bt g i
    · exact absurd ((m_has_0 (by omega)).mpr q) hh
    · rfl
  simp only [pcN, h1, if_true]
  rw [h]
theorem pk_upd {Z : ZT} {n i : Nat} (h : ∀ k : Nat, k < 4 → vp_in (Z.1 49 k) 8) (hi : i < 8) : ∀ k : Nat, k < 4 → vp_in ((sI Z 49 n (nI i)).1 49 k) 8 := by
  intro k hk
  show vp_in (upd (Z.1 49) n (nI i) k) 8
  unfold upd
  split
  · exact vp_in_nI hi (by decide)
  · exact h k hk
theorem sh_wide17 {x : Int32} {wd : Nat} (h : wd ≤ 4) (hx : x = nI wd) : vp_in ((1 : Int32) <<< (x &&& 31)) 17 := by
  subst hx
  rcases (show wd = 0 ∨ wd = 1 ∨ wd = 2 ∨ wd = 3 ∨ wd = 4 by omega) with rfl | rfl | rfl | rfl | rfl <;> exact vp_in_iff.mpr ⟨by decide +kernel, by decide +kernel⟩
def SP (Z : ZT) : Prop := (∃ wd : Nat, wd ≤ 4 ∧ Z.1 43 0 = nI wd) ∧ ∀ k : Nat, k < 4 → vp_in (Z.1 49 k) 8
theorem layTable_49 (Z : ZT) : (m_layTable Z).1 49 = Z.1 49 := by
  unfold m_layTable m_layTable_e7 m_layTable_e50
  have h1 : (itR m_layTable_b7 0 8 (sI Z 43 0 0)).1 49 = Z.1 49 := by
    refine itR_ind (P := fun s : ZT => s.1 49 = Z.1 49) (fun i s hs => ?_) 8 0 _ rfl
    unfold m_layTable_b7 m_layTable_j42
    split
    · exact hs
    · exact hs
  generalize itR m_layTable_b7 0 8 (sI Z 43 0 0) = w at h1
  have h2 : (itR (m_layTable_b50 w) 0 (ix (w.1 43 0)) w).1 = w.1 := by
    refine itR_ind (P := fun s : ZT => s.1 = w.1) (fun i s hs => ?_) _ _ _ rfl
    unfold m_layTable_b50 m_layTable_e60
    exact itR_ind (f := m_layTable_b60 i) (P := fun s : ZT => s.1 = w.1) (fun i2 s2 hs2 => hs2) _ _ _ hs
  rw [h2]
  exact h1
theorem layTable_SP {Z : ZT} (h : ∀ k : Nat, k < 4 → vp_in (Z.1 49 k) 8) (hc : ¬ m_in ((m_layTable Z).1 43 0) 1 4 = 0) : SP (m_layTable Z) := by
  obtain ⟨wd, h8, hw⟩ := layTable_W Z
  refine ⟨⟨wd, ?_, hw⟩, by rw [layTable_49]; exact h⟩
  have := (m_in_bd hc).2
  rw [hw, nI_toInt (by omega), show (4 : Int32).toInt = 4 from rfl] at this
  omega
theorem tell_fst (v : Int64) (Z : ZT) : (m_tell v Z).1 = Z.1 := rfl
theorem tellBeing_fst (b : Nat) (Z : ZT) : (m_tellBeing b Z).1 = Z.1 := by
  unfold m_tellBeing
  have h0 : (itR (m_tellBeing_b2 b) 0 6 Z).1 = Z.1 := itR_ind (f := m_tellBeing_b2 b) (P := fun s : ZT => s.1 = Z.1) (fun i s hs => by
    show (m_tellBeing_b2 b i s).1 = Z.1
    unfold m_tellBeing_b2 m_tellBeing_c16
    rw [tell_fst]; exact hs) _ _ _ rfl
  generalize itR (m_tellBeing_b2 b) 0 6 Z = a at h0
  have h180 : ∀ u : ZT, u.1 = Z.1 → (itR (m_tellBeing_b180 b) 0 8 u).1 = Z.1 := fun u hu => itR_ind (f := m_tellBeing_b180 b) (P := fun s : ZT => s.1 = Z.1) (fun i s hs => by
    show (m_tellBeing_b180 b i s).1 = Z.1
    unfold m_tellBeing_b180 m_tellBeing_j211
    split
    · exact hs
    · rw [tell_fst]; exact hs) _ _ _ hu
  have h117 : ∀ u : ZT, u.1 = Z.1 → (itR (m_tellBeing_b117 b) 0 8 u).1 = Z.1 := fun u hu => itR_ind (f := m_tellBeing_b117 b) (P := fun s : ZT => s.1 = Z.1) (fun i s hs => by
    show (m_tellBeing_b117 b i s).1 = Z.1
    unfold m_tellBeing_b117 m_tellBeing_c138 m_tellBeing_j172
    split
    · rw [tell_fst]; exact hs
    · unfold m_tellBeing_c158
      rw [tell_fst, tell_fst, tell_fst]; exact hs) _ _ _ hu
  have h89 : ∀ u : ZT, u.1 = Z.1 → (itR (m_tellBeing_b89 b) 0 4 u).1 = Z.1 := fun u hu => itR_ind (f := m_tellBeing_b89 b) (P := fun s : ZT => s.1 = Z.1) (fun i s hs => by
    show (m_tellBeing_b89 b i s).1 = Z.1
    unfold m_tellBeing_b89 m_tellBeing_c106
    rw [tell_fst]; exact hs) _ _ _ hu
  have h87 : ∀ u : ZT, u.1 = Z.1 → (m_tellBeing_j87 b u).1 = Z.1 := by
    intro u hu
    unfold m_tellBeing_j87 m_tellBeing_e89 m_tellBeing_e117 m_tellBeing_e180
    exact h180 _ (h117 _ (h89 _ hu))
  have h57 : ∀ u : ZT, u.1 = Z.1 → (m_tellBeing_j57 b u).1 = Z.1 := by
    intro u hu
    unfold m_tellBeing_j57
    apply h87
    split
    · exact hu
    · unfold m_tellBeing_c73
      rw [tell_fst, tell_fst]; exact hu
  unfold m_tellBeing_e2
  apply h57
  split
  · unfold m_tellBeing_c43
    rw [tell_fst, tell_fst]; exact h0
  · exact h0
def m_minorOf_j34 (w34 : Nat × ZT) : Nat × ZT := (w34.1, w34.2)
def m_minorOf_b5 (p1 : Int32) (i5 : Nat) (w5 : Nat × ZT) : Nat × ZT := m_minorOf_j34 (if (m_has p1 i5) = 0 then (w5.1, w5.2) else ((w5.1 + 1), sI w5.2 49 w5.1 (nI i5)))
def m_minorOf_b52 (i43 : Nat) (i52 : Nat) (w52 : ZT) : ZT := sL w52 50 ((4 * i43) + i52) (w52.2 45 ((8 * (ix (w52.1 49 i43))) + (ix (w52.1 49 i52))))
def m_minorOf_e52 (w52 : ZT) : ZT := w52
def m_minorOf_b43 (p2 : Nat) (i43 : Nat) (w43 : ZT) : ZT := m_minorOf_e52 (itR (m_minorOf_b52 i43) 0 p2 w43)
def m_minorOf_e43 (p2 : Nat) (w43 : ZT) : Int64 × ZT := ((m_smallWorth (4 + 1) 0 (0 : Int32) p2 w43), w43)
def m_minorOf_e5 (p2 : Nat) (w5 : Nat × ZT) : Int64 × ZT := m_minorOf_e43 p2 (itR (m_minorOf_b43 p2) 0 p2 w5.2)
def m_minorOf (p1 : Int32) (p2 : Nat) (Z : ZT) : Int64 × ZT := m_minorOf_e5 p2 (itR (m_minorOf_b5 p1) 0 (ix (Z.1 43 0)) (0, Z))
theorem minorOf_e_fst (c : Nat) (s : ZT) : (m_minorOf_e43 c (itR (m_minorOf_b43 c) 0 c s)).2.1 = s.1 := by
  show (itR (m_minorOf_b43 c) 0 c s).1 = s.1
  refine itR_ind (P := fun u : ZT => u.1 = s.1) (fun i u hu => ?_) _ _ _ rfl
  unfold m_minorOf_b43 m_minorOf_e52
  exact itR_ind (f := m_minorOf_b52 i) (P := fun u : ZT => u.1 = s.1) (fun i2 u2 hu2 => hu2) _ _ _ hu
theorem minorOf_fr {k : Nat} (hk : k ≠ 49) (g : Int32) (c : Nat) (Z : ZT) : (m_minorOf g c Z).2.1 k = Z.1 k := by
  unfold m_minorOf m_minorOf_e5
  rw [minorOf_e_fst]
  refine itR_ind (P := fun s : Nat × ZT => s.2.1 k = Z.1 k) (fun i s hs => ?_) _ _ _ rfl
  unfold m_minorOf_b5 m_minorOf_j34
  split
  · exact hs
  · show (sI s.2 49 s.1 (nI i)).1 k = Z.1 k
    simp only [sI, va_up, hk, if_false]
    exact hs
theorem minorOf_43 (g : Int32) (c : Nat) (Z : ZT) : (m_minorOf g c Z).2.1 43 0 = Z.1 43 0 := by rw [minorOf_fr (by decide)]
theorem minorOf_PK {g : Int32} {c : Nat} {Z : ZT} (h : ∀ k : Nat, k < 4 → vp_in (Z.1 49 k) 8) (hw : ∃ wd : Nat, wd ≤ 8 ∧ Z.1 43 0 = nI wd) : ∀ j : Nat, j < 4 → vp_in ((m_minorOf g c Z).2.1 49 j) 8 := by
  unfold m_minorOf m_minorOf_e5
  rw [minorOf_e_fst]
  obtain ⟨wd, h8, hwd⟩ := hw
  have e : ix (Z.1 43 0) = wd := by rw [hwd]; exact ix_nI (by omega)
  rw [e]
  refine itR_inv (n := wd) (P := fun (i : Nat) (s : Nat × ZT) => ∀ j : Nat, j < 4 → vp_in (s.2.1 49 j) 8) (fun i s hi hs => ?_) _ _ _ (Nat.zero_add _) h
  unfold m_minorOf_b5 m_minorOf_j34
  split
  · exact hs
  · exact pk_upd (Z := s.2) hs (by omega)
set_option maxHeartbeats 4000000 in
set_option maxRecDepth 100000 in
theorem met_m_minorOf (l : Launch) (D : va_G) (cs : Nat → ClassId) (m : Nat) (ar : Nat → Nat) (Z : ZT) (sz : Nat) (p1 : Int32) (p2 : Nat) (hn2 : p2 < 5) (hbits : m_bitsOf p1 = nI p2) (hW : ∃ wd : Nat, wd ≤ 8 ∧ Z.1 43 0 = nI wd) (hPK : ∀ k : Nat, k < 4 → vp_in (Z.1 49 k) 8) : Met l yX1_minorOf (ws_ yX1_minorOf cX1_minorOf 6 (some .long)) ({ frames := 6, cells := 0, slots := 0, locals := 166 }) (va_Pc [.ref m, .int p1, .int (nI p2)] (wSt D cs (MW m ar cs Z) sz)) (cQl (fun (v : Int64) (u : ZT) => m_minorOf p1 p2 Z = (v, u)) D (fun u => MW m ar cs u) (MW m ar cs Z) sz) 0 0 (va_A (MW m ar cs Z) sz) := by
  refine gStart_l (C := RX1) rfl rfl (Nat.le_of_ble_eq_true rfl) ?_
  intro p e s mid args below meth c R Q A hx hb hml hown hts hK hA hRf hRl hRc hRs hret hE ls hl
  have hRf : 6 ≤ R.frames := hRf
  have hRl : 166 ≤ R.locals := hRl
  have hl : lv_has ls 6 [(0, .ref m), (1, .int p1), (2, .int (nI p2))] := hl
  have hR : m_minorOf p1 p2 Z = (m_minorOf_e5 p2 (itR (m_minorOf_b5 p1) 0 (ix (Z.1 43 0)) (0, Z))) := rfl
  obtain ⟨wd, hwd8, hwd⟩ := hW
  have hwx : ix (Z.1 43 0) = wd := by rw [hwd]; exact ix_nI (by omega)
  refine lv_iconst (v := 0) hx hb dX1_minorOf_0 rfl ?_
  refine lv_istore_n (lv' := [(3, .int (0 : Int32)), (0, .ref m), (1, .int p1), (2, .int (nI p2))]) hx hb dX1_minorOf_1 rfl hl (by decide) rfl (fun ls hl => ?_)
  refine lv_iconst (v := 0) hx hb dX1_minorOf_2 rfl ?_
  refine lv_istore (lv' := [(4, .int (0 : Int32)), (3, .int (0 : Int32)), (0, .ref m), (1, .int p1), (2, .int (nI p2))]) hx hb dX1_minorOf_3 hl (by decide) rfl (fun ls hl => ?_)
  have hL5 : ∀ (k i5 : Nat) (w5 : Nat × ZT) (hi5 : i5 + k = (ix (Z.1 43 0))) (hz5 : w5.2.1 43 0 = Z.1 43 0) (hpk5 : ∀ k : Nat, k < 4 → vp_in (w5.2.1 49 k) 8) (hn5 : w5.1 = pcN p1 i5) (hR : m_minorOf p1 p2 Z = m_minorOf_e5 p2 (itR (m_minorOf_b5 p1) i5 k w5)), ∀ (H : Heap) (locs : List Loc) (ls : Array Slot), EW D A s.heap (MW m ar cs w5.2) H locs → lv_has ls 6 [(0, .ref m), (1, .int p1), (2, .int (nI p2)), (3, .int (nI w5.1)), (4, .int (nI i5))] → W p l e R s mid args below meth c H locs 0 0 Q (F0 mid 5 ls []) := by
    intro k
    induction k with
    | zero =>
      intro i5 w5 hi5 hz5 hpk5 hn5 hR H locs ls hE hl
      have hie5 : i5 = (ix (Z.1 43 0)) := by omega
      have hbx5 : ix (w5.2.1 43 0) = ix (Z.1 43 0) := by rw [hz5]
      have hR : m_minorOf p1 p2 Z = (m_minorOf_e43 p2 (itR (m_minorOf_b43 p2) 0 p2 w5.2)) := hR
      refine lv_iload hx hb dX1_minorOf_5 (lv_at hl 4 rfl) ?_
      refine lv_aload_n hx hb dX1_minorOf_7 rfl (lv_at hl 0 rfl) ?_
      refine mg_43 hx hb hts hown hK hE dX1_minorOf_8 ?_
      have hna8 := vp_ix (x := w5.2.1 43 0) (N := 9) (by rw [hz5, hwd]; exact vp_in_nI (by omega) (by decide)) (by decide)
      have hna8b := hna8.2
      refine top_nat hna8.1 ?_
      refine n_geT (a := i5) (b := (ix (w5.2.1 43 0))) (by omega) (by omega) hx hb dX1_minorOf_11 (tgt := 40) (by decide) ?_
      have hl := lv_sub (l' := [(0, .ref m), (1, .int p1), (2, .int (nI p2)), (3, .int (nI w5.1))]) hl [0, 1, 2, 3] rfl
      refine lv_iconst (v := 0) hx hb dX1_minorOf_40 rfl ?_
      refine lv_istore (lv' := [(4, .int (0 : Int32)), (0, .ref m), (1, .int p1), (2, .int (nI p2)), (3, .int (nI w5.1))]) hx hb dX1_minorOf_41 hl (by decide) rfl (fun ls hl => ?_)
      have hL43 : ∀ (k i43 : Nat) (w43 : ZT) (hi43 : i43 + k = p2) (hpk43 : ∀ k : Nat, k < 4 → vp_in (w43.1 49 k) 8) (hR : m_minorOf p1 p2 Z = m_minorOf_e43 p2 (itR (m_minorOf_b43 p2) i43 k w43)), ∀ (H : Heap) (locs : List Loc) (ls : Array Slot), EW D A s.heap (MW m ar cs w43) H locs → lv_has ls 6 [(0, .ref m), (2, .int (nI p2)), (4, .int (nI i43))] → W p l e R s mid args below meth c H locs 0 0 Q (F0 mid 43 ls []) := by
        intro k
        induction k with
        | zero =>
          intro i43 w43 hi43 hpk43 hR H locs ls hE hl
          have hie43 : i43 = p2 := by omega
          have hR : m_minorOf p1 p2 Z = ((m_smallWorth (4 + 1) 0 (0 : Int32) p2 w43), w43) := hR
          refine lv_iload hx hb dX1_minorOf_43 (lv_at hl 2 rfl) ?_
          refine lv_iload_n hx hb dX1_minorOf_45 rfl (lv_at hl 1 rfl) ?_
          refine n_geT (a := i43) (b := p2) (by omega) (by omega) hx hb dX1_minorOf_46 (tgt := 105) (by decide) ?_
          have hl := lv_sub (l' := [(0, .ref m), (2, .int (nI p2))]) hl [0, 1] rfl
          refine lv_aload_n hx hb dX1_minorOf_105 rfl (lv_at hl 0 rfl) ?_
          refine lv_iconst (v := 0) hx hb dX1_minorOf_106 rfl ?_
          refine lv_iconst (v := 0) hx hb dX1_minorOf_107 rfl ?_
          refine lv_iload_n hx hb dX1_minorOf_108 rfl (lv_at hl 1 rfl) ?_
          refine call_m_smallWorth 4 hx hb hml hown hts hK hA hE hl.1 0 (0 : Int32) p2 (by omega) (by omega) (by omega) (by omega) (lz (show 6 ≤ 6 by decide) hRf) (lz (show 166 ≤ 166 by decide) hRl) (Nat.le_of_ble_eq_true rfl) dX1_minorOf_109 (fun H locs hE => ?_)
          exact hret (m_smallWorth (4 + 1) 0 (0 : Int32) p2 w43) w43 hR hE (Nat.le_refl 0) (Nat.le_refl 0) dX1_minorOf_112
        | succ k ih43 =>
          intro i43 w43 hi43 hpk43 hR H locs ls hE hl
          have hlt43 : i43 < p2 := by omega
          have hB43 : m_minorOf_b43 p2 i43 w43 = m_minorOf_e52 (itR (m_minorOf_b52 i43) 0 p2 w43) := rfl
          refine lv_iload hx hb dX1_minorOf_43 (lv_at hl 2 rfl) ?_
          refine lv_iload_n hx hb dX1_minorOf_45 rfl (lv_at hl 1 rfl) ?_
          refine n_geF (a := i43) (b := p2) (by omega) (by omega) hx hb dX1_minorOf_46 (tgt := 105) (by decide) ?_
          refine lv_iconst (v := 0) hx hb dX1_minorOf_49 rfl ?_
          refine lv_istore (lv' := [(5, .int (0 : Int32)), (0, .ref m), (2, .int (nI p2)), (4, .int (nI i43))]) hx hb dX1_minorOf_50 hl (by decide) rfl (fun ls hl => ?_)
          have hL52 : ∀ (k i52 : Nat) (w52 : ZT) (hi52 : i52 + k = p2) (hpk52 : ∀ k : Nat, k < 4 → vp_in (w52.1 49 k) 8) (hB43 : m_minorOf_b43 p2 i43 w43 = m_minorOf_e52 (itR (m_minorOf_b52 i43) i52 k w52)), ∀ (H : Heap) (locs : List Loc) (ls : Array Slot), EW D A s.heap (MW m ar cs w52) H locs → lv_has ls 6 [(0, .ref m), (2, .int (nI p2)), (4, .int (nI i43)), (5, .int (nI i52))] → W p l e R s mid args below meth c H locs 0 0 Q (F0 mid 52 ls []) := by
            intro k
            induction k with
            | zero =>
              intro i52 w52 hi52 hpk52 hB43 H locs ls hE hl
              have hie52 : i52 = p2 := by omega
              have hB43 : m_minorOf_b43 p2 i43 w43 = w52 := hB43
              refine lv_iload hx hb dX1_minorOf_52 (lv_at hl 3 rfl) ?_
              refine lv_iload_n hx hb dX1_minorOf_54 rfl (lv_at hl 1 rfl) ?_
              refine n_geT (a := i52) (b := p2) (by omega) (by omega) hx hb dX1_minorOf_55 (tgt := 99) (by decide) ?_
              have hl := lv_sub (l' := [(0, .ref m), (2, .int (nI p2)), (4, .int (nI i43))]) hl [0, 1, 2] rfl
              refine n_inc (lv' := [(4, .int (nI (i43 + 1))), (0, .ref m), (2, .int (nI p2))]) hx hb dX1_minorOf_99 hl (k := 2) rfl (by decide) rfl (fun ls hl => ?_)
              refine lv_goto (tgt := 43) hx hb dX1_minorOf_102 (by decide) ?_
              exact ih43 (i43 + 1) w52 (by omega) (by exact hpk52) (hR.trans (congrArg (fun z => m_minorOf_e43 p2 (itR (m_minorOf_b43 p2) (i43 + 1) k z)) hB43)) _ _ _ hE (lv_sub hl [1, 2, 0] rfl)
            | succ k ih52 =>
              intro i52 w52 hi52 hpk52 hB43 H locs ls hE hl
              have hlt52 : i52 < p2 := by omega
              have hB52 : m_minorOf_b52 i43 i52 w52 = sL w52 50 ((4 * i43) + i52) (w52.2 45 ((8 * (ix (w52.1 49 i43))) + (ix (w52.1 49 i52)))) := rfl
              refine lv_iload hx hb dX1_minorOf_52 (lv_at hl 3 rfl) ?_
              refine lv_iload_n hx hb dX1_minorOf_54 rfl (lv_at hl 1 rfl) ?_
              refine n_geF (a := i52) (b := p2) (by omega) (by omega) hx hb dX1_minorOf_55 (tgt := 99) (by decide) ?_
              refine lv_aload_n hx hb dX1_minorOf_58 rfl (lv_at hl 0 rfl) ?_
              refine mg_50 hx hb hts hown hK hE dX1_minorOf_59 ?_
              refine lv_iconst (v := 4) hx hb dX1_minorOf_62 rfl ?_
              refine lv_iload hx hb dX1_minorOf_63 (lv_at hl 2 rfl) ?_
              refine n_mul (a := 4) (b := i43) hx hb dX1_minorOf_65 ?_
              refine lv_iload hx hb dX1_minorOf_66 (lv_at hl 3 rfl) ?_
              refine n_add (a := (4 * i43)) (b := i52) hx hb dX1_minorOf_68 ?_
              refine lv_aload_n hx hb dX1_minorOf_69 rfl (lv_at hl 0 rfl) ?_
              refine mg_45 hx hb hts hown hK hE dX1_minorOf_70 ?_
              refine lv_bipush (v := 8) hx hb dX1_minorOf_73 rfl ?_
              refine lv_aload_n hx hb dX1_minorOf_75 rfl (lv_at hl 0 rfl) ?_
              refine mg_49 hx hb hts hown hK hE dX1_minorOf_76 ?_
              refine lv_iload hx hb dX1_minorOf_79 (lv_at hl 2 rfl) ?_
              refine ma_49 (n := i43) (by omega) hx hb hK hE dX1_minorOf_81 ?_
              have hna81 := vp_ix (x := w52.1 49 i43) (N := 8) (hpk52 _ (by omega)) (by decide)
              have hna81b := hna81.2
              refine top_nat hna81.1 ?_
              refine n_mul (a := 8) (b := (ix (w52.1 49 i43))) hx hb dX1_minorOf_82 ?_
              refine lv_aload_n hx hb dX1_minorOf_83 rfl (lv_at hl 0 rfl) ?_
              refine mg_49 hx hb hts hown hK hE dX1_minorOf_84 ?_
              refine lv_iload hx hb dX1_minorOf_87 (lv_at hl 3 rfl) ?_
              refine ma_49 (n := i52) (by omega) hx hb hK hE dX1_minorOf_89 ?_
              have hna89 := vp_ix (x := w52.1 49 i52) (N := 8) (hpk52 _ (by omega)) (by decide)
              have hna89b := hna89.2
              refine top_nat hna89.1 ?_
              refine n_add (a := (8 * (ix (w52.1 49 i43)))) (b := (ix (w52.1 49 i52))) hx hb dX1_minorOf_90 ?_
              refine ma_45 (n := ((8 * (ix (w52.1 49 i43))) + (ix (w52.1 49 i52)))) (by omega) hx hb hK hE dX1_minorOf_91 ?_
              refine ms_50 (n := ((4 * i43) + i52)) (by omega) hx hb hK hE dX1_minorOf_92 (fun H locs hE => ?_)
              refine n_inc (lv' := [(5, .int (nI (i52 + 1))), (0, .ref m), (2, .int (nI p2)), (4, .int (nI i43))]) hx hb dX1_minorOf_93 hl (k := 3) rfl (by decide) rfl (fun ls hl => ?_)
              refine lv_goto (tgt := 52) hx hb dX1_minorOf_96 (by decide) ?_
              exact ih52 (i52 + 1) (sL w52 50 ((4 * i43) + i52) (w52.2 45 ((8 * (ix (w52.1 49 i43))) + (ix (w52.1 49 i52))))) (by omega) (by exact hpk52) (hB43.trans (congrArg (fun z => m_minorOf_e52 (itR (m_minorOf_b52 i43) (i52 + 1) k z)) hB52)) _ _ _ hE (lv_sub hl [1, 2, 3, 0] rfl)
          exact hL52 p2 0 w43 (by omega) (by exact hpk43) hB43 _ _ _ hE (lv_sub hl [1, 2, 3, 0] rfl)
      exact hL43 p2 0 w5.2 (by omega) (by exact hpk5) hR _ _ _ hE (lv_sub hl [1, 3, 0] rfl)
    | succ k ih5 =>
      intro i5 w5 hi5 hz5 hpk5 hn5 hR H locs ls hE hl
      have hlt5 : i5 < (ix (Z.1 43 0)) := by omega
      have hbx5 : ix (w5.2.1 43 0) = ix (Z.1 43 0) := by rw [hz5]
      have hB5 : m_minorOf_b5 p1 i5 w5 = m_minorOf_j34 (if (m_has p1 i5) = 0 then (w5.1, w5.2) else ((w5.1 + 1), sI w5.2 49 w5.1 (nI i5))) := rfl
      refine lv_iload hx hb dX1_minorOf_5 (lv_at hl 4 rfl) ?_
      refine lv_aload_n hx hb dX1_minorOf_7 rfl (lv_at hl 0 rfl) ?_
      refine mg_43 hx hb hts hown hK hE dX1_minorOf_8 ?_
      have hna8 := vp_ix (x := w5.2.1 43 0) (N := 9) (by rw [hz5, hwd]; exact vp_in_nI (by omega) (by decide)) (by decide)
      have hna8b := hna8.2
      refine top_nat hna8.1 ?_
      refine n_geF (a := i5) (b := (ix (w5.2.1 43 0))) (by omega) (by omega) hx hb dX1_minorOf_11 (tgt := 40) (by decide) ?_
      refine lv_iload_n hx hb dX1_minorOf_14 rfl (lv_at hl 1 rfl) ?_
      refine lv_iload hx hb dX1_minorOf_15 (lv_at hl 4 rfl) ?_
      refine call_m_has hx hb hml hown hts hK hA hE hl.1 p1 i5 (lz (show 1 ≤ 6 by decide) hRf) (lz (show 21 ≤ 166 by decide) hRl) (Nat.le_of_ble_eq_true rfl) dX1_minorOf_17 (fun H locs hE => ?_)
      have hJ34 : ∀ (w34 : Nat × ZT) (hz34 : w34.2.1 43 0 = Z.1 43 0) (hpk34 : ∀ k : Nat, k < 4 → vp_in (w34.2.1 49 k) 8) (hn34 : w34.1 = pcN p1 (i5 + 1)) (hB5 : m_minorOf_b5 p1 i5 w5 = m_minorOf_j34 w34), ∀ (H : Heap) (locs : List Loc) (ls : Array Slot), EW D A s.heap (MW m ar cs w34.2) H locs → lv_has ls 6 [(0, .ref m), (1, .int p1), (2, .int (nI p2)), (3, .int (nI w34.1)), (4, .int (nI i5))] → W p l e R s mid args below meth c H locs 0 0 Q (F0 mid 34 ls []) := by
        intro w34 hz34 hpk34 hn34 hB5 H locs ls hE hl
        have hB5 : m_minorOf_b5 p1 i5 w5 = (w34.1, w34.2) := hB5
        refine n_inc (lv' := [(4, .int (nI (i5 + 1))), (0, .ref m), (1, .int p1), (2, .int (nI p2)), (3, .int (nI w34.1))]) hx hb dX1_minorOf_34 hl (k := 4) rfl (by decide) rfl (fun ls hl => ?_)
        refine lv_goto (tgt := 5) hx hb dX1_minorOf_37 (by decide) ?_
        exact ih5 (i5 + 1) (w34.1, w34.2) (by omega) (by exact hz34) (by exact hpk34) (by exact hn34) (hR.trans (congrArg (fun z => m_minorOf_e5 p2 (itR (m_minorOf_b5 p1) (i5 + 1) k z)) hB5)) _ _ _ hE (lv_sub hl [1, 2, 3, 4, 0] rfl)
      refine lv_if_eq (tgt := 34) hx hb dX1_minorOf_20 (by decide) (fun c20 => ?_) (fun c20 => ?_)
      · have hB5 : m_minorOf_b5 p1 i5 w5 = m_minorOf_j34 (w5.1, w5.2) := hB5.trans (congrArg (fun z => m_minorOf_j34 z) (if_pos c20))
        exact hJ34 (w5.1, w5.2)  (by exact hz5) (by first | exact hpk5 | exact pk_upd hpk5 (by omega)) (by first | exact pc_same hn5 (by omega) c20 | exact pc_next hn5 (by omega) c20) hB5 _ _ _ hE (lv_sub hl [0, 1, 2, 3, 4] rfl)
      · have hB5 : m_minorOf_b5 p1 i5 w5 = m_minorOf_j34 ((w5.1 + 1), sI w5.2 49 w5.1 (nI i5)) := hB5.trans (congrArg (fun z => m_minorOf_j34 z) (if_neg c20))
        refine lv_aload_n hx hb dX1_minorOf_23 rfl (lv_at hl 0 rfl) ?_
        refine mg_49 hx hb hts hown hK hE dX1_minorOf_24 ?_
        refine lv_iload_n hx hb dX1_minorOf_27 rfl (lv_at hl 3 rfl) ?_
        refine lv_iload hx hb dX1_minorOf_28 (lv_at hl 4 rfl) ?_
        refine ms_49 (n := w5.1) (by rw [hn5]; exact mo_lt hbits hn2 (by omega) c20) hx hb hK hE dX1_minorOf_30 (fun H locs hE => ?_)
        refine n_inc (lv' := [(3, .int (nI (w5.1 + 1))), (0, .ref m), (1, .int p1), (2, .int (nI p2)), (4, .int (nI i5))]) hx hb dX1_minorOf_31 hl (k := 3) rfl (by decide) rfl (fun ls hl => ?_)
        exact hJ34 ((w5.1 + 1), sI w5.2 49 w5.1 (nI i5))  (by exact hz5) (by first | exact hpk5 | exact pk_upd hpk5 (by omega)) (by first | exact pc_same hn5 (by omega) c20 | exact pc_next hn5 (by omega) c20) hB5 _ _ _ hE (lv_sub hl [1, 2, 3, 0, 4] rfl)
  exact hL5 (ix (Z.1 43 0)) 0 (0, Z) (by omega) (by exact rfl) (by exact hPK) (by exact rfl) hR _ _ _ hE (lv_sub hl [2, 3, 4, 1, 0] rfl)
section C_minorOf
variable {p : Program} {l : Launch} {e : Env} {R : Room} {s : State} {mid : MethodId} {args : Array Value} {below : List Frame} {meth : Method} {c : Code} {H : Heap} {locs : List Loc} {Q : State → Prop} {cc : ByteArray} {pc : Nat} {ls : Array Slot} {rest : List Value} {D : va_G} {A : Nat → Prop} {m : Nat} {ar : Nat → Nat} {cs : Nat → ClassId} {Z : ZT} {nL : Nat}
theorem call_m_minorOf (hx : p.tables.exec = Jvm.exec) (hb : c.code = cc) (hml : c.maxLocals = nL) (hown : s.vm.findClass RX1 = some mid.cls) (hts : ∀ w ∈ lw_all, w.before args s = true) (hK : KK D cs s) (hA : ∀ q : Nat, s.heap.size ≤ q → A q) (hE : EW D A s.heap (MW m ar cs Z) H locs) (hls : ls.size = nL) (p1 : Int32) (p2 : Nat) (hn2 : p2 < 5) (hbits : m_bitsOf p1 = nI p2) (hW : ∃ wd : Nat, wd ≤ 8 ∧ Z.1 43 0 = nI wd) (hPK : ∀ k : Nat, k < 4 → vp_in (Z.1 49 k) 8) (h1 : 7 ≤ R.frames) (h2 : 191 ≤ R.locals) (h3 : (rest.map fun v => v.category).sum ≤ 8) (hd : decode cc pc = .ok (.invokevirtual 327, 3)) (kk : ∀ (H1 : Heap) (locs1 : List Loc), EW D A s.heap (MW m ar cs (m_minorOf p1 p2 Z).2) H1 locs1 → W p l e R s mid args below meth c H1 locs1 0 0 Q (F0 mid (pc + 3) ls (.long (m_minorOf p1 p2 Z).1 :: rest))) : W p l e R s mid args below meth c H locs 0 0 Q (F0 mid pc ls (.int (nI p2) :: .int p1 :: .ref m :: rest)) :=
  gCall_l (As := [.int p1, .int (nI p2)]) (rest := rest) (q0 := 0) (ci := 1) (fs := MF ar Z) (T' := TX1) (N' := 52) hx hb hml hown hts hK hA hE hls (met_m_minorOf l D cs m ar Z H.size p1 p2 hn2 hbits hW hPK) (cwV 2 hts (lw_V q1415 q1417 qs78 q85 q1418) rfl rfl rfl (by decide +kernel) ⟨h1, h2⟩) rfl rfl rfl rfl h3 hd ⟨Nat.zero_le _, Nat.zero_le _⟩ (fun v u H1 locs1 hp _ hE => by rw [hp] at kk; exact kk H1 locs1 hE)
end C_minorOf
def m_minors_j35 (w35 : Int64 × ZT) : Int64 × ZT := (w35.1, w35.2)
def m_minors_c30 (w5 : Int64 × ZT) (wc30 : Int64 × ZT) : Int64 × ZT := ((w5.1 + wc30.1), wc30.2)
def m_minors_b5 (p1 : Nat) (i5 : Nat) (w5 : Int64 × ZT) : Int64 × ZT := m_minors_j35 (if (m_bitsOf (nI i5)) = nI p1 then m_minors_c30 w5 (m_minorOf (nI i5) p1 w5.2) else (w5.1, w5.2))
def m_minors_e5 (w5 : Int64 × ZT) : Int64 × ZT := (w5.1, w5.2)
def m_minors (p1 : Nat) (Z : ZT) : Int64 × ZT := m_minors_e5 (itR (m_minors_b5 p1) 0 (ix ((1 : Int32) <<< ((Z.1 43 0) &&& 31))) ((0 : Int64), Z))
theorem minors_fr {k : Nat} (hk : k ≠ 49) (c : Nat) (Z : ZT) : (m_minors c Z).2.1 k = Z.1 k := by
  unfold m_minors m_minors_e5
  refine itR_ind (P := fun s : Int64 × ZT => s.2.1 k = Z.1 k) (fun i s hs => ?_) _ _ _ rfl
  unfold m_minors_b5 m_minors_j35
  split
  · unfold m_minors_c30
    show (m_minorOf (nI i) c s.2).2.1 k = Z.1 k
    rw [minorOf_fr hk]
    exact hs
  · exact hs
theorem minors_SP {c : Nat} {Z : ZT} (h : SP Z) : SP (m_minors c Z).2 := by
  obtain ⟨⟨wd, h4, hw⟩, hp⟩ := h
  refine ⟨⟨wd, h4, by rw [minors_fr (by decide)]; exact hw⟩, ?_⟩
  have h1 : ((itR (m_minors_b5 c) 0 (ix ((1 : Int32) <<< ((Z.1 43 0) &&& 31))) ((0 : Int64), Z)).2.1 43 0 = nI wd) ∧ ∀ j : Nat, j < 4 → vp_in ((itR (m_minors_b5 c) 0 (ix ((1 : Int32) <<< ((Z.1 43 0) &&& 31))) ((0 : Int64), Z)).2.1 49 j) 8 := by
    refine itR_ind (P := fun s : Int64 × ZT => s.2.1 43 0 = nI wd ∧ ∀ j : Nat, j < 4 → vp_in (s.2.1 49 j) 8) (fun i s hs => ?_) _ _ _ ⟨hw, hp⟩
    unfold m_minors_b5 m_minors_j35
    split
    · unfold m_minors_c30
      refine ⟨?_, ?_⟩
      · show (m_minorOf (nI i) c s.2).2.1 43 0 = nI wd
        rw [minorOf_43]
        exact hs.1
      · exact minorOf_PK hs.2 ⟨wd, by omega, hs.1⟩
    · exact hs
  exact h1.2
set_option maxHeartbeats 4000000 in
set_option maxRecDepth 100000 in
theorem met_m_minors (l : Launch) (D : va_G) (cs : Nat → ClassId) (m : Nat) (ar : Nat → Nat) (Z : ZT) (sz : Nat) (p1 : Nat) (hn1 : p1 < 5) (hS : SP Z) : Met l yX1_minors (ws_ yX1_minors cX1_minors 5 (some .long)) ({ frames := 7, cells := 0, slots := 0, locals := 191 }) (va_Pc [.ref m, .int (nI p1)] (wSt D cs (MW m ar cs Z) sz)) (cQl (fun (v : Int64) (u : ZT) => m_minors p1 Z = (v, u)) D (fun u => MW m ar cs u) (MW m ar cs Z) sz) 0 0 (va_A (MW m ar cs Z) sz) := by
  refine gStart_l (C := RX1) rfl rfl (Nat.le_of_ble_eq_true rfl) ?_
  intro p e s mid args below meth c R Q A hx hb hml hown hts hK hA hRf hRl hRc hRs hret hE ls hl
  have hRf : 7 ≤ R.frames := hRf
  have hRl : 191 ≤ R.locals := hRl
  have hl : lv_has ls 5 [(0, .ref m), (1, .int (nI p1))] := hl
  have hR : m_minors p1 Z = (m_minors_e5 (itR (m_minors_b5 p1) 0 (ix ((1 : Int32) <<< ((Z.1 43 0) &&& 31))) ((0 : Int64), Z))) := rfl
  obtain ⟨⟨wd, hwd4, hwd⟩, hPK⟩ := hS
  refine lv_lconst (v := 0) hx hb dX1_minors_0 rfl ?_
  refine lv_lstore_n (lv' := [(2, .long (0 : Int64)), (0, .ref m), (1, .int (nI p1))]) hx hb dX1_minors_1 rfl hl (by decide) rfl (fun ls hl => ?_)
  refine lv_iconst (v := 0) hx hb dX1_minors_2 rfl ?_
  refine lv_istore (lv' := [(4, .int (0 : Int32)), (2, .long (0 : Int64)), (0, .ref m), (1, .int (nI p1))]) hx hb dX1_minors_3 hl (by decide) rfl (fun ls hl => ?_)
  have hL5 : ∀ (k i5 : Nat) (w5 : Int64 × ZT) (hi5 : i5 + k = (ix ((1 : Int32) <<< ((Z.1 43 0) &&& 31)))) (hz5 : w5.2.1 43 0 = Z.1 43 0) (hpk5 : ∀ k : Nat, k < 4 → vp_in (w5.2.1 49 k) 8) (hR : m_minors p1 Z = m_minors_e5 (itR (m_minors_b5 p1) i5 k w5)), ∀ (H : Heap) (locs : List Loc) (ls : Array Slot), EW D A s.heap (MW m ar cs w5.2) H locs → lv_has ls 5 [(0, .ref m), (1, .int (nI p1)), (2, .long w5.1), (4, .int (nI i5))] → W p l e R s mid args below meth c H locs 0 0 Q (F0 mid 5 ls []) := by
    intro k
    induction k with
    | zero =>
      intro i5 w5 hi5 hz5 hpk5 hR H locs ls hE hl
      have hie5 : i5 = (ix ((1 : Int32) <<< ((Z.1 43 0) &&& 31))) := by omega
      have hbx5 : ix ((1 : Int32) <<< ((w5.2.1 43 0) &&& 31)) = ix ((1 : Int32) <<< ((Z.1 43 0) &&& 31)) := by rw [hz5]
      have hbb5 : ix ((1 : Int32) <<< ((Z.1 43 0) &&& 31)) < 17 := (vp_ix (N := 17) (sh_wide17 hwd4 hwd) (by decide)).2
      have hR : m_minors p1 Z = (w5.1, w5.2) := hR
      refine lv_iload hx hb dX1_minors_5 (lv_at hl 3 rfl) ?_
      refine lv_iconst (v := 1) hx hb dX1_minors_7 rfl ?_
      refine lv_aload_n hx hb dX1_minors_8 rfl (lv_at hl 0 rfl) ?_
      refine mg_43 hx hb hts hown hK hE dX1_minors_9 ?_
      refine lv_ishl hx hb dX1_minors_12 ?_
      have hna12 := vp_ix (x := ((1 : Int32) <<< ((w5.2.1 43 0) &&& 31))) (N := 17) (sh_wide17 hwd4 (by rw [hz5]; exact hwd)) (by decide)
      have hna12b := hna12.2
      refine top_nat hna12.1 ?_
      refine n_geT (a := i5) (b := (ix ((1 : Int32) <<< ((w5.2.1 43 0) &&& 31)))) (by omega) (by omega) hx hb dX1_minors_13 (tgt := 41) (by decide) ?_
      have hl := lv_sub (l' := [(0, .ref m), (1, .int (nI p1)), (2, .long w5.1)]) hl [0, 1, 2] rfl
      refine lv_lload_n hx hb dX1_minors_41 rfl (lv_at hl 2 rfl) ?_
      exact hret w5.1 w5.2 hR hE (Nat.le_refl 0) (Nat.le_refl 0) dX1_minors_42
    | succ k ih5 =>
      intro i5 w5 hi5 hz5 hpk5 hR H locs ls hE hl
      have hlt5 : i5 < (ix ((1 : Int32) <<< ((Z.1 43 0) &&& 31))) := by omega
      have hbx5 : ix ((1 : Int32) <<< ((w5.2.1 43 0) &&& 31)) = ix ((1 : Int32) <<< ((Z.1 43 0) &&& 31)) := by rw [hz5]
      have hbb5 : ix ((1 : Int32) <<< ((Z.1 43 0) &&& 31)) < 17 := (vp_ix (N := 17) (sh_wide17 hwd4 hwd) (by decide)).2
      have hB5 : m_minors_b5 p1 i5 w5 = m_minors_j35 (if (m_bitsOf (nI i5)) = nI p1 then m_minors_c30 w5 (m_minorOf (nI i5) p1 w5.2) else (w5.1, w5.2)) := rfl
      refine lv_iload hx hb dX1_minors_5 (lv_at hl 3 rfl) ?_
      refine lv_iconst (v := 1) hx hb dX1_minors_7 rfl ?_
      refine lv_aload_n hx hb dX1_minors_8 rfl (lv_at hl 0 rfl) ?_
      refine mg_43 hx hb hts hown hK hE dX1_minors_9 ?_
      refine lv_ishl hx hb dX1_minors_12 ?_
      have hna12 := vp_ix (x := ((1 : Int32) <<< ((w5.2.1 43 0) &&& 31))) (N := 17) (sh_wide17 hwd4 (by rw [hz5]; exact hwd)) (by decide)
      have hna12b := hna12.2
      refine top_nat hna12.1 ?_
      refine n_geF (a := i5) (b := (ix ((1 : Int32) <<< ((w5.2.1 43 0) &&& 31)))) (by omega) (by omega) hx hb dX1_minors_13 (tgt := 41) (by decide) ?_
      refine lv_iload hx hb dX1_minors_16 (lv_at hl 3 rfl) ?_
      refine call_m_bitsOf hx hb hml hown hts hK hA hE hl.1 (nI i5) (lz (show 1 ≤ 7 by decide) hRf) (lz (show 22 ≤ 191 by decide) hRl) (Nat.le_of_ble_eq_true rfl) dX1_minors_18 (fun H locs hE => ?_)
      refine lv_iload_n hx hb dX1_minors_21 rfl (lv_at hl 1 rfl) ?_
      have hJ35 : ∀ (w35 : Int64 × ZT) (hz35 : w35.2.1 43 0 = Z.1 43 0) (hpk35 : ∀ k : Nat, k < 4 → vp_in (w35.2.1 49 k) 8) (hB5 : m_minors_b5 p1 i5 w5 = m_minors_j35 w35), ∀ (H : Heap) (locs : List Loc) (ls : Array Slot), EW D A s.heap (MW m ar cs w35.2) H locs → lv_has ls 5 [(0, .ref m), (1, .int (nI p1)), (2, .long w35.1), (4, .int (nI i5))] → W p l e R s mid args below meth c H locs 0 0 Q (F0 mid 35 ls []) := by
        intro w35 hz35 hpk35 hB5 H locs ls hE hl
        have hB5 : m_minors_b5 p1 i5 w5 = (w35.1, w35.2) := hB5
        refine n_inc (lv' := [(4, .int (nI (i5 + 1))), (0, .ref m), (1, .int (nI p1)), (2, .long w35.1)]) hx hb dX1_minors_35 hl (k := 3) rfl (by decide) rfl (fun ls hl => ?_)
        refine lv_goto (tgt := 5) hx hb dX1_minors_38 (by decide) ?_
        exact ih5 (i5 + 1) (w35.1, w35.2) (by omega) (by exact hz35) (by exact hpk35) (hR.trans (congrArg (fun z => m_minors_e5 (itR (m_minors_b5 p1) (i5 + 1) k z)) hB5)) _ _ _ hE (lv_sub hl [1, 2, 3, 0] rfl)
      refine lv_icmp_ne (tgt := 35) hx hb dX1_minors_22 (by decide) (fun c22 => ?_) (fun c22 => ?_)
      · have hB5 : m_minors_b5 p1 i5 w5 = m_minors_j35 (w5.1, w5.2) := hB5.trans (congrArg (fun z => m_minors_j35 z) (if_neg c22))
        exact hJ35 (w5.1, w5.2)  (by first | exact hz5 | (rw [hewc30, minorOf_43]; exact hz5)) (by first | exact hpk5 | (rw [hewc30]; exact minorOf_PK hpk5 ⟨wd, by omega, by rw [hz5]; exact hwd⟩)) hB5 _ _ _ hE (lv_sub hl [0, 1, 2, 3] rfl)
      · have hB5 : m_minors_b5 p1 i5 w5 = m_minors_j35 (m_minors_c30 w5 (m_minorOf (nI i5) p1 w5.2)) := hB5.trans (congrArg (fun z => m_minors_j35 z) (if_pos c22))
        refine lv_lload_n hx hb dX1_minors_25 rfl (lv_at hl 2 rfl) ?_
        refine lv_aload_n hx hb dX1_minors_26 rfl (lv_at hl 0 rfl) ?_
        refine lv_iload hx hb dX1_minors_27 (lv_at hl 3 rfl) ?_
        refine lv_iload_n hx hb dX1_minors_29 rfl (lv_at hl 1 rfl) ?_
        refine call_m_minorOf hx hb hml hown hts hK hA hE hl.1 (nI i5) p1 (by omega) (c22) (by exact ⟨wd, by omega, by rw [hz5]; exact hwd⟩) (by exact hpk5) (lz (show 7 ≤ 7 by decide) hRf) (lz (show 191 ≤ 191 by decide) hRl) (Nat.le_of_ble_eq_true rfl) dX1_minors_30 (fun H locs hE => ?_)
        have hNc30 : ∀ (wc30 : Int64 × ZT) (hewc30 : wc30 = m_minorOf (nI i5) p1 w5.2) (hB5 : m_minors_b5 p1 i5 w5 = m_minors_j35 (m_minors_c30 w5 wc30)), ∀ (H : Heap) (locs : List Loc) (ls : Array Slot), EW D A s.heap (MW m ar cs wc30.2) H locs → lv_has ls 5 [(0, .ref m), (1, .int (nI p1)), (4, .int (nI i5))] → W p l e R s mid args below meth c H locs 0 0 Q (F0 mid 33 ls [.long wc30.1, .long w5.1]) := by
          intro wc30 hewc30 hB5 H locs ls hE hl
          have hB5 : m_minors_b5 p1 i5 w5 = m_minors_j35 ((w5.1 + wc30.1), wc30.2) := hB5
          refine lv_ladd hx hb dX1_minors_33 ?_
          refine lv_lstore_n (lv' := [(2, .long (w5.1 + wc30.1)), (0, .ref m), (1, .int (nI p1)), (4, .int (nI i5))]) hx hb dX1_minors_34 rfl hl (by decide) rfl (fun ls hl => ?_)
          exact hJ35 ((w5.1 + wc30.1), wc30.2)  (by first | exact hz5 | (rw [hewc30, minorOf_43]; exact hz5)) (by first | exact hpk5 | (rw [hewc30]; exact minorOf_PK hpk5 ⟨wd, by omega, by rw [hz5]; exact hwd⟩)) hB5 _ _ _ hE (lv_sub hl [1, 2, 0, 3] rfl)
        exact hNc30 (m_minorOf (nI i5) p1 w5.2) rfl hB5 _ _ _ hE (lv_sub hl [0, 1, 3] rfl)
  exact hL5 (ix ((1 : Int32) <<< ((Z.1 43 0) &&& 31))) 0 ((0 : Int64), Z) (by omega) (by exact rfl) (by exact hPK) hR _ _ _ hE (lv_sub hl [2, 3, 1, 0] rfl)
section C_minors
variable {p : Program} {l : Launch} {e : Env} {R : Room} {s : State} {mid : MethodId} {args : Array Value} {below : List Frame} {meth : Method} {c : Code} {H : Heap} {locs : List Loc} {Q : State → Prop} {cc : ByteArray} {pc : Nat} {ls : Array Slot} {rest : List Value} {D : va_G} {A : Nat → Prop} {m : Nat} {ar : Nat → Nat} {cs : Nat → ClassId} {Z : ZT} {nL : Nat}
theorem call_m_minors (hx : p.tables.exec = Jvm.exec) (hb : c.code = cc) (hml : c.maxLocals = nL) (hown : s.vm.findClass RX1 = some mid.cls) (hts : ∀ w ∈ lw_all, w.before args s = true) (hK : KK D cs s) (hA : ∀ q : Nat, s.heap.size ≤ q → A q) (hE : EW D A s.heap (MW m ar cs Z) H locs) (hls : ls.size = nL) (p1 : Nat) (hn1 : p1 < 5) (hS : SP Z) (h1 : 8 ≤ R.frames) (h2 : 215 ≤ R.locals) (h3 : (rest.map fun v => v.category).sum ≤ 8) (hd : decode cc pc = .ok (.invokevirtual 334, 3)) (kk : ∀ (H1 : Heap) (locs1 : List Loc), EW D A s.heap (MW m ar cs (m_minors p1 Z).2) H1 locs1 → W p l e R s mid args below meth c H1 locs1 0 0 Q (F0 mid (pc + 3) ls (.long (m_minors p1 Z).1 :: rest))) : W p l e R s mid args below meth c H locs 0 0 Q (F0 mid pc ls (.int (nI p1) :: .ref m :: rest)) :=
  gCall_l (As := [.int (nI p1)]) (rest := rest) (q0 := 0) (ci := 1) (fs := MF ar Z) (T' := TX1) (N' := 52) hx hb hml hown hts hK hA hE hls (met_m_minors l D cs m ar Z H.size p1 hn1 hS) (cwV 1 hts (lw_V q1411 q1413 qs77 q85 q1414) rfl rfl rfl (by decide +kernel) ⟨h1, h2⟩) rfl rfl rfl rfl h3 hd ⟨Nat.zero_le _, Nat.zero_le _⟩ (fun v u H1 locs1 hp _ hE => by rw [hp] at kk; exact kk H1 locs1 hE)
end C_minors
def m_steady_j231 (w79 : Int64 × ZT) (w231 : Int32) : Int32 × ZT := (if w231 = 0 then ((0 : Int32), w79.2) else ((1 : Int32), w79.2))
def m_steady_j123 (w123 : Int32) : Int32 := w123
def m_steady_j145 (w145 : Int32) : Int32 := w145
def m_steady_j177 (w177 : Int32) : Int32 := w177
def m_steady_j229 (w229 : Int32) : Int32 := w229
def m_steady_j79 (wc21 : Int64 × ZT) (w42 : Int64 × ZT) (w60 : Int64 × ZT) (w79 : Int64 × ZT) : Int32 × ZT := m_steady_j231 w79 (if w79.2.1 43 0 = 1 then m_steady_j123 (if wc21.1 ≤ (0 : Int64) then (0 : Int32) else (1 : Int32)) else (if w79.2.1 43 0 = 2 then m_steady_j145 (if wc21.1 ≤ (0 : Int64) then (0 : Int32) else (if w42.1 ≤ (0 : Int64) then (0 : Int32) else (1 : Int32))) else (if w79.2.1 43 0 = 3 then m_steady_j177 (if wc21.1 ≤ (0 : Int64) then (0 : Int32) else (if w60.1 ≤ (0 : Int64) then (0 : Int32) else (if (wc21.1 * w42.1) ≤ w60.1 then (0 : Int32) else (1 : Int32)))) else m_steady_j229 (if wc21.1 ≤ (0 : Int64) then (0 : Int32) else (if w60.1 ≤ (0 : Int64) then (0 : Int32) else (if w79.1 ≤ (0 : Int64) then (0 : Int32) else (if ((wc21.1 * w42.1) * w60.1) ≤ ((w60.1 * w60.1) + ((wc21.1 * wc21.1) * w79.1)) then (0 : Int32) else (1 : Int32))))))))
def m_steady_c72 (wc72 : Int64 × ZT) : Int64 × ZT := (wc72.1, wc72.2)
def m_steady_j60 (wc21 : Int64 × ZT) (w42 : Int64 × ZT) (w60 : Int64 × ZT) : Int32 × ZT := m_steady_j79 wc21 w42 w60 (if w60.2.1 43 0 ≤ (3 : Int32) then ((0 : Int64), w60.2) else m_steady_c72 (m_minors 4 w60.2))
def m_steady_c53 (wc53 : Int64 × ZT) : Int64 × ZT := (wc53.1, wc53.2)
def m_steady_j42 (wc21 : Int64 × ZT) (w42 : Int64 × ZT) : Int32 × ZT := m_steady_j60 wc21 w42 (if w42.2.1 43 0 ≤ (2 : Int32) then ((0 : Int64), w42.2) else m_steady_c53 (m_minors 3 w42.2))
def m_steady_c35 (wc35 : Int64 × ZT) : Int64 × ZT := (wc35.1, wc35.2)
def m_steady_c21 (wc21 : Int64 × ZT) : Int32 × ZT := m_steady_j42 wc21 (if wc21.2.1 43 0 ≤ (1 : Int32) then ((0 : Int64), wc21.2) else m_steady_c35 (m_minors 2 wc21.2))
def m_steady_c1 (wc1 : ZT) : Int32 × ZT := (if (m_in (wc1.1 43 0) (1 : Int32) (4 : Int32)) = 0 then ((-4 : Int32), wc1) else m_steady_c21 (m_minors 1 wc1))
def m_steady (Z : ZT) : Int32 × ZT := m_steady_c1 (m_layTable Z)
set_option maxHeartbeats 4000000 in
set_option maxRecDepth 100000 in
theorem met_m_steady (l : Launch) (D : va_G) (cs : Nat → ClassId) (m : Nat) (ar : Nat → Nat) (Z : ZT) (sz : Nat) (hPK : ∀ k : Nat, k < 4 → vp_in (Z.1 49 k) 8) : Met l yX1_steady (ws_ yX1_steady cX1_steady 10 (some .int)) ({ frames := 8, cells := 0, slots := 0, locals := 215 }) (va_Pc [.ref m] (wSt D cs (MW m ar cs Z) sz)) (cQi (fun (v : Int32) (u : ZT) => m_steady Z = (v, u)) D (fun u => MW m ar cs u) (MW m ar cs Z) sz) 0 0 (va_A (MW m ar cs Z) sz) := by
  refine gStart_i (C := RX1) rfl rfl (Nat.le_of_ble_eq_true rfl) ?_
  intro p e s mid args below meth c R Q A hx hb hml hown hts hK hA hRf hRl hRc hRs hret hE ls hl
  have hRf : 8 ≤ R.frames := hRf
  have hRl : 215 ≤ R.locals := hRl
  have hl : lv_has ls 10 [(0, .ref m)] := hl
  have hR : m_steady Z = (m_steady_c1 (m_layTable Z)) := rfl
  refine lv_aload_n hx hb dX1_steady_0 rfl (lv_at hl 0 rfl) ?_
  refine call_m_layTable hx hb hml hown hts hK hA hE hl.1 (lz (show 1 ≤ 8 by decide) hRf) (lz (show 22 ≤ 215 by decide) hRl) (Nat.le_of_ble_eq_true rfl) dX1_steady_1 (fun H locs hE => ?_)
  have hNc1 : ∀ (wc1 : ZT) (hewc1 : wc1 = m_layTable Z) (hR : m_steady Z = m_steady_c1 wc1), ∀ (H : Heap) (locs : List Loc) (ls : Array Slot), EW D A s.heap (MW m ar cs wc1) H locs → lv_has ls 10 [(0, .ref m)] → W p l e R s mid args below meth c H locs 0 0 Q (F0 mid 4 ls []) := by
    intro wc1 hewc1 hR H locs ls hE hl
    have hR : m_steady Z = (if (m_in (wc1.1 43 0) (1 : Int32) (4 : Int32)) = 0 then ((-4 : Int32), wc1) else m_steady_c21 (m_minors 1 wc1)) := hR
    refine lv_aload_n hx hb dX1_steady_4 rfl (lv_at hl 0 rfl) ?_
    refine mg_43 hx hb hts hown hK hE dX1_steady_5 ?_
    refine lv_iconst (v := 1) hx hb dX1_steady_8 rfl ?_
    refine lv_iconst (v := 4) hx hb dX1_steady_9 rfl ?_
    refine call_m_in hx hb hml hown hts hK hA hE hl.1 (wc1.1 43 0) (1 : Int32) (4 : Int32) (lz (show 1 ≤ 8 by decide) hRf) (lz (show 22 ≤ 215 by decide) hRl) (Nat.le_of_ble_eq_true rfl) dX1_steady_10 (fun H locs hE => ?_)
    refine lv_if_ne (tgt := 19) hx hb dX1_steady_13 (by decide) (fun c13 => ?_) (fun c13 => ?_)
    · have hR : m_steady Z = (m_steady_c21 (m_minors 1 wc1)) := hR.trans (congrArg (fun z => z) (if_neg c13))
      have hs1 : SP wc1 := by rw [hewc1]; exact layTable_SP hPK (by rw [← hewc1]; exact c13)
      refine lv_aload_n hx hb dX1_steady_19 rfl (lv_at hl 0 rfl) ?_
      refine lv_iconst (v := 1) hx hb dX1_steady_20 rfl ?_
      refine call_m_minors hx hb hml hown hts hK hA hE hl.1 1 (by omega) (by exact hs1) (lz (show 8 ≤ 8 by decide) hRf) (lz (show 215 ≤ 215 by decide) hRl) (Nat.le_of_ble_eq_true rfl) dX1_steady_21 (fun H locs hE => ?_)
      have hNc21 : ∀ (wc21 : Int64 × ZT) (hewc21 : wc21 = m_minors 1 wc1) (hR : m_steady Z = m_steady_c21 wc21), ∀ (H : Heap) (locs : List Loc) (ls : Array Slot), EW D A s.heap (MW m ar cs wc21.2) H locs → lv_has ls 10 [(0, .ref m)] → W p l e R s mid args below meth c H locs 0 0 Q (F0 mid 24 ls [.long wc21.1]) := by
        intro wc21 hewc21 hR H locs ls hE hl
        have hR : m_steady Z = (m_steady_j42 wc21 (if wc21.2.1 43 0 ≤ (1 : Int32) then ((0 : Int64), wc21.2) else m_steady_c35 (m_minors 2 wc21.2))) := hR
        have hs21 : SP wc21.2 := by rw [hewc21]; exact minors_SP hs1
        refine lv_lstore_n (lv' := [(1, .long wc21.1), (0, .ref m)]) hx hb dX1_steady_24 rfl hl (by decide) rfl (fun ls hl => ?_)
        refine lv_aload_n hx hb dX1_steady_25 rfl (lv_at hl 1 rfl) ?_
        refine mg_43 hx hb hts hown hK hE dX1_steady_26 ?_
        refine lv_iconst (v := 1) hx hb dX1_steady_29 rfl ?_
        have hJ42 : ∀ (w42 : Int64 × ZT) (hs42 : SP w42.2) (hR : m_steady Z = m_steady_j42 wc21 w42), ∀ (H : Heap) (locs : List Loc) (ls : Array Slot), EW D A s.heap (MW m ar cs w42.2) H locs → lv_has ls 10 [(0, .ref m), (1, .long wc21.1)] → W p l e R s mid args below meth c H locs 0 0 Q (F0 mid 42 ls [.long w42.1]) := by
          intro w42 hs42 hR H locs ls hE hl
          have hR : m_steady Z = (m_steady_j60 wc21 w42 (if w42.2.1 43 0 ≤ (2 : Int32) then ((0 : Int64), w42.2) else m_steady_c53 (m_minors 3 w42.2))) := hR
          refine lv_lstore_n (lv' := [(3, .long w42.1), (0, .ref m), (1, .long wc21.1)]) hx hb dX1_steady_42 rfl hl (by decide) rfl (fun ls hl => ?_)
          refine lv_aload_n hx hb dX1_steady_43 rfl (lv_at hl 1 rfl) ?_
          refine mg_43 hx hb hts hown hK hE dX1_steady_44 ?_
          refine lv_iconst (v := 2) hx hb dX1_steady_47 rfl ?_
          have hJ60 : ∀ (w60 : Int64 × ZT) (hs60 : SP w60.2) (hR : m_steady Z = m_steady_j60 wc21 w42 w60), ∀ (H : Heap) (locs : List Loc) (ls : Array Slot), EW D A s.heap (MW m ar cs w60.2) H locs → lv_has ls 10 [(0, .ref m), (1, .long wc21.1), (3, .long w42.1)] → W p l e R s mid args below meth c H locs 0 0 Q (F0 mid 60 ls [.long w60.1]) := by
            intro w60 hs60 hR H locs ls hE hl
            have hR : m_steady Z = (m_steady_j79 wc21 w42 w60 (if w60.2.1 43 0 ≤ (3 : Int32) then ((0 : Int64), w60.2) else m_steady_c72 (m_minors 4 w60.2))) := hR
            refine lv_lstore (lv' := [(5, .long w60.1), (0, .ref m), (1, .long wc21.1), (3, .long w42.1)]) hx hb dX1_steady_60 hl (by decide) rfl (fun ls hl => ?_)
            refine lv_aload_n hx hb dX1_steady_62 rfl (lv_at hl 1 rfl) ?_
            refine mg_43 hx hb hts hown hK hE dX1_steady_63 ?_
            refine lv_iconst (v := 3) hx hb dX1_steady_66 rfl ?_
            have hJ79 : ∀ (w79 : Int64 × ZT) (hs79 : SP w79.2) (hR : m_steady Z = m_steady_j79 wc21 w42 w60 w79), ∀ (H : Heap) (locs : List Loc) (ls : Array Slot), EW D A s.heap (MW m ar cs w79.2) H locs → lv_has ls 10 [(0, .ref m), (1, .long wc21.1), (3, .long w42.1), (5, .long w60.1)] → W p l e R s mid args below meth c H locs 0 0 Q (F0 mid 79 ls [.long w79.1]) := by
              intro w79 hs79 hR H locs ls hE hl
              have hR : m_steady Z = (m_steady_j231 w79 (if w79.2.1 43 0 = 1 then m_steady_j123 (if wc21.1 ≤ (0 : Int64) then (0 : Int32) else (1 : Int32)) else (if w79.2.1 43 0 = 2 then m_steady_j145 (if wc21.1 ≤ (0 : Int64) then (0 : Int32) else (if w42.1 ≤ (0 : Int64) then (0 : Int32) else (1 : Int32))) else (if w79.2.1 43 0 = 3 then m_steady_j177 (if wc21.1 ≤ (0 : Int64) then (0 : Int32) else (if w60.1 ≤ (0 : Int64) then (0 : Int32) else (if (wc21.1 * w42.1) ≤ w60.1 then (0 : Int32) else (1 : Int32)))) else m_steady_j229 (if wc21.1 ≤ (0 : Int64) then (0 : Int32) else (if w60.1 ≤ (0 : Int64) then (0 : Int32) else (if w79.1 ≤ (0 : Int64) then (0 : Int32) else (if ((wc21.1 * w42.1) * w60.1) ≤ ((w60.1 * w60.1) + ((wc21.1 * wc21.1) * w79.1)) then (0 : Int32) else (1 : Int32))))))))) := hR
              refine lv_lstore (lv' := [(7, .long w79.1), (0, .ref m), (1, .long wc21.1), (3, .long w42.1), (5, .long w60.1)]) hx hb dX1_steady_79 hl (by decide) rfl (fun ls hl => ?_)
              refine lv_aload_n hx hb dX1_steady_81 rfl (lv_at hl 1 rfl) ?_
              refine mg_43 hx hb hts hown hK hE dX1_steady_82 ?_
              have hJ231 : ∀ (w231 : Int32) (hR : m_steady Z = m_steady_j231 w79 w231), ∀ (H : Heap) (locs : List Loc) (ls : Array Slot), EW D A s.heap (MW m ar cs w79.2) H locs → lv_has ls 10 [(9, .int w231)] → W p l e R s mid args below meth c H locs 0 0 Q (F0 mid 231 ls []) := by
                intro w231 hR H locs ls hE hl
                have hR : m_steady Z = (if w231 = 0 then ((0 : Int32), w79.2) else ((1 : Int32), w79.2)) := hR
                refine lv_iload hx hb dX1_steady_231 (lv_at hl 0 rfl) ?_
                refine lv_if_eq (tgt := 240) hx hb dX1_steady_233 (by decide) (fun c233 => ?_) (fun c233 => ?_)
                · have hR : m_steady Z = ((0 : Int32), w79.2) := hR.trans (congrArg (fun z => z) (if_pos c233))
                  refine lv_iconst (v := 0) hx hb dX1_steady_240 rfl ?_
                  exact hret (0 : Int32) w79.2 hR rfl hE (Nat.le_refl 0) (Nat.le_refl 0) dX1_steady_241
                · have hR : m_steady Z = ((1 : Int32), w79.2) := hR.trans (congrArg (fun z => z) (if_neg c233))
                  refine lv_iconst (v := 1) hx hb dX1_steady_236 rfl ?_
                  refine lv_goto (tgt := 241) hx hb dX1_steady_237 (by decide) ?_
                  exact hret (1 : Int32) w79.2 hR rfl hE (Nat.le_refl 0) (Nat.le_refl 0) dX1_steady_241
              by_cases c85_1 : w79.2.1 43 0 = 1
              · have hR : m_steady Z = m_steady_j231 w79 (m_steady_j123 (if wc21.1 ≤ (0 : Int64) then (0 : Int32) else (1 : Int32))) := hR.trans (congrArg (fun z => m_steady_j231 w79 z) (if_pos c85_1))
                refine lv_tableIn (off := 27) (tgt := 112) hx hb dX1_steady_85 (by rw [c85_1]; decide) (by rw [c85_1]; decide) (by rw [c85_1]; rfl) (by decide) ?_
                refine lv_lload_n hx hb dX1_steady_112 rfl (lv_at hl 2 rfl) ?_
                refine lv_lconst (v := 0) hx hb dX1_steady_113 rfl ?_
                have hJ123 : ∀ (w123 : Int32) (hR : m_steady Z = m_steady_j231 w79 (m_steady_j123 w123)), ∀ (H : Heap) (locs : List Loc) (ls : Array Slot), EW D A s.heap (MW m ar cs w79.2) H locs → lv_has ls 10 [] → W p l e R s mid args below meth c H locs 0 0 Q (F0 mid 123 ls [.int w123]) := by
                  intro w123 hR H locs ls hE hl
                  have hR : m_steady Z = m_steady_j231 w79 w123 := hR
                  refine lv_istore (lv' := [(9, .int w123)]) hx hb dX1_steady_123 hl (by decide) rfl (fun ls hl => ?_)
                  refine lv_goto (tgt := 231) hx hb dX1_steady_125 (by decide) ?_
                  exact hJ231 w123  hR _ _ _ hE (lv_sub hl [0] rfl)
                refine l_le (tgt := 122) hx hb dX1_steady_114 dX1_steady_115 (by decide) (fun c114 => ?_) (fun c114 => ?_)
                · have hR : m_steady Z = m_steady_j231 w79 (m_steady_j123 (0 : Int32)) := hR.trans (congrArg (fun z => m_steady_j231 w79 (m_steady_j123 z)) (if_pos c114))
                  refine lv_iconst (v := 0) hx hb dX1_steady_122 rfl ?_
                  exact hJ123 (0 : Int32)  hR _ _ _ hE (lv_sub hl [] rfl)
                · have hR : m_steady Z = m_steady_j231 w79 (m_steady_j123 (1 : Int32)) := hR.trans (congrArg (fun z => m_steady_j231 w79 (m_steady_j123 z)) (if_neg c114))
                  refine lv_iconst (v := 1) hx hb dX1_steady_118 rfl ?_
                  refine lv_goto (tgt := 123) hx hb dX1_steady_119 (by decide) ?_
                  exact hJ123 (1 : Int32)  hR _ _ _ hE (lv_sub hl [] rfl)
              · have hR : m_steady Z = m_steady_j231 w79 (if w79.2.1 43 0 = 2 then m_steady_j145 (if wc21.1 ≤ (0 : Int64) then (0 : Int32) else (if w42.1 ≤ (0 : Int64) then (0 : Int32) else (1 : Int32))) else (if w79.2.1 43 0 = 3 then m_steady_j177 (if wc21.1 ≤ (0 : Int64) then (0 : Int32) else (if w60.1 ≤ (0 : Int64) then (0 : Int32) else (if (wc21.1 * w42.1) ≤ w60.1 then (0 : Int32) else (1 : Int32)))) else m_steady_j229 (if wc21.1 ≤ (0 : Int64) then (0 : Int32) else (if w60.1 ≤ (0 : Int64) then (0 : Int32) else (if w79.1 ≤ (0 : Int64) then (0 : Int32) else (if ((wc21.1 * w42.1) * w60.1) ≤ ((w60.1 * w60.1) + ((wc21.1 * wc21.1) * w79.1)) then (0 : Int32) else (1 : Int32))))))) := hR.trans (congrArg (fun z => m_steady_j231 w79 z) (if_neg c85_1))
                by_cases c85_2 : w79.2.1 43 0 = 2
                · have hR : m_steady Z = m_steady_j231 w79 (m_steady_j145 (if wc21.1 ≤ (0 : Int64) then (0 : Int32) else (if w42.1 ≤ (0 : Int64) then (0 : Int32) else (1 : Int32)))) := hR.trans (congrArg (fun z => m_steady_j231 w79 z) (if_pos c85_2))
                  refine lv_tableIn (off := 43) (tgt := 128) hx hb dX1_steady_85 (by rw [c85_2]; decide) (by rw [c85_2]; decide) (by rw [c85_2]; rfl) (by decide) ?_
                  refine lv_lload_n hx hb dX1_steady_128 rfl (lv_at hl 2 rfl) ?_
                  refine lv_lconst (v := 0) hx hb dX1_steady_129 rfl ?_
                  have hJ145 : ∀ (w145 : Int32) (hR : m_steady Z = m_steady_j231 w79 (m_steady_j145 w145)), ∀ (H : Heap) (locs : List Loc) (ls : Array Slot), EW D A s.heap (MW m ar cs w79.2) H locs → lv_has ls 10 [] → W p l e R s mid args below meth c H locs 0 0 Q (F0 mid 145 ls [.int w145]) := by
                    intro w145 hR H locs ls hE hl
                    have hR : m_steady Z = m_steady_j231 w79 w145 := hR
                    refine lv_istore (lv' := [(9, .int w145)]) hx hb dX1_steady_145 hl (by decide) rfl (fun ls hl => ?_)
                    refine lv_goto (tgt := 231) hx hb dX1_steady_147 (by decide) ?_
                    exact hJ231 w145  hR _ _ _ hE (lv_sub hl [0] rfl)
                  refine l_le (tgt := 144) hx hb dX1_steady_130 dX1_steady_131 (by decide) (fun c130 => ?_) (fun c130 => ?_)
                  · have hR : m_steady Z = m_steady_j231 w79 (m_steady_j145 (0 : Int32)) := hR.trans (congrArg (fun z => m_steady_j231 w79 (m_steady_j145 z)) (if_pos c130))
                    refine lv_iconst (v := 0) hx hb dX1_steady_144 rfl ?_
                    exact hJ145 (0 : Int32)  hR _ _ _ hE (lv_sub hl [] rfl)
                  · have hR : m_steady Z = m_steady_j231 w79 (m_steady_j145 (if w42.1 ≤ (0 : Int64) then (0 : Int32) else (1 : Int32))) := hR.trans (congrArg (fun z => m_steady_j231 w79 (m_steady_j145 z)) (if_neg c130))
                    refine lv_lload_n hx hb dX1_steady_134 rfl (lv_at hl 3 rfl) ?_
                    refine lv_lconst (v := 0) hx hb dX1_steady_135 rfl ?_
                    refine l_le (tgt := 144) hx hb dX1_steady_136 dX1_steady_137 (by decide) (fun c136 => ?_) (fun c136 => ?_)
                    · have hR : m_steady Z = m_steady_j231 w79 (m_steady_j145 (0 : Int32)) := hR.trans (congrArg (fun z => m_steady_j231 w79 (m_steady_j145 z)) (if_pos c136))
                      refine lv_iconst (v := 0) hx hb dX1_steady_144 rfl ?_
                      exact hJ145 (0 : Int32)  hR _ _ _ hE (lv_sub hl [] rfl)
                    · have hR : m_steady Z = m_steady_j231 w79 (m_steady_j145 (1 : Int32)) := hR.trans (congrArg (fun z => m_steady_j231 w79 (m_steady_j145 z)) (if_neg c136))
                      refine lv_iconst (v := 1) hx hb dX1_steady_140 rfl ?_
                      refine lv_goto (tgt := 145) hx hb dX1_steady_141 (by decide) ?_
                      exact hJ145 (1 : Int32)  hR _ _ _ hE (lv_sub hl [] rfl)
                · have hR : m_steady Z = m_steady_j231 w79 (if w79.2.1 43 0 = 3 then m_steady_j177 (if wc21.1 ≤ (0 : Int64) then (0 : Int32) else (if w60.1 ≤ (0 : Int64) then (0 : Int32) else (if (wc21.1 * w42.1) ≤ w60.1 then (0 : Int32) else (1 : Int32)))) else m_steady_j229 (if wc21.1 ≤ (0 : Int64) then (0 : Int32) else (if w60.1 ≤ (0 : Int64) then (0 : Int32) else (if w79.1 ≤ (0 : Int64) then (0 : Int32) else (if ((wc21.1 * w42.1) * w60.1) ≤ ((w60.1 * w60.1) + ((wc21.1 * wc21.1) * w79.1)) then (0 : Int32) else (1 : Int32)))))) := hR.trans (congrArg (fun z => m_steady_j231 w79 z) (if_neg c85_2))
                  by_cases c85_3 : w79.2.1 43 0 = 3
                  · have hR : m_steady Z = m_steady_j231 w79 (m_steady_j177 (if wc21.1 ≤ (0 : Int64) then (0 : Int32) else (if w60.1 ≤ (0 : Int64) then (0 : Int32) else (if (wc21.1 * w42.1) ≤ w60.1 then (0 : Int32) else (1 : Int32))))) := hR.trans (congrArg (fun z => m_steady_j231 w79 z) (if_pos c85_3))
                    refine lv_tableIn (off := 65) (tgt := 150) hx hb dX1_steady_85 (by rw [c85_3]; decide) (by rw [c85_3]; decide) (by rw [c85_3]; rfl) (by decide) ?_
                    refine lv_lload_n hx hb dX1_steady_150 rfl (lv_at hl 2 rfl) ?_
                    refine lv_lconst (v := 0) hx hb dX1_steady_151 rfl ?_
                    have hJ177 : ∀ (w177 : Int32) (hR : m_steady Z = m_steady_j231 w79 (m_steady_j177 w177)), ∀ (H : Heap) (locs : List Loc) (ls : Array Slot), EW D A s.heap (MW m ar cs w79.2) H locs → lv_has ls 10 [] → W p l e R s mid args below meth c H locs 0 0 Q (F0 mid 177 ls [.int w177]) := by
                      intro w177 hR H locs ls hE hl
                      have hR : m_steady Z = m_steady_j231 w79 w177 := hR
                      refine lv_istore (lv' := [(9, .int w177)]) hx hb dX1_steady_177 hl (by decide) rfl (fun ls hl => ?_)
                      refine lv_goto (tgt := 231) hx hb dX1_steady_179 (by decide) ?_
                      exact hJ231 w177  hR _ _ _ hE (lv_sub hl [0] rfl)
                    refine l_le (tgt := 176) hx hb dX1_steady_152 dX1_steady_153 (by decide) (fun c152 => ?_) (fun c152 => ?_)
                    · have hR : m_steady Z = m_steady_j231 w79 (m_steady_j177 (0 : Int32)) := hR.trans (congrArg (fun z => m_steady_j231 w79 (m_steady_j177 z)) (if_pos c152))
                      refine lv_iconst (v := 0) hx hb dX1_steady_176 rfl ?_
                      exact hJ177 (0 : Int32)  hR _ _ _ hE (lv_sub hl [] rfl)
                    · have hR : m_steady Z = m_steady_j231 w79 (m_steady_j177 (if w60.1 ≤ (0 : Int64) then (0 : Int32) else (if (wc21.1 * w42.1) ≤ w60.1 then (0 : Int32) else (1 : Int32)))) := hR.trans (congrArg (fun z => m_steady_j231 w79 (m_steady_j177 z)) (if_neg c152))
                      refine lv_lload hx hb dX1_steady_156 (lv_at hl 4 rfl) ?_
                      refine lv_lconst (v := 0) hx hb dX1_steady_158 rfl ?_
                      refine l_le (tgt := 176) hx hb dX1_steady_159 dX1_steady_160 (by decide) (fun c159 => ?_) (fun c159 => ?_)
                      · have hR : m_steady Z = m_steady_j231 w79 (m_steady_j177 (0 : Int32)) := hR.trans (congrArg (fun z => m_steady_j231 w79 (m_steady_j177 z)) (if_pos c159))
                        refine lv_iconst (v := 0) hx hb dX1_steady_176 rfl ?_
                        exact hJ177 (0 : Int32)  hR _ _ _ hE (lv_sub hl [] rfl)
                      · have hR : m_steady Z = m_steady_j231 w79 (m_steady_j177 (if (wc21.1 * w42.1) ≤ w60.1 then (0 : Int32) else (1 : Int32))) := hR.trans (congrArg (fun z => m_steady_j231 w79 (m_steady_j177 z)) (if_neg c159))
                        refine lv_lload_n hx hb dX1_steady_163 rfl (lv_at hl 2 rfl) ?_
                        refine lv_lload_n hx hb dX1_steady_164 rfl (lv_at hl 3 rfl) ?_
                        refine lv_lmul hx hb dX1_steady_165 ?_
                        refine lv_lload hx hb dX1_steady_166 (lv_at hl 4 rfl) ?_
                        refine l_le (tgt := 176) hx hb dX1_steady_168 dX1_steady_169 (by decide) (fun c168 => ?_) (fun c168 => ?_)
                        · have hR : m_steady Z = m_steady_j231 w79 (m_steady_j177 (0 : Int32)) := hR.trans (congrArg (fun z => m_steady_j231 w79 (m_steady_j177 z)) (if_pos c168))
                          refine lv_iconst (v := 0) hx hb dX1_steady_176 rfl ?_
                          exact hJ177 (0 : Int32)  hR _ _ _ hE (lv_sub hl [] rfl)
                        · have hR : m_steady Z = m_steady_j231 w79 (m_steady_j177 (1 : Int32)) := hR.trans (congrArg (fun z => m_steady_j231 w79 (m_steady_j177 z)) (if_neg c168))
                          refine lv_iconst (v := 1) hx hb dX1_steady_172 rfl ?_
                          refine lv_goto (tgt := 177) hx hb dX1_steady_173 (by decide) ?_
                          exact hJ177 (1 : Int32)  hR _ _ _ hE (lv_sub hl [] rfl)
                  · have hR : m_steady Z = m_steady_j231 w79 (m_steady_j229 (if wc21.1 ≤ (0 : Int64) then (0 : Int32) else (if w60.1 ≤ (0 : Int64) then (0 : Int32) else (if w79.1 ≤ (0 : Int64) then (0 : Int32) else (if ((wc21.1 * w42.1) * w60.1) ≤ ((w60.1 * w60.1) + ((wc21.1 * wc21.1) * w79.1)) then (0 : Int32) else (1 : Int32)))))) := hR.trans (congrArg (fun z => m_steady_j231 w79 z) (if_neg c85_3))
                    refine lv_tableOut (tgt := 182) hx hb dX1_steady_85 (sw_out1_3 c85_1 c85_2 c85_3) (by decide) ?_
                    refine lv_lload_n hx hb dX1_steady_182 rfl (lv_at hl 2 rfl) ?_
                    refine lv_lconst (v := 0) hx hb dX1_steady_183 rfl ?_
                    have hJ229 : ∀ (w229 : Int32) (hR : m_steady Z = m_steady_j231 w79 (m_steady_j229 w229)), ∀ (H : Heap) (locs : List Loc) (ls : Array Slot), EW D A s.heap (MW m ar cs w79.2) H locs → lv_has ls 10 [] → W p l e R s mid args below meth c H locs 0 0 Q (F0 mid 229 ls [.int w229]) := by
                      intro w229 hR H locs ls hE hl
                      have hR : m_steady Z = m_steady_j231 w79 w229 := hR
                      refine lv_istore (lv' := [(9, .int w229)]) hx hb dX1_steady_229 hl (by decide) rfl (fun ls hl => ?_)
                      exact hJ231 w229  hR _ _ _ hE (lv_sub hl [0] rfl)
                    refine l_le (tgt := 228) hx hb dX1_steady_184 dX1_steady_185 (by decide) (fun c184 => ?_) (fun c184 => ?_)
                    · have hR : m_steady Z = m_steady_j231 w79 (m_steady_j229 (0 : Int32)) := hR.trans (congrArg (fun z => m_steady_j231 w79 (m_steady_j229 z)) (if_pos c184))
                      refine lv_iconst (v := 0) hx hb dX1_steady_228 rfl ?_
                      exact hJ229 (0 : Int32)  hR _ _ _ hE (lv_sub hl [] rfl)
                    · have hR : m_steady Z = m_steady_j231 w79 (m_steady_j229 (if w60.1 ≤ (0 : Int64) then (0 : Int32) else (if w79.1 ≤ (0 : Int64) then (0 : Int32) else (if ((wc21.1 * w42.1) * w60.1) ≤ ((w60.1 * w60.1) + ((wc21.1 * wc21.1) * w79.1)) then (0 : Int32) else (1 : Int32))))) := hR.trans (congrArg (fun z => m_steady_j231 w79 (m_steady_j229 z)) (if_neg c184))
                      refine lv_lload hx hb dX1_steady_188 (lv_at hl 4 rfl) ?_
                      refine lv_lconst (v := 0) hx hb dX1_steady_190 rfl ?_
                      refine l_le (tgt := 228) hx hb dX1_steady_191 dX1_steady_192 (by decide) (fun c191 => ?_) (fun c191 => ?_)
                      · have hR : m_steady Z = m_steady_j231 w79 (m_steady_j229 (0 : Int32)) := hR.trans (congrArg (fun z => m_steady_j231 w79 (m_steady_j229 z)) (if_pos c191))
                        refine lv_iconst (v := 0) hx hb dX1_steady_228 rfl ?_
                        exact hJ229 (0 : Int32)  hR _ _ _ hE (lv_sub hl [] rfl)
                      · have hR : m_steady Z = m_steady_j231 w79 (m_steady_j229 (if w79.1 ≤ (0 : Int64) then (0 : Int32) else (if ((wc21.1 * w42.1) * w60.1) ≤ ((w60.1 * w60.1) + ((wc21.1 * wc21.1) * w79.1)) then (0 : Int32) else (1 : Int32)))) := hR.trans (congrArg (fun z => m_steady_j231 w79 (m_steady_j229 z)) (if_neg c191))
                        refine lv_lload hx hb dX1_steady_195 (lv_at hl 0 rfl) ?_
                        refine lv_lconst (v := 0) hx hb dX1_steady_197 rfl ?_
                        refine l_le (tgt := 228) hx hb dX1_steady_198 dX1_steady_199 (by decide) (fun c198 => ?_) (fun c198 => ?_)
                        · have hR : m_steady Z = m_steady_j231 w79 (m_steady_j229 (0 : Int32)) := hR.trans (congrArg (fun z => m_steady_j231 w79 (m_steady_j229 z)) (if_pos c198))
                          refine lv_iconst (v := 0) hx hb dX1_steady_228 rfl ?_
                          exact hJ229 (0 : Int32)  hR _ _ _ hE (lv_sub hl [] rfl)
                        · have hR : m_steady Z = m_steady_j231 w79 (m_steady_j229 (if ((wc21.1 * w42.1) * w60.1) ≤ ((w60.1 * w60.1) + ((wc21.1 * wc21.1) * w79.1)) then (0 : Int32) else (1 : Int32))) := hR.trans (congrArg (fun z => m_steady_j231 w79 (m_steady_j229 z)) (if_neg c198))
                          refine lv_lload_n hx hb dX1_steady_202 rfl (lv_at hl 2 rfl) ?_
                          refine lv_lload_n hx hb dX1_steady_203 rfl (lv_at hl 3 rfl) ?_
                          refine lv_lmul hx hb dX1_steady_204 ?_
                          refine lv_lload hx hb dX1_steady_205 (lv_at hl 4 rfl) ?_
                          refine lv_lmul hx hb dX1_steady_207 ?_
                          refine lv_lload hx hb dX1_steady_208 (lv_at hl 4 rfl) ?_
                          refine lv_lload hx hb dX1_steady_210 (lv_at hl 4 rfl) ?_
                          refine lv_lmul hx hb dX1_steady_212 ?_
                          refine lv_lload_n hx hb dX1_steady_213 rfl (lv_at hl 2 rfl) ?_
                          refine lv_lload_n hx hb dX1_steady_214 rfl (lv_at hl 2 rfl) ?_
                          refine lv_lmul hx hb dX1_steady_215 ?_
                          refine lv_lload hx hb dX1_steady_216 (lv_at hl 0 rfl) ?_
                          refine lv_lmul hx hb dX1_steady_218 ?_
                          refine lv_ladd hx hb dX1_steady_219 ?_
                          refine l_le (tgt := 228) hx hb dX1_steady_220 dX1_steady_221 (by decide) (fun c220 => ?_) (fun c220 => ?_)
                          · have hR : m_steady Z = m_steady_j231 w79 (m_steady_j229 (0 : Int32)) := hR.trans (congrArg (fun z => m_steady_j231 w79 (m_steady_j229 z)) (if_pos c220))
                            refine lv_iconst (v := 0) hx hb dX1_steady_228 rfl ?_
                            exact hJ229 (0 : Int32)  hR _ _ _ hE (lv_sub hl [] rfl)
                          · have hR : m_steady Z = m_steady_j231 w79 (m_steady_j229 (1 : Int32)) := hR.trans (congrArg (fun z => m_steady_j231 w79 (m_steady_j229 z)) (if_neg c220))
                            refine lv_iconst (v := 1) hx hb dX1_steady_224 rfl ?_
                            refine lv_goto (tgt := 229) hx hb dX1_steady_225 (by decide) ?_
                            exact hJ229 (1 : Int32)  hR _ _ _ hE (lv_sub hl [] rfl)
            refine lv_icmp_le (tgt := 78) hx hb dX1_steady_67 (by decide) (fun c67 => ?_) (fun c67 => ?_)
            · have hR : m_steady Z = m_steady_j79 wc21 w42 w60 ((0 : Int64), w60.2) := hR.trans (congrArg (fun z => m_steady_j79 wc21 w42 w60 z) (if_pos c67))
              refine lv_lconst (v := 0) hx hb dX1_steady_78 rfl ?_
              exact hJ79 ((0 : Int64), w60.2)  (by first | (rw [hewc72]; exact minors_SP hs60) | exact hs60) hR _ _ _ hE (lv_sub hl [1, 2, 3, 0] rfl)
            · have hR : m_steady Z = m_steady_j79 wc21 w42 w60 (m_steady_c72 (m_minors 4 w60.2)) := hR.trans (congrArg (fun z => m_steady_j79 wc21 w42 w60 z) (if_neg c67))
              refine lv_aload_n hx hb dX1_steady_70 rfl (lv_at hl 1 rfl) ?_
              refine lv_iconst (v := 4) hx hb dX1_steady_71 rfl ?_
              refine call_m_minors hx hb hml hown hts hK hA hE hl.1 4 (by omega) (by exact hs60) (lz (show 8 ≤ 8 by decide) hRf) (lz (show 215 ≤ 215 by decide) hRl) (Nat.le_of_ble_eq_true rfl) dX1_steady_72 (fun H locs hE => ?_)
              have hNc72 : ∀ (wc72 : Int64 × ZT) (hewc72 : wc72 = m_minors 4 w60.2) (hR : m_steady Z = m_steady_j79 wc21 w42 w60 (m_steady_c72 wc72)), ∀ (H : Heap) (locs : List Loc) (ls : Array Slot), EW D A s.heap (MW m ar cs wc72.2) H locs → lv_has ls 10 [(0, .ref m), (1, .long wc21.1), (3, .long w42.1), (5, .long w60.1)] → W p l e R s mid args below meth c H locs 0 0 Q (F0 mid 75 ls [.long wc72.1]) := by
                intro wc72 hewc72 hR H locs ls hE hl
                have hR : m_steady Z = m_steady_j79 wc21 w42 w60 (wc72.1, wc72.2) := hR
                refine lv_goto (tgt := 79) hx hb dX1_steady_75 (by decide) ?_
                exact hJ79 (wc72.1, wc72.2)  (by first | (rw [hewc72]; exact minors_SP hs60) | exact hs60) hR _ _ _ hE (lv_sub hl [0, 1, 2, 3] rfl)
              exact hNc72 (m_minors 4 w60.2) rfl hR _ _ _ hE (lv_sub hl [1, 2, 3, 0] rfl)
          refine lv_icmp_le (tgt := 59) hx hb dX1_steady_48 (by decide) (fun c48 => ?_) (fun c48 => ?_)
          · have hR : m_steady Z = m_steady_j60 wc21 w42 ((0 : Int64), w42.2) := hR.trans (congrArg (fun z => m_steady_j60 wc21 w42 z) (if_pos c48))
            refine lv_lconst (v := 0) hx hb dX1_steady_59 rfl ?_
            exact hJ60 ((0 : Int64), w42.2)  (by first | (rw [hewc53]; exact minors_SP hs42) | exact hs42) hR _ _ _ hE (lv_sub hl [1, 2, 0] rfl)
          · have hR : m_steady Z = m_steady_j60 wc21 w42 (m_steady_c53 (m_minors 3 w42.2)) := hR.trans (congrArg (fun z => m_steady_j60 wc21 w42 z) (if_neg c48))
            refine lv_aload_n hx hb dX1_steady_51 rfl (lv_at hl 1 rfl) ?_
            refine lv_iconst (v := 3) hx hb dX1_steady_52 rfl ?_
            refine call_m_minors hx hb hml hown hts hK hA hE hl.1 3 (by omega) (by exact hs42) (lz (show 8 ≤ 8 by decide) hRf) (lz (show 215 ≤ 215 by decide) hRl) (Nat.le_of_ble_eq_true rfl) dX1_steady_53 (fun H locs hE => ?_)
            have hNc53 : ∀ (wc53 : Int64 × ZT) (hewc53 : wc53 = m_minors 3 w42.2) (hR : m_steady Z = m_steady_j60 wc21 w42 (m_steady_c53 wc53)), ∀ (H : Heap) (locs : List Loc) (ls : Array Slot), EW D A s.heap (MW m ar cs wc53.2) H locs → lv_has ls 10 [(0, .ref m), (1, .long wc21.1), (3, .long w42.1)] → W p l e R s mid args below meth c H locs 0 0 Q (F0 mid 56 ls [.long wc53.1]) := by
              intro wc53 hewc53 hR H locs ls hE hl
              have hR : m_steady Z = m_steady_j60 wc21 w42 (wc53.1, wc53.2) := hR
              refine lv_goto (tgt := 60) hx hb dX1_steady_56 (by decide) ?_
              exact hJ60 (wc53.1, wc53.2)  (by first | (rw [hewc53]; exact minors_SP hs42) | exact hs42) hR _ _ _ hE (lv_sub hl [0, 1, 2] rfl)
            exact hNc53 (m_minors 3 w42.2) rfl hR _ _ _ hE (lv_sub hl [1, 2, 0] rfl)
        refine lv_icmp_le (tgt := 41) hx hb dX1_steady_30 (by decide) (fun c30 => ?_) (fun c30 => ?_)
        · have hR : m_steady Z = m_steady_j42 wc21 ((0 : Int64), wc21.2) := hR.trans (congrArg (fun z => m_steady_j42 wc21 z) (if_pos c30))
          refine lv_lconst (v := 0) hx hb dX1_steady_41 rfl ?_
          exact hJ42 ((0 : Int64), wc21.2)  (by first | exact hs35 | exact hs21) hR _ _ _ hE (lv_sub hl [1, 0] rfl)
        · have hR : m_steady Z = m_steady_j42 wc21 (m_steady_c35 (m_minors 2 wc21.2)) := hR.trans (congrArg (fun z => m_steady_j42 wc21 z) (if_neg c30))
          refine lv_aload_n hx hb dX1_steady_33 rfl (lv_at hl 1 rfl) ?_
          refine lv_iconst (v := 2) hx hb dX1_steady_34 rfl ?_
          refine call_m_minors hx hb hml hown hts hK hA hE hl.1 2 (by omega) (by exact hs21) (lz (show 8 ≤ 8 by decide) hRf) (lz (show 215 ≤ 215 by decide) hRl) (Nat.le_of_ble_eq_true rfl) dX1_steady_35 (fun H locs hE => ?_)
          have hNc35 : ∀ (wc35 : Int64 × ZT) (hewc35 : wc35 = m_minors 2 wc21.2) (hR : m_steady Z = m_steady_j42 wc21 (m_steady_c35 wc35)), ∀ (H : Heap) (locs : List Loc) (ls : Array Slot), EW D A s.heap (MW m ar cs wc35.2) H locs → lv_has ls 10 [(0, .ref m), (1, .long wc21.1)] → W p l e R s mid args below meth c H locs 0 0 Q (F0 mid 38 ls [.long wc35.1]) := by
            intro wc35 hewc35 hR H locs ls hE hl
            have hR : m_steady Z = m_steady_j42 wc21 (wc35.1, wc35.2) := hR
            have hs35 : SP wc35.2 := by rw [hewc35]; exact minors_SP hs21
            refine lv_goto (tgt := 42) hx hb dX1_steady_38 (by decide) ?_
            exact hJ42 (wc35.1, wc35.2)  (by first | exact hs35 | exact hs21) hR _ _ _ hE (lv_sub hl [0, 1] rfl)
          exact hNc35 (m_minors 2 wc21.2) rfl hR _ _ _ hE (lv_sub hl [1, 0] rfl)
      exact hNc21 (m_minors 1 wc1) rfl hR _ _ _ hE (lv_sub hl [0] rfl)
    · have hR : m_steady Z = ((-4 : Int32), wc1) := hR.trans (congrArg (fun z => z) (if_pos c13))
      refine lv_bipush (v := -4) hx hb dX1_steady_16 rfl ?_
      exact hret (-4 : Int32) wc1 hR rfl hE (Nat.le_refl 0) (Nat.le_refl 0) dX1_steady_18
  exact hNc1 (m_layTable Z) rfl hR _ _ _ hE (lv_sub hl [0] rfl)
def m_digest_c21 (wc21 : ZT) : ZT := wc21
def m_digest_b9 (i9 : Nat) (w9 : ZT) : ZT := m_digest_c21 (m_tell ((m_tellsCount (nI i9) w9).toInt64) w9)
def m_digest_j70 (w70 : ZT) : ZT := w70
def m_digest_c57 (wc57 : ZT) : ZT := wc57
def m_digest_b40 (i40 : Nat) (w40 : ZT) : ZT := m_digest_j70 (if w40.1 13 i40 = 0 then m_tell (-1 : Int64) w40 else m_digest_c57 (m_tellBeing i40 w40))
def m_digest_c119 (w96 : Nat × ZT) (wc119 : ZT) : Bool × (Nat × ZT) := (true, ((w96.1 + 1), wc119))
def m_digest_b96 (i78 : Nat) (w96 : Nat × ZT) : Bool × (Nat × ZT) := (if w96.2.1 5 i78 ≤ nI w96.1 then (false, (w96.1, w96.2)) else m_digest_c119 w96 (m_tell ((w96.2.1 6 ((60 * i78) + w96.1)).toInt64) w96.2))
def m_digest_e96 (w96 : Nat × ZT) : ZT := w96.2
def m_digest_c91 (i78 : Nat) (wc91 : ZT) : ZT := m_digest_e96 (wlR (m_digest_b96 i78) 61 (0, wc91))
def m_digest_b78 (i78 : Nat) (w78 : ZT) : ZT := m_digest_c91 i78 (m_tell ((w78.1 5 i78).toInt64) w78)
def m_digest_e78 (w78 : ZT) : Int64 × ZT := (w78.2 51 0, w78)
def m_digest_e40 (w40 : ZT) : Int64 × ZT := m_digest_e78 (itR m_digest_b78 0 4 w40)
def m_digest_c35 (wc35 : ZT) : Int64 × ZT := m_digest_e40 (itR m_digest_b40 0 8 wc35)
def m_digest_e9 (w9 : ZT) : Int64 × ZT := m_digest_c35 (m_tell (w9.2 29 0) w9)
def m_digest (Z : ZT) : Int64 × ZT := m_digest_e9 (itR m_digest_b9 0 5 (sL Z 51 0 (17 : Int64)))
set_option maxHeartbeats 4000000 in
set_option maxRecDepth 100000 in
theorem met_m_digest (l : Launch) (D : va_G) (cs : Nat → ClassId) (m : Nat) (ar : Nat → Nat) (Z : ZT) (sz : Nat) (hT : ∀ t : Nat, t < 4 → (Z.1 5 t).toInt ≤ 60) : Met l yX1_digest (ws_ yX1_digest cX1_digest 3 (some .long)) ({ frames := 4, cells := 0, slots := 0, locals := 91 }) (va_Pc [.ref m] (wSt D cs (MW m ar cs Z) sz)) (cQl (fun (v : Int64) (u : ZT) => m_digest Z = (v, u)) D (fun u => MW m ar cs u) (MW m ar cs Z) sz) 0 0 (va_A (MW m ar cs Z) sz) := by
  refine gStart_l (C := RX1) rfl rfl (Nat.le_of_ble_eq_true rfl) ?_
  intro p e s mid args below meth c R Q A hx hb hml hown hts hK hA hRf hRl hRc hRs hret hE ls hl
  have hRf : 4 ≤ R.frames := hRf
  have hRl : 91 ≤ R.locals := hRl
  have hl : lv_has ls 3 [(0, .ref m)] := hl
  have hR : m_digest Z = (m_digest_e9 (itR m_digest_b9 0 5 (sL Z 51 0 (17 : Int64)))) := rfl
  refine lv_aload_n hx hb dX1_digest_0 rfl (lv_at hl 0 rfl) ?_
  refine lv_ldc2 (v := 17) hx hb hown (hts _ q1435) dX1_digest_1 ?_
  refine mp_51 hx hb hts hown hK hE dX1_digest_4 (fun H locs hE => ?_)
  refine lv_iconst (v := 0) hx hb dX1_digest_7 rfl ?_
  refine lv_istore_n (lv' := [(1, .int (0 : Int32)), (0, .ref m)]) hx hb dX1_digest_8 rfl hl (by decide) rfl (fun ls hl => ?_)
  have hL9 : ∀ (k i9 : Nat) (w9 : ZT) (hi9 : i9 + k = 5) (hz9 : w9.1 = Z.1) (hR : m_digest Z = m_digest_e9 (itR m_digest_b9 i9 k w9)), ∀ (H : Heap) (locs : List Loc) (ls : Array Slot), EW D A s.heap (MW m ar cs w9) H locs → lv_has ls 3 [(0, .ref m), (1, .int (nI i9))] → W p l e R s mid args below meth c H locs 0 0 Q (F0 mid 9 ls []) := by
    intro k
    induction k with
    | zero =>
      intro i9 w9 hi9 hz9 hR H locs ls hE hl
      have hie9 : i9 = 5 := by omega
      have hR : m_digest Z = (m_digest_c35 (m_tell (w9.2 29 0) w9)) := hR
      refine lv_iload_n hx hb dX1_digest_9 rfl (lv_at hl 1 rfl) ?_
      refine lv_iconst (v := 5) hx hb dX1_digest_10 rfl ?_
      refine n_geT (a := i9) (b := 5) (by omega) (by omega) hx hb dX1_digest_11 (tgt := 30) (by decide) ?_
      have hl := lv_sub (l' := [(0, .ref m)]) hl [0] rfl
      refine lv_aload_n hx hb dX1_digest_30 rfl (lv_at hl 0 rfl) ?_
      refine lv_aload_n hx hb dX1_digest_31 rfl (lv_at hl 0 rfl) ?_
      refine mg_29 hx hb hts hown hK hE dX1_digest_32 ?_
      refine call_m_tell hx hb hml hown hts hK hA hE hl.1 (w9.2 29 0) (lz (show 1 ≤ 4 by decide) hRf) (lz (show 22 ≤ 91 by decide) hRl) (Nat.le_of_ble_eq_true rfl) dX1_digest_35 (fun H locs hE => ?_)
      have hNc35 : ∀ (wc35 : ZT) (hewc35 : wc35 = m_tell (w9.2 29 0) w9) (hR : m_digest Z = m_digest_c35 wc35), ∀ (H : Heap) (locs : List Loc) (ls : Array Slot), EW D A s.heap (MW m ar cs wc35) H locs → lv_has ls 3 [(0, .ref m)] → W p l e R s mid args below meth c H locs 0 0 Q (F0 mid 38 ls []) := by
        intro wc35 hewc35 hR H locs ls hE hl
        have hR : m_digest Z = (m_digest_e40 (itR m_digest_b40 0 8 wc35)) := hR
        refine lv_iconst (v := 0) hx hb dX1_digest_38 rfl ?_
        refine lv_istore_n (lv' := [(1, .int (0 : Int32)), (0, .ref m)]) hx hb dX1_digest_39 rfl hl (by decide) rfl (fun ls hl => ?_)
        have hL40 : ∀ (k i40 : Nat) (w40 : ZT) (hi40 : i40 + k = 8) (hz40 : w40.1 = Z.1) (hR : m_digest Z = m_digest_e40 (itR m_digest_b40 i40 k w40)), ∀ (H : Heap) (locs : List Loc) (ls : Array Slot), EW D A s.heap (MW m ar cs w40) H locs → lv_has ls 3 [(0, .ref m), (1, .int (nI i40))] → W p l e R s mid args below meth c H locs 0 0 Q (F0 mid 40 ls []) := by
          intro k
          induction k with
          | zero =>
            intro i40 w40 hi40 hz40 hR H locs ls hE hl
            have hie40 : i40 = 8 := by omega
            have hR : m_digest Z = (m_digest_e78 (itR m_digest_b78 0 4 w40)) := hR
            refine lv_iload_n hx hb dX1_digest_40 rfl (lv_at hl 1 rfl) ?_
            refine lv_bipush (v := 8) hx hb dX1_digest_41 rfl ?_
            refine n_geT (a := i40) (b := 8) (by omega) (by omega) hx hb dX1_digest_43 (tgt := 76) (by decide) ?_
            have hl := lv_sub (l' := [(0, .ref m)]) hl [0] rfl
            refine lv_iconst (v := 0) hx hb dX1_digest_76 rfl ?_
            refine lv_istore_n (lv' := [(1, .int (0 : Int32)), (0, .ref m)]) hx hb dX1_digest_77 rfl hl (by decide) rfl (fun ls hl => ?_)
            have hL78 : ∀ (k i78 : Nat) (w78 : ZT) (hi78 : i78 + k = 4) (hz78 : w78.1 = Z.1) (hR : m_digest Z = m_digest_e78 (itR m_digest_b78 i78 k w78)), ∀ (H : Heap) (locs : List Loc) (ls : Array Slot), EW D A s.heap (MW m ar cs w78) H locs → lv_has ls 3 [(0, .ref m), (1, .int (nI i78))] → W p l e R s mid args below meth c H locs 0 0 Q (F0 mid 78 ls []) := by
              intro k
              induction k with
              | zero =>
                intro i78 w78 hi78 hz78 hR H locs ls hE hl
                have hie78 : i78 = 4 := by omega
                have hR : m_digest Z = (w78.2 51 0, w78) := hR
                refine lv_iload_n hx hb dX1_digest_78 rfl (lv_at hl 1 rfl) ?_
                refine lv_iconst (v := 4) hx hb dX1_digest_79 rfl ?_
                refine n_geT (a := i78) (b := 4) (by omega) (by omega) hx hb dX1_digest_80 (tgt := 134) (by decide) ?_
                have hl := lv_sub (l' := [(0, .ref m)]) hl [0] rfl
                refine lv_aload_n hx hb dX1_digest_134 rfl (lv_at hl 0 rfl) ?_
                refine mg_51 hx hb hts hown hK hE dX1_digest_135 ?_
                exact hret (w78.2 51 0) w78 hR hE (Nat.le_refl 0) (Nat.le_refl 0) dX1_digest_138
              | succ k ih78 =>
                intro i78 w78 hi78 hz78 hR H locs ls hE hl
                have hlt78 : i78 < 4 := by omega
                have hB78 : m_digest_b78 i78 w78 = m_digest_c91 i78 (m_tell ((w78.1 5 i78).toInt64) w78) := rfl
                refine lv_iload_n hx hb dX1_digest_78 rfl (lv_at hl 1 rfl) ?_
                refine lv_iconst (v := 4) hx hb dX1_digest_79 rfl ?_
                refine n_geF (a := i78) (b := 4) (by omega) (by omega) hx hb dX1_digest_80 (tgt := 134) (by decide) ?_
                refine lv_aload_n hx hb dX1_digest_83 rfl (lv_at hl 0 rfl) ?_
                refine lv_aload_n hx hb dX1_digest_84 rfl (lv_at hl 0 rfl) ?_
                refine mg_5 hx hb hts hown hK hE dX1_digest_85 ?_
                refine lv_iload_n hx hb dX1_digest_88 rfl (lv_at hl 1 rfl) ?_
                refine ma_5 (n := i78) (by omega) hx hb hK hE dX1_digest_89 ?_
                refine lv_i2l hx hb dX1_digest_90 rfl ?_
                refine call_m_tell hx hb hml hown hts hK hA hE hl.1 ((w78.1 5 i78).toInt64) (lz (show 1 ≤ 4 by decide) hRf) (lz (show 22 ≤ 91 by decide) hRl) (Nat.le_of_ble_eq_true rfl) dX1_digest_91 (fun H locs hE => ?_)
                have hNc91 : ∀ (wc91 : ZT) (hewc91 : wc91 = m_tell ((w78.1 5 i78).toInt64) w78) (hB78 : m_digest_b78 i78 w78 = m_digest_c91 i78 wc91), ∀ (H : Heap) (locs : List Loc) (ls : Array Slot), EW D A s.heap (MW m ar cs wc91) H locs → lv_has ls 3 [(0, .ref m), (1, .int (nI i78))] → W p l e R s mid args below meth c H locs 0 0 Q (F0 mid 94 ls []) := by
                  intro wc91 hewc91 hB78 H locs ls hE hl
                  have hB78 : m_digest_b78 i78 w78 = (m_digest_e96 (wlR (m_digest_b96 i78) 61 (0, wc91))) := hB78
                  refine lv_iconst (v := 0) hx hb dX1_digest_94 rfl ?_
                  refine lv_istore_n (lv' := [(2, .int (0 : Int32)), (0, .ref m), (1, .int (nI i78))]) hx hb dX1_digest_95 rfl hl (by decide) rfl (fun ls hl => ?_)
                  have hX96 : ∀ (w96 : Nat × ZT) (hb96 : w96.1 ≤ 60) (hz96 : w96.2.1 = Z.1) (hB78 : m_digest_b78 i78 w78 = m_digest_e96 w96), ∀ (H : Heap) (locs : List Loc) (ls : Array Slot), EW D A s.heap (MW m ar cs w96.2) H locs → lv_has ls 3 [(0, .ref m), (1, .int (nI i78))] → W p l e R s mid args below meth c H locs 0 0 Q (F0 mid 128 ls []) := by
                    intro w96 hb96 hz96 hB78 H locs ls hE hl
                    have hB78 : m_digest_b78 i78 w78 = w96.2 := hB78
                    refine n_inc (lv' := [(1, .int (nI (i78 + 1))), (0, .ref m)]) hx hb dX1_digest_128 hl (k := 1) rfl (by decide) rfl (fun ls hl => ?_)
                    refine lv_goto (tgt := 78) hx hb dX1_digest_131 (by decide) ?_
                    exact ih78 (i78 + 1) w96.2 (by omega) (by exact hz96) (hR.trans (congrArg (fun z => m_digest_e78 (itR m_digest_b78 (i78 + 1) k z)) hB78)) _ _ _ hE (lv_sub hl [1, 0] rfl)
                  have hL96 : ∀ (n : Nat) (w96 : Nat × ZT) (hm96 : 60 - w96.1 < n) (hb96 : w96.1 ≤ 60) (hz96 : w96.2.1 = Z.1) (hB78 : m_digest_b78 i78 w78 = m_digest_e96 (wlR (m_digest_b96 i78) n w96)), ∀ (H : Heap) (locs : List Loc) (ls : Array Slot), EW D A s.heap (MW m ar cs w96.2) H locs → lv_has ls 3 [(0, .ref m), (1, .int (nI i78)), (2, .int (nI w96.1))] → W p l e R s mid args below meth c H locs 0 0 Q (F0 mid 96 ls []) := by
                    intro n
                    induction n with
                    | zero =>
                      intro w96 hm96
                      exact absurd hm96 (Nat.not_lt_zero _)
                    | succ n ih96 =>
                      intro w96 hm96 hb96 hz96 hB78 H locs ls hE hl
                      have hB96 : m_digest_b96 i78 w96 = (if w96.2.1 5 i78 ≤ nI w96.1 then (false, (w96.1, w96.2)) else m_digest_c119 w96 (m_tell ((w96.2.1 6 ((60 * i78) + w96.1)).toInt64) w96.2)) := rfl
                      refine lv_iload_n hx hb dX1_digest_96 rfl (lv_at hl 2 rfl) ?_
                      refine lv_aload_n hx hb dX1_digest_97 rfl (lv_at hl 0 rfl) ?_
                      refine mg_5 hx hb hts hown hK hE dX1_digest_98 ?_
                      refine lv_iload_n hx hb dX1_digest_101 rfl (lv_at hl 1 rfl) ?_
                      refine ma_5 (n := i78) (by omega) hx hb hK hE dX1_digest_102 ?_
                      refine lv_icmp_ge (tgt := 128) hx hb dX1_digest_103 (by decide) (fun c103 => ?_) (fun c103 => ?_)
                      · have hB96 : m_digest_b96 i78 w96 = (false, (w96.1, w96.2)) := hB96.trans (congrArg (fun z => z) (if_pos c103))
                        exact hX96 (w96.1, w96.2) (by exact hb96) (by exact hz96) (hB78.trans (congrArg (fun z => m_digest_e96 z) (wl_f hB96))) _ _ _ hE (lv_sub hl [0, 1] rfl)
                      · have hB96 : m_digest_b96 i78 w96 = (m_digest_c119 w96 (m_tell ((w96.2.1 6 ((60 * i78) + w96.1)).toInt64) w96.2)) := hB96.trans (congrArg (fun z => z) (if_neg c103))
                        have hlt96 : w96.1 < 60 := nlt_of c103 (by omega) (by rw [hz96]; exact hT _ hlt78 : (w96.2.1 5 i78).toInt ≤ (60 : Nat))
                        refine lv_aload_n hx hb dX1_digest_106 rfl (lv_at hl 0 rfl) ?_
                        refine lv_aload_n hx hb dX1_digest_107 rfl (lv_at hl 0 rfl) ?_
                        refine mg_6 hx hb hts hown hK hE dX1_digest_108 ?_
                        refine lv_bipush (v := 60) hx hb dX1_digest_111 rfl ?_
                        refine lv_iload_n hx hb dX1_digest_113 rfl (lv_at hl 1 rfl) ?_
                        refine n_mul (a := 60) (b := i78) hx hb dX1_digest_114 ?_
                        refine lv_iload_n hx hb dX1_digest_115 rfl (lv_at hl 2 rfl) ?_
                        refine n_add (a := (60 * i78)) (b := w96.1) hx hb dX1_digest_116 ?_
                        refine ma_6 (n := ((60 * i78) + w96.1)) (by omega) hx hb hK hE dX1_digest_117 ?_
                        refine lv_i2l hx hb dX1_digest_118 rfl ?_
                        refine call_m_tell hx hb hml hown hts hK hA hE hl.1 ((w96.2.1 6 ((60 * i78) + w96.1)).toInt64) (lz (show 1 ≤ 4 by decide) hRf) (lz (show 22 ≤ 91 by decide) hRl) (Nat.le_of_ble_eq_true rfl) dX1_digest_119 (fun H locs hE => ?_)
                        have hNc119 : ∀ (wc119 : ZT) (hewc119 : wc119 = m_tell ((w96.2.1 6 ((60 * i78) + w96.1)).toInt64) w96.2) (hB96 : m_digest_b96 i78 w96 = m_digest_c119 w96 wc119), ∀ (H : Heap) (locs : List Loc) (ls : Array Slot), EW D A s.heap (MW m ar cs wc119) H locs → lv_has ls 3 [(0, .ref m), (1, .int (nI i78)), (2, .int (nI w96.1))] → W p l e R s mid args below meth c H locs 0 0 Q (F0 mid 122 ls []) := by
                          intro wc119 hewc119 hB96 H locs ls hE hl
                          have hB96 : m_digest_b96 i78 w96 = (true, ((w96.1 + 1), wc119)) := hB96
                          refine n_inc (lv' := [(2, .int (nI (w96.1 + 1))), (0, .ref m), (1, .int (nI i78))]) hx hb dX1_digest_122 hl (k := 2) rfl (by decide) rfl (fun ls hl => ?_)
                          refine lv_goto (tgt := 96) hx hb dX1_digest_125 (by decide) ?_
                          exact ih96 ((w96.1 + 1), wc119) (by show 60 - (w96.1 + 1) < n; have := nlt_of c103 (by omega) (by rw [hz96]; exact hT _ hlt78 : (w96.2.1 5 i78).toInt ≤ (60 : Nat)); omega) (by show w96.1 + 1 ≤ 60; have := nlt_of c103 (by omega) (by rw [hz96]; exact hT _ hlt78 : (w96.2.1 5 i78).toInt ≤ (60 : Nat)); omega) (by show wc119.1 = _; rw [hewc119]; exact hz96) (hB78.trans (congrArg (fun z => m_digest_e96 z) (wl_t hB96))) _ _ _ hE (lv_sub hl [1, 2, 0] rfl)
                        exact hNc119 (m_tell ((w96.2.1 6 ((60 * i78) + w96.1)).toInt64) w96.2) rfl hB96 _ _ _ hE (lv_sub hl [0, 1, 2] rfl)
                  exact hL96 61 (0, wc91) (by show 60 - 0 < 61; decide) (by exact Nat.zero_le _) (by show wc91.1 = _; rw [hewc91]; exact hz78) hB78 _ _ _ hE (lv_sub hl [1, 2, 0] rfl)
                exact hNc91 (m_tell ((w78.1 5 i78).toInt64) w78) rfl hB78 _ _ _ hE (lv_sub hl [0, 1] rfl)
            exact hL78 4 0 w40 (by omega) (by exact hz40) hR _ _ _ hE (lv_sub hl [1, 0] rfl)
          | succ k ih40 =>
            intro i40 w40 hi40 hz40 hR H locs ls hE hl
            have hlt40 : i40 < 8 := by omega
            have hB40 : m_digest_b40 i40 w40 = m_digest_j70 (if w40.1 13 i40 = 0 then m_tell (-1 : Int64) w40 else m_digest_c57 (m_tellBeing i40 w40)) := rfl
            refine lv_iload_n hx hb dX1_digest_40 rfl (lv_at hl 1 rfl) ?_
            refine lv_bipush (v := 8) hx hb dX1_digest_41 rfl ?_
            refine n_geF (a := i40) (b := 8) (by omega) (by omega) hx hb dX1_digest_43 (tgt := 76) (by decide) ?_
            refine lv_aload_n hx hb dX1_digest_46 rfl (lv_at hl 0 rfl) ?_
            refine mg_13 hx hb hts hown hK hE dX1_digest_47 ?_
            refine lv_iload_n hx hb dX1_digest_50 rfl (lv_at hl 1 rfl) ?_
            refine ma_13 (n := i40) (by omega) hx hb hK hE dX1_digest_51 ?_
            have hJ70 : ∀ (w70 : ZT) (hz70 : w70.1 = Z.1) (hB40 : m_digest_b40 i40 w40 = m_digest_j70 w70), ∀ (H : Heap) (locs : List Loc) (ls : Array Slot), EW D A s.heap (MW m ar cs w70) H locs → lv_has ls 3 [(0, .ref m), (1, .int (nI i40))] → W p l e R s mid args below meth c H locs 0 0 Q (F0 mid 70 ls []) := by
              intro w70 hz70 hB40 H locs ls hE hl
              have hB40 : m_digest_b40 i40 w40 = w70 := hB40
              refine n_inc (lv' := [(1, .int (nI (i40 + 1))), (0, .ref m)]) hx hb dX1_digest_70 hl (k := 1) rfl (by decide) rfl (fun ls hl => ?_)
              refine lv_goto (tgt := 40) hx hb dX1_digest_73 (by decide) ?_
              exact ih40 (i40 + 1) w70 (by omega) (by exact hz70) (hR.trans (congrArg (fun z => m_digest_e40 (itR m_digest_b40 (i40 + 1) k z)) hB40)) _ _ _ hE (lv_sub hl [1, 0] rfl)
            refine lv_if_eq (tgt := 63) hx hb dX1_digest_52 (by decide) (fun c52 => ?_) (fun c52 => ?_)
            · have hB40 : m_digest_b40 i40 w40 = m_digest_j70 (m_tell (-1 : Int64) w40) := hB40.trans (congrArg (fun z => m_digest_j70 z) (if_pos c52))
              refine lv_aload_n hx hb dX1_digest_63 rfl (lv_at hl 0 rfl) ?_
              refine lv_ldc2 (v := -1) hx hb hown (hts _ q1390) dX1_digest_64 ?_
              refine call_m_tell hx hb hml hown hts hK hA hE hl.1 (-1 : Int64) (lz (show 1 ≤ 4 by decide) hRf) (lz (show 22 ≤ 91 by decide) hRl) (Nat.le_of_ble_eq_true rfl) dX1_digest_67 (fun H locs hE => ?_)
              exact hJ70 (m_tell (-1 : Int64) w40)  (by first | (rw [hewc57, tellBeing_fst]; exact hz40) | exact hz40) hB40 _ _ _ hE (lv_sub hl [0, 1] rfl)
            · have hB40 : m_digest_b40 i40 w40 = m_digest_j70 (m_digest_c57 (m_tellBeing i40 w40)) := hB40.trans (congrArg (fun z => m_digest_j70 z) (if_neg c52))
              refine lv_aload_n hx hb dX1_digest_55 rfl (lv_at hl 0 rfl) ?_
              refine lv_iload_n hx hb dX1_digest_56 rfl (lv_at hl 1 rfl) ?_
              refine call_m_tellBeing hx hb hml hown hts hK hA hE hl.1 i40 (by omega) (lz (show 4 ≤ 4 by decide) hRf) (lz (show 91 ≤ 91 by decide) hRl) (Nat.le_of_ble_eq_true rfl) dX1_digest_57 (fun H locs hE => ?_)
              have hNc57 : ∀ (wc57 : ZT) (hewc57 : wc57 = m_tellBeing i40 w40) (hB40 : m_digest_b40 i40 w40 = m_digest_j70 (m_digest_c57 wc57)), ∀ (H : Heap) (locs : List Loc) (ls : Array Slot), EW D A s.heap (MW m ar cs wc57) H locs → lv_has ls 3 [(0, .ref m), (1, .int (nI i40))] → W p l e R s mid args below meth c H locs 0 0 Q (F0 mid 60 ls []) := by
                intro wc57 hewc57 hB40 H locs ls hE hl
                have hB40 : m_digest_b40 i40 w40 = m_digest_j70 wc57 := hB40
                refine lv_goto (tgt := 70) hx hb dX1_digest_60 (by decide) ?_
                exact hJ70 wc57  (by first | (rw [hewc57, tellBeing_fst]; exact hz40) | exact hz40) hB40 _ _ _ hE (lv_sub hl [0, 1] rfl)
              exact hNc57 (m_tellBeing i40 w40) rfl hB40 _ _ _ hE (lv_sub hl [0, 1] rfl)
        exact hL40 8 0 wc35 (by omega) (by rw [hewc35]; exact hz9) hR _ _ _ hE (lv_sub hl [1, 0] rfl)
      exact hNc35 (m_tell (w9.2 29 0) w9) rfl hR _ _ _ hE (lv_sub hl [0] rfl)
    | succ k ih9 =>
      intro i9 w9 hi9 hz9 hR H locs ls hE hl
      have hlt9 : i9 < 5 := by omega
      have hB9 : m_digest_b9 i9 w9 = m_digest_c21 (m_tell ((m_tellsCount (nI i9) w9).toInt64) w9) := rfl
      refine lv_iload_n hx hb dX1_digest_9 rfl (lv_at hl 1 rfl) ?_
      refine lv_iconst (v := 5) hx hb dX1_digest_10 rfl ?_
      refine n_geF (a := i9) (b := 5) (by omega) (by omega) hx hb dX1_digest_11 (tgt := 30) (by decide) ?_
      refine lv_aload_n hx hb dX1_digest_14 rfl (lv_at hl 0 rfl) ?_
      refine lv_aload_n hx hb dX1_digest_15 rfl (lv_at hl 0 rfl) ?_
      refine lv_iload_n hx hb dX1_digest_16 rfl (lv_at hl 1 rfl) ?_
      refine call_m_tellsCount hx hb hml hown hts hK hA hE hl.1 (nI i9) (lz (show 2 ≤ 4 by decide) hRf) (lz (show 45 ≤ 91 by decide) hRl) (Nat.le_of_ble_eq_true rfl) dX1_digest_17 (fun H locs hE => ?_)
      refine lv_i2l hx hb dX1_digest_20 rfl ?_
      refine call_m_tell hx hb hml hown hts hK hA hE hl.1 ((m_tellsCount (nI i9) w9).toInt64) (lz (show 1 ≤ 4 by decide) hRf) (lz (show 22 ≤ 91 by decide) hRl) (Nat.le_of_ble_eq_true rfl) dX1_digest_21 (fun H locs hE => ?_)
      have hNc21 : ∀ (wc21 : ZT) (hewc21 : wc21 = m_tell ((m_tellsCount (nI i9) w9).toInt64) w9) (hB9 : m_digest_b9 i9 w9 = m_digest_c21 wc21), ∀ (H : Heap) (locs : List Loc) (ls : Array Slot), EW D A s.heap (MW m ar cs wc21) H locs → lv_has ls 3 [(0, .ref m), (1, .int (nI i9))] → W p l e R s mid args below meth c H locs 0 0 Q (F0 mid 24 ls []) := by
        intro wc21 hewc21 hB9 H locs ls hE hl
        have hB9 : m_digest_b9 i9 w9 = wc21 := hB9
        refine n_inc (lv' := [(1, .int (nI (i9 + 1))), (0, .ref m)]) hx hb dX1_digest_24 hl (k := 1) rfl (by decide) rfl (fun ls hl => ?_)
        refine lv_goto (tgt := 9) hx hb dX1_digest_27 (by decide) ?_
        exact ih9 (i9 + 1) wc21 (by omega) (by rw [hewc21]; exact hz9) (hR.trans (congrArg (fun z => m_digest_e9 (itR m_digest_b9 (i9 + 1) k z)) hB9)) _ _ _ hE (lv_sub hl [1, 0] rfl)
      exact hNc21 (m_tell ((m_tellsCount (nI i9) w9).toInt64) w9) rfl hB9 _ _ _ hE (lv_sub hl [0, 1] rfl)
  exact hL9 5 0 (sL Z 51 0 (17 : Int64)) (by omega) (by exact rfl) hR _ _ _ hE (lv_sub hl [1, 0] rfl)
