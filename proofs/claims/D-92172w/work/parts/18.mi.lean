/-! the twin: pushes -/
set_option maxRecDepth 100000
theorem layTable_W (Z : ZT) : ∃ wd : Nat, wd ≤ 8 ∧ (m_layTable Z).1 43 0 = nI wd := by
  unfold m_layTable m_layTable_e7 m_layTable_e50
  have h1 : ∃ j : Nat, j ≤ 8 ∧ (itR m_layTable_b7 0 8 (sI Z 43 0 0)).1 43 0 = nI j := by
    refine itR_inv (n := 8) (P := fun (i : Nat) (s : ZT) => ∃ j : Nat, j ≤ i ∧ s.1 43 0 = nI j) (fun i s hi hs => ?_) 8 0 _ rfl ⟨0, Nat.le_refl 0, rfl⟩
    obtain ⟨j, hj, hs⟩ := hs
    unfold m_layTable_b7 m_layTable_j42
    split
    · exact ⟨j, by omega, hs⟩
    · refine ⟨j + 1, by omega, ?_⟩
      show nI (ix (s.1 43 0) + 1) = nI (j + 1)
      rw [hs, ix_nI (by omega)]
  generalize itR m_layTable_b7 0 8 (sI Z 43 0 0) = w at h1
  obtain ⟨j, hj, hw⟩ := h1
  refine ⟨j, hj, ?_⟩
  have h2 : (itR (m_layTable_b50 w) 0 (ix (w.1 43 0)) w).1 = w.1 := by
    refine itR_ind (P := fun s : ZT => s.1 = w.1) (fun i s hs => ?_) _ _ _ rfl
    unfold m_layTable_b50 m_layTable_e60
    exact itR_ind (f := m_layTable_b60 i) (P := fun s : ZT => s.1 = w.1) (fun i2 s2 hs2 => hs2) _ _ _ hs
  rw [h2]
  exact hw
theorem neg_ne0 {x : Int64} (h : ¬ x = 0) : ¬ -x = 0 := fun q => h (by rw [← Int64.neg_neg (a := x), q]; rfl)
theorem needPush_ok {a b : Int32} {Z : ZT} (h : 0 ≤ (m_needPush a b Z).1) : vp_in a 8 ∧ vp_in b 8 ∧ ¬ Z.1 13 (ix a) = 0 ∧ ¬ Z.1 13 (ix b) = 0 ∧ m_there Z ≤ 6 ∧ m_needPush a b Z = (0, Z) := by
  unfold m_needPush m_needPush_c4 at h ⊢
  by_cases h0 : 0 ≤ (m_needTwo 1 a b Z).1
  · obtain ⟨h1, h2, -, h4, h5, h6⟩ := needTwo_ok h0
    rw [h6] at h ⊢
    rw [if_pos (show (0 : Int32) ≤ ((0 : Int32), Z).1 from (by decide : (0 : Int32) ≤ 0))] at h ⊢
    by_cases h7 : m_there Z ≤ 6
    · refine ⟨h1, h2, h4, h5, h7, ?_⟩
      rw [if_pos h7]
    · rw [if_neg h7] at h
      exact absurd (show (0 : Int32) ≤ -4 from h) (by decide)
  · rw [if_neg h0] at h
    exact absurd h h0
def m_worth_c63 (wc63 : ZT) : Int64 × ZT := (wc63.2 46 0, wc63)
def m_worth_j62 (p1 : Int32) (Z : ZT) (w51 : Int32) (w62 : Int64) : Int64 × ZT := m_worth_c63 (m_expand (8 + 1) 0 w51 w62 p1 (sI (sI (sL Z 46 0 (0 : Int64)) 47 0 (0 : Int32)) 48 0 (0 : Int32)))
def m_worth_j51 (p1 : Int32) (Z : ZT) (w35 : Int32) (w51 : Int32) : Int64 × ZT := m_worth_j62 p1 Z w51 (if w35 = 0 then (1 : Int64) else (-1 : Int64))
def m_worth_j35 (p1 : Int32) (p2 : Int32) (Z : ZT) (w35 : Int32) : Int64 × ZT := m_worth_j51 p1 Z w35 (if p1 = (-9 : Int32) then (0 : Int32) else ((1 : Int32) <<< (p2 &&& 31)))
def m_worth (p1 : Int32) (p2 : Int32) (Z : ZT) : Int64 × ZT := m_worth_j35 p1 p2 Z (if p1 = (-9 : Int32) then (0 : Int32) else (if ((p1 + p2) - (p1 + p2) / (2 : Int32) * (2 : Int32)) = (1 : Int32) then (1 : Int32) else (0 : Int32)))
theorem worth_fr1 {k : Nat} (h1 : k ≠ 47) (h2 : k ≠ 48) (a b : Int32) (Z : ZT) : (m_worth a b Z).2.1 k = Z.1 k := by
  unfold m_worth m_worth_j35 m_worth_j51 m_worth_j62
  simp only [m_worth_c63]
  rw [m_expand_fr1 h1 h2]
  simp [sI, sL, va_up, h1, h2]
theorem worth_43 (a b : Int32) (Z : ZT) : (m_worth a b Z).2.1 43 0 = Z.1 43 0 := by rw [worth_fr1 (by decide) (by decide)]
set_option maxHeartbeats 4000000 in
set_option maxRecDepth 100000 in
theorem met_m_worth (l : Launch) (D : va_G) (cs : Nat → ClassId) (m : Nat) (ar : Nat → Nat) (Z : ZT) (sz : Nat) (p1 : Int32) (p2 : Int32) (hW : ∃ wd : Nat, wd ≤ 8 ∧ Z.1 43 0 = nI wd) : Met l yX1_worth (ws_ yX1_worth cX1_worth 4 (some .long)) ({ frames := 10, cells := 0, slots := 0, locals := 282 }) (va_Pc [.ref m, .int p1, .int p2] (wSt D cs (MW m ar cs Z) sz)) (cQl (fun (v : Int64) (u : ZT) => m_worth p1 p2 Z = (v, u)) D (fun u => MW m ar cs u) (MW m ar cs Z) sz) 0 0 (va_A (MW m ar cs Z) sz) := by
  refine gStart_l (C := RX1) rfl rfl (Nat.le_of_ble_eq_true rfl) ?_
  intro p e s mid args below meth c R Q A hx hb hml hown hts hK hA hRf hRl hRc hRs hret hE ls hl
  have hRf : 10 ≤ R.frames := hRf
  have hRl : 282 ≤ R.locals := hRl
  have hl : lv_has ls 4 [(0, .ref m), (1, .int p1), (2, .int p2)] := hl
  have hR : m_worth p1 p2 Z = (m_worth_j35 p1 p2 Z (if p1 = (-9 : Int32) then (0 : Int32) else (if ((p1 + p2) - (p1 + p2) / (2 : Int32) * (2 : Int32)) = (1 : Int32) then (1 : Int32) else (0 : Int32)))) := rfl
  refine lv_aload_n hx hb dX1_worth_0 rfl (lv_at hl 0 rfl) ?_
  refine lv_lconst (v := 0) hx hb dX1_worth_1 rfl ?_
  refine mp_46 hx hb hts hown hK hE dX1_worth_2 (fun H locs hE => ?_)
  refine lv_aload_n hx hb dX1_worth_5 rfl (lv_at hl 0 rfl) ?_
  refine lv_iconst (v := 0) hx hb dX1_worth_6 rfl ?_
  refine mp_47 hx hb hts hown hK hE dX1_worth_7 (fun H locs hE => ?_)
  refine lv_aload_n hx hb dX1_worth_10 rfl (lv_at hl 0 rfl) ?_
  refine lv_iconst (v := 0) hx hb dX1_worth_11 rfl ?_
  refine mp_48 hx hb hts hown hK hE dX1_worth_12 (fun H locs hE => ?_)
  refine lv_iload_n hx hb dX1_worth_15 rfl (lv_at hl 1 rfl) ?_
  refine lv_bipush (v := -9) hx hb dX1_worth_16 rfl ?_
  have hJ35 : ∀ (w35 : Int32) (hR : m_worth p1 p2 Z = m_worth_j35 p1 p2 Z w35), ∀ (H : Heap) (locs : List Loc) (ls : Array Slot), EW D A s.heap (MW m ar cs (sI (sI (sL Z 46 0 (0 : Int64)) 47 0 (0 : Int32)) 48 0 (0 : Int32))) H locs → lv_has ls 4 [(0, .ref m), (1, .int p1), (2, .int p2)] → W p l e R s mid args below meth c H locs 0 0 Q (F0 mid 35 ls [.int w35]) := by
    intro w35 hR H locs ls hE hl
    have hR : m_worth p1 p2 Z = (m_worth_j51 p1 Z w35 (if p1 = (-9 : Int32) then (0 : Int32) else ((1 : Int32) <<< (p2 &&& 31)))) := hR
    refine lv_istore_n (lv' := [(3, .int w35), (0, .ref m), (1, .int p1), (2, .int p2)]) hx hb dX1_worth_35 rfl hl (by decide) rfl (fun ls hl => ?_)
    refine lv_aload_n hx hb dX1_worth_36 rfl (lv_at hl 1 rfl) ?_
    refine lv_iconst (v := 0) hx hb dX1_worth_37 rfl ?_
    refine lv_iload_n hx hb dX1_worth_38 rfl (lv_at hl 2 rfl) ?_
    refine lv_bipush (v := -9) hx hb dX1_worth_39 rfl ?_
    have hJ51 : ∀ (w51 : Int32) (hR : m_worth p1 p2 Z = m_worth_j51 p1 Z w35 w51), ∀ (H : Heap) (locs : List Loc) (ls : Array Slot), EW D A s.heap (MW m ar cs (sI (sI (sL Z 46 0 (0 : Int64)) 47 0 (0 : Int32)) 48 0 (0 : Int32))) H locs → lv_has ls 4 [(0, .ref m), (1, .int p1), (3, .int w35)] → W p l e R s mid args below meth c H locs 0 0 Q (F0 mid 51 ls [.int w51, .int (0 : Int32), .ref m]) := by
      intro w51 hR H locs ls hE hl
      have hR : m_worth p1 p2 Z = (m_worth_j62 p1 Z w51 (if w35 = 0 then (1 : Int64) else (-1 : Int64))) := hR
      refine lv_iload_n hx hb dX1_worth_51 rfl (lv_at hl 2 rfl) ?_
      have hJ62 : ∀ (w62 : Int64) (hR : m_worth p1 p2 Z = m_worth_j62 p1 Z w51 w62), ∀ (H : Heap) (locs : List Loc) (ls : Array Slot), EW D A s.heap (MW m ar cs (sI (sI (sL Z 46 0 (0 : Int64)) 47 0 (0 : Int32)) 48 0 (0 : Int32))) H locs → lv_has ls 4 [(0, .ref m), (1, .int p1)] → W p l e R s mid args below meth c H locs 0 0 Q (F0 mid 62 ls [.long w62, .int w51, .int (0 : Int32), .ref m]) := by
        intro w62 hR H locs ls hE hl
        have hR : m_worth p1 p2 Z = (m_worth_c63 (m_expand (8 + 1) 0 w51 w62 p1 (sI (sI (sL Z 46 0 (0 : Int64)) 47 0 (0 : Int32)) 48 0 (0 : Int32)))) := hR
        refine lv_iload_n hx hb dX1_worth_62 rfl (lv_at hl 1 rfl) ?_
        refine call_m_expand 8 hx hb hml hown hts hK hA hE hl.1 0 w51 w62 p1 (by omega) (by obtain ⟨wd, h8, hwd⟩ := hW; exact ⟨wd, h8, Nat.zero_le _, hwd⟩) (by obtain ⟨wd, h8, hwd⟩ := hW; show ix (Z.1 43 0) - 0 ≤ 8; rw [hwd, ix_nI (by omega)]; omega) (lz (show 10 ≤ 10 by decide) hRf) (lz (show 282 ≤ 282 by decide) hRl) (Nat.le_of_ble_eq_true rfl) dX1_worth_63 (fun H locs hE => ?_)
        have hNc63 : ∀ (wc63 : ZT) (hR : m_worth p1 p2 Z = m_worth_c63 wc63), ∀ (H : Heap) (locs : List Loc) (ls : Array Slot), EW D A s.heap (MW m ar cs wc63) H locs → lv_has ls 4 [(0, .ref m)] → W p l e R s mid args below meth c H locs 0 0 Q (F0 mid 66 ls []) := by
          intro wc63 hR H locs ls hE hl
          have hR : m_worth p1 p2 Z = (wc63.2 46 0, wc63) := hR
          refine lv_aload_n hx hb dX1_worth_66 rfl (lv_at hl 0 rfl) ?_
          refine mg_46 hx hb hts hown hK hE dX1_worth_67 ?_
          exact hret (wc63.2 46 0) wc63 hR hE (Nat.le_refl 0) (Nat.le_refl 0) dX1_worth_70
        exact hNc63 (m_expand (8 + 1) 0 w51 w62 p1 (sI (sI (sL Z 46 0 (0 : Int64)) 47 0 (0 : Int32)) 48 0 (0 : Int32))) hR _ _ _ hE (lv_sub hl [0] rfl)
      refine lv_if_eq (tgt := 61) hx hb dX1_worth_52 (by decide) (fun c52 => ?_) (fun c52 => ?_)
      · have hR : m_worth p1 p2 Z = m_worth_j62 p1 Z w51 (1 : Int64) := hR.trans (congrArg (fun z => m_worth_j62 p1 Z w51 z) (if_pos c52))
        refine lv_lconst (v := 1) hx hb dX1_worth_61 rfl ?_
        exact hJ62 (1 : Int64)  hR _ _ _ hE (lv_sub hl [0, 1] rfl)
      · have hR : m_worth p1 p2 Z = m_worth_j62 p1 Z w51 (-1 : Int64) := hR.trans (congrArg (fun z => m_worth_j62 p1 Z w51 z) (if_neg c52))
        refine lv_ldc2 (v := -1) hx hb hown (hts _ q1390) dX1_worth_55 ?_
        refine lv_goto (tgt := 62) hx hb dX1_worth_58 (by decide) ?_
        exact hJ62 (-1 : Int64)  hR _ _ _ hE (lv_sub hl [0, 1] rfl)
    refine lv_icmp_ne (tgt := 48) hx hb dX1_worth_41 (by decide) (fun c41 => ?_) (fun c41 => ?_)
    · have hR : m_worth p1 p2 Z = m_worth_j51 p1 Z w35 ((1 : Int32) <<< (p2 &&& 31)) := hR.trans (congrArg (fun z => m_worth_j51 p1 Z w35 z) (if_neg c41))
      refine lv_iconst (v := 1) hx hb dX1_worth_48 rfl ?_
      refine lv_iload_n hx hb dX1_worth_49 rfl (lv_at hl 3 rfl) ?_
      refine lv_ishl hx hb dX1_worth_50 ?_
      exact hJ51 ((1 : Int32) <<< (p2 &&& 31))  hR _ _ _ hE (lv_sub hl [1, 2, 0] rfl)
    · have hR : m_worth p1 p2 Z = m_worth_j51 p1 Z w35 (0 : Int32) := hR.trans (congrArg (fun z => m_worth_j51 p1 Z w35 z) (if_pos c41))
      refine lv_iconst (v := 0) hx hb dX1_worth_44 rfl ?_
      refine lv_goto (tgt := 51) hx hb dX1_worth_45 (by decide) ?_
      exact hJ51 (0 : Int32)  hR _ _ _ hE (lv_sub hl [1, 2, 0] rfl)
  refine lv_icmp_eq (tgt := 34) hx hb dX1_worth_18 (by decide) (fun c18 => ?_) (fun c18 => ?_)
  · have hR : m_worth p1 p2 Z = m_worth_j35 p1 p2 Z (0 : Int32) := hR.trans (congrArg (fun z => m_worth_j35 p1 p2 Z z) (if_pos c18))
    refine lv_iconst (v := 0) hx hb dX1_worth_34 rfl ?_
    exact hJ35 (0 : Int32)  hR _ _ _ hE (lv_sub hl [0, 1, 2] rfl)
  · have hR : m_worth p1 p2 Z = m_worth_j35 p1 p2 Z (if ((p1 + p2) - (p1 + p2) / (2 : Int32) * (2 : Int32)) = (1 : Int32) then (1 : Int32) else (0 : Int32)) := hR.trans (congrArg (fun z => m_worth_j35 p1 p2 Z z) (if_neg c18))
    refine lv_iload_n hx hb dX1_worth_21 rfl (lv_at hl 1 rfl) ?_
    refine lv_iload_n hx hb dX1_worth_22 rfl (lv_at hl 2 rfl) ?_
    refine lv_iadd hx hb dX1_worth_23 ?_
    refine lv_iconst (v := 2) hx hb dX1_worth_24 rfl ?_
    refine lv_irem hx hb dX1_worth_25 (by decide) ?_
    refine lv_iconst (v := 1) hx hb dX1_worth_26 rfl ?_
    refine lv_icmp_ne (tgt := 34) hx hb dX1_worth_27 (by decide) (fun c27 => ?_) (fun c27 => ?_)
    · have hR : m_worth p1 p2 Z = m_worth_j35 p1 p2 Z (0 : Int32) := hR.trans (congrArg (fun z => m_worth_j35 p1 p2 Z z) (if_neg c27))
      refine lv_iconst (v := 0) hx hb dX1_worth_34 rfl ?_
      exact hJ35 (0 : Int32)  hR _ _ _ hE (lv_sub hl [0, 1, 2] rfl)
    · have hR : m_worth p1 p2 Z = m_worth_j35 p1 p2 Z (1 : Int32) := hR.trans (congrArg (fun z => m_worth_j35 p1 p2 Z z) (if_pos c27))
      refine lv_iconst (v := 1) hx hb dX1_worth_30 rfl ?_
      refine lv_goto (tgt := 35) hx hb dX1_worth_31 (by decide) ?_
      exact hJ35 (1 : Int32)  hR _ _ _ hE (lv_sub hl [0, 1, 2] rfl)
section C_worth
variable {p : Program} {l : Launch} {e : Env} {R : Room} {s : State} {mid : MethodId} {args : Array Value} {below : List Frame} {meth : Method} {c : Code} {H : Heap} {locs : List Loc} {Q : State → Prop} {cc : ByteArray} {pc : Nat} {ls : Array Slot} {rest : List Value} {D : va_G} {A : Nat → Prop} {m : Nat} {ar : Nat → Nat} {cs : Nat → ClassId} {Z : ZT} {nL : Nat}
theorem call_m_worth (hx : p.tables.exec = Jvm.exec) (hb : c.code = cc) (hml : c.maxLocals = nL) (hown : s.vm.findClass RX1 = some mid.cls) (hts : ∀ w ∈ lw_all, w.before args s = true) (hK : KK D cs s) (hA : ∀ q : Nat, s.heap.size ≤ q → A q) (hE : EW D A s.heap (MW m ar cs Z) H locs) (hls : ls.size = nL) (p1 : Int32) (p2 : Int32) (hW : ∃ wd : Nat, wd ≤ 8 ∧ Z.1 43 0 = nI wd) (h1 : 11 ≤ R.frames) (h2 : 305 ≤ R.locals) (h3 : (rest.map fun v => v.category).sum ≤ 8) (hd : decode cc pc = .ok (.invokevirtual 316, 3)) (kk : ∀ (H1 : Heap) (locs1 : List Loc), EW D A s.heap (MW m ar cs (m_worth p1 p2 Z).2) H1 locs1 → W p l e R s mid args below meth c H1 locs1 0 0 Q (F0 mid (pc + 3) ls (.long (m_worth p1 p2 Z).1 :: rest))) : W p l e R s mid args below meth c H locs 0 0 Q (F0 mid pc ls (.int p2 :: .int p1 :: .ref m :: rest)) :=
  gCall_l (As := [.int p1, .int p2]) (rest := rest) (q0 := 0) (ci := 1) (fs := MF ar Z) (T' := TX1) (N' := 52) hx hb hml hown hts hK hA hE hls (met_m_worth l D cs m ar Z H.size p1 p2 hW) (cwV 2 hts (lw_V q1386 q1388 qs73 q85 q1389) rfl rfl rfl (by decide +kernel) ⟨h1, h2⟩) rfl rfl rfl rfl h3 hd ⟨Nat.zero_le _, Nat.zero_le _⟩ (fun v u H1 locs1 hp _ hE => by rw [hp] at kk; exact kk H1 locs1 hE)
end C_worth
def m_push_c71 (wc71 : Int32 × ZT) : Int32 × ZT := (wc71.1, wc71.2)
def m_push_c51 (wc22 : Int64 × ZT) (wc51 : Int64 × ZT) : Int32 × ZT := (if (0 : Int64) ≤ wc22.1 then (m_fraction wc51.1 wc22.1 (1 : Int32) wc51.2) else m_push_c71 (m_fraction (-wc51.1) (-wc22.1) (1 : Int32) wc51.2))
def m_push_c22 (p1 : Int32) (p2 : Int32) (wc22 : Int64 × ZT) : Int32 × ZT := (if wc22.1 = (0 : Int64) then (m_meets 4 wc22.2) else m_push_c51 wc22 (m_worth (m_placeOf (ix p2) wc22.2) (m_placeOf (ix p1) wc22.2) wc22.2))
def m_push_c14 (p1 : Int32) (p2 : Int32) (wc14 : ZT) : Int32 × ZT := m_push_c22 p1 p2 (m_worth (-9 : Int32) (-9 : Int32) wc14)
def m_push_c3 (p1 : Int32) (p2 : Int32) (wc3 : Int32 × ZT) : Int32 × ZT := (if 0 ≤ wc3.1 then m_push_c14 p1 p2 (m_layTable wc3.2) else (wc3.1, wc3.2))
def m_push (p1 : Int32) (p2 : Int32) (Z : ZT) : Int32 × ZT := m_push_c3 p1 p2 (m_needPush p1 p2 Z)
set_option maxHeartbeats 4000000 in
set_option maxRecDepth 100000 in
theorem met_m_push (l : Launch) (D : va_G) (cs : Nat → ClassId) (m : Nat) (ar : Nat → Nat) (Z : ZT) (sz : Nat) (p1 : Int32) (p2 : Int32) : Met l yX1_push (ws_ yX1_push cX1_push 8 (some .int)) ({ frames := 11, cells := 0, slots := 0, locals := 305 }) (va_Pc [.ref m, .int p1, .int p2] (wSt D cs (MW m ar cs Z) sz)) (cQi (fun (v : Int32) (u : ZT) => m_push p1 p2 Z = (v, u)) D (fun u => MW m ar cs u) (MW m ar cs Z) sz) 0 0 (va_A (MW m ar cs Z) sz) := by
  refine gStart_i (C := RX1) rfl rfl (Nat.le_of_ble_eq_true rfl) ?_
  intro p e s mid args below meth c R Q A hx hb hml hown hts hK hA hRf hRl hRc hRs hret hE ls hl
  have hRf : 11 ≤ R.frames := hRf
  have hRl : 305 ≤ R.locals := hRl
  have hl : lv_has ls 8 [(0, .ref m), (1, .int p1), (2, .int p2)] := hl
  have hR : m_push p1 p2 Z = (m_push_c3 p1 p2 (m_needPush p1 p2 Z)) := rfl
  refine lv_aload_n hx hb dX1_push_0 rfl (lv_at hl 0 rfl) ?_
  refine lv_iload_n hx hb dX1_push_1 rfl (lv_at hl 1 rfl) ?_
  refine lv_iload_n hx hb dX1_push_2 rfl (lv_at hl 2 rfl) ?_
  refine call_m_needPush hx hb hml hown hts hK hA hE hl.1 p1 p2 (lz (show 4 ≤ 11 by decide) hRf) (lz (show 88 ≤ 305 by decide) hRl) (Nat.le_of_ble_eq_true rfl) dX1_push_3 (fun H locs hE => ?_)
  have hNc3 : ∀ (wc3 : Int32 × ZT) (hewc3 : wc3 = m_needPush p1 p2 Z) (hR : m_push p1 p2 Z = m_push_c3 p1 p2 wc3), ∀ (H : Heap) (locs : List Loc) (ls : Array Slot), EW D A s.heap (MW m ar cs wc3.2) H locs → lv_has ls 8 [(0, .ref m), (1, .int p1), (2, .int p2)] → W p l e R s mid args below meth c H locs 0 0 Q (F0 mid 6 ls [.int wc3.1]) := by
    intro wc3 hewc3 hR H locs ls hE hl
    have hR : m_push p1 p2 Z = (if 0 ≤ wc3.1 then m_push_c14 p1 p2 (m_layTable wc3.2) else (wc3.1, wc3.2)) := hR
    refine lv_istore_n (lv' := [(3, .int wc3.1), (0, .ref m), (1, .int p1), (2, .int p2)]) hx hb dX1_push_6 rfl hl (by decide) rfl (fun ls hl => ?_)
    refine lv_iload_n hx hb dX1_push_7 rfl (lv_at hl 0 rfl) ?_
    refine lv_if_ge (tgt := 13) hx hb dX1_push_8 (by decide) (fun c8 => ?_) (fun c8 => ?_)
    · have hR : m_push p1 p2 Z = (m_push_c14 p1 p2 (m_layTable wc3.2)) := hR.trans (congrArg (fun z => z) (if_pos c8))
      have hnp1 := vp_ix (x := p1) (N := 8) ((needPush_ok (by rw [← hewc3]; exact c8)).1) (by decide)
      have hbnp1 := hnp1.2
      have hnp2 := vp_ix (x := p2) (N := 8) ((needPush_ok (by rw [← hewc3]; exact c8)).2.1) (by decide)
      have hbnp2 := hnp2.2
      refine lv_aload_n hx hb dX1_push_13 rfl (lv_at hl 1 rfl) ?_
      refine call_m_layTable hx hb hml hown hts hK hA hE hl.1 (lz (show 1 ≤ 11 by decide) hRf) (lz (show 22 ≤ 305 by decide) hRl) (Nat.le_of_ble_eq_true rfl) dX1_push_14 (fun H locs hE => ?_)
      have hNc14 : ∀ (wc14 : ZT) (hewc14 : wc14 = m_layTable wc3.2) (hR : m_push p1 p2 Z = m_push_c14 p1 p2 wc14), ∀ (H : Heap) (locs : List Loc) (ls : Array Slot), EW D A s.heap (MW m ar cs wc14) H locs → lv_has ls 8 [(0, .ref m), (1, .int p1), (2, .int p2)] → W p l e R s mid args below meth c H locs 0 0 Q (F0 mid 17 ls []) := by
        intro wc14 hewc14 hR H locs ls hE hl
        have hR : m_push p1 p2 Z = (m_push_c22 p1 p2 (m_worth (-9 : Int32) (-9 : Int32) wc14)) := hR
        refine lv_aload_n hx hb dX1_push_17 rfl (lv_at hl 0 rfl) ?_
        refine lv_bipush (v := -9) hx hb dX1_push_18 rfl ?_
        refine lv_bipush (v := -9) hx hb dX1_push_20 rfl ?_
        refine call_m_worth hx hb hml hown hts hK hA hE hl.1 (-9 : Int32) (-9 : Int32) (by rw [hewc14]; exact layTable_W _) (lz (show 11 ≤ 11 by decide) hRf) (lz (show 305 ≤ 305 by decide) hRl) (Nat.le_of_ble_eq_true rfl) dX1_push_22 (fun H locs hE => ?_)
        have hNc22 : ∀ (wc22 : Int64 × ZT) (hewc22 : wc22 = m_worth (-9 : Int32) (-9 : Int32) wc14) (hR : m_push p1 p2 Z = m_push_c22 p1 p2 wc22), ∀ (H : Heap) (locs : List Loc) (ls : Array Slot), EW D A s.heap (MW m ar cs wc22.2) H locs → lv_has ls 8 [(0, .ref m), (1, .int p1), (2, .int p2)] → W p l e R s mid args below meth c H locs 0 0 Q (F0 mid 25 ls [.long wc22.1]) := by
          intro wc22 hewc22 hR H locs ls hE hl
          have hR : m_push p1 p2 Z = (if wc22.1 = (0 : Int64) then (m_meets 4 wc22.2) else m_push_c51 wc22 (m_worth (m_placeOf (ix p2) wc22.2) (m_placeOf (ix p1) wc22.2) wc22.2)) := hR
          refine lv_lstore (lv' := [(4, .long wc22.1), (0, .ref m), (1, .int p1), (2, .int p2)]) hx hb dX1_push_25 hl (by decide) rfl (fun ls hl => ?_)
          refine lv_lload hx hb dX1_push_27 (lv_at hl 0 rfl) ?_
          refine lv_lconst (v := 0) hx hb dX1_push_29 rfl ?_
          refine l_ne (tgt := 40) hx hb dX1_push_30 dX1_push_31 (by decide) (fun c30 => ?_) (fun c30 => ?_)
          · have hR : m_push p1 p2 Z = (m_push_c51 wc22 (m_worth (m_placeOf (ix p2) wc22.2) (m_placeOf (ix p1) wc22.2) wc22.2)) := hR.trans (congrArg (fun z => z) (if_neg c30))
            refine lv_aload_n hx hb dX1_push_40 rfl (lv_at hl 1 rfl) ?_
            refine lv_aload_n hx hb dX1_push_41 rfl (lv_at hl 1 rfl) ?_
            refine lv_iload_n hx hb dX1_push_42 rfl (lv_at hl 3 rfl) ?_
            refine top_nat hnp2.1 ?_
            refine call_m_placeOf hx hb hml hown hts hK hA hE hl.1 (ix p2) (by omega) (lz (show 1 ≤ 11 by decide) hRf) (lz (show 23 ≤ 305 by decide) hRl) (Nat.le_of_ble_eq_true rfl) dX1_push_43 (fun H locs hE => ?_)
            refine lv_aload_n hx hb dX1_push_46 rfl (lv_at hl 1 rfl) ?_
            refine lv_iload_n hx hb dX1_push_47 rfl (lv_at hl 2 rfl) ?_
            refine top_nat hnp1.1 ?_
            refine call_m_placeOf hx hb hml hown hts hK hA hE hl.1 (ix p1) (by omega) (lz (show 1 ≤ 11 by decide) hRf) (lz (show 23 ≤ 305 by decide) hRl) (Nat.le_of_ble_eq_true rfl) dX1_push_48 (fun H locs hE => ?_)
            refine call_m_worth hx hb hml hown hts hK hA hE hl.1 (m_placeOf (ix p2) wc22.2) (m_placeOf (ix p1) wc22.2) (by rw [hewc22, worth_43, hewc14]; exact layTable_W _) (lz (show 11 ≤ 11 by decide) hRf) (lz (show 305 ≤ 305 by decide) hRl) (Nat.le_of_ble_eq_true rfl) dX1_push_51 (fun H locs hE => ?_)
            have hNc51 : ∀ (wc51 : Int64 × ZT) (hewc51 : wc51 = m_worth (m_placeOf (ix p2) wc22.2) (m_placeOf (ix p1) wc22.2) wc22.2) (hR : m_push p1 p2 Z = m_push_c51 wc22 wc51), ∀ (H : Heap) (locs : List Loc) (ls : Array Slot), EW D A s.heap (MW m ar cs wc51.2) H locs → lv_has ls 8 [(0, .ref m), (4, .long wc22.1)] → W p l e R s mid args below meth c H locs 0 0 Q (F0 mid 54 ls [.long wc51.1]) := by
              intro wc51 hewc51 hR H locs ls hE hl
              have hR : m_push p1 p2 Z = (if (0 : Int64) ≤ wc22.1 then (m_fraction wc51.1 wc22.1 (1 : Int32) wc51.2) else m_push_c71 (m_fraction (-wc51.1) (-wc22.1) (1 : Int32) wc51.2)) := hR
              refine lv_lstore (lv' := [(6, .long wc51.1), (0, .ref m), (4, .long wc22.1)]) hx hb dX1_push_54 hl (by decide) rfl (fun ls hl => ?_)
              refine lv_lload hx hb dX1_push_56 (lv_at hl 2 rfl) ?_
              refine lv_lconst (v := 0) hx hb dX1_push_58 rfl ?_
              refine l_ge (tgt := 77) hx hb dX1_push_59 dX1_push_60 (by decide) (fun c59 => ?_) (fun c59 => ?_)
              · have hR : m_push p1 p2 Z = (m_fraction wc51.1 wc22.1 (1 : Int32) wc51.2) := hR.trans (congrArg (fun z => z) (if_pos c59))
                refine lv_aload_n hx hb dX1_push_77 rfl (lv_at hl 1 rfl) ?_
                refine lv_lload hx hb dX1_push_78 (lv_at hl 0 rfl) ?_
                refine lv_lload hx hb dX1_push_80 (lv_at hl 2 rfl) ?_
                refine lv_iconst (v := 1) hx hb dX1_push_82 rfl ?_
                refine call_m_fraction hx hb hml hown hts hK hA hE hl.1 wc51.1 wc22.1 (1 : Int32) (c30) (lz (show 1 ≤ 11 by decide) hRf) (lz (show 31 ≤ 305 by decide) hRl) (Nat.le_of_ble_eq_true rfl) dX1_push_83 (fun H locs hE => ?_)
                exact hret ((m_fraction wc51.1 wc22.1 (1 : Int32) wc51.2).1) ((m_fraction wc51.1 wc22.1 (1 : Int32) wc51.2).2) hR rfl hE (Nat.le_refl 0) (Nat.le_refl 0) dX1_push_86
              · have hR : m_push p1 p2 Z = (m_push_c71 (m_fraction (-wc51.1) (-wc22.1) (1 : Int32) wc51.2)) := hR.trans (congrArg (fun z => z) (if_neg c59))
                refine lv_aload_n hx hb dX1_push_63 rfl (lv_at hl 1 rfl) ?_
                refine lv_lload hx hb dX1_push_64 (lv_at hl 0 rfl) ?_
                refine lv_lneg hx hb dX1_push_66 ?_
                refine lv_lload hx hb dX1_push_67 (lv_at hl 2 rfl) ?_
                refine lv_lneg hx hb dX1_push_69 ?_
                refine lv_iconst (v := 1) hx hb dX1_push_70 rfl ?_
                refine call_m_fraction hx hb hml hown hts hK hA hE hl.1 (-wc51.1) (-wc22.1) (1 : Int32) (neg_ne0 c30) (lz (show 1 ≤ 11 by decide) hRf) (lz (show 31 ≤ 305 by decide) hRl) (Nat.le_of_ble_eq_true rfl) dX1_push_71 (fun H locs hE => ?_)
                have hNc71 : ∀ (wc71 : Int32 × ZT) (hewc71 : wc71 = m_fraction (-wc51.1) (-wc22.1) (1 : Int32) wc51.2) (hR : m_push p1 p2 Z = m_push_c71 wc71), ∀ (H : Heap) (locs : List Loc) (ls : Array Slot), EW D A s.heap (MW m ar cs wc71.2) H locs → lv_has ls 8 [] → W p l e R s mid args below meth c H locs 0 0 Q (F0 mid 74 ls [.int wc71.1]) := by
                  intro wc71 hewc71 hR H locs ls hE hl
                  have hR : m_push p1 p2 Z = (wc71.1, wc71.2) := hR
                  refine lv_goto (tgt := 86) hx hb dX1_push_74 (by decide) ?_
                  exact hret wc71.1 wc71.2 hR rfl hE (Nat.le_refl 0) (Nat.le_refl 0) dX1_push_86
                exact hNc71 (m_fraction (-wc51.1) (-wc22.1) (1 : Int32) wc51.2) rfl hR _ _ _ hE (lv_sub hl [] rfl)
            exact hNc51 (m_worth (m_placeOf (ix p2) wc22.2) (m_placeOf (ix p1) wc22.2) wc22.2) rfl hR _ _ _ hE (lv_sub hl [1, 0] rfl)
          · have hR : m_push p1 p2 Z = (m_meets 4 wc22.2) := hR.trans (congrArg (fun z => z) (if_pos c30))
            refine lv_aload_n hx hb dX1_push_34 rfl (lv_at hl 1 rfl) ?_
            refine lv_iconst (v := 4) hx hb dX1_push_35 rfl ?_
            refine call_m_meets hx hb hml hown hts hK hA hE hl.1 4 (by omega) (lz (show 1 ≤ 11 by decide) hRf) (lz (show 21 ≤ 305 by decide) hRl) (Nat.le_of_ble_eq_true rfl) dX1_push_36 (fun H locs hE => ?_)
            exact hret ((m_meets 4 wc22.2).1) ((m_meets 4 wc22.2).2) hR rfl hE (Nat.le_refl 0) (Nat.le_refl 0) dX1_push_39
        exact hNc22 (m_worth (-9 : Int32) (-9 : Int32) wc14) rfl hR _ _ _ hE (lv_sub hl [0, 1, 2] rfl)
      exact hNc14 (m_layTable wc3.2) rfl hR _ _ _ hE (lv_sub hl [1, 2, 3] rfl)
    · have hR : m_push p1 p2 Z = (wc3.1, wc3.2) := hR.trans (congrArg (fun z => z) (if_neg c8))
      refine lv_iload_n hx hb dX1_push_11 rfl (lv_at hl 0 rfl) ?_
      exact hret wc3.1 wc3.2 hR rfl hE (Nat.le_refl 0) (Nat.le_refl 0) dX1_push_12
  exact hNc3 (m_needPush p1 p2 Z) rfl hR _ _ _ hE (lv_sub hl [0, 1, 2] rfl)
def m_terms_j67 (wc28 : Int64 × ZT) (w67 : Int32) : Int32 × ZT := (m_tells w67 (((1000 : Int32) * (wc28.2.1 47 0)) + (wc28.2.1 48 0)) wc28.2)
def m_terms_k62 : Int32 := (1 : Int32)
def m_terms_c28 (wc28 : Int64 × ZT) : Int32 × ZT := m_terms_j67 wc28 (if ((wc28.2.1 47 0) + (wc28.2.1 48 0)) = 0 then (0 : Int32) else (if wc28.2.1 47 0 = 0 then m_terms_k62 else (if wc28.2.1 48 0 = 0 then m_terms_k62 else (2 : Int32))))
def m_terms_c14 (p1 : Int32) (p2 : Int32) (wc14 : ZT) : Int32 × ZT := m_terms_c28 (m_worth (m_placeOf (ix p2) wc14) (m_placeOf (ix p1) wc14) wc14)
def m_terms_c3 (p1 : Int32) (p2 : Int32) (wc3 : Int32 × ZT) : Int32 × ZT := (if 0 ≤ wc3.1 then m_terms_c14 p1 p2 (m_layTable wc3.2) else (wc3.1, wc3.2))
def m_terms (p1 : Int32) (p2 : Int32) (Z : ZT) : Int32 × ZT := m_terms_c3 p1 p2 (m_needPush p1 p2 Z)
set_option maxHeartbeats 4000000 in
set_option maxRecDepth 100000 in
theorem met_m_terms (l : Launch) (D : va_G) (cs : Nat → ClassId) (m : Nat) (ar : Nat → Nat) (Z : ZT) (sz : Nat) (p1 : Int32) (p2 : Int32) : Met l yX1_terms (ws_ yX1_terms cX1_terms 5 (some .int)) ({ frames := 11, cells := 0, slots := 0, locals := 305 }) (va_Pc [.ref m, .int p1, .int p2] (wSt D cs (MW m ar cs Z) sz)) (cQi (fun (v : Int32) (u : ZT) => m_terms p1 p2 Z = (v, u)) D (fun u => MW m ar cs u) (MW m ar cs Z) sz) 0 0 (va_A (MW m ar cs Z) sz) := by
  refine gStart_i (C := RX1) rfl rfl (Nat.le_of_ble_eq_true rfl) ?_
  intro p e s mid args below meth c R Q A hx hb hml hown hts hK hA hRf hRl hRc hRs hret hE ls hl
  have hRf : 11 ≤ R.frames := hRf
  have hRl : 305 ≤ R.locals := hRl
  have hl : lv_has ls 5 [(0, .ref m), (1, .int p1), (2, .int p2)] := hl
  have hR : m_terms p1 p2 Z = (m_terms_c3 p1 p2 (m_needPush p1 p2 Z)) := rfl
  refine lv_aload_n hx hb dX1_terms_0 rfl (lv_at hl 0 rfl) ?_
  refine lv_iload_n hx hb dX1_terms_1 rfl (lv_at hl 1 rfl) ?_
  refine lv_iload_n hx hb dX1_terms_2 rfl (lv_at hl 2 rfl) ?_
  refine call_m_needPush hx hb hml hown hts hK hA hE hl.1 p1 p2 (lz (show 4 ≤ 11 by decide) hRf) (lz (show 88 ≤ 305 by decide) hRl) (Nat.le_of_ble_eq_true rfl) dX1_terms_3 (fun H locs hE => ?_)
  have hNc3 : ∀ (wc3 : Int32 × ZT) (hewc3 : wc3 = m_needPush p1 p2 Z) (hR : m_terms p1 p2 Z = m_terms_c3 p1 p2 wc3), ∀ (H : Heap) (locs : List Loc) (ls : Array Slot), EW D A s.heap (MW m ar cs wc3.2) H locs → lv_has ls 5 [(0, .ref m), (1, .int p1), (2, .int p2)] → W p l e R s mid args below meth c H locs 0 0 Q (F0 mid 6 ls [.int wc3.1]) := by
    intro wc3 hewc3 hR H locs ls hE hl
    have hR : m_terms p1 p2 Z = (if 0 ≤ wc3.1 then m_terms_c14 p1 p2 (m_layTable wc3.2) else (wc3.1, wc3.2)) := hR
    refine lv_istore_n (lv' := [(3, .int wc3.1), (0, .ref m), (1, .int p1), (2, .int p2)]) hx hb dX1_terms_6 rfl hl (by decide) rfl (fun ls hl => ?_)
    refine lv_iload_n hx hb dX1_terms_7 rfl (lv_at hl 0 rfl) ?_
    refine lv_if_ge (tgt := 13) hx hb dX1_terms_8 (by decide) (fun c8 => ?_) (fun c8 => ?_)
    · have hR : m_terms p1 p2 Z = (m_terms_c14 p1 p2 (m_layTable wc3.2)) := hR.trans (congrArg (fun z => z) (if_pos c8))
      have hnp1 := vp_ix (x := p1) (N := 8) ((needPush_ok (by rw [← hewc3]; exact c8)).1) (by decide)
      have hbnp1 := hnp1.2
      have hnp2 := vp_ix (x := p2) (N := 8) ((needPush_ok (by rw [← hewc3]; exact c8)).2.1) (by decide)
      have hbnp2 := hnp2.2
      refine lv_aload_n hx hb dX1_terms_13 rfl (lv_at hl 1 rfl) ?_
      refine call_m_layTable hx hb hml hown hts hK hA hE hl.1 (lz (show 1 ≤ 11 by decide) hRf) (lz (show 22 ≤ 305 by decide) hRl) (Nat.le_of_ble_eq_true rfl) dX1_terms_14 (fun H locs hE => ?_)
      have hNc14 : ∀ (wc14 : ZT) (hewc14 : wc14 = m_layTable wc3.2) (hR : m_terms p1 p2 Z = m_terms_c14 p1 p2 wc14), ∀ (H : Heap) (locs : List Loc) (ls : Array Slot), EW D A s.heap (MW m ar cs wc14) H locs → lv_has ls 5 [(0, .ref m), (1, .int p1), (2, .int p2)] → W p l e R s mid args below meth c H locs 0 0 Q (F0 mid 17 ls []) := by
        intro wc14 hewc14 hR H locs ls hE hl
        have hR : m_terms p1 p2 Z = (m_terms_c28 (m_worth (m_placeOf (ix p2) wc14) (m_placeOf (ix p1) wc14) wc14)) := hR
        refine lv_aload_n hx hb dX1_terms_17 rfl (lv_at hl 0 rfl) ?_
        refine lv_aload_n hx hb dX1_terms_18 rfl (lv_at hl 0 rfl) ?_
        refine lv_iload_n hx hb dX1_terms_19 rfl (lv_at hl 2 rfl) ?_
        refine top_nat hnp2.1 ?_
        refine call_m_placeOf hx hb hml hown hts hK hA hE hl.1 (ix p2) (by omega) (lz (show 1 ≤ 11 by decide) hRf) (lz (show 23 ≤ 305 by decide) hRl) (Nat.le_of_ble_eq_true rfl) dX1_terms_20 (fun H locs hE => ?_)
        refine lv_aload_n hx hb dX1_terms_23 rfl (lv_at hl 0 rfl) ?_
        refine lv_iload_n hx hb dX1_terms_24 rfl (lv_at hl 1 rfl) ?_
        refine top_nat hnp1.1 ?_
        refine call_m_placeOf hx hb hml hown hts hK hA hE hl.1 (ix p1) (by omega) (lz (show 1 ≤ 11 by decide) hRf) (lz (show 23 ≤ 305 by decide) hRl) (Nat.le_of_ble_eq_true rfl) dX1_terms_25 (fun H locs hE => ?_)
        refine call_m_worth hx hb hml hown hts hK hA hE hl.1 (m_placeOf (ix p2) wc14) (m_placeOf (ix p1) wc14) (by rw [hewc14]; exact layTable_W _) (lz (show 11 ≤ 11 by decide) hRf) (lz (show 305 ≤ 305 by decide) hRl) (Nat.le_of_ble_eq_true rfl) dX1_terms_28 (fun H locs hE => ?_)
        have hNc28 : ∀ (wc28 : Int64 × ZT) (hewc28 : wc28 = m_worth (m_placeOf (ix p2) wc14) (m_placeOf (ix p1) wc14) wc14) (hR : m_terms p1 p2 Z = m_terms_c28 wc28), ∀ (H : Heap) (locs : List Loc) (ls : Array Slot), EW D A s.heap (MW m ar cs wc28.2) H locs → lv_has ls 5 [(0, .ref m)] → W p l e R s mid args below meth c H locs 0 0 Q (F0 mid 31 ls [.long wc28.1]) := by
          intro wc28 hewc28 hR H locs ls hE hl
          have hR : m_terms p1 p2 Z = (m_terms_j67 wc28 (if ((wc28.2.1 47 0) + (wc28.2.1 48 0)) = 0 then (0 : Int32) else (if wc28.2.1 47 0 = 0 then m_terms_k62 else (if wc28.2.1 48 0 = 0 then m_terms_k62 else (2 : Int32))))) := hR
          refine lv_pop2_2 hx hb dX1_terms_31 rfl ?_
          refine lv_aload_n hx hb dX1_terms_32 rfl (lv_at hl 0 rfl) ?_
          refine mg_47 hx hb hts hown hK hE dX1_terms_33 ?_
          refine lv_aload_n hx hb dX1_terms_36 rfl (lv_at hl 0 rfl) ?_
          refine mg_48 hx hb hts hown hK hE dX1_terms_37 ?_
          refine lv_iadd hx hb dX1_terms_40 ?_
          have hJ67 : ∀ (w67 : Int32) (hR : m_terms p1 p2 Z = m_terms_j67 wc28 w67), ∀ (H : Heap) (locs : List Loc) (ls : Array Slot), EW D A s.heap (MW m ar cs wc28.2) H locs → lv_has ls 5 [(0, .ref m)] → W p l e R s mid args below meth c H locs 0 0 Q (F0 mid 67 ls [.int w67]) := by
            intro w67 hR H locs ls hE hl
            have hR : m_terms p1 p2 Z = (m_tells w67 (((1000 : Int32) * (wc28.2.1 47 0)) + (wc28.2.1 48 0)) wc28.2) := hR
            refine lv_istore (lv' := [(4, .int w67), (0, .ref m)]) hx hb dX1_terms_67 hl (by decide) rfl (fun ls hl => ?_)
            refine lv_aload_n hx hb dX1_terms_69 rfl (lv_at hl 1 rfl) ?_
            refine lv_iload hx hb dX1_terms_70 (lv_at hl 0 rfl) ?_
            refine lv_sipush (v := 1000) hx hb dX1_terms_72 rfl ?_
            refine lv_aload_n hx hb dX1_terms_75 rfl (lv_at hl 1 rfl) ?_
            refine mg_47 hx hb hts hown hK hE dX1_terms_76 ?_
            refine lv_imul hx hb dX1_terms_79 ?_
            refine lv_aload_n hx hb dX1_terms_80 rfl (lv_at hl 1 rfl) ?_
            refine mg_48 hx hb hts hown hK hE dX1_terms_81 ?_
            refine lv_iadd hx hb dX1_terms_84 ?_
            refine call_m_tells hx hb hml hown hts hK hA hE hl.1 w67 (((1000 : Int32) * (wc28.2.1 47 0)) + (wc28.2.1 48 0)) (lz (show 1 ≤ 11 by decide) hRf) (lz (show 22 ≤ 305 by decide) hRl) (Nat.le_of_ble_eq_true rfl) dX1_terms_85 (fun H locs hE => ?_)
            exact hret ((m_tells w67 (((1000 : Int32) * (wc28.2.1 47 0)) + (wc28.2.1 48 0)) wc28.2).1) ((m_tells w67 (((1000 : Int32) * (wc28.2.1 47 0)) + (wc28.2.1 48 0)) wc28.2).2) hR rfl hE (Nat.le_refl 0) (Nat.le_refl 0) dX1_terms_88
          refine lv_if_ne (tgt := 48) hx hb dX1_terms_41 (by decide) (fun c41 => ?_) (fun c41 => ?_)
          · have hR : m_terms p1 p2 Z = m_terms_j67 wc28 (if wc28.2.1 47 0 = 0 then m_terms_k62 else (if wc28.2.1 48 0 = 0 then m_terms_k62 else (2 : Int32))) := hR.trans (congrArg (fun z => m_terms_j67 wc28 z) (if_neg c41))
            refine lv_aload_n hx hb dX1_terms_48 rfl (lv_at hl 0 rfl) ?_
            refine mg_47 hx hb hts hown hK hE dX1_terms_49 ?_
            have hJ62 : ∀ (hR : m_terms p1 p2 Z = m_terms_j67 wc28 m_terms_k62), ∀ (H : Heap) (locs : List Loc) (ls : Array Slot), EW D A s.heap (MW m ar cs wc28.2) H locs → lv_has ls 5 [(0, .ref m)] → W p l e R s mid args below meth c H locs 0 0 Q (F0 mid 62 ls []) := by
              intro hR H locs ls hE hl
              have hR : m_terms p1 p2 Z = m_terms_j67 wc28 (1 : Int32) := hR
              refine lv_iconst (v := 1) hx hb dX1_terms_62 rfl ?_
              refine lv_goto (tgt := 67) hx hb dX1_terms_63 (by decide) ?_
              exact hJ67 (1 : Int32)  hR _ _ _ hE (lv_sub hl [0] rfl)
            refine lv_if_eq (tgt := 62) hx hb dX1_terms_52 (by decide) (fun c52 => ?_) (fun c52 => ?_)
            · have hR : m_terms p1 p2 Z = m_terms_j67 wc28 m_terms_k62 := hR.trans (congrArg (fun z => m_terms_j67 wc28 z) (if_pos c52))
              exact hJ62  hR _ _ _ hE (lv_sub hl [0] rfl)
            · have hR : m_terms p1 p2 Z = m_terms_j67 wc28 (if wc28.2.1 48 0 = 0 then m_terms_k62 else (2 : Int32)) := hR.trans (congrArg (fun z => m_terms_j67 wc28 z) (if_neg c52))
              refine lv_aload_n hx hb dX1_terms_55 rfl (lv_at hl 0 rfl) ?_
              refine mg_48 hx hb hts hown hK hE dX1_terms_56 ?_
              refine lv_if_ne (tgt := 66) hx hb dX1_terms_59 (by decide) (fun c59 => ?_) (fun c59 => ?_)
              · have hR : m_terms p1 p2 Z = m_terms_j67 wc28 (2 : Int32) := hR.trans (congrArg (fun z => m_terms_j67 wc28 z) (if_neg c59))
                refine lv_iconst (v := 2) hx hb dX1_terms_66 rfl ?_
                exact hJ67 (2 : Int32)  hR _ _ _ hE (lv_sub hl [0] rfl)
              · have hR : m_terms p1 p2 Z = m_terms_j67 wc28 m_terms_k62 := hR.trans (congrArg (fun z => m_terms_j67 wc28 z) (if_pos c59))
                exact hJ62  hR _ _ _ hE (lv_sub hl [0] rfl)
          · have hR : m_terms p1 p2 Z = m_terms_j67 wc28 (0 : Int32) := hR.trans (congrArg (fun z => m_terms_j67 wc28 z) (if_pos c41))
            refine lv_iconst (v := 0) hx hb dX1_terms_44 rfl ?_
            refine lv_goto (tgt := 67) hx hb dX1_terms_45 (by decide) ?_
            exact hJ67 (0 : Int32)  hR _ _ _ hE (lv_sub hl [0] rfl)
        exact hNc28 (m_worth (m_placeOf (ix p2) wc14) (m_placeOf (ix p1) wc14) wc14) rfl hR _ _ _ hE (lv_sub hl [0] rfl)
      exact hNc14 (m_layTable wc3.2) rfl hR _ _ _ hE (lv_sub hl [1, 2, 3] rfl)
    · have hR : m_terms p1 p2 Z = (wc3.1, wc3.2) := hR.trans (congrArg (fun z => z) (if_neg c8))
      refine lv_iload_n hx hb dX1_terms_11 rfl (lv_at hl 0 rfl) ?_
      exact hret wc3.1 wc3.2 hR rfl hE (Nat.le_refl 0) (Nat.le_refl 0) dX1_terms_12
  exact hNc3 (m_needPush p1 p2 Z) rfl hR _ _ _ hE (lv_sub hl [0, 1, 2] rfl)
def m_smallWorth_j82 (w82 : Int64 × Int32) : Int64 × Int32 := (w82.1, w82.2)
def m_smallWorth_j76 (w16 : Int64 × Int32) (w76 : Int64) : Int64 × Int32 := ((w16.1 + w76), (w16.2 + 1))
def m_smallWorth_b16 (rec : Nat → Int32 → Nat → ZT → Int64) (p1 : Nat) (p2 : Int32) (p3 : Nat) (Z : ZT) (i16 : Nat) (w16 : Int64 × Int32) : Int64 × Int32 := m_smallWorth_j82 (if (m_has p2 i16) = 0 then m_smallWorth_j76 w16 (if (w16.2 - w16.2 / (2 : Int32) * (2 : Int32)) = 0 then ((Z.2 50 ((4 * p1) + i16)) * (rec (p1 + 1) (p2 ||| ((1 : Int32) <<< ((nI i16) &&& 31))) p3 Z)) else (-((Z.2 50 ((4 * p1) + i16)) * (rec (p1 + 1) (p2 ||| ((1 : Int32) <<< ((nI i16) &&& 31))) p3 Z)))) else (w16.1, w16.2))
def m_smallWorth_e16 (w16 : Int64 × Int32) : Int64 := w16.1
def m_smallWorth_body (rec : Nat → Int32 → Nat → ZT → Int64) (p1 : Nat) (p2 : Int32) (p3 : Nat) (Z : ZT) : Int64 := (if p1 = p3 then (1 : Int64) else m_smallWorth_e16 (itR (m_smallWorth_b16 rec p1 p2 p3 Z) 0 p3 ((0 : Int64), (0 : Int32))))
def m_smallWorth : Nat → Nat → Int32 → Nat → ZT → Int64
  | 0 => fun _ _ _ Z => 0
  | d + 1 => m_smallWorth_body (m_smallWorth d)
section R_smallWorth
variable {p : Program} {l : Launch} {e : Env} {R : Room} {s : State} {mid : MethodId} {args : Array Value} {below : List Frame} {meth : Method} {c : Code} {H : Heap} {locs : List Loc} {Q : State → Prop} {cc : ByteArray} {pc : Nat} {ls : Array Slot} {rest : List Value} {D : va_G} {A : Nat → Prop} {m : Nat} {ar : Nat → Nat} {cs : Nat → ClassId} {Z : ZT} {nL : Nat}
theorem call_m_smallWorth_of {rm : Room} {spv : Nat → Int32 → Nat → ZT → Int64} (hx : p.tables.exec = Jvm.exec) (hb : c.code = cc) (hml : c.maxLocals = nL) (hown : s.vm.findClass RX1 = some mid.cls) (hts : ∀ w ∈ lw_all, w.before args s = true) (hK : KK D cs s) (hA : ∀ q : Nat, s.heap.size ≤ q → A q) (hE : EW D A s.heap (MW m ar cs Z) H locs) (hls : ls.size = nL) (p1 : Nat) (p2 : Int32) (p3 : Nat) (hM : Met l yX1_smallWorth (ws_ yX1_smallWorth cX1_smallWorth 10 (some .long)) rm (va_Pc [.ref m, .int (nI p1), .int p2, .int (nI p3)] (wSt D cs (MW m ar cs Z) H.size)) (cQl (fun (v : Int64) (_ : Unit) => spv p1 p2 p3 Z = v) D (fun _ => (MW m ar cs Z)) (MW m ar cs Z) H.size) 0 0 (va_A (MW m ar cs Z) H.size)) (h1 : rm.frames + 1 ≤ R.frames) (h2 : 29 + rm.locals ≤ R.locals) (h3 : (rest.map fun v => v.category).sum ≤ 8) (hd : decode cc pc = .ok (.invokevirtual 330, 3)) (kk : ∀ (H1 : Heap) (locs1 : List Loc), EW D A s.heap (MW m ar cs Z) H1 locs1 → W p l e R s mid args below meth c H1 locs1 0 0 Q (F0 mid (pc + 3) ls (.long (spv p1 p2 p3 Z) :: rest))) (hrc : rm.cells = 0 := by rfl) (hrs : rm.slots = 0 := by rfl) : W p l e R s mid args below meth c H locs 0 0 Q (F0 mid pc ls (.int (nI p3) :: .int p2 :: .int (nI p1) :: .ref m :: rest)) :=
  gCall_l (As := [.int (nI p1), .int p2, .int (nI p3)]) (rest := rest) (q0 := 0) (ci := 1) (fs := MF ar Z) (T' := TX1) (N' := 52) hx hb hml hown hts hK hA hE hls hM (cwV 3 hts (lw_V q1419 q1421 qs79 q85 q1422) rfl hrc hrs (by decide +kernel) ⟨h1, h2⟩) rfl rfl rfl rfl h3 hd ⟨Nat.zero_le _, Nat.zero_le _⟩ (fun v u H1 locs1 hp _ hE => by subst hp; exact kk H1 locs1 hE)
end R_smallWorth
set_option maxHeartbeats 4000000 in
set_option maxRecDepth 100000 in
theorem step_m_smallWorth (l : Launch) (D : va_G) (cs : Nat → ClassId) (m : Nat) (ar : Nat → Nat) (d : Nat) (hrec : ∀ (Z : ZT) (sz : Nat) (p1 : Nat) (p2 : Int32) (p3 : Nat) (hn1 : p1 < 5) (hn3 : p3 < 5) (hrm : p1 ≤ p3), p3 - p1 + 1 ≤ d → Met l yX1_smallWorth (ws_ yX1_smallWorth cX1_smallWorth 10 (some .long)) ({ frames := 1 + (d - 1), cells := 0, slots := 0, locals := 21 + (d - 1) * 29 }) (va_Pc [.ref m, .int (nI p1), .int p2, .int (nI p3)] (wSt D cs (MW m ar cs Z) sz)) (cQl (fun (v : Int64) (_ : Unit) => m_smallWorth d p1 p2 p3 Z = v) D (fun _ => (MW m ar cs Z)) (MW m ar cs Z) sz) 0 0 (va_A (MW m ar cs Z) sz)) (Z : ZT) (sz : Nat) (p1 : Nat) (p2 : Int32) (p3 : Nat) (hn1 : p1 < 5) (hn3 : p3 < 5) (hrm : p1 ≤ p3) (hmu : p3 - p1 ≤ d) : Met l yX1_smallWorth (ws_ yX1_smallWorth cX1_smallWorth 10 (some .long)) ({ frames := 1 + d, cells := 0, slots := 0, locals := 21 + d * 29 }) (va_Pc [.ref m, .int (nI p1), .int p2, .int (nI p3)] (wSt D cs (MW m ar cs Z) sz)) (cQl (fun (v : Int64) (_ : Unit) => m_smallWorth (d + 1) p1 p2 p3 Z = v) D (fun _ => (MW m ar cs Z)) (MW m ar cs Z) sz) 0 0 (va_A (MW m ar cs Z) sz) := by
  refine gStart_l (C := RX1) rfl rfl (Nat.le_of_ble_eq_true rfl) ?_
  intro p e s mid args below meth c R Q A hx hb hml hown hts hK hA hRf hRl hRc hRs hret hE ls hl
  have hRf : 1 + d ≤ R.frames := hRf
  have hRl : 21 + d * 29 ≤ R.locals := hRl
  have hl : lv_has ls 10 [(0, .ref m), (1, .int (nI p1)), (2, .int p2), (3, .int (nI p3))] := hl
  have hR : m_smallWorth (d + 1) p1 p2 p3 Z = (if p1 = p3 then (1 : Int64) else m_smallWorth_e16 (itR (m_smallWorth_b16 (m_smallWorth d) p1 p2 p3 Z) 0 p3 ((0 : Int64), (0 : Int32)))) := rfl
  refine lv_iload_n hx hb dX1_smallWorth_0 rfl (lv_at hl 1 rfl) ?_
  refine lv_iload_n hx hb dX1_smallWorth_1 rfl (lv_at hl 3 rfl) ?_
  refine n_icmp_ne (a := p1) (b := p3) (tgt := 7) (by omega) (by omega) hx hb dX1_smallWorth_2 (by decide) (fun c2 => ?_) (fun c2 => ?_)
  · have hR : m_smallWorth (d + 1) p1 p2 p3 Z = (m_smallWorth_e16 (itR (m_smallWorth_b16 (m_smallWorth d) p1 p2 p3 Z) 0 p3 ((0 : Int64), (0 : Int32)))) := hR.trans (congrArg (fun z => z) (if_neg c2))
    refine lv_lconst (v := 0) hx hb dX1_smallWorth_7 rfl ?_
    refine lv_lstore (lv' := [(4, .long (0 : Int64)), (0, .ref m), (1, .int (nI p1)), (2, .int p2), (3, .int (nI p3))]) hx hb dX1_smallWorth_8 hl (by decide) rfl (fun ls hl => ?_)
    refine lv_iconst (v := 0) hx hb dX1_smallWorth_10 rfl ?_
    refine lv_istore (lv' := [(6, .int (0 : Int32)), (4, .long (0 : Int64)), (0, .ref m), (1, .int (nI p1)), (2, .int p2), (3, .int (nI p3))]) hx hb dX1_smallWorth_11 hl (by decide) rfl (fun ls hl => ?_)
    refine lv_iconst (v := 0) hx hb dX1_smallWorth_13 rfl ?_
    refine lv_istore (lv' := [(7, .int (0 : Int32)), (6, .int (0 : Int32)), (4, .long (0 : Int64)), (0, .ref m), (1, .int (nI p1)), (2, .int p2), (3, .int (nI p3))]) hx hb dX1_smallWorth_14 hl (by decide) rfl (fun ls hl => ?_)
    have hL16 : ∀ (k i16 : Nat) (w16 : Int64 × Int32) (hi16 : i16 + k = p3) (hR : m_smallWorth (d + 1) p1 p2 p3 Z = m_smallWorth_e16 (itR (m_smallWorth_b16 (m_smallWorth d) p1 p2 p3 Z) i16 k w16)), ∀ (H : Heap) (locs : List Loc) (ls : Array Slot), EW D A s.heap (MW m ar cs Z) H locs → lv_has ls 10 [(0, .ref m), (1, .int (nI p1)), (2, .int p2), (3, .int (nI p3)), (4, .long w16.1), (6, .int w16.2), (7, .int (nI i16))] → W p l e R s mid args below meth c H locs 0 0 Q (F0 mid 16 ls []) := by
      intro k
      induction k with
      | zero =>
        intro i16 w16 hi16 hR H locs ls hE hl
        have hie16 : i16 = p3 := by omega
        have hR : m_smallWorth (d + 1) p1 p2 p3 Z = w16.1 := hR
        refine lv_iload hx hb dX1_smallWorth_16 (lv_at hl 6 rfl) ?_
        refine lv_iload_n hx hb dX1_smallWorth_18 rfl (lv_at hl 3 rfl) ?_
        refine n_geT (a := i16) (b := p3) (by omega) (by omega) hx hb dX1_smallWorth_19 (tgt := 88) (by decide) ?_
        have hl := lv_sub (l' := [(0, .ref m), (1, .int (nI p1)), (2, .int p2), (3, .int (nI p3)), (4, .long w16.1), (6, .int w16.2)]) hl [0, 1, 2, 3, 4, 5] rfl
        refine lv_lload hx hb dX1_smallWorth_88 (lv_at hl 4 rfl) ?_
        exact hret w16.1 () hR hE (Nat.le_refl 0) (Nat.le_refl 0) dX1_smallWorth_90
      | succ k ih16 =>
        intro i16 w16 hi16 hR H locs ls hE hl
        have hlt16 : i16 < p3 := by omega
        have hB16 : m_smallWorth_b16 (m_smallWorth d) p1 p2 p3 Z i16 w16 = m_smallWorth_j82 (if (m_has p2 i16) = 0 then m_smallWorth_j76 w16 (if (w16.2 - w16.2 / (2 : Int32) * (2 : Int32)) = 0 then ((Z.2 50 ((4 * p1) + i16)) * ((m_smallWorth d) (p1 + 1) (p2 ||| ((1 : Int32) <<< ((nI i16) &&& 31))) p3 Z)) else (-((Z.2 50 ((4 * p1) + i16)) * ((m_smallWorth d) (p1 + 1) (p2 ||| ((1 : Int32) <<< ((nI i16) &&& 31))) p3 Z)))) else (w16.1, w16.2)) := rfl
        refine lv_iload hx hb dX1_smallWorth_16 (lv_at hl 6 rfl) ?_
        refine lv_iload_n hx hb dX1_smallWorth_18 rfl (lv_at hl 3 rfl) ?_
        refine n_geF (a := i16) (b := p3) (by omega) (by omega) hx hb dX1_smallWorth_19 (tgt := 88) (by decide) ?_
        refine lv_iload_n hx hb dX1_smallWorth_22 rfl (lv_at hl 2 rfl) ?_
        refine lv_iload hx hb dX1_smallWorth_23 (lv_at hl 6 rfl) ?_
        refine call_m_has hx hb hml hown hts hK hA hE hl.1 p2 i16 (by omega) (by omega) (Nat.le_of_ble_eq_true rfl) dX1_smallWorth_25 (fun H locs hE => ?_)
        have hJ82 : ∀ (w82 : Int64 × Int32) (hB16 : m_smallWorth_b16 (m_smallWorth d) p1 p2 p3 Z i16 w16 = m_smallWorth_j82 w82), ∀ (H : Heap) (locs : List Loc) (ls : Array Slot), EW D A s.heap (MW m ar cs Z) H locs → lv_has ls 10 [(0, .ref m), (1, .int (nI p1)), (2, .int p2), (3, .int (nI p3)), (4, .long w82.1), (6, .int w82.2), (7, .int (nI i16))] → W p l e R s mid args below meth c H locs 0 0 Q (F0 mid 82 ls []) := by
          intro w82 hB16 H locs ls hE hl
          have hB16 : m_smallWorth_b16 (m_smallWorth d) p1 p2 p3 Z i16 w16 = (w82.1, w82.2) := hB16
          refine n_inc (lv' := [(7, .int (nI (i16 + 1))), (0, .ref m), (1, .int (nI p1)), (2, .int p2), (3, .int (nI p3)), (4, .long w82.1), (6, .int w82.2)]) hx hb dX1_smallWorth_82 hl (k := 6) rfl (by decide) rfl (fun ls hl => ?_)
          refine lv_goto (tgt := 16) hx hb dX1_smallWorth_85 (by decide) ?_
          exact ih16 (i16 + 1) (w82.1, w82.2) (by omega) (hR.trans (congrArg (fun z => m_smallWorth_e16 (itR (m_smallWorth_b16 (m_smallWorth d) p1 p2 p3 Z) (i16 + 1) k z)) hB16)) _ _ _ hE (lv_sub hl [1, 2, 3, 4, 5, 6, 0] rfl)
        refine lv_if_ne (tgt := 82) hx hb dX1_smallWorth_28 (by decide) (fun c28 => ?_) (fun c28 => ?_)
        · have hB16 : m_smallWorth_b16 (m_smallWorth d) p1 p2 p3 Z i16 w16 = m_smallWorth_j82 (w16.1, w16.2) := hB16.trans (congrArg (fun z => m_smallWorth_j82 z) (if_neg c28))
          exact hJ82 (w16.1, w16.2)  hB16 _ _ _ hE (lv_sub hl [0, 1, 2, 3, 4, 5, 6] rfl)
        · have hB16 : m_smallWorth_b16 (m_smallWorth d) p1 p2 p3 Z i16 w16 = m_smallWorth_j82 (m_smallWorth_j76 w16 (if (w16.2 - w16.2 / (2 : Int32) * (2 : Int32)) = 0 then ((Z.2 50 ((4 * p1) + i16)) * ((m_smallWorth d) (p1 + 1) (p2 ||| ((1 : Int32) <<< ((nI i16) &&& 31))) p3 Z)) else (-((Z.2 50 ((4 * p1) + i16)) * ((m_smallWorth d) (p1 + 1) (p2 ||| ((1 : Int32) <<< ((nI i16) &&& 31))) p3 Z))))) := hB16.trans (congrArg (fun z => m_smallWorth_j82 z) (if_pos c28))
          refine lv_aload_n hx hb dX1_smallWorth_31 rfl (lv_at hl 0 rfl) ?_
          refine mg_50 hx hb hts hown hK hE dX1_smallWorth_32 ?_
          refine lv_iconst (v := 4) hx hb dX1_smallWorth_35 rfl ?_
          refine lv_iload_n hx hb dX1_smallWorth_36 rfl (lv_at hl 1 rfl) ?_
          refine n_mul (a := 4) (b := p1) hx hb dX1_smallWorth_37 ?_
          refine lv_iload hx hb dX1_smallWorth_38 (lv_at hl 6 rfl) ?_
          refine n_add (a := (4 * p1)) (b := i16) hx hb dX1_smallWorth_40 ?_
          refine ma_50 (n := ((4 * p1) + i16)) (by omega) hx hb hK hE dX1_smallWorth_41 ?_
          refine lv_aload_n hx hb dX1_smallWorth_42 rfl (lv_at hl 0 rfl) ?_
          refine lv_iload_n hx hb dX1_smallWorth_43 rfl (lv_at hl 1 rfl) ?_
          refine lv_iconst (v := 1) hx hb dX1_smallWorth_44 rfl ?_
          refine n_add (a := p1) (b := 1) hx hb dX1_smallWorth_45 ?_
          refine lv_iload_n hx hb dX1_smallWorth_46 rfl (lv_at hl 2 rfl) ?_
          refine lv_iconst (v := 1) hx hb dX1_smallWorth_47 rfl ?_
          refine lv_iload hx hb dX1_smallWorth_48 (lv_at hl 6 rfl) ?_
          refine lv_ishl hx hb dX1_smallWorth_50 ?_
          refine lv_ior hx hb dX1_smallWorth_51 ?_
          refine lv_iload_n hx hb dX1_smallWorth_52 rfl (lv_at hl 3 rfl) ?_
          refine call_m_smallWorth_of (rm := { frames := 1 + (d - 1), cells := 0, slots := 0, locals := 21 + (d - 1) * 29 }) hx hb hml hown hts hK hA hE hl.1 (p1 + 1) (p2 ||| ((1 : Int32) <<< ((nI i16) &&& 31))) p3 (hrec Z _ (p1 + 1) (p2 ||| ((1 : Int32) <<< ((nI i16) &&& 31))) p3 (by omega) (by omega) (by omega) (by omega)) (by show 1 + (d - 1) + 1 ≤ R.frames; omega) (by show 29 + (21 + (d - 1) * 29) ≤ R.locals; omega) (Nat.le_of_ble_eq_true rfl) dX1_smallWorth_53 (fun H locs hE => ?_)
          refine lv_lmul hx hb dX1_smallWorth_56 ?_
          refine lv_lstore (lv' := [(8, .long ((Z.2 50 ((4 * p1) + i16)) * ((m_smallWorth d) (p1 + 1) (p2 ||| ((1 : Int32) <<< ((nI i16) &&& 31))) p3 Z))), (0, .ref m), (1, .int (nI p1)), (2, .int p2), (3, .int (nI p3)), (4, .long w16.1), (6, .int w16.2), (7, .int (nI i16))]) hx hb dX1_smallWorth_57 hl (by decide) rfl (fun ls hl => ?_)
          refine lv_lload hx hb dX1_smallWorth_59 (lv_at hl 5 rfl) ?_
          refine lv_iload hx hb dX1_smallWorth_61 (lv_at hl 6 rfl) ?_
          refine lv_iconst (v := 2) hx hb dX1_smallWorth_63 rfl ?_
          refine lv_irem hx hb dX1_smallWorth_64 (by decide) ?_
          have hJ76 : ∀ (w76 : Int64) (hB16 : m_smallWorth_b16 (m_smallWorth d) p1 p2 p3 Z i16 w16 = m_smallWorth_j82 (m_smallWorth_j76 w16 w76)), ∀ (H : Heap) (locs : List Loc) (ls : Array Slot), EW D A s.heap (MW m ar cs Z) H locs → lv_has ls 10 [(0, .ref m), (1, .int (nI p1)), (2, .int p2), (3, .int (nI p3)), (6, .int w16.2), (7, .int (nI i16))] → W p l e R s mid args below meth c H locs 0 0 Q (F0 mid 76 ls [.long w76, .long w16.1]) := by
            intro w76 hB16 H locs ls hE hl
            have hB16 : m_smallWorth_b16 (m_smallWorth d) p1 p2 p3 Z i16 w16 = m_smallWorth_j82 ((w16.1 + w76), (w16.2 + 1)) := hB16
            refine lv_ladd hx hb dX1_smallWorth_76 ?_
            refine lv_lstore (lv' := [(4, .long (w16.1 + w76)), (0, .ref m), (1, .int (nI p1)), (2, .int p2), (3, .int (nI p3)), (6, .int w16.2), (7, .int (nI i16))]) hx hb dX1_smallWorth_77 hl (by decide) rfl (fun ls hl => ?_)
            refine lv_iinc (v := (w16.2 + 1)) (lv' := [(6, .int (w16.2 + 1)), (4, .long (w16.1 + w76)), (0, .ref m), (1, .int (nI p1)), (2, .int p2), (3, .int (nI p3)), (7, .int (nI i16))]) hx hb dX1_smallWorth_79 hl (k := 5) rfl rfl (by decide) rfl (fun ls hl => ?_)
            exact hJ82 ((w16.1 + w76), (w16.2 + 1))  hB16 _ _ _ hE (lv_sub hl [2, 3, 4, 5, 1, 0, 6] rfl)
          refine lv_if_ne (tgt := 73) hx hb dX1_smallWorth_65 (by decide) (fun c65 => ?_) (fun c65 => ?_)
          · have hB16 : m_smallWorth_b16 (m_smallWorth d) p1 p2 p3 Z i16 w16 = m_smallWorth_j82 (m_smallWorth_j76 w16 (-((Z.2 50 ((4 * p1) + i16)) * ((m_smallWorth d) (p1 + 1) (p2 ||| ((1 : Int32) <<< ((nI i16) &&& 31))) p3 Z)))) := hB16.trans (congrArg (fun z => m_smallWorth_j82 (m_smallWorth_j76 w16 z)) (if_neg c65))
            refine lv_lload hx hb dX1_smallWorth_73 (lv_at hl 0 rfl) ?_
            refine lv_lneg hx hb dX1_smallWorth_75 ?_
            exact hJ76 (-((Z.2 50 ((4 * p1) + i16)) * ((m_smallWorth d) (p1 + 1) (p2 ||| ((1 : Int32) <<< ((nI i16) &&& 31))) p3 Z)))  hB16 _ _ _ hE (lv_sub hl [1, 2, 3, 4, 6, 7] rfl)
          · have hB16 : m_smallWorth_b16 (m_smallWorth d) p1 p2 p3 Z i16 w16 = m_smallWorth_j82 (m_smallWorth_j76 w16 ((Z.2 50 ((4 * p1) + i16)) * ((m_smallWorth d) (p1 + 1) (p2 ||| ((1 : Int32) <<< ((nI i16) &&& 31))) p3 Z))) := hB16.trans (congrArg (fun z => m_smallWorth_j82 (m_smallWorth_j76 w16 z)) (if_pos c65))
            refine lv_lload hx hb dX1_smallWorth_68 (lv_at hl 0 rfl) ?_
            refine lv_goto (tgt := 76) hx hb dX1_smallWorth_70 (by decide) ?_
            exact hJ76 ((Z.2 50 ((4 * p1) + i16)) * ((m_smallWorth d) (p1 + 1) (p2 ||| ((1 : Int32) <<< ((nI i16) &&& 31))) p3 Z))  hB16 _ _ _ hE (lv_sub hl [1, 2, 3, 4, 6, 7] rfl)
    exact hL16 p3 0 ((0 : Int64), (0 : Int32)) (by omega) hR _ _ _ hE (lv_sub hl [3, 4, 5, 6, 2, 1, 0] rfl)
  · have hR : m_smallWorth (d + 1) p1 p2 p3 Z = (1 : Int64) := hR.trans (congrArg (fun z => z) (if_pos c2))
    refine lv_lconst (v := 1) hx hb dX1_smallWorth_5 rfl ?_
    exact hret (1 : Int64) () hR hE (Nat.le_refl 0) (Nat.le_refl 0) dX1_smallWorth_6
theorem met_m_smallWorth (l : Launch) (D : va_G) (cs : Nat → ClassId) (m : Nat) (ar : Nat → Nat) (d : Nat) : ∀ (Z : ZT) (sz : Nat) (p1 : Nat) (p2 : Int32) (p3 : Nat) (hn1 : p1 < 5) (hn3 : p3 < 5) (hrm : p1 ≤ p3) (hmu : p3 - p1 ≤ d), Met l yX1_smallWorth (ws_ yX1_smallWorth cX1_smallWorth 10 (some .long)) ({ frames := 1 + d, cells := 0, slots := 0, locals := 21 + d * 29 }) (va_Pc [.ref m, .int (nI p1), .int p2, .int (nI p3)] (wSt D cs (MW m ar cs Z) sz)) (cQl (fun (v : Int64) (_ : Unit) => m_smallWorth (d + 1) p1 p2 p3 Z = v) D (fun _ => (MW m ar cs Z)) (MW m ar cs Z) sz) 0 0 (va_A (MW m ar cs Z) sz) := by
  induction d with
  | zero => exact step_m_smallWorth l D cs m ar 0 (fun _ _ _ _ _ _ _ _ h => absurd h (Nat.not_succ_le_zero _))
  | succ d ih => exact step_m_smallWorth l D cs m ar (d + 1) (fun Z sz p1 p2 p3 hn1 hn3 hrm h => ih Z sz p1 p2 p3 hn1 hn3 hrm (Nat.le_of_succ_le_succ h))
section C_smallWorth
variable {p : Program} {l : Launch} {e : Env} {R : Room} {s : State} {mid : MethodId} {args : Array Value} {below : List Frame} {meth : Method} {c : Code} {H : Heap} {locs : List Loc} {Q : State → Prop} {cc : ByteArray} {pc : Nat} {ls : Array Slot} {rest : List Value} {D : va_G} {A : Nat → Prop} {m : Nat} {ar : Nat → Nat} {cs : Nat → ClassId} {Z : ZT} {nL : Nat}
theorem call_m_smallWorth (d : Nat) (hx : p.tables.exec = Jvm.exec) (hb : c.code = cc) (hml : c.maxLocals = nL) (hown : s.vm.findClass RX1 = some mid.cls) (hts : ∀ w ∈ lw_all, w.before args s = true) (hK : KK D cs s) (hA : ∀ q : Nat, s.heap.size ≤ q → A q) (hE : EW D A s.heap (MW m ar cs Z) H locs) (hls : ls.size = nL) (p1 : Nat) (p2 : Int32) (p3 : Nat) (hn1 : p1 < 5) (hn3 : p3 < 5) (hrm : p1 ≤ p3) (hmu : p3 - p1 ≤ d) (h1 : 1 + d + 1 ≤ R.frames) (h2 : 29 + (21 + d * 29) ≤ R.locals) (h3 : (rest.map fun v => v.category).sum ≤ 8) (hd : decode cc pc = .ok (.invokevirtual 330, 3)) (kk : ∀ (H1 : Heap) (locs1 : List Loc), EW D A s.heap (MW m ar cs Z) H1 locs1 → W p l e R s mid args below meth c H1 locs1 0 0 Q (F0 mid (pc + 3) ls (.long (m_smallWorth (d + 1) p1 p2 p3 Z) :: rest))) : W p l e R s mid args below meth c H locs 0 0 Q (F0 mid pc ls (.int (nI p3) :: .int p2 :: .int (nI p1) :: .ref m :: rest)) :=
  call_m_smallWorth_of hx hb hml hown hts hK hA hE hls p1 p2 p3 (met_m_smallWorth l D cs m ar d Z H.size p1 p2 p3 hn1 hn3 hrm hmu) h1 h2 h3 hd kk
end C_smallWorth
