/-! the twin: rings -/
set_option maxRecDepth 100000
theorem in_pos {v hi : Int32} (h : ¬ m_in v 1 hi = 0) : 1 ≤ ix v := by
  have := (m_in_bd h).1
  have e : (ix v : Int) = v.toInt := Int.toNat_of_nonneg (by have : (1 : Int32).toInt = 1 := rfl; omega)
  have : (1 : Int32).toInt = 1 := rfl
  omega
def m_ringsFrom_j77 (w28 : Int32) (w77 : Int32) : Int32 := (w28 + w77)
def m_ringsFrom_b28 (rec : Nat → Nat → Int32 → Nat → ZT → Int32) (p1 : Nat) (p2 : Nat) (p3 : Int32) (p4 : Nat) (Z : ZT) (i28 : Nat) (w28 : Int32) : Int32 := m_ringsFrom_j77 w28 (if (m_isLink p2 i28 Z) = 0 then (0 : Int32) else (if (m_has p3 i28) = 0 then (rec p1 i28 (p3 ||| ((1 : Int32) <<< ((nI i28) &&& 31))) (p4 - 1) Z) else (0 : Int32)))
def m_ringsFrom_e28 (w28 : Int32) : Int32 := w28
def m_ringsFrom_body (rec : Nat → Nat → Int32 → Nat → ZT → Int32) (p1 : Nat) (p2 : Nat) (p3 : Int32) (p4 : Nat) (Z : ZT) : Int32 := (if p4 = 0 then (if (m_isLink p2 p1 Z) = 0 then (0 : Int32) else (1 : Int32)) else m_ringsFrom_e28 (itR (m_ringsFrom_b28 rec p1 p2 p3 p4 Z) (p1 + 1) (8 - (p1 + 1)) (0 : Int32)))
def m_ringsFrom : Nat → Nat → Nat → Int32 → Nat → ZT → Int32
  | 0 => fun _ _ _ _ Z => 0
  | d + 1 => m_ringsFrom_body (m_ringsFrom d)
section R_ringsFrom
variable {p : Program} {l : Launch} {e : Env} {R : Room} {s : State} {mid : MethodId} {args : Array Value} {below : List Frame} {meth : Method} {c : Code} {H : Heap} {locs : List Loc} {Q : State → Prop} {cc : ByteArray} {pc : Nat} {ls : Array Slot} {rest : List Value} {D : va_G} {A : Nat → Prop} {m : Nat} {ar : Nat → Nat} {cs : Nat → ClassId} {Z : ZT} {nL : Nat}
theorem call_m_ringsFrom_of {rm : Room} {spv : Nat → Nat → Int32 → Nat → ZT → Int32} (hx : p.tables.exec = Jvm.exec) (hb : c.code = cc) (hml : c.maxLocals = nL) (hown : s.vm.findClass RX1 = some mid.cls) (hts : ∀ w ∈ lw_all, w.before args s = true) (hK : KK D cs s) (hA : ∀ q : Nat, s.heap.size ≤ q → A q) (hE : EW D A s.heap (MW m ar cs Z) H locs) (hls : ls.size = nL) (p1 : Nat) (p2 : Nat) (p3 : Int32) (p4 : Nat) (hM : Met l yX1_ringsFrom (ws_ yX1_ringsFrom cX1_ringsFrom 7 (some .int)) rm (va_Pc [.ref m, .int (nI p1), .int (nI p2), .int p3, .int (nI p4)] (wSt D cs (MW m ar cs Z) H.size)) (cQi (fun (v : Int32) (_ : Unit) => spv p1 p2 p3 p4 Z = v) D (fun _ => (MW m ar cs Z)) (MW m ar cs Z) H.size) 0 0 (va_A (MW m ar cs Z) H.size)) (h1 : rm.frames + 1 ≤ R.frames) (h2 : 26 + rm.locals ≤ R.locals) (h3 : (rest.map fun v => v.category).sum ≤ 8) (hd : decode cc pc = .ok (.invokevirtual 261, 3)) (kk : ∀ (H1 : Heap) (locs1 : List Loc), EW D A s.heap (MW m ar cs Z) H1 locs1 → W p l e R s mid args below meth c H1 locs1 0 0 Q (F0 mid (pc + 3) ls (.int (spv p1 p2 p3 p4 Z) :: rest))) (hrc : rm.cells = 0 := by rfl) (hrs : rm.slots = 0 := by rfl) : W p l e R s mid args below meth c H locs 0 0 Q (F0 mid pc ls (.int (nI p4) :: .int p3 :: .int (nI p2) :: .int (nI p1) :: .ref m :: rest)) :=
  gCall_i (As := [.int (nI p1), .int (nI p2), .int p3, .int (nI p4)]) (rest := rest) (q0 := 0) (ci := 1) (fs := MF ar Z) (T' := TX1) (N' := 52) hx hb hml hown hts hK hA hE hls hM (cwV 4 hts (lw_V q1330 q1332 qs67 q85 q1333) rfl hrc hrs (by decide +kernel) ⟨h1, h2⟩) rfl rfl rfl rfl h3 hd ⟨Nat.zero_le _, Nat.zero_le _⟩ (fun v u H1 locs1 hp _ hE => by subst hp; exact kk H1 locs1 hE)
end R_ringsFrom
set_option maxHeartbeats 4000000 in
set_option maxRecDepth 100000 in
theorem step_m_ringsFrom (l : Launch) (D : va_G) (cs : Nat → ClassId) (m : Nat) (ar : Nat → Nat) (d : Nat) (hrec : ∀ (Z : ZT) (sz : Nat) (p1 : Nat) (p2 : Nat) (p3 : Int32) (p4 : Nat) (hn1 : p1 < 8) (hn2 : p2 < 8) (hn4 : p4 < 9), p4 + 1 ≤ d → Met l yX1_ringsFrom (ws_ yX1_ringsFrom cX1_ringsFrom 7 (some .int)) ({ frames := 1 + (d - 1), cells := 0, slots := 0, locals := 22 + (d - 1) * 26 }) (va_Pc [.ref m, .int (nI p1), .int (nI p2), .int p3, .int (nI p4)] (wSt D cs (MW m ar cs Z) sz)) (cQi (fun (v : Int32) (_ : Unit) => m_ringsFrom d p1 p2 p3 p4 Z = v) D (fun _ => (MW m ar cs Z)) (MW m ar cs Z) sz) 0 0 (va_A (MW m ar cs Z) sz)) (Z : ZT) (sz : Nat) (p1 : Nat) (p2 : Nat) (p3 : Int32) (p4 : Nat) (hn1 : p1 < 8) (hn2 : p2 < 8) (hn4 : p4 < 9) (hmu : p4 ≤ d) : Met l yX1_ringsFrom (ws_ yX1_ringsFrom cX1_ringsFrom 7 (some .int)) ({ frames := 1 + d, cells := 0, slots := 0, locals := 22 + d * 26 }) (va_Pc [.ref m, .int (nI p1), .int (nI p2), .int p3, .int (nI p4)] (wSt D cs (MW m ar cs Z) sz)) (cQi (fun (v : Int32) (_ : Unit) => m_ringsFrom (d + 1) p1 p2 p3 p4 Z = v) D (fun _ => (MW m ar cs Z)) (MW m ar cs Z) sz) 0 0 (va_A (MW m ar cs Z) sz) := by
  refine gStart_i (C := RX1) rfl rfl (Nat.le_of_ble_eq_true rfl) ?_
  intro p e s mid args below meth c R Q A hx hb hml hown hts hK hA hRf hRl hRc hRs hret hE ls hl
  have hRf : 1 + d ≤ R.frames := hRf
  have hRl : 22 + d * 26 ≤ R.locals := hRl
  have hl : lv_has ls 7 [(0, .ref m), (1, .int (nI p1)), (2, .int (nI p2)), (3, .int p3), (4, .int (nI p4))] := hl
  have hR : m_ringsFrom (d + 1) p1 p2 p3 p4 Z = (if p4 = 0 then (if (m_isLink p2 p1 Z) = 0 then (0 : Int32) else (1 : Int32)) else m_ringsFrom_e28 (itR (m_ringsFrom_b28 (m_ringsFrom d) p1 p2 p3 p4 Z) (p1 + 1) (8 - (p1 + 1)) (0 : Int32))) := rfl
  refine lv_iload hx hb dX1_ringsFrom_0 (lv_at hl 4 rfl) ?_
  refine n_if_ne (tgt := 20) (by omega) hx hb dX1_ringsFrom_2 (by decide) (fun c2 => ?_) (fun c2 => ?_)
  · have hR : m_ringsFrom (d + 1) p1 p2 p3 p4 Z = (m_ringsFrom_e28 (itR (m_ringsFrom_b28 (m_ringsFrom d) p1 p2 p3 p4 Z) (p1 + 1) (8 - (p1 + 1)) (0 : Int32))) := hR.trans (congrArg (fun z => z) (if_neg c2))
    refine lv_iconst (v := 0) hx hb dX1_ringsFrom_20 rfl ?_
    refine lv_istore (lv' := [(5, .int (0 : Int32)), (0, .ref m), (1, .int (nI p1)), (2, .int (nI p2)), (3, .int p3), (4, .int (nI p4))]) hx hb dX1_ringsFrom_21 hl (by decide) rfl (fun ls hl => ?_)
    refine lv_iload_n hx hb dX1_ringsFrom_23 rfl (lv_at hl 2 rfl) ?_
    refine lv_iconst (v := 1) hx hb dX1_ringsFrom_24 rfl ?_
    refine n_add (a := p1) (b := 1) hx hb dX1_ringsFrom_25 ?_
    refine lv_istore (lv' := [(6, .int (nI (p1 + 1))), (5, .int (0 : Int32)), (0, .ref m), (1, .int (nI p1)), (2, .int (nI p2)), (3, .int p3), (4, .int (nI p4))]) hx hb dX1_ringsFrom_26 hl (by decide) rfl (fun ls hl => ?_)
    have hL28 : ∀ (k i28 : Nat) (w28 : Int32) (hi28 : i28 + k = 8) (hR : m_ringsFrom (d + 1) p1 p2 p3 p4 Z = m_ringsFrom_e28 (itR (m_ringsFrom_b28 (m_ringsFrom d) p1 p2 p3 p4 Z) i28 k w28)), ∀ (H : Heap) (locs : List Loc) (ls : Array Slot), EW D A s.heap (MW m ar cs Z) H locs → lv_has ls 7 [(0, .ref m), (1, .int (nI p1)), (2, .int (nI p2)), (3, .int p3), (4, .int (nI p4)), (5, .int w28), (6, .int (nI i28))] → W p l e R s mid args below meth c H locs 0 0 Q (F0 mid 28 ls []) := by
      intro k
      induction k with
      | zero =>
        intro i28 w28 hi28 hR H locs ls hE hl
        have hie28 : i28 = 8 := by omega
        have hR : m_ringsFrom (d + 1) p1 p2 p3 p4 Z = w28 := hR
        refine lv_iload hx hb dX1_ringsFrom_28 (lv_at hl 6 rfl) ?_
        refine lv_bipush (v := 8) hx hb dX1_ringsFrom_30 rfl ?_
        refine n_geT (a := i28) (b := 8) (by omega) (by omega) hx hb dX1_ringsFrom_32 (tgt := 86) (by decide) ?_
        have hl := lv_sub (l' := [(0, .ref m), (1, .int (nI p1)), (2, .int (nI p2)), (3, .int p3), (4, .int (nI p4)), (5, .int w28)]) hl [0, 1, 2, 3, 4, 5] rfl
        refine lv_iload hx hb dX1_ringsFrom_86 (lv_at hl 5 rfl) ?_
        exact hret w28 () hR rfl hE (Nat.le_refl 0) (Nat.le_refl 0) dX1_ringsFrom_88
      | succ k ih28 =>
        intro i28 w28 hi28 hR H locs ls hE hl
        have hlt28 : i28 < 8 := by omega
        have hB28 : m_ringsFrom_b28 (m_ringsFrom d) p1 p2 p3 p4 Z i28 w28 = m_ringsFrom_j77 w28 (if (m_isLink p2 i28 Z) = 0 then (0 : Int32) else (if (m_has p3 i28) = 0 then ((m_ringsFrom d) p1 i28 (p3 ||| ((1 : Int32) <<< ((nI i28) &&& 31))) (p4 - 1) Z) else (0 : Int32))) := rfl
        refine lv_iload hx hb dX1_ringsFrom_28 (lv_at hl 6 rfl) ?_
        refine lv_bipush (v := 8) hx hb dX1_ringsFrom_30 rfl ?_
        refine n_geF (a := i28) (b := 8) (by omega) (by omega) hx hb dX1_ringsFrom_32 (tgt := 86) (by decide) ?_
        refine lv_iload hx hb dX1_ringsFrom_35 (lv_at hl 5 rfl) ?_
        refine lv_aload_n hx hb dX1_ringsFrom_37 rfl (lv_at hl 0 rfl) ?_
        refine lv_iload_n hx hb dX1_ringsFrom_38 rfl (lv_at hl 2 rfl) ?_
        refine lv_iload hx hb dX1_ringsFrom_39 (lv_at hl 6 rfl) ?_
        refine call_m_isLink hx hb hml hown hts hK hA hE hl.1 p2 i28 (by omega) (by omega) (by omega) (by omega) (Nat.le_of_ble_eq_true rfl) dX1_ringsFrom_41 (fun H locs hE => ?_)
        have hJ77 : ∀ (w77 : Int32) (hB28 : m_ringsFrom_b28 (m_ringsFrom d) p1 p2 p3 p4 Z i28 w28 = m_ringsFrom_j77 w28 w77), ∀ (H : Heap) (locs : List Loc) (ls : Array Slot), EW D A s.heap (MW m ar cs Z) H locs → lv_has ls 7 [(0, .ref m), (1, .int (nI p1)), (2, .int (nI p2)), (3, .int p3), (4, .int (nI p4)), (6, .int (nI i28))] → W p l e R s mid args below meth c H locs 0 0 Q (F0 mid 77 ls [.int w77, .int w28]) := by
          intro w77 hB28 H locs ls hE hl
          have hB28 : m_ringsFrom_b28 (m_ringsFrom d) p1 p2 p3 p4 Z i28 w28 = (w28 + w77) := hB28
          refine lv_iadd hx hb dX1_ringsFrom_77 ?_
          refine lv_istore (lv' := [(5, .int (w28 + w77)), (0, .ref m), (1, .int (nI p1)), (2, .int (nI p2)), (3, .int p3), (4, .int (nI p4)), (6, .int (nI i28))]) hx hb dX1_ringsFrom_78 hl (by decide) rfl (fun ls hl => ?_)
          refine n_inc (lv' := [(6, .int (nI (i28 + 1))), (5, .int (w28 + w77)), (0, .ref m), (1, .int (nI p1)), (2, .int (nI p2)), (3, .int p3), (4, .int (nI p4))]) hx hb dX1_ringsFrom_80 hl (k := 6) rfl (by decide) rfl (fun ls hl => ?_)
          refine lv_goto (tgt := 28) hx hb dX1_ringsFrom_83 (by decide) ?_
          exact ih28 (i28 + 1) (w28 + w77) (by omega) (hR.trans (congrArg (fun z => m_ringsFrom_e28 (itR (m_ringsFrom_b28 (m_ringsFrom d) p1 p2 p3 p4 Z) (i28 + 1) k z)) hB28)) _ _ _ hE (lv_sub hl [2, 3, 4, 5, 6, 1, 0] rfl)
        refine lv_if_eq (tgt := 76) hx hb dX1_ringsFrom_44 (by decide) (fun c44 => ?_) (fun c44 => ?_)
        · have hB28 : m_ringsFrom_b28 (m_ringsFrom d) p1 p2 p3 p4 Z i28 w28 = m_ringsFrom_j77 w28 (0 : Int32) := hB28.trans (congrArg (fun z => m_ringsFrom_j77 w28 z) (if_pos c44))
          refine lv_iconst (v := 0) hx hb dX1_ringsFrom_76 rfl ?_
          exact hJ77 (0 : Int32)  hB28 _ _ _ hE (lv_sub hl [0, 1, 2, 3, 4, 6] rfl)
        · have hB28 : m_ringsFrom_b28 (m_ringsFrom d) p1 p2 p3 p4 Z i28 w28 = m_ringsFrom_j77 w28 (if (m_has p3 i28) = 0 then ((m_ringsFrom d) p1 i28 (p3 ||| ((1 : Int32) <<< ((nI i28) &&& 31))) (p4 - 1) Z) else (0 : Int32)) := hB28.trans (congrArg (fun z => m_ringsFrom_j77 w28 z) (if_neg c44))
          refine lv_iload_n hx hb dX1_ringsFrom_47 rfl (lv_at hl 3 rfl) ?_
          refine lv_iload hx hb dX1_ringsFrom_48 (lv_at hl 6 rfl) ?_
          refine call_m_has hx hb hml hown hts hK hA hE hl.1 p3 i28 (by omega) (by omega) (Nat.le_of_ble_eq_true rfl) dX1_ringsFrom_50 (fun H locs hE => ?_)
          refine lv_if_ne (tgt := 76) hx hb dX1_ringsFrom_53 (by decide) (fun c53 => ?_) (fun c53 => ?_)
          · have hB28 : m_ringsFrom_b28 (m_ringsFrom d) p1 p2 p3 p4 Z i28 w28 = m_ringsFrom_j77 w28 (0 : Int32) := hB28.trans (congrArg (fun z => m_ringsFrom_j77 w28 z) (if_neg c53))
            refine lv_iconst (v := 0) hx hb dX1_ringsFrom_76 rfl ?_
            exact hJ77 (0 : Int32)  hB28 _ _ _ hE (lv_sub hl [0, 1, 2, 3, 4, 6] rfl)
          · have hB28 : m_ringsFrom_b28 (m_ringsFrom d) p1 p2 p3 p4 Z i28 w28 = m_ringsFrom_j77 w28 ((m_ringsFrom d) p1 i28 (p3 ||| ((1 : Int32) <<< ((nI i28) &&& 31))) (p4 - 1) Z) := hB28.trans (congrArg (fun z => m_ringsFrom_j77 w28 z) (if_pos c53))
            refine lv_aload_n hx hb dX1_ringsFrom_56 rfl (lv_at hl 0 rfl) ?_
            refine lv_iload_n hx hb dX1_ringsFrom_57 rfl (lv_at hl 1 rfl) ?_
            refine lv_iload hx hb dX1_ringsFrom_58 (lv_at hl 6 rfl) ?_
            refine lv_iload_n hx hb dX1_ringsFrom_60 rfl (lv_at hl 3 rfl) ?_
            refine lv_iconst (v := 1) hx hb dX1_ringsFrom_61 rfl ?_
            refine lv_iload hx hb dX1_ringsFrom_62 (lv_at hl 6 rfl) ?_
            refine lv_ishl hx hb dX1_ringsFrom_64 ?_
            refine lv_ior hx hb dX1_ringsFrom_65 ?_
            refine lv_iload hx hb dX1_ringsFrom_66 (lv_at hl 4 rfl) ?_
            refine lv_iconst (v := 1) hx hb dX1_ringsFrom_68 rfl ?_
            refine n_sub (a := p4) (b := 1) (by omega) hx hb dX1_ringsFrom_69 ?_
            refine call_m_ringsFrom_of (rm := { frames := 1 + (d - 1), cells := 0, slots := 0, locals := 22 + (d - 1) * 26 }) hx hb hml hown hts hK hA hE hl.1 p1 i28 (p3 ||| ((1 : Int32) <<< ((nI i28) &&& 31))) (p4 - 1) (hrec Z _ p1 i28 (p3 ||| ((1 : Int32) <<< ((nI i28) &&& 31))) (p4 - 1) (by omega) (by omega) (by omega) (by omega)) (by show 1 + (d - 1) + 1 ≤ R.frames; omega) (by show 26 + (22 + (d - 1) * 26) ≤ R.locals; omega) (Nat.le_of_ble_eq_true rfl) dX1_ringsFrom_70 (fun H locs hE => ?_)
            refine lv_goto (tgt := 77) hx hb dX1_ringsFrom_73 (by decide) ?_
            exact hJ77 ((m_ringsFrom d) p1 i28 (p3 ||| ((1 : Int32) <<< ((nI i28) &&& 31))) (p4 - 1) Z)  hB28 _ _ _ hE (lv_sub hl [0, 1, 2, 3, 4, 6] rfl)
    exact hL28 (8 - (p1 + 1)) (p1 + 1) (0 : Int32) (by omega) hR _ _ _ hE (lv_sub hl [2, 3, 4, 5, 6, 1, 0] rfl)
  · have hR : m_ringsFrom (d + 1) p1 p2 p3 p4 Z = (if (m_isLink p2 p1 Z) = 0 then (0 : Int32) else (1 : Int32)) := hR.trans (congrArg (fun z => z) (if_pos c2))
    refine lv_aload_n hx hb dX1_ringsFrom_5 rfl (lv_at hl 0 rfl) ?_
    refine lv_iload_n hx hb dX1_ringsFrom_6 rfl (lv_at hl 2 rfl) ?_
    refine lv_iload_n hx hb dX1_ringsFrom_7 rfl (lv_at hl 1 rfl) ?_
    refine call_m_isLink hx hb hml hown hts hK hA hE hl.1 p2 p1 (by omega) (by omega) (by omega) (by omega) (Nat.le_of_ble_eq_true rfl) dX1_ringsFrom_8 (fun H locs hE => ?_)
    refine lv_if_eq (tgt := 18) hx hb dX1_ringsFrom_11 (by decide) (fun c11 => ?_) (fun c11 => ?_)
    · have hR : m_ringsFrom (d + 1) p1 p2 p3 p4 Z = (0 : Int32) := hR.trans (congrArg (fun z => z) (if_pos c11))
      refine lv_iconst (v := 0) hx hb dX1_ringsFrom_18 rfl ?_
      exact hret (0 : Int32) () hR rfl hE (Nat.le_refl 0) (Nat.le_refl 0) dX1_ringsFrom_19
    · have hR : m_ringsFrom (d + 1) p1 p2 p3 p4 Z = (1 : Int32) := hR.trans (congrArg (fun z => z) (if_neg c11))
      refine lv_iconst (v := 1) hx hb dX1_ringsFrom_14 rfl ?_
      refine lv_goto (tgt := 19) hx hb dX1_ringsFrom_15 (by decide) ?_
      exact hret (1 : Int32) () hR rfl hE (Nat.le_refl 0) (Nat.le_refl 0) dX1_ringsFrom_19
theorem met_m_ringsFrom (l : Launch) (D : va_G) (cs : Nat → ClassId) (m : Nat) (ar : Nat → Nat) (d : Nat) : ∀ (Z : ZT) (sz : Nat) (p1 : Nat) (p2 : Nat) (p3 : Int32) (p4 : Nat) (hn1 : p1 < 8) (hn2 : p2 < 8) (hn4 : p4 < 9) (hmu : p4 ≤ d), Met l yX1_ringsFrom (ws_ yX1_ringsFrom cX1_ringsFrom 7 (some .int)) ({ frames := 1 + d, cells := 0, slots := 0, locals := 22 + d * 26 }) (va_Pc [.ref m, .int (nI p1), .int (nI p2), .int p3, .int (nI p4)] (wSt D cs (MW m ar cs Z) sz)) (cQi (fun (v : Int32) (_ : Unit) => m_ringsFrom (d + 1) p1 p2 p3 p4 Z = v) D (fun _ => (MW m ar cs Z)) (MW m ar cs Z) sz) 0 0 (va_A (MW m ar cs Z) sz) := by
  induction d with
  | zero => exact step_m_ringsFrom l D cs m ar 0 (fun _ _ _ _ _ _ _ _ _ h => absurd h (Nat.not_succ_le_zero _))
  | succ d ih => exact step_m_ringsFrom l D cs m ar (d + 1) (fun Z sz p1 p2 p3 p4 hn1 hn2 hn4 h => ih Z sz p1 p2 p3 p4 hn1 hn2 hn4 (Nat.le_of_succ_le_succ h))
section C_ringsFrom
variable {p : Program} {l : Launch} {e : Env} {R : Room} {s : State} {mid : MethodId} {args : Array Value} {below : List Frame} {meth : Method} {c : Code} {H : Heap} {locs : List Loc} {Q : State → Prop} {cc : ByteArray} {pc : Nat} {ls : Array Slot} {rest : List Value} {D : va_G} {A : Nat → Prop} {m : Nat} {ar : Nat → Nat} {cs : Nat → ClassId} {Z : ZT} {nL : Nat}
theorem call_m_ringsFrom (d : Nat) (hx : p.tables.exec = Jvm.exec) (hb : c.code = cc) (hml : c.maxLocals = nL) (hown : s.vm.findClass RX1 = some mid.cls) (hts : ∀ w ∈ lw_all, w.before args s = true) (hK : KK D cs s) (hA : ∀ q : Nat, s.heap.size ≤ q → A q) (hE : EW D A s.heap (MW m ar cs Z) H locs) (hls : ls.size = nL) (p1 : Nat) (p2 : Nat) (p3 : Int32) (p4 : Nat) (hn1 : p1 < 8) (hn2 : p2 < 8) (hn4 : p4 < 9) (hmu : p4 ≤ d) (h1 : 1 + d + 1 ≤ R.frames) (h2 : 26 + (22 + d * 26) ≤ R.locals) (h3 : (rest.map fun v => v.category).sum ≤ 8) (hd : decode cc pc = .ok (.invokevirtual 261, 3)) (kk : ∀ (H1 : Heap) (locs1 : List Loc), EW D A s.heap (MW m ar cs Z) H1 locs1 → W p l e R s mid args below meth c H1 locs1 0 0 Q (F0 mid (pc + 3) ls (.int (m_ringsFrom (d + 1) p1 p2 p3 p4 Z) :: rest))) : W p l e R s mid args below meth c H locs 0 0 Q (F0 mid pc ls (.int (nI p4) :: .int p3 :: .int (nI p2) :: .int (nI p1) :: .ref m :: rest)) :=
  call_m_ringsFrom_of hx hb hml hown hts hK hA hE hls p1 p2 p3 p4 (met_m_ringsFrom l D cs m ar d Z H.size p1 p2 p3 p4 hn1 hn2 hn4 hmu) h1 h2 h3 hd kk
end C_ringsFrom
def m_rings_b16 (p1 : Int32) (Z : ZT) (i16 : Nat) (w16 : Int32) : Int32 := (w16 + (m_ringsFrom (8 + 1) i16 i16 ((1 : Int32) <<< ((nI i16) &&& 31)) ((ix p1) - 1) Z))
def m_rings_e16 (w16 : Int32) : Int32 := w16
def m_rings (p1 : Int32) (Z : ZT) : Int32 := (if (m_in p1 (1 : Int32) (8 : Int32)) = 0 then (-1 : Int32) else m_rings_e16 (itR (m_rings_b16 p1 Z) 0 8 (0 : Int32)))
set_option maxHeartbeats 4000000 in
set_option maxRecDepth 100000 in
theorem met_m_rings (l : Launch) (D : va_G) (cs : Nat → ClassId) (m : Nat) (ar : Nat → Nat) (Z : ZT) (sz : Nat) (p1 : Int32) : Met l yX1_rings (ws_ yX1_rings cX1_rings 4 (some .int)) ({ frames := 10, cells := 0, slots := 0, locals := 256 }) (va_Pc [.ref m, .int p1] (wSt D cs (MW m ar cs Z) sz)) (cQi (fun (v : Int32) (_ : Unit) => m_rings p1 Z = v) D (fun _ => (MW m ar cs Z)) (MW m ar cs Z) sz) 0 0 (va_A (MW m ar cs Z) sz) := by
  refine gStart_i (C := RX1) rfl rfl (Nat.le_of_ble_eq_true rfl) ?_
  intro p e s mid args below meth c R Q A hx hb hml hown hts hK hA hRf hRl hRc hRs hret hE ls hl
  have hRf : 10 ≤ R.frames := hRf
  have hRl : 256 ≤ R.locals := hRl
  have hl : lv_has ls 4 [(0, .ref m), (1, .int p1)] := hl
  have hR : m_rings p1 Z = (if (m_in p1 (1 : Int32) (8 : Int32)) = 0 then (-1 : Int32) else m_rings_e16 (itR (m_rings_b16 p1 Z) 0 8 (0 : Int32))) := rfl
  refine lv_iload_n hx hb dX1_rings_0 rfl (lv_at hl 1 rfl) ?_
  refine lv_iconst (v := 1) hx hb dX1_rings_1 rfl ?_
  refine lv_bipush (v := 8) hx hb dX1_rings_2 rfl ?_
  refine call_m_in hx hb hml hown hts hK hA hE hl.1 p1 (1 : Int32) (8 : Int32) (lz (show 1 ≤ 10 by decide) hRf) (lz (show 22 ≤ 256 by decide) hRl) (Nat.le_of_ble_eq_true rfl) dX1_rings_4 (fun H locs hE => ?_)
  refine lv_if_ne (tgt := 12) hx hb dX1_rings_7 (by decide) (fun c7 => ?_) (fun c7 => ?_)
  · have hR : m_rings p1 Z = (m_rings_e16 (itR (m_rings_b16 p1 Z) 0 8 (0 : Int32))) := hR.trans (congrArg (fun z => z) (if_neg c7))
    have hpos1 := in_pos c7
    have hnp1 := vp_ix (x := p1) (N := 9) (vp_of_in c7 (by decide) (by decide)) (by decide)
    have hbnp1 := hnp1.2
    refine lv_iconst (v := 0) hx hb dX1_rings_12 rfl ?_
    refine lv_istore_n (lv' := [(2, .int (0 : Int32)), (0, .ref m), (1, .int p1)]) hx hb dX1_rings_13 rfl hl (by decide) rfl (fun ls hl => ?_)
    refine lv_iconst (v := 0) hx hb dX1_rings_14 rfl ?_
    refine lv_istore_n (lv' := [(3, .int (0 : Int32)), (2, .int (0 : Int32)), (0, .ref m), (1, .int p1)]) hx hb dX1_rings_15 rfl hl (by decide) rfl (fun ls hl => ?_)
    have hL16 : ∀ (k i16 : Nat) (w16 : Int32) (hi16 : i16 + k = 8) (hR : m_rings p1 Z = m_rings_e16 (itR (m_rings_b16 p1 Z) i16 k w16)), ∀ (H : Heap) (locs : List Loc) (ls : Array Slot), EW D A s.heap (MW m ar cs Z) H locs → lv_has ls 4 [(0, .ref m), (1, .int p1), (2, .int w16), (3, .int (nI i16))] → W p l e R s mid args below meth c H locs 0 0 Q (F0 mid 16 ls []) := by
      intro k
      induction k with
      | zero =>
        intro i16 w16 hi16 hR H locs ls hE hl
        have hie16 : i16 = 8 := by omega
        have hR : m_rings p1 Z = w16 := hR
        refine lv_iload_n hx hb dX1_rings_16 rfl (lv_at hl 3 rfl) ?_
        refine lv_bipush (v := 8) hx hb dX1_rings_17 rfl ?_
        refine n_geT (a := i16) (b := 8) (by omega) (by omega) hx hb dX1_rings_19 (tgt := 43) (by decide) ?_
        have hl := lv_sub (l' := [(0, .ref m), (1, .int p1), (2, .int w16)]) hl [0, 1, 2] rfl
        refine lv_iload_n hx hb dX1_rings_43 rfl (lv_at hl 2 rfl) ?_
        exact hret w16 () hR rfl hE (Nat.le_refl 0) (Nat.le_refl 0) dX1_rings_44
      | succ k ih16 =>
        intro i16 w16 hi16 hR H locs ls hE hl
        have hlt16 : i16 < 8 := by omega
        have hB16 : m_rings_b16 p1 Z i16 w16 = (w16 + (m_ringsFrom (8 + 1) i16 i16 ((1 : Int32) <<< ((nI i16) &&& 31)) ((ix p1) - 1) Z)) := rfl
        refine lv_iload_n hx hb dX1_rings_16 rfl (lv_at hl 3 rfl) ?_
        refine lv_bipush (v := 8) hx hb dX1_rings_17 rfl ?_
        refine n_geF (a := i16) (b := 8) (by omega) (by omega) hx hb dX1_rings_19 (tgt := 43) (by decide) ?_
        refine lv_iload_n hx hb dX1_rings_22 rfl (lv_at hl 2 rfl) ?_
        refine lv_aload_n hx hb dX1_rings_23 rfl (lv_at hl 0 rfl) ?_
        refine lv_iload_n hx hb dX1_rings_24 rfl (lv_at hl 3 rfl) ?_
        refine lv_iload_n hx hb dX1_rings_25 rfl (lv_at hl 3 rfl) ?_
        refine lv_iconst (v := 1) hx hb dX1_rings_26 rfl ?_
        refine lv_iload_n hx hb dX1_rings_27 rfl (lv_at hl 3 rfl) ?_
        refine lv_ishl hx hb dX1_rings_28 ?_
        refine lv_iload_n hx hb dX1_rings_29 rfl (lv_at hl 1 rfl) ?_
        refine top_nat hnp1.1 ?_
        refine lv_iconst (v := 1) hx hb dX1_rings_30 rfl ?_
        refine n_sub (a := (ix p1)) (b := 1) (hpos1) hx hb dX1_rings_31 ?_
        refine call_m_ringsFrom 8 hx hb hml hown hts hK hA hE hl.1 i16 i16 ((1 : Int32) <<< ((nI i16) &&& 31)) ((ix p1) - 1) (by omega) (by omega) (by omega) (by omega) (lz (show 10 ≤ 10 by decide) hRf) (lz (show 256 ≤ 256 by decide) hRl) (Nat.le_of_ble_eq_true rfl) dX1_rings_32 (fun H locs hE => ?_)
        refine lv_iadd hx hb dX1_rings_35 ?_
        refine lv_istore_n (lv' := [(2, .int (w16 + (m_ringsFrom (8 + 1) i16 i16 ((1 : Int32) <<< ((nI i16) &&& 31)) ((ix p1) - 1) Z))), (0, .ref m), (1, .int p1), (3, .int (nI i16))]) hx hb dX1_rings_36 rfl hl (by decide) rfl (fun ls hl => ?_)
        refine n_inc (lv' := [(3, .int (nI (i16 + 1))), (2, .int (w16 + (m_ringsFrom (8 + 1) i16 i16 ((1 : Int32) <<< ((nI i16) &&& 31)) ((ix p1) - 1) Z))), (0, .ref m), (1, .int p1)]) hx hb dX1_rings_37 hl (k := 3) rfl (by decide) rfl (fun ls hl => ?_)
        refine lv_goto (tgt := 16) hx hb dX1_rings_40 (by decide) ?_
        exact ih16 (i16 + 1) (w16 + (m_ringsFrom (8 + 1) i16 i16 ((1 : Int32) <<< ((nI i16) &&& 31)) ((ix p1) - 1) Z)) (by omega) (hR.trans (congrArg (fun z => m_rings_e16 (itR (m_rings_b16 p1 Z) (i16 + 1) k z)) hB16)) _ _ _ hE (lv_sub hl [2, 3, 1, 0] rfl)
    exact hL16 8 0 (0 : Int32) (by omega) hR _ _ _ hE (lv_sub hl [2, 3, 1, 0] rfl)
  · have hR : m_rings p1 Z = (-1 : Int32) := hR.trans (congrArg (fun z => z) (if_pos c7))
    refine lv_iconst (v := -1) hx hb dX1_rings_10 rfl ?_
    exact hret (-1 : Int32) () hR rfl hE (Nat.le_refl 0) (Nat.le_refl 0) dX1_rings_11
