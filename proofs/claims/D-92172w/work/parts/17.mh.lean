/-! the twin: orders, fractions -/
set_option maxRecDepth 100000
theorem tmod_eq (a b : Int64) (hb : ¬ b = 0) : (a - a / b * b).toInt = a.toInt.tmod b.toInt := by
  have hb0 : b.toInt ≠ 0 := fun q => hb (Int64.toInt_inj.mp (by rw [q]; rfl))
  have la := a.toInt_lt
  have la2 := a.le_toInt
  have h1 : (a.toInt.tmod b.toInt).natAbs ≤ a.toInt.natAbs := by
    rw [Int.natAbs_tmod]
    exact Nat.mod_le _ _
  have h2 : (a.toInt.tmod b.toInt).natAbs < b.toInt.natAbs := by
    rw [Int.natAbs_tmod]
    exact Nat.mod_lt _ (by omega)
  have lb := b.toInt_lt
  have lb2 := b.le_toInt
  rw [Int64.toInt_sub, Int64.toInt_mul, Int64.toInt_div, Int.bmod_mul_bmod, Int.sub_bmod_bmod, Int.mul_comm, ← Int.tmod_def]
  exact Int.bmod_eq_of_le (by omega) (by omega)
theorem rem_natAbs {a b : Int64} (hb : ¬ b = 0) : (a - a / b * b).toInt.natAbs < b.toInt.natAbs := by
  have hb0 : b.toInt ≠ 0 := fun q => hb (Int64.toInt_inj.mp (by rw [q]; rfl))
  rw [tmod_eq a b hb, Int.natAbs_tmod]
  exact Nat.mod_lt _ (by omega)
def m_fraction_b17 (w17 : Int64 × Int64) : Bool × (Int64 × Int64) := (if w17.2 = (0 : Int64) then (false, (w17.1, w17.2)) else (true, (w17.2, (w17.1 - w17.1 / w17.2 * w17.2))))
def m_fraction_e17 (p1 : Int64) (p3 : Int64) (p5 : Int32) (Z : ZT) (w17 : Int64 × Int64) : Int32 × ZT := (p5, sL (sL Z 3 0 (p1 / w17.1)) 4 0 (p3 / w17.1))
def m_fraction_j12 (p1 : Int64) (p3 : Int64) (p5 : Int32) (Z : ZT) (w12 : Int64) : Int32 × ZT := m_fraction_e17 p1 p3 p5 Z (wlR m_fraction_b17 (p3.toInt.natAbs + 1) (w12, p3))
def m_fraction (p1 : Int64) (p3 : Int64) (p5 : Int32) (Z : ZT) : Int32 × ZT := m_fraction_j12 p1 p3 p5 Z (if (0 : Int64) ≤ p1 then p1 else (-p1))
set_option maxHeartbeats 4000000 in
set_option maxRecDepth 100000 in
theorem met_m_fraction (l : Launch) (D : va_G) (cs : Nat → ClassId) (m : Nat) (ar : Nat → Nat) (Z : ZT) (sz : Nat) (p1 : Int64) (p3 : Int64) (p5 : Int32) (hl0 : ¬ p3 = 0) : Met l yX1_fraction (ws_ yX1_fraction cX1_fraction 12 (some .int)) ({ frames := 0, cells := 0, slots := 0, locals := 0 }) (va_Pc [.ref m, .long p1, .long p3, .int p5] (wSt D cs (MW m ar cs Z) sz)) (cQi (fun (v : Int32) (u : ZT) => m_fraction p1 p3 p5 Z = (v, u)) D (fun u => MW m ar cs u) (MW m ar cs Z) sz) 0 0 (va_A (MW m ar cs Z) sz) := by
  refine gStart_i (C := RX1) rfl rfl (Nat.le_of_ble_eq_true rfl) ?_
  intro p e s mid args below meth c R Q A hx hb hml hown hts hK hA hRf hRl hRc hRs hret hE ls hl
  have hRf : 0 ≤ R.frames := hRf
  have hRl : 0 ≤ R.locals := hRl
  have hl : lv_has ls 12 [(0, .ref m), (1, .long p1), (3, .long p3), (5, .int p5)] := hl
  have hR : m_fraction p1 p3 p5 Z = (m_fraction_j12 p1 p3 p5 Z (if (0 : Int64) ≤ p1 then p1 else (-p1))) := rfl
  refine lv_lload_n hx hb dX1_fraction_0 rfl (lv_at hl 1 rfl) ?_
  refine lv_lconst (v := 0) hx hb dX1_fraction_1 rfl ?_
  have hJ12 : ∀ (w12 : Int64) (hR : m_fraction p1 p3 p5 Z = m_fraction_j12 p1 p3 p5 Z w12), ∀ (H : Heap) (locs : List Loc) (ls : Array Slot), EW D A s.heap (MW m ar cs Z) H locs → lv_has ls 12 [(0, .ref m), (1, .long p1), (3, .long p3), (5, .int p5)] → W p l e R s mid args below meth c H locs 0 0 Q (F0 mid 12 ls [.long w12]) := by
    intro w12 hR H locs ls hE hl
    have hR : m_fraction p1 p3 p5 Z = (m_fraction_e17 p1 p3 p5 Z (wlR m_fraction_b17 (p3.toInt.natAbs + 1) (w12, p3))) := hR
    refine lv_lstore (lv' := [(6, .long w12), (0, .ref m), (1, .long p1), (3, .long p3), (5, .int p5)]) hx hb dX1_fraction_12 hl (by decide) rfl (fun ls hl => ?_)
    refine lv_lload_n hx hb dX1_fraction_14 rfl (lv_at hl 3 rfl) ?_
    refine lv_lstore (lv' := [(8, .long p3), (6, .long w12), (0, .ref m), (1, .long p1), (3, .long p3), (5, .int p5)]) hx hb dX1_fraction_15 hl (by decide) rfl (fun ls hl => ?_)
    have hX17 : ∀ (w17 : Int64 × Int64) (hz17 : ¬ w17.1 = 0 ∨ ¬ w17.2 = 0) (hx17 : ¬ w17.1 = 0) (hR : m_fraction p1 p3 p5 Z = m_fraction_e17 p1 p3 p5 Z w17), ∀ (H : Heap) (locs : List Loc) (ls : Array Slot), EW D A s.heap (MW m ar cs Z) H locs → lv_has ls 12 [(0, .ref m), (1, .long p1), (3, .long p3), (5, .int p5), (6, .long w17.1)] → W p l e R s mid args below meth c H locs 0 0 Q (F0 mid 42 ls []) := by
      intro w17 hz17 hx17 hR H locs ls hE hl
      have hR : m_fraction p1 p3 p5 Z = (p5, sL (sL Z 3 0 (p1 / w17.1)) 4 0 (p3 / w17.1)) := hR
      refine lv_aload_n hx hb dX1_fraction_42 rfl (lv_at hl 0 rfl) ?_
      refine lv_lload_n hx hb dX1_fraction_43 rfl (lv_at hl 1 rfl) ?_
      refine lv_lload hx hb dX1_fraction_44 (lv_at hl 4 rfl) ?_
      refine lv_ldiv hx hb dX1_fraction_46 (hx17) ?_
      refine mp_3 hx hb hts hown hK hE dX1_fraction_47 (fun H locs hE => ?_)
      refine lv_aload_n hx hb dX1_fraction_50 rfl (lv_at hl 0 rfl) ?_
      refine lv_lload_n hx hb dX1_fraction_51 rfl (lv_at hl 2 rfl) ?_
      refine lv_lload hx hb dX1_fraction_52 (lv_at hl 4 rfl) ?_
      refine lv_ldiv hx hb dX1_fraction_54 (hx17) ?_
      refine mp_4 hx hb hts hown hK hE dX1_fraction_55 (fun H locs hE => ?_)
      refine lv_iload hx hb dX1_fraction_58 (lv_at hl 3 rfl) ?_
      exact hret p5 (sL (sL Z 3 0 (p1 / w17.1)) 4 0 (p3 / w17.1)) hR rfl hE (Nat.le_refl 0) (Nat.le_refl 0) dX1_fraction_60
    have hL17 : ∀ (n : Nat) (w17 : Int64 × Int64) (hm17 : w17.2.toInt.natAbs < n) (hz17 : ¬ w17.1 = 0 ∨ ¬ w17.2 = 0) (hR : m_fraction p1 p3 p5 Z = m_fraction_e17 p1 p3 p5 Z (wlR m_fraction_b17 n w17)), ∀ (H : Heap) (locs : List Loc) (ls : Array Slot), EW D A s.heap (MW m ar cs Z) H locs → lv_has ls 12 [(0, .ref m), (1, .long p1), (3, .long p3), (5, .int p5), (6, .long w17.1), (8, .long w17.2)] → W p l e R s mid args below meth c H locs 0 0 Q (F0 mid 17 ls []) := by
      intro n
      induction n with
      | zero =>
        intro w17 hm17
        exact absurd hm17 (Nat.not_lt_zero _)
      | succ n ih17 =>
        intro w17 hm17 hz17 hR H locs ls hE hl
        have hB17 : m_fraction_b17 w17 = (if w17.2 = (0 : Int64) then (false, (w17.1, w17.2)) else (true, (w17.2, (w17.1 - w17.1 / w17.2 * w17.2)))) := rfl
        refine lv_lload hx hb dX1_fraction_17 (lv_at hl 5 rfl) ?_
        refine lv_lconst (v := 0) hx hb dX1_fraction_19 rfl ?_
        refine l_eq (tgt := 42) hx hb dX1_fraction_20 dX1_fraction_21 (by decide) (fun c20 => ?_) (fun c20 => ?_)
        · have hB17 : m_fraction_b17 w17 = (false, (w17.1, w17.2)) := hB17.trans (congrArg (fun z => z) (if_pos c20))
          exact hX17 (w17.1, w17.2) (by exact hz17) (by exact hz17.elim id (fun h => absurd c20 h)) (hR.trans (congrArg (fun z => m_fraction_e17 p1 p3 p5 Z z) (wl_f hB17))) _ _ _ hE (lv_sub hl [0, 1, 2, 3, 4] rfl)
        · have hB17 : m_fraction_b17 w17 = (true, (w17.2, (w17.1 - w17.1 / w17.2 * w17.2))) := hB17.trans (congrArg (fun z => z) (if_neg c20))
          refine lv_lload hx hb dX1_fraction_24 (lv_at hl 4 rfl) ?_
          refine lv_lload hx hb dX1_fraction_26 (lv_at hl 5 rfl) ?_
          refine lv_lrem hx hb dX1_fraction_28 (c20) ?_
          refine lv_lstore (lv' := [(10, .long (w17.1 - w17.1 / w17.2 * w17.2)), (0, .ref m), (1, .long p1), (3, .long p3), (5, .int p5), (6, .long w17.1), (8, .long w17.2)]) hx hb dX1_fraction_29 hl (by decide) rfl (fun ls hl => ?_)
          refine lv_lload hx hb dX1_fraction_31 (lv_at hl 6 rfl) ?_
          refine lv_lstore (lv' := [(6, .long w17.2), (10, .long (w17.1 - w17.1 / w17.2 * w17.2)), (0, .ref m), (1, .long p1), (3, .long p3), (5, .int p5), (8, .long w17.2)]) hx hb dX1_fraction_33 hl (by decide) rfl (fun ls hl => ?_)
          refine lv_lload hx hb dX1_fraction_35 (lv_at hl 1 rfl) ?_
          refine lv_lstore (lv' := [(8, .long (w17.1 - w17.1 / w17.2 * w17.2)), (6, .long w17.2), (10, .long (w17.1 - w17.1 / w17.2 * w17.2)), (0, .ref m), (1, .long p1), (3, .long p3), (5, .int p5)]) hx hb dX1_fraction_37 hl (by decide) rfl (fun ls hl => ?_)
          refine lv_goto (tgt := 17) hx hb dX1_fraction_39 (by decide) ?_
          exact ih17 (w17.2, (w17.1 - w17.1 / w17.2 * w17.2)) (by exact Nat.lt_of_lt_of_le (rem_natAbs c20) (Nat.le_of_lt_succ hm17)) (by exact Or.inl c20) (hR.trans (congrArg (fun z => m_fraction_e17 p1 p3 p5 Z z) (wl_t hB17))) _ _ _ hE (lv_sub hl [3, 4, 5, 6, 1, 0] rfl)
    exact hL17 (p3.toInt.natAbs + 1) (w12, p3) (by exact Nat.lt_succ_self _) (by exact Or.inr hl0) hR _ _ _ hE (lv_sub hl [2, 3, 4, 5, 1, 0] rfl)
  refine l_ge (tgt := 11) hx hb dX1_fraction_2 dX1_fraction_3 (by decide) (fun c2 => ?_) (fun c2 => ?_)
  · have hR : m_fraction p1 p3 p5 Z = m_fraction_j12 p1 p3 p5 Z p1 := hR.trans (congrArg (fun z => m_fraction_j12 p1 p3 p5 Z z) (if_pos c2))
    refine lv_lload_n hx hb dX1_fraction_11 rfl (lv_at hl 1 rfl) ?_
    exact hJ12 p1  hR _ _ _ hE (lv_sub hl [0, 1, 2, 3] rfl)
  · have hR : m_fraction p1 p3 p5 Z = m_fraction_j12 p1 p3 p5 Z (-p1) := hR.trans (congrArg (fun z => m_fraction_j12 p1 p3 p5 Z z) (if_neg c2))
    refine lv_lload_n hx hb dX1_fraction_6 rfl (lv_at hl 1 rfl) ?_
    refine lv_lneg hx hb dX1_fraction_7 ?_
    refine lv_goto (tgt := 12) hx hb dX1_fraction_8 (by decide) ?_
    exact hJ12 (-p1)  hR _ _ _ hE (lv_sub hl [0, 1, 2, 3] rfl)
section C_fraction
variable {p : Program} {l : Launch} {e : Env} {R : Room} {s : State} {mid : MethodId} {args : Array Value} {below : List Frame} {meth : Method} {c : Code} {H : Heap} {locs : List Loc} {Q : State → Prop} {cc : ByteArray} {pc : Nat} {ls : Array Slot} {rest : List Value} {D : va_G} {A : Nat → Prop} {m : Nat} {ar : Nat → Nat} {cs : Nat → ClassId} {Z : ZT} {nL : Nat}
theorem call_m_fraction (hx : p.tables.exec = Jvm.exec) (hb : c.code = cc) (hml : c.maxLocals = nL) (hown : s.vm.findClass RX1 = some mid.cls) (hts : ∀ w ∈ lw_all, w.before args s = true) (hK : KK D cs s) (hA : ∀ q : Nat, s.heap.size ≤ q → A q) (hE : EW D A s.heap (MW m ar cs Z) H locs) (hls : ls.size = nL) (p1 : Int64) (p3 : Int64) (p5 : Int32) (hl0 : ¬ p3 = 0) (h1 : 1 ≤ R.frames) (h2 : 31 ≤ R.locals) (h3 : (rest.map fun v => v.category).sum ≤ 8) (hd : decode cc pc = .ok (.invokevirtual 323, 3)) (kk : ∀ (H1 : Heap) (locs1 : List Loc), EW D A s.heap (MW m ar cs (m_fraction p1 p3 p5 Z).2) H1 locs1 → W p l e R s mid args below meth c H1 locs1 0 0 Q (F0 mid (pc + 3) ls (.int (m_fraction p1 p3 p5 Z).1 :: rest))) : W p l e R s mid args below meth c H locs 0 0 Q (F0 mid pc ls (.int p5 :: .long p3 :: .long p1 :: .ref m :: rest)) :=
  gCall_i (As := [.long p1, .long p3, .int p5]) (rest := rest) (q0 := 0) (ci := 1) (fs := MF ar Z) (T' := TX1) (N' := 52) hx hb hml hown hts hK hA hE hls (met_m_fraction l D cs m ar Z H.size p1 p3 p5 hl0) (cwV 3 hts (lw_V q1399 q1401 qs76 q85 q1402) rfl rfl rfl (by decide +kernel) ⟨h1, h2⟩) rfl rfl rfl rfl h3 hd ⟨Nat.zero_le _, Nat.zero_le _⟩ (fun v u H1 locs1 hp _ hE => by rw [hp] at kk; exact kk H1 locs1 hE)
end C_fraction
def m_expand_j159 (w159 : Int32 × ZT) : Int32 × ZT := (w159.1, w159.2)
def m_expand_j156 (w83 : Int32 × ZT) (w156 : ZT) : Int32 × ZT := ((w83.1 + 1), w156)
def m_expand_j151 (rec : Nat → Int32 → Int64 → Int32 → ZT → ZT) (p1 : Nat) (p2 : Int32) (p5 : Int32) (i83 : Nat) (w83 : Int32 × ZT) (w151 : Int64) : ZT := rec (p1 + 1) (p2 ||| ((1 : Int32) <<< ((nI i83) &&& 31))) w151 p5 w83.2
def m_expand_b83 (rec : Nat → Int32 → Int64 → Int32 → ZT → ZT) (p1 : Nat) (p2 : Int32) (p3 : Int64) (p5 : Int32) (i83 : Nat) (w83 : Int32 × ZT) : Int32 × ZT := m_expand_j159 (if (m_has p2 i83) = 0 then m_expand_j156 w83 (if w83.2.2 45 ((8 * p1) + i83) = (0 : Int64) then w83.2 else m_expand_j151 rec p1 p2 p5 i83 w83 (if (w83.1 - w83.1 / (2 : Int32) * (2 : Int32)) = 0 then (p3 * (w83.2.2 45 ((8 * p1) + i83))) else ((-p3) * (w83.2.2 45 ((8 * p1) + i83))))) else (w83.1, w83.2))
def m_expand_e83 (w83 : Int32 × ZT) : ZT := w83.2
def m_expand_j54 (p3 : Int64) (Z : ZT) (w34 : Int32) (w54 : Int32) : ZT := sI (sI (sL Z 46 0 ((Z.2 46 0) + p3)) 47 0 ((Z.1 47 0) + w34)) 48 0 ((Z.1 48 0) + w54)
def m_expand_j34 (p3 : Int64) (Z : ZT) (w34 : Int32) : ZT := m_expand_j54 p3 Z w34 (if (0 : Int64) ≤ p3 then (0 : Int32) else (1 : Int32))
def m_expand_body (rec : Nat → Int32 → Int64 → Int32 → ZT → ZT) (p1 : Nat) (p2 : Int32) (p3 : Int64) (p5 : Int32) (Z : ZT) : ZT := (if nI p1 = Z.1 43 0 then m_expand_j34 p3 Z (if p3 ≤ (0 : Int64) then (0 : Int32) else (1 : Int32)) else (if nI p1 = p5 then rec (p1 + 1) p2 p3 p5 Z else m_expand_e83 (itR (m_expand_b83 rec p1 p2 p3 p5) 0 (ix (Z.1 43 0)) ((0 : Int32), Z))))
def m_expand : Nat → Nat → Int32 → Int64 → Int32 → ZT → ZT
  | 0 => fun _ _ _ _ Z => Z
  | d + 1 => m_expand_body (m_expand d)
theorem m_expand_fr1 {k : Nat} (h1 : k ≠ 47) (h2 : k ≠ 48) : ∀ (d p1 : Nat) (p2 : Int32) (p3 : Int64) (p5 : Int32) (Z : ZT), (m_expand d p1 p2 p3 p5 Z).1 k = Z.1 k := by
  intro d
  induction d with
  | zero => intro p1 p2 p3 p5 Z; rfl
  | succ d ih =>
    intro p1 p2 p3 p5 Z
    show (m_expand_body (m_expand d) p1 p2 p3 p5 Z).1 k = Z.1 k
    unfold m_expand_body
    split
    · simp [m_expand_j34, m_expand_j54, sI, sL, va_up, h1, h2]
    · split
      · exact ih _ _ _ _ _
      · unfold m_expand_e83
        refine itR_ind (P := fun s : Int32 × ZT => s.2.1 k = Z.1 k) (fun i s hs => ?_) _ _ _ rfl
        unfold m_expand_b83 m_expand_j159
        split
        · unfold m_expand_j156
          show (if _ then _ else _ : ZT).1 k = Z.1 k
          split
          · exact hs
          · unfold m_expand_j151
            rw [ih]
            exact hs
        · exact hs
theorem m_expand_fr2 {k : Nat} (h1 : k ≠ 46) : ∀ (d p1 : Nat) (p2 : Int32) (p3 : Int64) (p5 : Int32) (Z : ZT), (m_expand d p1 p2 p3 p5 Z).2 k = Z.2 k := by
  intro d
  induction d with
  | zero => intro p1 p2 p3 p5 Z; rfl
  | succ d ih =>
    intro p1 p2 p3 p5 Z
    show (m_expand_body (m_expand d) p1 p2 p3 p5 Z).2 k = Z.2 k
    unfold m_expand_body
    split
    · simp [m_expand_j34, m_expand_j54, sI, sL, va_up, h1]
    · split
      · exact ih _ _ _ _ _
      · unfold m_expand_e83
        refine itR_ind (P := fun s : Int32 × ZT => s.2.2 k = Z.2 k) (fun i s hs => ?_) _ _ _ rfl
        unfold m_expand_b83 m_expand_j159
        split
        · unfold m_expand_j156
          show (if _ then _ else _ : ZT).2 k = Z.2 k
          split
          · exact hs
          · unfold m_expand_j151
            rw [ih]
            exact hs
        · exact hs
theorem m_expand_43 (d p1 : Nat) (p2 : Int32) (p3 : Int64) (p5 : Int32) (Z : ZT) : (m_expand d p1 p2 p3 p5 Z).1 43 0 = Z.1 43 0 := by rw [m_expand_fr1 (by decide) (by decide)]
section R_expand
variable {p : Program} {l : Launch} {e : Env} {R : Room} {s : State} {mid : MethodId} {args : Array Value} {below : List Frame} {meth : Method} {c : Code} {H : Heap} {locs : List Loc} {Q : State → Prop} {cc : ByteArray} {pc : Nat} {ls : Array Slot} {rest : List Value} {D : va_G} {A : Nat → Prop} {m : Nat} {ar : Nat → Nat} {cs : Nat → ClassId} {Z : ZT} {nL : Nat}
theorem call_m_expand_of {rm : Room} {spv : Nat → Int32 → Int64 → Int32 → ZT → ZT} (hx : p.tables.exec = Jvm.exec) (hb : c.code = cc) (hml : c.maxLocals = nL) (hown : s.vm.findClass RX1 = some mid.cls) (hts : ∀ w ∈ lw_all, w.before args s = true) (hK : KK D cs s) (hA : ∀ q : Nat, s.heap.size ≤ q → A q) (hE : EW D A s.heap (MW m ar cs Z) H locs) (hls : ls.size = nL) (p1 : Nat) (p2 : Int32) (p3 : Int64) (p5 : Int32) (hM : Met l yX1_expand (ws_ yX1_expand cX1_expand 10 none) rm (va_Pc [.ref m, .int (nI p1), .int p2, .long p3, .int p5] (wSt D cs (MW m ar cs Z) H.size)) (cQv (fun (u : ZT) => spv p1 p2 p3 p5 Z = u) D (fun u => MW m ar cs u) (MW m ar cs Z) H.size) 0 0 (va_A (MW m ar cs Z) H.size)) (h1 : rm.frames + 1 ≤ R.frames) (h2 : 29 + rm.locals ≤ R.locals) (h3 : (rest.map fun v => v.category).sum ≤ 8) (hd : decode cc pc = .ok (.invokevirtual 304, 3)) (kk : ∀ (H1 : Heap) (locs1 : List Loc), EW D A s.heap (MW m ar cs (spv p1 p2 p3 p5 Z)) H1 locs1 → W p l e R s mid args below meth c H1 locs1 0 0 Q (F0 mid (pc + 3) ls (rest))) (hrc : rm.cells = 0 := by rfl) (hrs : rm.slots = 0 := by rfl) : W p l e R s mid args below meth c H locs 0 0 Q (F0 mid pc ls (.int p5 :: .long p3 :: .int p2 :: .int (nI p1) :: .ref m :: rest)) :=
  gCall_v (As := [.int (nI p1), .int p2, .long p3, .int p5]) (rest := rest) (q0 := 0) (ci := 1) (fs := MF ar Z) (T' := TX1) (N' := 52) hx hb hml hown hts hK hA hE hls hM (cwV 4 hts (lw_V q1391 q1393 qs74 q85 q1394) rfl hrc hrs (by decide +kernel) ⟨h1, h2⟩) rfl rfl rfl rfl h3 hd ⟨Nat.zero_le _, Nat.zero_le _⟩ (fun u H1 locs1 hp _ hE => by subst hp; exact kk H1 locs1 hE)
end R_expand
set_option maxHeartbeats 4000000 in
set_option maxRecDepth 100000 in
theorem step_m_expand (l : Launch) (D : va_G) (cs : Nat → ClassId) (m : Nat) (ar : Nat → Nat) (d : Nat) (hrec : ∀ (Z : ZT) (sz : Nat) (p1 : Nat) (p2 : Int32) (p3 : Int64) (p5 : Int32) (hn1 : p1 < 9) (hW : ∃ wd : Nat, wd ≤ 8 ∧ p1 ≤ wd ∧ Z.1 43 0 = nI wd), ix (Z.1 43 0) - p1 + 1 ≤ d → Met l yX1_expand (ws_ yX1_expand cX1_expand 10 none) ({ frames := 1 + (d - 1), cells := 0, slots := 0, locals := 21 + (d - 1) * 29 }) (va_Pc [.ref m, .int (nI p1), .int p2, .long p3, .int p5] (wSt D cs (MW m ar cs Z) sz)) (cQv (fun (u : ZT) => m_expand d p1 p2 p3 p5 Z = u) D (fun u => MW m ar cs u) (MW m ar cs Z) sz) 0 0 (va_A (MW m ar cs Z) sz)) (Z : ZT) (sz : Nat) (p1 : Nat) (p2 : Int32) (p3 : Int64) (p5 : Int32) (hn1 : p1 < 9) (hW : ∃ wd : Nat, wd ≤ 8 ∧ p1 ≤ wd ∧ Z.1 43 0 = nI wd) (hmu : ix (Z.1 43 0) - p1 ≤ d) : Met l yX1_expand (ws_ yX1_expand cX1_expand 10 none) ({ frames := 1 + d, cells := 0, slots := 0, locals := 21 + d * 29 }) (va_Pc [.ref m, .int (nI p1), .int p2, .long p3, .int p5] (wSt D cs (MW m ar cs Z) sz)) (cQv (fun (u : ZT) => m_expand (d + 1) p1 p2 p3 p5 Z = u) D (fun u => MW m ar cs u) (MW m ar cs Z) sz) 0 0 (va_A (MW m ar cs Z) sz) := by
  refine gStart_v (C := RX1) rfl rfl (Nat.le_of_ble_eq_true rfl) ?_
  intro p e s mid args below meth c R Q A hx hb hml hown hts hK hA hRf hRl hRc hRs hnm hret hE ls hl
  have hRf : 1 + d ≤ R.frames := hRf
  have hRl : 21 + d * 29 ≤ R.locals := hRl
  have hl : lv_has ls 10 [(0, .ref m), (1, .int (nI p1)), (2, .int p2), (3, .long p3), (5, .int p5)] := hl
  have hR : m_expand (d + 1) p1 p2 p3 p5 Z = (if nI p1 = Z.1 43 0 then m_expand_j34 p3 Z (if p3 ≤ (0 : Int64) then (0 : Int32) else (1 : Int32)) else (if nI p1 = p5 then (m_expand d) (p1 + 1) p2 p3 p5 Z else m_expand_e83 (itR (m_expand_b83 (m_expand d) p1 p2 p3 p5) 0 (ix (Z.1 43 0)) ((0 : Int32), Z)))) := rfl
  obtain ⟨wd, hwd8, hwdp, hwd⟩ := hW
  have hwx : ix (Z.1 43 0) = wd := by rw [hwd]; exact ix_nI (by omega)
  refine lv_iload_n hx hb dX1_expand_0 rfl (lv_at hl 1 rfl) ?_
  refine lv_aload_n hx hb dX1_expand_1 rfl (lv_at hl 0 rfl) ?_
  refine mg_43 hx hb hts hown hK hE dX1_expand_2 ?_
  refine lv_icmp_ne (tgt := 59) hx hb dX1_expand_5 (by decide) (fun c5 => ?_) (fun c5 => ?_)
  · have hR : m_expand (d + 1) p1 p2 p3 p5 Z = (if nI p1 = p5 then (m_expand d) (p1 + 1) p2 p3 p5 Z else m_expand_e83 (itR (m_expand_b83 (m_expand d) p1 p2 p3 p5) 0 (ix (Z.1 43 0)) ((0 : Int32), Z))) := hR.trans (congrArg (fun z => z) (if_neg c5))
    have hp1w : p1 < wd := Nat.lt_of_le_of_ne hwdp (fun q => c5 (by rw [hwd, q]))
    refine lv_iload_n hx hb dX1_expand_59 rfl (lv_at hl 1 rfl) ?_
    refine lv_iload hx hb dX1_expand_60 (lv_at hl 4 rfl) ?_
    refine lv_icmp_ne (tgt := 77) hx hb dX1_expand_62 (by decide) (fun c62 => ?_) (fun c62 => ?_)
    · have hR : m_expand (d + 1) p1 p2 p3 p5 Z = (m_expand_e83 (itR (m_expand_b83 (m_expand d) p1 p2 p3 p5) 0 (ix (Z.1 43 0)) ((0 : Int32), Z))) := hR.trans (congrArg (fun z => z) (if_neg c62))
      refine lv_iconst (v := 0) hx hb dX1_expand_77 rfl ?_
      refine lv_istore (lv' := [(6, .int (0 : Int32)), (0, .ref m), (1, .int (nI p1)), (2, .int p2), (3, .long p3), (5, .int p5)]) hx hb dX1_expand_78 hl (by decide) rfl (fun ls hl => ?_)
      refine lv_iconst (v := 0) hx hb dX1_expand_80 rfl ?_
      refine lv_istore (lv' := [(7, .int (0 : Int32)), (6, .int (0 : Int32)), (0, .ref m), (1, .int (nI p1)), (2, .int p2), (3, .long p3), (5, .int p5)]) hx hb dX1_expand_81 hl (by decide) rfl (fun ls hl => ?_)
      have hL83 : ∀ (k i83 : Nat) (w83 : Int32 × ZT) (hi83 : i83 + k = (ix (Z.1 43 0))) (hz83 : w83.2.1 43 0 = Z.1 43 0) (hR : m_expand (d + 1) p1 p2 p3 p5 Z = m_expand_e83 (itR (m_expand_b83 (m_expand d) p1 p2 p3 p5) i83 k w83)), ∀ (H : Heap) (locs : List Loc) (ls : Array Slot), EW D A s.heap (MW m ar cs w83.2) H locs → lv_has ls 10 [(0, .ref m), (1, .int (nI p1)), (2, .int p2), (3, .long p3), (5, .int p5), (6, .int w83.1), (7, .int (nI i83))] → W p l e R s mid args below meth c H locs 0 0 Q (F0 mid 83 ls []) := by
        intro k
        induction k with
        | zero =>
          intro i83 w83 hi83 hz83 hR H locs ls hE hl
          have hie83 : i83 = (ix (Z.1 43 0)) := by omega
          have hbx83 : ix (w83.2.1 43 0) = ix (Z.1 43 0) := by rw [hz83]
          have hR : m_expand (d + 1) p1 p2 p3 p5 Z = w83.2 := hR
          refine lv_iload hx hb dX1_expand_83 (lv_at hl 6 rfl) ?_
          refine lv_aload_n hx hb dX1_expand_85 rfl (lv_at hl 0 rfl) ?_
          refine mg_43 hx hb hts hown hK hE dX1_expand_86 ?_
          have hna86 := vp_ix (x := w83.2.1 43 0) (N := 9) (by rw [hz83, hwd]; exact vp_in_nI (by omega) (by decide)) (by decide)
          have hna86b := hna86.2
          refine top_nat hna86.1 ?_
          refine n_geT (a := i83) (b := (ix (w83.2.1 43 0))) (by omega) (by omega) hx hb dX1_expand_89 (tgt := 165) (by decide) ?_
          have hl := lv_sub (l' := [(0, .ref m), (1, .int (nI p1)), (2, .int p2), (3, .long p3), (5, .int p5), (6, .int w83.1)]) hl [0, 1, 2, 3, 4, 5] rfl
          exact hret w83.2 hR hE (Nat.le_refl 0) (Nat.le_refl 0) dX1_expand_165
        | succ k ih83 =>
          intro i83 w83 hi83 hz83 hR H locs ls hE hl
          have hlt83 : i83 < (ix (Z.1 43 0)) := by omega
          have hbx83 : ix (w83.2.1 43 0) = ix (Z.1 43 0) := by rw [hz83]
          have hB83 : m_expand_b83 (m_expand d) p1 p2 p3 p5 i83 w83 = m_expand_j159 (if (m_has p2 i83) = 0 then m_expand_j156 w83 (if w83.2.2 45 ((8 * p1) + i83) = (0 : Int64) then w83.2 else m_expand_j151 (m_expand d) p1 p2 p5 i83 w83 (if (w83.1 - w83.1 / (2 : Int32) * (2 : Int32)) = 0 then (p3 * (w83.2.2 45 ((8 * p1) + i83))) else ((-p3) * (w83.2.2 45 ((8 * p1) + i83))))) else (w83.1, w83.2)) := rfl
          refine lv_iload hx hb dX1_expand_83 (lv_at hl 6 rfl) ?_
          refine lv_aload_n hx hb dX1_expand_85 rfl (lv_at hl 0 rfl) ?_
          refine mg_43 hx hb hts hown hK hE dX1_expand_86 ?_
          have hna86 := vp_ix (x := w83.2.1 43 0) (N := 9) (by rw [hz83, hwd]; exact vp_in_nI (by omega) (by decide)) (by decide)
          have hna86b := hna86.2
          refine top_nat hna86.1 ?_
          refine n_geF (a := i83) (b := (ix (w83.2.1 43 0))) (by omega) (by omega) hx hb dX1_expand_89 (tgt := 165) (by decide) ?_
          refine lv_iload_n hx hb dX1_expand_92 rfl (lv_at hl 2 rfl) ?_
          refine lv_iload hx hb dX1_expand_93 (lv_at hl 6 rfl) ?_
          refine call_m_has hx hb hml hown hts hK hA hE hl.1 p2 i83 (by omega) (by omega) (Nat.le_of_ble_eq_true rfl) dX1_expand_95 (fun H locs hE => ?_)
          have hJ159 : ∀ (w159 : Int32 × ZT) (hz159 : w159.2.1 43 0 = Z.1 43 0) (hB83 : m_expand_b83 (m_expand d) p1 p2 p3 p5 i83 w83 = m_expand_j159 w159), ∀ (H : Heap) (locs : List Loc) (ls : Array Slot), EW D A s.heap (MW m ar cs w159.2) H locs → lv_has ls 10 [(0, .ref m), (1, .int (nI p1)), (2, .int p2), (3, .long p3), (5, .int p5), (6, .int w159.1), (7, .int (nI i83))] → W p l e R s mid args below meth c H locs 0 0 Q (F0 mid 159 ls []) := by
            intro w159 hz159 hB83 H locs ls hE hl
            have hB83 : m_expand_b83 (m_expand d) p1 p2 p3 p5 i83 w83 = (w159.1, w159.2) := hB83
            refine n_inc (lv' := [(7, .int (nI (i83 + 1))), (0, .ref m), (1, .int (nI p1)), (2, .int p2), (3, .long p3), (5, .int p5), (6, .int w159.1)]) hx hb dX1_expand_159 hl (k := 6) rfl (by decide) rfl (fun ls hl => ?_)
            refine lv_goto (tgt := 83) hx hb dX1_expand_162 (by decide) ?_
            exact ih83 (i83 + 1) (w159.1, w159.2) (by omega) (by exact hz159) (hR.trans (congrArg (fun z => m_expand_e83 (itR (m_expand_b83 (m_expand d) p1 p2 p3 p5) (i83 + 1) k z)) hB83)) _ _ _ hE (lv_sub hl [1, 2, 3, 4, 5, 6, 0] rfl)
          refine lv_if_ne (tgt := 159) hx hb dX1_expand_98 (by decide) (fun c98 => ?_) (fun c98 => ?_)
          · have hB83 : m_expand_b83 (m_expand d) p1 p2 p3 p5 i83 w83 = m_expand_j159 (w83.1, w83.2) := hB83.trans (congrArg (fun z => m_expand_j159 z) (if_neg c98))
            exact hJ159 (w83.1, w83.2)  (by first | exact hz156 | exact hz83) hB83 _ _ _ hE (lv_sub hl [0, 1, 2, 3, 4, 5, 6] rfl)
          · have hB83 : m_expand_b83 (m_expand d) p1 p2 p3 p5 i83 w83 = m_expand_j159 (m_expand_j156 w83 (if w83.2.2 45 ((8 * p1) + i83) = (0 : Int64) then w83.2 else m_expand_j151 (m_expand d) p1 p2 p5 i83 w83 (if (w83.1 - w83.1 / (2 : Int32) * (2 : Int32)) = 0 then (p3 * (w83.2.2 45 ((8 * p1) + i83))) else ((-p3) * (w83.2.2 45 ((8 * p1) + i83)))))) := hB83.trans (congrArg (fun z => m_expand_j159 z) (if_pos c98))
            refine lv_aload_n hx hb dX1_expand_101 rfl (lv_at hl 0 rfl) ?_
            refine mg_45 hx hb hts hown hK hE dX1_expand_102 ?_
            refine lv_bipush (v := 8) hx hb dX1_expand_105 rfl ?_
            refine lv_iload_n hx hb dX1_expand_107 rfl (lv_at hl 1 rfl) ?_
            refine n_mul (a := 8) (b := p1) hx hb dX1_expand_108 ?_
            refine lv_iload hx hb dX1_expand_109 (lv_at hl 6 rfl) ?_
            refine n_add (a := (8 * p1)) (b := i83) hx hb dX1_expand_111 ?_
            refine ma_45 (n := ((8 * p1) + i83)) (by omega) hx hb hK hE dX1_expand_112 ?_
            refine lv_lstore (lv' := [(8, .long (w83.2.2 45 ((8 * p1) + i83))), (0, .ref m), (1, .int (nI p1)), (2, .int p2), (3, .long p3), (5, .int p5), (6, .int w83.1), (7, .int (nI i83))]) hx hb dX1_expand_113 hl (by decide) rfl (fun ls hl => ?_)
            refine lv_lload hx hb dX1_expand_115 (lv_at hl 0 rfl) ?_
            refine lv_lconst (v := 0) hx hb dX1_expand_117 rfl ?_
            have hJ156 : ∀ (w156 : ZT) (hz156 : w156.1 43 0 = Z.1 43 0) (hB83 : m_expand_b83 (m_expand d) p1 p2 p3 p5 i83 w83 = m_expand_j159 (m_expand_j156 w83 w156)), ∀ (H : Heap) (locs : List Loc) (ls : Array Slot), EW D A s.heap (MW m ar cs w156) H locs → lv_has ls 10 [(0, .ref m), (1, .int (nI p1)), (2, .int p2), (3, .long p3), (5, .int p5), (6, .int w83.1), (7, .int (nI i83))] → W p l e R s mid args below meth c H locs 0 0 Q (F0 mid 156 ls []) := by
              intro w156 hz156 hB83 H locs ls hE hl
              have hB83 : m_expand_b83 (m_expand d) p1 p2 p3 p5 i83 w83 = m_expand_j159 ((w83.1 + 1), w156) := hB83
              refine lv_iinc (v := (w83.1 + 1)) (lv' := [(6, .int (w83.1 + 1)), (0, .ref m), (1, .int (nI p1)), (2, .int p2), (3, .long p3), (5, .int p5), (7, .int (nI i83))]) hx hb dX1_expand_156 hl (k := 5) rfl rfl (by decide) rfl (fun ls hl => ?_)
              exact hJ159 ((w83.1 + 1), w156)  (by first | exact hz156 | exact hz83) hB83 _ _ _ hE (lv_sub hl [1, 2, 3, 4, 5, 0, 6] rfl)
            refine l_eq (tgt := 156) hx hb dX1_expand_118 dX1_expand_119 (by decide) (fun c118 => ?_) (fun c118 => ?_)
            · have hB83 : m_expand_b83 (m_expand d) p1 p2 p3 p5 i83 w83 = m_expand_j159 (m_expand_j156 w83 w83.2) := hB83.trans (congrArg (fun z => m_expand_j159 (m_expand_j156 w83 z)) (if_pos c118))
              exact hJ156 w83.2  (by first | exact hz83 | (rw [m_expand_43]; exact hz83)) hB83 _ _ _ hE (lv_sub hl [1, 2, 3, 4, 5, 6, 7] rfl)
            · have hB83 : m_expand_b83 (m_expand d) p1 p2 p3 p5 i83 w83 = m_expand_j159 (m_expand_j156 w83 (m_expand_j151 (m_expand d) p1 p2 p5 i83 w83 (if (w83.1 - w83.1 / (2 : Int32) * (2 : Int32)) = 0 then (p3 * (w83.2.2 45 ((8 * p1) + i83))) else ((-p3) * (w83.2.2 45 ((8 * p1) + i83)))))) := hB83.trans (congrArg (fun z => m_expand_j159 (m_expand_j156 w83 z)) (if_neg c118))
              refine lv_aload_n hx hb dX1_expand_122 rfl (lv_at hl 1 rfl) ?_
              refine lv_iload_n hx hb dX1_expand_123 rfl (lv_at hl 2 rfl) ?_
              refine lv_iconst (v := 1) hx hb dX1_expand_124 rfl ?_
              refine n_add (a := p1) (b := 1) hx hb dX1_expand_125 ?_
              refine lv_iload_n hx hb dX1_expand_126 rfl (lv_at hl 3 rfl) ?_
              refine lv_iconst (v := 1) hx hb dX1_expand_127 rfl ?_
              refine lv_iload hx hb dX1_expand_128 (lv_at hl 7 rfl) ?_
              refine lv_ishl hx hb dX1_expand_130 ?_
              refine lv_ior hx hb dX1_expand_131 ?_
              refine lv_iload hx hb dX1_expand_132 (lv_at hl 6 rfl) ?_
              refine lv_iconst (v := 2) hx hb dX1_expand_134 rfl ?_
              refine lv_irem hx hb dX1_expand_135 (by decide) ?_
              have hJ151 : ∀ (w151 : Int64) (hB83 : m_expand_b83 (m_expand d) p1 p2 p3 p5 i83 w83 = m_expand_j159 (m_expand_j156 w83 (m_expand_j151 (m_expand d) p1 p2 p5 i83 w83 w151))), ∀ (H : Heap) (locs : List Loc) (ls : Array Slot), EW D A s.heap (MW m ar cs w83.2) H locs → lv_has ls 10 [(0, .ref m), (1, .int (nI p1)), (2, .int p2), (3, .long p3), (5, .int p5), (6, .int w83.1), (7, .int (nI i83))] → W p l e R s mid args below meth c H locs 0 0 Q (F0 mid 151 ls [.long w151, .int (p2 ||| ((1 : Int32) <<< ((nI i83) &&& 31))), .int (nI (p1 + 1)), .ref m]) := by
                intro w151 hB83 H locs ls hE hl
                have hB83 : m_expand_b83 (m_expand d) p1 p2 p3 p5 i83 w83 = m_expand_j159 (m_expand_j156 w83 ((m_expand d) (p1 + 1) (p2 ||| ((1 : Int32) <<< ((nI i83) &&& 31))) w151 p5 w83.2)) := hB83
                refine lv_iload hx hb dX1_expand_151 (lv_at hl 4 rfl) ?_
                refine call_m_expand_of (rm := { frames := 1 + (d - 1), cells := 0, slots := 0, locals := 21 + (d - 1) * 29 }) hx hb hml hown hts hK hA hE hl.1 (p1 + 1) (p2 ||| ((1 : Int32) <<< ((nI i83) &&& 31))) w151 p5 (hrec w83.2 _ (p1 + 1) (p2 ||| ((1 : Int32) <<< ((nI i83) &&& 31))) w151 p5 (by omega) (by exact ⟨wd, hwd8, by omega, by rw [hz83]; exact hwd⟩) (by rw [hz83, hwx]; omega)) (by show 1 + (d - 1) + 1 ≤ R.frames; omega) (by show 29 + (21 + (d - 1) * 29) ≤ R.locals; omega) (Nat.le_of_ble_eq_true rfl) dX1_expand_153 (fun H locs hE => ?_)
                exact hJ156 ((m_expand d) (p1 + 1) (p2 ||| ((1 : Int32) <<< ((nI i83) &&& 31))) w151 p5 w83.2)  (by first | exact hz83 | (rw [m_expand_43]; exact hz83)) hB83 _ _ _ hE (lv_sub hl [0, 1, 2, 3, 4, 5, 6] rfl)
              refine lv_if_ne (tgt := 146) hx hb dX1_expand_136 (by decide) (fun c136 => ?_) (fun c136 => ?_)
              · have hB83 : m_expand_b83 (m_expand d) p1 p2 p3 p5 i83 w83 = m_expand_j159 (m_expand_j156 w83 (m_expand_j151 (m_expand d) p1 p2 p5 i83 w83 ((-p3) * (w83.2.2 45 ((8 * p1) + i83))))) := hB83.trans (congrArg (fun z => m_expand_j159 (m_expand_j156 w83 (m_expand_j151 (m_expand d) p1 p2 p5 i83 w83 z))) (if_neg c136))
                refine lv_lload_n hx hb dX1_expand_146 rfl (lv_at hl 4 rfl) ?_
                refine lv_lneg hx hb dX1_expand_147 ?_
                refine lv_lload hx hb dX1_expand_148 (lv_at hl 0 rfl) ?_
                refine lv_lmul hx hb dX1_expand_150 ?_
                exact hJ151 ((-p3) * (w83.2.2 45 ((8 * p1) + i83)))  hB83 _ _ _ hE (lv_sub hl [1, 2, 3, 4, 5, 6, 7] rfl)
              · have hB83 : m_expand_b83 (m_expand d) p1 p2 p3 p5 i83 w83 = m_expand_j159 (m_expand_j156 w83 (m_expand_j151 (m_expand d) p1 p2 p5 i83 w83 (p3 * (w83.2.2 45 ((8 * p1) + i83))))) := hB83.trans (congrArg (fun z => m_expand_j159 (m_expand_j156 w83 (m_expand_j151 (m_expand d) p1 p2 p5 i83 w83 z))) (if_pos c136))
                refine lv_lload_n hx hb dX1_expand_139 rfl (lv_at hl 4 rfl) ?_
                refine lv_lload hx hb dX1_expand_140 (lv_at hl 0 rfl) ?_
                refine lv_lmul hx hb dX1_expand_142 ?_
                refine lv_goto (tgt := 151) hx hb dX1_expand_143 (by decide) ?_
                exact hJ151 (p3 * (w83.2.2 45 ((8 * p1) + i83)))  hB83 _ _ _ hE (lv_sub hl [1, 2, 3, 4, 5, 6, 7] rfl)
      exact hL83 (ix (Z.1 43 0)) 0 ((0 : Int32), Z) (by omega) (by exact rfl) hR _ _ _ hE (lv_sub hl [2, 3, 4, 5, 6, 1, 0] rfl)
    · have hR : m_expand (d + 1) p1 p2 p3 p5 Z = ((m_expand d) (p1 + 1) p2 p3 p5 Z) := hR.trans (congrArg (fun z => z) (if_pos c62))
      refine lv_aload_n hx hb dX1_expand_65 rfl (lv_at hl 0 rfl) ?_
      refine lv_iload_n hx hb dX1_expand_66 rfl (lv_at hl 1 rfl) ?_
      refine lv_iconst (v := 1) hx hb dX1_expand_67 rfl ?_
      refine n_add (a := p1) (b := 1) hx hb dX1_expand_68 ?_
      refine lv_iload_n hx hb dX1_expand_69 rfl (lv_at hl 2 rfl) ?_
      refine lv_lload_n hx hb dX1_expand_70 rfl (lv_at hl 3 rfl) ?_
      refine lv_iload hx hb dX1_expand_71 (lv_at hl 4 rfl) ?_
      refine call_m_expand_of (rm := { frames := 1 + (d - 1), cells := 0, slots := 0, locals := 21 + (d - 1) * 29 }) hx hb hml hown hts hK hA hE hl.1 (p1 + 1) p2 p3 p5 (hrec Z _ (p1 + 1) p2 p3 p5 (by omega) (by exact ⟨wd, hwd8, by omega, hwd⟩) (by rw [hwx]; omega)) (by show 1 + (d - 1) + 1 ≤ R.frames; omega) (by show 29 + (21 + (d - 1) * 29) ≤ R.locals; omega) (Nat.le_of_ble_eq_true rfl) dX1_expand_73 (fun H locs hE => ?_)
      exact hret ((m_expand d) (p1 + 1) p2 p3 p5 Z) hR hE (Nat.le_refl 0) (Nat.le_refl 0) dX1_expand_76
  · have hR : m_expand (d + 1) p1 p2 p3 p5 Z = (m_expand_j34 p3 Z (if p3 ≤ (0 : Int64) then (0 : Int32) else (1 : Int32))) := hR.trans (congrArg (fun z => z) (if_pos c5))
    refine lv_aload_n hx hb dX1_expand_8 rfl (lv_at hl 0 rfl) ?_
    refine lv_dup hx hb dX1_expand_9 rfl ?_
    refine mg_46 hx hb hts hown hK hE dX1_expand_10 ?_
    refine lv_lload_n hx hb dX1_expand_13 rfl (lv_at hl 3 rfl) ?_
    refine lv_ladd hx hb dX1_expand_14 ?_
    refine mp_46 hx hb hts hown hK hE dX1_expand_15 (fun H locs hE => ?_)
    refine lv_aload_n hx hb dX1_expand_18 rfl (lv_at hl 0 rfl) ?_
    refine lv_dup hx hb dX1_expand_19 rfl ?_
    refine mg_47 hx hb hts hown hK hE dX1_expand_20 ?_
    refine lv_lload_n hx hb dX1_expand_23 rfl (lv_at hl 3 rfl) ?_
    refine lv_lconst (v := 0) hx hb dX1_expand_24 rfl ?_
    have hJ34 : ∀ (w34 : Int32) (hR : m_expand (d + 1) p1 p2 p3 p5 Z = m_expand_j34 p3 Z w34), ∀ (H : Heap) (locs : List Loc) (ls : Array Slot), EW D A s.heap (MW m ar cs (sL Z 46 0 ((Z.2 46 0) + p3))) H locs → lv_has ls 10 [(0, .ref m), (3, .long p3)] → W p l e R s mid args below meth c H locs 0 0 Q (F0 mid 34 ls [.int w34, .int (Z.1 47 0), .ref m]) := by
      intro w34 hR H locs ls hE hl
      have hR : m_expand (d + 1) p1 p2 p3 p5 Z = (m_expand_j54 p3 Z w34 (if (0 : Int64) ≤ p3 then (0 : Int32) else (1 : Int32))) := hR
      refine lv_iadd hx hb dX1_expand_34 ?_
      refine mp_47 hx hb hts hown hK hE dX1_expand_35 (fun H locs hE => ?_)
      refine lv_aload_n hx hb dX1_expand_38 rfl (lv_at hl 0 rfl) ?_
      refine lv_dup hx hb dX1_expand_39 rfl ?_
      refine mg_48 hx hb hts hown hK hE dX1_expand_40 ?_
      refine lv_lload_n hx hb dX1_expand_43 rfl (lv_at hl 1 rfl) ?_
      refine lv_lconst (v := 0) hx hb dX1_expand_44 rfl ?_
      have hJ54 : ∀ (w54 : Int32) (hR : m_expand (d + 1) p1 p2 p3 p5 Z = m_expand_j54 p3 Z w34 w54), ∀ (H : Heap) (locs : List Loc) (ls : Array Slot), EW D A s.heap (MW m ar cs (sI (sL Z 46 0 ((Z.2 46 0) + p3)) 47 0 ((Z.1 47 0) + w34))) H locs → lv_has ls 10 [] → W p l e R s mid args below meth c H locs 0 0 Q (F0 mid 54 ls [.int w54, .int (Z.1 48 0), .ref m]) := by
        intro w54 hR H locs ls hE hl
        have hR : m_expand (d + 1) p1 p2 p3 p5 Z = (sI (sI (sL Z 46 0 ((Z.2 46 0) + p3)) 47 0 ((Z.1 47 0) + w34)) 48 0 ((Z.1 48 0) + w54)) := hR
        refine lv_iadd hx hb dX1_expand_54 ?_
        refine mp_48 hx hb hts hown hK hE dX1_expand_55 (fun H locs hE => ?_)
        exact hret (sI (sI (sL Z 46 0 ((Z.2 46 0) + p3)) 47 0 ((Z.1 47 0) + w34)) 48 0 ((Z.1 48 0) + w54)) hR hE (Nat.le_refl 0) (Nat.le_refl 0) dX1_expand_58
      refine l_ge (tgt := 53) hx hb dX1_expand_45 dX1_expand_46 (by decide) (fun c45 => ?_) (fun c45 => ?_)
      · have hR : m_expand (d + 1) p1 p2 p3 p5 Z = m_expand_j54 p3 Z w34 (0 : Int32) := hR.trans (congrArg (fun z => m_expand_j54 p3 Z w34 z) (if_pos c45))
        refine lv_iconst (v := 0) hx hb dX1_expand_53 rfl ?_
        exact hJ54 (0 : Int32)  hR _ _ _ hE (lv_sub hl [] rfl)
      · have hR : m_expand (d + 1) p1 p2 p3 p5 Z = m_expand_j54 p3 Z w34 (1 : Int32) := hR.trans (congrArg (fun z => m_expand_j54 p3 Z w34 z) (if_neg c45))
        refine lv_iconst (v := 1) hx hb dX1_expand_49 rfl ?_
        refine lv_goto (tgt := 54) hx hb dX1_expand_50 (by decide) ?_
        exact hJ54 (1 : Int32)  hR _ _ _ hE (lv_sub hl [] rfl)
    refine l_le (tgt := 33) hx hb dX1_expand_25 dX1_expand_26 (by decide) (fun c25 => ?_) (fun c25 => ?_)
    · have hR : m_expand (d + 1) p1 p2 p3 p5 Z = m_expand_j34 p3 Z (0 : Int32) := hR.trans (congrArg (fun z => m_expand_j34 p3 Z z) (if_pos c25))
      refine lv_iconst (v := 0) hx hb dX1_expand_33 rfl ?_
      exact hJ34 (0 : Int32)  hR _ _ _ hE (lv_sub hl [0, 3] rfl)
    · have hR : m_expand (d + 1) p1 p2 p3 p5 Z = m_expand_j34 p3 Z (1 : Int32) := hR.trans (congrArg (fun z => m_expand_j34 p3 Z z) (if_neg c25))
      refine lv_iconst (v := 1) hx hb dX1_expand_29 rfl ?_
      refine lv_goto (tgt := 34) hx hb dX1_expand_30 (by decide) ?_
      exact hJ34 (1 : Int32)  hR _ _ _ hE (lv_sub hl [0, 3] rfl)
theorem met_m_expand (l : Launch) (D : va_G) (cs : Nat → ClassId) (m : Nat) (ar : Nat → Nat) (d : Nat) : ∀ (Z : ZT) (sz : Nat) (p1 : Nat) (p2 : Int32) (p3 : Int64) (p5 : Int32) (hn1 : p1 < 9) (hW : ∃ wd : Nat, wd ≤ 8 ∧ p1 ≤ wd ∧ Z.1 43 0 = nI wd) (hmu : ix (Z.1 43 0) - p1 ≤ d), Met l yX1_expand (ws_ yX1_expand cX1_expand 10 none) ({ frames := 1 + d, cells := 0, slots := 0, locals := 21 + d * 29 }) (va_Pc [.ref m, .int (nI p1), .int p2, .long p3, .int p5] (wSt D cs (MW m ar cs Z) sz)) (cQv (fun (u : ZT) => m_expand (d + 1) p1 p2 p3 p5 Z = u) D (fun u => MW m ar cs u) (MW m ar cs Z) sz) 0 0 (va_A (MW m ar cs Z) sz) := by
  induction d with
  | zero => exact step_m_expand l D cs m ar 0 (fun _ _ _ _ _ _ _ _ h => absurd h (Nat.not_succ_le_zero _))
  | succ d ih => exact step_m_expand l D cs m ar (d + 1) (fun Z sz p1 p2 p3 p5 hn1 hW h => ih Z sz p1 p2 p3 p5 hn1 hW (Nat.le_of_succ_le_succ h))
section C_expand
variable {p : Program} {l : Launch} {e : Env} {R : Room} {s : State} {mid : MethodId} {args : Array Value} {below : List Frame} {meth : Method} {c : Code} {H : Heap} {locs : List Loc} {Q : State → Prop} {cc : ByteArray} {pc : Nat} {ls : Array Slot} {rest : List Value} {D : va_G} {A : Nat → Prop} {m : Nat} {ar : Nat → Nat} {cs : Nat → ClassId} {Z : ZT} {nL : Nat}
theorem call_m_expand (d : Nat) (hx : p.tables.exec = Jvm.exec) (hb : c.code = cc) (hml : c.maxLocals = nL) (hown : s.vm.findClass RX1 = some mid.cls) (hts : ∀ w ∈ lw_all, w.before args s = true) (hK : KK D cs s) (hA : ∀ q : Nat, s.heap.size ≤ q → A q) (hE : EW D A s.heap (MW m ar cs Z) H locs) (hls : ls.size = nL) (p1 : Nat) (p2 : Int32) (p3 : Int64) (p5 : Int32) (hn1 : p1 < 9) (hW : ∃ wd : Nat, wd ≤ 8 ∧ p1 ≤ wd ∧ Z.1 43 0 = nI wd) (hmu : ix (Z.1 43 0) - p1 ≤ d) (h1 : 1 + d + 1 ≤ R.frames) (h2 : 29 + (21 + d * 29) ≤ R.locals) (h3 : (rest.map fun v => v.category).sum ≤ 8) (hd : decode cc pc = .ok (.invokevirtual 304, 3)) (kk : ∀ (H1 : Heap) (locs1 : List Loc), EW D A s.heap (MW m ar cs (m_expand (d + 1) p1 p2 p3 p5 Z)) H1 locs1 → W p l e R s mid args below meth c H1 locs1 0 0 Q (F0 mid (pc + 3) ls (rest))) : W p l e R s mid args below meth c H locs 0 0 Q (F0 mid pc ls (.int p5 :: .long p3 :: .int p2 :: .int (nI p1) :: .ref m :: rest)) :=
  call_m_expand_of hx hb hml hown hts hK hA hE hls p1 p2 p3 p5 (met_m_expand l D cs m ar d Z H.size p1 p2 p3 p5 hn1 hW hmu) h1 h2 h3 hd kk
end C_expand
