/-! the component: a week -/
set_option maxRecDepth 100000
/-- what holds of the beings: stocks, caps, amounts taken; links only between those that are there -/
def XI (Z : ZT) : Prop := (∀ b : Nat, b < 8 → 0 ≤ (Z.1 32 b).toInt ∧ (Z.1 32 b).toInt ≤ 100000) ∧ (∀ b : Nat, b < 8 → 1 ≤ (Z.1 36 b).toInt ∧ (Z.1 36 b).toInt ≤ 100000) ∧ (∀ b : Nat, b < 8 → 0 ≤ (Z.1 33 b).toInt ∧ (Z.1 33 b).toInt ≤ 100000) ∧ ∀ e p : Nat, e < 8 → p < 8 → ¬ Z.1 11 (8 * e + p) = 0 → ¬ Z.1 30 e = 0 ∧ ¬ Z.1 30 p = 0
theorem XI_fst {Z Z' : ZT} (h : Z'.1 = Z.1) (hX : XI Z) : XI Z' := by
  unfold XI
  rw [h]
  exact hX
theorem sumnz {s t : Int64} (h : ¬ s ≤ t) (h0 : 0 ≤ t.toInt) : ¬ s = 0 := by
  intro e
  subst e
  apply h
  rw [Int64.le_iff_toInt_le]
  exact h0
theorem dn_vp {x : Int32} {N : Int} (h : -1 ≤ x.toInt ∧ x.toInt ≤ N) (hc : ¬ x < 0) {M : Nat} (hM : N < M := by decide) : vp_in x M := by
  rw [Int32.lt_iff_toInt_lt, show (0 : Int32).toInt = 0 from rfl] at hc
  exact vp_in_iff.mpr ⟨by omega, by omega⟩
theorem dn_step {x : Int32} {N : Int} (h : -1 ≤ x.toInt ∧ x.toInt ≤ N) (hc : ¬ x < 0) : (x + (-1)).toInt = x.toInt - 1 ∧ 0 ≤ x.toInt := by
  rw [Int32.lt_iff_toInt_lt, show (0 : Int32).toInt = 0 from rfl] at hc
  have l := x.toInt_lt
  refine ⟨?_, by omega⟩
  rw [Int32.toInt_add, show (-1 : Int32).toInt = -1 from rfl, Int.bmod_eq_of_le (by omega) (by omega)]
  omega
theorem dn_dec {x : Int32} {N : Int} {n : Nat} (h : -1 ≤ x.toInt ∧ x.toInt ≤ N) (hc : ¬ x < 0) (hm : (x.toInt + 1).toNat < n + 1) : ((x + (-1)).toInt + 1).toNat < n := by
  have h1 := dn_step h hc
  generalize (x + (-1)).toInt = y at *
  generalize x.toInt = z at *
  omega
theorem dn_inv {x : Int32} {N : Int} (h : -1 ≤ x.toInt ∧ x.toInt ≤ N) (hc : ¬ x < 0) : -1 ≤ (x + (-1)).toInt ∧ (x + (-1)).toInt ≤ N := by
  have h1 := dn_step h hc
  generalize (x + (-1)).toInt = y at *
  generalize x.toInt = z at *
  omega
def x_sumOf_b5 (p1 : Nat) (p2 : Nat) (Z : ZT) (i5 : Nat) (w5 : Int64) : Int64 := (w5 + (Z.2 17 (p1 + (p2 * i5))))
def x_sumOf_e5 (w5 : Int64) : Int64 := w5
def x_sumOf (p1 : Nat) (p2 : Nat) (Z : ZT) : Int64 := x_sumOf_e5 (itR (x_sumOf_b5 p1 p2 Z) 0 8 (0 : Int64))
set_option maxHeartbeats 4000000 in
set_option maxRecDepth 100000 in
theorem met_x_sumOf (l : Launch) (D : va_G) (cs : Nat → ClassId) (x : Nat) (ar : Nat → Nat) (B : BT) (Y : va_W) (Z : ZT) (sz : Nat) (p1 : Nat) (p2 : Nat) (hn1 : p1 < 64) (hn2 : p2 < 9) (hidx : p1 + p2 * 7 < 64) : Met l yX0_sumOf (ws_ yX0_sumOf cX0_sumOf 6 (some .long)) ({ frames := 0, cells := 0, slots := 0, locals := 0 }) (va_Pc [.ref (ar 17), .int (nI p1), .int (nI p2)] (wSt D cs (WX x ar cs Z B Y) sz)) (cQl (fun (v : Int64) (_ : Unit) => x_sumOf p1 p2 Z = v) D (fun _ => (WX x ar cs Z B Y)) (WX x ar cs Z B Y) sz) 0 0 (va_A (WX x ar cs Z B Y) sz) := by
  refine gStart_l (C := RX0) rfl rfl (Nat.le_of_ble_eq_true rfl) ?_
  intro p e s mid args below meth c R Q A hx hb hml hown hts hK hA hRf hRl hRc hRs hret hE ls hl
  have hRf : 0 ≤ R.frames := hRf
  have hRl : 0 ≤ R.locals := hRl
  have hl : lv_has ls 6 [(0, .ref (ar 17)), (1, .int (nI p1)), (2, .int (nI p2))] := hl
  have hR : x_sumOf p1 p2 Z = (x_sumOf_e5 (itR (x_sumOf_b5 p1 p2 Z) 0 8 (0 : Int64))) := rfl
  refine lv_lconst (v := 0) hx hb dX0_sumOf_0 rfl ?_
  refine lv_lstore_n (lv' := [(3, .long (0 : Int64)), (0, .ref (ar 17)), (1, .int (nI p1)), (2, .int (nI p2))]) hx hb dX0_sumOf_1 rfl hl (by decide) rfl (fun ls hl => ?_)
  refine lv_iconst (v := 0) hx hb dX0_sumOf_2 rfl ?_
  refine lv_istore (lv' := [(5, .int (0 : Int32)), (3, .long (0 : Int64)), (0, .ref (ar 17)), (1, .int (nI p1)), (2, .int (nI p2))]) hx hb dX0_sumOf_3 hl (by decide) rfl (fun ls hl => ?_)
  have hL5 : ∀ (k i5 : Nat) (w5 : Int64) (hi5 : i5 + k = 8) (hR : x_sumOf p1 p2 Z = x_sumOf_e5 (itR (x_sumOf_b5 p1 p2 Z) i5 k w5)), ∀ (H : Heap) (locs : List Loc) (ls : Array Slot), EW D A s.heap (WX x ar cs Z B Y) H locs → lv_has ls 6 [(0, .ref (ar 17)), (1, .int (nI p1)), (2, .int (nI p2)), (3, .long w5), (5, .int (nI i5))] → W p l e R s mid args below meth c H locs 0 0 Q (F0 mid 5 ls []) := by
    intro k
    induction k with
    | zero =>
      intro i5 w5 hi5 hR H locs ls hE hl
      have hie5 : i5 = 8 := by omega
      have hR : x_sumOf p1 p2 Z = w5 := hR
      refine lv_iload hx hb dX0_sumOf_5 (lv_at hl 4 rfl) ?_
      refine lv_bipush (v := 8) hx hb dX0_sumOf_7 rfl ?_
      refine n_geT (a := i5) (b := 8) (by omega) (by omega) hx hb dX0_sumOf_9 (tgt := 29) (by decide) ?_
      have hl := lv_sub (l' := [(0, .ref (ar 17)), (1, .int (nI p1)), (2, .int (nI p2)), (3, .long w5)]) hl [0, 1, 2, 3] rfl
      refine lv_lload_n hx hb dX0_sumOf_29 rfl (lv_at hl 3 rfl) ?_
      exact hret w5 () hR hE (Nat.le_refl 0) (Nat.le_refl 0) dX0_sumOf_30
    | succ k ih5 =>
      intro i5 w5 hi5 hR H locs ls hE hl
      have hlt5 : i5 < 8 := by omega
      have hB5 : x_sumOf_b5 p1 p2 Z i5 w5 = (w5 + (Z.2 17 (p1 + (p2 * i5)))) := rfl
      refine lv_iload hx hb dX0_sumOf_5 (lv_at hl 4 rfl) ?_
      refine lv_bipush (v := 8) hx hb dX0_sumOf_7 rfl ?_
      refine n_geF (a := i5) (b := 8) (by omega) (by omega) hx hb dX0_sumOf_9 (tgt := 29) (by decide) ?_
      refine lv_lload_n hx hb dX0_sumOf_12 rfl (lv_at hl 3 rfl) ?_
      refine lv_aload_n hx hb dX0_sumOf_13 rfl (lv_at hl 0 rfl) ?_
      refine lv_iload_n hx hb dX0_sumOf_14 rfl (lv_at hl 1 rfl) ?_
      refine lv_iload_n hx hb dX0_sumOf_15 rfl (lv_at hl 2 rfl) ?_
      refine lv_iload hx hb dX0_sumOf_16 (lv_at hl 4 rfl) ?_
      refine n_mul (a := p2) (b := i5) hx hb dX0_sumOf_18 ?_
      refine n_add (a := p1) (b := (p2 * i5)) hx hb dX0_sumOf_19 ?_
      refine xa_17 (n := (p1 + (p2 * i5))) (by have := Nat.mul_le_mul_left p2 (show i5 ≤ 7 by omega); omega) hx hb hK hE dX0_sumOf_20 ?_
      refine lv_ladd hx hb dX0_sumOf_21 ?_
      refine lv_lstore_n (lv' := [(3, .long (w5 + (Z.2 17 (p1 + (p2 * i5))))), (0, .ref (ar 17)), (1, .int (nI p1)), (2, .int (nI p2)), (5, .int (nI i5))]) hx hb dX0_sumOf_22 rfl hl (by decide) rfl (fun ls hl => ?_)
      refine n_inc (lv' := [(5, .int (nI (i5 + 1))), (3, .long (w5 + (Z.2 17 (p1 + (p2 * i5))))), (0, .ref (ar 17)), (1, .int (nI p1)), (2, .int (nI p2))]) hx hb dX0_sumOf_23 hl (k := 4) rfl (by decide) rfl (fun ls hl => ?_)
      refine lv_goto (tgt := 5) hx hb dX0_sumOf_26 (by decide) ?_
      exact ih5 (i5 + 1) (w5 + (Z.2 17 (p1 + (p2 * i5)))) (by omega) (hR.trans (congrArg (fun z => x_sumOf_e5 (itR (x_sumOf_b5 p1 p2 Z) (i5 + 1) k z)) hB5)) _ _ _ hE (lv_sub hl [2, 3, 4, 1, 0] rfl)
  exact hL5 8 0 (0 : Int64) (by omega) hR _ _ _ hE (lv_sub hl [2, 3, 4, 1, 0] rfl)
section C_x_sumOf
variable {p : Program} {l : Launch} {e : Env} {R : Room} {s : State} {mid : MethodId} {args : Array Value} {below : List Frame} {meth : Method} {c : Code} {H : Heap} {locs : List Loc} {cells slots : Nat} {Q : State → Prop} {cc : ByteArray} {pc : Nat} {ls : Array Slot} {rest : List Value} {D : va_G} {A : Nat → Prop} {x : Nat} {ar : Nat → Nat} {cs : Nat → ClassId} {B : BT} {Y : va_W} {Z : ZT} {nL r : Nat}
theorem call_x_sumOf (hx : p.tables.exec = Jvm.exec) (hb : c.code = cc) (hml : c.maxLocals = nL) (hown : s.vm.findClass RX0 = some mid.cls) (hts : ∀ w ∈ lw_all, w.before args s = true) (hK : KK D cs s) (hA : ∀ q : Nat, s.heap.size ≤ q → A q) (hE : EW D A s.heap (WX x ar cs Z B Y) H locs) (hls : ls.size = nL) (p1 : Nat) (p2 : Nat) (hn1 : p1 < 64) (hn2 : p2 < 9) (hidx : p1 + p2 * 7 < 64) (h1 : 1 ≤ R.frames) (h2 : 25 ≤ R.locals) (h3 : (rest.map fun v => v.category).sum ≤ 8) (hd : decode cc pc = .ok (.invokestatic 246, 3)) (hf : cells ≤ R.cells ∧ slots ≤ R.slots) (kk : ∀ (H1 : Heap) (locs1 : List Loc), EW D A s.heap (WX x ar cs Z B Y) H1 locs1 → W p l e R s mid args below meth c H1 locs1 cells slots Q (F0 mid (pc + 3) ls (.long (x_sumOf p1 p2 Z) :: rest))) : W p l e R s mid args below meth c H locs cells slots Q (F0 mid pc ls (.int (nI p2) :: .int (nI p1) :: .ref (ar 17) :: rest)) :=
  gCall_sl (As := [.ref (ar 17), .int (nI p1), .int (nI p2)]) (rest := rest) hx hb hml hown hts hK hA hE hls (met_x_sumOf l D cs x ar B Y Z H.size p1 p2 hn1 hn2 hidx) (va_cwS 3 hts (lw_S q656 q657 q84 q658) rfl rfl rfl (by decide +kernel) ⟨h1, h2⟩) rfl rfl h3 hd hf (fun v H1 locs1 hp hE => by subst hp; exact kk H1 locs1 hE)
end C_x_sumOf
def x_share_j69 (p1 : Nat) (i5 : Nat) (w5 : Int64 × ZT) (w69 : Int64) : Int64 × ZT := ((w5.1 + w69), sL w5.2 17 (8 * i5 + p1) w69)
def x_share_b5 (p1 : Nat) (i5 : Nat) (w5 : Int64 × ZT) : Int64 × ZT := x_share_j69 p1 i5 w5 (if w5.2.1 11 (8 * i5 + p1) = 0 then (0 : Int64) else (((((w5.2.1 11 (8 * i5 + p1)).toInt64) * ((w5.2.1 32 i5).toInt64)) * ((w5.2.1 32 p1).toInt64)) / (100000 : Int64)))
def x_share_b123 (p1 : Nat) (w5 : Int64 × ZT) (w118 : Int64) (w123 : Nat × ZT) : Bool × (Nat × ZT) := (if 8 ≤ w123.1 then (false, (w123.1, w123.2)) else (if w5.1 ≤ w118 then (false, (w123.1, w123.2)) else (true, ((w123.1 + 1), sL w123.2 17 (8 * w123.1 + p1) (((w123.2.2 17 (8 * w123.1 + p1)) * w118) / w5.1)))))
def x_share_e123 (w123 : Nat × ZT) : ZT := w123.2
def x_share_j118 (p1 : Nat) (w5 : Int64 × ZT) (w118 : Int64) : ZT := x_share_e123 (wlR (x_share_b123 p1 w5 w118) 9 (0, w5.2))
def x_share_e5 (p1 : Nat) (w5 : Int64 × ZT) : ZT := x_share_j118 p1 w5 (if w5.2.1 30 p1 = 0 then (0 : Int64) else (w5.2.1 32 p1).toInt64)
def x_share (p1 : Nat) (Z : ZT) : ZT := x_share_e5 p1 (itR (x_share_b5 p1) 0 8 ((0 : Int64), Z))
theorem wlR_inv {σ : Type} {f : σ → Bool × σ} {P : σ → Prop} (h : ∀ s, P s → P (f s).2) : ∀ (n : Nat) (s : σ), P s → P (wlR f n s) := by
  intro n
  induction n with
  | zero => intro s hs; exact hs
  | succ n ih =>
    intro s hs
    have h1 := h s hs
    show P (match f s with | (true, s') => wlR f n s' | (false, s') => s')
    generalize f s = v at h1
    obtain ⟨b, s'⟩ := v
    cases b
    · exact h1
    · exact ih s' h1
theorem share_fst (p : Nat) (Z : ZT) : (x_share p Z).1 = Z.1 := by
  unfold x_share
  have h1 : (itR (x_share_b5 p) 0 8 ((0 : Int64), Z)).2.1 = Z.1 := itR_ind (f := x_share_b5 p) (P := fun s : Int64 × ZT => s.2.1 = Z.1) (fun i s hs => hs) _ _ _ rfl
  generalize itR (x_share_b5 p) 0 8 ((0 : Int64), Z) = w at h1
  have h2 : ∀ v, (x_share_j118 p w v).1 = Z.1 := fun v => by
    unfold x_share_j118 x_share_e123
    refine wlR_inv (P := fun s : Nat × ZT => s.2.1 = Z.1) (fun s hs => ?_) _ _ h1
    unfold x_share_b123
    split
    · exact hs
    · split
      · exact hs
      · exact hs
  exact h2 _
set_option maxHeartbeats 4000000 in
set_option maxRecDepth 100000 in
theorem met_x_share (l : Launch) (D : va_G) (cs : Nat → ClassId) (x : Nat) (ar : Nat → Nat) (B : BT) (Y : va_W) (Z : ZT) (sz : Nat) (p1 : Nat) (hn1 : p1 < 8) (hX : XI Z) : Met l yX0_share (ws_ yX0_share cX0_share 7 none) ({ frames := 1, cells := 0, slots := 0, locals := 21 }) (va_Pc [.ref x, .int (nI p1)] (wSt D cs (WX x ar cs Z B Y) sz)) (cQv (fun (u : ZT) => x_share p1 Z = u) D (fun u => (WX x ar cs u B Y)) (WX x ar cs Z B Y) sz) 0 0 (va_A (WX x ar cs Z B Y) sz) := by
  refine gStart_v (C := RX0) rfl rfl (Nat.le_of_ble_eq_true rfl) ?_
  intro p e s mid args below meth c R Q A hx hb hml hown hts hK hA hRf hRl hRc hRs hnm hret hE ls hl
  have hRf : 1 ≤ R.frames := hRf
  have hRl : 21 ≤ R.locals := hRl
  have hl : lv_has ls 7 [(0, .ref x), (1, .int (nI p1))] := hl
  have hR : x_share p1 Z = (x_share_e5 p1 (itR (x_share_b5 p1) 0 8 ((0 : Int64), Z))) := rfl
  refine lv_lconst (v := 0) hx hb dX0_share_0 rfl ?_
  refine lv_lstore_n (lv' := [(2, .long (0 : Int64)), (0, .ref x), (1, .int (nI p1))]) hx hb dX0_share_1 rfl hl (by decide) rfl (fun ls hl => ?_)
  refine lv_iconst (v := 0) hx hb dX0_share_2 rfl ?_
  refine lv_istore (lv' := [(4, .int (0 : Int32)), (2, .long (0 : Int64)), (0, .ref x), (1, .int (nI p1))]) hx hb dX0_share_3 hl (by decide) rfl (fun ls hl => ?_)
  have hL5 : ∀ (k i5 : Nat) (w5 : Int64 × ZT) (hi5 : i5 + k = 8) (hz5 : w5.2.1 = Z.1) (hR : x_share p1 Z = x_share_e5 p1 (itR (x_share_b5 p1) i5 k w5)), ∀ (H : Heap) (locs : List Loc) (ls : Array Slot), EW D A s.heap (WX x ar cs w5.2 B Y) H locs → lv_has ls 7 [(0, .ref x), (1, .int (nI p1)), (2, .long w5.1), (4, .int (nI i5))] → W p l e R s mid args below meth c H locs 0 0 Q (F0 mid 5 ls []) := by
    intro k
    induction k with
    | zero =>
      intro i5 w5 hi5 hz5 hR H locs ls hE hl
      have hie5 : i5 = 8 := by omega
      have hR : x_share p1 Z = (x_share_j118 p1 w5 (if w5.2.1 30 p1 = 0 then (0 : Int64) else (w5.2.1 32 p1).toInt64)) := hR
      refine lv_iload hx hb dX0_share_5 (lv_at hl 3 rfl) ?_
      refine lv_bipush (v := 8) hx hb dX0_share_7 rfl ?_
      refine n_geT (a := i5) (b := 8) (by omega) (by omega) hx hb dX0_share_9 (tgt := 95) (by decide) ?_
      have hl := lv_sub (l' := [(0, .ref x), (1, .int (nI p1)), (2, .long w5.1)]) hl [0, 1, 2] rfl
      refine lv_aload_n hx hb dX0_share_95 rfl (lv_at hl 0 rfl) ?_
      refine xg_10 hx hb hts hown hK hE dX0_share_96 ?_
      refine lv_iload_n hx hb dX0_share_99 rfl (lv_at hl 1 rfl) ?_
      refine xa_10 (n := p1) (by omega) hx hb hK hE dX0_share_100 ?_
      have hJ118 : ∀ (w118 : Int64) (hw118 : 0 ≤ w118.toInt) (hR : x_share p1 Z = x_share_j118 p1 w5 w118), ∀ (H : Heap) (locs : List Loc) (ls : Array Slot), EW D A s.heap (WX x ar cs w5.2 B Y) H locs → lv_has ls 7 [(0, .ref x), (1, .int (nI p1)), (2, .long w5.1)] → W p l e R s mid args below meth c H locs 0 0 Q (F0 mid 118 ls [.long w118]) := by
        intro w118 hw118 hR H locs ls hE hl
        have hR : x_share p1 Z = (x_share_e123 (wlR (x_share_b123 p1 w5 w118) 9 (0, w5.2))) := hR
        refine lv_lstore (lv' := [(4, .long w118), (0, .ref x), (1, .int (nI p1)), (2, .long w5.1)]) hx hb dX0_share_118 hl (by decide) rfl (fun ls hl => ?_)
        refine lv_iconst (v := 0) hx hb dX0_share_120 rfl ?_
        refine lv_istore (lv' := [(6, .int (0 : Int32)), (4, .long w118), (0, .ref x), (1, .int (nI p1)), (2, .long w5.1)]) hx hb dX0_share_121 hl (by decide) rfl (fun ls hl => ?_)
        have hX123 : ∀ (w123 : Nat × ZT) (hb123 : w123.1 ≤ 8) (hR : x_share p1 Z = x_share_e123 w123), ∀ (H : Heap) (locs : List Loc) (ls : Array Slot), EW D A s.heap (WX x ar cs w123.2 B Y) H locs → lv_has ls 7 [] → W p l e R s mid args below meth c H locs 0 0 Q (F0 mid 170 ls []) := by
          intro w123 hb123 hR H locs ls hE hl
          have hR : x_share p1 Z = w123.2 := hR
          exact hret w123.2 hR hE (Nat.le_refl 0) (Nat.le_refl 0) dX0_share_170
        have hL123 : ∀ (n : Nat) (w123 : Nat × ZT) (hm123 : 8 - w123.1 < n) (hb123 : w123.1 ≤ 8) (hR : x_share p1 Z = x_share_e123 (wlR (x_share_b123 p1 w5 w118) n w123)), ∀ (H : Heap) (locs : List Loc) (ls : Array Slot), EW D A s.heap (WX x ar cs w123.2 B Y) H locs → lv_has ls 7 [(0, .ref x), (1, .int (nI p1)), (2, .long w5.1), (4, .long w118), (6, .int (nI w123.1))] → W p l e R s mid args below meth c H locs 0 0 Q (F0 mid 123 ls []) := by
          intro n
          induction n with
          | zero =>
            intro w123 hm123
            exact absurd hm123 (Nat.not_lt_zero _)
          | succ n ih123 =>
            intro w123 hm123 hb123 hR H locs ls hE hl
            have hB123 : x_share_b123 p1 w5 w118 w123 = (if 8 ≤ w123.1 then (false, (w123.1, w123.2)) else (if w5.1 ≤ w118 then (false, (w123.1, w123.2)) else (true, ((w123.1 + 1), sL w123.2 17 (8 * w123.1 + p1) (((w123.2.2 17 (8 * w123.1 + p1)) * w118) / w5.1))))) := rfl
            refine lv_iload hx hb dX0_share_123 (lv_at hl 4 rfl) ?_
            refine lv_bipush (v := 8) hx hb dX0_share_125 rfl ?_
            refine n_icmp_ge (a := w123.1) (b := 8) (tgt := 170) (by omega) (by omega) hx hb dX0_share_127 (by decide) (fun c127 => ?_) (fun c127 => ?_)
            · have hB123 : x_share_b123 p1 w5 w118 w123 = (false, (w123.1, w123.2)) := hB123.trans (congrArg (fun z => z) (if_pos c127))
              exact hX123 (w123.1, w123.2) (by exact hb123) (hR.trans (congrArg (fun z => x_share_e123 z) (wl_f hB123))) _ _ _ hE (lv_sub hl [] rfl)
            · have hB123 : x_share_b123 p1 w5 w118 w123 = (if w5.1 ≤ w118 then (false, (w123.1, w123.2)) else (true, ((w123.1 + 1), sL w123.2 17 (8 * w123.1 + p1) (((w123.2.2 17 (8 * w123.1 + p1)) * w118) / w5.1)))) := hB123.trans (congrArg (fun z => z) (if_neg c127))
              refine lv_lload_n hx hb dX0_share_130 rfl (lv_at hl 2 rfl) ?_
              refine lv_lload hx hb dX0_share_131 (lv_at hl 3 rfl) ?_
              refine l_le (tgt := 170) hx hb dX0_share_133 dX0_share_134 (by decide) (fun c133 => ?_) (fun c133 => ?_)
              · have hB123 : x_share_b123 p1 w5 w118 w123 = (false, (w123.1, w123.2)) := hB123.trans (congrArg (fun z => z) (if_pos c133))
                exact hX123 (w123.1, w123.2) (by exact hb123) (hR.trans (congrArg (fun z => x_share_e123 z) (wl_f hB123))) _ _ _ hE (lv_sub hl [] rfl)
              · have hB123 : x_share_b123 p1 w5 w118 w123 = (true, ((w123.1 + 1), sL w123.2 17 (8 * w123.1 + p1) (((w123.2.2 17 (8 * w123.1 + p1)) * w118) / w5.1))) := hB123.trans (congrArg (fun z => z) (if_neg c133))
                refine lv_aload_n hx hb dX0_share_137 rfl (lv_at hl 0 rfl) ?_
                refine xg_17 hx hb hts hown hK hE dX0_share_138 ?_
                refine lv_iload hx hb dX0_share_141 (lv_at hl 4 rfl) ?_
                refine lv_iload_n hx hb dX0_share_143 rfl (lv_at hl 1 rfl) ?_
                refine call_x_pair hx hb hml hown hts hK hA hE hl.1 w123.1 p1 (lz (show 1 ≤ 1 by decide) hRf) (lz (show 21 ≤ 21 by decide) hRl) (Nat.le_of_ble_eq_true rfl) dX0_share_144 ⟨Nat.zero_le _, Nat.zero_le _⟩ (fun H locs hE => ?_)
                refine lv_aload_n hx hb dX0_share_147 rfl (lv_at hl 0 rfl) ?_
                refine xg_17 hx hb hts hown hK hE dX0_share_148 ?_
                refine lv_iload hx hb dX0_share_151 (lv_at hl 4 rfl) ?_
                refine lv_iload_n hx hb dX0_share_153 rfl (lv_at hl 1 rfl) ?_
                refine call_x_pair hx hb hml hown hts hK hA hE hl.1 w123.1 p1 (lz (show 1 ≤ 1 by decide) hRf) (lz (show 21 ≤ 21 by decide) hRl) (Nat.le_of_ble_eq_true rfl) dX0_share_154 ⟨Nat.zero_le _, Nat.zero_le _⟩ (fun H locs hE => ?_)
                refine xa_17 (n := (8 * w123.1 + p1)) (by omega) hx hb hK hE dX0_share_157 ?_
                refine lv_lload hx hb dX0_share_158 (lv_at hl 3 rfl) ?_
                refine lv_lmul hx hb dX0_share_160 ?_
                refine lv_lload_n hx hb dX0_share_161 rfl (lv_at hl 2 rfl) ?_
                refine lv_ldiv hx hb dX0_share_162 (sumnz c133 hw118) ?_
                refine xs_17 (n := (8 * w123.1 + p1)) (by omega) hx hb hK hE dX0_share_163 (fun H locs hE => ?_)
                refine n_inc (lv' := [(6, .int (nI (w123.1 + 1))), (0, .ref x), (1, .int (nI p1)), (2, .long w5.1), (4, .long w118)]) hx hb dX0_share_164 hl (k := 4) rfl (by decide) rfl (fun ls hl => ?_)
                refine lv_goto (tgt := 123) hx hb dX0_share_167 (by decide) ?_
                exact ih123 ((w123.1 + 1), sL w123.2 17 (8 * w123.1 + p1) (((w123.2.2 17 (8 * w123.1 + p1)) * w118) / w5.1)) (by show 8 - (w123.1 + 1) < n; omega) (by show w123.1 + 1 ≤ 8; omega) (hR.trans (congrArg (fun z => x_share_e123 z) (wl_t hB123))) _ _ _ hE (lv_sub hl [1, 2, 3, 4, 0] rfl)
        exact hL123 9 (0, w5.2) (by show 8 - 0 < 9; decide) (by exact Nat.zero_le _) hR _ _ _ hE (lv_sub hl [2, 3, 4, 1, 0] rfl)
      refine xnw_be (b := p1) (tgt := 108) hx hb dX0_share_101 (by decide) (fun c101 => ?_) (fun c101 => ?_)
      · have hR : x_share p1 Z = x_share_j118 p1 w5 ((w5.2.1 32 p1).toInt64) := hR.trans (congrArg (fun z => x_share_j118 p1 w5 z) (if_neg c101))
        refine lv_aload_n hx hb dX0_share_108 rfl (lv_at hl 0 rfl) ?_
        refine xg_10 hx hb hts hown hK hE dX0_share_109 ?_
        refine lv_iload_n hx hb dX0_share_112 rfl (lv_at hl 1 rfl) ?_
        refine xa_10 (n := p1) (by omega) hx hb hK hE dX0_share_113 ?_
        refine xbg_32 (b := p1) (by omega) (by assumption) hx hb hts hown hK hE dX0_share_114 ?_
        refine lv_i2l hx hb dX0_share_117 rfl ?_
        exact hJ118 ((w5.2.1 32 p1).toInt64)  (by first | decide | (rw [Int32.toInt_toInt64, hz5]; exact (hX.1 _ (by omega)).1)) hR _ _ _ hE (lv_sub hl [0, 1, 2] rfl)
      · have hR : x_share p1 Z = x_share_j118 p1 w5 (0 : Int64) := hR.trans (congrArg (fun z => x_share_j118 p1 w5 z) (if_pos c101))
        refine lv_lconst (v := 0) hx hb dX0_share_104 rfl ?_
        refine lv_goto (tgt := 118) hx hb dX0_share_105 (by decide) ?_
        exact hJ118 (0 : Int64)  (by first | decide | (rw [Int32.toInt_toInt64, hz5]; exact (hX.1 _ (by omega)).1)) hR _ _ _ hE (lv_sub hl [0, 1, 2] rfl)
    | succ k ih5 =>
      intro i5 w5 hi5 hz5 hR H locs ls hE hl
      have hlt5 : i5 < 8 := by omega
      have hB5 : x_share_b5 p1 i5 w5 = x_share_j69 p1 i5 w5 (if w5.2.1 11 (8 * i5 + p1) = 0 then (0 : Int64) else (((((w5.2.1 11 (8 * i5 + p1)).toInt64) * ((w5.2.1 32 i5).toInt64)) * ((w5.2.1 32 p1).toInt64)) / (100000 : Int64))) := rfl
      refine lv_iload hx hb dX0_share_5 (lv_at hl 3 rfl) ?_
      refine lv_bipush (v := 8) hx hb dX0_share_7 rfl ?_
      refine n_geF (a := i5) (b := 8) (by omega) (by omega) hx hb dX0_share_9 (tgt := 95) (by decide) ?_
      refine lv_aload_n hx hb dX0_share_12 rfl (lv_at hl 0 rfl) ?_
      refine xg_11 hx hb hts hown hK hE dX0_share_13 ?_
      refine lv_iload hx hb dX0_share_16 (lv_at hl 3 rfl) ?_
      refine lv_iload_n hx hb dX0_share_18 rfl (lv_at hl 1 rfl) ?_
      refine call_x_pair hx hb hml hown hts hK hA hE hl.1 i5 p1 (lz (show 1 ≤ 1 by decide) hRf) (lz (show 21 ≤ 21 by decide) hRl) (Nat.le_of_ble_eq_true rfl) dX0_share_19 ⟨Nat.zero_le _, Nat.zero_le _⟩ (fun H locs hE => ?_)
      refine xa_11 (n := (8 * i5 + p1)) (by omega) hx hb hK hE dX0_share_22 ?_
      have hJ69 : ∀ (w69 : Int64) (hB5 : x_share_b5 p1 i5 w5 = x_share_j69 p1 i5 w5 w69), ∀ (H : Heap) (locs : List Loc) (ls : Array Slot), EW D A s.heap (WX x ar cs w5.2 B Y) H locs → lv_has ls 7 [(0, .ref x), (1, .int (nI p1)), (2, .long w5.1), (4, .int (nI i5))] → W p l e R s mid args below meth c H locs 0 0 Q (F0 mid 69 ls [.long w69]) := by
        intro w69 hB5 H locs ls hE hl
        have hB5 : x_share_b5 p1 i5 w5 = ((w5.1 + w69), sL w5.2 17 (8 * i5 + p1) w69) := hB5
        refine lv_lstore (lv' := [(5, .long w69), (0, .ref x), (1, .int (nI p1)), (2, .long w5.1), (4, .int (nI i5))]) hx hb dX0_share_69 hl (by decide) rfl (fun ls hl => ?_)
        refine lv_aload_n hx hb dX0_share_71 rfl (lv_at hl 1 rfl) ?_
        refine xg_17 hx hb hts hown hK hE dX0_share_72 ?_
        refine lv_iload hx hb dX0_share_75 (lv_at hl 4 rfl) ?_
        refine lv_iload_n hx hb dX0_share_77 rfl (lv_at hl 2 rfl) ?_
        refine call_x_pair hx hb hml hown hts hK hA hE hl.1 i5 p1 (lz (show 1 ≤ 1 by decide) hRf) (lz (show 21 ≤ 21 by decide) hRl) (Nat.le_of_ble_eq_true rfl) dX0_share_78 ⟨Nat.zero_le _, Nat.zero_le _⟩ (fun H locs hE => ?_)
        refine lv_lload hx hb dX0_share_81 (lv_at hl 0 rfl) ?_
        refine xs_17 (n := (8 * i5 + p1)) (by omega) hx hb hK hE dX0_share_83 (fun H locs hE => ?_)
        refine lv_lload_n hx hb dX0_share_84 rfl (lv_at hl 3 rfl) ?_
        refine lv_lload hx hb dX0_share_85 (lv_at hl 0 rfl) ?_
        refine lv_ladd hx hb dX0_share_87 ?_
        refine lv_lstore_n (lv' := [(2, .long (w5.1 + w69)), (5, .long w69), (0, .ref x), (1, .int (nI p1)), (4, .int (nI i5))]) hx hb dX0_share_88 rfl hl (by decide) rfl (fun ls hl => ?_)
        refine n_inc (lv' := [(4, .int (nI (i5 + 1))), (2, .long (w5.1 + w69)), (5, .long w69), (0, .ref x), (1, .int (nI p1))]) hx hb dX0_share_89 hl (k := 4) rfl (by decide) rfl (fun ls hl => ?_)
        refine lv_goto (tgt := 5) hx hb dX0_share_92 (by decide) ?_
        exact ih5 (i5 + 1) ((w5.1 + w69), sL w5.2 17 (8 * i5 + p1) w69) (by omega) (by exact hz5) (hR.trans (congrArg (fun z => x_share_e5 p1 (itR (x_share_b5 p1) (i5 + 1) k z)) hB5)) _ _ _ hE (lv_sub hl [3, 4, 1, 0] rfl)
      refine lv_if_ne (tgt := 30) hx hb dX0_share_23 (by decide) (fun c23 => ?_) (fun c23 => ?_)
      · have hB5 : x_share_b5 p1 i5 w5 = x_share_j69 p1 i5 w5 (((((w5.2.1 11 (8 * i5 + p1)).toInt64) * ((w5.2.1 32 i5).toInt64)) * ((w5.2.1 32 p1).toInt64)) / (100000 : Int64)) := hB5.trans (congrArg (fun z => x_share_j69 p1 i5 w5 z) (if_neg c23))
        refine lv_aload_n hx hb dX0_share_30 rfl (lv_at hl 0 rfl) ?_
        refine xg_11 hx hb hts hown hK hE dX0_share_31 ?_
        refine lv_iload hx hb dX0_share_34 (lv_at hl 3 rfl) ?_
        refine lv_iload_n hx hb dX0_share_36 rfl (lv_at hl 1 rfl) ?_
        refine call_x_pair hx hb hml hown hts hK hA hE hl.1 i5 p1 (lz (show 1 ≤ 1 by decide) hRf) (lz (show 21 ≤ 21 by decide) hRl) (Nat.le_of_ble_eq_true rfl) dX0_share_37 ⟨Nat.zero_le _, Nat.zero_le _⟩ (fun H locs hE => ?_)
        refine xa_11 (n := (8 * i5 + p1)) (by omega) hx hb hK hE dX0_share_40 ?_
        refine lv_i2l hx hb dX0_share_41 rfl ?_
        refine lv_aload_n hx hb dX0_share_42 rfl (lv_at hl 0 rfl) ?_
        refine xg_10 hx hb hts hown hK hE dX0_share_43 ?_
        refine lv_iload hx hb dX0_share_46 (lv_at hl 3 rfl) ?_
        refine xa_10 (n := i5) (by omega) hx hb hK hE dX0_share_48 ?_
        refine xbg_32 (b := i5) (by omega) (by rw [hz5]; exact (hX.2.2.2 i5 p1 (by omega) (by omega) (by rw [← hz5]; exact c23)).1) hx hb hts hown hK hE dX0_share_49 ?_
        refine lv_i2l hx hb dX0_share_52 rfl ?_
        refine lv_lmul hx hb dX0_share_53 ?_
        refine lv_aload_n hx hb dX0_share_54 rfl (lv_at hl 0 rfl) ?_
        refine xg_10 hx hb hts hown hK hE dX0_share_55 ?_
        refine lv_iload_n hx hb dX0_share_58 rfl (lv_at hl 1 rfl) ?_
        refine xa_10 (n := p1) (by omega) hx hb hK hE dX0_share_59 ?_
        refine xbg_32 (b := p1) (by omega) (by rw [hz5]; exact (hX.2.2.2 i5 p1 (by omega) (by omega) (by rw [← hz5]; exact c23)).2) hx hb hts hown hK hE dX0_share_60 ?_
        refine lv_i2l hx hb dX0_share_63 rfl ?_
        refine lv_lmul hx hb dX0_share_64 ?_
        refine lv_ldc2 (v := 100000) hx hb hown (hts _ q655) dX0_share_65 ?_
        refine lv_ldiv hx hb dX0_share_68 (by decide) ?_
        exact hJ69 (((((w5.2.1 11 (8 * i5 + p1)).toInt64) * ((w5.2.1 32 i5).toInt64)) * ((w5.2.1 32 p1).toInt64)) / (100000 : Int64))  hB5 _ _ _ hE (lv_sub hl [0, 1, 2, 3] rfl)
      · have hB5 : x_share_b5 p1 i5 w5 = x_share_j69 p1 i5 w5 (0 : Int64) := hB5.trans (congrArg (fun z => x_share_j69 p1 i5 w5 z) (if_pos c23))
        refine lv_lconst (v := 0) hx hb dX0_share_26 rfl ?_
        refine lv_goto (tgt := 69) hx hb dX0_share_27 (by decide) ?_
        exact hJ69 (0 : Int64)  hB5 _ _ _ hE (lv_sub hl [0, 1, 2, 3] rfl)
  exact hL5 8 0 ((0 : Int64), Z) (by omega) (by exact rfl) hR _ _ _ hE (lv_sub hl [2, 3, 1, 0] rfl)
section C_x_share
variable {p : Program} {l : Launch} {e : Env} {R : Room} {s : State} {mid : MethodId} {args : Array Value} {below : List Frame} {meth : Method} {c : Code} {H : Heap} {locs : List Loc} {cells slots : Nat} {Q : State → Prop} {cc : ByteArray} {pc : Nat} {ls : Array Slot} {rest : List Value} {D : va_G} {A : Nat → Prop} {x : Nat} {ar : Nat → Nat} {cs : Nat → ClassId} {B : BT} {Y : va_W} {Z : ZT} {nL r : Nat}
theorem call_x_share (hx : p.tables.exec = Jvm.exec) (hb : c.code = cc) (hml : c.maxLocals = nL) (hown : s.vm.findClass RX0 = some mid.cls) (hts : ∀ w ∈ lw_all, w.before args s = true) (hK : KK D cs s) (hA : ∀ q : Nat, s.heap.size ≤ q → A q) (hE : EW D A s.heap (WX x ar cs Z B Y) H locs) (hls : ls.size = nL) (p1 : Nat) (hn1 : p1 < 8) (hX : XI Z) (h1 : 2 ≤ R.frames) (h2 : 47 ≤ R.locals) (h3 : (rest.map fun v => v.category).sum ≤ 8) (hd : decode cc pc = .ok (.invokevirtual 243, 3)) (hf : cells ≤ R.cells ∧ slots ≤ R.slots) (kk : ∀ (H1 : Heap) (locs1 : List Loc), EW D A s.heap (WX x ar cs (x_share p1 Z) B Y) H1 locs1 → W p l e R s mid args below meth c H1 locs1 cells slots Q (F0 mid (pc + 3) ls (rest))) : W p l e R s mid args below meth c H locs cells slots Q (F0 mid pc ls (.int (nI p1) :: .ref x :: rest)) := 
  gCall_v (As := [.int (nI p1)]) (rest := rest) (q0 := 0) (ci := 0) (fs := XF ar Z) (T' := TX0) (N' := 29) hx hb hml hown hts hK hA hE hls (met_x_share l D cs x ar B Y Z H.size p1 hn1 hX) (cwV 1 hts (lw_V q651 q653 qs15 q84 q654) rfl rfl rfl (by decide +kernel) ⟨h1, h2⟩) rfl rfl rfl rfl h3 hd hf (fun u H1 locs1 hp _ hE => by subst hp; exact kk H1 locs1 hE)
end C_x_share
def x_week_c10 (wc10 : ZT) : ZT := wc10
def x_week_b2 (i2 : Nat) (w2 : ZT) : ZT := x_week_c10 (x_share i2 w2)
def x_week_j90 (w28 : Int32 × Int64 × Int32) (w90 : Int32 × Int64) : Bool × (Int32 × Int64 × Int32) := (true, (w90.1, w90.2, (w28.2.2 + (-1))))
def x_week_j62 (w2 : ZT) (w28 : Int32 × Int64 × Int32) (w62 : Int32) : Int32 × Int64 := (w62, (w28.2.1 + (v_spills (ix w28.2.2) (x_sumOf (8 * (ix w28.2.2) + 0) 1 w2) w2)))
def x_week_b28 (w2 : ZT) (w28 : Int32 × Int64 × Int32) : Bool × (Int32 × Int64 × Int32) := (if w28.2.2 < 0 then (false, (w28.1, w28.2.1, w28.2.2)) else x_week_j90 w28 (if w2.1 30 (ix w28.2.2) = 0 then (w28.1, w28.2.1) else x_week_j62 w2 w28 (if (v_kind (ix w28.2.2) w2) = 0 then nI (ix w28.2.2) else w28.1)))
def x_week_j285 (w285 : ZT) : ZT := w285
def x_week_j281 (i104 : Nat) (w104 : ZT) (wv206 : Int32) (w281 : Int32) : ZT := sI (sI (sI (sI w104 19 i104 (0 : Int32)) 19 i104 (x_minI wv206 (w104.1 33 i104))) 18 i104 (wv206 - ((sI (sI w104 19 i104 (0 : Int32)) 19 i104 (x_minI wv206 (w104.1 33 i104))).1 19 i104))) 20 0 ((w104.1 20 0) ||| w281)
def x_week_v206 (i104 : Nat) (w104 : ZT) (wv206 : Int32) : ZT := x_week_j281 i104 w104 wv206 (if (sI (sI (sI w104 19 i104 (0 : Int32)) 19 i104 (x_minI wv206 (w104.1 33 i104))) 18 i104 (wv206 - ((sI (sI w104 19 i104 (0 : Int32)) 19 i104 (x_minI wv206 (w104.1 33 i104))).1 19 i104))).1 18 i104 = 0 then (if w104.1 32 i104 ≤ 0 then (0 : Int32) else ((1 : Int32) <<< ((nI i104) &&& 31))) else (0 : Int32))
def x_week_v179 (i104 : Nat) (w104 : ZT) (wv179 : Int64) : ZT := x_week_v206 i104 w104 ((x_maxL (0 : Int64) (x_minL (100000 : Int64) (((w104.1 32 i104).toInt64) + wv179))).toInt32)
def x_week_j176 (i104 : Nat) (w104 : ZT) (w176 : Int64) : ZT := x_week_v179 i104 w104 ((((v_grows i104 (x_sumOf (8 * i104 + 0) 1 (sI w104 19 i104 (0 : Int32))) (sI w104 19 i104 (0 : Int32))) - (x_sumOf i104 8 (sI w104 19 i104 (0 : Int32)))) + w176))
def x_week_b104 (w28 : Int32 × Int64 × Int32) (i104 : Nat) (w104 : ZT) : ZT := x_week_j285 (if w104.1 30 i104 = 0 then sI w104 19 i104 (0 : Int32) else x_week_j176 i104 w104 (if nI i104 = w28.1 then w28.2.1 else (0 : Int64)))
def x_week_j328 (w328 : ZT) : ZT := w328
def x_week_b294 (i294 : Nat) (w294 : ZT) : ZT := x_week_j328 (if w294.1 30 i294 = 0 then w294 else sI w294 32 i294 (w294.1 18 i294))
def x_week_e294 (w294 : ZT) : ZT := w294
def x_week_e104 (w104 : ZT) : ZT := x_week_e294 (itR x_week_b294 0 8 w104)
def x_week_e28 (w2 : ZT) (w28 : Int32 × Int64 × Int32) : ZT := x_week_e104 (itR (x_week_b104 w28) 0 8 (sI w2 20 0 (0 : Int32)))
def x_week_e2 (w2 : ZT) : ZT := x_week_e28 w2 (wlR (x_week_b28 w2) 9 ((-9 : Int32), (0 : Int64), (7 : Int32)))
def x_week (Z : ZT) : ZT := x_week_e2 (itR x_week_b2 0 8 Z)
set_option maxHeartbeats 4000000 in
set_option maxRecDepth 100000 in
theorem met_x_week (l : Launch) (D : va_G) (cs : Nat → ClassId) (x : Nat) (ar : Nat → Nat) (B : BT) (Y : va_W) (Z : ZT) (sz : Nat) (hX : XI Z) : Met l yX0_week (ws_ yX0_week cX0_week 8 none) ({ frames := 3, cells := 0, slots := 0, locals := 62 }) (va_Pc [.ref x] (wSt D cs (WX x ar cs Z B Y) sz)) (cQv (fun (u : ZT) => x_week Z = u) D (fun u => (WX x ar cs u B Y)) (WX x ar cs Z B Y) sz) 0 0 (va_A (WX x ar cs Z B Y) sz) := by
  refine gStart_v (C := RX0) rfl rfl (Nat.le_of_ble_eq_true rfl) ?_
  intro p e s mid args below meth c R Q A hx hb hml hown hts hK hA hRf hRl hRc hRs hnm hret hE ls hl
  have hRf : 3 ≤ R.frames := hRf
  have hRl : 62 ≤ R.locals := hRl
  have hl : lv_has ls 8 [(0, .ref x)] := hl
  have hR : x_week Z = (x_week_e2 (itR x_week_b2 0 8 Z)) := rfl
  refine lv_iconst (v := 0) hx hb dX0_week_0 rfl ?_
  refine lv_istore_n (lv' := [(1, .int (0 : Int32)), (0, .ref x)]) hx hb dX0_week_1 rfl hl (by decide) rfl (fun ls hl => ?_)
  have hL2 : ∀ (k i2 : Nat) (w2 : ZT) (hi2 : i2 + k = 8) (hX2 : XI w2) (hR : x_week Z = x_week_e2 (itR x_week_b2 i2 k w2)), ∀ (H : Heap) (locs : List Loc) (ls : Array Slot), EW D A s.heap (WX x ar cs w2 B Y) H locs → lv_has ls 8 [(0, .ref x), (1, .int (nI i2))] → W p l e R s mid args below meth c H locs 0 0 Q (F0 mid 2 ls []) := by
    intro k
    induction k with
    | zero =>
      intro i2 w2 hi2 hX2 hR H locs ls hE hl
      have hie2 : i2 = 8 := by omega
      have hR : x_week Z = (x_week_e28 w2 (wlR (x_week_b28 w2) 9 ((-9 : Int32), (0 : Int64), (7 : Int32)))) := hR
      refine lv_iload_n hx hb dX0_week_2 rfl (lv_at hl 1 rfl) ?_
      refine lv_bipush (v := 8) hx hb dX0_week_3 rfl ?_
      refine n_geT (a := i2) (b := 8) (by omega) (by omega) hx hb dX0_week_5 (tgt := 19) (by decide) ?_
      have hl := lv_sub (l' := [(0, .ref x)]) hl [0] rfl
      refine lv_bipush (v := -9) hx hb dX0_week_19 rfl ?_
      refine lv_istore_n (lv' := [(1, .int (-9 : Int32)), (0, .ref x)]) hx hb dX0_week_21 rfl hl (by decide) rfl (fun ls hl => ?_)
      refine lv_lconst (v := 0) hx hb dX0_week_22 rfl ?_
      refine lv_lstore_n (lv' := [(2, .long (0 : Int64)), (1, .int (-9 : Int32)), (0, .ref x)]) hx hb dX0_week_23 rfl hl (by decide) rfl (fun ls hl => ?_)
      refine lv_bipush (v := 7) hx hb dX0_week_24 rfl ?_
      refine lv_istore (lv' := [(4, .int (7 : Int32)), (2, .long (0 : Int64)), (1, .int (-9 : Int32)), (0, .ref x)]) hx hb dX0_week_26 hl (by decide) rfl (fun ls hl => ?_)
      have hX28 : ∀ (w28 : Int32 × Int64 × Int32) (hb28 : -1 ≤ (w28.2.2).toInt ∧ (w28.2.2).toInt ≤ 7) (hR : x_week Z = x_week_e28 w2 w28), ∀ (H : Heap) (locs : List Loc) (ls : Array Slot), EW D A s.heap (WX x ar cs w2 B Y) H locs → lv_has ls 8 [(0, .ref x), (1, .int w28.1), (2, .long w28.2.1)] → W p l e R s mid args below meth c H locs 0 0 Q (F0 mid 96 ls []) := by
        intro w28 hb28 hR H locs ls hE hl
        have hR : x_week Z = (x_week_e104 (itR (x_week_b104 w28) 0 8 (sI w2 20 0 (0 : Int32)))) := hR
        refine lv_aload_n hx hb dX0_week_96 rfl (lv_at hl 0 rfl) ?_
        refine lv_iconst (v := 0) hx hb dX0_week_97 rfl ?_
        refine xp_20 hx hb hts hown hK hE dX0_week_98 (fun H locs hE => ?_)
        refine lv_iconst (v := 0) hx hb dX0_week_101 rfl ?_
        refine lv_istore (lv' := [(4, .int (0 : Int32)), (0, .ref x), (1, .int w28.1), (2, .long w28.2.1)]) hx hb dX0_week_102 hl (by decide) rfl (fun ls hl => ?_)
        have hL104 : ∀ (k i104 : Nat) (w104 : ZT) (hi104 : i104 + k = 8) (hX104 : XI w104) (hR : x_week Z = x_week_e104 (itR (x_week_b104 w28) i104 k w104)), ∀ (H : Heap) (locs : List Loc) (ls : Array Slot), EW D A s.heap (WX x ar cs w104 B Y) H locs → lv_has ls 8 [(0, .ref x), (1, .int w28.1), (2, .long w28.2.1), (4, .int (nI i104))] → W p l e R s mid args below meth c H locs 0 0 Q (F0 mid 104 ls []) := by
          intro k
          induction k with
          | zero =>
            intro i104 w104 hi104 hX104 hR H locs ls hE hl
            have hie104 : i104 = 8 := by omega
            have hR : x_week Z = (x_week_e294 (itR x_week_b294 0 8 w104)) := hR
            refine lv_iload hx hb dX0_week_104 (lv_at hl 3 rfl) ?_
            refine lv_bipush (v := 8) hx hb dX0_week_106 rfl ?_
            refine n_geT (a := i104) (b := 8) (by omega) (by omega) hx hb dX0_week_108 (tgt := 291) (by decide) ?_
            have hl := lv_sub (l' := [(0, .ref x), (1, .int w28.1), (2, .long w28.2.1)]) hl [0, 1, 2] rfl
            refine lv_iconst (v := 0) hx hb dX0_week_291 rfl ?_
            refine lv_istore (lv' := [(4, .int (0 : Int32)), (0, .ref x), (1, .int w28.1), (2, .long w28.2.1)]) hx hb dX0_week_292 hl (by decide) rfl (fun ls hl => ?_)
            have hL294 : ∀ (k i294 : Nat) (w294 : ZT) (hi294 : i294 + k = 8) (hR : x_week Z = x_week_e294 (itR x_week_b294 i294 k w294)), ∀ (H : Heap) (locs : List Loc) (ls : Array Slot), EW D A s.heap (WX x ar cs w294 B Y) H locs → lv_has ls 8 [(0, .ref x), (4, .int (nI i294))] → W p l e R s mid args below meth c H locs 0 0 Q (F0 mid 294 ls []) := by
              intro k
              induction k with
              | zero =>
                intro i294 w294 hi294 hR H locs ls hE hl
                have hie294 : i294 = 8 := by omega
                have hR : x_week Z = w294 := hR
                refine lv_iload hx hb dX0_week_294 (lv_at hl 1 rfl) ?_
                refine lv_bipush (v := 8) hx hb dX0_week_296 rfl ?_
                refine n_geT (a := i294) (b := 8) (by omega) (by omega) hx hb dX0_week_298 (tgt := 334) (by decide) ?_
                have hl := lv_sub (l' := [(0, .ref x)]) hl [0] rfl
                exact hret w294 hR hE (Nat.le_refl 0) (Nat.le_refl 0) dX0_week_334
              | succ k ih294 =>
                intro i294 w294 hi294 hR H locs ls hE hl
                have hlt294 : i294 < 8 := by omega
                have hB294 : x_week_b294 i294 w294 = x_week_j328 (if w294.1 30 i294 = 0 then w294 else sI w294 32 i294 (w294.1 18 i294)) := rfl
                refine lv_iload hx hb dX0_week_294 (lv_at hl 1 rfl) ?_
                refine lv_bipush (v := 8) hx hb dX0_week_296 rfl ?_
                refine n_geF (a := i294) (b := 8) (by omega) (by omega) hx hb dX0_week_298 (tgt := 334) (by decide) ?_
                refine lv_aload_n hx hb dX0_week_301 rfl (lv_at hl 0 rfl) ?_
                refine xg_10 hx hb hts hown hK hE dX0_week_302 ?_
                refine lv_iload hx hb dX0_week_305 (lv_at hl 1 rfl) ?_
                refine xa_10 (n := i294) (by omega) hx hb hK hE dX0_week_307 ?_
                have hJ328 : ∀ (w328 : ZT) (hB294 : x_week_b294 i294 w294 = x_week_j328 w328), ∀ (H : Heap) (locs : List Loc) (ls : Array Slot), EW D A s.heap (WX x ar cs w328 B Y) H locs → lv_has ls 8 [(0, .ref x), (4, .int (nI i294))] → W p l e R s mid args below meth c H locs 0 0 Q (F0 mid 328 ls []) := by
                  intro w328 hB294 H locs ls hE hl
                  have hB294 : x_week_b294 i294 w294 = w328 := hB294
                  refine n_inc (lv' := [(4, .int (nI (i294 + 1))), (0, .ref x)]) hx hb dX0_week_328 hl (k := 1) rfl (by decide) rfl (fun ls hl => ?_)
                  refine lv_goto (tgt := 294) hx hb dX0_week_331 (by decide) ?_
                  exact ih294 (i294 + 1) w328 (by omega) (hR.trans (congrArg (fun z => x_week_e294 (itR x_week_b294 (i294 + 1) k z)) hB294)) _ _ _ hE (lv_sub hl [1, 0] rfl)
                refine xnn_be (b := i294) (tgt := 328) hx hb dX0_week_308 (by decide) (fun c308 => ?_) (fun c308 => ?_)
                · have hB294 : x_week_b294 i294 w294 = x_week_j328 w294 := hB294.trans (congrArg (fun z => x_week_j328 z) (if_pos c308))
                  exact hJ328 w294  hB294 _ _ _ hE (lv_sub hl [0, 1] rfl)
                · have hB294 : x_week_b294 i294 w294 = x_week_j328 (sI w294 32 i294 (w294.1 18 i294)) := hB294.trans (congrArg (fun z => x_week_j328 z) (if_neg c308))
                  refine lv_aload_n hx hb dX0_week_311 rfl (lv_at hl 0 rfl) ?_
                  refine xg_10 hx hb hts hown hK hE dX0_week_312 ?_
                  refine lv_iload hx hb dX0_week_315 (lv_at hl 1 rfl) ?_
                  refine xa_10 (n := i294) (by omega) hx hb hK hE dX0_week_317 ?_
                  refine lv_aload_n hx hb dX0_week_318 rfl (lv_at hl 0 rfl) ?_
                  refine xg_18 hx hb hts hown hK hE dX0_week_319 ?_
                  refine lv_iload hx hb dX0_week_322 (lv_at hl 1 rfl) ?_
                  refine xa_18 (n := i294) (by omega) hx hb hK hE dX0_week_324 ?_
                  refine xbp_32 (b := i294) (by omega) (by assumption) hx hb hts hown hK hE dX0_week_325 (fun H locs hE => ?_)
                  exact hJ328 (sI w294 32 i294 (w294.1 18 i294))  hB294 _ _ _ hE (lv_sub hl [0, 1] rfl)
            exact hL294 8 0 w104 (by omega) hR _ _ _ hE (lv_sub hl [1, 0] rfl)
          | succ k ih104 =>
            intro i104 w104 hi104 hX104 hR H locs ls hE hl
            have hlt104 : i104 < 8 := by omega
            have hB104 : x_week_b104 w28 i104 w104 = x_week_j285 (if w104.1 30 i104 = 0 then sI w104 19 i104 (0 : Int32) else x_week_j176 i104 w104 (if nI i104 = w28.1 then w28.2.1 else (0 : Int64))) := rfl
            refine lv_iload hx hb dX0_week_104 (lv_at hl 3 rfl) ?_
            refine lv_bipush (v := 8) hx hb dX0_week_106 rfl ?_
            refine n_geF (a := i104) (b := 8) (by omega) (by omega) hx hb dX0_week_108 (tgt := 291) (by decide) ?_
            refine lv_aload_n hx hb dX0_week_111 rfl (lv_at hl 0 rfl) ?_
            refine xg_19 hx hb hts hown hK hE dX0_week_112 ?_
            refine lv_iload hx hb dX0_week_115 (lv_at hl 3 rfl) ?_
            refine lv_iconst (v := 0) hx hb dX0_week_117 rfl ?_
            refine xs_19 (n := i104) (by omega) hx hb hK hE dX0_week_118 (fun H locs hE => ?_)
            refine lv_aload_n hx hb dX0_week_119 rfl (lv_at hl 0 rfl) ?_
            refine xg_10 hx hb hts hown hK hE dX0_week_120 ?_
            refine lv_iload hx hb dX0_week_123 (lv_at hl 3 rfl) ?_
            refine xa_10 (n := i104) (by omega) hx hb hK hE dX0_week_125 ?_
            have hJ285 : ∀ (w285 : ZT) (hw285 : XI w285) (hB104 : x_week_b104 w28 i104 w104 = x_week_j285 w285), ∀ (H : Heap) (locs : List Loc) (ls : Array Slot), EW D A s.heap (WX x ar cs w285 B Y) H locs → lv_has ls 8 [(0, .ref x), (1, .int w28.1), (2, .long w28.2.1), (4, .int (nI i104))] → W p l e R s mid args below meth c H locs 0 0 Q (F0 mid 285 ls []) := by
              intro w285 hw285 hB104 H locs ls hE hl
              have hB104 : x_week_b104 w28 i104 w104 = w285 := hB104
              refine n_inc (lv' := [(4, .int (nI (i104 + 1))), (0, .ref x), (1, .int w28.1), (2, .long w28.2.1)]) hx hb dX0_week_285 hl (k := 3) rfl (by decide) rfl (fun ls hl => ?_)
              refine lv_goto (tgt := 104) hx hb dX0_week_288 (by decide) ?_
              exact ih104 (i104 + 1) w285 (by omega) (by exact hw285) (hR.trans (congrArg (fun z => x_week_e104 (itR (x_week_b104 w28) (i104 + 1) k z)) hB104)) _ _ _ hE (lv_sub hl [1, 2, 3, 0] rfl)
            refine xnn_be (b := i104) (tgt := 285) hx hb dX0_week_126 (by decide) (fun c126 => ?_) (fun c126 => ?_)
            · have hB104 : x_week_b104 w28 i104 w104 = x_week_j285 (sI w104 19 i104 (0 : Int32)) := hB104.trans (congrArg (fun z => x_week_j285 z) (if_pos c126))
              exact hJ285 (sI w104 19 i104 (0 : Int32))  (by first | exact hX104 | (subst hewm245; exact hX104) | (subst hewm245 hewm228; exact hX104)) hB104 _ _ _ hE (lv_sub hl [0, 1, 2, 3] rfl)
            · have hB104 : x_week_b104 w28 i104 w104 = x_week_j285 (x_week_j176 i104 w104 (if nI i104 = w28.1 then w28.2.1 else (0 : Int64))) := hB104.trans (congrArg (fun z => x_week_j285 z) (if_neg c126))
              refine lv_aload_n hx hb dX0_week_129 rfl (lv_at hl 0 rfl) ?_
              refine xg_10 hx hb hts hown hK hE dX0_week_130 ?_
              refine lv_iload hx hb dX0_week_133 (lv_at hl 3 rfl) ?_
              refine xa_10 (n := i104) (by omega) hx hb hK hE dX0_week_135 ?_
              refine lv_aload_n hx hb dX0_week_136 rfl (lv_at hl 0 rfl) ?_
              refine xg_17 hx hb hts hown hK hE dX0_week_137 ?_
              refine lv_iload hx hb dX0_week_140 (lv_at hl 3 rfl) ?_
              refine lv_iconst (v := 0) hx hb dX0_week_142 rfl ?_
              refine call_x_pair hx hb hml hown hts hK hA hE hl.1 i104 0 (lz (show 1 ≤ 3 by decide) hRf) (lz (show 21 ≤ 62 by decide) hRl) (by simp only [List.map_cons, List.map_nil, List.sum_cons, List.sum_nil, cat_rf]; exact Nat.le_of_ble_eq_true rfl) dX0_week_143 ⟨Nat.zero_le _, Nat.zero_le _⟩ (fun H locs hE => ?_)
              refine lv_iconst (v := 1) hx hb dX0_week_146 rfl ?_
              refine call_x_sumOf hx hb hml hown hts hK hA hE hl.1 (8 * i104 + 0) 1 (by omega) (by omega) (by omega) (lz (show 1 ≤ 3 by decide) hRf) (lz (show 25 ≤ 62 by decide) hRl) (by simp only [List.map_cons, List.map_nil, List.sum_cons, List.sum_nil, cat_rf]; exact Nat.le_of_ble_eq_true rfl) dX0_week_147 ⟨Nat.zero_le _, Nat.zero_le _⟩ (fun H locs hE => ?_)
              refine call_v_grows hx hb hml hown hts hK hA hE hl.1 i104 (x_sumOf (8 * i104 + 0) 1 (sI w104 19 i104 (0 : Int32))) (by omega) (by assumption) (fun _ => capnz (hX104.2.1 _ (by omega))) (lz (show 3 ≤ 3 by decide) hRf) (lz (show 62 ≤ 62 by decide) hRl) (Nat.le_of_ble_eq_true rfl) dX0_week_150 ⟨Nat.zero_le _, Nat.zero_le _⟩ (fun H locs hE => ?_)
              refine lv_aload_n hx hb dX0_week_153 rfl (lv_at hl 0 rfl) ?_
              refine xg_17 hx hb hts hown hK hE dX0_week_154 ?_
              refine lv_iload hx hb dX0_week_157 (lv_at hl 3 rfl) ?_
              refine lv_bipush (v := 8) hx hb dX0_week_159 rfl ?_
              refine call_x_sumOf hx hb hml hown hts hK hA hE hl.1 i104 8 (by omega) (by omega) (by omega) (lz (show 1 ≤ 3 by decide) hRf) (lz (show 25 ≤ 62 by decide) hRl) (Nat.le_of_ble_eq_true rfl) dX0_week_161 ⟨Nat.zero_le _, Nat.zero_le _⟩ (fun H locs hE => ?_)
              refine lv_lsub hx hb dX0_week_164 ?_
              refine lv_iload hx hb dX0_week_165 (lv_at hl 3 rfl) ?_
              refine lv_iload_n hx hb dX0_week_167 rfl (lv_at hl 1 rfl) ?_
              have hJ176 : ∀ (w176 : Int64) (hB104 : x_week_b104 w28 i104 w104 = x_week_j285 (x_week_j176 i104 w104 w176)), ∀ (H : Heap) (locs : List Loc) (ls : Array Slot), EW D A s.heap (WX x ar cs (sI w104 19 i104 (0 : Int32)) B Y) H locs → lv_has ls 8 [(0, .ref x), (1, .int w28.1), (2, .long w28.2.1), (4, .int (nI i104))] → W p l e R s mid args below meth c H locs 0 0 Q (F0 mid 176 ls [.long w176, .long ((v_grows i104 (x_sumOf (8 * i104 + 0) 1 (sI w104 19 i104 (0 : Int32))) (sI w104 19 i104 (0 : Int32))) - (x_sumOf i104 8 (sI w104 19 i104 (0 : Int32))))]) := by
                intro w176 hB104 H locs ls hE hl
                have hB104 : x_week_b104 w28 i104 w104 = x_week_j285 (x_week_v179 i104 w104 ((((v_grows i104 (x_sumOf (8 * i104 + 0) 1 (sI w104 19 i104 (0 : Int32))) (sI w104 19 i104 (0 : Int32))) - (x_sumOf i104 8 (sI w104 19 i104 (0 : Int32)))) + w176))) := hB104
                refine lv_ladd hx hb dX0_week_176 ?_
                refine lv_lstore (lv' := [(5, .long (((v_grows i104 (x_sumOf (8 * i104 + 0) 1 (sI w104 19 i104 (0 : Int32))) (sI w104 19 i104 (0 : Int32))) - (x_sumOf i104 8 (sI w104 19 i104 (0 : Int32)))) + w176)), (0, .ref x), (1, .int w28.1), (2, .long w28.2.1), (4, .int (nI i104))]) hx hb dX0_week_177 hl (by decide) rfl (fun ls hl => ?_)
                have hNv179 : ∀ (wv179 : Int64) (hewv179 : wv179 = (((v_grows i104 (x_sumOf (8 * i104 + 0) 1 (sI w104 19 i104 (0 : Int32))) (sI w104 19 i104 (0 : Int32))) - (x_sumOf i104 8 (sI w104 19 i104 (0 : Int32)))) + w176)) (hB104 : x_week_b104 w28 i104 w104 = x_week_j285 (x_week_v179 i104 w104 wv179)), ∀ (H : Heap) (locs : List Loc) (ls : Array Slot), EW D A s.heap (WX x ar cs (sI w104 19 i104 (0 : Int32)) B Y) H locs → lv_has ls 8 [(0, .ref x), (1, .int w28.1), (2, .long w28.2.1), (4, .int (nI i104)), (5, .long wv179)] → W p l e R s mid args below meth c H locs 0 0 Q (F0 mid 179 ls []) := by
                  intro wv179 hewv179 hB104 H locs ls hE hl
                  have hB104 : x_week_b104 w28 i104 w104 = x_week_j285 (x_week_v206 i104 w104 ((x_maxL (0 : Int64) (x_minL (100000 : Int64) (((w104.1 32 i104).toInt64) + wv179))).toInt32)) := hB104
                  refine lv_lconst (v := 0) hx hb dX0_week_179 rfl ?_
                  refine lv_ldc2 (v := 100000) hx hb hown (hts _ q655) dX0_week_180 ?_
                  refine lv_aload_n hx hb dX0_week_183 rfl (lv_at hl 0 rfl) ?_
                  refine xg_10 hx hb hts hown hK hE dX0_week_184 ?_
                  refine lv_iload hx hb dX0_week_187 (lv_at hl 3 rfl) ?_
                  refine xa_10 (n := i104) (by omega) hx hb hK hE dX0_week_189 ?_
                  refine xbg_32 (b := i104) (by omega) (by assumption) hx hb hts hown hK hE dX0_week_190 ?_
                  refine lv_i2l hx hb dX0_week_193 rfl ?_
                  refine lv_lload hx hb dX0_week_194 (lv_at hl 4 rfl) ?_
                  refine lv_ladd hx hb dX0_week_196 ?_
                  refine xm_minL hx hb hml hts hown hl.1 hRf hRl (by decide) (by decide) (Nat.le_of_ble_eq_true rfl) dX0_week_197 ⟨Nat.zero_le _, Nat.zero_le _⟩ ?_
                  refine xm_maxL hx hb hml hts hown hl.1 hRf hRl (by decide) (by decide) (Nat.le_of_ble_eq_true rfl) dX0_week_200 ⟨Nat.zero_le _, Nat.zero_le _⟩ ?_
                  refine lv_l2i hx hb dX0_week_203 rfl ?_
                  refine lv_istore (lv' := [(7, .int ((x_maxL (0 : Int64) (x_minL (100000 : Int64) (((w104.1 32 i104).toInt64) + wv179))).toInt32)), (0, .ref x), (1, .int w28.1), (2, .long w28.2.1), (4, .int (nI i104)), (5, .long wv179)]) hx hb dX0_week_204 hl (by decide) rfl (fun ls hl => ?_)
                  have hNv206 : ∀ (wv206 : Int32) (hewv206 : wv206 = (x_maxL (0 : Int64) (x_minL (100000 : Int64) (((w104.1 32 i104).toInt64) + wv179))).toInt32) (hB104 : x_week_b104 w28 i104 w104 = x_week_j285 (x_week_v206 i104 w104 wv206)), ∀ (H : Heap) (locs : List Loc) (ls : Array Slot), EW D A s.heap (WX x ar cs (sI w104 19 i104 (0 : Int32)) B Y) H locs → lv_has ls 8 [(0, .ref x), (1, .int w28.1), (2, .long w28.2.1), (4, .int (nI i104)), (7, .int wv206)] → W p l e R s mid args below meth c H locs 0 0 Q (F0 mid 206 ls []) := by
                    intro wv206 hewv206 hB104 H locs ls hE hl
                    have hB104 : x_week_b104 w28 i104 w104 = x_week_j285 (x_week_j281 i104 w104 wv206 (if (sI (sI (sI w104 19 i104 (0 : Int32)) 19 i104 (x_minI wv206 (w104.1 33 i104))) 18 i104 (wv206 - ((sI (sI w104 19 i104 (0 : Int32)) 19 i104 (x_minI wv206 (w104.1 33 i104))).1 19 i104))).1 18 i104 = 0 then (if w104.1 32 i104 ≤ 0 then (0 : Int32) else ((1 : Int32) <<< ((nI i104) &&& 31))) else (0 : Int32))) := hB104
                    refine lv_aload_n hx hb dX0_week_206 rfl (lv_at hl 0 rfl) ?_
                    refine xg_19 hx hb hts hown hK hE dX0_week_207 ?_
                    refine lv_iload hx hb dX0_week_210 (lv_at hl 3 rfl) ?_
                    refine lv_iload hx hb dX0_week_212 (lv_at hl 4 rfl) ?_
                    refine lv_aload_n hx hb dX0_week_214 rfl (lv_at hl 0 rfl) ?_
                    refine xg_10 hx hb hts hown hK hE dX0_week_215 ?_
                    refine lv_iload hx hb dX0_week_218 (lv_at hl 3 rfl) ?_
                    refine xa_10 (n := i104) (by omega) hx hb hK hE dX0_week_220 ?_
                    refine xbg_33 (b := i104) (by omega) (by assumption) hx hb hts hown hK hE dX0_week_221 ?_
                    refine xm_minI hx hb hml hts hown hl.1 hRf hRl (by decide) (by decide) (Nat.le_of_ble_eq_true rfl) dX0_week_224 ⟨Nat.zero_le _, Nat.zero_le _⟩ ?_
                    refine xs_19 (n := i104) (by omega) hx hb hK hE dX0_week_227 (fun H locs hE => ?_)
                    refine lv_aload_n hx hb dX0_week_228 rfl (lv_at hl 0 rfl) ?_
                    refine xg_18 hx hb hts hown hK hE dX0_week_229 ?_
                    refine lv_iload hx hb dX0_week_232 (lv_at hl 3 rfl) ?_
                    refine lv_iload hx hb dX0_week_234 (lv_at hl 4 rfl) ?_
                    refine lv_aload_n hx hb dX0_week_236 rfl (lv_at hl 0 rfl) ?_
                    refine xg_19 hx hb hts hown hK hE dX0_week_237 ?_
                    refine lv_iload hx hb dX0_week_240 (lv_at hl 3 rfl) ?_
                    refine xa_19 (n := i104) (by omega) hx hb hK hE dX0_week_242 ?_
                    refine lv_isub hx hb dX0_week_243 ?_
                    refine xs_18 (n := i104) (by omega) hx hb hK hE dX0_week_244 (fun H locs hE => ?_)
                    refine lv_aload_n hx hb dX0_week_245 rfl (lv_at hl 0 rfl) ?_
                    refine lv_dup hx hb dX0_week_246 rfl ?_
                    refine xg_20 hx hb hts hown hK hE dX0_week_247 ?_
                    refine lv_aload_n hx hb dX0_week_250 rfl (lv_at hl 0 rfl) ?_
                    refine xg_18 hx hb hts hown hK hE dX0_week_251 ?_
                    refine lv_iload hx hb dX0_week_254 (lv_at hl 3 rfl) ?_
                    refine xa_18 (n := i104) (by omega) hx hb hK hE dX0_week_256 ?_
                    have hJ281 : ∀ (w281 : Int32) (hB104 : x_week_b104 w28 i104 w104 = x_week_j285 (x_week_j281 i104 w104 wv206 w281)), ∀ (H : Heap) (locs : List Loc) (ls : Array Slot), EW D A s.heap (WX x ar cs (sI (sI (sI w104 19 i104 (0 : Int32)) 19 i104 (x_minI wv206 (w104.1 33 i104))) 18 i104 (wv206 - ((sI (sI w104 19 i104 (0 : Int32)) 19 i104 (x_minI wv206 (w104.1 33 i104))).1 19 i104))) B Y) H locs → lv_has ls 8 [(0, .ref x), (1, .int w28.1), (2, .long w28.2.1), (4, .int (nI i104))] → W p l e R s mid args below meth c H locs 0 0 Q (F0 mid 281 ls [.int w281, .int (w104.1 20 0), .ref x]) := by
                      intro w281 hB104 H locs ls hE hl
                      have hB104 : x_week_b104 w28 i104 w104 = x_week_j285 (sI (sI (sI (sI w104 19 i104 (0 : Int32)) 19 i104 (x_minI wv206 (w104.1 33 i104))) 18 i104 (wv206 - ((sI (sI w104 19 i104 (0 : Int32)) 19 i104 (x_minI wv206 (w104.1 33 i104))).1 19 i104))) 20 0 ((w104.1 20 0) ||| w281)) := hB104
                      refine lv_ior hx hb dX0_week_281 ?_
                      refine xp_20 hx hb hts hown hK hE dX0_week_282 (fun H locs hE => ?_)
                      exact hJ285 (sI (sI (sI (sI w104 19 i104 (0 : Int32)) 19 i104 (x_minI wv206 (w104.1 33 i104))) 18 i104 (wv206 - ((sI (sI w104 19 i104 (0 : Int32)) 19 i104 (x_minI wv206 (w104.1 33 i104))).1 19 i104))) 20 0 ((w104.1 20 0) ||| w281))  (by first | exact hX104 | (subst hewm245; exact hX104) | (subst hewm245 hewm228; exact hX104)) hB104 _ _ _ hE (lv_sub hl [0, 1, 2, 3] rfl)
                    refine lv_if_ne (tgt := 280) hx hb dX0_week_257 (by decide) (fun c257 => ?_) (fun c257 => ?_)
                    · have hB104 : x_week_b104 w28 i104 w104 = x_week_j285 (x_week_j281 i104 w104 wv206 (0 : Int32)) := hB104.trans (congrArg (fun z => x_week_j285 (x_week_j281 i104 w104 wv206 z)) (if_neg c257))
                      refine lv_iconst (v := 0) hx hb dX0_week_280 rfl ?_
                      exact hJ281 (0 : Int32)  hB104 _ _ _ hE (lv_sub hl [0, 1, 2, 3] rfl)
                    · have hB104 : x_week_b104 w28 i104 w104 = x_week_j285 (x_week_j281 i104 w104 wv206 (if w104.1 32 i104 ≤ 0 then (0 : Int32) else ((1 : Int32) <<< ((nI i104) &&& 31)))) := hB104.trans (congrArg (fun z => x_week_j285 (x_week_j281 i104 w104 wv206 z)) (if_pos c257))
                      refine lv_aload_n hx hb dX0_week_260 rfl (lv_at hl 0 rfl) ?_
                      refine xg_10 hx hb hts hown hK hE dX0_week_261 ?_
                      refine lv_iload hx hb dX0_week_264 (lv_at hl 3 rfl) ?_
                      refine xa_10 (n := i104) (by omega) hx hb hK hE dX0_week_266 ?_
                      refine xbg_32 (b := i104) (by omega) (by assumption) hx hb hts hown hK hE dX0_week_267 ?_
                      refine lv_if_le (tgt := 280) hx hb dX0_week_270 (by decide) (fun c270 => ?_) (fun c270 => ?_)
                      · have hB104 : x_week_b104 w28 i104 w104 = x_week_j285 (x_week_j281 i104 w104 wv206 (0 : Int32)) := hB104.trans (congrArg (fun z => x_week_j285 (x_week_j281 i104 w104 wv206 z)) (if_pos c270))
                        refine lv_iconst (v := 0) hx hb dX0_week_280 rfl ?_
                        exact hJ281 (0 : Int32)  hB104 _ _ _ hE (lv_sub hl [0, 1, 2, 3] rfl)
                      · have hB104 : x_week_b104 w28 i104 w104 = x_week_j285 (x_week_j281 i104 w104 wv206 ((1 : Int32) <<< ((nI i104) &&& 31))) := hB104.trans (congrArg (fun z => x_week_j285 (x_week_j281 i104 w104 wv206 z)) (if_neg c270))
                        refine lv_iconst (v := 1) hx hb dX0_week_273 rfl ?_
                        refine lv_iload hx hb dX0_week_274 (lv_at hl 3 rfl) ?_
                        refine lv_ishl hx hb dX0_week_276 ?_
                        refine lv_goto (tgt := 281) hx hb dX0_week_277 (by decide) ?_
                        exact hJ281 ((1 : Int32) <<< ((nI i104) &&& 31))  hB104 _ _ _ hE (lv_sub hl [0, 1, 2, 3] rfl)
                  exact hNv206 ((x_maxL (0 : Int64) (x_minL (100000 : Int64) (((w104.1 32 i104).toInt64) + wv179))).toInt32) rfl hB104 _ _ _ hE (lv_sub hl [1, 2, 3, 4, 0] rfl)
                exact hNv179 ((((v_grows i104 (x_sumOf (8 * i104 + 0) 1 (sI w104 19 i104 (0 : Int32))) (sI w104 19 i104 (0 : Int32))) - (x_sumOf i104 8 (sI w104 19 i104 (0 : Int32)))) + w176)) rfl hB104 _ _ _ hE (lv_sub hl [1, 2, 3, 4, 0] rfl)
              refine lv_icmp_ne (tgt := 175) hx hb dX0_week_168 (by decide) (fun c168 => ?_) (fun c168 => ?_)
              · have hB104 : x_week_b104 w28 i104 w104 = x_week_j285 (x_week_j176 i104 w104 (0 : Int64)) := hB104.trans (congrArg (fun z => x_week_j285 (x_week_j176 i104 w104 z)) (if_neg c168))
                refine lv_lconst (v := 0) hx hb dX0_week_175 rfl ?_
                exact hJ176 (0 : Int64)  hB104 _ _ _ hE (lv_sub hl [0, 1, 2, 3] rfl)
              · have hB104 : x_week_b104 w28 i104 w104 = x_week_j285 (x_week_j176 i104 w104 w28.2.1) := hB104.trans (congrArg (fun z => x_week_j285 (x_week_j176 i104 w104 z)) (if_pos c168))
                refine lv_lload_n hx hb dX0_week_171 rfl (lv_at hl 2 rfl) ?_
                refine lv_goto (tgt := 176) hx hb dX0_week_172 (by decide) ?_
                exact hJ176 w28.2.1  hB104 _ _ _ hE (lv_sub hl [0, 1, 2, 3] rfl)
        exact hL104 8 0 (sI w2 20 0 (0 : Int32)) (by omega) (by exact hX2) hR _ _ _ hE (lv_sub hl [1, 2, 3, 0] rfl)
      have hL28 : ∀ (n : Nat) (w28 : Int32 × Int64 × Int32) (hm28 : ((w28.2.2).toInt + 1).toNat < n) (hb28 : -1 ≤ (w28.2.2).toInt ∧ (w28.2.2).toInt ≤ 7) (hR : x_week Z = x_week_e28 w2 (wlR (x_week_b28 w2) n w28)), ∀ (H : Heap) (locs : List Loc) (ls : Array Slot), EW D A s.heap (WX x ar cs w2 B Y) H locs → lv_has ls 8 [(0, .ref x), (1, .int w28.1), (2, .long w28.2.1), (4, .int w28.2.2)] → W p l e R s mid args below meth c H locs 0 0 Q (F0 mid 28 ls []) := by
        intro n
        induction n with
        | zero =>
          intro w28 hm28
          exact absurd hm28 (Nat.not_lt_zero _)
        | succ n ih28 =>
          intro w28 hm28 hb28 hR H locs ls hE hl
          have hB28 : x_week_b28 w2 w28 = (if w28.2.2 < 0 then (false, (w28.1, w28.2.1, w28.2.2)) else x_week_j90 w28 (if w2.1 30 (ix w28.2.2) = 0 then (w28.1, w28.2.1) else x_week_j62 w2 w28 (if (v_kind (ix w28.2.2) w2) = 0 then nI (ix w28.2.2) else w28.1))) := rfl
          refine lv_iload hx hb dX0_week_28 (lv_at hl 3 rfl) ?_
          refine lv_if_lt (tgt := 96) hx hb dX0_week_30 (by decide) (fun c30 => ?_) (fun c30 => ?_)
          · have hB28 : x_week_b28 w2 w28 = (false, (w28.1, w28.2.1, w28.2.2)) := hB28.trans (congrArg (fun z => z) (if_pos c30))
            exact hX28 (w28.1, w28.2.1, w28.2.2) (by exact hb28) (hR.trans (congrArg (fun z => x_week_e28 w2 z) (wl_f hB28))) _ _ _ hE (lv_sub hl [0, 1, 2] rfl)
          · have hB28 : x_week_b28 w2 w28 = (x_week_j90 w28 (if w2.1 30 (ix w28.2.2) = 0 then (w28.1, w28.2.1) else x_week_j62 w2 w28 (if (v_kind (ix w28.2.2) w2) = 0 then nI (ix w28.2.2) else w28.1))) := hB28.trans (congrArg (fun z => z) (if_neg c30))
            have hnw28_2_2 := vp_ix (x := w28.2.2) (N := 8) (dn_vp hb28 c30) (by decide)
            have hbnw28_2_2 := hnw28_2_2.2
            refine lv_aload_n hx hb dX0_week_33 rfl (lv_at hl 0 rfl) ?_
            refine xg_10 hx hb hts hown hK hE dX0_week_34 ?_
            refine lv_iload hx hb dX0_week_37 (lv_at hl 3 rfl) ?_
            refine top_nat hnw28_2_2.1 ?_
            refine xa_10 (n := (ix w28.2.2)) (by omega) hx hb hK hE dX0_week_39 ?_
            have hJ90 : ∀ (w90 : Int32 × Int64) (hB28 : x_week_b28 w2 w28 = x_week_j90 w28 w90), ∀ (H : Heap) (locs : List Loc) (ls : Array Slot), EW D A s.heap (WX x ar cs w2 B Y) H locs → lv_has ls 8 [(0, .ref x), (1, .int w90.1), (2, .long w90.2), (4, .int w28.2.2)] → W p l e R s mid args below meth c H locs 0 0 Q (F0 mid 90 ls []) := by
              intro w90 hB28 H locs ls hE hl
              have hB28 : x_week_b28 w2 w28 = (true, (w90.1, w90.2, (w28.2.2 + (-1)))) := hB28
              refine lv_iinc (v := (w28.2.2 + (-1))) (lv' := [(4, .int (w28.2.2 + (-1))), (0, .ref x), (1, .int w90.1), (2, .long w90.2)]) hx hb dX0_week_90 hl (k := 3) rfl rfl (by decide) rfl (fun ls hl => ?_)
              refine lv_goto (tgt := 28) hx hb dX0_week_93 (by decide) ?_
              exact ih28 (w90.1, w90.2, (w28.2.2 + (-1))) (by exact dn_dec hb28 c30 hm28) (by exact dn_inv hb28 c30) (hR.trans (congrArg (fun z => x_week_e28 w2 z) (wl_t hB28))) _ _ _ hE (lv_sub hl [1, 2, 3, 0] rfl)
            refine xnn_be (b := (ix w28.2.2)) (tgt := 90) hx hb dX0_week_40 (by decide) (fun c40 => ?_) (fun c40 => ?_)
            · have hB28 : x_week_b28 w2 w28 = x_week_j90 w28 (w28.1, w28.2.1) := hB28.trans (congrArg (fun z => x_week_j90 w28 z) (if_pos c40))
              exact hJ90 (w28.1, w28.2.1)  hB28 _ _ _ hE (lv_sub hl [0, 1, 2, 3] rfl)
            · have hB28 : x_week_b28 w2 w28 = x_week_j90 w28 (x_week_j62 w2 w28 (if (v_kind (ix w28.2.2) w2) = 0 then nI (ix w28.2.2) else w28.1)) := hB28.trans (congrArg (fun z => x_week_j90 w28 z) (if_neg c40))
              refine lv_aload_n hx hb dX0_week_43 rfl (lv_at hl 0 rfl) ?_
              refine xg_10 hx hb hts hown hK hE dX0_week_44 ?_
              refine lv_iload hx hb dX0_week_47 (lv_at hl 3 rfl) ?_
              refine top_nat hnw28_2_2.1 ?_
              refine xa_10 (n := (ix w28.2.2)) (by omega) hx hb hK hE dX0_week_49 ?_
              refine call_v_kind hx hb hml hown hts hK hA hE hl.1 (ix w28.2.2) (by omega) (by assumption) (lz (show 1 ≤ 3 by decide) hRf) (lz (show 20 ≤ 62 by decide) hRl) (Nat.le_of_ble_eq_true rfl) dX0_week_50 ⟨Nat.zero_le _, Nat.zero_le _⟩ (fun H locs hE => ?_)
              have hJ62 : ∀ (w62 : Int32) (hB28 : x_week_b28 w2 w28 = x_week_j90 w28 (x_week_j62 w2 w28 w62)), ∀ (H : Heap) (locs : List Loc) (ls : Array Slot), EW D A s.heap (WX x ar cs w2 B Y) H locs → lv_has ls 8 [(0, .ref x), (2, .long w28.2.1), (4, .int w28.2.2)] → W p l e R s mid args below meth c H locs 0 0 Q (F0 mid 62 ls [.int w62]) := by
                intro w62 hB28 H locs ls hE hl
                have hB28 : x_week_b28 w2 w28 = x_week_j90 w28 (w62, (w28.2.1 + (v_spills (ix w28.2.2) (x_sumOf (8 * (ix w28.2.2) + 0) 1 w2) w2))) := hB28
                refine lv_istore_n (lv' := [(1, .int w62), (0, .ref x), (2, .long w28.2.1), (4, .int w28.2.2)]) hx hb dX0_week_62 rfl hl (by decide) rfl (fun ls hl => ?_)
                refine lv_lload_n hx hb dX0_week_63 rfl (lv_at hl 2 rfl) ?_
                refine lv_aload_n hx hb dX0_week_64 rfl (lv_at hl 1 rfl) ?_
                refine xg_10 hx hb hts hown hK hE dX0_week_65 ?_
                refine lv_iload hx hb dX0_week_68 (lv_at hl 3 rfl) ?_
                refine top_nat hnw28_2_2.1 ?_
                refine xa_10 (n := (ix w28.2.2)) (by omega) hx hb hK hE dX0_week_70 ?_
                refine lv_aload_n hx hb dX0_week_71 rfl (lv_at hl 1 rfl) ?_
                refine xg_17 hx hb hts hown hK hE dX0_week_72 ?_
                refine lv_iload hx hb dX0_week_75 (lv_at hl 3 rfl) ?_
                refine top_nat hnw28_2_2.1 ?_
                refine lv_iconst (v := 0) hx hb dX0_week_77 rfl ?_
                refine call_x_pair hx hb hml hown hts hK hA hE hl.1 (ix w28.2.2) 0 (lz (show 1 ≤ 3 by decide) hRf) (lz (show 21 ≤ 62 by decide) hRl) (by simp only [List.map_cons, List.map_nil, List.sum_cons, List.sum_nil, cat_rf]; exact Nat.le_of_ble_eq_true rfl) dX0_week_78 ⟨Nat.zero_le _, Nat.zero_le _⟩ (fun H locs hE => ?_)
                refine lv_iconst (v := 1) hx hb dX0_week_81 rfl ?_
                refine call_x_sumOf hx hb hml hown hts hK hA hE hl.1 (8 * (ix w28.2.2) + 0) 1 (by omega) (by omega) (by omega) (lz (show 1 ≤ 3 by decide) hRf) (lz (show 25 ≤ 62 by decide) hRl) (by simp only [List.map_cons, List.map_nil, List.sum_cons, List.sum_nil, cat_rf]; exact Nat.le_of_ble_eq_true rfl) dX0_week_82 ⟨Nat.zero_le _, Nat.zero_le _⟩ (fun H locs hE => ?_)
                refine call_v_spills hx hb hml hown hts hK hA hE hl.1 (ix w28.2.2) (x_sumOf (8 * (ix w28.2.2) + 0) 1 w2) (by omega) (by assumption) (lz (show 3 ≤ 3 by decide) hRf) (lz (show 62 ≤ 62 by decide) hRl) (Nat.le_of_ble_eq_true rfl) dX0_week_85 ⟨Nat.zero_le _, Nat.zero_le _⟩ (fun H locs hE => ?_)
                refine lv_ladd hx hb dX0_week_88 ?_
                refine lv_lstore_n (lv' := [(2, .long (w28.2.1 + (v_spills (ix w28.2.2) (x_sumOf (8 * (ix w28.2.2) + 0) 1 w2) w2))), (1, .int w62), (0, .ref x), (4, .int w28.2.2)]) hx hb dX0_week_89 rfl hl (by decide) rfl (fun ls hl => ?_)
                exact hJ90 (w62, (w28.2.1 + (v_spills (ix w28.2.2) (x_sumOf (8 * (ix w28.2.2) + 0) 1 w2) w2)))  hB28 _ _ _ hE (lv_sub hl [2, 1, 0, 3] rfl)
              refine lv_if_ne (tgt := 61) hx hb dX0_week_53 (by decide) (fun c53 => ?_) (fun c53 => ?_)
              · have hB28 : x_week_b28 w2 w28 = x_week_j90 w28 (x_week_j62 w2 w28 w28.1) := hB28.trans (congrArg (fun z => x_week_j90 w28 (x_week_j62 w2 w28 z)) (if_neg c53))
                refine lv_iload_n hx hb dX0_week_61 rfl (lv_at hl 1 rfl) ?_
                exact hJ62 w28.1  hB28 _ _ _ hE (lv_sub hl [0, 2, 3] rfl)
              · have hB28 : x_week_b28 w2 w28 = x_week_j90 w28 (x_week_j62 w2 w28 (nI (ix w28.2.2))) := hB28.trans (congrArg (fun z => x_week_j90 w28 (x_week_j62 w2 w28 z)) (if_pos c53))
                refine lv_iload hx hb dX0_week_56 (lv_at hl 3 rfl) ?_
                refine top_nat hnw28_2_2.1 ?_
                refine lv_goto (tgt := 62) hx hb dX0_week_58 (by decide) ?_
                exact hJ62 (nI (ix w28.2.2))  hB28 _ _ _ hE (lv_sub hl [0, 2, 3] rfl)
      exact hL28 9 ((-9 : Int32), (0 : Int64), (7 : Int32)) (by decide) (by decide) hR _ _ _ hE (lv_sub hl [3, 2, 1, 0] rfl)
    | succ k ih2 =>
      intro i2 w2 hi2 hX2 hR H locs ls hE hl
      have hlt2 : i2 < 8 := by omega
      have hB2 : x_week_b2 i2 w2 = x_week_c10 (x_share i2 w2) := rfl
      refine lv_iload_n hx hb dX0_week_2 rfl (lv_at hl 1 rfl) ?_
      refine lv_bipush (v := 8) hx hb dX0_week_3 rfl ?_
      refine n_geF (a := i2) (b := 8) (by omega) (by omega) hx hb dX0_week_5 (tgt := 19) (by decide) ?_
      refine lv_aload_n hx hb dX0_week_8 rfl (lv_at hl 0 rfl) ?_
      refine lv_iload_n hx hb dX0_week_9 rfl (lv_at hl 1 rfl) ?_
      refine call_x_share hx hb hml hown hts hK hA hE hl.1 i2 (by omega) (hX2) (lz (show 2 ≤ 3 by decide) hRf) (lz (show 47 ≤ 62 by decide) hRl) (Nat.le_of_ble_eq_true rfl) dX0_week_10 ⟨Nat.zero_le _, Nat.zero_le _⟩ (fun H locs hE => ?_)
      have hNc10 : ∀ (wc10 : ZT) (hewc10 : wc10 = x_share i2 w2) (hB2 : x_week_b2 i2 w2 = x_week_c10 wc10), ∀ (H : Heap) (locs : List Loc) (ls : Array Slot), EW D A s.heap (WX x ar cs wc10 B Y) H locs → lv_has ls 8 [(0, .ref x), (1, .int (nI i2))] → W p l e R s mid args below meth c H locs 0 0 Q (F0 mid 13 ls []) := by
        intro wc10 hewc10 hB2 H locs ls hE hl
        have hB2 : x_week_b2 i2 w2 = wc10 := hB2
        refine n_inc (lv' := [(1, .int (nI (i2 + 1))), (0, .ref x)]) hx hb dX0_week_13 hl (k := 1) rfl (by decide) rfl (fun ls hl => ?_)
        refine lv_goto (tgt := 2) hx hb dX0_week_16 (by decide) ?_
        exact ih2 (i2 + 1) wc10 (by omega) (by rw [hewc10]; exact XI_fst (share_fst _ _) hX2) (hR.trans (congrArg (fun z => x_week_e2 (itR x_week_b2 (i2 + 1) k z)) hB2)) _ _ _ hE (lv_sub hl [1, 0] rfl)
      exact hNc10 (x_share i2 w2) rfl hB2 _ _ _ hE (lv_sub hl [0, 1] rfl)
  exact hL2 8 0 Z (by omega) (by exact hX) hR _ _ _ hE (lv_sub hl [1, 0] rfl)
section C_x_week
variable {p : Program} {l : Launch} {e : Env} {R : Room} {s : State} {mid : MethodId} {args : Array Value} {below : List Frame} {meth : Method} {c : Code} {H : Heap} {locs : List Loc} {cells slots : Nat} {Q : State → Prop} {cc : ByteArray} {pc : Nat} {ls : Array Slot} {rest : List Value} {D : va_G} {A : Nat → Prop} {x : Nat} {ar : Nat → Nat} {cs : Nat → ClassId} {B : BT} {Y : va_W} {Z : ZT} {nL r : Nat}
theorem call_x_week (hx : p.tables.exec = Jvm.exec) (hb : c.code = cc) (hml : c.maxLocals = nL) (hown : s.vm.findClass RX0 = some mid.cls) (hts : ∀ w ∈ lw_all, w.before args s = true) (hK : KK D cs s) (hA : ∀ q : Nat, s.heap.size ≤ q → A q) (hE : EW D A s.heap (WX x ar cs Z B Y) H locs) (hls : ls.size = nL) (hX : XI Z) (h1 : 4 ≤ R.frames) (h2 : 89 ≤ R.locals) (h3 : (rest.map fun v => v.category).sum ≤ 8) (hd : decode cc pc = .ok (.invokevirtual 269, 3)) (hf : cells ≤ R.cells ∧ slots ≤ R.slots) (kk : ∀ (H1 : Heap) (locs1 : List Loc), EW D A s.heap (WX x ar cs (x_week Z) B Y) H1 locs1 → W p l e R s mid args below meth c H1 locs1 cells slots Q (F0 mid (pc + 3) ls (rest))) : W p l e R s mid args below meth c H locs cells slots Q (F0 mid pc ls (.ref x :: rest)) := 
  gCall_v (As := []) (rest := rest) (q0 := 0) (ci := 0) (fs := XF ar Z) (T' := TX0) (N' := 29) hx hb hml hown hts hK hA hE hls (met_x_week l D cs x ar B Y Z H.size hX) (cwV 0 hts (lw_V q647 q649 qs14 q84 q650) rfl rfl rfl (by decide +kernel) ⟨h1, h2⟩) rfl rfl rfl rfl h3 hd hf (fun u H1 locs1 hp _ hE => by subst hp; exact kk H1 locs1 hE)
end C_x_week
