/-! the component: weeks passed and tried -/
set_option maxRecDepth 100000
theorem and01 {a b : Int32} (ha : a = 0 ∨ a = 1) (hb : b = 0 ∨ b = 1) : (a &&& b) = 0 ∨ (a &&& b) = 1 := by
  rcases ha with rfl | rfl <;> rcases hb with rfl | rfl <;> decide
theorem dn_start {n : Nat} (h1 : 1 ≤ n) (h : n ≤ 300) : ((nI (n - 1)).toInt + 1).toNat < n + 1 := by
  rw [nI_toInt (by omega)]
  omega
theorem dn_init {n : Nat} (h : n ≤ 299) : -1 ≤ (nI n).toInt ∧ (nI n).toInt ≤ 299 := by
  rw [nI_toInt (by omega)]
  omega
/-- a bit of fallen only of one that is there -/
def FB (Z : ZT) : Prop := ∀ b : Nat, b < 8 → bt (Z.1 20 0) b = true → ¬ Z.1 30 b = 0
/-- the first row of past -/
def PI (Z : ZT) : Prop := ∀ b : Nat, b < 8 → 0 ≤ (Z.1 21 b).toInt ∧ (Z.1 21 b).toInt ≤ 100000
theorem mm_eq (v : Int64) : x_maxL 0 (x_minL 100000 v) = (if (0 : Int64) ≤ v then (if v ≤ 100000 then v else 100000) else 0) := by
  unfold x_maxL x_minL
  have h0 : (0 : Int64).toInt = 0 := rfl
  have h1 : (100000 : Int64).toInt = 100000 := rfl
  simp only [Int64.lt_iff_toInt_lt, Int64.le_iff_toInt_le]
  repeat' split
  all_goals first | rfl | (exfalso; simp only [h0, h1] at *; omega) | (apply Int64.toInt_inj.mp; simp only [h0, h1] at *; omega)
theorem leftx_ok {t d : Int32} (ht : 0 ≤ t.toInt ∧ t.toInt ≤ 100000) (hd : 0 ≤ d.toInt) : 0 ≤ (t - x_minI t d).toInt ∧ (t - x_minI t d).toInt ≤ 100000 := by
  unfold x_minI
  split
  · rename_i h
    rw [Int32.lt_iff_toInt_lt] at h
    rw [Int32.toInt_sub, Int.bmod_eq_of_le (by omega) (by omega)]
    omega
  · rw [Int32.sub_self]
    exact ⟨by decide, by decide⟩
theorem thenx_ok (v : Int64) : 0 ≤ ((x_maxL (0 : Int64) (x_minL (100000 : Int64) v)).toInt32).toInt ∧ ((x_maxL (0 : Int64) (x_minL (100000 : Int64) v)).toInt32).toInt ≤ 100000 := by
  rw [mm_eq]
  have h := clamp_ok v
  rw [l2i_toInt h]
  exact h
theorem sI_ne {Z : ZT} {k r i : Nat} {v : Int32} (h : r ≠ k) : (sI Z k i v).1 r = Z.1 r := va_up_ne _ _ h
theorem sI_at {Z : ZT} {k i j : Nat} {v : Int32} : (sI Z k i v).1 k j = if j = i then v else Z.1 k j := by
  show va_up Z.1 k (upd (Z.1 k) i v) k j = _
  rw [va_up_self]
  rfl
theorem week_facts {Z : ZT} (hX : XI Z) : XI (x_week Z) ∧ FB (x_week Z) ∧ ∀ k, k ≠ 18 → k ≠ 19 → k ≠ 20 → k ≠ 32 → (x_week Z).1 k = Z.1 k := by
  unfold x_week
  have h2 : (itR x_week_b2 0 8 Z).1 = Z.1 := itR_ind (f := x_week_b2) (P := fun s : ZT => s.1 = Z.1) (fun i s hs => by
    unfold x_week_b2 x_week_c10
    rw [share_fst]
    exact hs) _ _ _ rfl
  generalize itR x_week_b2 0 8 Z = w at h2
  have hw : XI w := XI_fst h2 hX
  unfold x_week_e2
  generalize wlR (x_week_b28 w) 9 ((-9 : Int32), (0 : Int64), (7 : Int32)) = v
  unfold x_week_e28
  have h104 := itR_inv (f := x_week_b104 v) (n := 8) (P := fun i s => (∀ k, k ≠ 18 → k ≠ 19 → k ≠ 20 → s.1 k = w.1 k) ∧ (∀ b, b < i → ¬ w.1 30 b = 0 → 0 ≤ (s.1 18 b).toInt ∧ (s.1 18 b).toInt ≤ 100000) ∧ ∀ b, b < 8 → bt (s.1 20 0) b = true → ¬ w.1 30 b = 0) (fun i s hi hs => ?_) 8 0 (sI w 20 0 0) rfl ⟨fun k _ _ h => sI_ne h, fun b hb => absurd hb (Nat.not_lt_zero _), fun b _ hb => by
    rw [sI_at, if_pos rfl, b_0] at hb
    cases hb⟩
  · generalize itR (x_week_b104 v) 0 8 (sI w 20 0 0) = u at h104
    unfold x_week_e104 x_week_e294
    have h294 := itR_inv (f := x_week_b294) (n := 8) (P := fun _ s => (∀ k, k ≠ 32 → s.1 k = u.1 k) ∧ ∀ b, b < 8 → 0 ≤ (s.1 32 b).toInt ∧ (s.1 32 b).toInt ≤ 100000) (fun i s hi hs => ?_) 8 0 u rfl ⟨fun k _ => rfl, by rw [h104.1 32 (by decide) (by decide) (by decide)]; exact hw.1⟩
    · generalize itR x_week_b294 0 8 u = y at h294
      have hk : ∀ k, k ≠ 18 → k ≠ 19 → k ≠ 20 → k ≠ 32 → y.1 k = Z.1 k := fun k a b c d => by rw [h294.1 k d, h104.1 k a b c, h2]
      refine ⟨⟨h294.2, by rw [hk 36 (by decide) (by decide) (by decide) (by decide)]; exact hX.2.1, by rw [hk 33 (by decide) (by decide) (by decide) (by decide)]; exact hX.2.2.1, by rw [hk 11 (by decide) (by decide) (by decide) (by decide), hk 30 (by decide) (by decide) (by decide) (by decide)]; exact hX.2.2.2⟩, fun b hb hbt => ?_, hk⟩
      rw [h294.1 20 (by decide)] at hbt
      rw [h294.1 30 (by decide), h104.1 30 (by decide) (by decide) (by decide)]
      exact h104.2.2 b hb hbt
    · unfold x_week_b294 x_week_j328
      split
      · exact hs
      · rename_i hp
        refine ⟨fun k hk => by rw [sI_ne hk]; exact hs.1 k hk, fun b hb => ?_⟩
        rw [sI_at]
        split
        · rw [hs.1 18 (by decide)]
          exact h104.2.1 i hi (by rw [← h104.1 30 (by decide) (by decide) (by decide), ← hs.1 30 (by decide)]; exact hp)
        · exact hs.2 b hb
  · unfold x_week_b104 x_week_j285
    split
    · rename_i hp
      rw [hs.1 30 (by decide) (by decide) (by decide)] at hp
      refine ⟨fun k a b c => by rw [sI_ne b]; exact hs.1 k a b c, fun b hb hq => ?_, fun b hb hbt => ?_⟩
      · rw [sI_ne (by decide)]
        refine hs.2.1 b ?_ hq
        rcases Nat.lt_or_ge b i with h | h
        · exact h
        · exact absurd (show w.1 30 b = 0 by rw [show b = i by omega]; exact hp) hq
      · rw [sI_ne (by decide)] at hbt
        exact hs.2.2 b hb hbt
    · rename_i hp
      rw [hs.1 30 (by decide) (by decide) (by decide)] at hp
      unfold x_week_j176 x_week_v179
      generalize hv : x_maxL (0 : Int64) (x_minL (100000 : Int64) _) = tt
      have ht : 0 ≤ (tt.toInt32).toInt ∧ (tt.toInt32).toInt ≤ 100000 := by rw [← hv]; exact thenx_ok _
      generalize tt.toInt32 = t at ht
      have key : ∀ q : Int32, (∀ b, b < 8 → bt q b = true → b = i) → (∀ k, k ≠ 18 → k ≠ 19 → k ≠ 20 → (x_week_j281 i s t q).1 k = w.1 k) ∧ (∀ b, b < i + 1 → ¬ w.1 30 b = 0 → 0 ≤ ((x_week_j281 i s t q).1 18 b).toInt ∧ ((x_week_j281 i s t q).1 18 b).toInt ≤ 100000) ∧ ∀ b, b < 8 → bt ((x_week_j281 i s t q).1 20 0) b = true → ¬ w.1 30 b = 0 := by
        intro q hq2
        unfold x_week_j281
        refine ⟨fun k a b c => by rw [sI_ne c, sI_ne a, sI_ne b, sI_ne b]; exact hs.1 k a b c, fun b hb hpr => ?_, fun b hb hbt => ?_⟩
        · rw [sI_ne (by decide), sI_at]
          split
          · rw [sI_at, if_pos rfl]
            refine leftx_ok ht ?_
            rw [hs.1 33 (by decide) (by decide) (by decide)]
            exact (hw.2.2.1 i hi).1
          · rw [sI_ne (by decide), sI_ne (by decide)]
            exact hs.2.1 b (by omega) hpr
        · rw [sI_at, if_pos rfl, b_or, Bool.or_eq_true] at hbt
          rcases hbt with h | h
          · exact hs.2.2 b hb h
          · rw [hq2 b hb h]
            exact hp
      unfold x_week_v206
      refine key _ (fun b hb h => ?_)
      split at h
      · split at h
        · rw [b_0] at h
          cases h
        · rw [b_bit (by omega) (by omega)] at h
          exact of_decide_eq_true h
      · rw [b_0] at h
        cases h
def x_keep_j40 (p1 : Nat) (i2 : Nat) (w2 : ZT) (w40 : Int32) : ZT := sI w2 21 ((8 * p1) + i2) w40
def x_keep_b2 (p1 : Nat) (i2 : Nat) (w2 : ZT) : ZT := x_keep_j40 p1 i2 w2 (if w2.1 30 i2 = 0 then (0 : Int32) else w2.1 32 i2)
def x_keep_e2 (w2 : ZT) : ZT := w2
def x_keep (p1 : Nat) (Z : ZT) : ZT := x_keep_e2 (itR (x_keep_b2 p1) 0 8 Z)
theorem keep_fr {r k : Nat} (hr : k ≠ 21) {Z : ZT} : (x_keep r Z).1 k = Z.1 k := by
  unfold x_keep x_keep_e2
  refine itR_ind (f := x_keep_b2 r) (P := fun s : ZT => s.1 k = Z.1 k) (fun i s hs => ?_) _ _ _ rfl
  unfold x_keep_b2 x_keep_j40
  rw [sI_ne hr]
  exact hs
theorem XI_of {Z Z' : ZT} (h : XI Z) (e1 : Z'.1 32 = Z.1 32) (e2 : Z'.1 36 = Z.1 36) (e3 : Z'.1 33 = Z.1 33) (e4 : Z'.1 11 = Z.1 11) (e5 : Z'.1 30 = Z.1 30) : XI Z' := by
  unfold XI
  rw [e1, e2, e3, e4, e5]
  exact h
theorem keep_XI {r : Nat} {Z : ZT} (h : XI Z) : XI (x_keep r Z) := XI_of h (keep_fr (by decide)) (keep_fr (by decide)) (keep_fr (by decide)) (keep_fr (by decide)) (keep_fr (by decide))
theorem keep_PI {Z : ZT} (h : XI Z) : PI (x_keep 0 Z) := by
  unfold x_keep x_keep_e2
  have h1 := itR_inv (f := x_keep_b2 0) (n := 8) (P := fun i s => s.1 32 = Z.1 32 ∧ ∀ b, b < i → 0 ≤ (s.1 21 b).toInt ∧ (s.1 21 b).toInt ≤ 100000) (fun i s hi hs => ?_) 8 0 Z rfl ⟨rfl, fun b hb => absurd hb (Nat.not_lt_zero _)⟩
  · exact fun b hb => h1.2 b hb
  · unfold x_keep_b2 x_keep_j40
    refine ⟨by rw [sI_ne (by decide)]; exact hs.1, fun b hb => ?_⟩
    rw [sI_at]
    split
    · split
      · exact ⟨by decide, by decide⟩
      · rw [hs.1]
        exact h.1 i hi
    · exact hs.2 b (by omega)
theorem XI_s33 {Z : ZT} {b : Nat} {v : Int32} (hv : 0 ≤ v.toInt ∧ v.toInt ≤ 100000) (h : XI Z) : XI (sI Z 33 b v) := by
  refine ⟨h.1, h.2.1, fun j hj => ?_, h.2.2.2⟩
  rw [sI_at]
  split
  · exact hv
  · exact h.2.2.1 j hj
theorem amt_in {k : Nat} {p : Int32} (hk : k ≤ 20) (hp : (1 : Int32).toInt ≤ p.toInt ∧ p.toInt ≤ (100000 : Int32).toInt) (hc : ¬ (100000 : Int32) < nI k * p) : 0 ≤ (nI k * p).toInt ∧ (nI k * p).toInt ≤ 100000 := by
  refine ⟨amt_ok hk hp, ?_⟩
  rw [Int32.lt_iff_toInt_lt] at hc
  have : (100000 : Int32).toInt = 100000 := rfl
  omega
set_option maxHeartbeats 4000000 in
set_option maxRecDepth 100000 in
theorem met_x_keep (l : Launch) (D : va_G) (cs : Nat → ClassId) (x : Nat) (ar : Nat → Nat) (B : BT) (Y : va_W) (Z : ZT) (sz : Nat) (p1 : Nat) (hn1 : p1 < 301) : Met l yX0_keep (ws_ yX0_keep cX0_keep 3 none) ({ frames := 0, cells := 0, slots := 0, locals := 0 }) (va_Pc [.ref x, .int (nI p1)] (wSt D cs (WX x ar cs Z B Y) sz)) (cQv (fun (u : ZT) => x_keep p1 Z = u) D (fun u => (WX x ar cs u B Y)) (WX x ar cs Z B Y) sz) 0 0 (va_A (WX x ar cs Z B Y) sz) := by
  refine gStart_v (C := RX0) rfl rfl (Nat.le_of_ble_eq_true rfl) ?_
  intro p e s mid args below meth c R Q A hx hb hml hown hts hK hA hRf hRl hRc hRs hnm hret hE ls hl
  have hRf : 0 ≤ R.frames := hRf
  have hRl : 0 ≤ R.locals := hRl
  have hl : lv_has ls 3 [(0, .ref x), (1, .int (nI p1))] := hl
  have hR : x_keep p1 Z = (x_keep_e2 (itR (x_keep_b2 p1) 0 8 Z)) := rfl
  refine lv_iconst (v := 0) hx hb dX0_keep_0 rfl ?_
  refine lv_istore_n (lv' := [(2, .int (0 : Int32)), (0, .ref x), (1, .int (nI p1))]) hx hb dX0_keep_1 rfl hl (by decide) rfl (fun ls hl => ?_)
  have hL2 : ∀ (k i2 : Nat) (w2 : ZT) (hi2 : i2 + k = 8) (hR : x_keep p1 Z = x_keep_e2 (itR (x_keep_b2 p1) i2 k w2)), ∀ (H : Heap) (locs : List Loc) (ls : Array Slot), EW D A s.heap (WX x ar cs w2 B Y) H locs → lv_has ls 3 [(0, .ref x), (1, .int (nI p1)), (2, .int (nI i2))] → W p l e R s mid args below meth c H locs 0 0 Q (F0 mid 2 ls []) := by
    intro k
    induction k with
    | zero =>
      intro i2 w2 hi2 hR H locs ls hE hl
      have hie2 : i2 = 8 := by omega
      have hR : x_keep p1 Z = w2 := hR
      refine lv_iload_n hx hb dX0_keep_2 rfl (lv_at hl 2 rfl) ?_
      refine lv_bipush (v := 8) hx hb dX0_keep_3 rfl ?_
      refine n_geT (a := i2) (b := 8) (by omega) (by omega) hx hb dX0_keep_5 (tgt := 47) (by decide) ?_
      have hl := lv_sub (l' := [(0, .ref x), (1, .int (nI p1))]) hl [0, 1] rfl
      exact hret w2 hR hE (Nat.le_refl 0) (Nat.le_refl 0) dX0_keep_47
    | succ k ih2 =>
      intro i2 w2 hi2 hR H locs ls hE hl
      have hlt2 : i2 < 8 := by omega
      have hB2 : x_keep_b2 p1 i2 w2 = x_keep_j40 p1 i2 w2 (if w2.1 30 i2 = 0 then (0 : Int32) else w2.1 32 i2) := rfl
      refine lv_iload_n hx hb dX0_keep_2 rfl (lv_at hl 2 rfl) ?_
      refine lv_bipush (v := 8) hx hb dX0_keep_3 rfl ?_
      refine n_geF (a := i2) (b := 8) (by omega) (by omega) hx hb dX0_keep_5 (tgt := 47) (by decide) ?_
      refine lv_aload_n hx hb dX0_keep_8 rfl (lv_at hl 0 rfl) ?_
      refine xg_21 hx hb hts hown hK hE dX0_keep_9 ?_
      refine lv_bipush (v := 8) hx hb dX0_keep_12 rfl ?_
      refine lv_iload_n hx hb dX0_keep_14 rfl (lv_at hl 1 rfl) ?_
      refine n_mul (a := 8) (b := p1) hx hb dX0_keep_15 ?_
      refine lv_iload_n hx hb dX0_keep_16 rfl (lv_at hl 2 rfl) ?_
      refine n_add (a := (8 * p1)) (b := i2) hx hb dX0_keep_17 ?_
      refine lv_aload_n hx hb dX0_keep_18 rfl (lv_at hl 0 rfl) ?_
      refine xg_10 hx hb hts hown hK hE dX0_keep_19 ?_
      refine lv_iload_n hx hb dX0_keep_22 rfl (lv_at hl 2 rfl) ?_
      refine xa_10 (n := i2) (by omega) hx hb hK hE dX0_keep_23 ?_
      have hJ40 : ∀ (w40 : Int32) (hB2 : x_keep_b2 p1 i2 w2 = x_keep_j40 p1 i2 w2 w40), ∀ (H : Heap) (locs : List Loc) (ls : Array Slot), EW D A s.heap (WX x ar cs w2 B Y) H locs → lv_has ls 3 [(0, .ref x), (1, .int (nI p1)), (2, .int (nI i2))] → W p l e R s mid args below meth c H locs 0 0 Q (F0 mid 40 ls [.int w40, .int (nI ((8 * p1) + i2)), .ref (ar 21)]) := by
        intro w40 hB2 H locs ls hE hl
        have hB2 : x_keep_b2 p1 i2 w2 = (sI w2 21 ((8 * p1) + i2) w40) := hB2
        refine xs_21 (n := ((8 * p1) + i2)) (by omega) hx hb hK hE dX0_keep_40 (fun H locs hE => ?_)
        refine n_inc (lv' := [(2, .int (nI (i2 + 1))), (0, .ref x), (1, .int (nI p1))]) hx hb dX0_keep_41 hl (k := 2) rfl (by decide) rfl (fun ls hl => ?_)
        refine lv_goto (tgt := 2) hx hb dX0_keep_44 (by decide) ?_
        exact ih2 (i2 + 1) (sI w2 21 ((8 * p1) + i2) w40) (by omega) (hR.trans (congrArg (fun z => x_keep_e2 (itR (x_keep_b2 p1) (i2 + 1) k z)) hB2)) _ _ _ hE (lv_sub hl [1, 2, 0] rfl)
      refine xnw_be (b := i2) (tgt := 31) hx hb dX0_keep_24 (by decide) (fun c24 => ?_) (fun c24 => ?_)
      · have hB2 : x_keep_b2 p1 i2 w2 = x_keep_j40 p1 i2 w2 (w2.1 32 i2) := hB2.trans (congrArg (fun z => x_keep_j40 p1 i2 w2 z) (if_neg c24))
        refine lv_aload_n hx hb dX0_keep_31 rfl (lv_at hl 0 rfl) ?_
        refine xg_10 hx hb hts hown hK hE dX0_keep_32 ?_
        refine lv_iload_n hx hb dX0_keep_35 rfl (lv_at hl 2 rfl) ?_
        refine xa_10 (n := i2) (by omega) hx hb hK hE dX0_keep_36 ?_
        refine xbg_32 (b := i2) (by omega) (by assumption) hx hb hts hown hK hE dX0_keep_37 ?_
        exact hJ40 (w2.1 32 i2)  hB2 _ _ _ hE (lv_sub hl [0, 1, 2] rfl)
      · have hB2 : x_keep_b2 p1 i2 w2 = x_keep_j40 p1 i2 w2 (0 : Int32) := hB2.trans (congrArg (fun z => x_keep_j40 p1 i2 w2 z) (if_pos c24))
        refine lv_iconst (v := 0) hx hb dX0_keep_27 rfl ?_
        refine lv_goto (tgt := 40) hx hb dX0_keep_28 (by decide) ?_
        exact hJ40 (0 : Int32)  hB2 _ _ _ hE (lv_sub hl [0, 1, 2] rfl)
  exact hL2 8 0 Z (by omega) hR _ _ _ hE (lv_sub hl [1, 2, 0] rfl)
section C_x_keep
variable {p : Program} {l : Launch} {e : Env} {R : Room} {s : State} {mid : MethodId} {args : Array Value} {below : List Frame} {meth : Method} {c : Code} {H : Heap} {locs : List Loc} {cells slots : Nat} {Q : State → Prop} {cc : ByteArray} {pc : Nat} {ls : Array Slot} {rest : List Value} {D : va_G} {A : Nat → Prop} {x : Nat} {ar : Nat → Nat} {cs : Nat → ClassId} {B : BT} {Y : va_W} {Z : ZT} {nL r : Nat}
theorem call_x_keep (hx : p.tables.exec = Jvm.exec) (hb : c.code = cc) (hml : c.maxLocals = nL) (hown : s.vm.findClass RX0 = some mid.cls) (hts : ∀ w ∈ lw_all, w.before args s = true) (hK : KK D cs s) (hA : ∀ q : Nat, s.heap.size ≤ q → A q) (hE : EW D A s.heap (WX x ar cs Z B Y) H locs) (hls : ls.size = nL) (p1 : Nat) (hn1 : p1 < 301) (h1 : 1 ≤ R.frames) (h2 : 22 ≤ R.locals) (h3 : (rest.map fun v => v.category).sum ≤ 8) (hd : decode cc pc = .ok (.invokevirtual 275, 3)) (hf : cells ≤ R.cells ∧ slots ≤ R.slots) (kk : ∀ (H1 : Heap) (locs1 : List Loc), EW D A s.heap (WX x ar cs (x_keep p1 Z) B Y) H1 locs1 → W p l e R s mid args below meth c H1 locs1 cells slots Q (F0 mid (pc + 3) ls (rest))) : W p l e R s mid args below meth c H locs cells slots Q (F0 mid pc ls (.int (nI p1) :: .ref x :: rest)) := 
  gCall_v (As := [.int (nI p1)]) (rest := rest) (q0 := 0) (ci := 0) (fs := XF ar Z) (T' := TX0) (N' := 29) hx hb hml hown hts hK hA hE hls (met_x_keep l D cs x ar B Y Z H.size p1 hn1) (cwV 1 hts (lw_V q718 q720 qs17 q84 q721) rfl rfl rfl (by decide +kernel) ⟨h1, h2⟩) rfl rfl rfl rfl h3 hd hf (fun u H1 locs1 hp _ hE => by subst hp; exact kk H1 locs1 hE)
end C_x_keep
def x_back_j32 (w32 : ZT) : ZT := w32
def x_back_b2 (i2 : Nat) (w2 : ZT) : ZT := x_back_j32 (if w2.1 30 i2 = 0 then w2 else sI w2 32 i2 (w2.1 21 i2))
def x_back_e2 (w2 : ZT) : ZT := w2
def x_back (Z : ZT) : ZT := x_back_e2 (itR x_back_b2 0 8 Z)
theorem back_facts {Z : ZT} (hX : XI Z) (hP : PI Z) : XI (x_back Z) ∧ (∀ k, k ≠ 32 → (x_back Z).1 k = Z.1 k) := by
  unfold x_back x_back_e2
  have h1 := itR_inv (f := x_back_b2) (n := 8) (P := fun _ s => (∀ k, k ≠ 32 → s.1 k = Z.1 k) ∧ ∀ b, b < 8 → 0 ≤ (s.1 32 b).toInt ∧ (s.1 32 b).toInt ≤ 100000) (fun i s hi hs => ?_) 8 0 Z rfl ⟨fun k _ => rfl, hX.1⟩
  · exact ⟨⟨h1.2, by rw [h1.1 36 (by decide)]; exact hX.2.1, by rw [h1.1 33 (by decide)]; exact hX.2.2.1, by rw [h1.1 11 (by decide), h1.1 30 (by decide)]; exact hX.2.2.2⟩, h1.1⟩
  · unfold x_back_b2 x_back_j32
    split
    · exact hs
    · refine ⟨fun k hk => by rw [sI_ne hk]; exact hs.1 k hk, fun b hb => ?_⟩
      rw [sI_at]
      split
      · rw [hs.1 21 (by decide)]
        exact hP i hi
      · exact hs.2 b hb
set_option maxHeartbeats 4000000 in
set_option maxRecDepth 100000 in
theorem met_x_back (l : Launch) (D : va_G) (cs : Nat → ClassId) (x : Nat) (ar : Nat → Nat) (B : BT) (Y : va_W) (Z : ZT) (sz : Nat)  : Met l yX0_back (ws_ yX0_back cX0_back 2 none) ({ frames := 0, cells := 0, slots := 0, locals := 0 }) (va_Pc [.ref x] (wSt D cs (WX x ar cs Z B Y) sz)) (cQv (fun (u : ZT) => x_back Z = u) D (fun u => (WX x ar cs u B Y)) (WX x ar cs Z B Y) sz) 0 0 (va_A (WX x ar cs Z B Y) sz) := by
  refine gStart_v (C := RX0) rfl rfl (Nat.le_of_ble_eq_true rfl) ?_
  intro p e s mid args below meth c R Q A hx hb hml hown hts hK hA hRf hRl hRc hRs hnm hret hE ls hl
  have hRf : 0 ≤ R.frames := hRf
  have hRl : 0 ≤ R.locals := hRl
  have hl : lv_has ls 2 [(0, .ref x)] := hl
  have hR : x_back Z = (x_back_e2 (itR x_back_b2 0 8 Z)) := rfl
  refine lv_iconst (v := 0) hx hb dX0_back_0 rfl ?_
  refine lv_istore_n (lv' := [(1, .int (0 : Int32)), (0, .ref x)]) hx hb dX0_back_1 rfl hl (by decide) rfl (fun ls hl => ?_)
  have hL2 : ∀ (k i2 : Nat) (w2 : ZT) (hi2 : i2 + k = 8) (hR : x_back Z = x_back_e2 (itR x_back_b2 i2 k w2)), ∀ (H : Heap) (locs : List Loc) (ls : Array Slot), EW D A s.heap (WX x ar cs w2 B Y) H locs → lv_has ls 2 [(0, .ref x), (1, .int (nI i2))] → W p l e R s mid args below meth c H locs 0 0 Q (F0 mid 2 ls []) := by
    intro k
    induction k with
    | zero =>
      intro i2 w2 hi2 hR H locs ls hE hl
      have hie2 : i2 = 8 := by omega
      have hR : x_back Z = w2 := hR
      refine lv_iload_n hx hb dX0_back_2 rfl (lv_at hl 1 rfl) ?_
      refine lv_bipush (v := 8) hx hb dX0_back_3 rfl ?_
      refine n_geT (a := i2) (b := 8) (by omega) (by omega) hx hb dX0_back_5 (tgt := 38) (by decide) ?_
      have hl := lv_sub (l' := [(0, .ref x)]) hl [0] rfl
      exact hret w2 hR hE (Nat.le_refl 0) (Nat.le_refl 0) dX0_back_38
    | succ k ih2 =>
      intro i2 w2 hi2 hR H locs ls hE hl
      have hlt2 : i2 < 8 := by omega
      have hB2 : x_back_b2 i2 w2 = x_back_j32 (if w2.1 30 i2 = 0 then w2 else sI w2 32 i2 (w2.1 21 i2)) := rfl
      refine lv_iload_n hx hb dX0_back_2 rfl (lv_at hl 1 rfl) ?_
      refine lv_bipush (v := 8) hx hb dX0_back_3 rfl ?_
      refine n_geF (a := i2) (b := 8) (by omega) (by omega) hx hb dX0_back_5 (tgt := 38) (by decide) ?_
      refine lv_aload_n hx hb dX0_back_8 rfl (lv_at hl 0 rfl) ?_
      refine xg_10 hx hb hts hown hK hE dX0_back_9 ?_
      refine lv_iload_n hx hb dX0_back_12 rfl (lv_at hl 1 rfl) ?_
      refine xa_10 (n := i2) (by omega) hx hb hK hE dX0_back_13 ?_
      have hJ32 : ∀ (w32 : ZT) (hB2 : x_back_b2 i2 w2 = x_back_j32 w32), ∀ (H : Heap) (locs : List Loc) (ls : Array Slot), EW D A s.heap (WX x ar cs w32 B Y) H locs → lv_has ls 2 [(0, .ref x), (1, .int (nI i2))] → W p l e R s mid args below meth c H locs 0 0 Q (F0 mid 32 ls []) := by
        intro w32 hB2 H locs ls hE hl
        have hB2 : x_back_b2 i2 w2 = w32 := hB2
        refine n_inc (lv' := [(1, .int (nI (i2 + 1))), (0, .ref x)]) hx hb dX0_back_32 hl (k := 1) rfl (by decide) rfl (fun ls hl => ?_)
        refine lv_goto (tgt := 2) hx hb dX0_back_35 (by decide) ?_
        exact ih2 (i2 + 1) w32 (by omega) (hR.trans (congrArg (fun z => x_back_e2 (itR x_back_b2 (i2 + 1) k z)) hB2)) _ _ _ hE (lv_sub hl [1, 0] rfl)
      refine xnn_be (b := i2) (tgt := 32) hx hb dX0_back_14 (by decide) (fun c14 => ?_) (fun c14 => ?_)
      · have hB2 : x_back_b2 i2 w2 = x_back_j32 w2 := hB2.trans (congrArg (fun z => x_back_j32 z) (if_pos c14))
        exact hJ32 w2  hB2 _ _ _ hE (lv_sub hl [0, 1] rfl)
      · have hB2 : x_back_b2 i2 w2 = x_back_j32 (sI w2 32 i2 (w2.1 21 i2)) := hB2.trans (congrArg (fun z => x_back_j32 z) (if_neg c14))
        refine lv_aload_n hx hb dX0_back_17 rfl (lv_at hl 0 rfl) ?_
        refine xg_10 hx hb hts hown hK hE dX0_back_18 ?_
        refine lv_iload_n hx hb dX0_back_21 rfl (lv_at hl 1 rfl) ?_
        refine xa_10 (n := i2) (by omega) hx hb hK hE dX0_back_22 ?_
        refine lv_aload_n hx hb dX0_back_23 rfl (lv_at hl 0 rfl) ?_
        refine xg_21 hx hb hts hown hK hE dX0_back_24 ?_
        refine lv_iload_n hx hb dX0_back_27 rfl (lv_at hl 1 rfl) ?_
        refine xa_21 (n := i2) (by omega) hx hb hK hE dX0_back_28 ?_
        refine xbp_32 (b := i2) (by omega) (by assumption) hx hb hts hown hK hE dX0_back_29 (fun H locs hE => ?_)
        exact hJ32 (sI w2 32 i2 (w2.1 21 i2))  hB2 _ _ _ hE (lv_sub hl [0, 1] rfl)
  exact hL2 8 0 Z (by omega) hR _ _ _ hE (lv_sub hl [1, 0] rfl)
section C_x_back
variable {p : Program} {l : Launch} {e : Env} {R : Room} {s : State} {mid : MethodId} {args : Array Value} {below : List Frame} {meth : Method} {c : Code} {H : Heap} {locs : List Loc} {cells slots : Nat} {Q : State → Prop} {cc : ByteArray} {pc : Nat} {ls : Array Slot} {rest : List Value} {D : va_G} {A : Nat → Prop} {x : Nat} {ar : Nat → Nat} {cs : Nat → ClassId} {B : BT} {Y : va_W} {Z : ZT} {nL r : Nat}
theorem call_x_back (hx : p.tables.exec = Jvm.exec) (hb : c.code = cc) (hml : c.maxLocals = nL) (hown : s.vm.findClass RX0 = some mid.cls) (hts : ∀ w ∈ lw_all, w.before args s = true) (hK : KK D cs s) (hA : ∀ q : Nat, s.heap.size ≤ q → A q) (hE : EW D A s.heap (WX x ar cs Z B Y) H locs) (hls : ls.size = nL)  (h1 : 1 ≤ R.frames) (h2 : 21 ≤ R.locals) (h3 : (rest.map fun v => v.category).sum ≤ 8) (hd : decode cc pc = .ok (.invokevirtual 284, 3)) (hf : cells ≤ R.cells ∧ slots ≤ R.slots) (kk : ∀ (H1 : Heap) (locs1 : List Loc), EW D A s.heap (WX x ar cs (x_back Z) B Y) H1 locs1 → W p l e R s mid args below meth c H1 locs1 cells slots Q (F0 mid (pc + 3) ls (rest))) : W p l e R s mid args below meth c H locs cells slots Q (F0 mid pc ls (.ref x :: rest)) := 
  gCall_v (As := []) (rest := rest) (q0 := 0) (ci := 0) (fs := XF ar Z) (T' := TX0) (N' := 29) hx hb hml hown hts hK hA hE hls (met_x_back l D cs x ar B Y Z H.size ) (cwV 0 hts (lw_V q726 q728 qs19 q84 q729) rfl rfl rfl (by decide +kernel) ⟨h1, h2⟩) rfl rfl rfl rfl h3 hd hf (fun u H1 locs1 hp _ hE => by subst hp; exact kk H1 locs1 hE)
end C_x_back
def x_areAlike_j45 (w5 : Int32) (w45 : Int32) : Int32 := (w5 &&& w45)
def x_areAlike_b5 (p1 : Nat) (p2 : Nat) (Z : ZT) (i5 : Nat) (w5 : Int32) : Int32 := x_areAlike_j45 w5 (if Z.1 21 ((8 * p1) + i5) = Z.1 21 ((8 * p2) + i5) then (1 : Int32) else (0 : Int32))
def x_areAlike_e5 (w5 : Int32) : Int32 := w5
def x_areAlike (p1 : Nat) (p2 : Nat) (Z : ZT) : Int32 := x_areAlike_e5 (itR (x_areAlike_b5 p1 p2 Z) 0 8 (1 : Int32))
set_option maxHeartbeats 4000000 in
set_option maxRecDepth 100000 in
theorem met_x_areAlike (l : Launch) (D : va_G) (cs : Nat → ClassId) (x : Nat) (ar : Nat → Nat) (B : BT) (Y : va_W) (Z : ZT) (sz : Nat) (p1 : Nat) (p2 : Nat) (hn1 : p1 < 301) (hn2 : p2 < 301) : Met l yX0_areAlike (ws_ yX0_areAlike cX0_areAlike 5 (some .boolean)) ({ frames := 0, cells := 0, slots := 0, locals := 0 }) (va_Pc [.ref x, .int (nI p1), .int (nI p2)] (wSt D cs (WX x ar cs Z B Y) sz)) (cQi (fun (v : Int32) (_ : Unit) => x_areAlike p1 p2 Z = v) D (fun _ => (WX x ar cs Z B Y)) (WX x ar cs Z B Y) sz) 0 0 (va_A (WX x ar cs Z B Y) sz) := by
  refine gStart_i (C := RX0) rfl rfl (Nat.le_of_ble_eq_true rfl) ?_
  intro p e s mid args below meth c R Q A hx hb hml hown hts hK hA hRf hRl hRc hRs hret hE ls hl
  have hRf : 0 ≤ R.frames := hRf
  have hRl : 0 ≤ R.locals := hRl
  have hl : lv_has ls 5 [(0, .ref x), (1, .int (nI p1)), (2, .int (nI p2))] := hl
  have hR : x_areAlike p1 p2 Z = (x_areAlike_e5 (itR (x_areAlike_b5 p1 p2 Z) 0 8 (1 : Int32))) := rfl
  refine lv_iconst (v := 1) hx hb dX0_areAlike_0 rfl ?_
  refine lv_istore_n (lv' := [(3, .int (1 : Int32)), (0, .ref x), (1, .int (nI p1)), (2, .int (nI p2))]) hx hb dX0_areAlike_1 rfl hl (by decide) rfl (fun ls hl => ?_)
  refine lv_iconst (v := 0) hx hb dX0_areAlike_2 rfl ?_
  refine lv_istore (lv' := [(4, .int (0 : Int32)), (3, .int (1 : Int32)), (0, .ref x), (1, .int (nI p1)), (2, .int (nI p2))]) hx hb dX0_areAlike_3 hl (by decide) rfl (fun ls hl => ?_)
  have hL5 : ∀ (k i5 : Nat) (w5 : Int32) (hi5 : i5 + k = 8) (hbo5 : w5 = 0 ∨ w5 = 1) (hR : x_areAlike p1 p2 Z = x_areAlike_e5 (itR (x_areAlike_b5 p1 p2 Z) i5 k w5)), ∀ (H : Heap) (locs : List Loc) (ls : Array Slot), EW D A s.heap (WX x ar cs Z B Y) H locs → lv_has ls 5 [(0, .ref x), (1, .int (nI p1)), (2, .int (nI p2)), (3, .int w5), (4, .int (nI i5))] → W p l e R s mid args below meth c H locs 0 0 Q (F0 mid 5 ls []) := by
    intro k
    induction k with
    | zero =>
      intro i5 w5 hi5 hbo5 hR H locs ls hE hl
      have hie5 : i5 = 8 := by omega
      have hR : x_areAlike p1 p2 Z = w5 := hR
      refine lv_iload hx hb dX0_areAlike_5 (lv_at hl 4 rfl) ?_
      refine lv_bipush (v := 8) hx hb dX0_areAlike_7 rfl ?_
      refine n_geT (a := i5) (b := 8) (by omega) (by omega) hx hb dX0_areAlike_9 (tgt := 53) (by decide) ?_
      have hl := lv_sub (l' := [(0, .ref x), (1, .int (nI p1)), (2, .int (nI p2)), (3, .int w5)]) hl [0, 1, 2, 3] rfl
      refine lv_iload_n hx hb dX0_areAlike_53 rfl (lv_at hl 3 rfl) ?_
      exact hret w5 () hR (nrw_bool hbo5) hE (Nat.le_refl 0) (Nat.le_refl 0) dX0_areAlike_54
    | succ k ih5 =>
      intro i5 w5 hi5 hbo5 hR H locs ls hE hl
      have hlt5 : i5 < 8 := by omega
      have hB5 : x_areAlike_b5 p1 p2 Z i5 w5 = x_areAlike_j45 w5 (if Z.1 21 ((8 * p1) + i5) = Z.1 21 ((8 * p2) + i5) then (1 : Int32) else (0 : Int32)) := rfl
      refine lv_iload hx hb dX0_areAlike_5 (lv_at hl 4 rfl) ?_
      refine lv_bipush (v := 8) hx hb dX0_areAlike_7 rfl ?_
      refine n_geF (a := i5) (b := 8) (by omega) (by omega) hx hb dX0_areAlike_9 (tgt := 53) (by decide) ?_
      refine lv_iload_n hx hb dX0_areAlike_12 rfl (lv_at hl 3 rfl) ?_
      refine lv_aload_n hx hb dX0_areAlike_13 rfl (lv_at hl 0 rfl) ?_
      refine xg_21 hx hb hts hown hK hE dX0_areAlike_14 ?_
      refine lv_bipush (v := 8) hx hb dX0_areAlike_17 rfl ?_
      refine lv_iload_n hx hb dX0_areAlike_19 rfl (lv_at hl 1 rfl) ?_
      refine n_mul (a := 8) (b := p1) hx hb dX0_areAlike_20 ?_
      refine lv_iload hx hb dX0_areAlike_21 (lv_at hl 4 rfl) ?_
      refine n_add (a := (8 * p1)) (b := i5) hx hb dX0_areAlike_23 ?_
      refine xa_21 (n := ((8 * p1) + i5)) (by omega) hx hb hK hE dX0_areAlike_24 ?_
      refine lv_aload_n hx hb dX0_areAlike_25 rfl (lv_at hl 0 rfl) ?_
      refine xg_21 hx hb hts hown hK hE dX0_areAlike_26 ?_
      refine lv_bipush (v := 8) hx hb dX0_areAlike_29 rfl ?_
      refine lv_iload_n hx hb dX0_areAlike_31 rfl (lv_at hl 2 rfl) ?_
      refine n_mul (a := 8) (b := p2) hx hb dX0_areAlike_32 ?_
      refine lv_iload hx hb dX0_areAlike_33 (lv_at hl 4 rfl) ?_
      refine n_add (a := (8 * p2)) (b := i5) hx hb dX0_areAlike_35 ?_
      refine xa_21 (n := ((8 * p2) + i5)) (by omega) hx hb hK hE dX0_areAlike_36 ?_
      have hJ45 : ∀ (w45 : Int32) (hw45 : w45 = 0 ∨ w45 = 1) (hB5 : x_areAlike_b5 p1 p2 Z i5 w5 = x_areAlike_j45 w5 w45), ∀ (H : Heap) (locs : List Loc) (ls : Array Slot), EW D A s.heap (WX x ar cs Z B Y) H locs → lv_has ls 5 [(0, .ref x), (1, .int (nI p1)), (2, .int (nI p2)), (4, .int (nI i5))] → W p l e R s mid args below meth c H locs 0 0 Q (F0 mid 45 ls [.int w45, .int w5]) := by
        intro w45 hw45 hB5 H locs ls hE hl
        have hB5 : x_areAlike_b5 p1 p2 Z i5 w5 = (w5 &&& w45) := hB5
        refine lv_iand hx hb dX0_areAlike_45 ?_
        refine lv_istore_n (lv' := [(3, .int (w5 &&& w45)), (0, .ref x), (1, .int (nI p1)), (2, .int (nI p2)), (4, .int (nI i5))]) hx hb dX0_areAlike_46 rfl hl (by decide) rfl (fun ls hl => ?_)
        refine n_inc (lv' := [(4, .int (nI (i5 + 1))), (3, .int (w5 &&& w45)), (0, .ref x), (1, .int (nI p1)), (2, .int (nI p2))]) hx hb dX0_areAlike_47 hl (k := 4) rfl (by decide) rfl (fun ls hl => ?_)
        refine lv_goto (tgt := 5) hx hb dX0_areAlike_50 (by decide) ?_
        exact ih5 (i5 + 1) (w5 &&& w45) (by omega) (by exact and01 hbo5 hw45) (hR.trans (congrArg (fun z => x_areAlike_e5 (itR (x_areAlike_b5 p1 p2 Z) (i5 + 1) k z)) hB5)) _ _ _ hE (lv_sub hl [2, 3, 4, 1, 0] rfl)
      refine lv_icmp_ne (tgt := 44) hx hb dX0_areAlike_37 (by decide) (fun c37 => ?_) (fun c37 => ?_)
      · have hB5 : x_areAlike_b5 p1 p2 Z i5 w5 = x_areAlike_j45 w5 (0 : Int32) := hB5.trans (congrArg (fun z => x_areAlike_j45 w5 z) (if_neg c37))
        refine lv_iconst (v := 0) hx hb dX0_areAlike_44 rfl ?_
        exact hJ45 (0 : Int32)  (by first | exact Or.inl rfl | exact Or.inr rfl) hB5 _ _ _ hE (lv_sub hl [0, 1, 2, 4] rfl)
      · have hB5 : x_areAlike_b5 p1 p2 Z i5 w5 = x_areAlike_j45 w5 (1 : Int32) := hB5.trans (congrArg (fun z => x_areAlike_j45 w5 z) (if_pos c37))
        refine lv_iconst (v := 1) hx hb dX0_areAlike_40 rfl ?_
        refine lv_goto (tgt := 45) hx hb dX0_areAlike_41 (by decide) ?_
        exact hJ45 (1 : Int32)  (by first | exact Or.inl rfl | exact Or.inr rfl) hB5 _ _ _ hE (lv_sub hl [0, 1, 2, 4] rfl)
  exact hL5 8 0 (1 : Int32) (by omega) (by exact Or.inr rfl) hR _ _ _ hE (lv_sub hl [2, 3, 4, 1, 0] rfl)
section C_x_areAlike
variable {p : Program} {l : Launch} {e : Env} {R : Room} {s : State} {mid : MethodId} {args : Array Value} {below : List Frame} {meth : Method} {c : Code} {H : Heap} {locs : List Loc} {cells slots : Nat} {Q : State → Prop} {cc : ByteArray} {pc : Nat} {ls : Array Slot} {rest : List Value} {D : va_G} {A : Nat → Prop} {x : Nat} {ar : Nat → Nat} {cs : Nat → ClassId} {B : BT} {Y : va_W} {Z : ZT} {nL r : Nat}
theorem call_x_areAlike (hx : p.tables.exec = Jvm.exec) (hb : c.code = cc) (hml : c.maxLocals = nL) (hown : s.vm.findClass RX0 = some mid.cls) (hts : ∀ w ∈ lw_all, w.before args s = true) (hK : KK D cs s) (hA : ∀ q : Nat, s.heap.size ≤ q → A q) (hE : EW D A s.heap (WX x ar cs Z B Y) H locs) (hls : ls.size = nL) (p1 : Nat) (p2 : Nat) (hn1 : p1 < 301) (hn2 : p2 < 301) (h1 : 1 ≤ R.frames) (h2 : 24 ≤ R.locals) (h3 : (rest.map fun v => v.category).sum ≤ 8) (hd : decode cc pc = .ok (.invokevirtual 278, 3)) (hf : cells ≤ R.cells ∧ slots ≤ R.slots) (kk : ∀ (H1 : Heap) (locs1 : List Loc), EW D A s.heap (WX x ar cs Z B Y) H1 locs1 → W p l e R s mid args below meth c H1 locs1 cells slots Q (F0 mid (pc + 3) ls (.int (x_areAlike p1 p2 Z) :: rest))) : W p l e R s mid args below meth c H locs cells slots Q (F0 mid pc ls (.int (nI p2) :: .int (nI p1) :: .ref x :: rest)) := 
  gCall_i (As := [.int (nI p1), .int (nI p2)]) (rest := rest) (q0 := 0) (ci := 0) (fs := XF ar Z) (T' := TX0) (N' := 29) hx hb hml hown hts hK hA hE hls (met_x_areAlike l D cs x ar B Y Z H.size p1 p2 hn1 hn2) (cwV 2 hts (lw_V q722 q724 qs18 q84 q725) rfl rfl rfl (by decide +kernel) ⟨h1, h2⟩) rfl rfl rfl rfl h3 hd hf (fun v u H1 locs1 hp _ hE => by subst hp; exact kk H1 locs1 hE)
end C_x_areAlike
def x_caught (Z : ZT) : Int64 := Z.2 16 0
set_option maxHeartbeats 4000000 in
set_option maxRecDepth 100000 in
theorem met_x_caught (l : Launch) (D : va_G) (cs : Nat → ClassId) (x : Nat) (ar : Nat → Nat) (B : BT) (Y : va_W) (Z : ZT) (sz : Nat)  : Met l yX0_caught (ws_ yX0_caught cX0_caught 1 (some .long)) ({ frames := 0, cells := 0, slots := 0, locals := 0 }) (va_Pc [.ref x] (wSt D cs (WX x ar cs Z B Y) sz)) (cQl (fun (v : Int64) (_ : Unit) => x_caught Z = v) D (fun _ => (WX x ar cs Z B Y)) (WX x ar cs Z B Y) sz) 0 0 (va_A (WX x ar cs Z B Y) sz) := by
  refine gStart_l (C := RX0) rfl rfl (Nat.le_of_ble_eq_true rfl) ?_
  intro p e s mid args below meth c R Q A hx hb hml hown hts hK hA hRf hRl hRc hRs hret hE ls hl
  have hRf : 0 ≤ R.frames := hRf
  have hRl : 0 ≤ R.locals := hRl
  have hl : lv_has ls 1 [(0, .ref x)] := hl
  have hR : x_caught Z = (Z.2 16 0) := rfl
  refine lv_aload_n hx hb dX0_caught_0 rfl (lv_at hl 0 rfl) ?_
  refine xg_16 hx hb hts hown hK hE dX0_caught_1 ?_
  exact hret (Z.2 16 0) () hR hE (Nat.le_refl 0) (Nat.le_refl 0) dX0_caught_4
def x_caughtBy (Z : ZT) : Int64 := Z.2 22 0
set_option maxHeartbeats 4000000 in
set_option maxRecDepth 100000 in
theorem met_x_caughtBy (l : Launch) (D : va_G) (cs : Nat → ClassId) (x : Nat) (ar : Nat → Nat) (B : BT) (Y : va_W) (Z : ZT) (sz : Nat)  : Met l yX0_caughtBy (ws_ yX0_caughtBy cX0_caughtBy 1 (some .long)) ({ frames := 0, cells := 0, slots := 0, locals := 0 }) (va_Pc [.ref x] (wSt D cs (WX x ar cs Z B Y) sz)) (cQl (fun (v : Int64) (_ : Unit) => x_caughtBy Z = v) D (fun _ => (WX x ar cs Z B Y)) (WX x ar cs Z B Y) sz) 0 0 (va_A (WX x ar cs Z B Y) sz) := by
  refine gStart_l (C := RX0) rfl rfl (Nat.le_of_ble_eq_true rfl) ?_
  intro p e s mid args below meth c R Q A hx hb hml hown hts hK hA hRf hRl hRc hRs hret hE ls hl
  have hRf : 0 ≤ R.frames := hRf
  have hRl : 0 ≤ R.locals := hRl
  have hl : lv_has ls 1 [(0, .ref x)] := hl
  have hR : x_caughtBy Z = (Z.2 22 0) := rfl
  refine lv_aload_n hx hb dX0_caughtBy_0 rfl (lv_at hl 0 rfl) ?_
  refine xg_22 hx hb hts hown hK hE dX0_caughtBy_1 ?_
  exact hret (Z.2 22 0) () hR hE (Nat.le_refl 0) (Nat.le_refl 0) dX0_caughtBy_4
def x_pass_j88 (w88 : ZT) : ZT := w88
def x_pass_b41 (i41 : Nat) (w41 : ZT) : ZT := x_pass_j88 (if (((w41.1 20 0) >>> ((nI i41) &&& 31)) &&& (1 : Int32)) = (1 : Int32) then sI (sL w41 16 0 ((w41.2 16 0) + ((w41.1 19 i41).toInt64))) 34 i41 (w41.1 5 0) else sL w41 16 0 ((w41.2 16 0) + ((w41.1 19 i41).toInt64)))
def x_pass_e41 (w41 : ZT) : ZT := sI w41 5 0 ((w41.1 5 0) + (1 : Int32))
def x_pass_c36 (wc36 : ZT) : ZT := x_pass_e41 (itR x_pass_b41 0 8 wc36)
def x_pass_b30 (i30 : Nat) (w30 : ZT) : ZT := x_pass_c36 (x_week w30)
def x_pass_e30 (w30 : ZT) : Int32 × ZT := (w30.1 5 0, w30)
def x_pass (p1 : Int32) (Z : ZT) : Int32 × ZT := (if (x_isIn p1 (0 : Int32) (500 : Int32)) = 0 then ((-1 : Int32), Z) else (if ((Z.1 5 0) + p1) ≤ (1000000 : Int32) then x_pass_e30 (itR x_pass_b30 0 (ix p1) Z) else ((-2 : Int32), Z)))
set_option maxHeartbeats 4000000 in
set_option maxRecDepth 100000 in
theorem met_x_pass (l : Launch) (D : va_G) (cs : Nat → ClassId) (x : Nat) (ar : Nat → Nat) (B : BT) (Y : va_W) (Z : ZT) (sz : Nat) (p1 : Int32) (hX : XI Z) : Met l yX0_pass (ws_ yX0_pass cX0_pass 4 (some .int)) ({ frames := 4, cells := 0, slots := 0, locals := 89 }) (va_Pc [.ref x, .int p1] (wSt D cs (WX x ar cs Z B Y) sz)) (cQi (fun (v : Int32) (u : ZT) => x_pass p1 Z = (v, u)) D (fun u => (WX x ar cs u B Y)) (WX x ar cs Z B Y) sz) 0 0 (va_A (WX x ar cs Z B Y) sz) := by
  refine gStart_i (C := RX0) rfl rfl (Nat.le_of_ble_eq_true rfl) ?_
  intro p e s mid args below meth c R Q A hx hb hml hown hts hK hA hRf hRl hRc hRs hret hE ls hl
  have hRf : 4 ≤ R.frames := hRf
  have hRl : 89 ≤ R.locals := hRl
  have hl : lv_has ls 4 [(0, .ref x), (1, .int p1)] := hl
  have hR : x_pass p1 Z = (if (x_isIn p1 (0 : Int32) (500 : Int32)) = 0 then ((-1 : Int32), Z) else (if ((Z.1 5 0) + p1) ≤ (1000000 : Int32) then x_pass_e30 (itR x_pass_b30 0 (ix p1) Z) else ((-2 : Int32), Z))) := rfl
  refine lv_iload_n hx hb dX0_pass_0 rfl (lv_at hl 1 rfl) ?_
  refine lv_iconst (v := 0) hx hb dX0_pass_1 rfl ?_
  refine lv_sipush (v := 500) hx hb dX0_pass_2 rfl ?_
  refine call_x_isIn hx hb hml hown hts hK hA hE hl.1 p1 (0 : Int32) (500 : Int32) (lz (show 1 ≤ 4 by decide) hRf) (lz (show 22 ≤ 89 by decide) hRl) (Nat.le_of_ble_eq_true rfl) dX0_pass_5 ⟨Nat.zero_le _, Nat.zero_le _⟩ (fun H locs hE => ?_)
  refine lv_if_ne (tgt := 13) hx hb dX0_pass_8 (by decide) (fun c8 => ?_) (fun c8 => ?_)
  · have hR : x_pass p1 Z = (if ((Z.1 5 0) + p1) ≤ (1000000 : Int32) then x_pass_e30 (itR x_pass_b30 0 (ix p1) Z) else ((-2 : Int32), Z)) := hR.trans (congrArg (fun z => z) (if_neg c8))
    refine lv_aload_n hx hb dX0_pass_13 rfl (lv_at hl 0 rfl) ?_
    refine xg_5 hx hb hts hown hK hE dX0_pass_14 ?_
    refine lv_iload_n hx hb dX0_pass_17 rfl (lv_at hl 1 rfl) ?_
    refine lv_iadd hx hb dX0_pass_18 ?_
    refine lv_ldcw (v := 1000000) hx hb hown (hts _ q646) dX0_pass_19 ?_
    refine lv_icmp_le (tgt := 28) hx hb dX0_pass_22 (by decide) (fun c22 => ?_) (fun c22 => ?_)
    · have hR : x_pass p1 Z = (x_pass_e30 (itR x_pass_b30 0 (ix p1) Z)) := hR.trans (congrArg (fun z => z) (if_pos c22))
      have hnp1 := vp_ix (x := p1) (N := 501) (vp_of_in (lo := 0) (hi := 500) c8 (by decide) (by decide)) (by decide)
      have hbnp1 := hnp1.2
      refine lv_iconst (v := 0) hx hb dX0_pass_28 rfl ?_
      refine lv_istore_n (lv' := [(2, .int (0 : Int32)), (0, .ref x), (1, .int p1)]) hx hb dX0_pass_29 rfl hl (by decide) rfl (fun ls hl => ?_)
      have hL30 : ∀ (k i30 : Nat) (w30 : ZT) (hi30 : i30 + k = (ix p1)) (hq30 : XI w30) (hR : x_pass p1 Z = x_pass_e30 (itR x_pass_b30 i30 k w30)), ∀ (H : Heap) (locs : List Loc) (ls : Array Slot), EW D A s.heap (WX x ar cs w30 B Y) H locs → lv_has ls 4 [(0, .ref x), (1, .int p1), (2, .int (nI i30))] → W p l e R s mid args below meth c H locs 0 0 Q (F0 mid 30 ls []) := by
        intro k
        induction k with
        | zero =>
          intro i30 w30 hi30 hq30 hR H locs ls hE hl
          have hie30 : i30 = (ix p1) := by omega
          have hR : x_pass p1 Z = (w30.1 5 0, w30) := hR
          refine lv_iload_n hx hb dX0_pass_30 rfl (lv_at hl 2 rfl) ?_
          refine lv_iload_n hx hb dX0_pass_31 rfl (lv_at hl 1 rfl) ?_
          refine top_nat hnp1.1 ?_
          refine n_geT (a := i30) (b := (ix p1)) (by omega) (by omega) hx hb dX0_pass_32 (tgt := 110) (by decide) ?_
          have hl := lv_sub (l' := [(0, .ref x), (1, .int p1)]) hl [0, 1] rfl
          refine lv_aload_n hx hb dX0_pass_110 rfl (lv_at hl 0 rfl) ?_
          refine xg_5 hx hb hts hown hK hE dX0_pass_111 ?_
          exact hret (w30.1 5 0) w30 hR rfl hE (Nat.le_refl 0) (Nat.le_refl 0) dX0_pass_114
        | succ k ih30 =>
          intro i30 w30 hi30 hq30 hR H locs ls hE hl
          have hlt30 : i30 < (ix p1) := by omega
          have hB30 : x_pass_b30 i30 w30 = x_pass_c36 (x_week w30) := rfl
          refine lv_iload_n hx hb dX0_pass_30 rfl (lv_at hl 2 rfl) ?_
          refine lv_iload_n hx hb dX0_pass_31 rfl (lv_at hl 1 rfl) ?_
          refine top_nat hnp1.1 ?_
          refine n_geF (a := i30) (b := (ix p1)) (by omega) (by omega) hx hb dX0_pass_32 (tgt := 110) (by decide) ?_
          refine lv_aload_n hx hb dX0_pass_35 rfl (lv_at hl 0 rfl) ?_
          refine call_x_week hx hb hml hown hts hK hA hE hl.1 (hq30) (lz (show 4 ≤ 4 by decide) hRf) (lz (show 89 ≤ 89 by decide) hRl) (Nat.le_of_ble_eq_true rfl) dX0_pass_36 ⟨Nat.zero_le _, Nat.zero_le _⟩ (fun H locs hE => ?_)
          have hNc36 : ∀ (wc36 : ZT) (hewc36 : wc36 = x_week w30) (hB30 : x_pass_b30 i30 w30 = x_pass_c36 wc36), ∀ (H : Heap) (locs : List Loc) (ls : Array Slot), EW D A s.heap (WX x ar cs wc36 B Y) H locs → lv_has ls 4 [(0, .ref x), (1, .int p1), (2, .int (nI i30))] → W p l e R s mid args below meth c H locs 0 0 Q (F0 mid 39 ls []) := by
            intro wc36 hewc36 hB30 H locs ls hE hl
            have hB30 : x_pass_b30 i30 w30 = (x_pass_e41 (itR x_pass_b41 0 8 wc36)) := hB30
            refine lv_iconst (v := 0) hx hb dX0_pass_39 rfl ?_
            refine lv_istore_n (lv' := [(3, .int (0 : Int32)), (0, .ref x), (1, .int p1), (2, .int (nI i30))]) hx hb dX0_pass_40 rfl hl (by decide) rfl (fun ls hl => ?_)
            have hL41 : ∀ (k i41 : Nat) (w41 : ZT) (hi41 : i41 + k = 8) (hq41 : XI w41) (hF41 : FB w41) (hB30 : x_pass_b30 i30 w30 = x_pass_e41 (itR x_pass_b41 i41 k w41)), ∀ (H : Heap) (locs : List Loc) (ls : Array Slot), EW D A s.heap (WX x ar cs w41 B Y) H locs → lv_has ls 4 [(0, .ref x), (1, .int p1), (2, .int (nI i30)), (3, .int (nI i41))] → W p l e R s mid args below meth c H locs 0 0 Q (F0 mid 41 ls []) := by
              intro k
              induction k with
              | zero =>
                intro i41 w41 hi41 hq41 hF41 hB30 H locs ls hE hl
                have hie41 : i41 = 8 := by omega
                have hB30 : x_pass_b30 i30 w30 = (sI w41 5 0 ((w41.1 5 0) + (1 : Int32))) := hB30
                refine lv_iload_n hx hb dX0_pass_41 rfl (lv_at hl 3 rfl) ?_
                refine lv_bipush (v := 8) hx hb dX0_pass_42 rfl ?_
                refine n_geT (a := i41) (b := 8) (by omega) (by omega) hx hb dX0_pass_44 (tgt := 94) (by decide) ?_
                have hl := lv_sub (l' := [(0, .ref x), (1, .int p1), (2, .int (nI i30))]) hl [0, 1, 2] rfl
                refine lv_aload_n hx hb dX0_pass_94 rfl (lv_at hl 0 rfl) ?_
                refine lv_dup hx hb dX0_pass_95 rfl ?_
                refine xg_5 hx hb hts hown hK hE dX0_pass_96 ?_
                refine lv_iconst (v := 1) hx hb dX0_pass_99 rfl ?_
                refine lv_iadd hx hb dX0_pass_100 ?_
                refine xp_5 hx hb hts hown hK hE dX0_pass_101 (fun H locs hE => ?_)
                refine n_inc (lv' := [(2, .int (nI (i30 + 1))), (0, .ref x), (1, .int p1)]) hx hb dX0_pass_104 hl (k := 2) rfl (by decide) rfl (fun ls hl => ?_)
                refine lv_goto (tgt := 30) hx hb dX0_pass_107 (by decide) ?_
                exact ih30 (i30 + 1) (sI w41 5 0 ((w41.1 5 0) + (1 : Int32))) (by omega) (by exact hq41) (hR.trans (congrArg (fun z => x_pass_e30 (itR x_pass_b30 (i30 + 1) k z)) hB30)) _ _ _ hE (lv_sub hl [1, 2, 0] rfl)
              | succ k ih41 =>
                intro i41 w41 hi41 hq41 hF41 hB30 H locs ls hE hl
                have hlt41 : i41 < 8 := by omega
                have hB41 : x_pass_b41 i41 w41 = x_pass_j88 (if (((w41.1 20 0) >>> ((nI i41) &&& 31)) &&& (1 : Int32)) = (1 : Int32) then sI (sL w41 16 0 ((w41.2 16 0) + ((w41.1 19 i41).toInt64))) 34 i41 (w41.1 5 0) else sL w41 16 0 ((w41.2 16 0) + ((w41.1 19 i41).toInt64))) := rfl
                refine lv_iload_n hx hb dX0_pass_41 rfl (lv_at hl 3 rfl) ?_
                refine lv_bipush (v := 8) hx hb dX0_pass_42 rfl ?_
                refine n_geF (a := i41) (b := 8) (by omega) (by omega) hx hb dX0_pass_44 (tgt := 94) (by decide) ?_
                refine lv_aload_n hx hb dX0_pass_47 rfl (lv_at hl 0 rfl) ?_
                refine lv_dup hx hb dX0_pass_48 rfl ?_
                refine xg_16 hx hb hts hown hK hE dX0_pass_49 ?_
                refine lv_aload_n hx hb dX0_pass_52 rfl (lv_at hl 0 rfl) ?_
                refine xg_19 hx hb hts hown hK hE dX0_pass_53 ?_
                refine lv_iload_n hx hb dX0_pass_56 rfl (lv_at hl 3 rfl) ?_
                refine xa_19 (n := i41) (by omega) hx hb hK hE dX0_pass_57 ?_
                refine lv_i2l hx hb dX0_pass_58 rfl ?_
                refine lv_ladd hx hb dX0_pass_59 ?_
                refine xp_16 hx hb hts hown hK hE dX0_pass_60 (fun H locs hE => ?_)
                refine lv_aload_n hx hb dX0_pass_63 rfl (lv_at hl 0 rfl) ?_
                refine xg_20 hx hb hts hown hK hE dX0_pass_64 ?_
                refine lv_iload_n hx hb dX0_pass_67 rfl (lv_at hl 3 rfl) ?_
                refine lv_ishr hx hb dX0_pass_68 ?_
                refine lv_iconst (v := 1) hx hb dX0_pass_69 rfl ?_
                refine lv_iand hx hb dX0_pass_70 ?_
                refine lv_iconst (v := 1) hx hb dX0_pass_71 rfl ?_
                have hJ88 : ∀ (w88 : ZT) (hq88 : XI w88) (hF88 : FB w88) (hB41 : x_pass_b41 i41 w41 = x_pass_j88 w88), ∀ (H : Heap) (locs : List Loc) (ls : Array Slot), EW D A s.heap (WX x ar cs w88 B Y) H locs → lv_has ls 4 [(0, .ref x), (1, .int p1), (2, .int (nI i30)), (3, .int (nI i41))] → W p l e R s mid args below meth c H locs 0 0 Q (F0 mid 88 ls []) := by
                  intro w88 hq88 hF88 hB41 H locs ls hE hl
                  have hB41 : x_pass_b41 i41 w41 = w88 := hB41
                  refine n_inc (lv' := [(3, .int (nI (i41 + 1))), (0, .ref x), (1, .int p1), (2, .int (nI i30))]) hx hb dX0_pass_88 hl (k := 3) rfl (by decide) rfl (fun ls hl => ?_)
                  refine lv_goto (tgt := 41) hx hb dX0_pass_91 (by decide) ?_
                  exact ih41 (i41 + 1) w88 (by omega) (by exact hq88) (by exact hF88) (hB30.trans (congrArg (fun z => x_pass_e41 (itR x_pass_b41 (i41 + 1) k z)) hB41)) _ _ _ hE (lv_sub hl [1, 2, 3, 0] rfl)
                refine lv_icmp_ne (tgt := 88) hx hb dX0_pass_72 (by decide) (fun c72 => ?_) (fun c72 => ?_)
                · have hB41 : x_pass_b41 i41 w41 = x_pass_j88 (sL w41 16 0 ((w41.2 16 0) + ((w41.1 19 i41).toInt64))) := hB41.trans (congrArg (fun z => x_pass_j88 z) (if_neg c72))
                  exact hJ88 (sL w41 16 0 ((w41.2 16 0) + ((w41.1 19 i41).toInt64)))  (by exact hq41) (by exact hF41) hB41 _ _ _ hE (lv_sub hl [0, 1, 2, 3] rfl)
                · have hB41 : x_pass_b41 i41 w41 = x_pass_j88 (sI (sL w41 16 0 ((w41.2 16 0) + ((w41.1 19 i41).toInt64))) 34 i41 (w41.1 5 0)) := hB41.trans (congrArg (fun z => x_pass_j88 z) (if_pos c72))
                  refine lv_aload_n hx hb dX0_pass_75 rfl (lv_at hl 0 rfl) ?_
                  refine xg_10 hx hb hts hown hK hE dX0_pass_76 ?_
                  refine lv_iload_n hx hb dX0_pass_79 rfl (lv_at hl 3 rfl) ?_
                  refine xa_10 (n := i41) (by omega) hx hb hK hE dX0_pass_80 ?_
                  refine lv_aload_n hx hb dX0_pass_81 rfl (lv_at hl 0 rfl) ?_
                  refine xg_5 hx hb hts hown hK hE dX0_pass_82 ?_
                  refine xbp_34 (b := i41) (by omega) (hF41 _ (by omega) ((b_sh1_ne _ (by omega)).mp c72)) hx hb hts hown hK hE dX0_pass_85 (fun H locs hE => ?_)
                  exact hJ88 (sI (sL w41 16 0 ((w41.2 16 0) + ((w41.1 19 i41).toInt64))) 34 i41 (w41.1 5 0))  (by exact hq41) (by exact hF41) hB41 _ _ _ hE (lv_sub hl [0, 1, 2, 3] rfl)
            exact hL41 8 0 wc36 (by omega) (by rw [hewc36]; exact (week_facts hq30).1) (by rw [hewc36]; exact (week_facts hq30).2.1) hB30 _ _ _ hE (lv_sub hl [1, 2, 3, 0] rfl)
          exact hNc36 (x_week w30) rfl hB30 _ _ _ hE (lv_sub hl [0, 1, 2] rfl)
      exact hL30 (ix p1) 0 Z (by omega) (by exact hX) hR _ _ _ hE (lv_sub hl [1, 2, 0] rfl)
    · have hR : x_pass p1 Z = ((-2 : Int32), Z) := hR.trans (congrArg (fun z => z) (if_neg c22))
      refine lv_bipush (v := -2) hx hb dX0_pass_25 rfl ?_
      exact hret (-2 : Int32) Z hR rfl hE (Nat.le_refl 0) (Nat.le_refl 0) dX0_pass_27
  · have hR : x_pass p1 Z = ((-1 : Int32), Z) := hR.trans (congrArg (fun z => z) (if_pos c8))
    refine lv_iconst (v := -1) hx hb dX0_pass_11 rfl ?_
    exact hret (-1 : Int32) Z hR rfl hE (Nat.le_refl 0) (Nat.le_refl 0) dX0_pass_12
def x_trial_j45 (w5 : Int64 × Nat × ZT) (wc20 : ZT) (w45 : Int64) : Bool × (Int64 × Nat × ZT) := (true, (w45, (w5.2.1 + 1), wc20))
def x_trial_c20 (p1 : Nat) (w5 : Int64 × Nat × ZT) (wc20 : ZT) : Bool × (Int64 × Nat × ZT) := x_trial_j45 w5 wc20 (if wc20.1 20 0 = 0 then (w5.1 + ((wc20.1 19 p1).toInt64)) else (-9 : Int64))
def x_trial_b5 (p1 : Nat) (p2 : Nat) (w5 : Int64 × Nat × ZT) : Bool × (Int64 × Nat × ZT) := (if p2 ≤ w5.2.1 then (false, (w5.1, w5.2.1, w5.2.2)) else (if w5.1 = (-9 : Int64) then (false, (w5.1, w5.2.1, w5.2.2)) else x_trial_c20 p1 w5 (x_week w5.2.2)))
def x_trial_c53 (w5 : Int64 × Nat × ZT) (wc53 : ZT) : Int64 × ZT := (w5.1, wc53)
def x_trial_e5 (w5 : Int64 × Nat × ZT) : Int64 × ZT := x_trial_c53 w5 (x_back w5.2.2)
def x_trial (p1 : Nat) (p2 : Nat) (Z : ZT) : Int64 × ZT := x_trial_e5 (wlR (x_trial_b5 p1 p2) (p2 + 1) ((0 : Int64), 0, Z))
theorem trial_facts {b n : Nat} {Z : ZT} (hX : XI Z) (hP : PI Z) : XI (x_trial b n Z).2 ∧ PI (x_trial b n Z).2 ∧ (x_trial b n Z).2.1 30 = Z.1 30 := by
  unfold x_trial
  have h1 := wlR_inv (f := x_trial_b5 b n) (P := fun s : Int64 × Nat × ZT => XI s.2.2 ∧ s.2.2.1 21 = Z.1 21 ∧ s.2.2.1 30 = Z.1 30) (fun s hs => ?_) (n + 1) ((0 : Int64), 0, Z) ⟨hX, rfl, rfl⟩
  · generalize wlR (x_trial_b5 b n) (n + 1) ((0 : Int64), 0, Z) = w at h1
    have hp : PI w.2.2 := by unfold PI; rw [h1.2.1]; exact hP
    have h2 := back_facts h1.1 hp
    unfold x_trial_e5 x_trial_c53
    generalize x_back w.2.2 = y at h2
    refine ⟨h2.1, ?_, ?_⟩
    · unfold PI
      rw [h2.2 21 (by decide)]
      exact hp
    · rw [h2.2 30 (by decide), h1.2.2]
  · unfold x_trial_b5
    split
    · exact hs
    · split
      · exact hs
      · have hw := week_facts hs.1
        unfold x_trial_c20 x_trial_j45
        generalize x_week s.2.2 = y at hw
        exact ⟨hw.1, (hw.2.2 21 (by decide) (by decide) (by decide) (by decide)).trans hs.2.1, (hw.2.2 30 (by decide) (by decide) (by decide) (by decide)).trans hs.2.2⟩
set_option maxHeartbeats 4000000 in
set_option maxRecDepth 100000 in
theorem met_x_trial (l : Launch) (D : va_G) (cs : Nat → ClassId) (x : Nat) (ar : Nat → Nat) (B : BT) (Y : va_W) (Z : ZT) (sz : Nat) (p1 : Nat) (p2 : Nat) (hn1 : p1 < 8) (hn2 : p2 < 201) (hX : XI Z) : Met l yX0_trial (ws_ yX0_trial cX0_trial 6 (some .long)) ({ frames := 4, cells := 0, slots := 0, locals := 89 }) (va_Pc [.ref x, .int (nI p1), .int (nI p2)] (wSt D cs (WX x ar cs Z B Y) sz)) (cQl (fun (v : Int64) (u : ZT) => x_trial p1 p2 Z = (v, u)) D (fun u => (WX x ar cs u B Y)) (WX x ar cs Z B Y) sz) 0 0 (va_A (WX x ar cs Z B Y) sz) := by
  refine gStart_l (C := RX0) rfl rfl (Nat.le_of_ble_eq_true rfl) ?_
  intro p e s mid args below meth c R Q A hx hb hml hown hts hK hA hRf hRl hRc hRs hret hE ls hl
  have hRf : 4 ≤ R.frames := hRf
  have hRl : 89 ≤ R.locals := hRl
  have hl : lv_has ls 6 [(0, .ref x), (1, .int (nI p1)), (2, .int (nI p2))] := hl
  have hR : x_trial p1 p2 Z = (x_trial_e5 (wlR (x_trial_b5 p1 p2) (p2 + 1) ((0 : Int64), 0, Z))) := rfl
  refine lv_lconst (v := 0) hx hb dX0_trial_0 rfl ?_
  refine lv_lstore_n (lv' := [(3, .long (0 : Int64)), (0, .ref x), (1, .int (nI p1)), (2, .int (nI p2))]) hx hb dX0_trial_1 rfl hl (by decide) rfl (fun ls hl => ?_)
  refine lv_iconst (v := 0) hx hb dX0_trial_2 rfl ?_
  refine lv_istore (lv' := [(5, .int (0 : Int32)), (3, .long (0 : Int64)), (0, .ref x), (1, .int (nI p1)), (2, .int (nI p2))]) hx hb dX0_trial_3 hl (by decide) rfl (fun ls hl => ?_)
  have hX5 : ∀ (w5 : Int64 × Nat × ZT) (hb5 : w5.2.1 ≤ p2) (hq5 : XI w5.2.2) (hR : x_trial p1 p2 Z = x_trial_e5 w5), ∀ (H : Heap) (locs : List Loc) (ls : Array Slot), EW D A s.heap (WX x ar cs w5.2.2 B Y) H locs → lv_has ls 6 [(0, .ref x), (3, .long w5.1)] → W p l e R s mid args below meth c H locs 0 0 Q (F0 mid 52 ls []) := by
    intro w5 hb5 hq5 hR H locs ls hE hl
    have hR : x_trial p1 p2 Z = (x_trial_c53 w5 (x_back w5.2.2)) := hR
    refine lv_aload_n hx hb dX0_trial_52 rfl (lv_at hl 0 rfl) ?_
    refine call_x_back hx hb hml hown hts hK hA hE hl.1 (lz (show 1 ≤ 4 by decide) hRf) (lz (show 21 ≤ 89 by decide) hRl) (Nat.le_of_ble_eq_true rfl) dX0_trial_53 ⟨Nat.zero_le _, Nat.zero_le _⟩ (fun H locs hE => ?_)
    have hNc53 : ∀ (wc53 : ZT) (hewc53 : wc53 = x_back w5.2.2) (hR : x_trial p1 p2 Z = x_trial_c53 w5 wc53), ∀ (H : Heap) (locs : List Loc) (ls : Array Slot), EW D A s.heap (WX x ar cs wc53 B Y) H locs → lv_has ls 6 [(3, .long w5.1)] → W p l e R s mid args below meth c H locs 0 0 Q (F0 mid 56 ls []) := by
      intro wc53 hewc53 hR H locs ls hE hl
      have hR : x_trial p1 p2 Z = (w5.1, wc53) := hR
      refine lv_lload_n hx hb dX0_trial_56 rfl (lv_at hl 0 rfl) ?_
      exact hret w5.1 wc53 hR hE (Nat.le_refl 0) (Nat.le_refl 0) dX0_trial_57
    exact hNc53 (x_back w5.2.2) rfl hR _ _ _ hE (lv_sub hl [1] rfl)
  have hL5 : ∀ (n : Nat) (w5 : Int64 × Nat × ZT) (hm5 : p2 - w5.2.1 < n) (hb5 : w5.2.1 ≤ p2) (hq5 : XI w5.2.2) (hR : x_trial p1 p2 Z = x_trial_e5 (wlR (x_trial_b5 p1 p2) n w5)), ∀ (H : Heap) (locs : List Loc) (ls : Array Slot), EW D A s.heap (WX x ar cs w5.2.2 B Y) H locs → lv_has ls 6 [(0, .ref x), (1, .int (nI p1)), (2, .int (nI p2)), (3, .long w5.1), (5, .int (nI w5.2.1))] → W p l e R s mid args below meth c H locs 0 0 Q (F0 mid 5 ls []) := by
    intro n
    induction n with
    | zero =>
      intro w5 hm5
      exact absurd hm5 (Nat.not_lt_zero _)
    | succ n ih5 =>
      intro w5 hm5 hb5 hq5 hR H locs ls hE hl
      have hB5 : x_trial_b5 p1 p2 w5 = (if p2 ≤ w5.2.1 then (false, (w5.1, w5.2.1, w5.2.2)) else (if w5.1 = (-9 : Int64) then (false, (w5.1, w5.2.1, w5.2.2)) else x_trial_c20 p1 w5 (x_week w5.2.2))) := rfl
      refine lv_iload hx hb dX0_trial_5 (lv_at hl 4 rfl) ?_
      refine lv_iload_n hx hb dX0_trial_7 rfl (lv_at hl 2 rfl) ?_
      refine n_icmp_ge (a := w5.2.1) (b := p2) (tgt := 52) (by omega) (by omega) hx hb dX0_trial_8 (by decide) (fun c8 => ?_) (fun c8 => ?_)
      · have hB5 : x_trial_b5 p1 p2 w5 = (false, (w5.1, w5.2.1, w5.2.2)) := hB5.trans (congrArg (fun z => z) (if_pos c8))
        exact hX5 (w5.1, w5.2.1, w5.2.2) (by exact hb5) (by exact hq5) (hR.trans (congrArg (fun z => x_trial_e5 z) (wl_f hB5))) _ _ _ hE (lv_sub hl [0, 3] rfl)
      · have hB5 : x_trial_b5 p1 p2 w5 = (if w5.1 = (-9 : Int64) then (false, (w5.1, w5.2.1, w5.2.2)) else x_trial_c20 p1 w5 (x_week w5.2.2)) := hB5.trans (congrArg (fun z => z) (if_neg c8))
        refine lv_lload_n hx hb dX0_trial_11 rfl (lv_at hl 3 rfl) ?_
        refine lv_ldc2 (v := -9) hx hb hown (hts _ q734) dX0_trial_12 ?_
        refine l_eq (tgt := 52) hx hb dX0_trial_15 dX0_trial_16 (by decide) (fun c15 => ?_) (fun c15 => ?_)
        · have hB5 : x_trial_b5 p1 p2 w5 = (false, (w5.1, w5.2.1, w5.2.2)) := hB5.trans (congrArg (fun z => z) (if_pos c15))
          exact hX5 (w5.1, w5.2.1, w5.2.2) (by exact hb5) (by exact hq5) (hR.trans (congrArg (fun z => x_trial_e5 z) (wl_f hB5))) _ _ _ hE (lv_sub hl [0, 3] rfl)
        · have hB5 : x_trial_b5 p1 p2 w5 = (x_trial_c20 p1 w5 (x_week w5.2.2)) := hB5.trans (congrArg (fun z => z) (if_neg c15))
          refine lv_aload_n hx hb dX0_trial_19 rfl (lv_at hl 0 rfl) ?_
          refine call_x_week hx hb hml hown hts hK hA hE hl.1 (hq5) (lz (show 4 ≤ 4 by decide) hRf) (lz (show 89 ≤ 89 by decide) hRl) (Nat.le_of_ble_eq_true rfl) dX0_trial_20 ⟨Nat.zero_le _, Nat.zero_le _⟩ (fun H locs hE => ?_)
          have hNc20 : ∀ (wc20 : ZT) (hewc20 : wc20 = x_week w5.2.2) (hB5 : x_trial_b5 p1 p2 w5 = x_trial_c20 p1 w5 wc20), ∀ (H : Heap) (locs : List Loc) (ls : Array Slot), EW D A s.heap (WX x ar cs wc20 B Y) H locs → lv_has ls 6 [(0, .ref x), (1, .int (nI p1)), (2, .int (nI p2)), (3, .long w5.1), (5, .int (nI w5.2.1))] → W p l e R s mid args below meth c H locs 0 0 Q (F0 mid 23 ls []) := by
            intro wc20 hewc20 hB5 H locs ls hE hl
            have hB5 : x_trial_b5 p1 p2 w5 = (x_trial_j45 w5 wc20 (if wc20.1 20 0 = 0 then (w5.1 + ((wc20.1 19 p1).toInt64)) else (-9 : Int64))) := hB5
            refine lv_aload_n hx hb dX0_trial_23 rfl (lv_at hl 0 rfl) ?_
            refine xg_20 hx hb hts hown hK hE dX0_trial_24 ?_
            have hJ45 : ∀ (w45 : Int64) (hB5 : x_trial_b5 p1 p2 w5 = x_trial_j45 w5 wc20 w45), ∀ (H : Heap) (locs : List Loc) (ls : Array Slot), EW D A s.heap (WX x ar cs wc20 B Y) H locs → lv_has ls 6 [(0, .ref x), (1, .int (nI p1)), (2, .int (nI p2)), (5, .int (nI w5.2.1))] → W p l e R s mid args below meth c H locs 0 0 Q (F0 mid 45 ls [.long w45]) := by
              intro w45 hB5 H locs ls hE hl
              have hB5 : x_trial_b5 p1 p2 w5 = (true, (w45, (w5.2.1 + 1), wc20)) := hB5
              refine lv_lstore_n (lv' := [(3, .long w45), (0, .ref x), (1, .int (nI p1)), (2, .int (nI p2)), (5, .int (nI w5.2.1))]) hx hb dX0_trial_45 rfl hl (by decide) rfl (fun ls hl => ?_)
              refine n_inc (lv' := [(5, .int (nI (w5.2.1 + 1))), (3, .long w45), (0, .ref x), (1, .int (nI p1)), (2, .int (nI p2))]) hx hb dX0_trial_46 hl (k := 4) rfl (by decide) rfl (fun ls hl => ?_)
              refine lv_goto (tgt := 5) hx hb dX0_trial_49 (by decide) ?_
              exact ih5 (w45, (w5.2.1 + 1), wc20) (by show p2 - (w5.2.1 + 1) < n; omega) (by show w5.2.1 + 1 ≤ p2; omega) (by show XI wc20; rw [hewc20]; exact (week_facts hq5).1) (hR.trans (congrArg (fun z => x_trial_e5 z) (wl_t hB5))) _ _ _ hE (lv_sub hl [2, 3, 4, 1, 0] rfl)
            refine lv_if_ne (tgt := 42) hx hb dX0_trial_27 (by decide) (fun c27 => ?_) (fun c27 => ?_)
            · have hB5 : x_trial_b5 p1 p2 w5 = x_trial_j45 w5 wc20 (-9 : Int64) := hB5.trans (congrArg (fun z => x_trial_j45 w5 wc20 z) (if_neg c27))
              refine lv_ldc2 (v := -9) hx hb hown (hts _ q734) dX0_trial_42 ?_
              exact hJ45 (-9 : Int64)  hB5 _ _ _ hE (lv_sub hl [0, 1, 2, 4] rfl)
            · have hB5 : x_trial_b5 p1 p2 w5 = x_trial_j45 w5 wc20 (w5.1 + ((wc20.1 19 p1).toInt64)) := hB5.trans (congrArg (fun z => x_trial_j45 w5 wc20 z) (if_pos c27))
              refine lv_lload_n hx hb dX0_trial_30 rfl (lv_at hl 3 rfl) ?_
              refine lv_aload_n hx hb dX0_trial_31 rfl (lv_at hl 0 rfl) ?_
              refine xg_19 hx hb hts hown hK hE dX0_trial_32 ?_
              refine lv_iload_n hx hb dX0_trial_35 rfl (lv_at hl 1 rfl) ?_
              refine xa_19 (n := p1) (by omega) hx hb hK hE dX0_trial_36 ?_
              refine lv_i2l hx hb dX0_trial_37 rfl ?_
              refine lv_ladd hx hb dX0_trial_38 ?_
              refine lv_goto (tgt := 45) hx hb dX0_trial_39 (by decide) ?_
              exact hJ45 (w5.1 + ((wc20.1 19 p1).toInt64))  hB5 _ _ _ hE (lv_sub hl [0, 1, 2, 4] rfl)
          exact hNc20 (x_week w5.2.2) rfl hB5 _ _ _ hE (lv_sub hl [0, 1, 2, 3, 4] rfl)
  exact hL5 (p2 + 1) ((0 : Int64), 0, Z) (by show p2 - 0 < p2 + 1; omega) (by exact Nat.zero_le _) (by exact hX) hR _ _ _ hE (lv_sub hl [2, 3, 4, 1, 0] rfl)
section C_x_trial
variable {p : Program} {l : Launch} {e : Env} {R : Room} {s : State} {mid : MethodId} {args : Array Value} {below : List Frame} {meth : Method} {c : Code} {H : Heap} {locs : List Loc} {cells slots : Nat} {Q : State → Prop} {cc : ByteArray} {pc : Nat} {ls : Array Slot} {rest : List Value} {D : va_G} {A : Nat → Prop} {x : Nat} {ar : Nat → Nat} {cs : Nat → ClassId} {B : BT} {Y : va_W} {Z : ZT} {nL r : Nat}
theorem call_x_trial (hx : p.tables.exec = Jvm.exec) (hb : c.code = cc) (hml : c.maxLocals = nL) (hown : s.vm.findClass RX0 = some mid.cls) (hts : ∀ w ∈ lw_all, w.before args s = true) (hK : KK D cs s) (hA : ∀ q : Nat, s.heap.size ≤ q → A q) (hE : EW D A s.heap (WX x ar cs Z B Y) H locs) (hls : ls.size = nL) (p1 : Nat) (p2 : Nat) (hn1 : p1 < 8) (hn2 : p2 < 201) (hX : XI Z) (h1 : 5 ≤ R.frames) (h2 : 114 ≤ R.locals) (h3 : (rest.map fun v => v.category).sum ≤ 8) (hd : decode cc pc = .ok (.invokevirtual 289, 3)) (hf : cells ≤ R.cells ∧ slots ≤ R.slots) (kk : ∀ (H1 : Heap) (locs1 : List Loc), EW D A s.heap (WX x ar cs ((x_trial p1 p2 Z).2) B Y) H1 locs1 → W p l e R s mid args below meth c H1 locs1 cells slots Q (F0 mid (pc + 3) ls (.long (x_trial p1 p2 Z).1 :: rest))) : W p l e R s mid args below meth c H locs cells slots Q (F0 mid pc ls (.int (nI p2) :: .int (nI p1) :: .ref x :: rest)) := 
  gCall_l (As := [.int (nI p1), .int (nI p2)]) (rest := rest) (q0 := 0) (ci := 0) (fs := XF ar Z) (T' := TX0) (N' := 29) hx hb hml hown hts hK hA hE hls (met_x_trial l D cs x ar B Y Z H.size p1 p2 hn1 hn2 hX) (cwV 2 hts (lw_V q735 q737 qs20 q84 q738) rfl rfl rfl (by decide +kernel) ⟨h1, h2⟩) rfl rfl rfl rfl h3 hd hf (fun v u H1 locs1 hp _ hE => by rw [hp] at kk; exact kk H1 locs1 hE)
end C_x_trial
def x_bestTake_j137 (w73 : Int32 × Int64 × Nat × ZT) (wc105 : Int64 × ZT) (w137 : Int32 × Int64) : Bool × (Int32 × Int64 × Nat × ZT) := (true, (w137.1, w137.2, (w73.2.2.1 + 1), wc105.2))
def x_bestTake_c105 (p2 : Int32) (w73 : Int32 × Int64 × Nat × ZT) (wc105 : Int64 × ZT) : Bool × (Int32 × Int64 × Nat × ZT) := x_bestTake_j137 w73 wc105 (if wc105.1 = (-9 : Int64) then (w73.1, w73.2.1) else (if wc105.1 ≤ w73.2.1 then (w73.1, w73.2.1) else (((nI w73.2.2.1) * p2), wc105.1)))
def x_bestTake_b73 (p1 : Int32) (p2 : Int32) (p3 : Int32) (w73 : Int32 × Int64 × Nat × ZT) : Bool × (Int32 × Int64 × Nat × ZT) := (if 20 ≤ w73.2.2.1 then (false, (w73.1, w73.2.1, w73.2.2.1, w73.2.2.2)) else (if (100000 : Int32) < ((nI w73.2.2.1) * p2) then (false, (w73.1, w73.2.1, w73.2.2.1, w73.2.2.2)) else x_bestTake_c105 p2 w73 (x_trial (ix p1) (ix p3) (sI w73.2.2.2 33 (ix p1) ((nI w73.2.2.1) * p2)))))
def x_bestTake_j171 (p1 : Int32) (wc47 : ZT) (w73 : Int32 × Int64 × Nat × ZT) (w171 : Int64) : Int32 × ZT := (w73.1, sL (sI w73.2.2.2 33 (ix p1) (wc47.1 33 (ix p1))) 22 0 w171)
def x_bestTake_e73 (p1 : Int32) (wc47 : ZT) (w73 : Int32 × Int64 × Nat × ZT) : Int32 × ZT := x_bestTake_j171 p1 wc47 w73 (if w73.1 = (-9 : Int32) then w73.2.2.2.2 22 0 else w73.2.1)
def x_bestTake_c47 (p1 : Int32) (p2 : Int32) (p3 : Int32) (wc47 : ZT) : Int32 × ZT := x_bestTake_e73 p1 wc47 (wlR (x_bestTake_b73 p1 p2 p3) 21 ((-9 : Int32), (-9 : Int64), 0, wc47))
def x_bestTake (p1 : Int32) (p2 : Int32) (p3 : Int32) (Z : ZT) : Int32 × ZT := (if (x_isBeing p1) = 0 then ((-1 : Int32), Z) else (if (x_isIn p2 (1 : Int32) (100000 : Int32)) = 0 then ((-1 : Int32), Z) else (if (x_isIn p3 (0 : Int32) (200 : Int32)) = 0 then ((-1 : Int32), Z) else (if Z.1 30 (ix p1) = 0 then (x_met 1 Z) else x_bestTake_c47 p1 p2 p3 (x_keep 0 Z)))))
set_option maxHeartbeats 4000000 in
set_option maxRecDepth 100000 in
theorem met_x_bestTake (l : Launch) (D : va_G) (cs : Nat → ClassId) (x : Nat) (ar : Nat → Nat) (B : BT) (Y : va_W) (Z : ZT) (sz : Nat) (p1 : Int32) (p2 : Int32) (p3 : Int32) (hX : XI Z) : Met l yX0_bestTake (ws_ yX0_bestTake cX0_bestTake 11 (some .int)) ({ frames := 5, cells := 0, slots := 0, locals := 114 }) (va_Pc [.ref x, .int p1, .int p2, .int p3] (wSt D cs (WX x ar cs Z B Y) sz)) (cQi (fun (v : Int32) (u : ZT) => x_bestTake p1 p2 p3 Z = (v, u)) D (fun u => (WX x ar cs u B Y)) (WX x ar cs Z B Y) sz) 0 0 (va_A (WX x ar cs Z B Y) sz) := by
  refine gStart_i (C := RX0) rfl rfl (Nat.le_of_ble_eq_true rfl) ?_
  intro p e s mid args below meth c R Q A hx hb hml hown hts hK hA hRf hRl hRc hRs hret hE ls hl
  have hRf : 5 ≤ R.frames := hRf
  have hRl : 114 ≤ R.locals := hRl
  have hl : lv_has ls 11 [(0, .ref x), (1, .int p1), (2, .int p2), (3, .int p3)] := hl
  have hR : x_bestTake p1 p2 p3 Z = (if (x_isBeing p1) = 0 then ((-1 : Int32), Z) else (if (x_isIn p2 (1 : Int32) (100000 : Int32)) = 0 then ((-1 : Int32), Z) else (if (x_isIn p3 (0 : Int32) (200 : Int32)) = 0 then ((-1 : Int32), Z) else (if Z.1 30 (ix p1) = 0 then (x_met 1 Z) else x_bestTake_c47 p1 p2 p3 (x_keep 0 Z))))) := rfl
  refine lv_iload_n hx hb dX0_bestTake_0 rfl (lv_at hl 1 rfl) ?_
  refine call_x_isBeing hx hb hml hown hts hK hA hE hl.1 p1 (lz (show 2 ≤ 5 by decide) hRf) (lz (show 42 ≤ 114 by decide) hRl) (Nat.le_of_ble_eq_true rfl) dX0_bestTake_1 ⟨Nat.zero_le _, Nat.zero_le _⟩ (fun H locs hE => ?_)
  refine lv_if_eq (tgt := 28) hx hb dX0_bestTake_4 (by decide) (fun c4 => ?_) (fun c4 => ?_)
  · have hR : x_bestTake p1 p2 p3 Z = ((-1 : Int32), Z) := hR.trans (congrArg (fun z => z) (if_pos c4))
    refine lv_iconst (v := -1) hx hb dX0_bestTake_28 rfl ?_
    exact hret (-1 : Int32) Z hR rfl hE (Nat.le_refl 0) (Nat.le_refl 0) dX0_bestTake_29
  · have hR : x_bestTake p1 p2 p3 Z = (if (x_isIn p2 (1 : Int32) (100000 : Int32)) = 0 then ((-1 : Int32), Z) else (if (x_isIn p3 (0 : Int32) (200 : Int32)) = 0 then ((-1 : Int32), Z) else (if Z.1 30 (ix p1) = 0 then (x_met 1 Z) else x_bestTake_c47 p1 p2 p3 (x_keep 0 Z)))) := hR.trans (congrArg (fun z => z) (if_neg c4))
    refine lv_iload_n hx hb dX0_bestTake_7 rfl (lv_at hl 2 rfl) ?_
    refine lv_iconst (v := 1) hx hb dX0_bestTake_8 rfl ?_
    refine lv_ldc (v := 100000) hx hb hown (hts _ q421) dX0_bestTake_9 ?_
    refine call_x_isIn hx hb hml hown hts hK hA hE hl.1 p2 (1 : Int32) (100000 : Int32) (lz (show 1 ≤ 5 by decide) hRf) (lz (show 22 ≤ 114 by decide) hRl) (Nat.le_of_ble_eq_true rfl) dX0_bestTake_11 ⟨Nat.zero_le _, Nat.zero_le _⟩ (fun H locs hE => ?_)
    refine lv_if_eq (tgt := 28) hx hb dX0_bestTake_14 (by decide) (fun c14 => ?_) (fun c14 => ?_)
    · have hR : x_bestTake p1 p2 p3 Z = ((-1 : Int32), Z) := hR.trans (congrArg (fun z => z) (if_pos c14))
      refine lv_iconst (v := -1) hx hb dX0_bestTake_28 rfl ?_
      exact hret (-1 : Int32) Z hR rfl hE (Nat.le_refl 0) (Nat.le_refl 0) dX0_bestTake_29
    · have hR : x_bestTake p1 p2 p3 Z = (if (x_isIn p3 (0 : Int32) (200 : Int32)) = 0 then ((-1 : Int32), Z) else (if Z.1 30 (ix p1) = 0 then (x_met 1 Z) else x_bestTake_c47 p1 p2 p3 (x_keep 0 Z))) := hR.trans (congrArg (fun z => z) (if_neg c14))
      refine lv_iload_n hx hb dX0_bestTake_17 rfl (lv_at hl 3 rfl) ?_
      refine lv_iconst (v := 0) hx hb dX0_bestTake_18 rfl ?_
      refine lv_sipush (v := 200) hx hb dX0_bestTake_19 rfl ?_
      refine call_x_isIn hx hb hml hown hts hK hA hE hl.1 p3 (0 : Int32) (200 : Int32) (lz (show 1 ≤ 5 by decide) hRf) (lz (show 22 ≤ 114 by decide) hRl) (Nat.le_of_ble_eq_true rfl) dX0_bestTake_22 ⟨Nat.zero_le _, Nat.zero_le _⟩ (fun H locs hE => ?_)
      refine lv_if_ne (tgt := 30) hx hb dX0_bestTake_25 (by decide) (fun c25 => ?_) (fun c25 => ?_)
      · have hR : x_bestTake p1 p2 p3 Z = (if Z.1 30 (ix p1) = 0 then (x_met 1 Z) else x_bestTake_c47 p1 p2 p3 (x_keep 0 Z)) := hR.trans (congrArg (fun z => z) (if_neg c25))
        have hp2 := m_in_bd (lo := 1) (hi := 100000) c14
        have hnp1 := vp_ix (x := p1) (N := 8) (xBe_vp c4) (by decide)
        have hbnp1 := hnp1.2
        have hnp3 := vp_ix (x := p3) (N := 201) (vp_of_in (lo := 0) (hi := 200) c25 (by decide) (by decide)) (by decide)
        have hbnp3 := hnp3.2
        refine lv_aload_n hx hb dX0_bestTake_30 rfl (lv_at hl 0 rfl) ?_
        refine xg_10 hx hb hts hown hK hE dX0_bestTake_31 ?_
        refine lv_iload_n hx hb dX0_bestTake_34 rfl (lv_at hl 1 rfl) ?_
        refine top_nat hnp1.1 ?_
        refine xa_10 (n := (ix p1)) (by omega) hx hb hK hE dX0_bestTake_35 ?_
        refine xnw_be (b := (ix p1)) (tgt := 45) hx hb dX0_bestTake_36 (by decide) (fun c36 => ?_) (fun c36 => ?_)
        · have hR : x_bestTake p1 p2 p3 Z = (x_bestTake_c47 p1 p2 p3 (x_keep 0 Z)) := hR.trans (congrArg (fun z => z) (if_neg c36))
          refine lv_aload_n hx hb dX0_bestTake_45 rfl (lv_at hl 0 rfl) ?_
          refine lv_iconst (v := 0) hx hb dX0_bestTake_46 rfl ?_
          refine call_x_keep hx hb hml hown hts hK hA hE hl.1 0 (by omega) (lz (show 1 ≤ 5 by decide) hRf) (lz (show 22 ≤ 114 by decide) hRl) (Nat.le_of_ble_eq_true rfl) dX0_bestTake_47 ⟨Nat.zero_le _, Nat.zero_le _⟩ (fun H locs hE => ?_)
          have hNc47 : ∀ (wc47 : ZT) (hewc47 : wc47 = x_keep 0 Z) (hR : x_bestTake p1 p2 p3 Z = x_bestTake_c47 p1 p2 p3 wc47), ∀ (H : Heap) (locs : List Loc) (ls : Array Slot), EW D A s.heap (WX x ar cs wc47 B Y) H locs → lv_has ls 11 [(0, .ref x), (1, .int p1), (2, .int p2), (3, .int p3)] → W p l e R s mid args below meth c H locs 0 0 Q (F0 mid 50 ls []) := by
            intro wc47 hewc47 hR H locs ls hE hl
            have hR : x_bestTake p1 p2 p3 Z = (x_bestTake_e73 p1 wc47 (wlR (x_bestTake_b73 p1 p2 p3) 21 ((-9 : Int32), (-9 : Int64), 0, wc47))) := hR
            refine lv_aload_n hx hb dX0_bestTake_50 rfl (lv_at hl 0 rfl) ?_
            refine xg_10 hx hb hts hown hK hE dX0_bestTake_51 ?_
            refine lv_iload_n hx hb dX0_bestTake_54 rfl (lv_at hl 1 rfl) ?_
            refine top_nat hnp1.1 ?_
            refine xa_10 (n := (ix p1)) (by omega) hx hb hK hE dX0_bestTake_55 ?_
            refine xbg_33 (b := (ix p1)) (by omega) (by rw [hewc47, keep_fr (by decide)]; exact c36) hx hb hts hown hK hE dX0_bestTake_56 ?_
            refine lv_istore (lv' := [(4, .int (wc47.1 33 (ix p1))), (0, .ref x), (1, .int p1), (2, .int p2), (3, .int p3)]) hx hb dX0_bestTake_59 hl (by decide) rfl (fun ls hl => ?_)
            refine lv_bipush (v := -9) hx hb dX0_bestTake_61 rfl ?_
            refine lv_istore (lv' := [(5, .int (-9 : Int32)), (4, .int (wc47.1 33 (ix p1))), (0, .ref x), (1, .int p1), (2, .int p2), (3, .int p3)]) hx hb dX0_bestTake_63 hl (by decide) rfl (fun ls hl => ?_)
            refine lv_ldc2 (v := -9) hx hb hown (hts _ q734) dX0_bestTake_65 ?_
            refine lv_lstore (lv' := [(6, .long (-9 : Int64)), (5, .int (-9 : Int32)), (4, .int (wc47.1 33 (ix p1))), (0, .ref x), (1, .int p1), (2, .int p2), (3, .int p3)]) hx hb dX0_bestTake_68 hl (by decide) rfl (fun ls hl => ?_)
            refine lv_iconst (v := 0) hx hb dX0_bestTake_70 rfl ?_
            refine lv_istore (lv' := [(8, .int (0 : Int32)), (6, .long (-9 : Int64)), (5, .int (-9 : Int32)), (4, .int (wc47.1 33 (ix p1))), (0, .ref x), (1, .int p1), (2, .int p2), (3, .int p3)]) hx hb dX0_bestTake_71 hl (by decide) rfl (fun ls hl => ?_)
            have hX73 : ∀ (w73 : Int32 × Int64 × Nat × ZT) (hb73 : w73.2.2.1 ≤ 20) (hq73 : XI w73.2.2.2) (hpi73 : PI w73.2.2.2) (hn73 : ¬ w73.2.2.2.1 30 (ix p1) = 0) (hR : x_bestTake p1 p2 p3 Z = x_bestTake_e73 p1 wc47 w73), ∀ (H : Heap) (locs : List Loc) (ls : Array Slot), EW D A s.heap (WX x ar cs w73.2.2.2 B Y) H locs → lv_has ls 11 [(0, .ref x), (1, .int p1), (4, .int (wc47.1 33 (ix p1))), (5, .int w73.1), (6, .long w73.2.1)] → W p l e R s mid args below meth c H locs 0 0 Q (F0 mid 143 ls []) := by
              intro w73 hb73 hq73 hpi73 hn73 hR H locs ls hE hl
              have hR : x_bestTake p1 p2 p3 Z = (x_bestTake_j171 p1 wc47 w73 (if w73.1 = (-9 : Int32) then w73.2.2.2.2 22 0 else w73.2.1)) := hR
              refine lv_aload_n hx hb dX0_bestTake_143 rfl (lv_at hl 0 rfl) ?_
              refine xg_10 hx hb hts hown hK hE dX0_bestTake_144 ?_
              refine lv_iload_n hx hb dX0_bestTake_147 rfl (lv_at hl 1 rfl) ?_
              refine top_nat hnp1.1 ?_
              refine xa_10 (n := (ix p1)) (by omega) hx hb hK hE dX0_bestTake_148 ?_
              refine lv_iload hx hb dX0_bestTake_149 (lv_at hl 2 rfl) ?_
              refine xbp_33 (b := (ix p1)) (by omega) (hn73) hx hb hts hown hK hE dX0_bestTake_151 (fun H locs hE => ?_)
              refine lv_aload_n hx hb dX0_bestTake_154 rfl (lv_at hl 0 rfl) ?_
              refine lv_iload hx hb dX0_bestTake_155 (lv_at hl 3 rfl) ?_
              refine lv_bipush (v := -9) hx hb dX0_bestTake_157 rfl ?_
              have hJ171 : ∀ (w171 : Int64) (hR : x_bestTake p1 p2 p3 Z = x_bestTake_j171 p1 wc47 w73 w171), ∀ (H : Heap) (locs : List Loc) (ls : Array Slot), EW D A s.heap (WX x ar cs (sI w73.2.2.2 33 (ix p1) (wc47.1 33 (ix p1))) B Y) H locs → lv_has ls 11 [(5, .int w73.1)] → W p l e R s mid args below meth c H locs 0 0 Q (F0 mid 171 ls [.long w171, .ref x]) := by
                intro w171 hR H locs ls hE hl
                have hR : x_bestTake p1 p2 p3 Z = (w73.1, sL (sI w73.2.2.2 33 (ix p1) (wc47.1 33 (ix p1))) 22 0 w171) := hR
                refine xp_22 hx hb hts hown hK hE dX0_bestTake_171 (fun H locs hE => ?_)
                refine lv_iload hx hb dX0_bestTake_174 (lv_at hl 0 rfl) ?_
                exact hret w73.1 (sL (sI w73.2.2.2 33 (ix p1) (wc47.1 33 (ix p1))) 22 0 w171) hR rfl hE (Nat.le_refl 0) (Nat.le_refl 0) dX0_bestTake_176
              refine lv_icmp_ne (tgt := 169) hx hb dX0_bestTake_159 (by decide) (fun c159 => ?_) (fun c159 => ?_)
              · have hR : x_bestTake p1 p2 p3 Z = x_bestTake_j171 p1 wc47 w73 w73.2.1 := hR.trans (congrArg (fun z => x_bestTake_j171 p1 wc47 w73 z) (if_neg c159))
                refine lv_lload hx hb dX0_bestTake_169 (lv_at hl 4 rfl) ?_
                exact hJ171 w73.2.1  hR _ _ _ hE (lv_sub hl [3] rfl)
              · have hR : x_bestTake p1 p2 p3 Z = x_bestTake_j171 p1 wc47 w73 (w73.2.2.2.2 22 0) := hR.trans (congrArg (fun z => x_bestTake_j171 p1 wc47 w73 z) (if_pos c159))
                refine lv_aload_n hx hb dX0_bestTake_162 rfl (lv_at hl 0 rfl) ?_
                refine xg_22 hx hb hts hown hK hE dX0_bestTake_163 ?_
                refine lv_goto (tgt := 171) hx hb dX0_bestTake_166 (by decide) ?_
                exact hJ171 (w73.2.2.2.2 22 0)  hR _ _ _ hE (lv_sub hl [3] rfl)
            have hL73 : ∀ (n : Nat) (w73 : Int32 × Int64 × Nat × ZT) (hm73 : 20 - w73.2.2.1 < n) (hb73 : w73.2.2.1 ≤ 20) (hq73 : XI w73.2.2.2) (hpi73 : PI w73.2.2.2) (hn73 : ¬ w73.2.2.2.1 30 (ix p1) = 0) (hR : x_bestTake p1 p2 p3 Z = x_bestTake_e73 p1 wc47 (wlR (x_bestTake_b73 p1 p2 p3) n w73)), ∀ (H : Heap) (locs : List Loc) (ls : Array Slot), EW D A s.heap (WX x ar cs w73.2.2.2 B Y) H locs → lv_has ls 11 [(0, .ref x), (1, .int p1), (2, .int p2), (3, .int p3), (4, .int (wc47.1 33 (ix p1))), (5, .int w73.1), (6, .long w73.2.1), (8, .int (nI w73.2.2.1))] → W p l e R s mid args below meth c H locs 0 0 Q (F0 mid 73 ls []) := by
              intro n
              induction n with
              | zero =>
                intro w73 hm73
                exact absurd hm73 (Nat.not_lt_zero _)
              | succ n ih73 =>
                intro w73 hm73 hb73 hq73 hpi73 hn73 hR H locs ls hE hl
                have hB73 : x_bestTake_b73 p1 p2 p3 w73 = (if 20 ≤ w73.2.2.1 then (false, (w73.1, w73.2.1, w73.2.2.1, w73.2.2.2)) else (if (100000 : Int32) < ((nI w73.2.2.1) * p2) then (false, (w73.1, w73.2.1, w73.2.2.1, w73.2.2.2)) else x_bestTake_c105 p2 w73 (x_trial (ix p1) (ix p3) (sI w73.2.2.2 33 (ix p1) ((nI w73.2.2.1) * p2))))) := rfl
                refine lv_iload hx hb dX0_bestTake_73 (lv_at hl 7 rfl) ?_
                refine lv_bipush (v := 20) hx hb dX0_bestTake_75 rfl ?_
                refine n_icmp_ge (a := w73.2.2.1) (b := 20) (tgt := 143) (by omega) (by omega) hx hb dX0_bestTake_77 (by decide) (fun c77 => ?_) (fun c77 => ?_)
                · have hB73 : x_bestTake_b73 p1 p2 p3 w73 = (false, (w73.1, w73.2.1, w73.2.2.1, w73.2.2.2)) := hB73.trans (congrArg (fun z => z) (if_pos c77))
                  exact hX73 (w73.1, w73.2.1, w73.2.2.1, w73.2.2.2) (by exact hb73) (by exact hq73) (by exact hpi73) (by exact hn73) (hR.trans (congrArg (fun z => x_bestTake_e73 p1 wc47 z) (wl_f hB73))) _ _ _ hE (lv_sub hl [0, 1, 4, 5, 6] rfl)
                · have hB73 : x_bestTake_b73 p1 p2 p3 w73 = (if (100000 : Int32) < ((nI w73.2.2.1) * p2) then (false, (w73.1, w73.2.1, w73.2.2.1, w73.2.2.2)) else x_bestTake_c105 p2 w73 (x_trial (ix p1) (ix p3) (sI w73.2.2.2 33 (ix p1) ((nI w73.2.2.1) * p2)))) := hB73.trans (congrArg (fun z => z) (if_neg c77))
                  refine lv_iload hx hb dX0_bestTake_80 (lv_at hl 7 rfl) ?_
                  refine lv_iload_n hx hb dX0_bestTake_82 rfl (lv_at hl 2 rfl) ?_
                  refine lv_imul hx hb dX0_bestTake_83 ?_
                  refine lv_ldc (v := 100000) hx hb hown (hts _ q421) dX0_bestTake_84 ?_
                  refine lv_icmp_gt (tgt := 143) hx hb dX0_bestTake_86 (by decide) (fun c86 => ?_) (fun c86 => ?_)
                  · have hB73 : x_bestTake_b73 p1 p2 p3 w73 = (false, (w73.1, w73.2.1, w73.2.2.1, w73.2.2.2)) := hB73.trans (congrArg (fun z => z) (if_pos c86))
                    exact hX73 (w73.1, w73.2.1, w73.2.2.1, w73.2.2.2) (by exact hb73) (by exact hq73) (by exact hpi73) (by exact hn73) (hR.trans (congrArg (fun z => x_bestTake_e73 p1 wc47 z) (wl_f hB73))) _ _ _ hE (lv_sub hl [0, 1, 4, 5, 6] rfl)
                  · have hB73 : x_bestTake_b73 p1 p2 p3 w73 = (x_bestTake_c105 p2 w73 (x_trial (ix p1) (ix p3) (sI w73.2.2.2 33 (ix p1) ((nI w73.2.2.1) * p2)))) := hB73.trans (congrArg (fun z => z) (if_neg c86))
                    refine lv_aload_n hx hb dX0_bestTake_89 rfl (lv_at hl 0 rfl) ?_
                    refine xg_10 hx hb hts hown hK hE dX0_bestTake_90 ?_
                    refine lv_iload_n hx hb dX0_bestTake_93 rfl (lv_at hl 1 rfl) ?_
                    refine top_nat hnp1.1 ?_
                    refine xa_10 (n := (ix p1)) (by omega) hx hb hK hE dX0_bestTake_94 ?_
                    refine lv_iload hx hb dX0_bestTake_95 (lv_at hl 7 rfl) ?_
                    refine lv_iload_n hx hb dX0_bestTake_97 rfl (lv_at hl 2 rfl) ?_
                    refine lv_imul hx hb dX0_bestTake_98 ?_
                    refine xbp_33 (b := (ix p1)) (by omega) (hn73) hx hb hts hown hK hE dX0_bestTake_99 (fun H locs hE => ?_)
                    refine lv_aload_n hx hb dX0_bestTake_102 rfl (lv_at hl 0 rfl) ?_
                    refine lv_iload_n hx hb dX0_bestTake_103 rfl (lv_at hl 1 rfl) ?_
                    refine top_nat hnp1.1 ?_
                    refine lv_iload_n hx hb dX0_bestTake_104 rfl (lv_at hl 3 rfl) ?_
                    refine top_nat hnp3.1 ?_
                    refine call_x_trial hx hb hml hown hts hK hA hE hl.1 (ix p1) (ix p3) (by omega) (by omega) (XI_s33 (amt_in hb73 hp2 c86) hq73) (lz (show 5 ≤ 5 by decide) hRf) (lz (show 114 ≤ 114 by decide) hRl) (Nat.le_of_ble_eq_true rfl) dX0_bestTake_105 ⟨Nat.zero_le _, Nat.zero_le _⟩ (fun H locs hE => ?_)
                    have hNc105 : ∀ (wc105 : Int64 × ZT) (hewc105 : wc105 = x_trial (ix p1) (ix p3) (sI w73.2.2.2 33 (ix p1) ((nI w73.2.2.1) * p2))) (hB73 : x_bestTake_b73 p1 p2 p3 w73 = x_bestTake_c105 p2 w73 wc105), ∀ (H : Heap) (locs : List Loc) (ls : Array Slot), EW D A s.heap (WX x ar cs wc105.2 B Y) H locs → lv_has ls 11 [(0, .ref x), (1, .int p1), (2, .int p2), (3, .int p3), (4, .int (wc47.1 33 (ix p1))), (5, .int w73.1), (6, .long w73.2.1), (8, .int (nI w73.2.2.1))] → W p l e R s mid args below meth c H locs 0 0 Q (F0 mid 108 ls [.long wc105.1]) := by
                      intro wc105 hewc105 hB73 H locs ls hE hl
                      have hB73 : x_bestTake_b73 p1 p2 p3 w73 = (x_bestTake_j137 w73 wc105 (if wc105.1 = (-9 : Int64) then (w73.1, w73.2.1) else (if wc105.1 ≤ w73.2.1 then (w73.1, w73.2.1) else (((nI w73.2.2.1) * p2), wc105.1)))) := hB73
                      refine lv_lstore (lv' := [(9, .long wc105.1), (0, .ref x), (1, .int p1), (2, .int p2), (3, .int p3), (4, .int (wc47.1 33 (ix p1))), (5, .int w73.1), (6, .long w73.2.1), (8, .int (nI w73.2.2.1))]) hx hb dX0_bestTake_108 hl (by decide) rfl (fun ls hl => ?_)
                      refine lv_lload hx hb dX0_bestTake_110 (lv_at hl 0 rfl) ?_
                      refine lv_ldc2 (v := -9) hx hb hown (hts _ q734) dX0_bestTake_112 ?_
                      have hJ137 : ∀ (w137 : Int32 × Int64) (hB73 : x_bestTake_b73 p1 p2 p3 w73 = x_bestTake_j137 w73 wc105 w137), ∀ (H : Heap) (locs : List Loc) (ls : Array Slot), EW D A s.heap (WX x ar cs wc105.2 B Y) H locs → lv_has ls 11 [(0, .ref x), (1, .int p1), (2, .int p2), (3, .int p3), (4, .int (wc47.1 33 (ix p1))), (5, .int w137.1), (6, .long w137.2), (8, .int (nI w73.2.2.1))] → W p l e R s mid args below meth c H locs 0 0 Q (F0 mid 137 ls []) := by
                        intro w137 hB73 H locs ls hE hl
                        have hB73 : x_bestTake_b73 p1 p2 p3 w73 = (true, (w137.1, w137.2, (w73.2.2.1 + 1), wc105.2)) := hB73
                        refine n_inc (lv' := [(8, .int (nI (w73.2.2.1 + 1))), (0, .ref x), (1, .int p1), (2, .int p2), (3, .int p3), (4, .int (wc47.1 33 (ix p1))), (5, .int w137.1), (6, .long w137.2)]) hx hb dX0_bestTake_137 hl (k := 7) rfl (by decide) rfl (fun ls hl => ?_)
                        refine lv_goto (tgt := 73) hx hb dX0_bestTake_140 (by decide) ?_
                        exact ih73 (w137.1, w137.2, (w73.2.2.1 + 1), wc105.2) (by show 20 - (w73.2.2.1 + 1) < n; omega) (by show w73.2.2.1 + 1 ≤ 20; omega) (by show XI wc105.2; rw [hewc105]; exact (trial_facts (XI_s33 (amt_in hb73 hp2 c86) hq73) hpi73).1) (by show PI wc105.2; rw [hewc105]; exact (trial_facts (XI_s33 (amt_in hb73 hp2 c86) hq73) hpi73).2.1) (by show ¬ wc105.2.1 30 (ix p1) = 0; rw [hewc105, (trial_facts (XI_s33 (amt_in hb73 hp2 c86) hq73) hpi73).2.2]; exact hn73) (hR.trans (congrArg (fun z => x_bestTake_e73 p1 wc47 z) (wl_t hB73))) _ _ _ hE (lv_sub hl [1, 2, 3, 4, 5, 6, 7, 0] rfl)
                      refine l_eq (tgt := 137) hx hb dX0_bestTake_115 dX0_bestTake_116 (by decide) (fun c115 => ?_) (fun c115 => ?_)
                      · have hB73 : x_bestTake_b73 p1 p2 p3 w73 = x_bestTake_j137 w73 wc105 (w73.1, w73.2.1) := hB73.trans (congrArg (fun z => x_bestTake_j137 w73 wc105 z) (if_pos c115))
                        exact hJ137 (w73.1, w73.2.1)  hB73 _ _ _ hE (lv_sub hl [1, 2, 3, 4, 5, 6, 7, 8] rfl)
                      · have hB73 : x_bestTake_b73 p1 p2 p3 w73 = x_bestTake_j137 w73 wc105 (if wc105.1 ≤ w73.2.1 then (w73.1, w73.2.1) else (((nI w73.2.2.1) * p2), wc105.1)) := hB73.trans (congrArg (fun z => x_bestTake_j137 w73 wc105 z) (if_neg c115))
                        refine lv_lload hx hb dX0_bestTake_119 (lv_at hl 0 rfl) ?_
                        refine lv_lload hx hb dX0_bestTake_121 (lv_at hl 7 rfl) ?_
                        refine l_le (tgt := 137) hx hb dX0_bestTake_123 dX0_bestTake_124 (by decide) (fun c123 => ?_) (fun c123 => ?_)
                        · have hB73 : x_bestTake_b73 p1 p2 p3 w73 = x_bestTake_j137 w73 wc105 (w73.1, w73.2.1) := hB73.trans (congrArg (fun z => x_bestTake_j137 w73 wc105 z) (if_pos c123))
                          exact hJ137 (w73.1, w73.2.1)  hB73 _ _ _ hE (lv_sub hl [1, 2, 3, 4, 5, 6, 7, 8] rfl)
                        · have hB73 : x_bestTake_b73 p1 p2 p3 w73 = x_bestTake_j137 w73 wc105 (((nI w73.2.2.1) * p2), wc105.1) := hB73.trans (congrArg (fun z => x_bestTake_j137 w73 wc105 z) (if_neg c123))
                          refine lv_iload hx hb dX0_bestTake_127 (lv_at hl 8 rfl) ?_
                          refine lv_iload_n hx hb dX0_bestTake_129 rfl (lv_at hl 3 rfl) ?_
                          refine lv_imul hx hb dX0_bestTake_130 ?_
                          refine lv_istore (lv' := [(5, .int ((nI w73.2.2.1) * p2)), (9, .long wc105.1), (0, .ref x), (1, .int p1), (2, .int p2), (3, .int p3), (4, .int (wc47.1 33 (ix p1))), (6, .long w73.2.1), (8, .int (nI w73.2.2.1))]) hx hb dX0_bestTake_131 hl (by decide) rfl (fun ls hl => ?_)
                          refine lv_lload hx hb dX0_bestTake_133 (lv_at hl 1 rfl) ?_
                          refine lv_lstore (lv' := [(6, .long wc105.1), (5, .int ((nI w73.2.2.1) * p2)), (9, .long wc105.1), (0, .ref x), (1, .int p1), (2, .int p2), (3, .int p3), (4, .int (wc47.1 33 (ix p1))), (8, .int (nI w73.2.2.1))]) hx hb dX0_bestTake_135 hl (by decide) rfl (fun ls hl => ?_)
                          exact hJ137 (((nI w73.2.2.1) * p2), wc105.1)  hB73 _ _ _ hE (lv_sub hl [3, 4, 5, 6, 7, 1, 0, 8] rfl)
                    exact hNc105 (x_trial (ix p1) (ix p3) (sI w73.2.2.2 33 (ix p1) ((nI w73.2.2.1) * p2))) rfl hB73 _ _ _ hE (lv_sub hl [0, 1, 2, 3, 4, 5, 6, 7] rfl)
            exact hL73 21 ((-9 : Int32), (-9 : Int64), 0, wc47) (by show 20 - 0 < 21; decide) (by exact Nat.zero_le _) (by show XI wc47; rw [hewc47]; exact keep_XI hX) (by show PI wc47; rw [hewc47]; exact keep_PI hX) (by show ¬ wc47.1 30 (ix p1) = 0; rw [hewc47, keep_fr (by decide)]; exact c36) hR _ _ _ hE (lv_sub hl [4, 5, 6, 7, 3, 2, 1, 0] rfl)
          exact hNc47 (x_keep 0 Z) rfl hR _ _ _ hE (lv_sub hl [0, 1, 2, 3] rfl)
        · have hR : x_bestTake p1 p2 p3 Z = (x_met 1 Z) := hR.trans (congrArg (fun z => z) (if_pos c36))
          refine lv_aload_n hx hb dX0_bestTake_39 rfl (lv_at hl 0 rfl) ?_
          refine lv_iconst (v := 1) hx hb dX0_bestTake_40 rfl ?_
          refine call_x_met hx hb hml hown hts hK hA hE hl.1 1 (by omega) (lz (show 1 ≤ 5 by decide) hRf) (lz (show 21 ≤ 114 by decide) hRl) (Nat.le_of_ble_eq_true rfl) dX0_bestTake_41 ⟨Nat.zero_le _, Nat.zero_le _⟩ (fun H locs hE => ?_)
          exact hret ((x_met 1 Z).1) ((x_met 1 Z).2) hR rfl hE (Nat.le_refl 0) (Nat.le_refl 0) dX0_bestTake_44
      · have hR : x_bestTake p1 p2 p3 Z = ((-1 : Int32), Z) := hR.trans (congrArg (fun z => z) (if_pos c25))
        refine lv_iconst (v := -1) hx hb dX0_bestTake_28 rfl ?_
        exact hret (-1 : Int32) Z hR rfl hE (Nat.le_refl 0) (Nat.le_refl 0) dX0_bestTake_29
