/-! rows of texts (printed by gen/txtx.py) -/
set_option maxRecDepth 100000
section TX0
variable {p : Program} {l : Launch} {e : Env} {R : Room} {s : State} {m : MethodId} {args : Array Value} {below : List Frame} {meth : Method} {c : Code} {T : State} {locs : List Loc} {cells slots : Nat}
theorem x_aastN0 (X : Stand p l e R s m args below meth c T locs cells slots) (hexec : p.tables.exec = Jvm.exec) {a : Addr} {cell : Cell} {j : Int32} (hcell : T.heap[a]? = some cell) (harr : s.isArrayOf cell (.array .byte)) (hknown : cell.vm ≠ .unknown)
    (hin : ¬ (j < 0 ∨ cell.slots.size ≤ j.toNatClampNeg))
    {g : JFrame} (hg : g.method = m) {rest : List Value} (hstack : g.stack = .null :: .int j :: .ref a :: rest) (hdg : decode c.code g.pc = .ok (.aastore, 1)) :
    Stand p l e R s m args below meth c (T.setCell a (cell.setSlot j.toNatClampNeg .null)) (locs ++ [⟨a, j.toNatClampNeg⟩]) cells slots ∧
      ∀ target, Steps p.tables e below ((T.setCell a (cell.setSlot j.toNatClampNeg .null)).setTop { g with pc := g.pc + 1, stack := rest }) target → Steps p.tables e below (T.setTop g) target := by
  have hT := State.isArrayOf_alike X.warmed.alike harr
  have hfit : T.fitsSlot cell.cls cell.vm j.toNatClampNeg .null = true := by
    obtain ⟨hobj, k, hk, comp, hkind⟩ := hT
    cases hvm : cell.vm <;> first | exact absurd hvm (hobj _) | simp [State.fitsSlot, State.slotType?, hk, hkind, fits]
  refine ⟨X.stored hcell _ _, fun target hrest => ?_⟩
  subst hg
  jvm_step X.here [hexec, hdg]
  refine Op.aastore.wp_of_null (c := cell) (t := .array .byte) X.here.top hstack hcell hT hin hknown (Nat.not_le.mp fun q => hin (Or.inr q)) hfit ?_
  intro acts
  rw [afterInstr_ok]
  exact hrest
end TX0
section TX1
variable {p : Program} {l : Launch} {e : Env} {R : Room} {s : State} {mid : MethodId} {args : Array Value} {below : List Frame} {meth : Method} {c : Code} {H : Heap} {locs : List Loc} {cells slots : Nat} {Q : State → Prop} {cc : ByteArray} {pc : Nat} {ls : Array Slot} {rest : List Value} {D : va_G} {A : Nat → Prop} {H0 : Heap} {x : Nat} {ar : Nat → Nat} {cs : Nat → ClassId} {Z : ZT} {B : BT} {Y : va_W} {ws : va_W} {nL t : Nat} {hh : List (Nat × Nat × Nat × Nat)}
theorem xtn {n : Nat} (h : n < 4) (hx : p.tables.exec = Jvm.exec) (hb : c.code = cc) (hK : KK D cs s) (hE : EW D A H0 (WX x ar cs Z B Y) H locs) (hd : decode cc pc = .ok (.aastore, 1)) (kk : ∀ (H1 : Heap) (locs1 : List Loc), EW D A H0 (WX x ar cs (sI Z 40 n (-1)) B Y) H1 locs1 → W p l e R s mid args below meth c H1 locs1 cells slots Q (F0 mid (pc + 1) ls rest)) : W p l e R s mid args below meth c H locs cells slots Q (F0 mid pc ls (.null :: .int (nI n) :: .ref (ar 6) :: rest)) := by
  have hin : vp_in (nI n) 4 := vp_in_nI h (by decide)
  have ha : (WX x ar cs Z B Y)[2]? = some (ar 6, .inl (cs 5, 4, .inr (.inr (.inr (.inr (adt Z B)))))) := rfl
  have key : ∀ (H1 : Heap), H1[ar 6]? = some ((vp_cell (cs 5) (4, .inr (.inr (.inr (.inr (adt Z B)))))).setSlot (nI n).toNatClampNeg .null) → H1.size = H.size → (∀ q, q ≠ ar 6 → H1[q]? = H[q]?) → W p l e R s mid args below meth c H1 (locs ++ [⟨ar 6, (nI n).toNatClampNeg⟩]) cells slots Q (F0 mid (pc + 1) ls rest) := by
    intro H1 e z oq
    refine kk H1 _ ?_
    have hP1 := hE.1.set (e := .inl (cs 5, 4, .inr (.inr (.inr (.inr (va_up (adt Z B) (nI n).toNatClampNeg none)))))) hE.2.1 ha (by
      show H1[ar 6]? = some (vp_cell _ _)
      rw [e]
      rw [vp_cell_q, vp_cell_q, arrV_store]
      congr 2
      funext q
      by_cases hq : q = (nI n).toNatClampNeg
      · subst hq
        simp [updV, va_up, va_rf]
      · simp [updV, va_up, hq]) oq
    have hE1 : EW D A H0 ((WX x ar cs Z B Y).set 2 (ar 6, .inl (cs 5, 4, .inr (.inr (.inr (.inr (va_up (adt Z B) (nI n).toNatClampNeg none))))))) H1 (locs ++ [⟨ar 6, (nI n).toNatClampNeg⟩]) := ⟨hP1, hE.2.1.set ha, hE.2.2.put z oq (hE.2.1.2 _ _ ha)⟩
    refine EW.sub hE1 ?_
    rw [show (nI n).toNatClampNeg = n from ix_nI (Nat.lt_trans h (by decide)), ← adt_null]
    show (XB x ar cs (sI Z 40 n (-1)) B ++ (bels Z B ++ (txls cs (sI Z 40 n (-1)) B ++ Y))).Sublist (XB x ar cs (sI Z 40 n (-1)) B ++ (bels Z B ++ (txls cs Z B ++ Y)))
    exact List.Sublist.append (List.Sublist.refl _) (List.Sublist.append (List.Sublist.refl _) (List.Sublist.append (fm_sub txl_null) (List.Sublist.refl _)))
  intro T hT X
  have hT' : T.heap[ar 6]? = some (vp_cell (cs 5) (4, .inr (.inr (.inr (.inr (adt Z B)))))) := by rw [hT]; exact hE.1 2 _ ha
  obtain ⟨X', st⟩ := x_aastN0 X hx hT' ((hK.1.2 5 _ rfl).1 4 (fun j => va_rf (adt Z B j))) (fun h => by cases h) (by show ¬ (nI n < 0 ∨ (arrV _ _ _).slots.size ≤ _); rw [arrV_size]; exact hin) (g := F0 mid pc ls (.null :: .int (nI n) :: .ref (ar 6) :: rest)) rfl rfl (by rw [hb]; exact hd)
  have hlt : ar 6 < T.heap.size := (Array.getElem?_eq_some_iff.mp hT').1
  obtain ⟨t', a1, b1⟩ := key _ (heapAt_setCell_self _ hlt) (by rw [size_setCell, hT]) (fun q hq => by rw [heapAt_setCell_ne _ (Ne.symm hq), hT]) (T.setCell (ar 6) _) rfl X'
  exact ⟨t', st t' a1, b1⟩
/-- a text's bytes, f, its size n -/
def x_txt (t : Nat) (n : Int32) (Z : ZT) : ZT := itR (fun i z => sI z 41 (60 * t + i) 32) 0 60 (sI Z 40 t n)
theorem txt_41 {t : Nat} {n : Int32} {Z : ZT} : ∀ k, ((itR (fun i z => sI z 41 (60 * t + i) 32) 0 k (sI Z 40 t n)).1 40 = (sI Z 40 t n).1 40) ∧ (∀ r, r ≠ 40 → r ≠ 41 → (itR (fun i z => sI z 41 (60 * t + i) 32) 0 k (sI Z 40 t n)).1 r = Z.1 r) ∧ (itR (fun i z => sI z 41 (60 * t + i) 32) 0 k (sI Z 40 t n)).2 = Z.2 ∧ ∀ j, (itR (fun i z => sI z 41 (60 * t + i) 32) 0 k (sI Z 40 t n)).1 41 j = if 60 * t ≤ j ∧ j < 60 * t + k then 32 else Z.1 41 j := by
  intro k
  have key := itR_inv (f := fun i z => sI z 41 (60 * t + i) 32) (n := k) (P := fun i s => (s.1 40 = (sI Z 40 t n).1 40) ∧ (∀ r, r ≠ 40 → r ≠ 41 → s.1 r = Z.1 r) ∧ s.2 = Z.2 ∧ ∀ j, s.1 41 j = if 60 * t ≤ j ∧ j < 60 * t + i then 32 else Z.1 41 j) (fun i s hi hs => ?_) k 0 (sI Z 40 t n) (by omega) ⟨rfl, fun r h1 h2 => sI_ne h1, rfl, fun j => by rw [if_neg (by omega), sI_ne (by decide)]⟩
  · exact key
  · obtain ⟨h1, h2, h3, h4⟩ := hs
    refine ⟨by rw [sI_ne (by decide)]; exact h1, fun r a b => by rw [sI_ne b]; exact h2 r a b, h3, fun j => ?_⟩
    rw [sI_at, h4]
    by_cases e : j = 60 * t + i
    · rw [if_pos e, if_pos (by omega)]
    · rw [if_neg e]
      by_cases e2 : 60 * t ≤ j ∧ j < 60 * t + i
      · rw [if_pos e2, if_pos (by omega)]
      · rw [if_neg e2, if_neg (by omega)]
def tset (B : BT) (t q : Nat) : BT := (B.1, fun j => if j = t then q else B.2 j)

theorem txt_WX {x : Nat} {ar : Nat → Nat} {cs : Nat → ClassId} {Y : va_W} {t q : Nat} {n : Int32} {Z : ZT} {B : BT} (ht : t < 4) (hn : ¬ n = -1) : ∃ T0 : va_W, T0.Sublist (txls cs Z B) ∧ (WX x ar cs (x_txt t n Z) (tset B t q) Y).Perm ((q, .inl (cs 2, ix n, .inl (txF (x_txt t n Z) t))) :: (((XB x ar cs Z B).set 2 (ar 6, .inl (cs 5, 4, .inr (.inr (.inr (.inr (va_up (adt Z B) t (some q)))))))) ++ (bels Z B ++ (T0 ++ Y)))) := by
  obtain ⟨e40, er, e2, e41⟩ := txt_41 (t := t) (n := n) (Z := Z) 60
  have a40 : ∀ j, (x_txt t n Z).1 40 j = if j = t then n else Z.1 40 j := fun j => by
    show (itR (fun i z => sI z 41 (60 * t + i) 32) 0 60 (sI Z 40 t n)).1 40 j = _
    rw [e40, sI_at]
  have ar' : ∀ r, r ≠ 40 → r ≠ 41 → (x_txt t n Z).1 r = Z.1 r := er
  have a2 : (x_txt t n Z).2 = Z.2 := e2
  have a41 : ∀ j, j < 60 * t ∨ 60 * t + 60 ≤ j → (x_txt t n Z).1 41 j = Z.1 41 j := fun j hj => by
    show (itR (fun i z => sI z 41 (60 * t + i) 32) 0 60 (sI Z 40 t n)).1 41 j = _
    rw [e41, if_neg (by omega)]
  generalize x_txt t n Z = Z1 at a40 ar' a2 a41
  have hadt : adt Z1 (tset B t q) = va_up (adt Z B) t (some q) := by
    funext j
    unfold va_up adt
    rw [a40]
    by_cases h : j = t
    · subst h
      rw [if_pos rfl, if_pos rfl, if_neg hn]
      simp [tset]
    · rw [if_neg h, if_neg h]
      simp [tset, h]
  have hadr : adr Z1 (tset B t q) = adr Z B := by
    funext j
    unfold adr
    rw [ar' 30 (by decide) (by decide)]
    rfl
  have hbe : bels Z1 (tset B t q) = bels Z B := by
    unfold bels
    congr 1
    funext j
    unfold bel beF
    rw [ar' 30 (by decide) (by decide), ar' 31 (by decide) (by decide), ar' 32 (by decide) (by decide), ar' 33 (by decide) (by decide), ar' 34 (by decide) (by decide), ar' 35 (by decide) (by decide), ar' 36 (by decide) (by decide), ar' 37 (by decide) (by decide), ar' 38 (by decide) (by decide), ar' 39 (by decide) (by decide)]
    rfl
  have hXB : XB x ar cs Z1 (tset B t q) = (XB x ar cs Z B).set 2 (ar 6, .inl (cs 5, 4, .inr (.inr (.inr (.inr (va_up (adt Z B) t (some q))))))) := by
    unfold XB XF XA
    rw [hadt, hadr, a2]
    simp only [ar' 0 (by decide) (by decide), ar' 1 (by decide) (by decide), ar' 2 (by decide) (by decide), ar' 5 (by decide) (by decide), ar' 7 (by decide) (by decide), ar' 8 (by decide) (by decide), ar' 9 (by decide) (by decide), ar' 11 (by decide) (by decide), ar' 12 (by decide) (by decide), ar' 13 (by decide) (by decide), ar' 14 (by decide) (by decide), ar' 15 (by decide) (by decide), ar' 18 (by decide) (by decide), ar' 19 (by decide) (by decide), ar' 20 (by decide) (by decide), ar' 21 (by decide) (by decide), ar' 23 (by decide) (by decide), ar' 24 (by decide) (by decide), ar' 25 (by decide) (by decide), ar' 26 (by decide) (by decide), ar' 27 (by decide) (by decide)]
    rfl
  have hT0 : ((List.range 4).flatMap (fun j => if j = t then [] else txl cs Z B j)).Sublist (txls cs Z B) := fm_sub (fun j => by
    by_cases h : j = t
    · rw [if_pos h]
      exact List.nil_sublist _
    · rw [if_neg h]
      exact List.Sublist.refl _)
  refine ⟨_, hT0, ?_⟩
  have hp : (txls cs Z1 (tset B t q)).Perm ((q, .inl (cs 2, ix n, .inl (txF Z1 t))) :: (List.range 4).flatMap (fun j => if j = t then [] else txl cs Z B j)) := by
    refine fm_ins nd4 (List.mem_range.mpr ht) (if_pos rfl) ?_ (fun j hj => ?_)
    · rw [txl_of (by rw [a40, if_pos rfl]; exact hn), a40, if_pos rfl]
      simp [tset]
    · rw [if_neg hj]
      unfold txl
      rw [a40, if_neg hj]
      have : txF Z1 j = txF Z j := by
        funext i
        unfold txF
        split
        · exact a41 _ (by omega)
        · rfl
      rw [this]
      simp [tset, hj]
  unfold WX
  rw [hXB, hbe]
  have h1 := List.Perm.append_left ((XB x ar cs Z B).set 2 (ar 6, .inl (cs 5, 4, .inr (.inr (.inr (.inr (va_up (adt Z B) t (some q)))))))) (List.Perm.append_left (bels Z B) (List.Perm.append_right Y hp))
  refine h1.trans ?_
  rw [List.cons_append]
  have h2 : (bels Z B ++ ((q, Sum.inl (cs 2, ix n, Sum.inl (txF Z1 t))) :: ((List.range 4).flatMap (fun j => if j = t then [] else txl cs Z B j) ++ Y))).Perm ((q, Sum.inl (cs 2, ix n, Sum.inl (txF Z1 t))) :: (bels Z B ++ ((List.range 4).flatMap (fun j => if j = t then [] else txl cs Z B j) ++ Y))) := List.perm_middle
  exact (List.Perm.append_left _ h2).trans List.perm_middle
/-- a new text is stored -/
theorem xtx {q : Nat} {n : Int32} (ht : t < 4) (hn : ¬ n = -1) (hx : p.tables.exec = Jvm.exec) (hb : c.code = cc) (hK : KK D cs s) (hE : EW D A H0 ((q, .inl (cs 2, ix n, .inl (txF (x_txt t n Z) t))) :: WX x ar cs Z B Y) H locs) (hd : decode cc pc = .ok (.aastore, 1)) (kk : ∀ (H1 : Heap) (locs1 : List Loc), EW D A H0 (WX x ar cs (x_txt t n Z) (tset B t q) Y) H1 locs1 → W p l e R s mid args below meth c H1 locs1 cells slots Q (F0 mid (pc + 1) ls rest)) : W p l e R s mid args below meth c H locs cells slots Q (F0 mid pc ls (.ref q :: .int (nI t) :: .ref (ar 6) :: rest)) := by
  have hin : vp_in (nI t) 4 := vp_in_nI ht (by decide)
  have e0 : (nI t).toNatClampNeg = t := ix_nI (Nat.lt_trans ht (by decide))
  have ha : ((q, .inl (cs 2, ix n, .inl (txF (x_txt t n Z) t))) :: WX x ar cs Z B Y)[3]? = some (ar 6, .inl (cs 5, 4, .inr (.inr (.inr (.inr (adt Z B)))))) := rfl
  have hlt : (nI t).toNatClampNeg < 4 := by rw [e0]; exact ht
  have hcv := hE.1 0 _ (rfl : ((q, .inl (cs 2, ix n, .inl (txF (x_txt t n Z) t))) :: WX x ar cs Z B Y)[0]? = some (q, .inl (cs 2, ix n, .inl (txF (x_txt t n Z) t))))
  obtain ⟨kA, h1, h2, kB, h3⟩ := hK.2.2
  have hasg : s.vm.assignable (cs 2) (cs 2) = true := by
    show s.vm.assignableAux _ (cs 2) (cs 2) = true
    unfold Vm.assignableAux
    simp
  refine W.aast hx hb (hE.1 _ _ ha) (fun q h => by cases h) (fun h => by cases h) h1 h2 rfl h3 ⟨fun q => hin (Or.inl q), by show _ < (arrV _ _ _).slots.size; rw [arrV_size]; exact hlt⟩ hcv (fun q h => by cases h) h3 hasg rfl rfl hd fun H1 e z oq => ?_
  have hP1 := hE.1.set (e := .inl (cs 5, 4, .inr (.inr (.inr (.inr (va_up (adt Z B) (nI t).toNatClampNeg (some q))))))) hE.2.1 ha (by
    show H1[ar 6]? = some (vp_cell _ _)
    rw [e]
    rw [vp_cell_q, vp_cell_q, arrV_store]
    congr 2
    funext q
    by_cases hq : q = (nI t).toNatClampNeg
    · subst hq
      simp [updV, va_up, va_rf]
    · simp [updV, va_up, hq]) oq
  have hE1 : EW D A H0 (((q, .inl (cs 2, ix n, .inl (txF (x_txt t n Z) t))) :: WX x ar cs Z B Y).set 3 (ar 6, .inl (cs 5, 4, .inr (.inr (.inr (.inr (va_up (adt Z B) (nI t).toNatClampNeg (some q)))))))) H1 (locs ++ [⟨ar 6, (nI t).toNatClampNeg⟩]) := ⟨hP1, hE.2.1.set ha, hE.2.2.put z oq (hE.2.1.2 _ _ ha)⟩
  rw [show va_up (adt Z B) (nI t).toNatClampNeg (some q) = va_up (adt Z B) t (some q) from by rw [e0]] at hE1
  obtain ⟨T0, hT0, hp⟩ := txt_WX (x := x) (ar := ar) (cs := cs) (Y := Y) (q := q) (Z := Z) (B := B) ht hn
  refine kk H1 _ (EW.perm (EW.sub hE1 ?_) hp)
  exact List.Sublist.cons_cons _ (List.Sublist.append (List.Sublist.refl _) (List.Sublist.append (List.Sublist.refl _) (List.Sublist.append hT0 (List.Sublist.refl _))))
end TX1
