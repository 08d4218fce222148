/-! cells that are made: a reader, beings (printed by gen/allocx.py) -/
set_option maxRecDepth 100000
def cQr {S : Type} (P : S → Prop) (D : va_G) (wf : S → Nat → va_W) (ws0 : va_W) (sz : Nat) : Array Value → State → Outcome → State → Prop := va_Qr P (fun u a t => wEn D ws0 sz (wf u a) t) (va_A ws0 sz)
theorem WX_cons {x : Nat} {ar : Nat → Nat} {cs : Nat → ClassId} {Z : ZT} {B : BT} {Y : va_W} (c : Nat × va_E) : (WX x ar cs Z B (c :: Y)).Perm (c :: WX x ar cs Z B Y) := by
  have e : ∀ V, WX x ar cs Z B V = (XB x ar cs Z B ++ (bels Z B ++ txls cs Z B)) ++ V := fun V => by unfold WX; simp only [List.append_assoc]
  rw [e, e]
  exact List.perm_middle
theorem WX_push {x : Nat} {ar : Nat → Nat} {cs : Nat → ClassId} {Z : ZT} {B : BT} {Y : va_W} (c : Nat × va_E) : (WX x ar cs Z B (c :: Y)).Perm (WX x ar cs Z B Y ++ [c]) := (WX_cons c).trans (List.perm_append_comm (l₁ := [c]))
theorem EW.dropR {D : va_G} {A : Nat → Prop} {H0 H : Heap} {x : Nat} {ar : Nat → Nat} {cs : Nat → ClassId} {Z : ZT} {B : BT} {Y : va_W} {locs : List Loc} {c : Nat × va_E} (h : EW D A H0 (WX x ar cs Z B (c :: Y)) H locs) : EW D A H0 (WX x ar cs Z B Y) H locs := by
  refine h.sub ?_
  unfold WX
  exact List.Sublist.append (List.Sublist.refl _) (List.Sublist.append (List.Sublist.refl _) (List.Sublist.append (List.Sublist.refl _) (List.sublist_cons_self _ _)))
theorem rdr_eq {Z Z' : ZT} {B B' : BT} {r t : Nat} (h1 : Z'.1 42 0 = Z.1 42 0) (h2 : Z'.1 43 0 = Z.1 43 0) (h3 : B'.2 = B.2) : rdr Z' B' r t = rdr Z B r t := by
  unfold rdr
  rw [h1, h2, h3]
section GCI
variable {p : Program} {l : Launch} {e : Env} {R : Room} {s : State} {mid : MethodId} {args : Array Value} {below : List Frame} {meth : Method} {c : Code} {H : Heap} {locs : List Loc} {cells slots : Nat} {Q : State → Prop} {cc : ByteArray} {pc : Nat} {ls : Array Slot} {rest : List Value} {D : va_G} {A : Nat → Prop} {cs : Nat → ClassId} {ws : va_W} {nL : Nat}
variable {y : MethodName} {cc' : ByteArray} {maxL' mc ms index n q0 ci : Nat} {ret : Option FieldType} {rm : Room} {own C' host : String} {S : Type} {b : Nat} {As st0 : List Value} {fs : List Value} {T' : u_T} {N' : Nat}
theorem gCallI {wf : S → va_W} {P : S → Prop} (hx : p.tables.exec = Jvm.exec) (hb : c.code = cc) (hml : c.maxLocals = nL) (hown : s.vm.findClass own = some mid.cls) (hts : ∀ w ∈ lw_all, w.before args s = true) (hK : KK D cs s) (hA : ∀ q : Nat, s.heap.size ≤ q → A q) (hE : EW D A s.heap ws H locs) (hls : ls.size = nL)
    (hM : Met l y (ws_ y cc' maxL' none) rm (va_Pc (.ref b :: As) (wSt D cs ws H.size)) (cQv P D wf ws H.size) mc ms (va_A ws H.size))
    (cw : CallB R s args own index y cc' maxL' none (ws_ y cc' maxL' none) rm mc ms n ∧ y.name = "<init>" ∧ (Cond.instanceMethod y).before args s = true) (hn : As.length = n) (hst : st0 = As.reverse ++ .ref b :: rest) (hr : (rest.map fun v => v.category).sum ≤ 8) (hd : decode cc pc = .ok (.invokespecial index, 3)) (hf : cells + mc ≤ R.cells ∧ slots + ms ≤ R.slots)
    (kk : ∀ (u : S) (H1 : Heap) (locs1 : List Loc), P u → H.size ≤ H1.size → EW D A s.heap (wf u) H1 locs1 → W p l e R s mid args below meth c H1 locs1 (cells + mc) (slots + ms) Q (F0 mid (pc + 3) ls rest)) : W p l e R s mid args below meth c H locs cells slots Q (F0 mid pc ls st0) := by
  refine va_callv (va_runI (As := As) (rest := rest) ⟨hx, hb, hml, hown, hts⟩ hM cw ⟨wSt.blind, fun U hU hW => ⟨rfl, wSt.of hK hE hU hW⟩⟩ rfl hn hls hst (lv_room hr) hd hf) hE.2.2 (fun q _ h => gFree hA hE q h) (gFree hA hE) ?_
  intro u t H1 locs1 ht hvm hp hB hz1 hk1 hS
  exact kk u H1 locs1 hp hz1 (gAfter hA hE hB ht hS)
theorem gCallIN {wf : S → va_W} {P : S → Prop} (hx : p.tables.exec = Jvm.exec) (hb : c.code = cc) (hml : c.maxLocals = nL) (hown : s.vm.findClass own = some mid.cls) (hts : ∀ w ∈ lw_all, w.before args s = true) (hK : KK D cs s) (hA : ∀ q : Nat, s.heap.size ≤ q → A q) (hE : EW D A s.heap ws H locs) (hls : ls.size = nL)
    (hM : Met l y (ws_ y cc' maxL' none) rm (va_Pc (.ref b :: As) (wSt D cs ws H.size)) (cQv P D wf ws H.size) mc ms (va_A ws H.size))
    (cw : va_CN R s args own index y host cc' maxL' none (ws_ y cc' maxL' none) rm mc ms n ∧ y.name = "<init>" ∧ (Cond.instanceMethod y).before args s = true) (hn : As.length = n) (hst : st0 = As.reverse ++ .ref b :: rest) (hr : (rest.map fun v => v.category).sum ≤ 8) (hd : decode cc pc = .ok (.invokespecial index, 3)) (hf : cells + mc ≤ R.cells ∧ slots + ms ≤ R.slots)
    (kk : ∀ (u : S) (H1 : Heap) (locs1 : List Loc), P u → H.size ≤ H1.size → EW D A s.heap (wf u) H1 locs1 → W p l e R s mid args below meth c H1 locs1 (cells + mc) (slots + ms) Q (F0 mid (pc + 3) ls rest)) : W p l e R s mid args below meth c H locs cells slots Q (F0 mid pc ls st0) := by
  refine va_callv (va_runIN (As := As) (rest := rest) ⟨hx, hb, hml, hown, hts⟩ hM cw ⟨wSt.blind, fun U hU hW => ⟨rfl, wSt.of hK hE hU hW⟩⟩ rfl hn hls hst (lv_room hr) hd hf) hE.2.2 (fun q _ h => gFree hA hE q h) (gFree hA hE) ?_
  intro u t H1 locs1 ht hvm hp hB hz1 hk1 hS
  exact kk u H1 locs1 hp hz1 (gAfter hA hE hB ht hS)
theorem gCall_r {wf : S → Nat → va_W} {P : S → Prop} (hx : p.tables.exec = Jvm.exec) (hb : c.code = cc) (hml : c.maxLocals = nL) (hown : s.vm.findClass own = some mid.cls) (hts : ∀ w ∈ lw_all, w.before args s = true) (hK : KK D cs s) (hA : ∀ q : Nat, s.heap.size ≤ q → A q) (hE : EW D A s.heap ws H locs) (hls : ls.size = nL)
    (hM : Met l y (ws_ y cc' maxL' ret) rm (va_Pc (.ref b :: As) (wSt D cs ws H.size)) (cQr P D wf ws H.size) mc ms (va_A ws H.size))
    (cw : CallW R s args own C' index y cc' maxL' ret (ws_ y cc' maxL' ret) rm mc ms n) (hrv : ws[q0]? = some (b, .inr (ci, fs))) (hcl : vwCl[ci]? = some (C', T', N')) (hn : As.length = n) (hst : st0 = As.reverse ++ .ref b :: rest) (hr : (rest.map fun v => v.category).sum ≤ 8) (hd : decode cc pc = .ok (.invokevirtual index, 3)) (hf : cells + mc ≤ R.cells ∧ slots + ms ≤ R.slots)
    (kk : ∀ (u : S) (ra : Nat) (H1 : Heap) (locs1 : List Loc), P u → H.size ≤ H1.size → EW D A s.heap (wf u ra) H1 locs1 → W p l e R s mid args below meth c H1 locs1 (cells + mc) (slots + ms) Q (F0 mid (pc + 3) ls (.ref ra :: rest))) : W p l e R s mid args below meth c H locs cells slots Q (F0 mid pc ls st0) := by
  refine va_callr (va_runV (As := As) (rest := rest) ⟨hx, hb, hml, hown, hts⟩ hM cw ⟨wSt.blind, va_recv (q := (C', T', N')) hK.1 hE.1 hcl hrv, fun U hU hW => ⟨rfl, wSt.of hK hE hU hW⟩⟩ rfl hn hls hst (lv_room hr) hd hf) hE.2.2 (fun q _ h => gFree hA hE q h) (gFree hA hE) ?_
  intro u ra t H1 locs1 ht hvm hp hB hz1 hk1 hS
  exact kk u ra H1 locs1 hp hz1 (gAfter hA hE hB ht hS)
theorem gStart_r {l : Launch} {y : MethodName} {cc : ByteArray} {maxL : Nat} {rm : Room} {av : List Value} {D : va_G} {cs : Nat → ClassId} {ws0 : va_W} {sz mc ms : Nat} {C : String} {S : Type} {wf : S → Nat → va_W} {P : S → Prop} {nm : String} (hC : y.cls = C) (hp : plainName y.cls = true) (hlen : (lg_sl av).length ≤ maxL)
    (body : ∀ (p : Program) (e : Env) (s : State) (mid : MethodId) (args : Array Value) (below : List Frame) (meth : Method) (c : Code) (R : Room) (Q : State → Prop) (A : Nat → Prop), p.tables.exec = Jvm.exec → c.code = cc → c.maxLocals = maxL → s.vm.findClass C = some mid.cls → (∀ w ∈ lw_all, w.before args s = true) → KK D cs s → (∀ q : Nat, s.heap.size ≤ q → A q) → rm.frames ≤ R.frames → rm.locals ≤ R.locals → rm.cells ≤ R.cells → rm.slots ≤ R.slots →
      (∀ {H : Heap} {locs : List Loc} {cells slots pc : Nat} {ls : Array Slot} (a : Nat) (u : S), P u → EW D A s.heap (wf u a) H locs → cells ≤ mc → slots ≤ ms → decode cc pc = .ok (.areturn, 1) → W p l e R s mid args below meth c H locs cells slots Q (F0 mid pc ls [.ref a])) →
      EW D A s.heap ws0 s.heap [] → ∀ ls : Array Slot, lv_has ls maxL (lv_args 0 av) → W p l e R s mid args below meth c s.heap [] 0 0 Q (F0 mid 0 ls [])) : Met l y (ws_ y cc maxL (some (.object nm))) rm (va_Pc av (wSt D cs ws0 sz)) (cQr P D wf ws0 sz) mc ms (va_A ws0 sz) := by
  refine gStart hC hp hlen ?_
  intro p e s mid args below meth c hx hb hml hr hlk _ hown hts hK hz hP hD ls hl
  refine body p e s mid args below meth c rm _ (va_A ws0 sz) hx hb hml hown hts hK (fun q h => Or.inr (by rw [← hz]; exact h)) (Nat.le_refl _) (Nat.le_refl _) (Nat.le_refl _) (Nat.le_refl _) ?_ (gEW hP hD hz rfl) ls hl
  intro H locs cells slots pc ls a u hp hE h1 h2 hd
  refine W.widen h1 h2 ?_
  exact W.aret hx hb hr (Or.inl ⟨nm, rfl⟩) (Or.inr ⟨a, rfl⟩) (fun t ht hW => ⟨⟨u, a, rfl, hp, by rw [ht]; exact hE.1, hE.2.1⟩, by exact hE.2.2.F ht⟩) hE.2.2.2.2 hd
end GCI
section NEWS
variable {p : Program} {l : Launch} {e : Env} {R : Room} {s : State} {mid : MethodId} {args : Array Value} {below : List Frame} {meth : Method} {c : Code} {H : Heap} {locs : List Loc} {cells slots : Nat} {Q : State → Prop} {cc : ByteArray} {pc : Nat} {ls : Array Slot} {rest : List Value} {D : va_G} {A : Nat → Prop} {x : Nat} {ar : Nat → Nat} {cs : Nat → ClassId} {Z : ZT} {B : BT} {Y : va_W} {nL : Nat}
theorem xnew_rd (hx : p.tables.exec = Jvm.exec) (hb : c.code = cc) (hts : ∀ w ∈ lw_all, w.before args s = true) (hown : s.vm.findClass RX0 = some mid.cls) (hK : KK D cs s) (hA : ∀ q : Nat, s.heap.size ≤ q → A q) (hE : EW D A s.heap (WX x ar cs Z B Y) H locs) (hc : cells + 1 ≤ R.cells) (hs : slots + 3 ≤ R.slots) (hd : decode cc pc = .ok (.new 103, 3))
    (kk : ∀ (r : Nat) (H1 : Heap) (cells1 slots1 : Nat) (_ : cells1 = cells + 1 ∧ slots1 = slots + 3), EW D A s.heap (WX x ar cs Z B ((r, .inr (2, [.null, .int 0, .int 0])) :: Y)) H1 locs → W p l e R s mid args below meth c H1 locs cells1 slots1 Q (F0 mid (pc + 3) ls (.ref r :: rest))) : W p l e R s mid args below meth c H locs cells slots Q (F0 mid pc ls (rest)) :=
  va_new (ci := 2) (fs := [.null, .int 0, .int 0]) (C := RX2) (T := TX2) (N := 3) hx hb hts in_X2 tyX2 tyX2_ok hown (hts _ q373) (hts _ q374) (hts _ q95) hK.1 hE.1 hE.2.1 hE.2.2 hA rfl (fun j hj => by rcases (show j = 0 ∨ j = 1 ∨ j = 2 by omega) with rfl | rfl | rfl <;> rfl) hc hs hd (fun q H1 hP hD hS => kk q H1 _ _ ⟨rfl, rfl⟩ (EW.perm ⟨hP, hD, hS⟩ (WX_push _)))
theorem xnew_3 (hx : p.tables.exec = Jvm.exec) (hb : c.code = cc) (hts : ∀ w ∈ lw_all, w.before args s = true) (hown : s.vm.findClass RX0 = some mid.cls) (hK : KK D cs s) (hA : ∀ q : Nat, s.heap.size ≤ q → A q) (hE : EW D A s.heap (WX x ar cs Z B Y) H locs) (hc : cells + 1 ≤ R.cells) (hs : slots + 3 ≤ R.slots) (hd : decode cc pc = .ok (.new 23, 3))
    (kk : ∀ (r : Nat) (H1 : Heap) (cells1 slots1 : Nat) (_ : cells1 = cells + 1 ∧ slots1 = slots + 3), EW D A s.heap ((r, .inr (3, [.int 0, .int 0, .int 0])) :: WX x ar cs Z B Y) H1 locs → W p l e R s mid args below meth c H1 locs cells1 slots1 Q (F0 mid (pc + 3) ls (.ref r :: rest))) : W p l e R s mid args below meth c H locs cells slots Q (F0 mid pc ls (rest)) :=
  va_new (ci := 3) (fs := [.int 0, .int 0, .int 0]) (C := RX3) (T := TX3) (N := 3) hx hb hts in_X3 tyX3 tyX3_ok hown (hts _ q113) (hts _ q449) (hts _ q96) hK.1 hE.1 hE.2.1 hE.2.2 hA rfl (fun j hj => by rcases (show j = 0 ∨ j = 1 ∨ j = 2 by omega) with rfl | rfl | rfl <;> rfl) hc hs hd (fun q H1 hP hD hS => kk q H1 _ _ ⟨rfl, rfl⟩ (EW.perm ⟨hP, hD, hS⟩ ((WX_cons _).symm.trans (WX_push _))))
theorem xnew_4 (hx : p.tables.exec = Jvm.exec) (hb : c.code = cc) (hts : ∀ w ∈ lw_all, w.before args s = true) (hown : s.vm.findClass RX0 = some mid.cls) (hK : KK D cs s) (hA : ∀ q : Nat, s.heap.size ≤ q → A q) (hE : EW D A s.heap (WX x ar cs Z B Y) H locs) (hc : cells + 1 ≤ R.cells) (hs : slots + 5 ≤ R.slots) (hd : decode cc pc = .ok (.new 167, 3))
    (kk : ∀ (r : Nat) (H1 : Heap) (cells1 slots1 : Nat) (_ : cells1 = cells + 1 ∧ slots1 = slots + 5), EW D A s.heap ((r, .inr (4, [.int 0, .int 0, .int 0, .int 0, .int 0])) :: WX x ar cs Z B Y) H1 locs → W p l e R s mid args below meth c H1 locs cells1 slots1 Q (F0 mid (pc + 3) ls (.ref r :: rest))) : W p l e R s mid args below meth c H locs cells slots Q (F0 mid pc ls (rest)) :=
  va_new (ci := 4) (fs := [.int 0, .int 0, .int 0, .int 0, .int 0]) (C := RX4) (T := TX4) (N := 5) hx hb hts in_X4 tyX4 tyX4_ok hown (hts _ q466) (hts _ q467) (hts _ q97) hK.1 hE.1 hE.2.1 hE.2.2 hA rfl (fun j hj => by rcases (show j = 0 ∨ j = 1 ∨ j = 2 ∨ j = 3 ∨ j = 4 by omega) with rfl | rfl | rfl | rfl | rfl <;> rfl) hc hs hd (fun q H1 hP hD hS => kk q H1 _ _ ⟨rfl, rfl⟩ (EW.perm ⟨hP, hD, hS⟩ ((WX_cons _).symm.trans (WX_push _))))
theorem xnew_5 (hx : p.tables.exec = Jvm.exec) (hb : c.code = cc) (hts : ∀ w ∈ lw_all, w.before args s = true) (hown : s.vm.findClass RX0 = some mid.cls) (hK : KK D cs s) (hA : ∀ q : Nat, s.heap.size ≤ q → A q) (hE : EW D A s.heap (WX x ar cs Z B Y) H locs) (hc : cells + 1 ≤ R.cells) (hs : slots + 5 ≤ R.slots) (hd : decode cc pc = .ok (.new 170, 3))
    (kk : ∀ (r : Nat) (H1 : Heap) (cells1 slots1 : Nat) (_ : cells1 = cells + 1 ∧ slots1 = slots + 5), EW D A s.heap ((r, .inr (5, [.int 0, .int 0, .int 0, .int 0, .int 0])) :: WX x ar cs Z B Y) H1 locs → W p l e R s mid args below meth c H1 locs cells1 slots1 Q (F0 mid (pc + 3) ls (.ref r :: rest))) : W p l e R s mid args below meth c H locs cells slots Q (F0 mid pc ls (rest)) :=
  va_new (ci := 5) (fs := [.int 0, .int 0, .int 0, .int 0, .int 0]) (C := RX5) (T := TX5) (N := 5) hx hb hts in_X5 tyX5 tyX5_ok hown (hts _ q484) (hts _ q485) (hts _ q98) hK.1 hE.1 hE.2.1 hE.2.2 hA rfl (fun j hj => by rcases (show j = 0 ∨ j = 1 ∨ j = 2 ∨ j = 3 ∨ j = 4 by omega) with rfl | rfl | rfl | rfl | rfl <;> rfl) hc hs hd (fun q H1 hP hD hS => kk q H1 _ _ ⟨rfl, rfl⟩ (EW.perm ⟨hP, hD, hS⟩ ((WX_cons _).symm.trans (WX_push _))))
theorem xnew_6 (hx : p.tables.exec = Jvm.exec) (hb : c.code = cc) (hts : ∀ w ∈ lw_all, w.before args s = true) (hown : s.vm.findClass RX0 = some mid.cls) (hK : KK D cs s) (hA : ∀ q : Nat, s.heap.size ≤ q → A q) (hE : EW D A s.heap (WX x ar cs Z B Y) H locs) (hc : cells + 1 ≤ R.cells) (hs : slots + 6 ≤ R.slots) (hd : decode cc pc = .ok (.new 173, 3))
    (kk : ∀ (r : Nat) (H1 : Heap) (cells1 slots1 : Nat) (_ : cells1 = cells + 1 ∧ slots1 = slots + 6), EW D A s.heap ((r, .inr (6, [.int 0, .int 0, .int 0, .int 0, .int 0, .int 0])) :: WX x ar cs Z B Y) H1 locs → W p l e R s mid args below meth c H1 locs cells1 slots1 Q (F0 mid (pc + 3) ls (.ref r :: rest))) : W p l e R s mid args below meth c H locs cells slots Q (F0 mid pc ls (rest)) :=
  va_new (ci := 6) (fs := [.int 0, .int 0, .int 0, .int 0, .int 0, .int 0]) (C := RX6) (T := TX6) (N := 6) hx hb hts in_X6 tyX6 tyX6_ok hown (hts _ q502) (hts _ q503) (hts _ q99) hK.1 hE.1 hE.2.1 hE.2.2 hA rfl (fun j hj => by rcases (show j = 0 ∨ j = 1 ∨ j = 2 ∨ j = 3 ∨ j = 4 ∨ j = 5 by omega) with rfl | rfl | rfl | rfl | rfl | rfl <;> rfl) hc hs hd (fun q H1 hP hD hS => kk q H1 _ _ ⟨rfl, rfl⟩ (EW.perm ⟨hP, hD, hS⟩ ((WX_cons _).symm.trans (WX_push _))))
end NEWS
set_option maxHeartbeats 4000000 in
set_option maxRecDepth 100000 in
theorem met_r_init (l : Launch) (D : va_G) (cs : Nat → ClassId) (b : Nat) (Y : va_W) (sz : Nat) (a : Nat) : Met l yX2_init (ws_ yX2_init cX2_init 2 none) ({ frames := 1, cells := 0, slots := 0, locals := 12 }) (va_Pc [.ref b, .ref a] (wSt D cs ((b, .inr (2, [.null, .int 0, .int 0])) :: Y) sz)) (cQv (fun (_ : Unit) => True) D (fun _ => ((b, .inr (2, [.ref a, .int 0, .int 0])) :: Y)) ((b, .inr (2, [.null, .int 0, .int 0])) :: Y) sz) 0 0 (va_A ((b, .inr (2, [.null, .int 0, .int 0])) :: Y) sz) := by
  refine gStart_v (C := RX2) rfl rfl (Nat.le_of_ble_eq_true rfl) ?_
  intro p e s mid args below meth c R Q A hx hb hml hown hts hK hA hRf hRl hRc hRs hnm hret hE ls hl
  have hRf : 1 ≤ R.frames := hRf
  have hRl : 12 ≤ R.locals := hRl
  have hl : lv_has ls 2 [(0, .ref b), (1, .ref a)] := hl
  refine lv_aload_n hx hb dX2_init_0 rfl (lv_at hl 0 rfl) ?_
  refine W.objInit hx hb hown (hts _ q378) (hts _ q109) (hts _ q110) rfl (by rw [hml]; exact hl.1) rfl dX2_init_1 (by omega) (by show 12 ≤ R.locals; omega) ?_
  refine lv_aload_n hx hb dX2_init_4 rfl (lv_at hl 0 rfl) ?_
  refine lv_aload_n hx hb dX2_init_5 rfl (lv_at hl 1 rfl) ?_
  refine va_putF (D := D) (cl := vwCl) (tys := tyL cs) (ci := 2) (v := .ref a) (ty := (.array .byte)) (C := RX2) (T := TX2) (N := 3) hx hb hts in_X2 tyX2 tyX2_ok nmX2 hown hK.1 hE.1 hE.2.1 hE.2.2 0 rfl rfl 0 (by decide) (hts _ q379) (fun _ h9 => h9) rfl hnm.symm rfl (by decide +kernel) rfl rfl (Nat.le_of_ble_eq_true rfl) dX2_init_6 (fun H locs hP hD hS => ?_)
  have hE : EW D A s.heap _ H locs := ⟨hP, hD, hS⟩
  exact hret () trivial hE (Nat.le_refl 0) (Nat.le_refl 0) dX2_init_9
set_option maxHeartbeats 4000000 in
set_option maxRecDepth 100000 in
theorem met_b3i_3 (l : Launch) (D : va_G) (cs : Nat → ClassId) (b : Nat) (Y : va_W) (sz : Nat) : Met l yX3_init (ws_ yX3_init cX3_init 1 none) ({ frames := 1, cells := 0, slots := 0, locals := 12 }) (va_Pc [.ref b] (wSt D cs ((b, .inr (3, [.int 0, .int 0, .int 0])) :: Y) sz)) (cQv (fun (_ : Unit) => True) D (fun _ => ((b, .inr (3, [.int 0, .int 0, .int (-9)])) :: Y)) ((b, .inr (3, [.int 0, .int 0, .int 0])) :: Y) sz) 0 0 (va_A ((b, .inr (3, [.int 0, .int 0, .int 0])) :: Y) sz) := by
  refine gStart_v (C := RX3) rfl rfl (Nat.le_of_ble_eq_true rfl) ?_
  intro p e s mid args below meth c R Q A hx hb hml hown hts hK hA hRf hRl hRc hRs hnm hret hE ls hl
  have hRf : 1 ≤ R.frames := hRf
  have hRl : 12 ≤ R.locals := hRl
  have hl : lv_has ls 1 [(0, .ref b)] := hl
  refine lv_aload_n hx hb dX3_init_0 rfl (lv_at hl 0 rfl) ?_
  refine W.objInit hx hb hown (hts _ q453) (hts _ q109) (hts _ q110) rfl (by rw [hml]; exact hl.1) rfl dX3_init_1 (by omega) (by show 12 ≤ R.locals; omega) ?_
  refine lv_aload_n hx hb dX3_init_4 rfl (lv_at hl 0 rfl) ?_
  refine lv_bipush (v := -9) hx hb dX3_init_5 rfl ?_
  refine va_put (D := D) (cl := vwCl) (tys := tyL cs) (ci := 3) (v := .int (-9)) (ty := .int) (C := RX3) (T := TX3) (N := 3) hx hb hts in_X3 tyX3 tyX3_ok nmX3 hown hK.1 hE.1 hE.2.1 hE.2.2 0 rfl rfl 2 (by decide) (hts _ q457) (fun _ h9 => h9) rfl (by decide +kernel) rfl rfl (Nat.le_of_ble_eq_true rfl) dX3_init_7 (fun H locs hP hD hS => ?_)
  have hE : EW D A s.heap _ H locs := ⟨hP, hD, hS⟩
  exact hret () trivial hE (Nat.le_refl 0) (Nat.le_refl 0) dX3_init_10
set_option maxHeartbeats 4000000 in
set_option maxRecDepth 100000 in
theorem met_b3i_4 (l : Launch) (D : va_G) (cs : Nat → ClassId) (b : Nat) (Y : va_W) (sz : Nat) : Met l yX3_init (ws_ yX3_init cX3_init 1 none) ({ frames := 1, cells := 0, slots := 0, locals := 12 }) (va_Pc [.ref b] (wSt D cs ((b, .inr (4, [.int 0, .int 0, .int 0, .int 0, .int 0])) :: Y) sz)) (cQv (fun (_ : Unit) => True) D (fun _ => ((b, .inr (4, [.int 0, .int 0, .int (-9), .int 0, .int 0])) :: Y)) ((b, .inr (4, [.int 0, .int 0, .int 0, .int 0, .int 0])) :: Y) sz) 0 0 (va_A ((b, .inr (4, [.int 0, .int 0, .int 0, .int 0, .int 0])) :: Y) sz) := by
  refine gStart_v (C := RX3) rfl rfl (Nat.le_of_ble_eq_true rfl) ?_
  intro p e s mid args below meth c R Q A hx hb hml hown hts hK hA hRf hRl hRc hRs hnm hret hE ls hl
  have hRf : 1 ≤ R.frames := hRf
  have hRl : 12 ≤ R.locals := hRl
  have hl : lv_has ls 1 [(0, .ref b)] := hl
  refine lv_aload_n hx hb dX3_init_0 rfl (lv_at hl 0 rfl) ?_
  refine W.objInit hx hb hown (hts _ q453) (hts _ q109) (hts _ q110) rfl (by rw [hml]; exact hl.1) rfl dX3_init_1 (by omega) (by show 12 ≤ R.locals; omega) ?_
  refine lv_aload_n hx hb dX3_init_4 rfl (lv_at hl 0 rfl) ?_
  refine lv_bipush (v := -9) hx hb dX3_init_5 rfl ?_
  refine va_put (D := D) (cl := vwCl) (tys := tyL cs) (ci := 4) (v := .int (-9)) (ty := .int) (C := RX4) (T := TX4) (N := 5) hx hb hts in_X4 tyX4 tyX4_ok nmX4 hown hK.1 hE.1 hE.2.1 hE.2.2 0 rfl rfl 2 (by decide) (hts _ q457) (fun _ h9 => h9) rfl (by decide +kernel) rfl rfl (Nat.le_of_ble_eq_true rfl) dX3_init_7 (fun H locs hP hD hS => ?_)
  have hE : EW D A s.heap _ H locs := ⟨hP, hD, hS⟩
  exact hret () trivial hE (Nat.le_refl 0) (Nat.le_refl 0) dX3_init_10
set_option maxHeartbeats 4000000 in
set_option maxRecDepth 100000 in
theorem met_b3i_5 (l : Launch) (D : va_G) (cs : Nat → ClassId) (b : Nat) (Y : va_W) (sz : Nat) : Met l yX3_init (ws_ yX3_init cX3_init 1 none) ({ frames := 1, cells := 0, slots := 0, locals := 12 }) (va_Pc [.ref b] (wSt D cs ((b, .inr (5, [.int 0, .int 0, .int 0, .int 0, .int 0])) :: Y) sz)) (cQv (fun (_ : Unit) => True) D (fun _ => ((b, .inr (5, [.int 0, .int 0, .int (-9), .int 0, .int 0])) :: Y)) ((b, .inr (5, [.int 0, .int 0, .int 0, .int 0, .int 0])) :: Y) sz) 0 0 (va_A ((b, .inr (5, [.int 0, .int 0, .int 0, .int 0, .int 0])) :: Y) sz) := by
  refine gStart_v (C := RX3) rfl rfl (Nat.le_of_ble_eq_true rfl) ?_
  intro p e s mid args below meth c R Q A hx hb hml hown hts hK hA hRf hRl hRc hRs hnm hret hE ls hl
  have hRf : 1 ≤ R.frames := hRf
  have hRl : 12 ≤ R.locals := hRl
  have hl : lv_has ls 1 [(0, .ref b)] := hl
  refine lv_aload_n hx hb dX3_init_0 rfl (lv_at hl 0 rfl) ?_
  refine W.objInit hx hb hown (hts _ q453) (hts _ q109) (hts _ q110) rfl (by rw [hml]; exact hl.1) rfl dX3_init_1 (by omega) (by show 12 ≤ R.locals; omega) ?_
  refine lv_aload_n hx hb dX3_init_4 rfl (lv_at hl 0 rfl) ?_
  refine lv_bipush (v := -9) hx hb dX3_init_5 rfl ?_
  refine va_put (D := D) (cl := vwCl) (tys := tyL cs) (ci := 5) (v := .int (-9)) (ty := .int) (C := RX5) (T := TX5) (N := 5) hx hb hts in_X5 tyX5 tyX5_ok nmX5 hown hK.1 hE.1 hE.2.1 hE.2.2 0 rfl rfl 2 (by decide) (hts _ q457) (fun _ h9 => h9) rfl (by decide +kernel) rfl rfl (Nat.le_of_ble_eq_true rfl) dX3_init_7 (fun H locs hP hD hS => ?_)
  have hE : EW D A s.heap _ H locs := ⟨hP, hD, hS⟩
  exact hret () trivial hE (Nat.le_refl 0) (Nat.le_refl 0) dX3_init_10
set_option maxHeartbeats 4000000 in
set_option maxRecDepth 100000 in
theorem met_b3i_6 (l : Launch) (D : va_G) (cs : Nat → ClassId) (b : Nat) (Y : va_W) (sz : Nat) : Met l yX3_init (ws_ yX3_init cX3_init 1 none) ({ frames := 1, cells := 0, slots := 0, locals := 12 }) (va_Pc [.ref b] (wSt D cs ((b, .inr (6, [.int 0, .int 0, .int 0, .int 0, .int 0, .int 0])) :: Y) sz)) (cQv (fun (_ : Unit) => True) D (fun _ => ((b, .inr (6, [.int 0, .int 0, .int (-9), .int 0, .int 0, .int 0])) :: Y)) ((b, .inr (6, [.int 0, .int 0, .int 0, .int 0, .int 0, .int 0])) :: Y) sz) 0 0 (va_A ((b, .inr (6, [.int 0, .int 0, .int 0, .int 0, .int 0, .int 0])) :: Y) sz) := by
  refine gStart_v (C := RX3) rfl rfl (Nat.le_of_ble_eq_true rfl) ?_
  intro p e s mid args below meth c R Q A hx hb hml hown hts hK hA hRf hRl hRc hRs hnm hret hE ls hl
  have hRf : 1 ≤ R.frames := hRf
  have hRl : 12 ≤ R.locals := hRl
  have hl : lv_has ls 1 [(0, .ref b)] := hl
  refine lv_aload_n hx hb dX3_init_0 rfl (lv_at hl 0 rfl) ?_
  refine W.objInit hx hb hown (hts _ q453) (hts _ q109) (hts _ q110) rfl (by rw [hml]; exact hl.1) rfl dX3_init_1 (by omega) (by show 12 ≤ R.locals; omega) ?_
  refine lv_aload_n hx hb dX3_init_4 rfl (lv_at hl 0 rfl) ?_
  refine lv_bipush (v := -9) hx hb dX3_init_5 rfl ?_
  refine va_put (D := D) (cl := vwCl) (tys := tyL cs) (ci := 6) (v := .int (-9)) (ty := .int) (C := RX6) (T := TX6) (N := 6) hx hb hts in_X6 tyX6 tyX6_ok nmX6 hown hK.1 hE.1 hE.2.1 hE.2.2 0 rfl rfl 2 (by decide) (hts _ q457) (fun _ h9 => h9) rfl (by decide +kernel) rfl rfl (Nat.le_of_ble_eq_true rfl) dX3_init_7 (fun H locs hP hD hS => ?_)
  have hE : EW D A s.heap _ H locs := ⟨hP, hD, hS⟩
  exact hret () trivial hE (Nat.le_refl 0) (Nat.le_refl 0) dX3_init_10
set_option maxHeartbeats 4000000 in
set_option maxRecDepth 100000 in
theorem met_b4i_4 (l : Launch) (D : va_G) (cs : Nat → ClassId) (b : Nat) (Y : va_W) (sz : Nat) : Met l yX4_init (ws_ yX4_init cX4_init 1 none) ({ frames := 2, cells := 0, slots := 0, locals := 32 }) (va_Pc [.ref b] (wSt D cs ((b, .inr (4, [.int 0, .int 0, .int 0, .int 0, .int 0])) :: Y) sz)) (cQv (fun (_ : Unit) => True) D (fun _ => ((b, .inr (4, [.int 0, .int 0, .int (-9), .int 100, .int 1000])) :: Y)) ((b, .inr (4, [.int 0, .int 0, .int 0, .int 0, .int 0])) :: Y) sz) 0 0 (va_A ((b, .inr (4, [.int 0, .int 0, .int 0, .int 0, .int 0])) :: Y) sz) := by
  refine gStart_v (C := RX4) rfl rfl (Nat.le_of_ble_eq_true rfl) ?_
  intro p e s mid args below meth c R Q A hx hb hml hown hts hK hA hRf hRl hRc hRs hnm hret hE ls hl
  have hRf : 2 ≤ R.frames := hRf
  have hRl : 32 ≤ R.locals := hRl
  have hl : lv_has ls 1 [(0, .ref b)] := hl
  refine lv_aload_n hx hb dX4_init_0 rfl (lv_at hl 0 rfl) ?_
  refine gCallIN (As := []) (rest := []) hx hb hml hown hts hK hA hE hl.1 (met_b3i_4 l D cs b Y _) ⟨va_cnB 0 hts (lw_meth q452) rfl rfl rfl (hK.2.1 (.methodLinkNest "EaterWebs$Plant" 3 ⟨"EaterWebs$Being", "<init>", "()V"⟩ "EaterWebs") (by simp [nwL, nwM])) (hts _ q96) (by decide +kernel) ⟨by show 2 ≤ R.frames; omega, by show 32 ≤ R.locals; omega⟩, rfl, hts _ q451⟩ rfl rfl (Nat.le_of_ble_eq_true rfl) dX4_init_1 ⟨Nat.zero_le _, Nat.zero_le _⟩ (fun _ H locs _ _ hE => ?_)
  refine lv_aload_n hx hb dX4_init_4 rfl (lv_at hl 0 rfl) ?_
  refine lv_bipush (v := 100) hx hb dX4_init_5 rfl ?_
  refine va_put (D := D) (cl := vwCl) (tys := tyL cs) (ci := 4) (v := .int 100) (ty := .int) (C := RX4) (T := TX4) (N := 5) hx hb hts in_X4 tyX4 tyX4_ok nmX4 hown hK.1 hE.1 hE.2.1 hE.2.2 0 rfl rfl 3 (by decide) (hts _ q472) (fun _ h9 => h9) rfl (by decide +kernel) rfl rfl (Nat.le_of_ble_eq_true rfl) dX4_init_7 (fun H locs hP hD hS => ?_)
  have hE : EW D A s.heap _ H locs := ⟨hP, hD, hS⟩
  refine lv_aload_n hx hb dX4_init_10 rfl (lv_at hl 0 rfl) ?_
  refine lv_sipush (v := 1000) hx hb dX4_init_11 rfl ?_
  refine va_put (D := D) (cl := vwCl) (tys := tyL cs) (ci := 4) (v := .int 1000) (ty := .int) (C := RX4) (T := TX4) (N := 5) hx hb hts in_X4 tyX4 tyX4_ok nmX4 hown hK.1 hE.1 hE.2.1 hE.2.2 0 rfl rfl 4 (by decide) (hts _ q474) (fun _ h9 => h9) rfl (by decide +kernel) rfl rfl (Nat.le_of_ble_eq_true rfl) dX4_init_14 (fun H locs hP hD hS => ?_)
  have hE : EW D A s.heap _ H locs := ⟨hP, hD, hS⟩
  exact hret () trivial hE (Nat.le_refl 0) (Nat.le_refl 0) dX4_init_17
set_option maxHeartbeats 4000000 in
set_option maxRecDepth 100000 in
theorem met_b5i_5 (l : Launch) (D : va_G) (cs : Nat → ClassId) (b : Nat) (Y : va_W) (sz : Nat) : Met l yX5_init (ws_ yX5_init cX5_init 1 none) ({ frames := 2, cells := 0, slots := 0, locals := 32 }) (va_Pc [.ref b] (wSt D cs ((b, .inr (5, [.int 0, .int 0, .int 0, .int 0, .int 0])) :: Y) sz)) (cQv (fun (_ : Unit) => True) D (fun _ => ((b, .inr (5, [.int 0, .int 0, .int (-9), .int 50, .int 20])) :: Y)) ((b, .inr (5, [.int 0, .int 0, .int 0, .int 0, .int 0])) :: Y) sz) 0 0 (va_A ((b, .inr (5, [.int 0, .int 0, .int 0, .int 0, .int 0])) :: Y) sz) := by
  refine gStart_v (C := RX5) rfl rfl (Nat.le_of_ble_eq_true rfl) ?_
  intro p e s mid args below meth c R Q A hx hb hml hown hts hK hA hRf hRl hRc hRs hnm hret hE ls hl
  have hRf : 2 ≤ R.frames := hRf
  have hRl : 32 ≤ R.locals := hRl
  have hl : lv_has ls 1 [(0, .ref b)] := hl
  refine lv_aload_n hx hb dX5_init_0 rfl (lv_at hl 0 rfl) ?_
  refine gCallIN (As := []) (rest := []) hx hb hml hown hts hK hA hE hl.1 (met_b3i_5 l D cs b Y _) ⟨va_cnB 0 hts (lw_meth q452) rfl rfl rfl (hK.2.1 (.methodLinkNest "EaterWebs$Eater" 3 ⟨"EaterWebs$Being", "<init>", "()V"⟩ "EaterWebs") (by simp [nwL, nwM])) (hts _ q96) (by decide +kernel) ⟨by show 2 ≤ R.frames; omega, by show 32 ≤ R.locals; omega⟩, rfl, hts _ q451⟩ rfl rfl (Nat.le_of_ble_eq_true rfl) dX5_init_1 ⟨Nat.zero_le _, Nat.zero_le _⟩ (fun _ H locs _ _ hE => ?_)
  refine lv_aload_n hx hb dX5_init_4 rfl (lv_at hl 0 rfl) ?_
  refine lv_bipush (v := 50) hx hb dX5_init_5 rfl ?_
  refine va_put (D := D) (cl := vwCl) (tys := tyL cs) (ci := 5) (v := .int 50) (ty := .int) (C := RX5) (T := TX5) (N := 5) hx hb hts in_X5 tyX5 tyX5_ok nmX5 hown hK.1 hE.1 hE.2.1 hE.2.2 0 rfl rfl 3 (by decide) (hts _ q490) (fun _ h9 => h9) rfl (by decide +kernel) rfl rfl (Nat.le_of_ble_eq_true rfl) dX5_init_7 (fun H locs hP hD hS => ?_)
  have hE : EW D A s.heap _ H locs := ⟨hP, hD, hS⟩
  refine lv_aload_n hx hb dX5_init_10 rfl (lv_at hl 0 rfl) ?_
  refine lv_bipush (v := 20) hx hb dX5_init_11 rfl ?_
  refine va_put (D := D) (cl := vwCl) (tys := tyL cs) (ci := 5) (v := .int 20) (ty := .int) (C := RX5) (T := TX5) (N := 5) hx hb hts in_X5 tyX5 tyX5_ok nmX5 hown hK.1 hE.1 hE.2.1 hE.2.2 0 rfl rfl 4 (by decide) (hts _ q492) (fun _ h9 => h9) rfl (by decide +kernel) rfl rfl (Nat.le_of_ble_eq_true rfl) dX5_init_13 (fun H locs hP hD hS => ?_)
  have hE : EW D A s.heap _ H locs := ⟨hP, hD, hS⟩
  exact hret () trivial hE (Nat.le_refl 0) (Nat.le_refl 0) dX5_init_16
set_option maxHeartbeats 4000000 in
set_option maxRecDepth 100000 in
theorem met_b5i_6 (l : Launch) (D : va_G) (cs : Nat → ClassId) (b : Nat) (Y : va_W) (sz : Nat) : Met l yX5_init (ws_ yX5_init cX5_init 1 none) ({ frames := 2, cells := 0, slots := 0, locals := 32 }) (va_Pc [.ref b] (wSt D cs ((b, .inr (6, [.int 0, .int 0, .int 0, .int 0, .int 0, .int 0])) :: Y) sz)) (cQv (fun (_ : Unit) => True) D (fun _ => ((b, .inr (6, [.int 0, .int 0, .int (-9), .int 50, .int 20, .int 0])) :: Y)) ((b, .inr (6, [.int 0, .int 0, .int 0, .int 0, .int 0, .int 0])) :: Y) sz) 0 0 (va_A ((b, .inr (6, [.int 0, .int 0, .int 0, .int 0, .int 0, .int 0])) :: Y) sz) := by
  refine gStart_v (C := RX5) rfl rfl (Nat.le_of_ble_eq_true rfl) ?_
  intro p e s mid args below meth c R Q A hx hb hml hown hts hK hA hRf hRl hRc hRs hnm hret hE ls hl
  have hRf : 2 ≤ R.frames := hRf
  have hRl : 32 ≤ R.locals := hRl
  have hl : lv_has ls 1 [(0, .ref b)] := hl
  refine lv_aload_n hx hb dX5_init_0 rfl (lv_at hl 0 rfl) ?_
  refine gCallIN (As := []) (rest := []) hx hb hml hown hts hK hA hE hl.1 (met_b3i_6 l D cs b Y _) ⟨va_cnB 0 hts (lw_meth q452) rfl rfl rfl (hK.2.1 (.methodLinkNest "EaterWebs$Eater" 3 ⟨"EaterWebs$Being", "<init>", "()V"⟩ "EaterWebs") (by simp [nwL, nwM])) (hts _ q96) (by decide +kernel) ⟨by show 2 ≤ R.frames; omega, by show 32 ≤ R.locals; omega⟩, rfl, hts _ q451⟩ rfl rfl (Nat.le_of_ble_eq_true rfl) dX5_init_1 ⟨Nat.zero_le _, Nat.zero_le _⟩ (fun _ H locs _ _ hE => ?_)
  refine lv_aload_n hx hb dX5_init_4 rfl (lv_at hl 0 rfl) ?_
  refine lv_bipush (v := 50) hx hb dX5_init_5 rfl ?_
  refine va_put (D := D) (cl := vwCl) (tys := tyL cs) (ci := 6) (v := .int 50) (ty := .int) (C := RX6) (T := TX6) (N := 6) hx hb hts in_X6 tyX6 tyX6_ok nmX6 hown hK.1 hE.1 hE.2.1 hE.2.2 0 rfl rfl 3 (by decide) (hts _ q490) (fun _ h9 => h9) rfl (by decide +kernel) rfl rfl (Nat.le_of_ble_eq_true rfl) dX5_init_7 (fun H locs hP hD hS => ?_)
  have hE : EW D A s.heap _ H locs := ⟨hP, hD, hS⟩
  refine lv_aload_n hx hb dX5_init_10 rfl (lv_at hl 0 rfl) ?_
  refine lv_bipush (v := 20) hx hb dX5_init_11 rfl ?_
  refine va_put (D := D) (cl := vwCl) (tys := tyL cs) (ci := 6) (v := .int 20) (ty := .int) (C := RX6) (T := TX6) (N := 6) hx hb hts in_X6 tyX6 tyX6_ok nmX6 hown hK.1 hE.1 hE.2.1 hE.2.2 0 rfl rfl 4 (by decide) (hts _ q492) (fun _ h9 => h9) rfl (by decide +kernel) rfl rfl (Nat.le_of_ble_eq_true rfl) dX5_init_13 (fun H locs hP hD hS => ?_)
  have hE : EW D A s.heap _ H locs := ⟨hP, hD, hS⟩
  exact hret () trivial hE (Nat.le_refl 0) (Nat.le_refl 0) dX5_init_16
set_option maxHeartbeats 4000000 in
set_option maxRecDepth 100000 in
theorem met_b6i_6 (l : Launch) (D : va_G) (cs : Nat → ClassId) (b : Nat) (Y : va_W) (sz : Nat) (v : Int32) : Met l yX6_init (ws_ yX6_init cX6_init 2 none) ({ frames := 3, cells := 0, slots := 0, locals := 52 }) (va_Pc [.ref b, .int v] (wSt D cs ((b, .inr (6, [.int 0, .int 0, .int 0, .int 0, .int 0, .int 0])) :: Y) sz)) (cQv (fun (_ : Unit) => True) D (fun _ => ((b, .inr (6, [.int 0, .int 0, .int (-9), .int 50, .int 20, .int v])) :: Y)) ((b, .inr (6, [.int 0, .int 0, .int 0, .int 0, .int 0, .int 0])) :: Y) sz) 0 0 (va_A ((b, .inr (6, [.int 0, .int 0, .int 0, .int 0, .int 0, .int 0])) :: Y) sz) := by
  refine gStart_v (C := RX6) rfl rfl (Nat.le_of_ble_eq_true rfl) ?_
  intro p e s mid args below meth c R Q A hx hb hml hown hts hK hA hRf hRl hRc hRs hnm hret hE ls hl
  have hRf : 3 ≤ R.frames := hRf
  have hRl : 52 ≤ R.locals := hRl
  have hl : lv_has ls 2 [(0, .ref b), (1, .int v)] := hl
  refine lv_aload_n hx hb dX6_init_0 rfl (lv_at hl 0 rfl) ?_
  refine gCallIN (As := []) (rest := []) hx hb hml hown hts hK hA hE hl.1 (met_b5i_6 l D cs b Y _) ⟨va_cnB 0 hts (lw_meth q488) rfl rfl rfl (hK.2.1 (.methodLinkNest "EaterWebs$Guest" 3 ⟨"EaterWebs$Eater", "<init>", "()V"⟩ "EaterWebs") (by simp [nwL, nwM])) (hts _ q98) (by decide +kernel) ⟨by show 3 ≤ R.frames; omega, by show 52 ≤ R.locals; omega⟩, rfl, hts _ q487⟩ rfl rfl (Nat.le_of_ble_eq_true rfl) dX6_init_1 ⟨Nat.zero_le _, Nat.zero_le _⟩ (fun _ H locs _ _ hE => ?_)
  refine lv_aload_n hx hb dX6_init_4 rfl (lv_at hl 0 rfl) ?_
  refine lv_iload_n hx hb dX6_init_5 rfl (lv_at hl 1 rfl) ?_
  refine va_putF (D := D) (cl := vwCl) (tys := tyL cs) (ci := 6) (v := .int v) (ty := .int) (C := RX6) (T := TX6) (N := 6) hx hb hts in_X6 tyX6 tyX6_ok nmX6 hown hK.1 hE.1 hE.2.1 hE.2.2 0 rfl rfl 5 (by decide) (hts _ q508) (fun _ h9 => h9) rfl hnm.symm rfl (by decide +kernel) rfl rfl (Nat.le_of_ble_eq_true rfl) dX6_init_6 (fun H locs hP hD hS => ?_)
  have hE : EW D A s.heap _ H locs := ⟨hP, hD, hS⟩
  exact hret () trivial hE (Nat.le_refl 0) (Nat.le_refl 0) dX6_init_9
def mkF (k nw : Int32) : Nat × List Value := if k = 0 then (3, [.int 0, .int 0, .int (-9)]) else if k = 1 then (4, [.int 0, .int 0, .int (-9), .int 100, .int 1000]) else if k = 2 then (5, [.int 0, .int 0, .int (-9), .int 50, .int 20]) else (6, [.int 0, .int 0, .int (-9), .int 50, .int 20, .int nw])
theorem mkF_0 {k nw : Int32} (h : k = 0) : mkF k nw = (3, [.int 0, .int 0, .int (-9)]) := if_pos h
theorem mkF_1 {k nw : Int32} (h0 : ¬ k = 0) (h : k = 1) : mkF k nw = (4, [.int 0, .int 0, .int (-9), .int 100, .int 1000]) := by
  unfold mkF
  rw [if_neg h0, if_pos h]
theorem mkF_2 {k nw : Int32} (h0 : ¬ k = 0) (h1 : ¬ k = 1) (h : k = 2) : mkF k nw = (5, [.int 0, .int 0, .int (-9), .int 50, .int 20]) := by
  unfold mkF
  rw [if_neg h0, if_neg h1, if_pos h]
theorem mkF_3 {k nw : Int32} (h0 : ¬ k = 0) (h1 : ¬ k = 1) (h2 : ¬ k = 2) : mkF k nw = (6, [.int 0, .int 0, .int (-9), .int 50, .int 20, .int nw]) := by
  unfold mkF
  rw [if_neg h0, if_neg h1, if_neg h2]
set_option maxHeartbeats 4000000 in
set_option maxRecDepth 100000 in
theorem met_x_made (l : Launch) (D : va_G) (cs : Nat → ClassId) (x : Nat) (ar : Nat → Nat) (B : BT) (Y : va_W) (Z : ZT) (sz : Nat) (p1 : Int32) : Met l yX0_made (ws_ yX0_made cX0_made 2 (some (.object "EaterWebs$Being"))) ({ frames := 4, cells := 1, slots := 6, locals := 73 }) (va_Pc [.ref x, .int p1] (wSt D cs (WX x ar cs Z B Y) sz)) (cQr (fun (_ : Unit) => True) D (fun _ a => (a, .inr (mkF p1 (Z.1 5 0))) :: WX x ar cs Z B Y) (WX x ar cs Z B Y) sz) 1 6 (va_A (WX x ar cs Z B Y) sz) := by
  refine gStart_r (C := RX0) rfl rfl (Nat.le_of_ble_eq_true rfl) ?_
  intro p e s mid args below meth c R Q A hx hb hml hown hts hK hA hRf hRl hRc hRs hret hE ls hl
  have hRf : 4 ≤ R.frames := hRf
  have hRl : 73 ≤ R.locals := hRl
  have hRc : 1 ≤ R.cells := hRc
  have hRs : 6 ≤ R.slots := hRs
  have hl : lv_has ls 2 [(0, .ref x), (1, .int p1)] := hl
  refine lv_iload_n hx hb dX0_made_0 rfl (lv_at hl 1 rfl) ?_
  by_cases c0 : p1 = 0
  · refine lv_tableIn (off := 27) (tgt := 28) hx hb dX0_made_1 (by rw [c0]; decide) (by rw [c0]; decide) (by rw [c0]; rfl) (by decide) ?_
    refine xnew_3 hx hb hts hown hK hA hE (by omega) (by omega) dX0_made_28 (fun q H cells slots hcs2 hE => ?_)
    refine lv_dup hx hb dX0_made_31 rfl ?_
    refine gCallIN (As := []) (rest := [.ref q]) hx hb hml hown hts hK hA hE hl.1 (met_b3i_3 l D cs q _ _) ⟨va_cnB 0 hts (lw_meth q452) rfl rfl rfl (hK.2.1 (.methodLinkNest "EaterWebs" 166 ⟨"EaterWebs$Being", "<init>", "()V"⟩ "EaterWebs") (by simp [nwL, nwM])) (hts _ q96) (by decide +kernel) ⟨by show 2 ≤ R.frames; omega, by show 32 ≤ R.locals; omega⟩, rfl, hts _ q451⟩ rfl rfl (Nat.le_of_ble_eq_true rfl) dX0_made_32 ⟨by omega, by omega⟩ (fun _ H locs _ _ hE => ?_)
    exact hret q () trivial (by rw [mkF_0 c0]; exact hE) (by omega) (by omega) dX0_made_35
  by_cases c1 : p1 = 1
  · refine lv_tableIn (off := 35) (tgt := 36) hx hb dX0_made_1 (by rw [c1]; decide) (by rw [c1]; decide) (by rw [c1]; rfl) (by decide) ?_
    refine xnew_4 hx hb hts hown hK hA hE (by omega) (by omega) dX0_made_36 (fun q H cells slots hcs2 hE => ?_)
    refine lv_dup hx hb dX0_made_39 rfl ?_
    refine gCallIN (As := []) (rest := [.ref q]) hx hb hml hown hts hK hA hE hl.1 (met_b4i_4 l D cs q _ _) ⟨va_cnB 0 hts (lw_meth q470) rfl rfl rfl (hK.2.1 (.methodLinkNest "EaterWebs" 169 ⟨"EaterWebs$Plant", "<init>", "()V"⟩ "EaterWebs") (by simp [nwL, nwM])) (hts _ q97) (by decide +kernel) ⟨by show 3 ≤ R.frames; omega, by show 52 ≤ R.locals; omega⟩, rfl, hts _ q469⟩ rfl rfl (Nat.le_of_ble_eq_true rfl) dX0_made_40 ⟨by omega, by omega⟩ (fun _ H locs _ _ hE => ?_)
    exact hret q () trivial (by rw [mkF_1 c0 c1]; exact hE) (by omega) (by omega) dX0_made_43
  by_cases c2 : p1 = 2
  · refine lv_tableIn (off := 43) (tgt := 44) hx hb dX0_made_1 (by rw [c2]; decide) (by rw [c2]; decide) (by rw [c2]; rfl) (by decide) ?_
    refine xnew_5 hx hb hts hown hK hA hE (by omega) (by omega) dX0_made_44 (fun q H cells slots hcs2 hE => ?_)
    refine lv_dup hx hb dX0_made_47 rfl ?_
    refine gCallIN (As := []) (rest := [.ref q]) hx hb hml hown hts hK hA hE hl.1 (met_b5i_5 l D cs q _ _) ⟨va_cnB 0 hts (lw_meth q488) rfl rfl rfl (hK.2.1 (.methodLinkNest "EaterWebs" 172 ⟨"EaterWebs$Eater", "<init>", "()V"⟩ "EaterWebs") (by simp [nwL, nwM])) (hts _ q98) (by decide +kernel) ⟨by show 3 ≤ R.frames; omega, by show 52 ≤ R.locals; omega⟩, rfl, hts _ q487⟩ rfl rfl (Nat.le_of_ble_eq_true rfl) dX0_made_48 ⟨by omega, by omega⟩ (fun _ H locs _ _ hE => ?_)
    exact hret q () trivial (by rw [mkF_2 c0 c1 c2]; exact hE) (by omega) (by omega) dX0_made_51
  refine lv_tableOut (tgt := 52) hx hb dX0_made_1 (sw_out2 c0 c1 c2) (by decide) ?_
  refine xnew_6 hx hb hts hown hK hA hE (by omega) (by omega) dX0_made_52 (fun q H cells slots hcs2 hE => ?_)
  refine lv_dup hx hb dX0_made_55 rfl ?_
  refine lv_aload_n hx hb dX0_made_56 rfl (lv_at hl 0 rfl) ?_
  refine xg_5 hx hb hts hown hK (EW.perm hE (WX_cons _)) dX0_made_57 ?_
  refine gCallI (As := [.int (Z.1 5 0)]) (rest := [.ref q]) hx hb hml hown hts hK hA hE hl.1 (met_b6i_6 l D cs q _ _ (Z.1 5 0)) (cwI 1 hts (lw_meth q506) rfl rfl rfl (hts _ q99) (hts _ q504) (hts _ q505) rfl (by decide +kernel) ⟨by omega, by omega⟩) rfl rfl (Nat.le_of_ble_eq_true rfl) dX0_made_60 ⟨by omega, by omega⟩ (fun _ H locs _ _ hE => ?_)
  exact hret q () trivial (by rw [mkF_3 c0 c1 c2]; exact hE) (by omega) (by omega) dX0_made_63
/-- a being of kind k comes to the place b -/
def x_born (b : Nat) (k : Int32) (Z : ZT) : ZT := sI (sI (sI (sI (sI (sI (sI (sI (sI (sI Z 30 b 1) 31 b k) 32 b 0) 33 b 0) 34 b (-9)) 35 b 100) 36 b 1000) 37 b 50) 38 b 20) 39 b (Z.1 5 0)
def x_come (b : Nat) (k : Int32) (Z : ZT) : ZT := x_born b k (x_clear b Z)
def bset (B : BT) (b q : Nat) : BT := (fun j => if j = b then q else B.1 j, B.2)
theorem sI_ne2 {Z : ZT} {k i r j : Nat} {v : Int32} (h : j ≠ i) : (sI Z k i v).1 r j = Z.1 r j := sI_off (fun q => h q.2)
theorem born_beF {b : Nat} {k : Int32} {Z : ZT} : beF (x_born b k Z) b = mkF k (Z.1 5 0) := by
  have e : ∀ r v, r ∈ [(31, k), (32, 0), (33, 0), (34, -9), (35, 100), (36, 1000), (37, 50), (38, 20), (39, Z.1 5 0)] → r = v → (x_born b k Z).1 v.1 b = v.2 := by
    intro r v hr e
    subst e
    simp only [List.mem_cons, List.not_mem_nil, or_false] at hr
    rcases hr with rfl | rfl | rfl | rfl | rfl | rfl | rfl | rfl | rfl <;> simp [x_born, sI, va_up, upd]
  have h31 := e (31, k) (31, k) (by simp) rfl
  have h32 := e (32, 0) (32, 0) (by simp) rfl
  have h33 := e (33, 0) (33, 0) (by simp) rfl
  have h34 := e (34, -9) (34, -9) (by simp) rfl
  have h35 := e (35, 100) (35, 100) (by simp) rfl
  have h36 := e (36, 1000) (36, 1000) (by simp) rfl
  have h37 := e (37, 50) (37, 50) (by simp) rfl
  have h38 := e (38, 20) (38, 20) (by simp) rfl
  have h39 := e (39, Z.1 5 0) (39, Z.1 5 0) (by simp) rfl
  dsimp only at h31 h32 h33 h34 h35 h36 h37 h38 h39
  unfold beF mkF
  rw [h31, h32, h33, h34, h35, h36, h37, h38, h39]
theorem born_ne {b j : Nat} {k : Int32} {Z : ZT} {r : Nat} (h : j ≠ b) : (x_born b k Z).1 r j = Z.1 r j := by
  unfold x_born
  rw [sI_ne2 h, sI_ne2 h, sI_ne2 h, sI_ne2 h, sI_ne2 h, sI_ne2 h, sI_ne2 h, sI_ne2 h, sI_ne2 h, sI_ne2 h]
theorem born_row {b : Nat} {k : Int32} {Z : ZT} {r : Nat} (h : r < 30 ∨ 39 < r) : (x_born b k Z).1 r = Z.1 r := by
  unfold x_born
  rw [sI_ne (by omega), sI_ne (by omega), sI_ne (by omega), sI_ne (by omega), sI_ne (by omega), sI_ne (by omega), sI_ne (by omega), sI_ne (by omega), sI_ne (by omega), sI_ne (by omega)]
theorem born_30 {b : Nat} {k : Int32} {Z : ZT} : (x_born b k Z).1 30 b = 1 := by simp [x_born, sI, va_up, upd]
theorem born_XB {x : Nat} {ar : Nat → Nat} {cs : Nat → ClassId} {b q : Nat} {k : Int32} {Z : ZT} {B : BT} : XB x ar cs (x_born b k Z) (bset B b q) = (XB x ar cs Z B).set 3 (ar 10, .inl (cs 4, 8, .inr (.inr (.inr (.inr (va_up (adr Z B) b (some q))))))) := by
  have e : adr (x_born b k Z) (bset B b q) = va_up (adr Z B) b (some q) := by
    funext j
    unfold va_up
    by_cases h : j = b
    · subst h
      rw [if_pos rfl, adr_of (by rw [born_30]; decide)]
      simp [bset]
    · rw [if_neg h]
      unfold adr
      rw [born_ne h]
      simp [bset, h]
  have e2 : adt (x_born b k Z) (bset B b q) = adt Z B := by
    funext j
    unfold adt
    rw [born_row (by omega)]
    rfl
  have e3 : ∀ r, r < 30 → (x_born b k Z).1 r = Z.1 r := fun r hr => born_row (Or.inl hr)
  have e4 : (x_born b k Z).2 = Z.2 := rfl
  unfold XB XF XA
  rw [e, e2, e4]
  simp only [e3 _ (show 0 < 30 by decide), e3 _ (show 1 < 30 by decide), e3 _ (show 2 < 30 by decide), e3 _ (show 5 < 30 by decide), e3 _ (show 7 < 30 by decide), e3 _ (show 8 < 30 by decide), e3 _ (show 9 < 30 by decide), e3 _ (show 11 < 30 by decide), e3 _ (show 12 < 30 by decide), e3 _ (show 13 < 30 by decide), e3 _ (show 14 < 30 by decide), e3 _ (show 15 < 30 by decide), e3 _ (show 18 < 30 by decide), e3 _ (show 19 < 30 by decide), e3 _ (show 20 < 30 by decide), e3 _ (show 21 < 30 by decide), e3 _ (show 23 < 30 by decide), e3 _ (show 24 < 30 by decide), e3 _ (show 25 < 30 by decide), e3 _ (show 26 < 30 by decide), e3 _ (show 27 < 30 by decide)]
  rfl
theorem born_WX {x : Nat} {ar : Nat → Nat} {cs : Nat → ClassId} {Y : va_W} {b q : Nat} {k : Int32} {Z : ZT} {B : BT} (hb8 : b < 8) (h0 : Z.1 30 b = 0) : (WX x ar cs (x_born b k Z) (bset B b q) Y).Perm ((q, .inr (mkF k (Z.1 5 0))) :: (WX x ar cs Z B Y).set 3 (ar 10, .inl (cs 4, 8, .inr (.inr (.inr (.inr (va_up (adr Z B) b (some q)))))))) := by
  have hb1 : (bels (x_born b k Z) (bset B b q)).Perm ((q, .inr (mkF k (Z.1 5 0))) :: bels Z B) := by
    refine fm_ins nd8 (List.mem_range.mpr hb8) (bel_no h0) ?_ (fun j hj => ?_)
    · rw [bel_of (by rw [born_30]; decide), born_beF]
      simp [bset]
    · unfold bel
      rw [born_ne hj]
      have : beF (x_born b k Z) j = beF Z j := by
        unfold beF
        rw [born_ne hj, born_ne hj, born_ne hj, born_ne hj, born_ne hj, born_ne hj, born_ne hj, born_ne hj, born_ne hj]
      rw [this]
      simp [bset, hj]
  have ht : txls cs (x_born b k Z) (bset B b q) = txls cs Z B := by
    unfold txls
    congr 1
  have hs : (WX x ar cs Z B Y).set 3 (ar 10, .inl (cs 4, 8, .inr (.inr (.inr (.inr (va_up (adr Z B) b (some q))))))) = XB x ar cs (x_born b k Z) (bset B b q) ++ (bels Z B ++ (txls cs Z B ++ Y)) := by
    rw [born_XB]
    rfl
  rw [hs]
  unfold WX
  rw [ht]
  refine (List.Perm.append_left _ (List.Perm.append_right _ hb1)).trans ?_
  exact List.perm_middle
section XBS
variable {p : Program} {l : Launch} {e : Env} {R : Room} {s : State} {mid : MethodId} {args : Array Value} {below : List Frame} {meth : Method} {c : Code} {H : Heap} {locs : List Loc} {cells slots : Nat} {Q : State → Prop} {cc : ByteArray} {pc : Nat} {ls : Array Slot} {rest : List Value} {D : va_G} {A : Nat → Prop} {H0 : Heap} {x : Nat} {ar : Nat → Nat} {cs : Nat → ClassId} {Z : ZT} {B : BT} {Y : va_W} {nL : Nat}
theorem xbs {b q : Nat} {k : Int32} (hb8 : b < 8) (h0 : Z.1 30 b = 0) (hx : p.tables.exec = Jvm.exec) (hb : c.code = cc) (hK : KK D cs s) (hE : EW D A H0 ((q, .inr (mkF k (Z.1 5 0))) :: WX x ar cs Z B Y) H locs) (hd : decode cc pc = .ok (.aastore, 1)) (kk : ∀ (H1 : Heap) (locs1 : List Loc), EW D A H0 (WX x ar cs (x_born b k Z) (bset B b q) Y) H1 locs1 → W p l e R s mid args below meth c H1 locs1 cells slots Q (F0 mid (pc + 1) ls rest)) : W p l e R s mid args below meth c H locs cells slots Q (F0 mid pc ls (.ref q :: .int (nI b) :: .ref (ar 10) :: rest)) := by
  have fin : ∀ (H1 : Heap) (locs1 : List Loc), va_P D vwCl (((q, .inr (mkF k (Z.1 5 0))) :: WX x ar cs Z B Y).set 4 (ar 10, .inl (cs 4, 8, .inr (.inr (.inr (.inr (va_up (adr Z B) (nI b).toNatClampNeg (some q)))))))) H1 → va_D A (((q, .inr (mkF k (Z.1 5 0))) :: WX x ar cs Z B Y).set 4 (ar 10, .inl (cs 4, 8, .inr (.inr (.inr (.inr (va_up (adr Z B) (nI b).toNatClampNeg (some q)))))))) → va_S A H0 H1 locs1 → W p l e R s mid args below meth c H1 locs1 cells slots Q (F0 mid (pc + 1) ls rest) := fun H1 locs1 hP hD hS => by
    rw [show (nI b).toNatClampNeg = b from ix_nI (by omega)] at hP hD
    exact kk H1 locs1 (EW.perm ⟨hP, hD, hS⟩ (born_WX hb8 h0))
  by_cases c0 : k = 0
  · rw [mkF_0 c0] at hE fin
    exact va_astq hx hb hK.1 hE.1 hE.2.1 hE.2.2 4 4 0 3 rfl rfl rfl rfl (vp_in_nI hb8 (by decide)) hd fin
  by_cases c1 : k = 1
  · rw [mkF_1 c0 c1] at hE fin
    exact va_astqO hx hb hK.1 hE.1 hE.2.1 hE.2.2 4 4 0 4 (r := (RX4, TX4, 5)) rfl rfl (hK.2.1 (.castable "EaterWebs$Plant" "EaterWebs$Being") (by simp [nwL, nwC])) rfl rfl (vp_in_nI hb8 (by decide)) hd fin
  by_cases c2 : k = 2
  · rw [mkF_2 c0 c1 c2] at hE fin
    exact va_astqO hx hb hK.1 hE.1 hE.2.1 hE.2.2 4 4 0 5 (r := (RX5, TX5, 5)) rfl rfl (hK.2.1 (.castable "EaterWebs$Eater" "EaterWebs$Being") (by simp [nwL, nwC])) rfl rfl (vp_in_nI hb8 (by decide)) hd fin
  rw [mkF_3 c0 c1 c2] at hE fin
  exact va_astqO hx hb hK.1 hE.1 hE.2.1 hE.2.2 4 4 0 6 (r := (RX6, TX6, 6)) rfl rfl (hK.2.1 (.castable "EaterWebs$Guest" "EaterWebs$Being") (by simp [nwL, nwC])) rfl rfl (vp_in_nI hb8 (by decide)) hd fin
theorem xinit_rd {r t : Nat} (hx : p.tables.exec = Jvm.exec) (hb : c.code = cc) (hml : c.maxLocals = nL) (hown : s.vm.findClass RX0 = some mid.cls) (hts : ∀ w ∈ lw_all, w.before args s = true) (hK : KK D cs s) (hA : ∀ q : Nat, s.heap.size ≤ q → A q) (hE : EW D A s.heap (WX x ar cs Z B ((r, .inr (2, [.null, .int 0, .int 0])) :: Y)) H locs) (hls : ls.size = nL) (h1 : 2 ≤ R.frames) (h2 : 33 ≤ R.locals) (h3 : (rest.map fun v => v.category).sum ≤ 8) (hd : decode cc pc = .ok (.invokespecial 129, 3)) (hf : cells ≤ R.cells ∧ slots ≤ R.slots) (kk : ∀ (H1 : Heap) (locs1 : List Loc), EW D A s.heap (WX x ar cs (sI (sI Z 42 0 0) 43 0 0) B (rdr (sI (sI Z 42 0 0) 43 0 0) B r t :: Y)) H1 locs1 → W p l e R s mid args below meth c H1 locs1 cells slots Q (F0 mid (pc + 3) ls rest)) : W p l e R s mid args below meth c H locs cells slots Q (F0 mid pc ls (.ref (B.2 t) :: .ref r :: rest)) := by
  have hE := EW.perm hE (WX_cons _).symm
  refine gCallI (As := [.ref (B.2 t)]) (rest := rest) hx hb hml hown hts hK hA hE hls (met_r_init l D cs r _ _ (B.2 t)) (cwI 1 hts (lw_meth q377) rfl rfl rfl (hts _ q95) (hts _ q375) (hts _ q376) rfl (by decide +kernel) ⟨h1, h2⟩) rfl rfl h3 hd hf (fun _ H locs _ _ hE => ?_)
  have hE : EW D A s.heap (WX x ar cs Z B ((r, .inr (2, [.ref (B.2 t), .int 0, .int 0])) :: Y)) H locs := EW.perm hE (WX_cons _)
  exact kk H locs hE
end XBS
theorem clear_30 {b : Nat} {Z : ZT} : (x_clear b Z).1 30 b = 0 := by
  have hs : ∀ (a c : Nat) (v : Int32) (s : ZT), (x_setLink a c v s).1 30 = s.1 30 := fun a c v s => by
    unfold x_setLink x_setLink_j39
    rw [sI_ne (by decide)]
    split
    · rw [sI_ne (by decide), sI_ne (by decide)]
    · split
      · rw [sI_ne (by decide), sI_ne (by decide)]
      · rfl
  unfold x_clear x_clear_e9 x_clear_e70
  refine itR_ind (f := x_clear_b70 b) (P := fun s : ZT => s.1 30 b = 0) (fun i s h => ?_) _ _ _ ?_
  · unfold x_clear_b70 x_clear_j97
    rw [sI_ne (by decide)]
    exact h
  · rw [sI_ne (by decide)]
    refine itR_ind (f := x_clear_b9 b) (P := fun s : ZT => s.1 30 b = 0) (fun i s h => ?_) _ _ _ ?_
    · unfold x_clear_b9 x_clear_c19 x_clear_c26
      rw [sI_ne (by decide), sI_ne (by decide), hs, hs]
      exact h
    · rw [sI_at, if_pos rfl]
set_option maxHeartbeats 4000000 in
set_option maxRecDepth 100000 in
theorem met_x_come (l : Launch) (D : va_G) (cs : Nat → ClassId) (x : Nat) (ar : Nat → Nat) (B0 : BT) (Y : va_W) (Z : ZT) (sz : Nat) (p1 : Nat) (p2 : Int32) (hn1 : p1 < 8) : Met l yX0_come (ws_ yX0_come cX0_come 3 none) ({ frames := 5, cells := 1, slots := 6, locals := 94 }) (va_Pc [.ref x, .int (nI p1), .int p2] (wSt D cs (WX x ar cs Z B0 Y) sz)) (cQv (fun (u : ZT × BT) => x_come p1 p2 Z = u.1 ∧ u.2.2 = B0.2) D (fun u => WX x ar cs u.1 u.2 Y) (WX x ar cs Z B0 Y) sz) 1 6 (va_A (WX x ar cs Z B0 Y) sz) := by
  refine gStart_v (C := RX0) rfl rfl (Nat.le_of_ble_eq_true rfl) ?_
  intro p e s mid args below meth c R Q A hx hb hml hown hts hK hA hRf hRl hRc hRs hnm hret hE ls hl
  have hRf : 5 ≤ R.frames := hRf
  have hRl : 94 ≤ R.locals := hRl
  have hRc : 1 ≤ R.cells := hRc
  have hRs : 6 ≤ R.slots := hRs
  have hl : lv_has ls 3 [(0, .ref x), (1, .int (nI p1)), (2, .int p2)] := hl
  refine lv_aload_n hx hb dX0_come_0 rfl (lv_at hl 0 rfl) ?_
  refine lv_iload_n hx hb dX0_come_1 rfl (lv_at hl 1 rfl) ?_
  refine call_x_clear hx hb hml hown hts hK hA hE hl.1 p1 hn1 (by omega) (by omega) (Nat.le_of_ble_eq_true rfl) dX0_come_2 ⟨Nat.zero_le _, Nat.zero_le _⟩ (fun H locs hE => ?_)
  refine lv_aload_n hx hb dX0_come_5 rfl (lv_at hl 0 rfl) ?_
  refine xg_10 hx hb hts hown hK hE dX0_come_6 ?_
  refine lv_iload_n hx hb dX0_come_9 rfl (lv_at hl 1 rfl) ?_
  refine lv_aload_n hx hb dX0_come_10 rfl (lv_at hl 0 rfl) ?_
  refine lv_iload_n hx hb dX0_come_11 rfl (lv_at hl 2 rfl) ?_
  refine gCall_r (As := [.int p2]) (rest := [.int (nI p1), .ref (ar 10)]) (q0 := 0) (ci := 0) (fs := XF ar (x_clear p1 Z)) (T' := TX0) (N' := 29) hx hb hml hown hts hK hA hE hl.1 (met_x_made l D cs x ar B0 Y (x_clear p1 Z) H.size p2) (cwV 1 hts (lw_V q445 q447 qs9 q84 q448) rfl rfl rfl (by decide +kernel) ⟨by omega, by omega⟩) rfl rfl rfl rfl (Nat.le_of_ble_eq_true rfl) dX0_come_12 ⟨by omega, by omega⟩ (fun _ q H locs _ _ hE => ?_)
  refine xbs hn1 clear_30 hx hb hK hE dX0_come_15 (fun H locs hE => ?_)
  exact hret (x_born p1 p2 (x_clear p1 Z), bset B0 p1 q) ⟨rfl, rfl⟩ hE (Nat.le_refl 1) (Nat.le_refl 6) dX0_come_16
section C_come
variable {p : Program} {l : Launch} {e : Env} {R : Room} {s : State} {mid : MethodId} {args : Array Value} {below : List Frame} {meth : Method} {c : Code} {H : Heap} {locs : List Loc} {cells slots : Nat} {Q : State → Prop} {cc : ByteArray} {pc : Nat} {ls : Array Slot} {rest : List Value} {D : va_G} {A : Nat → Prop} {x : Nat} {ar : Nat → Nat} {cs : Nat → ClassId} {B : BT} {Y : va_W} {Z : ZT} {nL r : Nat}
theorem call_x_come (hx : p.tables.exec = Jvm.exec) (hb : c.code = cc) (hml : c.maxLocals = nL) (hown : s.vm.findClass RX0 = some mid.cls) (hts : ∀ w ∈ lw_all, w.before args s = true) (hK : KK D cs s) (hA : ∀ q : Nat, s.heap.size ≤ q → A q) (hE : EW D A s.heap (WX x ar cs Z B Y) H locs) (hls : ls.size = nL) (p1 : Nat) (p2 : Int32) (hn1 : p1 < 8) (h1 : 6 ≤ R.frames) (h2 : 116 ≤ R.locals) (h3 : (rest.map fun v => v.category).sum ≤ 8) (hd : decode cc pc = .ok (.invokevirtual 146, 3)) (hf : cells + 1 ≤ R.cells ∧ slots + 6 ≤ R.slots) (kk : ∀ (H1 : Heap) (locs1 : List Loc) (B1 : BT) (_ : B1.2 = B.2) (cells1 slots1 : Nat) (_ : cells1 = cells + 1 ∧ slots1 = slots + 6), EW D A s.heap (WX x ar cs (x_come p1 p2 Z) B1 Y) H1 locs1 → W p l e R s mid args below meth c H1 locs1 cells1 slots1 Q (F0 mid (pc + 3) ls (rest))) : W p l e R s mid args below meth c H locs cells slots Q (F0 mid pc ls (.int p2 :: .int (nI p1) :: .ref x :: rest)) :=
  gCall_v (As := [.int (nI p1), .int p2]) (rest := rest) (q0 := 0) (ci := 0) (fs := XF ar Z) (T' := TX0) (N' := 29) hx hb hml hown hts hK hA hE hls (met_x_come l D cs x ar B Y Z H.size p1 p2 hn1) (cwV 2 hts (lw_V q430 q432 qs6 q84 q433) rfl rfl rfl (by decide +kernel) ⟨h1, h2⟩) rfl rfl rfl rfl h3 hd hf (fun u H1 locs1 hp _ hE => by have kk := kk H1 locs1 u.2 hp.2 _ _ ⟨rfl, rfl⟩; rw [hp.1] at kk; exact kk hE)
end C_come
