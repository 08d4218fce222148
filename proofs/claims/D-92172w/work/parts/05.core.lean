/-! the abstract state: int registers and long registers, each a row of values; loops; worlds; how a method starts, ends and is called -/
set_option maxRecDepth 100000
abbrev ZT : Type := (Nat → Nat → Int32) × (Nat → Nat → Int64)
def sI (Z : ZT) (k i : Nat) (v : Int32) : ZT := (va_up Z.1 k (upd (Z.1 k) i v), Z.2)
def sL (Z : ZT) (k i : Nat) (v : Int64) : ZT := (Z.1, va_up Z.2 k (vp_updL (Z.2 k) i v))
abbrev ix (x : Int32) : Nat := x.toNatClampNeg
theorem ix_nI {n : Nat} (h : n < 2 ^ 31) : ix (nI n) = n := nI_clamp h
theorem vp_ix {x : Int32} {N : Nat} (h : vp_in x N) (hN : N < 2 ^ 31) : x = nI (ix x) ∧ ix x < N := by
  obtain ⟨j, hj, rfl⟩ := vp_in_of h hN
  rw [ix_nI (by omega)]
  exact ⟨rfl, hj⟩
def itR {σ : Type} (f : Nat → σ → σ) : Nat → Nat → σ → σ
  | _, 0, s => s
  | i, k + 1, s => itR f (i + 1) k (f i s)
def wlR {σ : Type} (f : σ → Bool × σ) : Nat → σ → σ
  | 0, s => s
  | n + 1, s => match f s with
    | (true, s') => wlR f n s'
    | (false, s') => s'
theorem wl_t {σ : Type} {f : σ → Bool × σ} {n : Nat} {s s' : σ} (h : f s = (true, s')) : wlR f (n + 1) s = wlR f n s' := by
  simp only [wlR, h]
theorem wl_f {σ : Type} {f : σ → Bool × σ} {n : Nat} {s s' : σ} (h : f s = (false, s')) : wlR f (n + 1) s = s' := by
  simp only [wlR, h]
def wrR {σ τ : Type} (f : σ → τ ⊕ (Bool × σ)) (g : σ → τ) : Nat → σ → τ
  | 0, s => g s
  | n + 1, s => match f s with
    | .inl t => t
    | .inr (true, s') => wrR f g n s'
    | .inr (false, s') => g s'
theorem wr_t {σ τ : Type} {f : σ → τ ⊕ (Bool × σ)} {g : σ → τ} {n : Nat} {s s' : σ} (h : f s = .inr (true, s')) : wrR f g (n + 1) s = wrR f g n s' := by
  simp only [wrR, h]
theorem wr_f {σ τ : Type} {f : σ → τ ⊕ (Bool × σ)} {g : σ → τ} {n : Nat} {s s' : σ} (h : f s = .inr (false, s')) : wrR f g (n + 1) s = g s' := by
  simp only [wrR, h]
theorem wr_r {σ τ : Type} {f : σ → τ ⊕ (Bool × σ)} {g : σ → τ} {n : Nat} {s : σ} {t : τ} (h : f s = .inl t) : wrR f g (n + 1) s = t := by
  simp only [wrR, h]
theorem lz {a b : Nat} (h : a ≤ b) {c : Nat} (h2 : b ≤ c) : a ≤ c := Nat.le_trans h h2
theorem nrw_bool {v : Int32} (h : v = 0 ∨ v = 1) : narrow .boolean (.int v) = .int v := by
  rcases h with rfl | rfl <;> rfl
/-! the words beside lw_all: links of nest mates, castable, declares -/
abbrev vwCl : List vw_C := [(RX0, TX0, 29), (RX1, TX1, 52), (RX2, TX2, 3), (RX3, TX3, 3), (RX4, TX4, 5), (RX5, TX5, 5), (RX6, TX6, 6)]
def tyL (cs : Nat → ClassId) : List (ClassId × FieldType) := [(cs 0, .int), (cs 1, .long), (cs 2, .byte), (cs 3, .boolean), (cs 4, .object "EaterWebs$Being"), (cs 5, .array .byte)]
def nwF : List Cond := [.fieldLinkNest "EaterWebs" 115 "EaterWebs$Reader" "at" "I" "EaterWebs", .fieldLinkNest "EaterWebs" 160 "EaterWebs$Reader" "number" "I" "EaterWebs", .fieldLinkNest "EaterWebs" 150 "EaterWebs$Being" "stock" "I" "EaterWebs", .fieldLinkNest "EaterWebs" 214 "EaterWebs$Being" "taken" "I" "EaterWebs", .fieldLinkNest "EaterWebs" 221 "EaterWebs$Being" "fell" "I" "EaterWebs", .fieldLinkNest "EaterWebs" 200 "EaterWebs$Plant" "rate" "I" "EaterWebs", .fieldLinkNest "EaterWebs" 203 "EaterWebs$Plant" "cap" "I" "EaterWebs", .fieldLinkNest "EaterWebs" 208 "EaterWebs$Eater" "loss" "I" "EaterWebs", .fieldLinkNest "EaterWebs" 211 "EaterWebs$Eater" "gain" "I" "EaterWebs", .fieldLinkNest "EaterWebs" 227 "EaterWebs$Guest" "since" "I" "EaterWebs"]
def nwM : List Cond := [.methodLinkNest "EaterWebs" 166 ⟨"EaterWebs$Being", "<init>", "()V"⟩ "EaterWebs", .methodLinkNest "EaterWebs" 169 ⟨"EaterWebs$Plant", "<init>", "()V"⟩ "EaterWebs", .methodLinkNest "EaterWebs" 172 ⟨"EaterWebs$Eater", "<init>", "()V"⟩ "EaterWebs", .methodLinkNest "EaterWebs$Plant" 3 ⟨"EaterWebs$Being", "<init>", "()V"⟩ "EaterWebs", .methodLinkNest "EaterWebs$Eater" 3 ⟨"EaterWebs$Being", "<init>", "()V"⟩ "EaterWebs", .methodLinkNest "EaterWebs$Guest" 3 ⟨"EaterWebs$Eater", "<init>", "()V"⟩ "EaterWebs"]
def nwC : List Cond := [.castable "EaterWebs$Plant" "EaterWebs$Being", .castable "EaterWebs$Eater" "EaterWebs$Being", .castable "EaterWebs$Guest" "EaterWebs$Eater", .castable "EaterWebs$Guest" "EaterWebs$Being"]
def nwD : List Cond := [.declares ⟨"EaterWebs$Being", "stockNow", "()I"⟩]
def nwG : List Cond := [.selects "EaterWebs$Guest" ⟨"EaterWebs$Eater", "loses", "()J"⟩ ⟨"EaterWebs$Eater", "loses", "()J"⟩]
def nwL : List Cond := nwF ++ (nwM ++ (nwC ++ (nwD ++ nwG)))
theorem nw_tab : ∀ w ∈ nwL, w.onTables = true := by
  intro w h
  simp only [nwL, nwF, nwM, nwC, nwD, nwG, List.mem_append, List.mem_cons, List.not_mem_nil, or_false] at h
  rcases h with (h | h | h | h | h | h | h | h | h | h) | (h | h | h | h | h | h) | (h | h | h | h) | h | h <;> subst h <;> rfl
theorem nw_warm {s U : State} (hW : s.WarmedH U.vm) : ∀ w ∈ nwL, va_Nw w s → va_Nw w U := by
  intro w h hz
  simp only [nwL, nwF, nwM, nwC, nwD, nwG, List.mem_append, List.mem_cons, List.not_mem_nil, or_false] at h
  rcases h with (h | h | h | h | h | h | h | h | h | h) | (h | h | h | h | h | h) | (h | h | h | h) | h | h <;> subst h <;> first | exact va_Nw.warmF hW hz | exact va_Nw.warmM hW hz | exact va_Nw.warmC hW hz | exact va_Nw.warmD hW hz | exact word_at hW (Or.inl (by rfl)) hz
/-- the class of rows of texts: its component is the class of texts -/
def KT (cs : Nat → ClassId) (U : State) : Prop := ∃ kA : Class, U.vm.classes[cs 5]? = some kA ∧ kA.kind = .array (cs 2) (.array .byte) ∧ ∃ kB : Class, U.vm.classes[cs 2]? = some kB
theorem KT.moved {cs : Nat → ClassId} {u U : State} (hvm : u.vm.Alike U.vm) (h : KT cs u) : KT cs U := by
  obtain ⟨kA, h1, h2, kB, h3⟩ := h
  obtain ⟨k', hk', he⟩ := hvm.2.2 _ _ h1
  obtain ⟨k2, hk2, -⟩ := hvm.2.2 _ _ h3
  exact ⟨k', hk', by rw [he]; exact h2, k2, hk2⟩
def KK (D : va_G) (cs : Nat → ClassId) (U : State) : Prop := va_K D vwCl (tyL cs) U ∧ (∀ w ∈ nwL, va_Nw w U) ∧ KT cs U
theorem KK.warm {D : va_G} {cs : Nat → ClassId} {s U : State} (h : KK D cs s) (hW : s.WarmedH U.vm) : KK D cs U := ⟨va_K.moved hW.alike h.1, fun w hw => nw_warm hW w hw (h.2.1 w hw), h.2.2.moved hW.alike⟩
theorem KK.same {D : va_G} {cs : Nat → ClassId} {s U : State} (h : KK D cs s) (hv : s.vm = U.vm) : KK D cs U := ⟨va_K.moved (by rw [hv]; exact Vm.Alike.refl _) h.1, fun w hw => va_Nw.same (nw_tab w hw) hv (h.2.1 w hw), h.2.2.moved (by rw [hv]; exact Vm.Alike.refl _)⟩
def EW (D : va_G) (A : Nat → Prop) (H0 : Heap) (ws : va_W) (H : Heap) (locs : List Loc) : Prop := va_P D vwCl ws H ∧ va_D A ws ∧ va_S A H0 H locs
theorem EW.cast {D : va_G} {A : Nat → Prop} {H0 : Heap} {ws ws' : va_W} {H : Heap} {locs : List Loc} (h : ws = ws') (hP : va_P D vwCl ws H) (hD : va_D A ws) (hS : va_S A H0 H locs) : EW D A H0 ws' H locs := by
  subst h
  exact ⟨hP, hD, hS⟩
def wSt (D : va_G) (cs : Nat → ClassId) (ws : va_W) (sz : Nat) (U : State) : Prop := U.heap.size = sz ∧ va_P D vwCl ws U.heap ∧ KK D cs U ∧ va_D (fun _ => True) ws
def wEn (D : va_G) (ws0 : va_W) (sz : Nat) (ws1 : va_W) (t : State) : Prop := va_P D vwCl ws1 t.heap ∧ va_D (va_A ws0 sz) ws1
theorem wSt.blind {D : va_G} {cs : Nat → ClassId} {ws : va_W} {sz : Nat} {av : List Value} : FrameBlind (va_Pc av (wSt D cs ws sz)) := fun a U g mk q => by
  obtain ⟨q0, q1, qP, qK, qD⟩ := q
  exact ⟨q0, q1, qP, qK.same (U := U.calling g mk a) rfl, qD⟩
theorem wSt.of {D : va_G} {cs : Nat → ClassId} {ws : va_W} {s U : State} {H : Heap} {A : Nat → Prop} {H0 : Heap} {locs : List Loc} (hK : KK D cs s) (hE : EW D A H0 ws H locs) (hU : U.heap = H) (hW : s.WarmedH U.vm) : wSt D cs ws H.size U := ⟨by rw [hU], by rw [hU]; exact hE.1, hK.warm hW, hE.2.1.weaken (fun _ _ _ _ => trivial)⟩
def cQi {S : Type} (P : Int32 → S → Prop) (D : va_G) (wf : S → va_W) (ws0 : va_W) (sz : Nat) : Array Value → State → Outcome → State → Prop := va_Qi P (fun u t => wEn D ws0 sz (wf u) t) (va_A ws0 sz)
def cQl {S : Type} (P : Int64 → S → Prop) (D : va_G) (wf : S → va_W) (ws0 : va_W) (sz : Nat) : Array Value → State → Outcome → State → Prop := va_Ql P (fun u t => wEn D ws0 sz (wf u) t) (va_A ws0 sz)
def cQv {S : Type} (P : S → Prop) (D : va_G) (wf : S → va_W) (ws0 : va_W) (sz : Nat) : Array Value → State → Outcome → State → Prop := va_Qv P (fun u t => wEn D ws0 sz (wf u) t) (va_A ws0 sz)
section GST
variable {l : Launch} {y : MethodName} {cc : ByteArray} {maxL : Nat} {rm : Room} {av : List Value} {D : va_G} {cs : Nat → ClassId} {ws0 : va_W} {sz mc ms : Nat} {C : String} {S : Type} {wf : S → va_W}
/-- the start of any method over a world -/
theorem gStart {ret : Option FieldType} {Qc : Array Value → State → Outcome → State → Prop} (hC : y.cls = C) (hp : plainName y.cls = true) (hlen : (lg_sl av).length ≤ maxL)
    (body : ∀ (p : Program) (e : Env) (s : State) (mid : MethodId) (args : Array Value) (below : List Frame) (meth : Method) (c : Code), p.tables.exec = Jvm.exec → c.code = cc → c.maxLocals = maxL → meth.sig.returnType = ret → meth.locks = false → (y.name = meth.name) → s.vm.findClass C = some mid.cls → (∀ w ∈ lw_all, w.before args s = true) → KK D cs s → s.heap.size = sz → va_P D vwCl ws0 s.heap → va_D (fun _ => True) ws0 → ∀ ls : Array Slot, lv_has ls maxL (lv_args 0 av) →
      W p l e rm s mid args below meth c s.heap [] 0 0 (MQ below Qc args s mc ms (va_A ws0 sz)) (F0 mid 0 ls [])) : Met l y (ws_ y cc maxL ret) rm (va_Pc av (wSt D cs ws0 sz)) Qc mc ms (va_A ws0 sz) := by
  refine Met.ofW (cc := cc) (maxL := maxL) (ret := ret) hp rfl ?_
  intro p e s m args below meth c s₁ B hml hv
  obtain ⟨rfl, hsz, hP, hK, hD0⟩ := hv
  have hts := atoms_spec (ws := ws_ y cc maxL ret) B.pre
  have hts : ∀ w ∈ lw_all, w.before av.toArray s = true := fun w h => hts w (List.mem_cons_of_mem _ h)
  have hown : s.vm.findClass C = some m.cls := by rw [← hC]; exact findClass_of_methodNamed B.named
  have hnm : y.name = meth.name := (name_of_methodNamed B.named B.method).1.symm
  have hl := lv_entry av (n := maxL) hlen
  rw [lg_entry_eq]
  exact body p e s m _ below meth c B.exec B.bytes hml B.returns B.notSynchronized hnm hown hts hK hsz hP hD0 _ hl
theorem gEW {A : Nat → Prop} {H : Heap} (hP : va_P D vwCl ws0 H) (hD : va_D (fun _ => True) ws0) (hz : H.size = sz) (hA : A = va_A ws0 sz) : EW D A H ws0 H [] := by
  subst hA
  exact ⟨hP, hD.self, va_S.rf⟩
theorem gStart_i {P : Int32 → S → Prop} {ret : FieldType} (hC : y.cls = C) (hp : plainName y.cls = true) (hlen : (lg_sl av).length ≤ maxL)
    (body : ∀ (p : Program) (e : Env) (s : State) (mid : MethodId) (args : Array Value) (below : List Frame) (meth : Method) (c : Code) (R : Room) (Q : State → Prop) (A : Nat → Prop), p.tables.exec = Jvm.exec → c.code = cc → c.maxLocals = maxL → s.vm.findClass C = some mid.cls → (∀ w ∈ lw_all, w.before args s = true) → KK D cs s → (∀ q : Nat, s.heap.size ≤ q → A q) → rm.frames ≤ R.frames → rm.locals ≤ R.locals → rm.cells ≤ R.cells → rm.slots ≤ R.slots →
      (∀ {H : Heap} {locs : List Loc} {cells slots pc : Nat} {ls : Array Slot} (v : Int32) (u : S), P v u → narrow ret (.int v) = .int v → EW D A s.heap (wf u) H locs → cells ≤ mc → slots ≤ ms → decode cc pc = .ok (.ireturn, 1) → W p l e R s mid args below meth c H locs cells slots Q (F0 mid pc ls [.int v])) →
      EW D A s.heap ws0 s.heap [] → ∀ ls : Array Slot, lv_has ls maxL (lv_args 0 av) → W p l e R s mid args below meth c s.heap [] 0 0 Q (F0 mid 0 ls [])) : Met l y (ws_ y cc maxL (some ret)) rm (va_Pc av (wSt D cs ws0 sz)) (cQi P D wf ws0 sz) mc ms (va_A ws0 sz) := by
  refine gStart hC hp hlen ?_
  intro p e s mid args below meth c hx hb hml hr hlk _ hown hts hK hz hP hD ls hl
  refine body p e s mid args below meth c rm _ (va_A ws0 sz) hx hb hml hown hts hK (fun q h => Or.inr (by rw [← hz]; exact h)) (Nat.le_refl _) (Nat.le_refl _) (Nat.le_refl _) (Nat.le_refl _) ?_ (gEW hP hD hz rfl) ls hl
  intro H locs cells slots pc ls v u hp hn hE h1 h2 hd
  refine W.widen h1 h2 ?_
  exact W.zret hx hb hr hn (fun t ht hW => ⟨⟨v, u, rfl, hp, by rw [ht]; exact hE.1, hE.2.1⟩, by exact hE.2.2.F ht⟩) hE.2.2.2.2 hd
theorem gStart_l {P : Int64 → S → Prop} (hC : y.cls = C) (hp : plainName y.cls = true) (hlen : (lg_sl av).length ≤ maxL)
    (body : ∀ (p : Program) (e : Env) (s : State) (mid : MethodId) (args : Array Value) (below : List Frame) (meth : Method) (c : Code) (R : Room) (Q : State → Prop) (A : Nat → Prop), p.tables.exec = Jvm.exec → c.code = cc → c.maxLocals = maxL → s.vm.findClass C = some mid.cls → (∀ w ∈ lw_all, w.before args s = true) → KK D cs s → (∀ q : Nat, s.heap.size ≤ q → A q) → rm.frames ≤ R.frames → rm.locals ≤ R.locals → rm.cells ≤ R.cells → rm.slots ≤ R.slots →
      (∀ {H : Heap} {locs : List Loc} {cells slots pc : Nat} {ls : Array Slot} (v : Int64) (u : S), P v u → EW D A s.heap (wf u) H locs → cells ≤ mc → slots ≤ ms → decode cc pc = .ok (.lreturn, 1) → W p l e R s mid args below meth c H locs cells slots Q (F0 mid pc ls [.long v])) →
      EW D A s.heap ws0 s.heap [] → ∀ ls : Array Slot, lv_has ls maxL (lv_args 0 av) → W p l e R s mid args below meth c s.heap [] 0 0 Q (F0 mid 0 ls [])) : Met l y (ws_ y cc maxL (some .long)) rm (va_Pc av (wSt D cs ws0 sz)) (cQl P D wf ws0 sz) mc ms (va_A ws0 sz) := by
  refine gStart hC hp hlen ?_
  intro p e s mid args below meth c hx hb hml hr hlk _ hown hts hK hz hP hD ls hl
  refine body p e s mid args below meth c rm _ (va_A ws0 sz) hx hb hml hown hts hK (fun q h => Or.inr (by rw [← hz]; exact h)) (Nat.le_refl _) (Nat.le_refl _) (Nat.le_refl _) (Nat.le_refl _) ?_ (gEW hP hD hz rfl) ls hl
  intro H locs cells slots pc ls v u hp hE h1 h2 hd
  refine W.widen h1 h2 ?_
  exact W.lret hx hb hr (fun t ht hW => ⟨⟨v, u, rfl, hp, by rw [ht]; exact hE.1, hE.2.1⟩, by exact hE.2.2.F ht⟩) hE.2.2.2.2 hd
theorem gStart_v {P : S → Prop} (hC : y.cls = C) (hp : plainName y.cls = true) (hlen : (lg_sl av).length ≤ maxL)
    (body : ∀ (p : Program) (e : Env) (s : State) (mid : MethodId) (args : Array Value) (below : List Frame) (meth : Method) (c : Code) (R : Room) (Q : State → Prop) (A : Nat → Prop), p.tables.exec = Jvm.exec → c.code = cc → c.maxLocals = maxL → s.vm.findClass C = some mid.cls → (∀ w ∈ lw_all, w.before args s = true) → KK D cs s → (∀ q : Nat, s.heap.size ≤ q → A q) → rm.frames ≤ R.frames → rm.locals ≤ R.locals → rm.cells ≤ R.cells → rm.slots ≤ R.slots → y.name = meth.name →
      (∀ {H : Heap} {locs : List Loc} {cells slots pc : Nat} {ls : Array Slot} (u : S), P u → EW D A s.heap (wf u) H locs → cells ≤ mc → slots ≤ ms → decode cc pc = .ok (.return_, 1) → W p l e R s mid args below meth c H locs cells slots Q (F0 mid pc ls [])) →
      EW D A s.heap ws0 s.heap [] → ∀ ls : Array Slot, lv_has ls maxL (lv_args 0 av) → W p l e R s mid args below meth c s.heap [] 0 0 Q (F0 mid 0 ls [])) : Met l y (ws_ y cc maxL none) rm (va_Pc av (wSt D cs ws0 sz)) (cQv P D wf ws0 sz) mc ms (va_A ws0 sz) := by
  refine gStart hC hp hlen ?_
  intro p e s mid args below meth c hx hb hml hr hlk hnm hown hts hK hz hP hD ls hl
  refine body p e s mid args below meth c rm _ (va_A ws0 sz) hx hb hml hown hts hK (fun q h => Or.inr (by rw [← hz]; exact h)) (Nat.le_refl _) (Nat.le_refl _) (Nat.le_refl _) (Nat.le_refl _) hnm ?_ (gEW hP hD hz rfl) ls hl
  intro H locs cells slots pc ls u hp hE h1 h2 hd
  refine W.widen h1 h2 ?_
  exact W.vret hx hb hr (fun t ht hW => ⟨⟨u, rfl, hp, by rw [ht]; exact hE.1, hE.2.1⟩, by exact hE.2.2.F ht⟩) hE.2.2.2.2 hd
end GST
section GCL
variable {p : Program} {l : Launch} {e : Env} {R : Room} {s : State} {mid : MethodId} {args : Array Value} {below : List Frame} {meth : Method} {c : Code} {H : Heap} {locs : List Loc} {cells slots : Nat} {Q : State → Prop} {cc : ByteArray} {pc : Nat} {ls : Array Slot} {rest : List Value} {D : va_G} {A : Nat → Prop} {cs : Nat → ClassId} {ws : va_W} {nL : Nat}
variable {y : MethodName} {cc' : ByteArray} {maxL' mc ms index n q0 ci : Nat} {ret : Option FieldType} {rm : Room} {own C' : String} {S : Type} {wf : S → va_W} {b : Nat} {As st0 : List Value} {fs : List Value} {T' : u_T} {N' : Nat}
theorem gAfter {t : State} {ws1 : va_W} {H1 : Heap} {locs1 : List Loc} (hA : ∀ q : Nat, s.heap.size ≤ q → A q) (hE : EW D A s.heap ws H locs) (hB : wEn D ws H.size ws1 t) (ht : t.heap = H1) (hS : va_S A s.heap H1 locs1) : EW D A s.heap ws1 H1 locs1 := by
  have hF : ∀ q, va_A ws H.size q → A q := by
    intro q h
    rcases h with ⟨k, e, h⟩ | h
    · exact hE.2.1.2 k _ h
    · exact hA q (Nat.le_trans hE.2.2.1 h)
  exact ⟨by rw [← ht]; exact hB.1, hB.2.weaken (fun _ _ _ h => hF _ h), hS⟩
theorem gFree (hA : ∀ q : Nat, s.heap.size ≤ q → A q) (hE : EW D A s.heap ws H locs) : ∀ q, va_A ws H.size q → A q := by
  intro q h
  rcases h with ⟨k, e, h⟩ | h
  · exact hE.2.1.2 k _ h
  · exact hA q (Nat.le_trans hE.2.2.1 h)
theorem gCall_i {P : Int32 → S → Prop} (hx : p.tables.exec = Jvm.exec) (hb : c.code = cc) (hml : c.maxLocals = nL) (hown : s.vm.findClass own = some mid.cls) (hts : ∀ w ∈ lw_all, w.before args s = true) (hK : KK D cs s) (hA : ∀ q : Nat, s.heap.size ≤ q → A q) (hE : EW D A s.heap ws H locs) (hls : ls.size = nL)
    (hM : Met l y (ws_ y cc' maxL' ret) rm (va_Pc (.ref b :: As) (wSt D cs ws H.size)) (cQi P D wf ws H.size) mc ms (va_A ws H.size))
    (cw : CallW R s args own C' index y cc' maxL' ret (ws_ y cc' maxL' ret) rm mc ms n) (hrv : ws[q0]? = some (b, .inr (ci, fs))) (hcl : vwCl[ci]? = some (C', T', N')) (hn : As.length = n) (hst : st0 = As.reverse ++ .ref b :: rest) (hr : (rest.map fun v => v.category).sum ≤ 8) (hd : decode cc pc = .ok (.invokevirtual index, 3)) (hf : cells + mc ≤ R.cells ∧ slots + ms ≤ R.slots)
    (kk : ∀ (v : Int32) (u : S) (H1 : Heap) (locs1 : List Loc), P v u → H.size ≤ H1.size → EW D A s.heap (wf u) H1 locs1 → W p l e R s mid args below meth c H1 locs1 (cells + mc) (slots + ms) Q (F0 mid (pc + 3) ls (.int v :: rest))) : W p l e R s mid args below meth c H locs cells slots Q (F0 mid pc ls st0) := by
  refine va_calli (va_runV (As := As) (rest := rest) ⟨hx, hb, hml, hown, hts⟩ hM cw ⟨wSt.blind, va_recv (q := (C', T', N')) hK.1 hE.1 hcl hrv, fun U hU hW => ⟨rfl, wSt.of hK hE hU hW⟩⟩ rfl hn hls hst (lv_room hr) hd hf) hE.2.2 (fun q _ h => gFree hA hE q h) (gFree hA hE) ?_
  intro v u t H1 locs1 ht hvm hp hB hz1 hk1 hS
  exact kk v u H1 locs1 hp hz1 (gAfter hA hE hB ht hS)
theorem gCall_l {P : Int64 → S → Prop} (hx : p.tables.exec = Jvm.exec) (hb : c.code = cc) (hml : c.maxLocals = nL) (hown : s.vm.findClass own = some mid.cls) (hts : ∀ w ∈ lw_all, w.before args s = true) (hK : KK D cs s) (hA : ∀ q : Nat, s.heap.size ≤ q → A q) (hE : EW D A s.heap ws H locs) (hls : ls.size = nL)
    (hM : Met l y (ws_ y cc' maxL' ret) rm (va_Pc (.ref b :: As) (wSt D cs ws H.size)) (cQl P D wf ws H.size) mc ms (va_A ws H.size))
    (cw : CallW R s args own C' index y cc' maxL' ret (ws_ y cc' maxL' ret) rm mc ms n) (hrv : ws[q0]? = some (b, .inr (ci, fs))) (hcl : vwCl[ci]? = some (C', T', N')) (hn : As.length = n) (hst : st0 = As.reverse ++ .ref b :: rest) (hr : (rest.map fun v => v.category).sum ≤ 8) (hd : decode cc pc = .ok (.invokevirtual index, 3)) (hf : cells + mc ≤ R.cells ∧ slots + ms ≤ R.slots)
    (kk : ∀ (v : Int64) (u : S) (H1 : Heap) (locs1 : List Loc), P v u → H.size ≤ H1.size → EW D A s.heap (wf u) H1 locs1 → W p l e R s mid args below meth c H1 locs1 (cells + mc) (slots + ms) Q (F0 mid (pc + 3) ls (.long v :: rest))) : W p l e R s mid args below meth c H locs cells slots Q (F0 mid pc ls st0) := by
  refine va_calll (va_runV (As := As) (rest := rest) ⟨hx, hb, hml, hown, hts⟩ hM cw ⟨wSt.blind, va_recv (q := (C', T', N')) hK.1 hE.1 hcl hrv, fun U hU hW => ⟨rfl, wSt.of hK hE hU hW⟩⟩ rfl hn hls hst (lv_room hr) hd hf) hE.2.2 (fun q _ h => gFree hA hE q h) (gFree hA hE) ?_
  intro v u t H1 locs1 ht hvm hp hB hz1 hk1 hS
  exact kk v u H1 locs1 hp hz1 (gAfter hA hE hB ht hS)
theorem gCall_v {P : S → Prop} (hx : p.tables.exec = Jvm.exec) (hb : c.code = cc) (hml : c.maxLocals = nL) (hown : s.vm.findClass own = some mid.cls) (hts : ∀ w ∈ lw_all, w.before args s = true) (hK : KK D cs s) (hA : ∀ q : Nat, s.heap.size ≤ q → A q) (hE : EW D A s.heap ws H locs) (hls : ls.size = nL)
    (hM : Met l y (ws_ y cc' maxL' ret) rm (va_Pc (.ref b :: As) (wSt D cs ws H.size)) (cQv P D wf ws H.size) mc ms (va_A ws H.size))
    (cw : CallW R s args own C' index y cc' maxL' ret (ws_ y cc' maxL' ret) rm mc ms n) (hrv : ws[q0]? = some (b, .inr (ci, fs))) (hcl : vwCl[ci]? = some (C', T', N')) (hn : As.length = n) (hst : st0 = As.reverse ++ .ref b :: rest) (hr : (rest.map fun v => v.category).sum ≤ 8) (hd : decode cc pc = .ok (.invokevirtual index, 3)) (hf : cells + mc ≤ R.cells ∧ slots + ms ≤ R.slots)
    (kk : ∀ (u : S) (H1 : Heap) (locs1 : List Loc), P u → H.size ≤ H1.size → EW D A s.heap (wf u) H1 locs1 → W p l e R s mid args below meth c H1 locs1 (cells + mc) (slots + ms) Q (F0 mid (pc + 3) ls rest)) : W p l e R s mid args below meth c H locs cells slots Q (F0 mid pc ls st0) := by
  refine va_callv (va_runV (As := As) (rest := rest) ⟨hx, hb, hml, hown, hts⟩ hM cw ⟨wSt.blind, va_recv (q := (C', T', N')) hK.1 hE.1 hcl hrv, fun U hU hW => ⟨rfl, wSt.of hK hE hU hW⟩⟩ rfl hn hls hst (lv_room hr) hd hf) hE.2.2 (fun q _ h => gFree hA hE q h) (gFree hA hE) ?_
  intro u t H1 locs1 ht hvm hp hB hz1 hk1 hS
  exact kk u H1 locs1 hp hz1 (gAfter hA hE hB ht hS)
/-- static calls: the callee has a world of its own (any sub-world; here the empty one) -/
theorem gCall_s {P : Int32 → Unit → Prop} (hx : p.tables.exec = Jvm.exec) (hb : c.code = cc) (hml : c.maxLocals = nL) (hown : s.vm.findClass own = some mid.cls) (hts : ∀ w ∈ lw_all, w.before args s = true) (hK : KK D cs s) (hA : ∀ q : Nat, s.heap.size ≤ q → A q) (hE : EW D A s.heap ws H locs) (hls : ls.size = nL)
    (hM : Met l y (ws_ y cc' maxL' ret) rm (va_Pc As (wSt D cs [] H.size)) (cQi P D (fun _ => []) [] H.size) mc ms (va_A [] H.size))
    (cw : CallB R s args own index y cc' maxL' ret (ws_ y cc' maxL' ret) rm mc ms n ∧ (Cond.static y).before args s = true) (hn : As.length = n) (hst : st0 = As.reverse ++ rest) (hr : (rest.map fun v => v.category).sum ≤ 8) (hd : decode cc pc = .ok (.invokestatic index, 3)) (hf : cells + mc ≤ R.cells ∧ slots + ms ≤ R.slots)
    (kk : ∀ (v : Int32) (H1 : Heap) (locs1 : List Loc), P v () → EW D A s.heap ws H1 locs1 → W p l e R s mid args below meth c H1 locs1 (cells + mc) (slots + ms) Q (F0 mid (pc + 3) ls (.int v :: rest))) : W p l e R s mid args below meth c H locs cells slots Q (F0 mid pc ls st0) := by
  have hE0 : EW D A s.heap [] H locs := ⟨fun k q h => by simp at h, ⟨fun i j p q h => by simp at h, fun k q h => by simp at h⟩, hE.2.2⟩
  refine va_calli (va_runS (As := As) (rest := rest) ⟨hx, hb, hml, hown, hts⟩ hM cw ⟨wSt.blind, fun U hU hW => ⟨rfl, wSt.of hK hE0 hU hW⟩⟩ rfl hn hls hst (lv_room hr) hd hf) hE.2.2 (fun q _ h => gFree hA hE0 q h) (gFree hA hE0) ?_
  intro v u t H1 locs1 ht hvm hp hB hz1 hk1 hS
  refine kk v H1 locs1 hp ⟨hE.1.kept (fun k q hq => hk1 q.1 (hE.1 k q hq).lt (fun h => ?_)), hE.2.1, hS⟩
  rcases h with ⟨k2, e2, h⟩ | h
  · simp at h
  · have := (hE.1 k q hq).lt
    omega
theorem gCall_sl {P : Int64 → Unit → Prop} (hx : p.tables.exec = Jvm.exec) (hb : c.code = cc) (hml : c.maxLocals = nL) (hown : s.vm.findClass own = some mid.cls) (hts : ∀ w ∈ lw_all, w.before args s = true) (hK : KK D cs s) (hA : ∀ q : Nat, s.heap.size ≤ q → A q) (hE : EW D A s.heap ws H locs) (hls : ls.size = nL)
    (hM : Met l y (ws_ y cc' maxL' ret) rm (va_Pc As (wSt D cs ws H.size)) (cQl P D (fun _ => ws) ws H.size) mc ms (va_A ws H.size))
    (cw : CallB R s args own index y cc' maxL' ret (ws_ y cc' maxL' ret) rm mc ms n ∧ (Cond.static y).before args s = true) (hn : As.length = n) (hst : st0 = As.reverse ++ rest) (hr : (rest.map fun v => v.category).sum ≤ 8) (hd : decode cc pc = .ok (.invokestatic index, 3)) (hf : cells + mc ≤ R.cells ∧ slots + ms ≤ R.slots)
    (kk : ∀ (v : Int64) (H1 : Heap) (locs1 : List Loc), P v () → EW D A s.heap ws H1 locs1 → W p l e R s mid args below meth c H1 locs1 (cells + mc) (slots + ms) Q (F0 mid (pc + 3) ls (.long v :: rest))) : W p l e R s mid args below meth c H locs cells slots Q (F0 mid pc ls st0) := by
  refine va_calll (va_runS (As := As) (rest := rest) ⟨hx, hb, hml, hown, hts⟩ hM cw ⟨wSt.blind, fun U hU hW => ⟨rfl, wSt.of hK hE hU hW⟩⟩ rfl hn hls hst (lv_room hr) hd hf) hE.2.2 (fun q _ h => gFree hA hE q h) (gFree hA hE) ?_
  intro v u t H1 locs1 ht hvm hp hB hz1 hk1 hS
  exact kk v H1 locs1 hp (gAfter hA hE hB ht hS)
end GCL
section ROWS
variable {p : Program} {l : Launch} {e : Env} {R : Room} {s : State} {m : MethodId} {args : Array Value} {below : List Frame} {meth : Method} {c : Code} {H : Heap} {locs : List Loc} {cells slots : Nat} {Q : State → Prop} {cc : ByteArray} {pc : Nat} {ls : Array Slot} {rest : List Value}
theorem n_add {a b : Nat} (hx : p.tables.exec = Jvm.exec) (hb : c.code = cc) (hd : decode cc pc = .ok (.iadd, 1)) (k : W p l e R s m args below meth c H locs cells slots Q (F0 m (pc + 1) ls (.int (nI (a + b)) :: rest))) : W p l e R s m args below meth c H locs cells slots Q (F0 m pc ls (.int (nI b) :: .int (nI a) :: rest)) := lv_iadd hx hb hd (by rw [nI_add]; exact k)
theorem n_mul {a b : Nat} (hx : p.tables.exec = Jvm.exec) (hb : c.code = cc) (hd : decode cc pc = .ok (.imul, 1)) (k : W p l e R s m args below meth c H locs cells slots Q (F0 m (pc + 1) ls (.int (nI (a * b)) :: rest))) : W p l e R s m args below meth c H locs cells slots Q (F0 m pc ls (.int (nI b) :: .int (nI a) :: rest)) := lv_imul hx hb hd (by rw [pk_mul]; exact k)
theorem n_sub {a b : Nat} (h : b ≤ a) (hx : p.tables.exec = Jvm.exec) (hb : c.code = cc) (hd : decode cc pc = .ok (.isub, 1)) (k : W p l e R s m args below meth c H locs cells slots Q (F0 m (pc + 1) ls (.int (nI (a - b)) :: rest))) : W p l e R s m args below meth c H locs cells slots Q (F0 m pc ls (.int (nI b) :: .int (nI a) :: rest)) := lv_isub hx hb hd (by rw [pk_sub h]; exact k)
theorem n_inc {a i nL k : Nat} {lv lv' : List (Nat × Value)} (hx : p.tables.exec = Jvm.exec) (hb : c.code = cc) (hd : decode cc pc = .ok (.iinc i 1, 3)) (h : lv_has ls nL lv) (hk : lv[k]? = some (i, .int (nI a))) (hn : i < nL) (hl : (i, Value.int (nI (a + 1))) :: lv.filter (fun q => !(q.1 == i) && !(q.1 + 1 == i && q.2.category == 2)) = lv') (kk : ∀ ls' : Array Slot, lv_has ls' nL lv' → W p l e R s m args below meth c H locs cells slots Q (F0 m (pc + 3) ls' rest)) : W p l e R s m args below meth c H locs cells slots Q (F0 m pc ls rest) := lv_iinc (v := nI (a + 1)) hx hb hd h hk (nI_1 a) hn hl kk
theorem top_nat {x : Int32} (h : x = nI (ix x)) (k : W p l e R s m args below meth c H locs cells slots Q (F0 m pc ls (.int (nI (ix x)) :: rest))) : W p l e R s m args below meth c H locs cells slots Q (F0 m pc ls (.int x :: rest)) := by
  have e1 : (Value.int x) = .int (nI (ix x)) := congrArg Value.int h
  rw [e1]
  exact k
theorem top_eq {x y : Int32} (h : x = y) (k : W p l e R s m args below meth c H locs cells slots Q (F0 m pc ls (.int y :: rest))) : W p l e R s m args below meth c H locs cells slots Q (F0 m pc ls (.int x :: rest)) := by
  rw [h]
  exact k
theorem n_icmp_eq {a b : Nat} (ha : a < 2 ^ 31) (hb' : b < 2 ^ 31) (hx : p.tables.exec = Jvm.exec) (hb : c.code = cc) {off : Int} {tgt : Nat} (hd : decode cc pc = .ok (.if_icmp .eq off, 3)) (ht : (pc : Int) + off = (tgt : Int)) (kt : a = b → W p l e R s m args below meth c H locs cells slots Q (F0 m tgt ls rest)) (kf : ¬ a = b → W p l e R s m args below meth c H locs cells slots Q (F0 m (pc + 3) ls rest)) : W p l e R s m args below meth c H locs cells slots Q (F0 m pc ls (.int (nI b) :: .int (nI a) :: rest)) := lv_icmp_eq hx hb hd ht (fun h => kt ((nI_eq ha hb').mp h)) (fun h => kf (fun h' => h ((nI_eq ha hb').mpr h')))
theorem n_icmp_ne {a b : Nat} (ha : a < 2 ^ 31) (hb' : b < 2 ^ 31) (hx : p.tables.exec = Jvm.exec) (hb : c.code = cc) {off : Int} {tgt : Nat} (hd : decode cc pc = .ok (.if_icmp .ne off, 3)) (ht : (pc : Int) + off = (tgt : Int)) (kt : ¬ a = b → W p l e R s m args below meth c H locs cells slots Q (F0 m tgt ls rest)) (kf : a = b → W p l e R s m args below meth c H locs cells slots Q (F0 m (pc + 3) ls rest)) : W p l e R s m args below meth c H locs cells slots Q (F0 m pc ls (.int (nI b) :: .int (nI a) :: rest)) := lv_icmp_ne hx hb hd ht (fun h => kt (fun h' => h ((nI_eq ha hb').mpr h'))) (fun h => kf ((nI_eq ha hb').mp h))
theorem n_icmp_lt {a b : Nat} (ha : a < 2 ^ 31) (hb' : b < 2 ^ 31) (hx : p.tables.exec = Jvm.exec) (hb : c.code = cc) {off : Int} {tgt : Nat} (hd : decode cc pc = .ok (.if_icmp .lt off, 3)) (ht : (pc : Int) + off = (tgt : Int)) (kt : a < b → W p l e R s m args below meth c H locs cells slots Q (F0 m tgt ls rest)) (kf : ¬ a < b → W p l e R s m args below meth c H locs cells slots Q (F0 m (pc + 3) ls rest)) : W p l e R s m args below meth c H locs cells slots Q (F0 m pc ls (.int (nI b) :: .int (nI a) :: rest)) := lv_icmp_lt hx hb hd ht (fun h => kt ((nI_ltI ha hb').mp h)) (fun h => kf (fun h' => h ((nI_ltI ha hb').mpr h')))
theorem n_icmp_ge {a b : Nat} (ha : a < 2 ^ 31) (hb' : b < 2 ^ 31) (hx : p.tables.exec = Jvm.exec) (hb : c.code = cc) {off : Int} {tgt : Nat} (hd : decode cc pc = .ok (.if_icmp .ge off, 3)) (ht : (pc : Int) + off = (tgt : Int)) (kt : b ≤ a → W p l e R s m args below meth c H locs cells slots Q (F0 m tgt ls rest)) (kf : ¬ b ≤ a → W p l e R s m args below meth c H locs cells slots Q (F0 m (pc + 3) ls rest)) : W p l e R s m args below meth c H locs cells slots Q (F0 m pc ls (.int (nI b) :: .int (nI a) :: rest)) := lv_icmp_ge hx hb hd ht (fun h => kt ((nI_leI hb' ha).mp h)) (fun h => kf (fun h' => h ((nI_leI hb' ha).mpr h')))
theorem n_icmp_gt {a b : Nat} (ha : a < 2 ^ 31) (hb' : b < 2 ^ 31) (hx : p.tables.exec = Jvm.exec) (hb : c.code = cc) {off : Int} {tgt : Nat} (hd : decode cc pc = .ok (.if_icmp .gt off, 3)) (ht : (pc : Int) + off = (tgt : Int)) (kt : b < a → W p l e R s m args below meth c H locs cells slots Q (F0 m tgt ls rest)) (kf : ¬ b < a → W p l e R s m args below meth c H locs cells slots Q (F0 m (pc + 3) ls rest)) : W p l e R s m args below meth c H locs cells slots Q (F0 m pc ls (.int (nI b) :: .int (nI a) :: rest)) := lv_icmp_gt hx hb hd ht (fun h => kt ((nI_ltI hb' ha).mp h)) (fun h => kf (fun h' => h ((nI_ltI hb' ha).mpr h')))
theorem n_icmp_le {a b : Nat} (ha : a < 2 ^ 31) (hb' : b < 2 ^ 31) (hx : p.tables.exec = Jvm.exec) (hb : c.code = cc) {off : Int} {tgt : Nat} (hd : decode cc pc = .ok (.if_icmp .le off, 3)) (ht : (pc : Int) + off = (tgt : Int)) (kt : a ≤ b → W p l e R s m args below meth c H locs cells slots Q (F0 m tgt ls rest)) (kf : ¬ a ≤ b → W p l e R s m args below meth c H locs cells slots Q (F0 m (pc + 3) ls rest)) : W p l e R s m args below meth c H locs cells slots Q (F0 m pc ls (.int (nI b) :: .int (nI a) :: rest)) := lv_icmp_le hx hb hd ht (fun h => kt ((nI_leI ha hb').mp h)) (fun h => kf (fun h' => h ((nI_leI ha hb').mpr h')))
theorem n_if_eq {a : Nat} (ha : a < 2 ^ 31) (hx : p.tables.exec = Jvm.exec) (hb : c.code = cc) {off : Int} {tgt : Nat} (hd : decode cc pc = .ok (.ifCond .eq off, 3)) (ht : (pc : Int) + off = (tgt : Int)) (kt : a = 0 → W p l e R s m args below meth c H locs cells slots Q (F0 m tgt ls rest)) (kf : ¬ a = 0 → W p l e R s m args below meth c H locs cells slots Q (F0 m (pc + 3) ls rest)) : W p l e R s m args below meth c H locs cells slots Q (F0 m pc ls (.int (nI a) :: rest)) := lv_if_eq hx hb hd ht (fun h => kt ((nI_eq ha (by decide)).mp h)) (fun h => kf (fun h' => h (by rw [h']; rfl)))
theorem n_if_ne {a : Nat} (ha : a < 2 ^ 31) (hx : p.tables.exec = Jvm.exec) (hb : c.code = cc) {off : Int} {tgt : Nat} (hd : decode cc pc = .ok (.ifCond .ne off, 3)) (ht : (pc : Int) + off = (tgt : Int)) (kt : ¬ a = 0 → W p l e R s m args below meth c H locs cells slots Q (F0 m tgt ls rest)) (kf : a = 0 → W p l e R s m args below meth c H locs cells slots Q (F0 m (pc + 3) ls rest)) : W p l e R s m args below meth c H locs cells slots Q (F0 m pc ls (.int (nI a) :: rest)) := lv_if_ne hx hb hd ht (fun h => kt (fun h' => h (by rw [h']; rfl))) (fun h => kf ((nI_eq ha (by decide)).mp h))
/-- a loop's head, known to be at its end; known not to be -/
theorem n_geT {a b : Nat} (h : b ≤ a) (ha : a < 2 ^ 31) (hx : p.tables.exec = Jvm.exec) (hb : c.code = cc) {off : Int} {tgt : Nat} (hd : decode cc pc = .ok (.if_icmp .ge off, 3)) (ht : (pc : Int) + off = (tgt : Int)) (kt : W p l e R s m args below meth c H locs cells slots Q (F0 m tgt ls rest)) : W p l e R s m args below meth c H locs cells slots Q (F0 m pc ls (.int (nI b) :: .int (nI a) :: rest)) := lv_icmp_ge hx hb hd ht (fun _ => kt) (fun h' => absurd (nI_le h ha) h')
theorem n_geF {a b : Nat} (h : a < b) (hb' : b < 2 ^ 31) (hx : p.tables.exec = Jvm.exec) (hb : c.code = cc) {off : Int} {tgt : Nat} (hd : decode cc pc = .ok (.if_icmp .ge off, 3)) (ht : (pc : Int) + off = (tgt : Int)) (kf : W p l e R s m args below meth c H locs cells slots Q (F0 m (pc + 3) ls rest)) : W p l e R s m args below meth c H locs cells slots Q (F0 m pc ls (.int (nI b) :: .int (nI a) :: rest)) := lv_icmp_ge hx hb hd ht (fun h' => absurd h' (nI_ge h hb')) (fun _ => kf)
theorem n_gtT {a b : Nat} (h : b < a) (ha : a < 2 ^ 31) (hx : p.tables.exec = Jvm.exec) (hb : c.code = cc) {off : Int} {tgt : Nat} (hd : decode cc pc = .ok (.if_icmp .gt off, 3)) (ht : (pc : Int) + off = (tgt : Int)) (kt : W p l e R s m args below meth c H locs cells slots Q (F0 m tgt ls rest)) : W p l e R s m args below meth c H locs cells slots Q (F0 m pc ls (.int (nI b) :: .int (nI a) :: rest)) := lv_icmp_gt hx hb hd ht (fun _ => kt) (fun h' => absurd (nI_lt h ha) h')
theorem n_gtF {a b : Nat} (h : a ≤ b) (hb' : b < 2 ^ 31) (hx : p.tables.exec = Jvm.exec) (hb : c.code = cc) {off : Int} {tgt : Nat} (hd : decode cc pc = .ok (.if_icmp .gt off, 3)) (ht : (pc : Int) + off = (tgt : Int)) (kf : W p l e R s m args below meth c H locs cells slots Q (F0 m (pc + 3) ls rest)) : W p l e R s m args below meth c H locs cells slots Q (F0 m pc ls (.int (nI b) :: .int (nI a) :: rest)) := lv_icmp_gt hx hb hd ht (fun h' => absurd h' (nI_nlt h hb')) (fun _ => kf)
/-- compares of longs, fused with their branch -/
theorem l_eq {x y : Int64} (hx : p.tables.exec = Jvm.exec) (hb : c.code = cc) {off : Int} {tgt : Nat} (hd : decode cc pc = .ok (.lcmp, 1)) (hd2 : decode cc (pc + 1) = .ok (.ifCond .eq off, 3)) (ht : ((pc + 1 : Nat) : Int) + off = (tgt : Int)) (kt : x = y → W p l e R s m args below meth c H locs cells slots Q (F0 m tgt ls rest)) (kf : ¬ x = y → W p l e R s m args below meth c H locs cells slots Q (F0 m (pc + 4) ls rest)) : W p l e R s m args below meth c H locs cells slots Q (F0 m pc ls (.long y :: .long x :: rest)) := W.lcmp hx hb hd (lv_if_eq hx hb hd2 ht (fun h => kt ((lg_cmp_eq x y).mp h)) (fun h => kf (fun h' => h ((lg_cmp_eq x y).mpr h'))))
theorem l_ne {x y : Int64} (hx : p.tables.exec = Jvm.exec) (hb : c.code = cc) {off : Int} {tgt : Nat} (hd : decode cc pc = .ok (.lcmp, 1)) (hd2 : decode cc (pc + 1) = .ok (.ifCond .ne off, 3)) (ht : ((pc + 1 : Nat) : Int) + off = (tgt : Int)) (kt : ¬ x = y → W p l e R s m args below meth c H locs cells slots Q (F0 m tgt ls rest)) (kf : x = y → W p l e R s m args below meth c H locs cells slots Q (F0 m (pc + 4) ls rest)) : W p l e R s m args below meth c H locs cells slots Q (F0 m pc ls (.long y :: .long x :: rest)) := W.lcmp hx hb hd (lv_if_ne hx hb hd2 ht (fun h => kt (fun h' => h ((lg_cmp_eq x y).mpr h'))) (fun h => kf ((lg_cmp_eq x y).mp h)))
theorem l_lt {x y : Int64} (hx : p.tables.exec = Jvm.exec) (hb : c.code = cc) {off : Int} {tgt : Nat} (hd : decode cc pc = .ok (.lcmp, 1)) (hd2 : decode cc (pc + 1) = .ok (.ifCond .lt off, 3)) (ht : ((pc + 1 : Nat) : Int) + off = (tgt : Int)) (kt : x < y → W p l e R s m args below meth c H locs cells slots Q (F0 m tgt ls rest)) (kf : ¬ x < y → W p l e R s m args below meth c H locs cells slots Q (F0 m (pc + 4) ls rest)) : W p l e R s m args below meth c H locs cells slots Q (F0 m pc ls (.long y :: .long x :: rest)) := W.lcmp hx hb hd (lv_if_lt hx hb hd2 ht (fun h => kt ((lg_cmp_lt x y).mp h)) (fun h => kf (fun h' => h ((lg_cmp_lt x y).mpr h'))))
theorem l_ge {x y : Int64} (hx : p.tables.exec = Jvm.exec) (hb : c.code = cc) {off : Int} {tgt : Nat} (hd : decode cc pc = .ok (.lcmp, 1)) (hd2 : decode cc (pc + 1) = .ok (.ifCond .ge off, 3)) (ht : ((pc + 1 : Nat) : Int) + off = (tgt : Int)) (kt : y ≤ x → W p l e R s m args below meth c H locs cells slots Q (F0 m tgt ls rest)) (kf : ¬ y ≤ x → W p l e R s m args below meth c H locs cells slots Q (F0 m (pc + 4) ls rest)) : W p l e R s m args below meth c H locs cells slots Q (F0 m pc ls (.long y :: .long x :: rest)) := W.lcmp hx hb hd (lv_if_ge hx hb hd2 ht (fun h => kt ((lg_cmp_ge x y).mp h)) (fun h => kf (fun h' => h ((lg_cmp_ge x y).mpr h'))))
theorem l_gt {x y : Int64} (hx : p.tables.exec = Jvm.exec) (hb : c.code = cc) {off : Int} {tgt : Nat} (hd : decode cc pc = .ok (.lcmp, 1)) (hd2 : decode cc (pc + 1) = .ok (.ifCond .gt off, 3)) (ht : ((pc + 1 : Nat) : Int) + off = (tgt : Int)) (kt : y < x → W p l e R s m args below meth c H locs cells slots Q (F0 m tgt ls rest)) (kf : ¬ y < x → W p l e R s m args below meth c H locs cells slots Q (F0 m (pc + 4) ls rest)) : W p l e R s m args below meth c H locs cells slots Q (F0 m pc ls (.long y :: .long x :: rest)) := W.lcmp hx hb hd (lv_if_gt hx hb hd2 ht (fun h => kt ((lg_cmp_gt x y).mp h)) (fun h => kf (fun h' => h ((lg_cmp_gt x y).mpr h'))))
theorem l_le {x y : Int64} (hx : p.tables.exec = Jvm.exec) (hb : c.code = cc) {off : Int} {tgt : Nat} (hd : decode cc pc = .ok (.lcmp, 1)) (hd2 : decode cc (pc + 1) = .ok (.ifCond .le off, 3)) (ht : ((pc + 1 : Nat) : Int) + off = (tgt : Int)) (kt : x ≤ y → W p l e R s m args below meth c H locs cells slots Q (F0 m tgt ls rest)) (kf : ¬ x ≤ y → W p l e R s m args below meth c H locs cells slots Q (F0 m (pc + 4) ls rest)) : W p l e R s m args below meth c H locs cells slots Q (F0 m pc ls (.long y :: .long x :: rest)) := W.lcmp hx hb hd (lv_if_le hx hb hd2 ht (fun h => kt ((lg_cmp_le x y).mp h)) (fun h => kf (fun h' => h ((lg_cmp_le x y).mpr h'))))
end ROWS
