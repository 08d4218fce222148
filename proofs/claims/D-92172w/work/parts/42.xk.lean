/-! what throws and is caught: the words of a throw, the handlers (printed by gen/excx.py) -/
set_option maxRecDepth 100000
def nwX : List Cond := [.castable "java/lang/RuntimeException" "java/lang/Throwable", .declares ⟨"java/lang/RuntimeException", "<init>", "()V"⟩, .declares ⟨"java/lang/Exception", "<init>", "()V"⟩, .declares ⟨"java/lang/Throwable", "<init>", "()V"⟩, .castable "java/lang/NullPointerException" "java/lang/NullPointerException", .declares ⟨"java/lang/IndexOutOfBoundsException", "<init>", "(Ljava/lang/String;)V"⟩, .declares ⟨"java/lang/RuntimeException", "<init>", "(Ljava/lang/String;)V"⟩, .declares ⟨"java/lang/Exception", "<init>", "(Ljava/lang/String;)V"⟩, .declares ⟨"java/lang/Throwable", "<init>", "(Ljava/lang/String;)V"⟩, .castable "java/lang/ArrayIndexOutOfBoundsException" "java/lang/ArrayIndexOutOfBoundsException", .castable "java/lang/NegativeArraySizeException" "java/lang/NegativeArraySizeException", .castable "java/lang/ClassCastException" "java/lang/ClassCastException", .castable "java/lang/ArithmeticException" "java/lang/ArithmeticException", .castable "java/lang/ArrayIndexOutOfBoundsException" "java/lang/IndexOutOfBoundsException"]
theorem nwX_tab : ∀ w ∈ nwX, w.onTables = true := by
  intro w h
  simp only [nwX, List.mem_cons, List.not_mem_nil, or_false] at h
  rcases h with h | h | h | h | h | h | h | h | h | h | h | h | h | h <;> subst h <;> rfl
theorem nwX_warm {s U : State} (hW : s.WarmedH U.vm) : ∀ w ∈ nwX, va_Nw w s → va_Nw w U := by
  intro w h hz
  simp only [nwX, List.mem_cons, List.not_mem_nil, or_false] at h
  rcases h with h | h | h | h | h | h | h | h | h | h | h | h | h | h <;> subst h <;> first | exact va_Nw.warmC hW hz | exact va_Nw.warmD hW hz
def ncX : List (String × String) := [("java/lang/ArrayIndexOutOfBoundsException", "java/lang/NullPointerException"), ("java/lang/ClassCastException", "java/lang/NullPointerException"), ("EaterWebs$Being", "EaterWebs$Plant"), ("EaterWebs$Eater", "EaterWebs$Plant"), ("EaterWebs$Guest", "EaterWebs$Plant"), ("EaterWebs$Being", "EaterWebs$Eater"), ("EaterWebs$Plant", "EaterWebs$Eater"), ("EaterWebs$Being", "EaterWebs$Guest"), ("EaterWebs$Plant", "EaterWebs$Guest"), ("EaterWebs$Eater", "EaterWebs$Guest")]
def KX (A : Nat → Prop) (U : State) (H : Heap) : Prop := (∀ w ∈ nwX, va_Nw w U) ∧ (∀ q ∈ ncX, va_Nc q.1 q.2 U) ∧ vx_Zq Bundle.tN "UNASSIGNED_STACK" Bundle.steD A U H ∧ vx_Zq Bundle.tN "SUPPRESSED_SENTINEL" Bundle.listD A U H ∧ modulesRight_1 U = true
theorem mr_alike {s U : State} (h : s.vm.Alike U.vm) (hm : modulesRight_1 s = true) : modulesRight_1 U = true := by
  have e : U.vm.modules = s.vm.modules := by rw [h.1]
  unfold modulesRight_1 at hm ⊢
  rw [e]
  exact hm
theorem KX.moved {A : Nat → Prop} {s U : State} {H : Heap} (hW : s.WarmedH U.vm) (h : KX A s H) : KX A U H := ⟨fun w hw => nwX_warm hW w hw (h.1 w hw), fun q hq => va_Nc.moved hW.alike (h.2.1 q hq), vx_Zq.moved hW.alike h.2.2.1, vx_Zq.moved hW.alike h.2.2.2.1, mr_alike hW.alike h.2.2.2.2⟩
theorem KX.same {A : Nat → Prop} {s U : State} {H : Heap} (hv : s.vm = U.vm) (h : KX A s H) : KX A U H := by
  have hA : s.vm.Alike U.vm := by rw [hv]; exact Vm.Alike.refl _
  exact ⟨fun w hw => va_Nw.same (nwX_tab w hw) hv (h.1 w hw), fun q hq => va_Nc.moved hA (h.2.1 q hq), vx_Zq.moved hA h.2.2.1, vx_Zq.moved hA h.2.2.2.1, mr_alike hA h.2.2.2.2⟩
theorem KX.kept {A : Nat → Prop} {U : State} {H H1 : Heap} (h : KX A U H) (hq : ∀ a : Nat, a < H.size → ¬ A a → H1[a]? = H[a]?) : KX A U H1 := ⟨h.1, h.2.1, h.2.2.1.kept hq, h.2.2.2.1.kept hq, h.2.2.2.2⟩
theorem KX.narrow {A B : Nat → Prop} {U : State} {H : Heap} (h : KX A U H) (hAB : ∀ q, B q → A q) : KX B U H := ⟨h.1, h.2.1, h.2.2.1.narrow hAB, h.2.2.2.1.narrow hAB, h.2.2.2.2⟩
abbrev wStX (D : va_G) (cs : Nat → ClassId) (ws : va_W) (sz : Nat) (U : State) : Prop := wSt D cs ws sz U ∧ KX (va_A ws sz) U U.heap
theorem wStX.blind {D : va_G} {cs : Nat → ClassId} {ws : va_W} {sz : Nat} {av : List Value} : FrameBlind (va_Pc av (wStX D cs ws sz)) := fun a U g mk q => by
  obtain ⟨q0, ⟨q1, qP, qK, qD⟩, qX⟩ := q
  exact ⟨q0, ⟨q1, qP, qK.same (U := U.calling g mk a) rfl, qD⟩, KX.same (s := U) (U := U.calling g mk a) rfl qX⟩
theorem inN : ∀ w ∈ (vx_atN 8).filter goodWord, w ∈ lw_all := lw_in _ [86, 286, 228, 248, 251, 253, 287, 288, 109, 110, 222, 227, 249, 256, 280, 257, 281, 258, 282, 223, 225, 283, 245, 235, 236, 319, 321, 242, 243, 310, 311, 312, 313, 313, 314, 315, 316, 316, 317, 318, 287, 91, 240, 332, 234, 327, 328, 330, 254, 284, 325] (by decide +kernel) (by decide +kernel)
theorem nbN : ∀ w ∈ (vx_atN 8).filter (fun w => !goodWord w), w ∈ nwX := by decide +kernel
theorem goN : ∀ w ∈ vx_atN 8, vx_ot w = true := List.all_eq_true.mp (by decide +kernel)
theorem hatN {args : Array Value} {s : State} {A : Nat → Prop} {H : Heap} (hts : ∀ w ∈ lw_all, w.before args s = true) (hX : KX A s H) : ∀ w ∈ vx_atN 8, w.before args s = true := vx_hat (B := nwX) (fun w hw => hts w (inN w hw)) nbN (fun w hw => va_Nw.use (nwX_tab w hw) (hX.1 w hw))
theorem inAI : ∀ w ∈ (vx_atM "java/lang/ArrayIndexOutOfBoundsException" ["java/lang/IndexOutOfBoundsException", "java/lang/RuntimeException", "java/lang/Exception"]).filter goodWord, w ∈ lw_all := lw_in _ [86, 286, 228, 248, 251, 253, 287, 288, 109, 110, 222, 227, 249, 256, 280, 257, 281, 258, 282, 223, 225, 283, 220, 221, 255, 283, 336, 337, 338, 339, 339, 340, 341, 214, 214, 215, 216, 217, 217, 218, 219, 220, 90, 289, 290, 291, 293, 292, 294, 93, 335, 352, 231, 344, 345, 347, 343, 254, 284, 342] (by decide +kernel) (by decide +kernel)
theorem nbAI : ∀ w ∈ (vx_atM "java/lang/ArrayIndexOutOfBoundsException" ["java/lang/IndexOutOfBoundsException", "java/lang/RuntimeException", "java/lang/Exception"]).filter (fun w => !goodWord w), w ∈ nwX := by decide +kernel
theorem goAI : ∀ w ∈ vx_atM "java/lang/ArrayIndexOutOfBoundsException" ["java/lang/IndexOutOfBoundsException", "java/lang/RuntimeException", "java/lang/Exception"], vx_ot w = true := List.all_eq_true.mp (by decide +kernel)
theorem hatAI {args : Array Value} {s : State} {A : Nat → Prop} {H : Heap} (hts : ∀ w ∈ lw_all, w.before args s = true) (hX : KX A s H) : ∀ w ∈ vx_atM "java/lang/ArrayIndexOutOfBoundsException" ["java/lang/IndexOutOfBoundsException", "java/lang/RuntimeException", "java/lang/Exception"], w.before args s = true := vx_hat (B := nwX) (fun w hw => hts w (inAI w hw)) nbAI (fun w hw => va_Nw.use (nwX_tab w hw) (hX.1 w hw))
theorem inNA : ∀ w ∈ (vx_atM "java/lang/NegativeArraySizeException" ["java/lang/RuntimeException", "java/lang/Exception"]).filter goodWord, w ∈ lw_all := lw_in _ [86, 286, 228, 248, 251, 253, 287, 288, 109, 110, 222, 227, 249, 256, 280, 257, 281, 258, 282, 223, 225, 283, 220, 221, 255, 283, 211, 212, 213, 214, 214, 215, 216, 217, 217, 218, 219, 220, 90, 289, 290, 291, 293, 292, 294, 89, 210, 279, 233, 263, 265, 269, 261, 254, 284, 259] (by decide +kernel) (by decide +kernel)
theorem nbNA : ∀ w ∈ (vx_atM "java/lang/NegativeArraySizeException" ["java/lang/RuntimeException", "java/lang/Exception"]).filter (fun w => !goodWord w), w ∈ nwX := by decide +kernel
theorem goNA : ∀ w ∈ vx_atM "java/lang/NegativeArraySizeException" ["java/lang/RuntimeException", "java/lang/Exception"], vx_ot w = true := List.all_eq_true.mp (by decide +kernel)
theorem hatNA {args : Array Value} {s : State} {A : Nat → Prop} {H : Heap} (hts : ∀ w ∈ lw_all, w.before args s = true) (hX : KX A s H) : ∀ w ∈ vx_atM "java/lang/NegativeArraySizeException" ["java/lang/RuntimeException", "java/lang/Exception"], w.before args s = true := vx_hat (B := nwX) (fun w hw => hts w (inNA w hw)) nbNA (fun w hw => va_Nw.use (nwX_tab w hw) (hX.1 w hw))
theorem inCC : ∀ w ∈ (vx_atM "java/lang/ClassCastException" ["java/lang/RuntimeException", "java/lang/Exception"]).filter goodWord, w ∈ lw_all := lw_in _ [86, 286, 228, 248, 251, 253, 287, 288, 109, 110, 222, 227, 249, 256, 280, 257, 281, 258, 282, 223, 225, 283, 220, 221, 255, 283, 573, 574, 575, 214, 214, 215, 216, 217, 217, 218, 219, 220, 90, 289, 290, 291, 293, 292, 294, 100, 572, 584, 232, 578, 579, 581, 577, 254, 284, 576] (by decide +kernel) (by decide +kernel)
theorem nbCC : ∀ w ∈ (vx_atM "java/lang/ClassCastException" ["java/lang/RuntimeException", "java/lang/Exception"]).filter (fun w => !goodWord w), w ∈ nwX := by decide +kernel
theorem goCC : ∀ w ∈ vx_atM "java/lang/ClassCastException" ["java/lang/RuntimeException", "java/lang/Exception"], vx_ot w = true := List.all_eq_true.mp (by decide +kernel)
theorem hatCC {args : Array Value} {s : State} {A : Nat → Prop} {H : Heap} (hts : ∀ w ∈ lw_all, w.before args s = true) (hX : KX A s H) : ∀ w ∈ vx_atM "java/lang/ClassCastException" ["java/lang/RuntimeException", "java/lang/Exception"], w.before args s = true := vx_hat (B := nwX) (fun w hw => hts w (inCC w hw)) nbCC (fun w hw => va_Nw.use (nwX_tab w hw) (hX.1 w hw))
theorem inAR : ∀ w ∈ (vx_atM "java/lang/ArithmeticException" ["java/lang/RuntimeException", "java/lang/Exception"]).filter goodWord, w ∈ lw_all := lw_in _ [86, 286, 228, 248, 251, 253, 287, 288, 109, 110, 222, 227, 249, 256, 280, 257, 281, 258, 282, 223, 225, 283, 220, 221, 255, 283, 619, 620, 621, 214, 214, 215, 216, 217, 217, 218, 219, 220, 90, 289, 290, 291, 293, 292, 294, 101, 618, 630, 230, 624, 625, 627, 623, 254, 284, 622] (by decide +kernel) (by decide +kernel)
theorem nbAR : ∀ w ∈ (vx_atM "java/lang/ArithmeticException" ["java/lang/RuntimeException", "java/lang/Exception"]).filter (fun w => !goodWord w), w ∈ nwX := by decide +kernel
theorem goAR : ∀ w ∈ vx_atM "java/lang/ArithmeticException" ["java/lang/RuntimeException", "java/lang/Exception"], vx_ot w = true := List.all_eq_true.mp (by decide +kernel)
theorem hatAR {args : Array Value} {s : State} {A : Nat → Prop} {H : Heap} (hts : ∀ w ∈ lw_all, w.before args s = true) (hX : KX A s H) : ∀ w ∈ vx_atM "java/lang/ArithmeticException" ["java/lang/RuntimeException", "java/lang/Exception"], w.before args s = true := vx_hat (B := nwX) (fun w hw => hts w (inAR w hw)) nbAR (fun w hw => va_Nw.use (nwX_tab w hw) (hX.1 w hw))
section HAN
variable {p : Program} {l : Launch} {e : Env} {R : Room} {s : State} {mid : MethodId} {args : Array Value} {below : List Frame} {meth : Method} {c : Code} {H : Heap} {locs : List Loc} {cells slots : Nat} {Q : State → Prop} {cc : ByteArray} {pc : Nat} {ls : Array Slot} {rest : List Value} {D : va_G} {A : Nat → Prop} {x : Nat} {ar : Nat → Nat} {cs : Nat → ClassId} {Z : ZT} {B : BT} {Y : va_W} {ws : va_W} {nL : Nat} {hh : List (Nat × Nat × Nat × Nat)}
theorem xh_N (hx : p.tables.exec = Jvm.exec) (hl : l.stackTraces = false) (hml : c.maxLocals = nL) (hown : s.vm.findClass RX0 = some mid.cls) (hts : ∀ w ∈ lw_all, w.before args s = true) (hX : KX A s s.heap) (hE : EW D A s.heap ws H locs) (hls : ls.size = nL) (hlk : meth.locks = false) (htab : c.exceptionTable.toList = tableOf hh) (pre : List ExceptionTableEntry) (y : ExceptionTableEntry) (suf : List ExceptionTableEntry) (hsp : tableOf hh = pre ++ y :: suf) (hpre : ∀ z ∈ pre, covers z pc = false) (hcov : covers y pc = true) (hct : y.catchType = 90) (hRf : 8 ≤ R.frames) (hRl : (rest.map fun v => v.category).sum + 10240 ≤ R.locals) (hRc : cells + 1 ≤ R.cells) (hRs : slots + 8 ≤ R.slots) (kk : ∀ (H1 : Heap) (q9 : Nat), EW D A s.heap ws H1 locs → W p l e R s mid args below meth c H1 locs (cells + 1) (slots + 8) Q (F0 mid y.handlerPc ls [.ref q9])) : vx_NoteN p l e R s mid args below meth c H locs cells slots Q (F0 mid pc ls rest) := by
  refine vx_npe hx hl (hatN hts hX) goN hX.2.2.1 hX.2.2.2.1 hE.2.2 (hls.trans hml.symm) hRf hRl hRc hRs hlk ?_
  intro H1 q9 ce hz hs hS hce hv hcl
  refine vx_catch (E := "java/lang/NullPointerException") (name := "java/lang/NullPointerException") hown pre y suf (htab.trans hsp) (fun z hz => Or.inl (hpre z hz)) hcov (by rw [hct]; decide) (by rw [hct]; exact hts _ q309) (va_Nw.use rfl (hX.1 (.castable "java/lang/NullPointerException" "java/lang/NullPointerException") (by simp [nwX]))) hce hv hcl ?_
  exact kk H1 q9 ⟨hE.1.kept (fun k z hz => hs z.1 ((hE.1 k z hz).lt)), hE.2.1, hS⟩
theorem xh_AI {tx : String} (htx : (tx == notModelled) = false) (hnb : (stringBytes (stringToUtf16 tx)).size ≤ 212) (hx : p.tables.exec = Jvm.exec) (hl : l.stackTraces = false) (hml : c.maxLocals = nL) (hown : s.vm.findClass RX0 = some mid.cls) (hts : ∀ w ∈ lw_all, w.before args s = true) (hX : KX A s s.heap) (hE : EW D A s.heap ws H locs) (hls : ls.size = nL) (hlk : meth.locks = false) (htab : c.exceptionTable.toList = tableOf hh) (pre : List ExceptionTableEntry) (y : ExceptionTableEntry) (suf : List ExceptionTableEntry) (hsp : tableOf hh = pre ++ y :: suf) (hpre : ∀ z ∈ pre, covers z pc = false ∨ z.catchType = 90) (hcov : covers y pc = true) (hct : y.catchType = 92) (hRf : 8 ≤ R.frames) (hRl : (rest.map fun v => v.category).sum + 10240 ≤ R.locals) (hRc : cells + 3 ≤ R.cells) (hRs : slots + 222 ≤ R.slots) (kk : ∀ (H1 : Heap) (q9 : Nat), EW D A s.heap ws H1 locs → W p l e R s mid args below meth c H1 locs (cells + 3) (slots + 222) Q (F0 mid y.handlerPc ls [.ref q9])) : vx_Note p l e R s mid args below meth c H locs cells slots Q (F0 mid pc ls rest) "java/lang/ArrayIndexOutOfBoundsException" tx := by
  refine vx_vm hx hl (cls := "java/lang/ArrayIndexOutOfBoundsException") (names := ["java/lang/IndexOutOfBoundsException", "java/lang/RuntimeException", "java/lang/Exception"]) (nb := 212) (by decide +kernel) (by decide +kernel) (by decide +kernel) (by decide +kernel) (hatAI hts hX) goAI hX.2.2.1 hX.2.2.2.1 hE.2.2 (hls.trans hml.symm) htx hnb (by decide) hRf hRl (by decide) hRc hRs hlk ?_
  intro H1 q9 ce hz hs hS hce hv hcl
  refine vx_catch (E := "java/lang/ArrayIndexOutOfBoundsException") (name := "java/lang/ArrayIndexOutOfBoundsException") hown pre y suf (htab.trans hsp) (fun z hz => (hpre z hz).imp id (fun h => ⟨by rw [h]; decide, "java/lang/NullPointerException", by rw [h]; exact hts _ q309, hX.2.1 ("java/lang/ArrayIndexOutOfBoundsException", "java/lang/NullPointerException") (by simp [ncX])⟩)) hcov (by rw [hct]; decide) (by rw [hct]; exact hts _ q334) (va_Nw.use rfl (hX.1 (.castable "java/lang/ArrayIndexOutOfBoundsException" "java/lang/ArrayIndexOutOfBoundsException") (by simp [nwX]))) hce hv hcl ?_
  exact kk H1 q9 ⟨hE.1.kept (fun k z hz => hs z.1 ((hE.1 k z hz).lt)), hE.2.1, hS⟩
theorem xh_AI2 {tx : String} (htx : (tx == notModelled) = false) (hnb : (stringBytes (stringToUtf16 tx)).size ≤ 212) (hx : p.tables.exec = Jvm.exec) (hl : l.stackTraces = false) (hml : c.maxLocals = nL) (hown : s.vm.findClass RX0 = some mid.cls) (hts : ∀ w ∈ lw_all, w.before args s = true) (hX : KX A s s.heap) (hE : EW D A s.heap ws H locs) (hls : ls.size = nL) (hlk : meth.locks = false) (htab : c.exceptionTable.toList = tableOf hh) (pre : List ExceptionTableEntry) (y : ExceptionTableEntry) (suf : List ExceptionTableEntry) (hsp : tableOf hh = pre ++ y :: suf) (hpre : ∀ z ∈ pre, covers z pc = false ∨ z.catchType = 90) (hcov : covers y pc = true) (hct : y.catchType = 100) (hRf : 8 ≤ R.frames) (hRl : (rest.map fun v => v.category).sum + 10240 ≤ R.locals) (hRc : cells + 3 ≤ R.cells) (hRs : slots + 222 ≤ R.slots) (kk : ∀ (H1 : Heap) (q9 : Nat), EW D A s.heap ws H1 locs → W p l e R s mid args below meth c H1 locs (cells + 3) (slots + 222) Q (F0 mid y.handlerPc ls [.ref q9])) : vx_Note p l e R s mid args below meth c H locs cells slots Q (F0 mid pc ls rest) "java/lang/ArrayIndexOutOfBoundsException" tx := by
  refine vx_vm hx hl (cls := "java/lang/ArrayIndexOutOfBoundsException") (names := ["java/lang/IndexOutOfBoundsException", "java/lang/RuntimeException", "java/lang/Exception"]) (nb := 212) (by decide +kernel) (by decide +kernel) (by decide +kernel) (by decide +kernel) (hatAI hts hX) goAI hX.2.2.1 hX.2.2.2.1 hE.2.2 (hls.trans hml.symm) htx hnb (by decide) hRf hRl (by decide) hRc hRs hlk ?_
  intro H1 q9 ce hz hs hS hce hv hcl
  refine vx_catch (E := "java/lang/ArrayIndexOutOfBoundsException") (name := "java/lang/IndexOutOfBoundsException") hown pre y suf (htab.trans hsp) (fun z hz => (hpre z hz).imp id (fun h => ⟨by rw [h]; decide, "java/lang/NullPointerException", by rw [h]; exact hts _ q309, hX.2.1 ("java/lang/ArrayIndexOutOfBoundsException", "java/lang/NullPointerException") (by simp [ncX])⟩)) hcov (by rw [hct]; decide) (by rw [hct]; exact hts _ q361) (va_Nw.use rfl (hX.1 (.castable "java/lang/ArrayIndexOutOfBoundsException" "java/lang/IndexOutOfBoundsException") (by simp [nwX]))) hce hv hcl ?_
  exact kk H1 q9 ⟨hE.1.kept (fun k z hz => hs z.1 ((hE.1 k z hz).lt)), hE.2.1, hS⟩
theorem xh_NA {tx : String} (htx : (tx == notModelled) = false) (hnb : (stringBytes (stringToUtf16 tx)).size ≤ 44) (hx : p.tables.exec = Jvm.exec) (hl : l.stackTraces = false) (hml : c.maxLocals = nL) (hown : s.vm.findClass RX0 = some mid.cls) (hts : ∀ w ∈ lw_all, w.before args s = true) (hX : KX A s s.heap) (hE : EW D A s.heap ws H locs) (hls : ls.size = nL) (hlk : meth.locks = false) (htab : c.exceptionTable.toList = tableOf hh) (pre : List ExceptionTableEntry) (y : ExceptionTableEntry) (suf : List ExceptionTableEntry) (hsp : tableOf hh = pre ++ y :: suf) (hpre : ∀ z ∈ pre, covers z pc = false) (hcov : covers y pc = true) (hct : y.catchType = 84) (hRf : 7 ≤ R.frames) (hRl : (rest.map fun v => v.category).sum + 10240 ≤ R.locals) (hRc : cells + 3 ≤ R.cells) (hRs : slots + 54 ≤ R.slots) (kk : ∀ (H1 : Heap) (q9 : Nat), EW D A s.heap ws H1 locs → W p l e R s mid args below meth c H1 locs (cells + 3) (slots + 54) Q (F0 mid y.handlerPc ls [.ref q9])) : vx_Note p l e R s mid args below meth c H locs cells slots Q (F0 mid pc ls rest) "java/lang/NegativeArraySizeException" tx := by
  refine vx_vm hx hl (cls := "java/lang/NegativeArraySizeException") (names := ["java/lang/RuntimeException", "java/lang/Exception"]) (nb := 44) (by decide +kernel) (by decide +kernel) (by decide +kernel) (by decide +kernel) (hatNA hts hX) goNA hX.2.2.1 hX.2.2.2.1 hE.2.2 (hls.trans hml.symm) htx hnb (by decide) hRf hRl (by decide) hRc hRs hlk ?_
  intro H1 q9 ce hz hs hS hce hv hcl
  refine vx_catch (E := "java/lang/NegativeArraySizeException") (name := "java/lang/NegativeArraySizeException") hown pre y suf (htab.trans hsp) (fun z hz => Or.inl (hpre z hz)) hcov (by rw [hct]; decide) (by rw [hct]; exact hts _ q209) (va_Nw.use rfl (hX.1 (.castable "java/lang/NegativeArraySizeException" "java/lang/NegativeArraySizeException") (by simp [nwX]))) hce hv hcl ?_
  exact kk H1 q9 ⟨hE.1.kept (fun k z hz => hs z.1 ((hE.1 k z hz).lt)), hE.2.1, hS⟩
theorem xh_CC {tx : String} (htx : (tx == notModelled) = false) (hnb : (stringBytes (stringToUtf16 tx)).size ≤ 1000) (hx : p.tables.exec = Jvm.exec) (hl : l.stackTraces = false) (hml : c.maxLocals = nL) (hown : s.vm.findClass RX0 = some mid.cls) (hts : ∀ w ∈ lw_all, w.before args s = true) (hX : KX A s s.heap) (hE : EW D A s.heap ws H locs) (hls : ls.size = nL) (hlk : meth.locks = false) (htab : c.exceptionTable.toList = tableOf hh) (pre : List ExceptionTableEntry) (y : ExceptionTableEntry) (suf : List ExceptionTableEntry) (hsp : tableOf hh = pre ++ y :: suf) (hpre : ∀ z ∈ pre, covers z pc = false ∨ z.catchType = 90) (hcov : covers y pc = true) (hct : y.catchType = 206) (hRf : 7 ≤ R.frames) (hRl : (rest.map fun v => v.category).sum + 10240 ≤ R.locals) (hRc : cells + 3 ≤ R.cells) (hRs : slots + 1010 ≤ R.slots) (kk : ∀ (H1 : Heap) (q9 : Nat), EW D A s.heap ws H1 locs → W p l e R s mid args below meth c H1 locs (cells + 3) (slots + 1010) Q (F0 mid y.handlerPc ls [.ref q9])) : vx_Note p l e R s mid args below meth c H locs cells slots Q (F0 mid pc ls rest) "java/lang/ClassCastException" tx := by
  refine vx_vm hx hl (cls := "java/lang/ClassCastException") (names := ["java/lang/RuntimeException", "java/lang/Exception"]) (nb := 1000) (by decide +kernel) (by decide +kernel) (by decide +kernel) (by decide +kernel) (hatCC hts hX) goCC hX.2.2.1 hX.2.2.2.1 hE.2.2 (hls.trans hml.symm) htx hnb (by decide) hRf hRl (by decide) hRc hRs hlk ?_
  intro H1 q9 ce hz hs hS hce hv hcl
  refine vx_catch (E := "java/lang/ClassCastException") (name := "java/lang/ClassCastException") hown pre y suf (htab.trans hsp) (fun z hz => (hpre z hz).imp id (fun h => ⟨by rw [h]; decide, "java/lang/NullPointerException", by rw [h]; exact hts _ q309, hX.2.1 ("java/lang/ClassCastException", "java/lang/NullPointerException") (by simp [ncX])⟩)) hcov (by rw [hct]; decide) (by rw [hct]; exact hts _ q571) (va_Nw.use rfl (hX.1 (.castable "java/lang/ClassCastException" "java/lang/ClassCastException") (by simp [nwX]))) hce hv hcl ?_
  exact kk H1 q9 ⟨hE.1.kept (fun k z hz => hs z.1 ((hE.1 k z hz).lt)), hE.2.1, hS⟩
theorem xh_AR {tx : String} (htx : (tx == notModelled) = false) (hnb : (stringBytes (stringToUtf16 tx)).size ≤ 20) (hx : p.tables.exec = Jvm.exec) (hl : l.stackTraces = false) (hml : c.maxLocals = nL) (hown : s.vm.findClass RX0 = some mid.cls) (hts : ∀ w ∈ lw_all, w.before args s = true) (hX : KX A s s.heap) (hE : EW D A s.heap ws H locs) (hls : ls.size = nL) (hlk : meth.locks = false) (htab : c.exceptionTable.toList = tableOf hh) (pre : List ExceptionTableEntry) (y : ExceptionTableEntry) (suf : List ExceptionTableEntry) (hsp : tableOf hh = pre ++ y :: suf) (hpre : ∀ z ∈ pre, covers z pc = false) (hcov : covers y pc = true) (hct : y.catchType = 239) (hRf : 7 ≤ R.frames) (hRl : (rest.map fun v => v.category).sum + 10240 ≤ R.locals) (hRc : cells + 3 ≤ R.cells) (hRs : slots + 30 ≤ R.slots) (kk : ∀ (H1 : Heap) (q9 : Nat), EW D A s.heap ws H1 locs → W p l e R s mid args below meth c H1 locs (cells + 3) (slots + 30) Q (F0 mid y.handlerPc ls [.ref q9])) : vx_Note p l e R s mid args below meth c H locs cells slots Q (F0 mid pc ls rest) "java/lang/ArithmeticException" tx := by
  refine vx_vm hx hl (cls := "java/lang/ArithmeticException") (names := ["java/lang/RuntimeException", "java/lang/Exception"]) (nb := 20) (by decide +kernel) (by decide +kernel) (by decide +kernel) (by decide +kernel) (hatAR hts hX) goAR hX.2.2.1 hX.2.2.2.1 hE.2.2 (hls.trans hml.symm) htx hnb (by decide) hRf hRl (by decide) hRc hRs hlk ?_
  intro H1 q9 ce hz hs hS hce hv hcl
  refine vx_catch (E := "java/lang/ArithmeticException") (name := "java/lang/ArithmeticException") hown pre y suf (htab.trans hsp) (fun z hz => Or.inl (hpre z hz)) hcov (by rw [hct]; decide) (by rw [hct]; exact hts _ q617) (va_Nw.use rfl (hX.1 (.castable "java/lang/ArithmeticException" "java/lang/ArithmeticException") (by simp [nwX]))) hce hv hcl ?_
  exact kk H1 q9 ⟨hE.1.kept (fun k z hz => hs z.1 ((hE.1 k z hz).lt)), hE.2.1, hS⟩
end HAN
def ccS (A B : String) (b : Bool) (h1 h2 : String) : String := "class " ++ A ++ (" cannot be cast to class " ++ B ++ (" (" ++ ((if b then A ++ (" and " ++ (B ++ (" are in " ++ h1))) else A ++ (" is in " ++ (h1 ++ ("; " ++ (B ++ (" is in " ++ h2)))))) ++ ")")))
theorem ccS_len {A B h1 h2 : String} {b : Bool} (hA : A.toList.length ≤ 20) (hB : B.toList.length ≤ 20) (l1 : h1.toList.length ≤ 60) (l2 : h2.toList.length ≤ 60) : (ccS A B b h1 h2).toList.length ≤ 250 := by
  unfold ccS
  have a1 : "class ".toList.length = 6 := by decide
  have a2 : " cannot be cast to class ".toList.length = 25 := by decide
  have a3 : " (".toList.length = 2 := by decide
  have a4 : ")".toList.length = 1 := by decide
  have a5 : " and ".toList.length = 5 := by decide
  have a6 : " are in ".toList.length = 8 := by decide
  have a7 : " is in ".toList.length = 7 := by decide
  have a8 : "; ".toList.length = 2 := by decide
  cases b
  · simp only [Bool.false_eq_true, if_false, String.toList_append, List.length_append]
    omega
  · simp only [if_true, String.toList_append, List.length_append]
    omega
theorem ccS_bytes {A B h1 h2 : String} {b : Bool} (hA : A.toList.length ≤ 20) (hB : B.toList.length ≤ 20) (l1 : h1.toList.length ≤ 60) (l2 : h2.toList.length ≤ 60) : (stringBytes (stringToUtf16 (ccS A B b h1 h2))).size ≤ 1000 := by
  have b1 := stringBytes_size_le (stringToUtf16 (ccS A B b h1 h2))
  have b2 := utf16_size_le (ccS A B b h1 h2)
  have b3 := ccS_len (b := b) hA hB l1 l2
  omega
theorem ccS_mod {A B h1 h2 : String} {b : Bool} : (ccS A B b h1 h2 == notModelled) = false := by
  rw [beq_eq_false_iff_ne]
  intro h
  have h2 := congrArg String.toList h
  unfold ccS at h2
  have h4 : notModelled.toList = Char.ofNat 0 :: " a message that is not modelled".toList := by decide
  have h5 : "class ".toList = 'c' :: "lass ".toList := by decide
  rw [String.toList_append, String.toList_append, h5, h4] at h2
  simp only [List.cons_append, List.cons.injEq] at h2
  exact absurd h2.1 (by decide)
theorem cc_home {s : State} {vm : Vm} (he : vm.modules = s.vm.modules) (hm : modulesRight_1 s = true) {k : Class} (hl : k.loader = none) (hp : packageOf k.name = "") (ho : k.ofPrimitives = false) : (vm.home k).toList.length ≤ 60 := by
  have hn : vm.loaderName none = "'bootstrap'" := rfl
  unfold Vm.home Vm.moduleOf
  rw [ho, hl, hp, hn]
  simp only [Bool.false_eq_true, if_false]
  cases hf : vm.modules.find? (fun m => m.loader == none && m.packages.contains "") with
  | none => decide
  | some m =>
    have h1 := List.find?_some hf
    have h2 := List.mem_of_find?_eq_some hf
    rw [he] at h2
    unfold modulesRight_1 at hm
    rw [List.all_eq_true] at hm
    have h3 := hm m h2
    simp only [Bool.and_eq_true, beq_iff_eq] at h1
    have h4 : (castPackages_1.any fun p => m.packages.contains p) = true := by
      unfold castPackages_1
      rw [List.any_cons, h1.2, Bool.true_or]
    rw [h1.1, h4] at h3
    simp only [Option.isSome_none, Bool.false_or, Bool.not_true, Bool.or_false, beq_iff_eq] at h3
    show ("module " ++ m.name ++ " of loader " ++ "'bootstrap'").toList.length ≤ 60
    rw [h3]
    decide
theorem fc_spec {vm : Vm} {name : String} {c : ClassId} (h : vm.findClass name = some c) : ∃ k, vm.classes[c]? = some k ∧ k.name = name ∧ k.hidden = none ∧ k.loader = none := by
  obtain ⟨hlt, hp, _⟩ := Array.findIdx?_eq_some_iff_getElem.mp h
  refine ⟨vm.classes[c], by simp [hlt], ?_⟩
  simp only [Bool.and_eq_true, beq_iff_eq, Option.isNone_iff_eq_none] at hp
  exact ⟨hp.1.1.1, hp.1.1.2, hp.2⟩
section CCF
variable {p : Program} {l : Launch} {e : Env} {R : Room} {s : State} {m : MethodId} {args : Array Value} {below : List Frame} {meth : Method} {c : Code} {T : State} {locs : List Loc} {cells slots : Nat}
set_option maxHeartbeats 4000000 in
/-- a checkcast that fails: the machine notes the exception with its text -/
theorem x_ccNo (X : Stand p l e R s m args below meth c T locs cells slots) (hexec : p.tables.exec = Jvm.exec)
    {own name : String} {index : Nat} (hown : s.vm.findClass own = some m.cls) (hlink : (Cond.classLink own index name).before args s = true)
    {a : Addr} {cell : Cell} {cT : ClassId} {ks : Class} (hcell : T.heap[a]? = some cell) (hobj : ∀ k, cell.vm ≠ .statics k) (hks : s.vm.classes[cell.cls]? = some ks)
    (hcT : s.vm.findClass name = some cT) (hasg : s.vm.assignable cell.cls cT = false)
    {g : JFrame} (hg : g.method = m) {rest : List Value} (hstack : g.stack = .ref a :: rest) (hdg : decode c.code g.pc = .ok (.checkcast index, 3)) :
    ∃ vm' ks' kt', Stand p l e R s m args below meth c (T.setVm vm') locs cells slots ∧ s.vm.Alike vm' ∧ vm'.classes[cell.cls]? = some ks' ∧ vm'.classes[cT]? = some kt' ∧
      ∀ target, Steps p.tables e below (((T.setVm vm').setTop g).pushFrame (.throwNew "java/lang/ClassCastException" (some (Op.checkcast.message vm' ks' kt')) none)) target → Steps p.tables e below (T.setTop g) target := by
  have hpl : e.platform.magicAccessors = ({} : Platform).magicAccessors := by rw [X.admits.platform]
  obtain ⟨c', hc', hcl⟩ := Cond.classLink_spec hown hlink e.platform hpl
  cases hcT.symm.trans hc'
  obtain ⟨dk, _, _, kt, hd, _, _, _, _, hkt, _, hopen⟩ := hcl.here
  have hcl₀ := X.warmed.classLinks hcl
  have hW' : s.WarmedH (T.vm.noted m.cls index (.cls cT)) := X.warmed.noted hd hopen (State.rightAt_cls hcl)
  obtain ⟨ks', hks', -⟩ := hW'.alike.2.2 _ _ hks
  obtain ⟨kt', hkt', -⟩ := hW'.alike.2.2 _ _ hkt
  refine ⟨_, ks', kt', X.noted hW', hW'.alike, hks', hkt', fun target hrest => ?_⟩
  subst hg
  jvm_step X.here [hexec, hdg, Op.checkcast.wp_cold (e := e) (s := T) (f := g) X.here.top hstack (resolveClass_links e.toSetting hcl₀) hcl₀.ready,
    Op.checkcast.wp_ready (e := e) (s := T.setVm (T.vm.noted g.method.cls index (.cls cT))) (f := g) X.here.top hcl₀.ready hstack]
  refine ⟨cell, hcell, hobj, ks', hks', kt', hkt', ?_⟩
  rw [if_neg (by rw [hW'.alike.assignable, hasg]; decide)]
  exact hrest
end CCF
section CCW
variable {p : Program} {l : Launch} {e : Env} {R : Room} {s : State} {mid : MethodId} {args : Array Value} {below : List Frame} {meth : Method} {c : Code} {H : Heap} {locs : List Loc} {cells slots : Nat} {Q : State → Prop} {cc : ByteArray} {pc : Nat} {ls : Array Slot} {rest : List Value} {D : va_G} {A : Nat → Prop} {x : Nat} {ar : Nat → Nat} {cs : Nat → ClassId} {Z : ZT} {B : BT} {Y : va_W} {ws : va_W} {nL : Nat} {hh : List (Nat × Nat × Nat × Nat)}
/-- the row: the receiver's class can't be cast; the note's text is known to be short -/
theorem xcc_no {C nm : String} {index a : Nat} (hx : p.tables.exec = Jvm.exec) (hb : c.code = cc) (hown : s.vm.findClass RX0 = some mid.cls) (hlink : (Cond.classLink RX0 index nm).before args s = true) (hn : va_Nc C nm s) (hm : modulesRight_1 s = true)
    (hr : ∃ cell : Cell, H[a]? = some cell ∧ cell.vm.isStatics = false ∧ s.vm.findClass C = some cell.cls) (hC : packageOf C = "" ∧ C.toList.length ≤ 20 ∧ dotted C = C ∧ (withoutBrackets C).length ≠ 1) (hN : packageOf nm = "" ∧ nm.toList.length ≤ 20 ∧ dotted nm = nm ∧ (withoutBrackets nm).length ≠ 1) (hd : decode cc pc = .ok (.checkcast index, 3))
    (kk : ∀ tx : String, (tx == notModelled) = false → (stringBytes (stringToUtf16 tx)).size ≤ 1000 → vx_Note p l e R s mid args below meth c H locs cells slots Q (F0 mid pc ls (.ref a :: rest)) "java/lang/ClassCastException" tx) : W p l e R s mid args below meth c H locs cells slots Q (F0 mid pc ls (.ref a :: rest)) := by
  intro T hT X
  obtain ⟨cell, h1, h2, h3⟩ := hr
  obtain ⟨c1, t1, n1, n2, n3⟩ := hn
  cases h3.symm.trans n1
  obtain ⟨ks, hks, e1, e2, e3⟩ := fc_spec h3
  obtain ⟨kt, hkt, f1, f2, f3⟩ := fc_spec n2
  obtain ⟨vm', ks', kt', X', hA, g1, g2, st⟩ := x_ccNo X hx hown hlink (by rw [hT]; exact h1) (fun k q => by rw [q] at h2; cases h2) hks n2 n3 (g := F0 mid pc ls (.ref a :: rest)) rfl rfl (by rw [hb]; exact hd)
  have hks2 := fc_spec (vm := vm') (name := C) (by rw [hA.findClass]; exact h3)
  have hkt2 := fc_spec (vm := vm') (name := nm) (by rw [hA.findClass]; exact n2)
  obtain ⟨k1, i1, i2, i3, i4⟩ := hks2
  obtain ⟨k2, j1, j2, j3, j4⟩ := hkt2
  cases i1.symm.trans g1
  cases j1.symm.trans g2
  have em : vm'.modules = s.vm.modules := by rw [hA.1]
  have op : ∀ k : Class, (withoutBrackets k.name).length ≠ 1 → vm'.findClass k.name ≠ none → k.ofPrimitives = false ∨ k.ofPrimitives = true := fun k _ _ => by cases k.ofPrimitives <;> simp
  have hs1 : ks'.shown = C := by unfold Class.shown; rw [i3, i2]; exact hC.2.2.1
  have hs2 : kt'.shown = nm := by unfold Class.shown; rw [j3, j2]; exact hN.2.2.1
  have prim : ∀ (nm' : String) (c' : ClassId) (k' : Class), vm'.findClass nm' = some c' → vm'.classes[c']? = some k' → (withoutBrackets nm').length ≠ 1 → k'.ofPrimitives = false := by
    intro nm' c' k' q1 q2 q3
    obtain ⟨hlt, hp, _⟩ := Array.findIdx?_eq_some_iff_getElem.mp q1
    rw [Array.getElem?_eq_getElem hlt] at q2
    cases q2
    simp only [Bool.and_eq_true, beq_iff_eq] at hp
    unfold Class.ofPrimitives
    have hp2 := hp.1.2
    have hp1 := hp.1.1.1
    cases hk : (vm'.classes[c']).kind with
    | primitive t => rw [hk] at hp2; cases hp2
    | array t ty =>
      simp only
      rw [hp1]
      exact beq_eq_false_iff_ne.mpr q3
    | ordinary => rfl
  have l1 := cc_home em hm i4 (by rw [i2]; exact hC.1) (prim C _ _ (by rw [hA.findClass]; exact h3) i1 hC.2.2.2)
  have l2 := cc_home em hm j4 (by rw [j2]; exact hN.1) (prim nm _ _ (by rw [hA.findClass]; exact n2) j1 hN.2.2.2)
  have et : Op.checkcast.message vm' ks' kt' = ccS C nm (vm'.sameModule ks' kt') (vm'.home ks') (vm'.home kt') := by
    unfold Op.checkcast.message Vm.homes ccS
    rw [hs1, hs2]
    apply String.toList_injective
    cases vm'.sameModule ks' kt' <;> simp [String.toList_append, toString]
  obtain ⟨t, a1, b1⟩ := kk _ ccS_mod (ccS_bytes (b := vm'.sameModule ks' kt') hC.2.1 hN.2.1 l1 l2) (T.setVm vm') hT X'
  refine ⟨t, st t ?_, b1⟩
  rw [et]
  exact a1
end CCW
/-- the start of a method with handlers -/
theorem gStartX_i {l : Launch} {y : MethodName} {cc : ByteArray} {maxL : Nat} {rm : Room} {av : List Value} {D : va_G} {cs : Nat → ClassId} {ws0 : va_W} {sz mc ms : Nat} {C : String} {S : Type} {wf : S → va_W} {hh : List (Nat × Nat × Nat × Nat)} {P : Int32 → S → Prop} {ret : FieldType} (hC : y.cls = C) (hp : plainName y.cls = true) (hlen : (lg_sl av).length ≤ maxL)
    (body : ∀ (p : Program) (e : Env) (s : State) (mid : MethodId) (args : Array Value) (below : List Frame) (meth : Method) (c : Code) (R : Room) (Q : State → Prop) (A : Nat → Prop), p.tables.exec = Jvm.exec → c.code = cc → c.maxLocals = maxL → s.vm.findClass C = some mid.cls → (∀ w ∈ lw_all, w.before args s = true) → KK D cs s → (∀ q : Nat, s.heap.size ≤ q → A q) → rm.frames ≤ R.frames → rm.locals ≤ R.locals → rm.cells ≤ R.cells → rm.slots ≤ R.slots → meth.locks = false → c.exceptionTable.toList = tableOf hh → KX A s s.heap →
      (∀ {H : Heap} {locs : List Loc} {cells slots pc : Nat} {ls : Array Slot} (v : Int32) (u : S), P v u → narrow ret (.int v) = .int v → EW D A s.heap (wf u) H locs → cells ≤ mc → slots ≤ ms → decode cc pc = .ok (.ireturn, 1) → W p l e R s mid args below meth c H locs cells slots Q (F0 mid pc ls [.int v])) →
      EW D A s.heap ws0 s.heap [] → ∀ ls : Array Slot, lv_has ls maxL (lv_args 0 av) → W p l e R s mid args below meth c s.heap [] 0 0 Q (F0 mid 0 ls [])) : Met l y (wsW_ y cc maxL (some ret) hh) rm (va_Pc av (wStX D cs ws0 sz)) (cQi P D wf ws0 sz) mc ms (va_A ws0 sz) := by
  refine va_MetW (cc := cc) (maxL := maxL) (ret := some ret) hp rfl ?_
  intro p e s m args below meth c s₁ B hml hv
  obtain ⟨rfl, ⟨hsz, hP, hK, hD0⟩, hX⟩ := hv
  have hts := atoms_spec (ws := wsW_ y cc maxL (some ret) hh) B.pre
  have htab := vx_table (x := y) B (hts _ List.mem_cons_self)
  have hts : ∀ w ∈ lw_all, w.before av.toArray s = true := fun w h => hts w (List.mem_cons_of_mem _ h)
  have hown : s.vm.findClass C = some m.cls := by rw [← hC]; exact findClass_of_methodNamed B.named
  have hl := lv_entry av (n := maxL) hlen
  have hlk := B.notSynchronized
  have hr := B.returns
  rw [lg_entry_eq]
  refine body p e s m _ below meth c rm _ (va_A ws0 sz) B.exec B.bytes hml hown hts hK (fun q h => Or.inr (by rw [← hsz]; exact h)) (Nat.le_refl _) (Nat.le_refl _) (Nat.le_refl _) (Nat.le_refl _) hlk htab hX ?_ (gEW hP hD0 hsz rfl) _ hl
  intro H locs cells slots pc ls v u hp2 hn hE h1 h2 hd
  refine W.widen h1 h2 ?_
  exact W.zret B.exec B.bytes hr hn (fun t ht hW => ⟨⟨v, u, rfl, hp2, by rw [ht]; exact hE.1, hE.2.1⟩, by exact hE.2.2.F ht⟩) hE.2.2.2.2 hd
section CNL
variable {p : Program} {l : Launch} {e : Env} {R : Room} {s : State} {mid : MethodId} {args : Array Value} {below : List Frame} {meth : Method} {c : Code} {H : Heap} {locs : List Loc} {cells slots : Nat} {Q : State → Prop} {cc : ByteArray} {pc : Nat} {ls : Array Slot} {rest : List Value} {D : va_G} {A : Nat → Prop} {x : Nat} {ar : Nat → Nat} {cs : Nat → ClassId} {Z : ZT} {B : BT} {Y : va_W} {ws : va_W} {nL : Nat} {hh : List (Nat × Nat × Nat × Nat)}
theorem xcast_null {index : Nat} (hx : p.tables.exec = Jvm.exec) (hb : c.code = cc) (hd : decode cc pc = .ok (.checkcast index, 3)) (k : W p l e R s mid args below meth c H locs cells slots Q (F0 mid (pc + 3) ls (.null :: rest))) : W p l e R s mid args below meth c H locs cells slots Q (F0 mid pc ls (.null :: rest)) := by
  intro T hT X
  obtain ⟨t, a1, b1⟩ := k T hT X
  exact ⟨t, X.checkcastNull hx (g := F0 mid pc ls (.null :: rest)) rfl rfl (by rw [hb]; exact hd) t a1, b1⟩
end CNL
