/-! the component: its statics, the beings of each kind -/
set_option maxRecDepth 100000
def x_isIn (p0 : Int32) (p1 : Int32) (p2 : Int32) : Int32 := (if p0 < p1 then (0 : Int32) else (if p2 < p0 then (0 : Int32) else (1 : Int32)))
theorem x_isIn_01 (a b c : Int32) : x_isIn a b c = 0 ∨ x_isIn a b c = 1 := by
  unfold x_isIn
  split <;> first | exact Or.inl rfl | exact Or.inr rfl | (split <;> first | exact Or.inl rfl | exact Or.inr rfl)
theorem x_isIn_eq (a b c : Int32) : x_isIn a b c = m_in a b c := rfl
set_option maxHeartbeats 4000000 in
set_option maxRecDepth 100000 in
theorem met_x_isIn (l : Launch) (D : va_G) (cs : Nat → ClassId) (sz : Nat) (p0 : Int32) (p1 : Int32) (p2 : Int32) : Met l yX0_isIn (ws_ yX0_isIn cX0_isIn 3 (some .boolean)) ({ frames := 0, cells := 0, slots := 0, locals := 0 }) (va_Pc [.int p0, .int p1, .int p2] (wSt D cs [] sz)) (cQi (fun (v : Int32) (_ : Unit) => x_isIn p0 p1 p2 = v) D (fun _ => []) [] sz) 0 0 (va_A [] sz) := by
  refine gStart_i (C := RX0) rfl rfl (Nat.le_of_ble_eq_true rfl) ?_
  intro p e s mid args below meth c R Q A hx hb hml hown hts hK hA hRf hRl hRc hRs hret hE ls hl
  have hRf : 0 ≤ R.frames := hRf
  have hRl : 0 ≤ R.locals := hRl
  have hl : lv_has ls 3 [(0, .int p0), (1, .int p1), (2, .int p2)] := hl
  have hR : x_isIn p0 p1 p2 = (if p0 < p1 then (0 : Int32) else (if p2 < p0 then (0 : Int32) else (1 : Int32))) := rfl
  refine lv_iload_n hx hb dX0_isIn_0 rfl (lv_at hl 0 rfl) ?_
  refine lv_iload_n hx hb dX0_isIn_1 rfl (lv_at hl 1 rfl) ?_
  refine lv_icmp_lt (tgt := 14) hx hb dX0_isIn_2 (by decide) (fun c2 => ?_) (fun c2 => ?_)
  · have hR : x_isIn p0 p1 p2 = (0 : Int32) := hR.trans (congrArg (fun z => z) (if_pos c2))
    refine lv_iconst (v := 0) hx hb dX0_isIn_14 rfl ?_
    exact hret (0 : Int32) () hR rfl hE (Nat.le_refl 0) (Nat.le_refl 0) dX0_isIn_15
  · have hR : x_isIn p0 p1 p2 = (if p2 < p0 then (0 : Int32) else (1 : Int32)) := hR.trans (congrArg (fun z => z) (if_neg c2))
    refine lv_iload_n hx hb dX0_isIn_5 rfl (lv_at hl 0 rfl) ?_
    refine lv_iload_n hx hb dX0_isIn_6 rfl (lv_at hl 2 rfl) ?_
    refine lv_icmp_gt (tgt := 14) hx hb dX0_isIn_7 (by decide) (fun c7 => ?_) (fun c7 => ?_)
    · have hR : x_isIn p0 p1 p2 = (0 : Int32) := hR.trans (congrArg (fun z => z) (if_pos c7))
      refine lv_iconst (v := 0) hx hb dX0_isIn_14 rfl ?_
      exact hret (0 : Int32) () hR rfl hE (Nat.le_refl 0) (Nat.le_refl 0) dX0_isIn_15
    · have hR : x_isIn p0 p1 p2 = (1 : Int32) := hR.trans (congrArg (fun z => z) (if_neg c7))
      refine lv_iconst (v := 1) hx hb dX0_isIn_10 rfl ?_
      refine lv_goto (tgt := 15) hx hb dX0_isIn_11 (by decide) ?_
      exact hret (1 : Int32) () hR rfl hE (Nat.le_refl 0) (Nat.le_refl 0) dX0_isIn_15
section C_x_isIn
variable {p : Program} {l : Launch} {e : Env} {R : Room} {s : State} {mid : MethodId} {args : Array Value} {below : List Frame} {meth : Method} {c : Code} {H : Heap} {locs : List Loc} {cells slots : Nat} {Q : State → Prop} {cc : ByteArray} {pc : Nat} {ls : Array Slot} {rest : List Value} {D : va_G} {A : Nat → Prop} {x : Nat} {ar : Nat → Nat} {cs : Nat → ClassId} {B : BT} {Y : va_W} {Z : ZT} {nL r : Nat}
theorem call_x_isIn (hx : p.tables.exec = Jvm.exec) (hb : c.code = cc) (hml : c.maxLocals = nL) (hown : s.vm.findClass RX0 = some mid.cls) (hts : ∀ w ∈ lw_all, w.before args s = true) (hK : KK D cs s) (hA : ∀ q : Nat, s.heap.size ≤ q → A q) {ws : va_W} (hE : EW D A s.heap ws H locs) (hls : ls.size = nL) (p0 : Int32) (p1 : Int32) (p2 : Int32) (h1 : 1 ≤ R.frames) (h2 : 22 ≤ R.locals) (h3 : (rest.map fun v => v.category).sum ≤ 8) (hd : decode cc pc = .ok (.invokestatic 76, 3)) (hf : cells ≤ R.cells ∧ slots ≤ R.slots) (kk : ∀ (H1 : Heap) (locs1 : List Loc), EW D A s.heap ws H1 locs1 → W p l e R s mid args below meth c H1 locs1 cells slots Q (F0 mid (pc + 3) ls (.int (x_isIn p0 p1 p2) :: rest))) : W p l e R s mid args below meth c H locs cells slots Q (F0 mid pc ls (.int p2 :: .int p1 :: .int p0 :: rest)) :=
  gCall_s (As := [.int p0, .int p1, .int p2]) (rest := rest) hx hb hml hown hts hK hA hE hls (met_x_isIn l D cs H.size p0 p1 p2) (va_cwS 3 hts (lw_S q298 q299 q84 q300) rfl rfl rfl (by decide +kernel) ⟨h1, h2⟩) rfl rfl h3 hd hf (fun v H1 locs1 hp hE => by subst hp; exact kk H1 locs1 hE)
end C_x_isIn
def x_isText (p0 : Int32) : Int32 := (x_isIn p0 (0 : Int32) (3 : Int32))
set_option maxHeartbeats 4000000 in
set_option maxRecDepth 100000 in
theorem met_x_isText (l : Launch) (D : va_G) (cs : Nat → ClassId) (sz : Nat) (p0 : Int32) : Met l yX0_isText (ws_ yX0_isText cX0_isText 1 (some .boolean)) ({ frames := 1, cells := 0, slots := 0, locals := 22 }) (va_Pc [.int p0] (wSt D cs [] sz)) (cQi (fun (v : Int32) (_ : Unit) => x_isText p0 = v) D (fun _ => []) [] sz) 0 0 (va_A [] sz) := by
  refine gStart_i (C := RX0) rfl rfl (Nat.le_of_ble_eq_true rfl) ?_
  intro p e s mid args below meth c R Q A hx hb hml hown hts hK hA hRf hRl hRc hRs hret hE ls hl
  have hRf : 1 ≤ R.frames := hRf
  have hRl : 22 ≤ R.locals := hRl
  have hl : lv_has ls 1 [(0, .int p0)] := hl
  have hR : x_isText p0 = (x_isIn p0 (0 : Int32) (3 : Int32)) := rfl
  refine lv_iload_n hx hb dX0_isText_0 rfl (lv_at hl 0 rfl) ?_
  refine lv_iconst (v := 0) hx hb dX0_isText_1 rfl ?_
  refine lv_iconst (v := 3) hx hb dX0_isText_2 rfl ?_
  refine call_x_isIn hx hb hml hown hts hK hA hE hl.1 p0 (0 : Int32) (3 : Int32) (lz (show 1 ≤ 1 by decide) hRf) (lz (show 22 ≤ 22 by decide) hRl) (Nat.le_of_ble_eq_true rfl) dX0_isText_3 ⟨Nat.zero_le _, Nat.zero_le _⟩ (fun H locs hE => ?_)
  exact hret (x_isIn p0 (0 : Int32) (3 : Int32)) () hR (nrw_bool (x_isIn_01 _ _ _)) hE (Nat.le_refl 0) (Nat.le_refl 0) dX0_isText_6
section C_x_isText
variable {p : Program} {l : Launch} {e : Env} {R : Room} {s : State} {mid : MethodId} {args : Array Value} {below : List Frame} {meth : Method} {c : Code} {H : Heap} {locs : List Loc} {cells slots : Nat} {Q : State → Prop} {cc : ByteArray} {pc : Nat} {ls : Array Slot} {rest : List Value} {D : va_G} {A : Nat → Prop} {x : Nat} {ar : Nat → Nat} {cs : Nat → ClassId} {B : BT} {Y : va_W} {Z : ZT} {nL r : Nat}
theorem call_x_isText (hx : p.tables.exec = Jvm.exec) (hb : c.code = cc) (hml : c.maxLocals = nL) (hown : s.vm.findClass RX0 = some mid.cls) (hts : ∀ w ∈ lw_all, w.before args s = true) (hK : KK D cs s) (hA : ∀ q : Nat, s.heap.size ≤ q → A q) {ws : va_W} (hE : EW D A s.heap ws H locs) (hls : ls.size = nL) (p0 : Int32) (h1 : 2 ≤ R.frames) (h2 : 42 ≤ R.locals) (h3 : (rest.map fun v => v.category).sum ≤ 8) (hd : decode cc pc = .ok (.invokestatic 80, 3)) (hf : cells ≤ R.cells ∧ slots ≤ R.slots) (kk : ∀ (H1 : Heap) (locs1 : List Loc), EW D A s.heap ws H1 locs1 → W p l e R s mid args below meth c H1 locs1 cells slots Q (F0 mid (pc + 3) ls (.int (x_isText p0) :: rest))) : W p l e R s mid args below meth c H locs cells slots Q (F0 mid pc ls (.int p0 :: rest)) :=
  gCall_s (As := [.int p0]) (rest := rest) hx hb hml hown hts hK hA hE hls (met_x_isText l D cs H.size p0) (va_cwS 1 hts (lw_S q295 q296 q84 q297) rfl rfl rfl (by decide +kernel) ⟨h1, h2⟩) rfl rfl h3 hd hf (fun v H1 locs1 hp hE => by subst hp; exact kk H1 locs1 hE)
end C_x_isText
def x_isBeing (p0 : Int32) : Int32 := (x_isIn p0 (0 : Int32) (7 : Int32))
set_option maxHeartbeats 4000000 in
set_option maxRecDepth 100000 in
theorem met_x_isBeing (l : Launch) (D : va_G) (cs : Nat → ClassId) (sz : Nat) (p0 : Int32) : Met l yX0_isBeing (ws_ yX0_isBeing cX0_isBeing 1 (some .boolean)) ({ frames := 1, cells := 0, slots := 0, locals := 22 }) (va_Pc [.int p0] (wSt D cs [] sz)) (cQi (fun (v : Int32) (_ : Unit) => x_isBeing p0 = v) D (fun _ => []) [] sz) 0 0 (va_A [] sz) := by
  refine gStart_i (C := RX0) rfl rfl (Nat.le_of_ble_eq_true rfl) ?_
  intro p e s mid args below meth c R Q A hx hb hml hown hts hK hA hRf hRl hRc hRs hret hE ls hl
  have hRf : 1 ≤ R.frames := hRf
  have hRl : 22 ≤ R.locals := hRl
  have hl : lv_has ls 1 [(0, .int p0)] := hl
  have hR : x_isBeing p0 = (x_isIn p0 (0 : Int32) (7 : Int32)) := rfl
  refine lv_iload_n hx hb dX0_isBeing_0 rfl (lv_at hl 0 rfl) ?_
  refine lv_iconst (v := 0) hx hb dX0_isBeing_1 rfl ?_
  refine lv_bipush (v := 7) hx hb dX0_isBeing_2 rfl ?_
  refine call_x_isIn hx hb hml hown hts hK hA hE hl.1 p0 (0 : Int32) (7 : Int32) (lz (show 1 ≤ 1 by decide) hRf) (lz (show 22 ≤ 22 by decide) hRl) (Nat.le_of_ble_eq_true rfl) dX0_isBeing_4 ⟨Nat.zero_le _, Nat.zero_le _⟩ (fun H locs hE => ?_)
  exact hret (x_isIn p0 (0 : Int32) (7 : Int32)) () hR (nrw_bool (by first | assumption | exact m_in_01 _ _ _)) hE (Nat.le_refl 0) (Nat.le_refl 0) dX0_isBeing_7
section C_x_isBeing
variable {p : Program} {l : Launch} {e : Env} {R : Room} {s : State} {mid : MethodId} {args : Array Value} {below : List Frame} {meth : Method} {c : Code} {H : Heap} {locs : List Loc} {cells slots : Nat} {Q : State → Prop} {cc : ByteArray} {pc : Nat} {ls : Array Slot} {rest : List Value} {D : va_G} {A : Nat → Prop} {x : Nat} {ar : Nat → Nat} {cs : Nat → ClassId} {B : BT} {Y : va_W} {Z : ZT} {nL r : Nat}
theorem call_x_isBeing (hx : p.tables.exec = Jvm.exec) (hb : c.code = cc) (hml : c.maxLocals = nL) (hown : s.vm.findClass RX0 = some mid.cls) (hts : ∀ w ∈ lw_all, w.before args s = true) (hK : KK D cs s) (hA : ∀ q : Nat, s.heap.size ≤ q → A q) {ws : va_W} (hE : EW D A s.heap ws H locs) (hls : ls.size = nL) (p0 : Int32) (h1 : 2 ≤ R.frames) (h2 : 42 ≤ R.locals) (h3 : (rest.map fun v => v.category).sum ≤ 8) (hd : decode cc pc = .ok (.invokestatic 192, 3)) (hf : cells ≤ R.cells ∧ slots ≤ R.slots) (kk : ∀ (H1 : Heap) (locs1 : List Loc), EW D A s.heap ws H1 locs1 → W p l e R s mid args below meth c H1 locs1 cells slots Q (F0 mid (pc + 3) ls (.int (x_isBeing p0) :: rest))) : W p l e R s mid args below meth c H locs cells slots Q (F0 mid pc ls (.int p0 :: rest)) :=
  gCall_s (As := [.int p0]) (rest := rest) hx hb hml hown hts hK hA hE hls (met_x_isBeing l D cs H.size p0) (va_cwS 1 hts (lw_S q539 q540 q84 q541) rfl rfl rfl (by decide +kernel) ⟨h1, h2⟩) rfl rfl h3 hd hf (fun v H1 locs1 hp hE => by subst hp; exact kk H1 locs1 hE)
end C_x_isBeing
def x_isMuch (p0 : Int32) : Int32 := (x_isIn p0 (0 : Int32) (100000 : Int32))
set_option maxHeartbeats 4000000 in
set_option maxRecDepth 100000 in
theorem met_x_isMuch (l : Launch) (D : va_G) (cs : Nat → ClassId) (sz : Nat) (p0 : Int32) : Met l yX0_isMuch (ws_ yX0_isMuch cX0_isMuch 1 (some .boolean)) ({ frames := 1, cells := 0, slots := 0, locals := 22 }) (va_Pc [.int p0] (wSt D cs [] sz)) (cQi (fun (v : Int32) (_ : Unit) => x_isMuch p0 = v) D (fun _ => []) [] sz) 0 0 (va_A [] sz) := by
  refine gStart_i (C := RX0) rfl rfl (Nat.le_of_ble_eq_true rfl) ?_
  intro p e s mid args below meth c R Q A hx hb hml hown hts hK hA hRf hRl hRc hRs hret hE ls hl
  have hRf : 1 ≤ R.frames := hRf
  have hRl : 22 ≤ R.locals := hRl
  have hl : lv_has ls 1 [(0, .int p0)] := hl
  have hR : x_isMuch p0 = (x_isIn p0 (0 : Int32) (100000 : Int32)) := rfl
  refine lv_iload_n hx hb dX0_isMuch_0 rfl (lv_at hl 0 rfl) ?_
  refine lv_iconst (v := 0) hx hb dX0_isMuch_1 rfl ?_
  refine lv_ldc (v := 100000) hx hb hown (hts _ q421) dX0_isMuch_2 ?_
  refine call_x_isIn hx hb hml hown hts hK hA hE hl.1 p0 (0 : Int32) (100000 : Int32) (lz (show 1 ≤ 1 by decide) hRf) (lz (show 22 ≤ 22 by decide) hRl) (Nat.le_of_ble_eq_true rfl) dX0_isMuch_4 ⟨Nat.zero_le _, Nat.zero_le _⟩ (fun H locs hE => ?_)
  exact hret (x_isIn p0 (0 : Int32) (100000 : Int32)) () hR (nrw_bool (x_isIn_01 _ _ _)) hE (Nat.le_refl 0) (Nat.le_refl 0) dX0_isMuch_7
section C_x_isMuch
variable {p : Program} {l : Launch} {e : Env} {R : Room} {s : State} {mid : MethodId} {args : Array Value} {below : List Frame} {meth : Method} {c : Code} {H : Heap} {locs : List Loc} {cells slots : Nat} {Q : State → Prop} {cc : ByteArray} {pc : Nat} {ls : Array Slot} {rest : List Value} {D : va_G} {A : Nat → Prop} {x : Nat} {ar : Nat → Nat} {cs : Nat → ClassId} {B : BT} {Y : va_W} {Z : ZT} {nL r : Nat}
theorem call_x_isMuch (hx : p.tables.exec = Jvm.exec) (hb : c.code = cc) (hml : c.maxLocals = nL) (hown : s.vm.findClass RX0 = some mid.cls) (hts : ∀ w ∈ lw_all, w.before args s = true) (hK : KK D cs s) (hA : ∀ q : Nat, s.heap.size ≤ q → A q) {ws : va_W} (hE : EW D A s.heap ws H locs) (hls : ls.size = nL) (p0 : Int32) (h1 : 2 ≤ R.frames) (h2 : 42 ≤ R.locals) (h3 : (rest.map fun v => v.category).sum ≤ 8) (hd : decode cc pc = .ok (.invokestatic 197, 3)) (hf : cells ≤ R.cells ∧ slots ≤ R.slots) (kk : ∀ (H1 : Heap) (locs1 : List Loc), EW D A s.heap ws H1 locs1 → W p l e R s mid args below meth c H1 locs1 cells slots Q (F0 mid (pc + 3) ls (.int (x_isMuch p0) :: rest))) : W p l e R s mid args below meth c H locs cells slots Q (F0 mid pc ls (.int p0 :: rest)) :=
  gCall_s (As := [.int p0]) (rest := rest) hx hb hml hown hts hK hA hE hls (met_x_isMuch l D cs H.size p0) (va_cwS 1 hts (lw_S q564 q565 q84 q566) rfl rfl rfl (by decide +kernel) ⟨h1, h2⟩) rfl rfl h3 hd hf (fun v H1 locs1 hp hE => by subst hp; exact kk H1 locs1 hE)
end C_x_isMuch
def x_pair (p0 : Nat) (p1 : Nat) : Int32 := nI ((8 * p0) + p1)
set_option maxHeartbeats 4000000 in
set_option maxRecDepth 100000 in
theorem met_x_pair (l : Launch) (D : va_G) (cs : Nat → ClassId) (sz : Nat) (p0 : Nat) (p1 : Nat) : Met l yX0_pair (ws_ yX0_pair cX0_pair 2 (some .int)) ({ frames := 0, cells := 0, slots := 0, locals := 0 }) (va_Pc [.int (nI p0), .int (nI p1)] (wSt D cs [] sz)) (cQi (fun (v : Int32) (_ : Unit) => x_pair p0 p1 = v) D (fun _ => []) [] sz) 0 0 (va_A [] sz) := by
  refine gStart_i (C := RX0) rfl rfl (Nat.le_of_ble_eq_true rfl) ?_
  intro p e s mid args below meth c R Q A hx hb hml hown hts hK hA hRf hRl hRc hRs hret hE ls hl
  have hRf : 0 ≤ R.frames := hRf
  have hRl : 0 ≤ R.locals := hRl
  have hl : lv_has ls 2 [(0, .int (nI p0)), (1, .int (nI p1))] := hl
  have hR : x_pair p0 p1 = (nI ((8 * p0) + p1)) := rfl
  refine lv_bipush (v := 8) hx hb dX0_pair_0 rfl ?_
  refine lv_iload_n hx hb dX0_pair_2 rfl (lv_at hl 0 rfl) ?_
  refine n_mul (a := 8) (b := p0) hx hb dX0_pair_3 ?_
  refine lv_iload_n hx hb dX0_pair_4 rfl (lv_at hl 1 rfl) ?_
  refine n_add (a := (8 * p0)) (b := p1) hx hb dX0_pair_5 ?_
  exact hret (nI ((8 * p0) + p1)) () hR rfl hE (Nat.le_refl 0) (Nat.le_refl 0) dX0_pair_6
section C_x_pair
variable {p : Program} {l : Launch} {e : Env} {R : Room} {s : State} {mid : MethodId} {args : Array Value} {below : List Frame} {meth : Method} {c : Code} {H : Heap} {locs : List Loc} {cells slots : Nat} {Q : State → Prop} {cc : ByteArray} {pc : Nat} {ls : Array Slot} {rest : List Value} {D : va_G} {A : Nat → Prop} {x : Nat} {ar : Nat → Nat} {cs : Nat → ClassId} {B : BT} {Y : va_W} {Z : ZT} {nL r : Nat}
theorem call_x_pair (hx : p.tables.exec = Jvm.exec) (hb : c.code = cc) (hml : c.maxLocals = nL) (hown : s.vm.findClass RX0 = some mid.cls) (hts : ∀ w ∈ lw_all, w.before args s = true) (hK : KK D cs s) (hA : ∀ q : Nat, s.heap.size ≤ q → A q) {ws : va_W} (hE : EW D A s.heap ws H locs) (hls : ls.size = nL) (p0 : Nat) (p1 : Nat) (h1 : 1 ≤ R.frames) (h2 : 21 ≤ R.locals) (h3 : (rest.map fun v => v.category).sum ≤ 8) (hd : decode cc pc = .ok (.invokestatic 181, 3)) (hf : cells ≤ R.cells ∧ slots ≤ R.slots) (kk : ∀ (H1 : Heap) (locs1 : List Loc), EW D A s.heap ws H1 locs1 → W p l e R s mid args below meth c H1 locs1 cells slots Q (F0 mid (pc + 3) ls (.int (x_pair p0 p1) :: rest))) : W p l e R s mid args below meth c H locs cells slots Q (F0 mid pc ls (.int (nI p1) :: .int (nI p0) :: rest)) :=
  gCall_s (As := [.int (nI p0), .int (nI p1)]) (rest := rest) hx hb hml hown hts hK hA hE hls (met_x_pair l D cs H.size p0 p1) (va_cwS 2 hts (lw_S q442 q443 q84 q444) rfl rfl rfl (by decide +kernel) ⟨h1, h2⟩) rfl rfl h3 hd hf (fun v H1 locs1 hp hE => by subst hp; exact kk H1 locs1 hE)
end C_x_pair
def b3_is (b : Nat) (p1 : Int32) (Z : ZT) : Int32 := (if p1 = 0 then (1 : Int32) else (0 : Int32))
set_option maxHeartbeats 4000000 in
set_option maxRecDepth 100000 in
theorem met_b3_is (l : Launch) (D : va_G) (cs : Nat → ClassId) (x : Nat) (ar : Nat → Nat) (B : BT) (Y : va_W) (Z : ZT) (sz : Nat) (b : Nat) (p1 : Int32) (hb8 : b < 8) (hnn : ¬ Z.1 30 b = 0) : Met l yX3_is (ws_ yX3_is cX3_is 2 (some .boolean)) ({ frames := 0, cells := 0, slots := 0, locals := 0 }) (va_Pc [.ref (B.1 b), .int p1] (wSt D cs (WX x ar cs Z B Y) sz)) (cQi (fun (v : Int32) (_ : Unit) => b3_is b p1 Z = v) D (fun _ => (WX x ar cs Z B Y)) (WX x ar cs Z B Y) sz) 0 0 (va_A (WX x ar cs Z B Y) sz) := by
  refine gStart_i (C := RX3) rfl rfl (Nat.le_of_ble_eq_true rfl) ?_
  intro p e s mid args below meth c R Q A hx hb hml hown hts hK hA hRf hRl hRc hRs hret hE ls hl
  have hRf : 0 ≤ R.frames := hRf
  have hRl : 0 ≤ R.locals := hRl
  have hl : lv_has ls 2 [(0, .ref (B.1 b)), (1, .int p1)] := hl
  have hR : b3_is b p1 Z = (if p1 = 0 then (1 : Int32) else (0 : Int32)) := rfl
  refine lv_iload_n hx hb dX3_is_0 rfl (lv_at hl 1 rfl) ?_
  refine lv_if_ne (tgt := 8) hx hb dX3_is_1 (by decide) (fun c1 => ?_) (fun c1 => ?_)
  · have hR : b3_is b p1 Z = (0 : Int32) := hR.trans (congrArg (fun z => z) (if_neg c1))
    refine lv_iconst (v := 0) hx hb dX3_is_8 rfl ?_
    exact hret (0 : Int32) () hR rfl hE (Nat.le_refl 0) (Nat.le_refl 0) dX3_is_9
  · have hR : b3_is b p1 Z = (1 : Int32) := hR.trans (congrArg (fun z => z) (if_pos c1))
    refine lv_iconst (v := 1) hx hb dX3_is_4 rfl ?_
    refine lv_goto (tgt := 9) hx hb dX3_is_5 (by decide) ?_
    exact hret (1 : Int32) () hR rfl hE (Nat.le_refl 0) (Nat.le_refl 0) dX3_is_9
section C_b3_is
variable {p : Program} {l : Launch} {e : Env} {R : Room} {s : State} {mid : MethodId} {args : Array Value} {below : List Frame} {meth : Method} {c : Code} {H : Heap} {locs : List Loc} {cells slots : Nat} {Q : State → Prop} {cc : ByteArray} {pc : Nat} {ls : Array Slot} {rest : List Value} {D : va_G} {A : Nat → Prop} {x : Nat} {ar : Nat → Nat} {cs : Nat → ClassId} {B : BT} {Y : va_W} {Z : ZT} {nL r : Nat}
theorem call4_b3_is (hx : p.tables.exec = Jvm.exec) (hb : c.code = cc) (hml : c.maxLocals = nL) (hown : s.vm.findClass RX4 = some mid.cls) (hts : ∀ w ∈ lw_all, w.before args s = true) (hK : KK D cs s) (hA : ∀ q : Nat, s.heap.size ≤ q → A q) (hE : EW D A s.heap (WX x ar cs Z B Y) H locs) (hls : ls.size = nL) (b : Nat) (p1 : Int32) (hb8 : b < 8) (hnn : ¬ Z.1 30 b = 0) (h1 : Z.1 31 b = 1)  (h5 : 1 ≤ R.frames) (h6 : 21 ≤ R.locals) (h3 : (rest.map fun v => v.category).sum ≤ 8) (hd : decode cc pc = .ok (.invokespecial 18, 3)) (hf : cells ≤ R.cells ∧ slots ≤ R.slots) (kk : ∀ (H1 : Heap) (locs1 : List Loc), EW D A s.heap (WX x ar cs Z B Y) H1 locs1 → W p l e R s mid args below meth c H1 locs1 cells slots Q (F0 mid (pc + 3) ls (.int (b3_is b p1 Z) :: rest))) : W p l e R s mid args below meth c H locs cells slots Q (F0 mid pc ls (.int p1 :: .ref (B.1 b) :: rest)) := by
  obtain ⟨k9, hk, -⟩ := be_at (x := x) (ar := ar) (cs := cs) (B := B) (Y := Y) hb8 hnn
  rw [beF_1 h1] at hk
  exact gCallSU_i (As := [.int p1]) (rest := rest) (q0 := k9) (ci := 4) (C' := RX4) (T' := TX4) (N' := 5) hx hb hml hown hts hK hA hE hls (met_b3_is l D cs x ar B Y Z H.size b p1 hb8 hnn) (va_cwSU 1 hts (lw_SU q534 q521 q483 q519 q96 q526) rfl rfl rfl (by decide +kernel) ⟨h5, h6⟩) hk rfl rfl rfl h3 hd hf (fun v u H1 locs1 hp _ hE => by subst hp; exact kk H1 locs1 hE)
theorem call5_b3_is (hx : p.tables.exec = Jvm.exec) (hb : c.code = cc) (hml : c.maxLocals = nL) (hown : s.vm.findClass RX5 = some mid.cls) (hts : ∀ w ∈ lw_all, w.before args s = true) (hK : KK D cs s) (hA : ∀ q : Nat, s.heap.size ≤ q → A q) (hE : EW D A s.heap (WX x ar cs Z B Y) H locs) (hls : ls.size = nL) (b : Nat) (p1 : Int32) (hb8 : b < 8) (hnn : ¬ Z.1 30 b = 0) (h0 : ¬ Z.1 31 b = 0) (h1 : ¬ Z.1 31 b = 1)  (h5 : 1 ≤ R.frames) (h6 : 21 ≤ R.locals) (h3 : (rest.map fun v => v.category).sum ≤ 8) (hd : decode cc pc = .ok (.invokespecial 18, 3)) (hf : cells ≤ R.cells ∧ slots ≤ R.slots) (kk : ∀ (H1 : Heap) (locs1 : List Loc), EW D A s.heap (WX x ar cs Z B Y) H1 locs1 → W p l e R s mid args below meth c H1 locs1 cells slots Q (F0 mid (pc + 3) ls (.int (b3_is b p1 Z) :: rest))) : W p l e R s mid args below meth c H locs cells slots Q (F0 mid pc ls (.int p1 :: .ref (B.1 b) :: rest)) := by
  obtain ⟨k9, hk, -⟩ := be_at (x := x) (ar := ar) (cs := cs) (B := B) (Y := Y) hb8 hnn
  by_cases h2 : Z.1 31 b = 2
  · rw [beF_2 h2] at hk
    exact gCallSU_i (As := [.int p1]) (rest := rest) (q0 := k9) (ci := 5) (C' := RX5) (T' := TX5) (N' := 5) hx hb hml hown hts hK hA hE hls (met_b3_is l D cs x ar B Y Z H.size b p1 hb8 hnn) (va_cwSU 1 hts (lw_SU q525 q521 q501 q519 q96 q526) rfl rfl rfl (by decide +kernel) ⟨h5, h6⟩) hk rfl rfl rfl h3 hd hf (fun v u H1 locs1 hp _ hE => by subst hp; exact kk H1 locs1 hE)
  · rw [beF_3 h0 h1 h2] at hk
    exact gCallSU_i (As := [.int p1]) (rest := rest) (q0 := k9) (ci := 6) (C' := RX6) (T' := TX6) (N' := 6) hx hb hml hown hts hK hA hE hls (met_b3_is l D cs x ar B Y Z H.size b p1 hb8 hnn) (va_cwSU 1 hts (lw_SU q525 q521 q501 q519 q96 q526) rfl rfl rfl (by decide +kernel) ⟨h5, h6⟩) hk rfl rfl rfl h3 hd hf (fun v u H1 locs1 hp _ hE => by subst hp; exact kk H1 locs1 hE)
end C_b3_is
def b3_kind (b : Nat) (Z : ZT) : Int32 := (0 : Int32)
set_option maxHeartbeats 4000000 in
set_option maxRecDepth 100000 in
theorem met_b3_kind (l : Launch) (D : va_G) (cs : Nat → ClassId) (x : Nat) (ar : Nat → Nat) (B : BT) (Y : va_W) (Z : ZT) (sz : Nat) (b : Nat) (hb8 : b < 8) (hnn : ¬ Z.1 30 b = 0) : Met l yX3_kind (ws_ yX3_kind cX3_kind 1 (some .int)) ({ frames := 0, cells := 0, slots := 0, locals := 0 }) (va_Pc [.ref (B.1 b)] (wSt D cs (WX x ar cs Z B Y) sz)) (cQi (fun (v : Int32) (_ : Unit) => b3_kind b Z = v) D (fun _ => (WX x ar cs Z B Y)) (WX x ar cs Z B Y) sz) 0 0 (va_A (WX x ar cs Z B Y) sz) := by
  refine gStart_i (C := RX3) rfl rfl (Nat.le_of_ble_eq_true rfl) ?_
  intro p e s mid args below meth c R Q A hx hb hml hown hts hK hA hRf hRl hRc hRs hret hE ls hl
  have hRf : 0 ≤ R.frames := hRf
  have hRl : 0 ≤ R.locals := hRl
  have hl : lv_has ls 1 [(0, .ref (B.1 b))] := hl
  have hR : b3_kind b Z = (0 : Int32) := rfl
  refine lv_iconst (v := 0) hx hb dX3_kind_0 rfl ?_
  exact hret (0 : Int32) () hR rfl hE (Nat.le_refl 0) (Nat.le_refl 0) dX3_kind_1
def b3_stockNow (b : Nat) (Z : ZT) : Int32 := Z.1 32 b
set_option maxHeartbeats 4000000 in
set_option maxRecDepth 100000 in
theorem met_b3_stockNow (l : Launch) (D : va_G) (cs : Nat → ClassId) (x : Nat) (ar : Nat → Nat) (B : BT) (Y : va_W) (Z : ZT) (sz : Nat) (b : Nat) (hb8 : b < 8) (hnn : ¬ Z.1 30 b = 0) : Met l yX3_stockNow (ws_ yX3_stockNow cX3_stockNow 1 (some .int)) ({ frames := 0, cells := 0, slots := 0, locals := 0 }) (va_Pc [.ref (B.1 b)] (wSt D cs (WX x ar cs Z B Y) sz)) (cQi (fun (v : Int32) (_ : Unit) => b3_stockNow b Z = v) D (fun _ => (WX x ar cs Z B Y)) (WX x ar cs Z B Y) sz) 0 0 (va_A (WX x ar cs Z B Y) sz) := by
  refine gStart_i (C := RX3) rfl rfl (Nat.le_of_ble_eq_true rfl) ?_
  intro p e s mid args below meth c R Q A hx hb hml hown hts hK hA hRf hRl hRc hRs hret hE ls hl
  have hRf : 0 ≤ R.frames := hRf
  have hRl : 0 ≤ R.locals := hRl
  have hl : lv_has ls 1 [(0, .ref (B.1 b))] := hl
  have hR : b3_stockNow b Z = (Z.1 32 b) := rfl
  refine lv_aload_n hx hb dX3_stockNow_0 rfl (lv_at hl 0 rfl) ?_
  refine xog_32 (b := b) hb8 hnn hx hb hts hown hK hE dX3_stockNow_1 ?_
  exact hret (Z.1 32 b) () hR rfl hE (Nat.le_refl 0) (Nat.le_refl 0) dX3_stockNow_4
section C_b3_stockNow
variable {p : Program} {l : Launch} {e : Env} {R : Room} {s : State} {mid : MethodId} {args : Array Value} {below : List Frame} {meth : Method} {c : Code} {H : Heap} {locs : List Loc} {cells slots : Nat} {Q : State → Prop} {cc : ByteArray} {pc : Nat} {ls : Array Slot} {rest : List Value} {D : va_G} {A : Nat → Prop} {x : Nat} {ar : Nat → Nat} {cs : Nat → ClassId} {B : BT} {Y : va_W} {Z : ZT} {nL r : Nat}
theorem call4_b3_stockNow (hx : p.tables.exec = Jvm.exec) (hb : c.code = cc) (hml : c.maxLocals = nL) (hown : s.vm.findClass RX4 = some mid.cls) (hts : ∀ w ∈ lw_all, w.before args s = true) (hK : KK D cs s) (hA : ∀ q : Nat, s.heap.size ≤ q → A q) (hE : EW D A s.heap (WX x ar cs Z B Y) H locs) (hls : ls.size = nL) (b : Nat) (hb8 : b < 8) (hnn : ¬ Z.1 30 b = 0) (h1 : Z.1 31 b = 1)  (h5 : 1 ≤ R.frames) (h6 : 20 ≤ R.locals) (h3 : (rest.map fun v => v.category).sum ≤ 8) (hd : decode cc pc = .ok (.invokevirtual 26, 3)) (hf : cells ≤ R.cells ∧ slots ≤ R.slots) (kk : ∀ (H1 : Heap) (locs1 : List Loc), EW D A s.heap (WX x ar cs Z B Y) H1 locs1 → W p l e R s mid args below meth c H1 locs1 cells slots Q (F0 mid (pc + 3) ls (.int (b3_stockNow b Z) :: rest))) : W p l e R s mid args below meth c H locs cells slots Q (F0 mid pc ls (.ref (B.1 b) :: rest)) := by
  obtain ⟨k9, hk, -⟩ := be_at (x := x) (ar := ar) (cs := cs) (B := B) (Y := Y) hb8 hnn
  rw [beF_1 h1] at hk
  exact gCallU_i (As := []) (rest := rest) (q0 := k9) (ci := 4) (C' := RX4) (T' := TX4) (N' := 5) hx hb hml hown hts hK hA hE hls (met_b3_stockNow l D cs x ar B Y Z H.size b hb8 hnn) (va_cwU (C := RX4) (owner := RX3) (x := ⟨"EaterWebs$Plant", "stockNow", "()I"⟩) 0 hts (lw_U q697 q698 q699 q676 q96 q677) rfl rfl rfl rfl (by decide +kernel) ⟨h5, h6⟩) hk rfl rfl rfl h3 hd hf (fun v u H1 locs1 hp _ hE => by subst hp; exact kk H1 locs1 hE)
theorem call5_b3_stockNow (hx : p.tables.exec = Jvm.exec) (hb : c.code = cc) (hml : c.maxLocals = nL) (hown : s.vm.findClass RX5 = some mid.cls) (hts : ∀ w ∈ lw_all, w.before args s = true) (hK : KK D cs s) (hA : ∀ q : Nat, s.heap.size ≤ q → A q) (hE : EW D A s.heap (WX x ar cs Z B Y) H locs) (hls : ls.size = nL) (b : Nat) (hb8 : b < 8) (hnn : ¬ Z.1 30 b = 0) (h0 : ¬ Z.1 31 b = 0) (h1 : ¬ Z.1 31 b = 1)  (h5 : 1 ≤ R.frames) (h6 : 20 ≤ R.locals) (h3 : (rest.map fun v => v.category).sum ≤ 8) (hd : decode cc pc = .ok (.invokevirtual 22, 3)) (hf : cells ≤ R.cells ∧ slots ≤ R.slots) (kk : ∀ (H1 : Heap) (locs1 : List Loc), EW D A s.heap (WX x ar cs Z B Y) H1 locs1 → W p l e R s mid args below meth c H1 locs1 cells slots Q (F0 mid (pc + 3) ls (.int (b3_stockNow b Z) :: rest))) : W p l e R s mid args below meth c H locs cells slots Q (F0 mid pc ls (.ref (B.1 b) :: rest)) := by
  obtain ⟨k9, hk, -⟩ := be_at (x := x) (ar := ar) (cs := cs) (B := B) (Y := Y) hb8 hnn
  by_cases h2 : Z.1 31 b = 2
  · rw [beF_2 h2] at hk
    exact gCallU_i (As := []) (rest := rest) (q0 := k9) (ci := 5) (C' := RX5) (T' := TX5) (N' := 5) hx hb hml hown hts hK hA hE hls (met_b3_stockNow l D cs x ar B Y Z H.size b hb8 hnn) (va_cwU (C := RX5) (owner := RX3) (x := ⟨"EaterWebs$Eater", "stockNow", "()I"⟩) 0 hts (lw_U q671 q672 q674 q676 q96 q677) rfl rfl rfl rfl (by decide +kernel) ⟨h5, h6⟩) hk rfl rfl rfl h3 hd hf (fun v u H1 locs1 hp _ hE => by subst hp; exact kk H1 locs1 hE)
  · rw [beF_3 h0 h1 h2] at hk
    exact gCallU_i (As := []) (rest := rest) (q0 := k9) (ci := 6) (C' := RX6) (T' := TX6) (N' := 6) hx hb hml hown hts hK hA hE hls (met_b3_stockNow l D cs x ar B Y Z H.size b hb8 hnn) (va_cwU (C := RX6) (owner := RX3) (x := ⟨"EaterWebs$Eater", "stockNow", "()I"⟩) 0 hts (lw_U q671 q672 q675 q676 q96 q677) rfl rfl rfl rfl (by decide +kernel) ⟨h5, h6⟩) hk rfl rfl rfl h3 hd hf (fun v u H1 locs1 hp _ hE => by subst hp; exact kk H1 locs1 hE)
end C_b3_stockNow
def b3_spills (b : Nat) (p1 : Int64) (Z : ZT) : Int64 := (0 : Int64)
set_option maxHeartbeats 4000000 in
set_option maxRecDepth 100000 in
theorem met_b3_spills (l : Launch) (D : va_G) (cs : Nat → ClassId) (x : Nat) (ar : Nat → Nat) (B : BT) (Y : va_W) (Z : ZT) (sz : Nat) (b : Nat) (p1 : Int64) (hb8 : b < 8) (hnn : ¬ Z.1 30 b = 0) : Met l yX3_spills (ws_ yX3_spills cX3_spills 3 (some .long)) ({ frames := 0, cells := 0, slots := 0, locals := 0 }) (va_Pc [.ref (B.1 b), .long p1] (wSt D cs (WX x ar cs Z B Y) sz)) (cQl (fun (v : Int64) (_ : Unit) => b3_spills b p1 Z = v) D (fun _ => (WX x ar cs Z B Y)) (WX x ar cs Z B Y) sz) 0 0 (va_A (WX x ar cs Z B Y) sz) := by
  refine gStart_l (C := RX3) rfl rfl (Nat.le_of_ble_eq_true rfl) ?_
  intro p e s mid args below meth c R Q A hx hb hml hown hts hK hA hRf hRl hRc hRs hret hE ls hl
  have hRf : 0 ≤ R.frames := hRf
  have hRl : 0 ≤ R.locals := hRl
  have hl : lv_has ls 3 [(0, .ref (B.1 b)), (1, .long p1)] := hl
  have hR : b3_spills b p1 Z = (0 : Int64) := rfl
  refine lv_lconst (v := 0) hx hb dX3_spills_0 rfl ?_
  exact hret (0 : Int64) () hR hE (Nat.le_refl 0) (Nat.le_refl 0) dX3_spills_1
def b3_grows (b : Nat) (p1 : Int64) (Z : ZT) : Int64 := (0 : Int64)
set_option maxHeartbeats 4000000 in
set_option maxRecDepth 100000 in
theorem met_b3_grows (l : Launch) (D : va_G) (cs : Nat → ClassId) (x : Nat) (ar : Nat → Nat) (B : BT) (Y : va_W) (Z : ZT) (sz : Nat) (b : Nat) (p1 : Int64) (hb8 : b < 8) (hnn : ¬ Z.1 30 b = 0) : Met l yX3_grows (ws_ yX3_grows cX3_grows 3 (some .long)) ({ frames := 0, cells := 0, slots := 0, locals := 0 }) (va_Pc [.ref (B.1 b), .long p1] (wSt D cs (WX x ar cs Z B Y) sz)) (cQl (fun (v : Int64) (_ : Unit) => b3_grows b p1 Z = v) D (fun _ => (WX x ar cs Z B Y)) (WX x ar cs Z B Y) sz) 0 0 (va_A (WX x ar cs Z B Y) sz) := by
  refine gStart_l (C := RX3) rfl rfl (Nat.le_of_ble_eq_true rfl) ?_
  intro p e s mid args below meth c R Q A hx hb hml hown hts hK hA hRf hRl hRc hRs hret hE ls hl
  have hRf : 0 ≤ R.frames := hRf
  have hRl : 0 ≤ R.locals := hRl
  have hl : lv_has ls 3 [(0, .ref (B.1 b)), (1, .long p1)] := hl
  have hR : b3_grows b p1 Z = (0 : Int64) := rfl
  refine lv_lconst (v := 0) hx hb dX3_grows_0 rfl ?_
  exact hret (0 : Int64) () hR hE (Nat.le_refl 0) (Nat.le_refl 0) dX3_grows_1
section C_b3_grows
variable {p : Program} {l : Launch} {e : Env} {R : Room} {s : State} {mid : MethodId} {args : Array Value} {below : List Frame} {meth : Method} {c : Code} {H : Heap} {locs : List Loc} {cells slots : Nat} {Q : State → Prop} {cc : ByteArray} {pc : Nat} {ls : Array Slot} {rest : List Value} {D : va_G} {A : Nat → Prop} {x : Nat} {ar : Nat → Nat} {cs : Nat → ClassId} {B : BT} {Y : va_W} {Z : ZT} {nL r : Nat}
theorem call4_b3_grows (hx : p.tables.exec = Jvm.exec) (hb : c.code = cc) (hml : c.maxLocals = nL) (hown : s.vm.findClass RX4 = some mid.cls) (hts : ∀ w ∈ lw_all, w.before args s = true) (hK : KK D cs s) (hA : ∀ q : Nat, s.heap.size ≤ q → A q) (hE : EW D A s.heap (WX x ar cs Z B Y) H locs) (hls : ls.size = nL) (b : Nat) (p1 : Int64) (hb8 : b < 8) (hnn : ¬ Z.1 30 b = 0) (h1 : Z.1 31 b = 1)  (h5 : 1 ≤ R.frames) (h6 : 22 ≤ R.locals) (h3 : (rest.map fun v => v.category).sum ≤ 8) (hd : decode cc pc = .ok (.invokespecial 22, 3)) (hf : cells ≤ R.cells ∧ slots ≤ R.slots) (kk : ∀ (H1 : Heap) (locs1 : List Loc), EW D A s.heap (WX x ar cs Z B Y) H1 locs1 → W p l e R s mid args below meth c H1 locs1 cells slots Q (F0 mid (pc + 3) ls (.long (b3_grows b p1 Z) :: rest))) : W p l e R s mid args below meth c H locs cells slots Q (F0 mid pc ls (.long p1 :: .ref (B.1 b) :: rest)) := by
  obtain ⟨k9, hk, -⟩ := be_at (x := x) (ar := ar) (cs := cs) (B := B) (Y := Y) hb8 hnn
  rw [beF_1 h1] at hk
  exact gCallSU_l (As := [.long p1]) (rest := rest) (q0 := k9) (ci := 4) (C' := RX4) (T' := TX4) (N' := 5) hx hb hml hown hts hK hA hE hls (met_b3_grows l D cs x ar B Y Z H.size b p1 hb8 hnn) (va_cwSU 1 hts (lw_SU q696 q686 q483 q684 q96 q691) rfl rfl rfl (by decide +kernel) ⟨h5, h6⟩) hk rfl rfl rfl h3 hd hf (fun v u H1 locs1 hp _ hE => by subst hp; exact kk H1 locs1 hE)
theorem call5_b3_grows (hx : p.tables.exec = Jvm.exec) (hb : c.code = cc) (hml : c.maxLocals = nL) (hown : s.vm.findClass RX5 = some mid.cls) (hts : ∀ w ∈ lw_all, w.before args s = true) (hK : KK D cs s) (hA : ∀ q : Nat, s.heap.size ≤ q → A q) (hE : EW D A s.heap (WX x ar cs Z B Y) H locs) (hls : ls.size = nL) (b : Nat) (p1 : Int64) (hb8 : b < 8) (hnn : ¬ Z.1 30 b = 0) (h0 : ¬ Z.1 31 b = 0) (h1 : ¬ Z.1 31 b = 1)  (h5 : 1 ≤ R.frames) (h6 : 22 ≤ R.locals) (h3 : (rest.map fun v => v.category).sum ≤ 8) (hd : decode cc pc = .ok (.invokespecial 30, 3)) (hf : cells ≤ R.cells ∧ slots ≤ R.slots) (kk : ∀ (H1 : Heap) (locs1 : List Loc), EW D A s.heap (WX x ar cs Z B Y) H1 locs1 → W p l e R s mid args below meth c H1 locs1 cells slots Q (F0 mid (pc + 3) ls (.long (b3_grows b p1 Z) :: rest))) : W p l e R s mid args below meth c H locs cells slots Q (F0 mid pc ls (.long p1 :: .ref (B.1 b) :: rest)) := by
  obtain ⟨k9, hk, -⟩ := be_at (x := x) (ar := ar) (cs := cs) (B := B) (Y := Y) hb8 hnn
  by_cases h2 : Z.1 31 b = 2
  · rw [beF_2 h2] at hk
    exact gCallSU_l (As := [.long p1]) (rest := rest) (q0 := k9) (ci := 5) (C' := RX5) (T' := TX5) (N' := 5) hx hb hml hown hts hK hA hE hls (met_b3_grows l D cs x ar B Y Z H.size b p1 hb8 hnn) (va_cwSU 1 hts (lw_SU q690 q686 q501 q684 q96 q691) rfl rfl rfl (by decide +kernel) ⟨h5, h6⟩) hk rfl rfl rfl h3 hd hf (fun v u H1 locs1 hp _ hE => by subst hp; exact kk H1 locs1 hE)
  · rw [beF_3 h0 h1 h2] at hk
    exact gCallSU_l (As := [.long p1]) (rest := rest) (q0 := k9) (ci := 6) (C' := RX6) (T' := TX6) (N' := 6) hx hb hml hown hts hK hA hE hls (met_b3_grows l D cs x ar B Y Z H.size b p1 hb8 hnn) (va_cwSU 1 hts (lw_SU q690 q686 q501 q684 q96 q691) rfl rfl rfl (by decide +kernel) ⟨h5, h6⟩) hk rfl rfl rfl h3 hd hf (fun v u H1 locs1 hp _ hE => by subst hp; exact kk H1 locs1 hE)
end C_b3_grows
def b4_is_k13 : Int32 := (1 : Int32)
def b4_is (b : Nat) (p1 : Int32) (Z : ZT) : Int32 := (if p1 = (1 : Int32) then b4_is_k13 else (if (b3_is b p1 Z) = 0 then (0 : Int32) else b4_is_k13))
set_option maxHeartbeats 4000000 in
set_option maxRecDepth 100000 in
theorem met_b4_is (l : Launch) (D : va_G) (cs : Nat → ClassId) (x : Nat) (ar : Nat → Nat) (B : BT) (Y : va_W) (Z : ZT) (sz : Nat) (b : Nat) (p1 : Int32) (hb8 : b < 8) (hnn : ¬ Z.1 30 b = 0) (h1 : Z.1 31 b = 1) : Met l yX4_is (ws_ yX4_is cX4_is 2 (some .boolean)) ({ frames := 1, cells := 0, slots := 0, locals := 21 }) (va_Pc [.ref (B.1 b), .int p1] (wSt D cs (WX x ar cs Z B Y) sz)) (cQi (fun (v : Int32) (_ : Unit) => b4_is b p1 Z = v) D (fun _ => (WX x ar cs Z B Y)) (WX x ar cs Z B Y) sz) 0 0 (va_A (WX x ar cs Z B Y) sz) := by
  refine gStart_i (C := RX4) rfl rfl (Nat.le_of_ble_eq_true rfl) ?_
  intro p e s mid args below meth c R Q A hx hb hml hown hts hK hA hRf hRl hRc hRs hret hE ls hl
  have hRf : 1 ≤ R.frames := hRf
  have hRl : 21 ≤ R.locals := hRl
  have hl : lv_has ls 2 [(0, .ref (B.1 b)), (1, .int p1)] := hl
  have hR : b4_is b p1 Z = (if p1 = (1 : Int32) then b4_is_k13 else (if (b3_is b p1 Z) = 0 then (0 : Int32) else b4_is_k13)) := rfl
  refine lv_iload_n hx hb dX4_is_0 rfl (lv_at hl 1 rfl) ?_
  refine lv_iconst (v := 1) hx hb dX4_is_1 rfl ?_
  have hJ13 : ∀ (hR : b4_is b p1 Z = b4_is_k13), ∀ (H : Heap) (locs : List Loc) (ls : Array Slot), EW D A s.heap (WX x ar cs Z B Y) H locs → lv_has ls 2 [] → W p l e R s mid args below meth c H locs 0 0 Q (F0 mid 13 ls []) := by
    intro hR H locs ls hE hl
    have hR : b4_is b p1 Z = (1 : Int32) := hR
    refine lv_iconst (v := 1) hx hb dX4_is_13 rfl ?_
    refine lv_goto (tgt := 18) hx hb dX4_is_14 (by decide) ?_
    exact hret (1 : Int32) () hR rfl hE (Nat.le_refl 0) (Nat.le_refl 0) dX4_is_18
  refine lv_icmp_eq (tgt := 13) hx hb dX4_is_2 (by decide) (fun c2 => ?_) (fun c2 => ?_)
  · have hR : b4_is b p1 Z = b4_is_k13 := hR.trans (congrArg (fun z => z) (if_pos c2))
    exact hJ13  hR _ _ _ hE (lv_sub hl [] rfl)
  · have hR : b4_is b p1 Z = (if (b3_is b p1 Z) = 0 then (0 : Int32) else b4_is_k13) := hR.trans (congrArg (fun z => z) (if_neg c2))
    refine lv_aload_n hx hb dX4_is_5 rfl (lv_at hl 0 rfl) ?_
    refine lv_iload_n hx hb dX4_is_6 rfl (lv_at hl 1 rfl) ?_
    refine call4_b3_is hx hb hml hown hts hK hA hE hl.1 b p1 hb8 hnn h1 (lz (show 1 ≤ 1 by decide) hRf) (lz (show 21 ≤ 21 by decide) hRl) (Nat.le_of_ble_eq_true rfl) dX4_is_7 ⟨Nat.zero_le _, Nat.zero_le _⟩ (fun H locs hE => ?_)
    refine lv_if_eq (tgt := 17) hx hb dX4_is_10 (by decide) (fun c10 => ?_) (fun c10 => ?_)
    · have hR : b4_is b p1 Z = (0 : Int32) := hR.trans (congrArg (fun z => z) (if_pos c10))
      refine lv_iconst (v := 0) hx hb dX4_is_17 rfl ?_
      exact hret (0 : Int32) () hR rfl hE (Nat.le_refl 0) (Nat.le_refl 0) dX4_is_18
    · have hR : b4_is b p1 Z = b4_is_k13 := hR.trans (congrArg (fun z => z) (if_neg c10))
      exact hJ13  hR _ _ _ hE (lv_sub hl [] rfl)
def b4_kind (b : Nat) (Z : ZT) : Int32 := (1 : Int32)
set_option maxHeartbeats 4000000 in
set_option maxRecDepth 100000 in
theorem met_b4_kind (l : Launch) (D : va_G) (cs : Nat → ClassId) (x : Nat) (ar : Nat → Nat) (B : BT) (Y : va_W) (Z : ZT) (sz : Nat) (b : Nat) (hb8 : b < 8) (hnn : ¬ Z.1 30 b = 0) (h1 : Z.1 31 b = 1) : Met l yX4_kind (ws_ yX4_kind cX4_kind 1 (some .int)) ({ frames := 0, cells := 0, slots := 0, locals := 0 }) (va_Pc [.ref (B.1 b)] (wSt D cs (WX x ar cs Z B Y) sz)) (cQi (fun (v : Int32) (_ : Unit) => b4_kind b Z = v) D (fun _ => (WX x ar cs Z B Y)) (WX x ar cs Z B Y) sz) 0 0 (va_A (WX x ar cs Z B Y) sz) := by
  refine gStart_i (C := RX4) rfl rfl (Nat.le_of_ble_eq_true rfl) ?_
  intro p e s mid args below meth c R Q A hx hb hml hown hts hK hA hRf hRl hRc hRs hret hE ls hl
  have hRf : 0 ≤ R.frames := hRf
  have hRl : 0 ≤ R.locals := hRl
  have hl : lv_has ls 1 [(0, .ref (B.1 b))] := hl
  have hR : b4_kind b Z = (1 : Int32) := rfl
  refine lv_iconst (v := 1) hx hb dX4_kind_0 rfl ?_
  exact hret (1 : Int32) () hR rfl hE (Nat.le_refl 0) (Nat.le_refl 0) dX4_kind_1
def b4_grows (b : Nat) (p1 : Int64) (Z : ZT) : Int64 := ((b3_grows b p1 Z) + (((((Z.1 35 b).toInt64) * ((b3_stockNow b Z).toInt64)) * (((Z.1 36 b) - (b3_stockNow b Z)).toInt64)) / ((1000 : Int64) * ((Z.1 36 b).toInt64))))
set_option maxHeartbeats 4000000 in
set_option maxRecDepth 100000 in
theorem met_b4_grows (l : Launch) (D : va_G) (cs : Nat → ClassId) (x : Nat) (ar : Nat → Nat) (B : BT) (Y : va_W) (Z : ZT) (sz : Nat) (b : Nat) (p1 : Int64) (hb8 : b < 8) (hnn : ¬ Z.1 30 b = 0) (h1 : Z.1 31 b = 1) (hcap : ¬ (1000 : Int64) * (Z.1 36 b).toInt64 = 0) : Met l yX4_grows (ws_ yX4_grows cX4_grows 3 (some .long)) ({ frames := 1, cells := 0, slots := 0, locals := 22 }) (va_Pc [.ref (B.1 b), .long p1] (wSt D cs (WX x ar cs Z B Y) sz)) (cQl (fun (v : Int64) (_ : Unit) => b4_grows b p1 Z = v) D (fun _ => (WX x ar cs Z B Y)) (WX x ar cs Z B Y) sz) 0 0 (va_A (WX x ar cs Z B Y) sz) := by
  refine gStart_l (C := RX4) rfl rfl (Nat.le_of_ble_eq_true rfl) ?_
  intro p e s mid args below meth c R Q A hx hb hml hown hts hK hA hRf hRl hRc hRs hret hE ls hl
  have hRf : 1 ≤ R.frames := hRf
  have hRl : 22 ≤ R.locals := hRl
  have hl : lv_has ls 3 [(0, .ref (B.1 b)), (1, .long p1)] := hl
  have hR : b4_grows b p1 Z = ((b3_grows b p1 Z) + (((((Z.1 35 b).toInt64) * ((b3_stockNow b Z).toInt64)) * (((Z.1 36 b) - (b3_stockNow b Z)).toInt64)) / ((1000 : Int64) * ((Z.1 36 b).toInt64)))) := rfl
  refine lv_aload_n hx hb dX4_grows_0 rfl (lv_at hl 0 rfl) ?_
  refine lv_lload_n hx hb dX4_grows_1 rfl (lv_at hl 1 rfl) ?_
  refine call4_b3_grows hx hb hml hown hts hK hA hE hl.1 b p1 hb8 hnn h1 (lz (show 1 ≤ 1 by decide) hRf) (lz (show 22 ≤ 22 by decide) hRl) (Nat.le_of_ble_eq_true rfl) dX4_grows_2 ⟨Nat.zero_le _, Nat.zero_le _⟩ (fun H locs hE => ?_)
  refine lv_aload_n hx hb dX4_grows_5 rfl (lv_at hl 0 rfl) ?_
  refine xog_35 (b := b) hb8 hnn h1 hx hb hts hown hK hE dX4_grows_6 ?_
  refine lv_i2l hx hb dX4_grows_9 rfl ?_
  refine lv_aload_n hx hb dX4_grows_10 rfl (lv_at hl 0 rfl) ?_
  refine call4_b3_stockNow hx hb hml hown hts hK hA hE hl.1 b hb8 hnn h1 (lz (show 1 ≤ 1 by decide) hRf) (lz (show 20 ≤ 22 by decide) hRl) (Nat.le_of_ble_eq_true rfl) dX4_grows_11 ⟨Nat.zero_le _, Nat.zero_le _⟩ (fun H locs hE => ?_)
  refine lv_i2l hx hb dX4_grows_14 rfl ?_
  refine lv_lmul hx hb dX4_grows_15 ?_
  refine lv_aload_n hx hb dX4_grows_16 rfl (lv_at hl 0 rfl) ?_
  refine xog_36 (b := b) hb8 hnn h1 hx hb hts hown hK hE dX4_grows_17 ?_
  refine lv_aload_n hx hb dX4_grows_20 rfl (lv_at hl 0 rfl) ?_
  refine call4_b3_stockNow hx hb hml hown hts hK hA hE hl.1 b hb8 hnn h1 (lz (show 1 ≤ 1 by decide) hRf) (lz (show 20 ≤ 22 by decide) hRl) (Nat.le_of_ble_eq_true rfl) dX4_grows_21 ⟨Nat.zero_le _, Nat.zero_le _⟩ (fun H locs hE => ?_)
  refine lv_isub hx hb dX4_grows_24 ?_
  refine lv_i2l hx hb dX4_grows_25 rfl ?_
  refine lv_lmul hx hb dX4_grows_26 ?_
  refine lv_ldc2 (v := 1000) hx hb hown (hts _ q700) dX4_grows_27 ?_
  refine lv_aload_n hx hb dX4_grows_30 rfl (lv_at hl 0 rfl) ?_
  refine xog_36 (b := b) hb8 hnn h1 hx hb hts hown hK hE dX4_grows_31 ?_
  refine lv_i2l hx hb dX4_grows_34 rfl ?_
  refine lv_lmul hx hb dX4_grows_35 ?_
  refine lv_ldiv hx hb dX4_grows_36 (hcap) ?_
  refine lv_ladd hx hb dX4_grows_37 ?_
  exact hret ((b3_grows b p1 Z) + (((((Z.1 35 b).toInt64) * ((b3_stockNow b Z).toInt64)) * (((Z.1 36 b) - (b3_stockNow b Z)).toInt64)) / ((1000 : Int64) * ((Z.1 36 b).toInt64)))) () hR hE (Nat.le_refl 0) (Nat.le_refl 0) dX4_grows_38
def b5_is_k13 : Int32 := (1 : Int32)
def b5_is (b : Nat) (p1 : Int32) (Z : ZT) : Int32 := (if p1 = (2 : Int32) then b5_is_k13 else (if (b3_is b p1 Z) = 0 then (0 : Int32) else b5_is_k13))
set_option maxHeartbeats 4000000 in
set_option maxRecDepth 100000 in
theorem met_b5_is (l : Launch) (D : va_G) (cs : Nat → ClassId) (x : Nat) (ar : Nat → Nat) (B : BT) (Y : va_W) (Z : ZT) (sz : Nat) (b : Nat) (p1 : Int32) (hb8 : b < 8) (hnn : ¬ Z.1 30 b = 0) (h0 : ¬ Z.1 31 b = 0) (h1 : ¬ Z.1 31 b = 1) : Met l yX5_is (ws_ yX5_is cX5_is 2 (some .boolean)) ({ frames := 1, cells := 0, slots := 0, locals := 21 }) (va_Pc [.ref (B.1 b), .int p1] (wSt D cs (WX x ar cs Z B Y) sz)) (cQi (fun (v : Int32) (_ : Unit) => b5_is b p1 Z = v) D (fun _ => (WX x ar cs Z B Y)) (WX x ar cs Z B Y) sz) 0 0 (va_A (WX x ar cs Z B Y) sz) := by
  refine gStart_i (C := RX5) rfl rfl (Nat.le_of_ble_eq_true rfl) ?_
  intro p e s mid args below meth c R Q A hx hb hml hown hts hK hA hRf hRl hRc hRs hret hE ls hl
  have hRf : 1 ≤ R.frames := hRf
  have hRl : 21 ≤ R.locals := hRl
  have hl : lv_has ls 2 [(0, .ref (B.1 b)), (1, .int p1)] := hl
  have hR : b5_is b p1 Z = (if p1 = (2 : Int32) then b5_is_k13 else (if (b3_is b p1 Z) = 0 then (0 : Int32) else b5_is_k13)) := rfl
  refine lv_iload_n hx hb dX5_is_0 rfl (lv_at hl 1 rfl) ?_
  refine lv_iconst (v := 2) hx hb dX5_is_1 rfl ?_
  have hJ13 : ∀ (hR : b5_is b p1 Z = b5_is_k13), ∀ (H : Heap) (locs : List Loc) (ls : Array Slot), EW D A s.heap (WX x ar cs Z B Y) H locs → lv_has ls 2 [] → W p l e R s mid args below meth c H locs 0 0 Q (F0 mid 13 ls []) := by
    intro hR H locs ls hE hl
    have hR : b5_is b p1 Z = (1 : Int32) := hR
    refine lv_iconst (v := 1) hx hb dX5_is_13 rfl ?_
    refine lv_goto (tgt := 18) hx hb dX5_is_14 (by decide) ?_
    exact hret (1 : Int32) () hR rfl hE (Nat.le_refl 0) (Nat.le_refl 0) dX5_is_18
  refine lv_icmp_eq (tgt := 13) hx hb dX5_is_2 (by decide) (fun c2 => ?_) (fun c2 => ?_)
  · have hR : b5_is b p1 Z = b5_is_k13 := hR.trans (congrArg (fun z => z) (if_pos c2))
    exact hJ13  hR _ _ _ hE (lv_sub hl [] rfl)
  · have hR : b5_is b p1 Z = (if (b3_is b p1 Z) = 0 then (0 : Int32) else b5_is_k13) := hR.trans (congrArg (fun z => z) (if_neg c2))
    refine lv_aload_n hx hb dX5_is_5 rfl (lv_at hl 0 rfl) ?_
    refine lv_iload_n hx hb dX5_is_6 rfl (lv_at hl 1 rfl) ?_
    refine call5_b3_is hx hb hml hown hts hK hA hE hl.1 b p1 hb8 hnn h0 h1 (lz (show 1 ≤ 1 by decide) hRf) (lz (show 21 ≤ 21 by decide) hRl) (Nat.le_of_ble_eq_true rfl) dX5_is_7 ⟨Nat.zero_le _, Nat.zero_le _⟩ (fun H locs hE => ?_)
    refine lv_if_eq (tgt := 17) hx hb dX5_is_10 (by decide) (fun c10 => ?_) (fun c10 => ?_)
    · have hR : b5_is b p1 Z = (0 : Int32) := hR.trans (congrArg (fun z => z) (if_pos c10))
      refine lv_iconst (v := 0) hx hb dX5_is_17 rfl ?_
      exact hret (0 : Int32) () hR rfl hE (Nat.le_refl 0) (Nat.le_refl 0) dX5_is_18
    · have hR : b5_is b p1 Z = b5_is_k13 := hR.trans (congrArg (fun z => z) (if_neg c10))
      exact hJ13  hR _ _ _ hE (lv_sub hl [] rfl)
section C_b5_is
variable {p : Program} {l : Launch} {e : Env} {R : Room} {s : State} {mid : MethodId} {args : Array Value} {below : List Frame} {meth : Method} {c : Code} {H : Heap} {locs : List Loc} {cells slots : Nat} {Q : State → Prop} {cc : ByteArray} {pc : Nat} {ls : Array Slot} {rest : List Value} {D : va_G} {A : Nat → Prop} {x : Nat} {ar : Nat → Nat} {cs : Nat → ClassId} {B : BT} {Y : va_W} {Z : ZT} {nL r : Nat}
theorem call6_b5_is (hx : p.tables.exec = Jvm.exec) (hb : c.code = cc) (hml : c.maxLocals = nL) (hown : s.vm.findClass RX6 = some mid.cls) (hts : ∀ w ∈ lw_all, w.before args s = true) (hK : KK D cs s) (hA : ∀ q : Nat, s.heap.size ≤ q → A q) (hE : EW D A s.heap (WX x ar cs Z B Y) H locs) (hls : ls.size = nL) (b : Nat) (p1 : Int32) (hb8 : b < 8) (hnn : ¬ Z.1 30 b = 0) (h0 : ¬ Z.1 31 b = 0) (h1 : ¬ Z.1 31 b = 1) (h2 : ¬ Z.1 31 b = 2)  (h5 : 2 ≤ R.frames) (h6 : 42 ≤ R.locals) (h3 : (rest.map fun v => v.category).sum ≤ 8) (hd : decode cc pc = .ok (.invokespecial 15, 3)) (hf : cells ≤ R.cells ∧ slots ≤ R.slots) (kk : ∀ (H1 : Heap) (locs1 : List Loc), EW D A s.heap (WX x ar cs Z B Y) H1 locs1 → W p l e R s mid args below meth c H1 locs1 cells slots Q (F0 mid (pc + 3) ls (.int (b5_is b p1 Z) :: rest))) : W p l e R s mid args below meth c H locs cells slots Q (F0 mid pc ls (.int p1 :: .ref (B.1 b) :: rest)) := by
  obtain ⟨k9, hk, -⟩ := be_at (x := x) (ar := ar) (cs := cs) (B := B) (Y := Y) hb8 hnn
  rw [beF_3 h0 h1 h2] at hk
  exact gCallSU_i (As := [.int p1]) (rest := rest) (q0 := k9) (ci := 6) (C' := RX6) (T' := TX6) (N' := 6) hx hb hml hown hts hK hA hE hls (met_b5_is l D cs x ar B Y Z H.size b p1 hb8 hnn h0 h1) (va_cwSU 1 hts (lw_SU q530 q1446 q517 q523 q98 q524) rfl rfl rfl (by decide +kernel) ⟨h5, h6⟩) hk rfl rfl rfl h3 hd hf (fun v u H1 locs1 hp _ hE => by subst hp; exact kk H1 locs1 hE)
end C_b5_is
def b5_kind (b : Nat) (Z : ZT) : Int32 := (2 : Int32)
set_option maxHeartbeats 4000000 in
set_option maxRecDepth 100000 in
theorem met_b5_kind (l : Launch) (D : va_G) (cs : Nat → ClassId) (x : Nat) (ar : Nat → Nat) (B : BT) (Y : va_W) (Z : ZT) (sz : Nat) (b : Nat) (hb8 : b < 8) (hnn : ¬ Z.1 30 b = 0) (h0 : ¬ Z.1 31 b = 0) (h1 : ¬ Z.1 31 b = 1) : Met l yX5_kind (ws_ yX5_kind cX5_kind 1 (some .int)) ({ frames := 0, cells := 0, slots := 0, locals := 0 }) (va_Pc [.ref (B.1 b)] (wSt D cs (WX x ar cs Z B Y) sz)) (cQi (fun (v : Int32) (_ : Unit) => b5_kind b Z = v) D (fun _ => (WX x ar cs Z B Y)) (WX x ar cs Z B Y) sz) 0 0 (va_A (WX x ar cs Z B Y) sz) := by
  refine gStart_i (C := RX5) rfl rfl (Nat.le_of_ble_eq_true rfl) ?_
  intro p e s mid args below meth c R Q A hx hb hml hown hts hK hA hRf hRl hRc hRs hret hE ls hl
  have hRf : 0 ≤ R.frames := hRf
  have hRl : 0 ≤ R.locals := hRl
  have hl : lv_has ls 1 [(0, .ref (B.1 b))] := hl
  have hR : b5_kind b Z = (2 : Int32) := rfl
  refine lv_iconst (v := 2) hx hb dX5_kind_0 rfl ?_
  exact hret (2 : Int32) () hR rfl hE (Nat.le_refl 0) (Nat.le_refl 0) dX5_kind_1
def b5_loses (b : Nat) (Z : ZT) : Int64 := (((((Z.1 37 b).toInt64) * ((b3_stockNow b Z).toInt64)) + (999 : Int64)) / (1000 : Int64))
set_option maxHeartbeats 4000000 in
set_option maxRecDepth 100000 in
theorem met_b5_loses (l : Launch) (D : va_G) (cs : Nat → ClassId) (x : Nat) (ar : Nat → Nat) (B : BT) (Y : va_W) (Z : ZT) (sz : Nat) (b : Nat) (hb8 : b < 8) (hnn : ¬ Z.1 30 b = 0) (h0 : ¬ Z.1 31 b = 0) (h1 : ¬ Z.1 31 b = 1) : Met l yX5_loses (ws_ yX5_loses cX5_loses 1 (some .long)) ({ frames := 1, cells := 0, slots := 0, locals := 20 }) (va_Pc [.ref (B.1 b)] (wSt D cs (WX x ar cs Z B Y) sz)) (cQl (fun (v : Int64) (_ : Unit) => b5_loses b Z = v) D (fun _ => (WX x ar cs Z B Y)) (WX x ar cs Z B Y) sz) 0 0 (va_A (WX x ar cs Z B Y) sz) := by
  refine gStart_l (C := RX5) rfl rfl (Nat.le_of_ble_eq_true rfl) ?_
  intro p e s mid args below meth c R Q A hx hb hml hown hts hK hA hRf hRl hRc hRs hret hE ls hl
  have hRf : 1 ≤ R.frames := hRf
  have hRl : 20 ≤ R.locals := hRl
  have hl : lv_has ls 1 [(0, .ref (B.1 b))] := hl
  have hR : b5_loses b Z = (((((Z.1 37 b).toInt64) * ((b3_stockNow b Z).toInt64)) + (999 : Int64)) / (1000 : Int64)) := rfl
  refine lv_aload_n hx hb dX5_loses_0 rfl (lv_at hl 0 rfl) ?_
  refine xog_37 (b := b) hb8 hnn h0 h1 hx hb hts hown hK hE dX5_loses_1 ?_
  refine lv_i2l hx hb dX5_loses_4 rfl ?_
  refine lv_aload_n hx hb dX5_loses_5 rfl (lv_at hl 0 rfl) ?_
  refine call5_b3_stockNow hx hb hml hown hts hK hA hE hl.1 b hb8 hnn h0 h1 (lz (show 1 ≤ 1 by decide) hRf) (lz (show 20 ≤ 20 by decide) hRl) (Nat.le_of_ble_eq_true rfl) dX5_loses_6 ⟨Nat.zero_le _, Nat.zero_le _⟩ (fun H locs hE => ?_)
  refine lv_i2l hx hb dX5_loses_9 rfl ?_
  refine lv_lmul hx hb dX5_loses_10 ?_
  refine lv_ldc2 (v := 999) hx hb hown (hts _ q678) dX5_loses_11 ?_
  refine lv_ladd hx hb dX5_loses_14 ?_
  refine lv_ldc2 (v := 1000) hx hb hown (hts _ q679) dX5_loses_15 ?_
  refine lv_ldiv hx hb dX5_loses_18 (by decide) ?_
  exact hret (((((Z.1 37 b).toInt64) * ((b3_stockNow b Z).toInt64)) + (999 : Int64)) / (1000 : Int64)) () hR hE (Nat.le_refl 0) (Nat.le_refl 0) dX5_loses_19
section C_b5_loses
variable {p : Program} {l : Launch} {e : Env} {R : Room} {s : State} {mid : MethodId} {args : Array Value} {below : List Frame} {meth : Method} {c : Code} {H : Heap} {locs : List Loc} {cells slots : Nat} {Q : State → Prop} {cc : ByteArray} {pc : Nat} {ls : Array Slot} {rest : List Value} {D : va_G} {A : Nat → Prop} {x : Nat} {ar : Nat → Nat} {cs : Nat → ClassId} {B : BT} {Y : va_W} {Z : ZT} {nL r : Nat}
theorem call5_b5_loses (hx : p.tables.exec = Jvm.exec) (hb : c.code = cc) (hml : c.maxLocals = nL) (hown : s.vm.findClass RX5 = some mid.cls) (hts : ∀ w ∈ lw_all, w.before args s = true) (hK : KK D cs s) (hA : ∀ q : Nat, s.heap.size ≤ q → A q) (hE : EW D A s.heap (WX x ar cs Z B Y) H locs) (hls : ls.size = nL) (b : Nat) (hb8 : b < 8) (hnn : ¬ Z.1 30 b = 0) (h0 : ¬ Z.1 31 b = 0) (h1 : ¬ Z.1 31 b = 1)  (h5 : 2 ≤ R.frames) (h6 : 40 ≤ R.locals) (h3 : (rest.map fun v => v.category).sum ≤ 8) (hd : decode cc pc = .ok (.invokevirtual 36, 3)) (hf : cells ≤ R.cells ∧ slots ≤ R.slots) (kk : ∀ (H1 : Heap) (locs1 : List Loc), EW D A s.heap (WX x ar cs Z B Y) H1 locs1 → W p l e R s mid args below meth c H1 locs1 cells slots Q (F0 mid (pc + 3) ls (.long (b5_loses b Z) :: rest))) : W p l e R s mid args below meth c H locs cells slots Q (F0 mid pc ls (.ref (B.1 b) :: rest)) := by
  obtain ⟨k9, hk, -⟩ := be_at (x := x) (ar := ar) (cs := cs) (B := B) (Y := Y) hb8 hnn
  by_cases h2 : Z.1 31 b = 2
  · rw [beF_2 h2] at hk
    exact gCall_l (As := []) (rest := rest) (q0 := k9) (ci := 5) (C' := RX5) (T' := TX5) (N' := 5) hx hb hml hown hts hK hA hE hls (met_b5_loses l D cs x ar B Y Z H.size b hb8 hnn h0 h1) (cwV 0 hts (lw_V q667 q669 qs16 q98 q670) rfl rfl rfl (by decide +kernel) ⟨h5, h6⟩) hk rfl rfl rfl h3 hd hf (fun v u H1 locs1 hp _ hE => by subst hp; exact kk H1 locs1 hE)
  · rw [beF_3 h0 h1 h2] at hk
    exact gCall_l (As := []) (rest := rest) (q0 := k9) (ci := 6) (C' := RX6) (T' := TX6) (N' := 6) hx hb hml hown hts hK hA hE hls (met_b5_loses l D cs x ar B Y Z H.size b hb8 hnn h0 h1) ⟨callB_of 0 hts (lw_meth q670) rfl rfl rfl (hts _ q98) (hts _ q667) (by decide +kernel) ⟨h5, h6⟩, hts _ q669, va_Nw.use rfl (hK.2.1 (.selects "EaterWebs$Guest" ⟨"EaterWebs$Eater", "loses", "()J"⟩ ⟨"EaterWebs$Eater", "loses", "()J"⟩) (by simp [nwL, nwG]))⟩ hk rfl rfl rfl h3 hd hf (fun v u H1 locs1 hp _ hE => by subst hp; exact kk H1 locs1 hE)
end C_b5_loses
def b5_spills (b : Nat) (p1 : Int64) (Z : ZT) : Int64 := ((p1 - ((p1 * ((Z.1 38 b).toInt64)) / (100 : Int64))) + (b5_loses b Z))
set_option maxHeartbeats 4000000 in
set_option maxRecDepth 100000 in
theorem met_b5_spills (l : Launch) (D : va_G) (cs : Nat → ClassId) (x : Nat) (ar : Nat → Nat) (B : BT) (Y : va_W) (Z : ZT) (sz : Nat) (b : Nat) (p1 : Int64) (hb8 : b < 8) (hnn : ¬ Z.1 30 b = 0) (h0 : ¬ Z.1 31 b = 0) (h1 : ¬ Z.1 31 b = 1) : Met l yX5_spills (ws_ yX5_spills cX5_spills 3 (some .long)) ({ frames := 2, cells := 0, slots := 0, locals := 40 }) (va_Pc [.ref (B.1 b), .long p1] (wSt D cs (WX x ar cs Z B Y) sz)) (cQl (fun (v : Int64) (_ : Unit) => b5_spills b p1 Z = v) D (fun _ => (WX x ar cs Z B Y)) (WX x ar cs Z B Y) sz) 0 0 (va_A (WX x ar cs Z B Y) sz) := by
  refine gStart_l (C := RX5) rfl rfl (Nat.le_of_ble_eq_true rfl) ?_
  intro p e s mid args below meth c R Q A hx hb hml hown hts hK hA hRf hRl hRc hRs hret hE ls hl
  have hRf : 2 ≤ R.frames := hRf
  have hRl : 40 ≤ R.locals := hRl
  have hl : lv_has ls 3 [(0, .ref (B.1 b)), (1, .long p1)] := hl
  have hR : b5_spills b p1 Z = ((p1 - ((p1 * ((Z.1 38 b).toInt64)) / (100 : Int64))) + (b5_loses b Z)) := rfl
  refine lv_lload_n hx hb dX5_spills_0 rfl (lv_at hl 1 rfl) ?_
  refine lv_lload_n hx hb dX5_spills_1 rfl (lv_at hl 1 rfl) ?_
  refine lv_aload_n hx hb dX5_spills_2 rfl (lv_at hl 0 rfl) ?_
  refine xog_38 (b := b) hb8 hnn h0 h1 hx hb hts hown hK hE dX5_spills_3 ?_
  refine lv_i2l hx hb dX5_spills_6 rfl ?_
  refine lv_lmul hx hb dX5_spills_7 ?_
  refine lv_ldc2 (v := 100) hx hb hown (hts _ q666) dX5_spills_8 ?_
  refine lv_ldiv hx hb dX5_spills_11 (by decide) ?_
  refine lv_lsub hx hb dX5_spills_12 ?_
  refine lv_aload_n hx hb dX5_spills_13 rfl (lv_at hl 0 rfl) ?_
  refine call5_b5_loses hx hb hml hown hts hK hA hE hl.1 b hb8 hnn h0 h1 (lz (show 2 ≤ 2 by decide) hRf) (lz (show 40 ≤ 40 by decide) hRl) (Nat.le_of_ble_eq_true rfl) dX5_spills_14 ⟨Nat.zero_le _, Nat.zero_le _⟩ (fun H locs hE => ?_)
  refine lv_ladd hx hb dX5_spills_17 ?_
  exact hret ((p1 - ((p1 * ((Z.1 38 b).toInt64)) / (100 : Int64))) + (b5_loses b Z)) () hR hE (Nat.le_refl 0) (Nat.le_refl 0) dX5_spills_18
def b5_grows (b : Nat) (p1 : Int64) (Z : ZT) : Int64 := (((b3_grows b p1 Z) + ((p1 * ((Z.1 38 b).toInt64)) / (100 : Int64))) - (b5_loses b Z))
set_option maxHeartbeats 4000000 in
set_option maxRecDepth 100000 in
theorem met_b5_grows (l : Launch) (D : va_G) (cs : Nat → ClassId) (x : Nat) (ar : Nat → Nat) (B : BT) (Y : va_W) (Z : ZT) (sz : Nat) (b : Nat) (p1 : Int64) (hb8 : b < 8) (hnn : ¬ Z.1 30 b = 0) (h0 : ¬ Z.1 31 b = 0) (h1 : ¬ Z.1 31 b = 1) : Met l yX5_grows (ws_ yX5_grows cX5_grows 3 (some .long)) ({ frames := 2, cells := 0, slots := 0, locals := 40 }) (va_Pc [.ref (B.1 b), .long p1] (wSt D cs (WX x ar cs Z B Y) sz)) (cQl (fun (v : Int64) (_ : Unit) => b5_grows b p1 Z = v) D (fun _ => (WX x ar cs Z B Y)) (WX x ar cs Z B Y) sz) 0 0 (va_A (WX x ar cs Z B Y) sz) := by
  refine gStart_l (C := RX5) rfl rfl (Nat.le_of_ble_eq_true rfl) ?_
  intro p e s mid args below meth c R Q A hx hb hml hown hts hK hA hRf hRl hRc hRs hret hE ls hl
  have hRf : 2 ≤ R.frames := hRf
  have hRl : 40 ≤ R.locals := hRl
  have hl : lv_has ls 3 [(0, .ref (B.1 b)), (1, .long p1)] := hl
  have hR : b5_grows b p1 Z = (((b3_grows b p1 Z) + ((p1 * ((Z.1 38 b).toInt64)) / (100 : Int64))) - (b5_loses b Z)) := rfl
  refine lv_aload_n hx hb dX5_grows_0 rfl (lv_at hl 0 rfl) ?_
  refine lv_lload_n hx hb dX5_grows_1 rfl (lv_at hl 1 rfl) ?_
  refine call5_b3_grows hx hb hml hown hts hK hA hE hl.1 b p1 hb8 hnn h0 h1 (lz (show 1 ≤ 2 by decide) hRf) (lz (show 22 ≤ 40 by decide) hRl) (Nat.le_of_ble_eq_true rfl) dX5_grows_2 ⟨Nat.zero_le _, Nat.zero_le _⟩ (fun H locs hE => ?_)
  refine lv_lload_n hx hb dX5_grows_5 rfl (lv_at hl 1 rfl) ?_
  refine lv_aload_n hx hb dX5_grows_6 rfl (lv_at hl 0 rfl) ?_
  refine xog_38 (b := b) hb8 hnn h0 h1 hx hb hts hown hK hE dX5_grows_7 ?_
  refine lv_i2l hx hb dX5_grows_10 rfl ?_
  refine lv_lmul hx hb dX5_grows_11 ?_
  refine lv_ldc2 (v := 100) hx hb hown (hts _ q666) dX5_grows_12 ?_
  refine lv_ldiv hx hb dX5_grows_15 (by decide) ?_
  refine lv_ladd hx hb dX5_grows_16 ?_
  refine lv_aload_n hx hb dX5_grows_17 rfl (lv_at hl 0 rfl) ?_
  refine call5_b5_loses hx hb hml hown hts hK hA hE hl.1 b hb8 hnn h0 h1 (lz (show 2 ≤ 2 by decide) hRf) (lz (show 40 ≤ 40 by decide) hRl) (Nat.le_of_ble_eq_true rfl) dX5_grows_18 ⟨Nat.zero_le _, Nat.zero_le _⟩ (fun H locs hE => ?_)
  refine lv_lsub hx hb dX5_grows_21 ?_
  exact hret (((b3_grows b p1 Z) + ((p1 * ((Z.1 38 b).toInt64)) / (100 : Int64))) - (b5_loses b Z)) () hR hE (Nat.le_refl 0) (Nat.le_refl 0) dX5_grows_22
def b6_is_k13 : Int32 := (1 : Int32)
def b6_is (b : Nat) (p1 : Int32) (Z : ZT) : Int32 := (if p1 = (3 : Int32) then b6_is_k13 else (if (b5_is b p1 Z) = 0 then (0 : Int32) else b6_is_k13))
set_option maxHeartbeats 4000000 in
set_option maxRecDepth 100000 in
theorem met_b6_is (l : Launch) (D : va_G) (cs : Nat → ClassId) (x : Nat) (ar : Nat → Nat) (B : BT) (Y : va_W) (Z : ZT) (sz : Nat) (b : Nat) (p1 : Int32) (hb8 : b < 8) (hnn : ¬ Z.1 30 b = 0) (h0 : ¬ Z.1 31 b = 0) (h1 : ¬ Z.1 31 b = 1) (h2 : ¬ Z.1 31 b = 2) : Met l yX6_is (ws_ yX6_is cX6_is 2 (some .boolean)) ({ frames := 2, cells := 0, slots := 0, locals := 42 }) (va_Pc [.ref (B.1 b), .int p1] (wSt D cs (WX x ar cs Z B Y) sz)) (cQi (fun (v : Int32) (_ : Unit) => b6_is b p1 Z = v) D (fun _ => (WX x ar cs Z B Y)) (WX x ar cs Z B Y) sz) 0 0 (va_A (WX x ar cs Z B Y) sz) := by
  refine gStart_i (C := RX6) rfl rfl (Nat.le_of_ble_eq_true rfl) ?_
  intro p e s mid args below meth c R Q A hx hb hml hown hts hK hA hRf hRl hRc hRs hret hE ls hl
  have hRf : 2 ≤ R.frames := hRf
  have hRl : 42 ≤ R.locals := hRl
  have hl : lv_has ls 2 [(0, .ref (B.1 b)), (1, .int p1)] := hl
  have hR : b6_is b p1 Z = (if p1 = (3 : Int32) then b6_is_k13 else (if (b5_is b p1 Z) = 0 then (0 : Int32) else b6_is_k13)) := rfl
  refine lv_iload_n hx hb dX6_is_0 rfl (lv_at hl 1 rfl) ?_
  refine lv_iconst (v := 3) hx hb dX6_is_1 rfl ?_
  have hJ13 : ∀ (hR : b6_is b p1 Z = b6_is_k13), ∀ (H : Heap) (locs : List Loc) (ls : Array Slot), EW D A s.heap (WX x ar cs Z B Y) H locs → lv_has ls 2 [] → W p l e R s mid args below meth c H locs 0 0 Q (F0 mid 13 ls []) := by
    intro hR H locs ls hE hl
    have hR : b6_is b p1 Z = (1 : Int32) := hR
    refine lv_iconst (v := 1) hx hb dX6_is_13 rfl ?_
    refine lv_goto (tgt := 18) hx hb dX6_is_14 (by decide) ?_
    exact hret (1 : Int32) () hR rfl hE (Nat.le_refl 0) (Nat.le_refl 0) dX6_is_18
  refine lv_icmp_eq (tgt := 13) hx hb dX6_is_2 (by decide) (fun c2 => ?_) (fun c2 => ?_)
  · have hR : b6_is b p1 Z = b6_is_k13 := hR.trans (congrArg (fun z => z) (if_pos c2))
    exact hJ13  hR _ _ _ hE (lv_sub hl [] rfl)
  · have hR : b6_is b p1 Z = (if (b5_is b p1 Z) = 0 then (0 : Int32) else b6_is_k13) := hR.trans (congrArg (fun z => z) (if_neg c2))
    refine lv_aload_n hx hb dX6_is_5 rfl (lv_at hl 0 rfl) ?_
    refine lv_iload_n hx hb dX6_is_6 rfl (lv_at hl 1 rfl) ?_
    refine call6_b5_is hx hb hml hown hts hK hA hE hl.1 b p1 hb8 hnn h0 h1 h2 (lz (show 2 ≤ 2 by decide) hRf) (lz (show 42 ≤ 42 by decide) hRl) (Nat.le_of_ble_eq_true rfl) dX6_is_7 ⟨Nat.zero_le _, Nat.zero_le _⟩ (fun H locs hE => ?_)
    refine lv_if_eq (tgt := 17) hx hb dX6_is_10 (by decide) (fun c10 => ?_) (fun c10 => ?_)
    · have hR : b6_is b p1 Z = (0 : Int32) := hR.trans (congrArg (fun z => z) (if_pos c10))
      refine lv_iconst (v := 0) hx hb dX6_is_17 rfl ?_
      exact hret (0 : Int32) () hR rfl hE (Nat.le_refl 0) (Nat.le_refl 0) dX6_is_18
    · have hR : b6_is b p1 Z = b6_is_k13 := hR.trans (congrArg (fun z => z) (if_neg c10))
      exact hJ13  hR _ _ _ hE (lv_sub hl [] rfl)
def b6_kind (b : Nat) (Z : ZT) : Int32 := (3 : Int32)
set_option maxHeartbeats 4000000 in
set_option maxRecDepth 100000 in
theorem met_b6_kind (l : Launch) (D : va_G) (cs : Nat → ClassId) (x : Nat) (ar : Nat → Nat) (B : BT) (Y : va_W) (Z : ZT) (sz : Nat) (b : Nat) (hb8 : b < 8) (hnn : ¬ Z.1 30 b = 0) (h0 : ¬ Z.1 31 b = 0) (h1 : ¬ Z.1 31 b = 1) (h2 : ¬ Z.1 31 b = 2) : Met l yX6_kind (ws_ yX6_kind cX6_kind 1 (some .int)) ({ frames := 0, cells := 0, slots := 0, locals := 0 }) (va_Pc [.ref (B.1 b)] (wSt D cs (WX x ar cs Z B Y) sz)) (cQi (fun (v : Int32) (_ : Unit) => b6_kind b Z = v) D (fun _ => (WX x ar cs Z B Y)) (WX x ar cs Z B Y) sz) 0 0 (va_A (WX x ar cs Z B Y) sz) := by
  refine gStart_i (C := RX6) rfl rfl (Nat.le_of_ble_eq_true rfl) ?_
  intro p e s mid args below meth c R Q A hx hb hml hown hts hK hA hRf hRl hRc hRs hret hE ls hl
  have hRf : 0 ≤ R.frames := hRf
  have hRl : 0 ≤ R.locals := hRl
  have hl : lv_has ls 1 [(0, .ref (B.1 b))] := hl
  have hR : b6_kind b Z = (3 : Int32) := rfl
  refine lv_iconst (v := 3) hx hb dX6_kind_0 rfl ?_
  exact hret (3 : Int32) () hR rfl hE (Nat.le_refl 0) (Nat.le_refl 0) dX6_kind_1
section C_v_is
variable {p : Program} {l : Launch} {e : Env} {R : Room} {s : State} {mid : MethodId} {args : Array Value} {below : List Frame} {meth : Method} {c : Code} {H : Heap} {locs : List Loc} {cells slots : Nat} {Q : State → Prop} {cc : ByteArray} {pc : Nat} {ls : Array Slot} {rest : List Value} {D : va_G} {A : Nat → Prop} {x : Nat} {ar : Nat → Nat} {cs : Nat → ClassId} {B : BT} {Y : va_W} {Z : ZT} {nL r : Nat}
def v_is (b : Nat) (p1 : Int32) (Z : ZT) : Int32 := if Z.1 31 b = 0 then b3_is b p1 Z else if Z.1 31 b = 1 then b4_is b p1 Z else if Z.1 31 b = 2 then b5_is b p1 Z else b6_is b p1 Z
theorem call_v_is (hx : p.tables.exec = Jvm.exec) (hb : c.code = cc) (hml : c.maxLocals = nL) (hown : s.vm.findClass RX0 = some mid.cls) (hts : ∀ w ∈ lw_all, w.before args s = true) (hK : KK D cs s) (hA : ∀ q : Nat, s.heap.size ≤ q → A q) (hE : EW D A s.heap (WX x ar cs Z B Y) H locs) (hls : ls.size = nL) (b : Nat) (p1 : Int32) (hb8 : b < 8) (hnn : ¬ Z.1 30 b = 0)  (h5 : 3 ≤ R.frames) (h6 : 63 ≤ R.locals) (h3 : (rest.map fun v => v.category).sum ≤ 8) (hd : decode cc pc = .ok (.invokevirtual 153, 3)) (hf : cells ≤ R.cells ∧ slots ≤ R.slots) (kk : ∀ (H1 : Heap) (locs1 : List Loc), EW D A s.heap (WX x ar cs Z B Y) H1 locs1 → W p l e R s mid args below meth c H1 locs1 cells slots Q (F0 mid (pc + 3) ls (.int (v_is b p1 Z) :: rest))) : W p l e R s mid args below meth c H locs cells slots Q (F0 mid pc ls (.int p1 :: va_rf (adr Z B b) :: rest)) := by
  rw [adr_of hnn]
  obtain ⟨k9, hk, -⟩ := be_at (x := x) (ar := ar) (cs := cs) (B := B) (Y := Y) hb8 hnn
  by_cases h0 : Z.1 31 b = 0
  · rw [beF_0 h0] at hk
    exact gCall_i (As := [.int p1]) (rest := rest) (q0 := k9) (ci := 3) (C' := RX3) (T' := TX3) (N' := 3) hx hb hml hown hts hK hA hE hls (met_b3_is l D cs x ar B Y Z H.size b p1 hb8 hnn) (cwV 1 hts (lw_V q518 q519 q520 q96 q526) rfl rfl rfl (by decide +kernel) ⟨(Nat.le_trans (by decide : 1 ≤ 3) h5), (Nat.le_trans (by decide : 21 ≤ 63) h6)⟩) hk rfl rfl rfl h3 hd hf (fun v u H1 locs1 hp _ hE => by subst hp; have h9 := kk H1 locs1 hE; unfold v_is at h9; rw [if_pos h0] at h9; exact h9)
  by_cases h1 : Z.1 31 b = 1
  · rw [beF_1 h1] at hk
    exact gCallU_i (As := [.int p1]) (rest := rest) (q0 := k9) (ci := 4) (C' := RX4) (T' := TX4) (N' := 5) hx hb hml hown hts hK hA hE hls (met_b4_is l D cs x ar B Y Z H.size b p1 hb8 hnn h1) (va_cwO (C := RX4) (owner := RX3) (x := ⟨"EaterWebs$Being", "is", "(I)Z"⟩) 1 hts (lw_O q518 q521 q519 q531 q532 q97 q533) rfl rfl rfl q526 (by decide +kernel) ⟨(Nat.le_trans (by decide : 2 ≤ 3) h5), (Nat.le_trans (by decide : 42 ≤ 63) h6)⟩) hk rfl rfl rfl h3 hd hf (fun v u H1 locs1 hp _ hE => by subst hp; have h9 := kk H1 locs1 hE; unfold v_is at h9; rw [if_neg h0, if_pos h1] at h9; exact h9)
  by_cases h2 : Z.1 31 b = 2
  · rw [beF_2 h2] at hk
    exact gCallU_i (As := [.int p1]) (rest := rest) (q0 := k9) (ci := 5) (C' := RX5) (T' := TX5) (N' := 5) hx hb hml hown hts hK hA hE hls (met_b5_is l D cs x ar B Y Z H.size b p1 hb8 hnn h0 h1) (va_cwO (C := RX5) (owner := RX3) (x := ⟨"EaterWebs$Being", "is", "(I)Z"⟩) 1 hts (lw_O q518 q521 q519 q522 q523 q98 q524) rfl rfl rfl q526 (by decide +kernel) ⟨(Nat.le_trans (by decide : 2 ≤ 3) h5), (Nat.le_trans (by decide : 42 ≤ 63) h6)⟩) hk rfl rfl rfl h3 hd hf (fun v u H1 locs1 hp _ hE => by subst hp; have h9 := kk H1 locs1 hE; unfold v_is at h9; rw [if_neg h0, if_neg h1, if_pos h2] at h9; exact h9)
  rw [beF_3 h0 h1 h2] at hk
  exact gCallU_i (As := [.int p1]) (rest := rest) (q0 := k9) (ci := 6) (C' := RX6) (T' := TX6) (N' := 6) hx hb hml hown hts hK hA hE hls (met_b6_is l D cs x ar B Y Z H.size b p1 hb8 hnn h0 h1 h2) (va_cwO (C := RX6) (owner := RX3) (x := ⟨"EaterWebs$Being", "is", "(I)Z"⟩) 1 hts (lw_O q518 q521 q519 q527 q528 q99 q529) rfl rfl rfl q526 (by decide +kernel) ⟨(Nat.le_trans (by decide : 3 ≤ 3) h5), (Nat.le_trans (by decide : 63 ≤ 63) h6)⟩) hk rfl rfl rfl h3 hd hf (fun v u H1 locs1 hp _ hE => by subst hp; have h9 := kk H1 locs1 hE; unfold v_is at h9; rw [if_neg h0, if_neg h1, if_neg h2] at h9; exact h9)
end C_v_is
section C_v_kind
variable {p : Program} {l : Launch} {e : Env} {R : Room} {s : State} {mid : MethodId} {args : Array Value} {below : List Frame} {meth : Method} {c : Code} {H : Heap} {locs : List Loc} {cells slots : Nat} {Q : State → Prop} {cc : ByteArray} {pc : Nat} {ls : Array Slot} {rest : List Value} {D : va_G} {A : Nat → Prop} {x : Nat} {ar : Nat → Nat} {cs : Nat → ClassId} {B : BT} {Y : va_W} {Z : ZT} {nL r : Nat}
def v_kind (b : Nat) (Z : ZT) : Int32 := if Z.1 31 b = 0 then b3_kind b Z else if Z.1 31 b = 1 then b4_kind b Z else if Z.1 31 b = 2 then b5_kind b Z else b6_kind b Z
theorem call_v_kind (hx : p.tables.exec = Jvm.exec) (hb : c.code = cc) (hml : c.maxLocals = nL) (hown : s.vm.findClass RX0 = some mid.cls) (hts : ∀ w ∈ lw_all, w.before args s = true) (hK : KK D cs s) (hA : ∀ q : Nat, s.heap.size ≤ q → A q) (hE : EW D A s.heap (WX x ar cs Z B Y) H locs) (hls : ls.size = nL) (b : Nat) (hb8 : b < 8) (hnn : ¬ Z.1 30 b = 0)  (h5 : 1 ≤ R.frames) (h6 : 20 ≤ R.locals) (h3 : (rest.map fun v => v.category).sum ≤ 8) (hd : decode cc pc = .ok (.invokevirtual 194, 3)) (hf : cells ≤ R.cells ∧ slots ≤ R.slots) (kk : ∀ (H1 : Heap) (locs1 : List Loc), EW D A s.heap (WX x ar cs Z B Y) H1 locs1 → W p l e R s mid args below meth c H1 locs1 cells slots Q (F0 mid (pc + 3) ls (.int (v_kind b Z) :: rest))) : W p l e R s mid args below meth c H locs cells slots Q (F0 mid pc ls (va_rf (adr Z B b) :: rest)) := by
  rw [adr_of hnn]
  obtain ⟨k9, hk, -⟩ := be_at (x := x) (ar := ar) (cs := cs) (B := B) (Y := Y) hb8 hnn
  by_cases h0 : Z.1 31 b = 0
  · rw [beF_0 h0] at hk
    exact gCall_i (As := []) (rest := rest) (q0 := k9) (ci := 3) (C' := RX3) (T' := TX3) (N' := 3) hx hb hml hown hts hK hA hE hls (met_b3_kind l D cs x ar B Y Z H.size b hb8 hnn) (cwV 0 hts (lw_V q546 q547 q548 q96 q559) rfl rfl rfl (by decide +kernel) ⟨(Nat.le_trans (by decide : 1 ≤ 1) h5), (Nat.le_trans (by decide : 20 ≤ 20) h6)⟩) hk rfl rfl rfl h3 hd hf (fun v u H1 locs1 hp _ hE => by subst hp; have h9 := kk H1 locs1 hE; unfold v_kind at h9; rw [if_pos h0] at h9; exact h9)
  by_cases h1 : Z.1 31 b = 1
  · rw [beF_1 h1] at hk
    exact gCallU_i (As := []) (rest := rest) (q0 := k9) (ci := 4) (C' := RX4) (T' := TX4) (N' := 5) hx hb hml hown hts hK hA hE hls (met_b4_kind l D cs x ar B Y Z H.size b hb8 hnn h1) (va_cwO (C := RX4) (owner := RX3) (x := ⟨"EaterWebs$Being", "kind", "()I"⟩) 0 hts (lw_O q546 q549 q547 q556 q557 q97 q558) rfl rfl rfl q559 (by decide +kernel) ⟨(Nat.le_trans (by decide : 1 ≤ 1) h5), (Nat.le_trans (by decide : 20 ≤ 20) h6)⟩) hk rfl rfl rfl h3 hd hf (fun v u H1 locs1 hp _ hE => by subst hp; have h9 := kk H1 locs1 hE; unfold v_kind at h9; rw [if_neg h0, if_pos h1] at h9; exact h9)
  by_cases h2 : Z.1 31 b = 2
  · rw [beF_2 h2] at hk
    exact gCallU_i (As := []) (rest := rest) (q0 := k9) (ci := 5) (C' := RX5) (T' := TX5) (N' := 5) hx hb hml hown hts hK hA hE hls (met_b5_kind l D cs x ar B Y Z H.size b hb8 hnn h0 h1) (va_cwO (C := RX5) (owner := RX3) (x := ⟨"EaterWebs$Being", "kind", "()I"⟩) 0 hts (lw_O q546 q549 q547 q550 q551 q98 q552) rfl rfl rfl q559 (by decide +kernel) ⟨(Nat.le_trans (by decide : 1 ≤ 1) h5), (Nat.le_trans (by decide : 20 ≤ 20) h6)⟩) hk rfl rfl rfl h3 hd hf (fun v u H1 locs1 hp _ hE => by subst hp; have h9 := kk H1 locs1 hE; unfold v_kind at h9; rw [if_neg h0, if_neg h1, if_pos h2] at h9; exact h9)
  rw [beF_3 h0 h1 h2] at hk
  exact gCallU_i (As := []) (rest := rest) (q0 := k9) (ci := 6) (C' := RX6) (T' := TX6) (N' := 6) hx hb hml hown hts hK hA hE hls (met_b6_kind l D cs x ar B Y Z H.size b hb8 hnn h0 h1 h2) (va_cwO (C := RX6) (owner := RX3) (x := ⟨"EaterWebs$Being", "kind", "()I"⟩) 0 hts (lw_O q546 q549 q547 q553 q554 q99 q555) rfl rfl rfl q559 (by decide +kernel) ⟨(Nat.le_trans (by decide : 1 ≤ 1) h5), (Nat.le_trans (by decide : 20 ≤ 20) h6)⟩) hk rfl rfl rfl h3 hd hf (fun v u H1 locs1 hp _ hE => by subst hp; have h9 := kk H1 locs1 hE; unfold v_kind at h9; rw [if_neg h0, if_neg h1, if_neg h2] at h9; exact h9)
end C_v_kind
section C_v_spills
variable {p : Program} {l : Launch} {e : Env} {R : Room} {s : State} {mid : MethodId} {args : Array Value} {below : List Frame} {meth : Method} {c : Code} {H : Heap} {locs : List Loc} {cells slots : Nat} {Q : State → Prop} {cc : ByteArray} {pc : Nat} {ls : Array Slot} {rest : List Value} {D : va_G} {A : Nat → Prop} {x : Nat} {ar : Nat → Nat} {cs : Nat → ClassId} {B : BT} {Y : va_W} {Z : ZT} {nL r : Nat}
def v_spills (b : Nat) (p1 : Int64) (Z : ZT) : Int64 := if Z.1 31 b = 0 then b3_spills b p1 Z else if Z.1 31 b = 1 then b3_spills b p1 Z else if Z.1 31 b = 2 then b5_spills b p1 Z else b5_spills b p1 Z
theorem call_v_spills (hx : p.tables.exec = Jvm.exec) (hb : c.code = cc) (hml : c.maxLocals = nL) (hown : s.vm.findClass RX0 = some mid.cls) (hts : ∀ w ∈ lw_all, w.before args s = true) (hK : KK D cs s) (hA : ∀ q : Nat, s.heap.size ≤ q → A q) (hE : EW D A s.heap (WX x ar cs Z B Y) H locs) (hls : ls.size = nL) (b : Nat) (p1 : Int64) (hb8 : b < 8) (hnn : ¬ Z.1 30 b = 0)  (h5 : 3 ≤ R.frames) (h6 : 62 ≤ R.locals) (h3 : (rest.map fun v => v.category).sum ≤ 8) (hd : decode cc pc = .ok (.invokevirtual 250, 3)) (hf : cells ≤ R.cells ∧ slots ≤ R.slots) (kk : ∀ (H1 : Heap) (locs1 : List Loc), EW D A s.heap (WX x ar cs Z B Y) H1 locs1 → W p l e R s mid args below meth c H1 locs1 cells slots Q (F0 mid (pc + 3) ls (.long (v_spills b p1 Z) :: rest))) : W p l e R s mid args below meth c H locs cells slots Q (F0 mid pc ls (.long p1 :: va_rf (adr Z B b) :: rest)) := by
  rw [adr_of hnn]
  obtain ⟨k9, hk, -⟩ := be_at (x := x) (ar := ar) (cs := cs) (B := B) (Y := Y) hb8 hnn
  by_cases h0 : Z.1 31 b = 0
  · rw [beF_0 h0] at hk
    exact gCall_l (As := [.long p1]) (rest := rest) (q0 := k9) (ci := 3) (C' := RX3) (T' := TX3) (N' := 3) hx hb hml hown hts hK hA hE hls (met_b3_spills l D cs x ar B Y Z H.size b p1 hb8 hnn) (cwV 1 hts (lw_V q659 q660 q661 q96 q682) rfl rfl rfl (by decide +kernel) ⟨(Nat.le_trans (by decide : 1 ≤ 3) h5), (Nat.le_trans (by decide : 22 ≤ 62) h6)⟩) hk rfl rfl rfl h3 hd hf (fun v u H1 locs1 hp _ hE => by subst hp; have h9 := kk H1 locs1 hE; unfold v_spills at h9; rw [if_pos h0] at h9; exact h9)
  by_cases h1 : Z.1 31 b = 1
  · rw [beF_1 h1] at hk
    exact gCallU_l (As := [.long p1]) (rest := rest) (q0 := k9) (ci := 4) (C' := RX4) (T' := TX4) (N' := 5) hx hb hml hown hts hK hA hE hls (met_b3_spills l D cs x ar B Y Z H.size b p1 hb8 hnn) (va_cwU (C := RX4) (owner := RX3) (x := ⟨"EaterWebs$Being", "spills", "(J)J"⟩) 1 hts (lw_U q659 q662 q681 q660 q96 q682) rfl rfl rfl rfl (by decide +kernel) ⟨(Nat.le_trans (by decide : 1 ≤ 3) h5), (Nat.le_trans (by decide : 22 ≤ 62) h6)⟩) hk rfl rfl rfl h3 hd hf (fun v u H1 locs1 hp _ hE => by subst hp; have h9 := kk H1 locs1 hE; unfold v_spills at h9; rw [if_neg h0, if_pos h1] at h9; exact h9)
  by_cases h2 : Z.1 31 b = 2
  · rw [beF_2 h2] at hk
    exact gCallU_l (As := [.long p1]) (rest := rest) (q0 := k9) (ci := 5) (C' := RX5) (T' := TX5) (N' := 5) hx hb hml hown hts hK hA hE hls (met_b5_spills l D cs x ar B Y Z H.size b p1 hb8 hnn h0 h1) (va_cwO (C := RX5) (owner := RX3) (x := ⟨"EaterWebs$Being", "spills", "(J)J"⟩) 1 hts (lw_O q659 q662 q660 q663 q664 q98 q665) rfl rfl rfl q682 (by decide +kernel) ⟨(Nat.le_trans (by decide : 3 ≤ 3) h5), (Nat.le_trans (by decide : 62 ≤ 62) h6)⟩) hk rfl rfl rfl h3 hd hf (fun v u H1 locs1 hp _ hE => by subst hp; have h9 := kk H1 locs1 hE; unfold v_spills at h9; rw [if_neg h0, if_neg h1, if_pos h2] at h9; exact h9)
  rw [beF_3 h0 h1 h2] at hk
  exact gCallU_l (As := [.long p1]) (rest := rest) (q0 := k9) (ci := 6) (C' := RX6) (T' := TX6) (N' := 6) hx hb hml hown hts hK hA hE hls (met_b5_spills l D cs x ar B Y Z H.size b p1 hb8 hnn h0 h1) (va_cwO (C := RX6) (owner := RX3) (x := ⟨"EaterWebs$Being", "spills", "(J)J"⟩) 1 hts (lw_O q659 q662 q660 q680 q664 q98 q665) rfl rfl rfl q682 (by decide +kernel) ⟨(Nat.le_trans (by decide : 3 ≤ 3) h5), (Nat.le_trans (by decide : 62 ≤ 62) h6)⟩) hk rfl rfl rfl h3 hd hf (fun v u H1 locs1 hp _ hE => by subst hp; have h9 := kk H1 locs1 hE; unfold v_spills at h9; rw [if_neg h0, if_neg h1, if_neg h2] at h9; exact h9)
end C_v_spills
section C_v_grows
variable {p : Program} {l : Launch} {e : Env} {R : Room} {s : State} {mid : MethodId} {args : Array Value} {below : List Frame} {meth : Method} {c : Code} {H : Heap} {locs : List Loc} {cells slots : Nat} {Q : State → Prop} {cc : ByteArray} {pc : Nat} {ls : Array Slot} {rest : List Value} {D : va_G} {A : Nat → Prop} {x : Nat} {ar : Nat → Nat} {cs : Nat → ClassId} {B : BT} {Y : va_W} {Z : ZT} {nL r : Nat}
def v_grows (b : Nat) (p1 : Int64) (Z : ZT) : Int64 := if Z.1 31 b = 0 then b3_grows b p1 Z else if Z.1 31 b = 1 then b4_grows b p1 Z else if Z.1 31 b = 2 then b5_grows b p1 Z else b5_grows b p1 Z
theorem call_v_grows (hx : p.tables.exec = Jvm.exec) (hb : c.code = cc) (hml : c.maxLocals = nL) (hown : s.vm.findClass RX0 = some mid.cls) (hts : ∀ w ∈ lw_all, w.before args s = true) (hK : KK D cs s) (hA : ∀ q : Nat, s.heap.size ≤ q → A q) (hE : EW D A s.heap (WX x ar cs Z B Y) H locs) (hls : ls.size = nL) (b : Nat) (p1 : Int64) (hb8 : b < 8) (hnn : ¬ Z.1 30 b = 0) (hcap : Z.1 31 b = 1 → ¬ (1000 : Int64) * (Z.1 36 b).toInt64 = 0) (h5 : 3 ≤ R.frames) (h6 : 62 ≤ R.locals) (h3 : (rest.map fun v => v.category).sum ≤ 8) (hd : decode cc pc = .ok (.invokevirtual 256, 3)) (hf : cells ≤ R.cells ∧ slots ≤ R.slots) (kk : ∀ (H1 : Heap) (locs1 : List Loc), EW D A s.heap (WX x ar cs Z B Y) H1 locs1 → W p l e R s mid args below meth c H1 locs1 cells slots Q (F0 mid (pc + 3) ls (.long (v_grows b p1 Z) :: rest))) : W p l e R s mid args below meth c H locs cells slots Q (F0 mid pc ls (.long p1 :: va_rf (adr Z B b) :: rest)) := by
  rw [adr_of hnn]
  obtain ⟨k9, hk, -⟩ := be_at (x := x) (ar := ar) (cs := cs) (B := B) (Y := Y) hb8 hnn
  by_cases h0 : Z.1 31 b = 0
  · rw [beF_0 h0] at hk
    exact gCall_l (As := [.long p1]) (rest := rest) (q0 := k9) (ci := 3) (C' := RX3) (T' := TX3) (N' := 3) hx hb hml hown hts hK hA hE hls (met_b3_grows l D cs x ar B Y Z H.size b p1 hb8 hnn) (cwV 1 hts (lw_V q683 q684 q685 q96 q691) rfl rfl rfl (by decide +kernel) ⟨(Nat.le_trans (by decide : 1 ≤ 3) h5), (Nat.le_trans (by decide : 22 ≤ 62) h6)⟩) hk rfl rfl rfl h3 hd hf (fun v u H1 locs1 hp _ hE => by subst hp; have h9 := kk H1 locs1 hE; unfold v_grows at h9; rw [if_pos h0] at h9; exact h9)
  by_cases h1 : Z.1 31 b = 1
  · rw [beF_1 h1] at hk
    exact gCallU_l (As := [.long p1]) (rest := rest) (q0 := k9) (ci := 4) (C' := RX4) (T' := TX4) (N' := 5) hx hb hml hown hts hK hA hE hls (met_b4_grows l D cs x ar B Y Z H.size b p1 hb8 hnn h1 (hcap h1)) (va_cwO (C := RX4) (owner := RX3) (x := ⟨"EaterWebs$Being", "grows", "(J)J"⟩) 1 hts (lw_O q683 q686 q684 q693 q694 q97 q695) rfl rfl rfl q691 (by decide +kernel) ⟨(Nat.le_trans (by decide : 2 ≤ 3) h5), (Nat.le_trans (by decide : 44 ≤ 62) h6)⟩) hk rfl rfl rfl h3 hd hf (fun v u H1 locs1 hp _ hE => by subst hp; have h9 := kk H1 locs1 hE; unfold v_grows at h9; rw [if_neg h0, if_pos h1] at h9; exact h9)
  by_cases h2 : Z.1 31 b = 2
  · rw [beF_2 h2] at hk
    exact gCallU_l (As := [.long p1]) (rest := rest) (q0 := k9) (ci := 5) (C' := RX5) (T' := TX5) (N' := 5) hx hb hml hown hts hK hA hE hls (met_b5_grows l D cs x ar B Y Z H.size b p1 hb8 hnn h0 h1) (va_cwO (C := RX5) (owner := RX3) (x := ⟨"EaterWebs$Being", "grows", "(J)J"⟩) 1 hts (lw_O q683 q686 q684 q687 q688 q98 q689) rfl rfl rfl q691 (by decide +kernel) ⟨(Nat.le_trans (by decide : 3 ≤ 3) h5), (Nat.le_trans (by decide : 62 ≤ 62) h6)⟩) hk rfl rfl rfl h3 hd hf (fun v u H1 locs1 hp _ hE => by subst hp; have h9 := kk H1 locs1 hE; unfold v_grows at h9; rw [if_neg h0, if_neg h1, if_pos h2] at h9; exact h9)
  rw [beF_3 h0 h1 h2] at hk
  exact gCallU_l (As := [.long p1]) (rest := rest) (q0 := k9) (ci := 6) (C' := RX6) (T' := TX6) (N' := 6) hx hb hml hown hts hK hA hE hls (met_b5_grows l D cs x ar B Y Z H.size b p1 hb8 hnn h0 h1) (va_cwO (C := RX6) (owner := RX3) (x := ⟨"EaterWebs$Being", "grows", "(J)J"⟩) 1 hts (lw_O q683 q686 q684 q692 q688 q98 q689) rfl rfl rfl q691 (by decide +kernel) ⟨(Nat.le_trans (by decide : 3 ≤ 3) h5), (Nat.le_trans (by decide : 62 ≤ 62) h6)⟩) hk rfl rfl rfl h3 hd hf (fun v u H1 locs1 hp _ hE => by subst hp; have h9 := kk H1 locs1 hE; unfold v_grows at h9; rw [if_neg h0, if_neg h1, if_neg h2] at h9; exact h9)
end C_v_grows
