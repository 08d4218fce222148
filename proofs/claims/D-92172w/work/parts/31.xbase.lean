/-! the component: rows of the reader and of a being's own fields, Math, casts, calls up the classes -/
set_option maxRecDepth 100000
def rdr (Z : ZT) (B : BT) (r t : Nat) : Nat × va_E := (r, .inr (2, [.ref (B.2 t), .int (Z.1 42 0), .int (Z.1 43 0)]))
/-- a text that is there, its reader within it -/
def RD (t : Nat) (Z : ZT) : Prop := t < 4 ∧ ¬ Z.1 40 t = -1 ∧ 0 ≤ (Z.1 40 t).toInt ∧ (Z.1 40 t).toInt ≤ 60 ∧ 0 ≤ (Z.1 42 0).toInt ∧ (Z.1 42 0).toInt ≤ (Z.1 40 t).toInt
theorem rd_at {x : Nat} {ar : Nat → Nat} {cs : Nat → ClassId} {Z : ZT} {B : BT} {Y : va_W} {r t : Nat} : ∃ k : Nat, (WX x ar cs Z B (rdr Z B r t :: Y))[k]? = some (r, .inr (2, [.ref (B.2 t), .int (Z.1 42 0), .int (Z.1 43 0)])) ∧ ∀ q : Nat × va_E, (WX x ar cs Z B (rdr Z B r t :: Y)).set k q = WX x ar cs Z B (q :: Y) := by
  have e : ∀ q : Nat × va_E, WX x ar cs Z B (q :: Y) = (XB x ar cs Z B ++ (bels Z B ++ txls cs Z B)) ++ (q :: Y) := fun q => by unfold WX; simp only [List.append_assoc]
  refine ⟨(XB x ar cs Z B ++ (bels Z B ++ txls cs Z B)).length, ?_, fun q => ?_⟩
  · rw [e, List.getElem?_append_right (Nat.le_refl _), Nat.sub_self]
    rfl
  · rw [e, e, List.set_append_right _ _ (Nat.le_refl _), Nat.sub_self]
    rfl
def x_abs (a : Int64) : Int64 := if 0 < a then a else -a
def x_maxL (a b : Int64) : Int64 := if b < a then a else b
def x_minL (a b : Int64) : Int64 := if b < a then b else a
def x_minI (a b : Int32) : Int32 := if b < a then b else a
section XB1
variable {p : Program} {l : Launch} {e : Env} {R : Room} {s : State} {mid : MethodId} {args : Array Value} {below : List Frame} {meth : Method} {c : Code} {H : Heap} {locs : List Loc} {cells slots : Nat} {Q : State → Prop} {cc : ByteArray} {pc : Nat} {ls : Array Slot} {rest : List Value} {D : va_G} {A : Nat → Prop} {H0 : Heap} {x : Nat} {ar : Nat → Nat} {cs : Nat → ClassId} {Z : ZT} {B : BT} {Y : va_W} {b t r nL mF mL : Nat}
theorem rg_at (hx : p.tables.exec = Jvm.exec) (hb : c.code = cc) (hts : ∀ w ∈ lw_all, w.before args s = true) (hown : s.vm.findClass RX2 = some mid.cls) (hK : KK D cs s) (hE : EW D A H0 (WX x ar cs Z B (rdr Z B r t :: Y)) H locs) (hd : decode cc pc = .ok (.getfield 13, 3)) (kk : W p l e R s mid args below meth c H locs cells slots Q (F0 mid (pc + 3) ls (.int (Z.1 42 0) :: rest))) : W p l e R s mid args below meth c H locs cells slots Q (F0 mid pc ls (.ref r :: rest)) := by
  obtain ⟨k9, hk, -⟩ := rd_at (x := x) (ar := ar) (cs := cs) (Z := Z) (B := B) (Y := Y) (r := r) (t := t)
  exact va_get (D := D) (cl := vwCl) (tys := tyL cs) (ci := 2) (v := .int (Z.1 42 0)) (C := RX2) (T := TX2) (N := 3) hx hb hts in_X2 hown hK.1 hE.1 k9 hk rfl 1 (by decide) (hts _ q380) (fun _ h9 => h9) rfl hd kk
theorem rp_at {x1 : Int32} (hx : p.tables.exec = Jvm.exec) (hb : c.code = cc) (hts : ∀ w ∈ lw_all, w.before args s = true) (hown : s.vm.findClass RX2 = some mid.cls) (hK : KK D cs s) (hE : EW D A H0 (WX x ar cs Z B (rdr Z B r t :: Y)) H locs) (hd : decode cc pc = .ok (.putfield 13, 3)) (kk : ∀ (H1 : Heap) (locs1 : List Loc), EW D A H0 (WX x ar cs (sI Z 42 0 x1) B (rdr (sI Z 42 0 x1) B r t :: Y)) H1 locs1 → W p l e R s mid args below meth c H1 locs1 cells slots Q (F0 mid (pc + 3) ls (rest))) : W p l e R s mid args below meth c H locs cells slots Q (F0 mid pc ls (.int x1 :: .ref r :: rest)) := by
  obtain ⟨k9, hk, hs⟩ := rd_at (x := x) (ar := ar) (cs := cs) (Z := Z) (B := B) (Y := Y) (r := r) (t := t)
  exact va_put (D := D) (cl := vwCl) (tys := tyL cs) (ci := 2) (v := .int x1) (ty := .int) (C := RX2) (T := TX2) (N := 3) hx hb hts in_X2 tyX2 tyX2_ok nmX2 hown hK.1 hE.1 hE.2.1 hE.2.2 k9 hk rfl 1 (by decide) (hts _ q380) (fun _ h9 => h9) rfl (by decide +kernel) rfl rfl (Nat.le_of_ble_eq_true rfl) hd (fun H1 locs1 hP hD hS => kk H1 locs1 (EW.cast (hs (r, .inr (2, [.ref (B.2 t), .int x1, .int (Z.1 43 0)]))) hP hD hS))
theorem rgx_at (hx : p.tables.exec = Jvm.exec) (hb : c.code = cc) (hts : ∀ w ∈ lw_all, w.before args s = true) (hown : s.vm.findClass RX0 = some mid.cls) (hK : KK D cs s) (hE : EW D A H0 (WX x ar cs Z B (rdr Z B r t :: Y)) H locs) (hd : decode cc pc = .ok (.getfield 115, 3)) (kk : W p l e R s mid args below meth c H locs cells slots Q (F0 mid (pc + 3) ls (.int (Z.1 42 0) :: rest))) : W p l e R s mid args below meth c H locs cells slots Q (F0 mid pc ls (.ref r :: rest)) := by
  obtain ⟨k9, hk, -⟩ := rd_at (x := x) (ar := ar) (cs := cs) (Z := Z) (B := B) (Y := Y) (r := r) (t := t)
  exact va_getN (D := D) (cl := vwCl) (tys := tyL cs) (ci := 2) (v := .int (Z.1 42 0)) (C := RX2) (T := TX2) (N := 3) hx hb hts in_X2 hown hK.1 hE.1 k9 hk rfl 1 (by decide) (va_Nw.use rfl (hK.2.1 (.fieldLinkNest "EaterWebs" 115 "EaterWebs$Reader" "at" "I" "EaterWebs") (by simp [nwL, nwF]))) (fun _ h9 => h9) rfl hd kk
theorem rpx_at {x1 : Int32} (hx : p.tables.exec = Jvm.exec) (hb : c.code = cc) (hts : ∀ w ∈ lw_all, w.before args s = true) (hown : s.vm.findClass RX0 = some mid.cls) (hK : KK D cs s) (hE : EW D A H0 (WX x ar cs Z B (rdr Z B r t :: Y)) H locs) (hd : decode cc pc = .ok (.putfield 115, 3)) (kk : ∀ (H1 : Heap) (locs1 : List Loc), EW D A H0 (WX x ar cs (sI Z 42 0 x1) B (rdr (sI Z 42 0 x1) B r t :: Y)) H1 locs1 → W p l e R s mid args below meth c H1 locs1 cells slots Q (F0 mid (pc + 3) ls (rest))) : W p l e R s mid args below meth c H locs cells slots Q (F0 mid pc ls (.int x1 :: .ref r :: rest)) := by
  obtain ⟨k9, hk, hs⟩ := rd_at (x := x) (ar := ar) (cs := cs) (Z := Z) (B := B) (Y := Y) (r := r) (t := t)
  exact va_putN (D := D) (cl := vwCl) (tys := tyL cs) (ci := 2) (v := .int x1) (ty := .int) (C := RX2) (T := TX2) (N := 3) hx hb hts in_X2 tyX2 tyX2_ok nmX2 hown hK.1 hE.1 hE.2.1 hE.2.2 k9 hk rfl 1 (by decide) (va_Nw.use rfl (hK.2.1 (.fieldLinkNest "EaterWebs" 115 "EaterWebs$Reader" "at" "I" "EaterWebs") (by simp [nwL, nwF]))) (fun _ h9 => h9) rfl (by decide +kernel) rfl rfl (Nat.le_of_ble_eq_true rfl) hd (fun H1 locs1 hP hD hS => kk H1 locs1 (EW.cast (hs (r, .inr (2, [.ref (B.2 t), .int x1, .int (Z.1 43 0)]))) hP hD hS))
theorem rg_number (hx : p.tables.exec = Jvm.exec) (hb : c.code = cc) (hts : ∀ w ∈ lw_all, w.before args s = true) (hown : s.vm.findClass RX2 = some mid.cls) (hK : KK D cs s) (hE : EW D A H0 (WX x ar cs Z B (rdr Z B r t :: Y)) H locs) (hd : decode cc pc = .ok (.getfield 25, 3)) (kk : W p l e R s mid args below meth c H locs cells slots Q (F0 mid (pc + 3) ls (.int (Z.1 43 0) :: rest))) : W p l e R s mid args below meth c H locs cells slots Q (F0 mid pc ls (.ref r :: rest)) := by
  obtain ⟨k9, hk, -⟩ := rd_at (x := x) (ar := ar) (cs := cs) (Z := Z) (B := B) (Y := Y) (r := r) (t := t)
  exact va_get (D := D) (cl := vwCl) (tys := tyL cs) (ci := 2) (v := .int (Z.1 43 0)) (C := RX2) (T := TX2) (N := 3) hx hb hts in_X2 hown hK.1 hE.1 k9 hk rfl 2 (by decide) (hts _ q382) (fun _ h9 => h9) rfl hd kk
theorem rp_number {x1 : Int32} (hx : p.tables.exec = Jvm.exec) (hb : c.code = cc) (hts : ∀ w ∈ lw_all, w.before args s = true) (hown : s.vm.findClass RX2 = some mid.cls) (hK : KK D cs s) (hE : EW D A H0 (WX x ar cs Z B (rdr Z B r t :: Y)) H locs) (hd : decode cc pc = .ok (.putfield 25, 3)) (kk : ∀ (H1 : Heap) (locs1 : List Loc), EW D A H0 (WX x ar cs (sI Z 43 0 x1) B (rdr (sI Z 43 0 x1) B r t :: Y)) H1 locs1 → W p l e R s mid args below meth c H1 locs1 cells slots Q (F0 mid (pc + 3) ls (rest))) : W p l e R s mid args below meth c H locs cells slots Q (F0 mid pc ls (.int x1 :: .ref r :: rest)) := by
  obtain ⟨k9, hk, hs⟩ := rd_at (x := x) (ar := ar) (cs := cs) (Z := Z) (B := B) (Y := Y) (r := r) (t := t)
  exact va_put (D := D) (cl := vwCl) (tys := tyL cs) (ci := 2) (v := .int x1) (ty := .int) (C := RX2) (T := TX2) (N := 3) hx hb hts in_X2 tyX2 tyX2_ok nmX2 hown hK.1 hE.1 hE.2.1 hE.2.2 k9 hk rfl 2 (by decide) (hts _ q382) (fun _ h9 => h9) rfl (by decide +kernel) rfl rfl (Nat.le_of_ble_eq_true rfl) hd (fun H1 locs1 hP hD hS => kk H1 locs1 (EW.cast (hs (r, .inr (2, [.ref (B.2 t), .int (Z.1 42 0), .int x1]))) hP hD hS))
theorem rgx_number (hx : p.tables.exec = Jvm.exec) (hb : c.code = cc) (hts : ∀ w ∈ lw_all, w.before args s = true) (hown : s.vm.findClass RX0 = some mid.cls) (hK : KK D cs s) (hE : EW D A H0 (WX x ar cs Z B (rdr Z B r t :: Y)) H locs) (hd : decode cc pc = .ok (.getfield 160, 3)) (kk : W p l e R s mid args below meth c H locs cells slots Q (F0 mid (pc + 3) ls (.int (Z.1 43 0) :: rest))) : W p l e R s mid args below meth c H locs cells slots Q (F0 mid pc ls (.ref r :: rest)) := by
  obtain ⟨k9, hk, -⟩ := rd_at (x := x) (ar := ar) (cs := cs) (Z := Z) (B := B) (Y := Y) (r := r) (t := t)
  exact va_getN (D := D) (cl := vwCl) (tys := tyL cs) (ci := 2) (v := .int (Z.1 43 0)) (C := RX2) (T := TX2) (N := 3) hx hb hts in_X2 hown hK.1 hE.1 k9 hk rfl 2 (by decide) (va_Nw.use rfl (hK.2.1 (.fieldLinkNest "EaterWebs" 160 "EaterWebs$Reader" "number" "I" "EaterWebs") (by simp [nwL, nwF]))) (fun _ h9 => h9) rfl hd kk
theorem rpx_number {x1 : Int32} (hx : p.tables.exec = Jvm.exec) (hb : c.code = cc) (hts : ∀ w ∈ lw_all, w.before args s = true) (hown : s.vm.findClass RX0 = some mid.cls) (hK : KK D cs s) (hE : EW D A H0 (WX x ar cs Z B (rdr Z B r t :: Y)) H locs) (hd : decode cc pc = .ok (.putfield 160, 3)) (kk : ∀ (H1 : Heap) (locs1 : List Loc), EW D A H0 (WX x ar cs (sI Z 43 0 x1) B (rdr (sI Z 43 0 x1) B r t :: Y)) H1 locs1 → W p l e R s mid args below meth c H1 locs1 cells slots Q (F0 mid (pc + 3) ls (rest))) : W p l e R s mid args below meth c H locs cells slots Q (F0 mid pc ls (.int x1 :: .ref r :: rest)) := by
  obtain ⟨k9, hk, hs⟩ := rd_at (x := x) (ar := ar) (cs := cs) (Z := Z) (B := B) (Y := Y) (r := r) (t := t)
  exact va_putN (D := D) (cl := vwCl) (tys := tyL cs) (ci := 2) (v := .int x1) (ty := .int) (C := RX2) (T := TX2) (N := 3) hx hb hts in_X2 tyX2 tyX2_ok nmX2 hown hK.1 hE.1 hE.2.1 hE.2.2 k9 hk rfl 2 (by decide) (va_Nw.use rfl (hK.2.1 (.fieldLinkNest "EaterWebs" 160 "EaterWebs$Reader" "number" "I" "EaterWebs") (by simp [nwL, nwF]))) (fun _ h9 => h9) rfl (by decide +kernel) rfl rfl (Nat.le_of_ble_eq_true rfl) hd (fun H1 locs1 hP hD hS => kk H1 locs1 (EW.cast (hs (r, .inr (2, [.ref (B.2 t), .int (Z.1 42 0), .int x1]))) hP hD hS))
theorem rg_text (hx : p.tables.exec = Jvm.exec) (hb : c.code = cc) (hts : ∀ w ∈ lw_all, w.before args s = true) (hown : s.vm.findClass RX2 = some mid.cls) (hK : KK D cs s) (hE : EW D A H0 (WX x ar cs Z B (rdr Z B r t :: Y)) H locs) (hd : decode cc pc = .ok (.getfield 7, 3)) (kk : W p l e R s mid args below meth c H locs cells slots Q (F0 mid (pc + 3) ls (.ref (B.2 t) :: rest))) : W p l e R s mid args below meth c H locs cells slots Q (F0 mid pc ls (.ref r :: rest)) := by
  obtain ⟨k9, hk, -⟩ := rd_at (x := x) (ar := ar) (cs := cs) (Z := Z) (B := B) (Y := Y) (r := r) (t := t)
  exact va_get (D := D) (cl := vwCl) (tys := tyL cs) (ci := 2) (v := .ref (B.2 t)) (C := RX2) (T := TX2) (N := 3) hx hb hts in_X2 hown hK.1 hE.1 k9 hk rfl 0 (by decide) (hts _ q379) (fun _ h9 => h9) rfl hd kk
theorem xtaR {i : Int32} (ht : t < 4) (hn : ¬ Z.1 40 t = -1) (h : vp_in i (ix (Z.1 40 t))) (h6 : ix i < 60) (hx : p.tables.exec = Jvm.exec) (hb : c.code = cc) (hK : KK D cs s) (hE : EW D A H0 (WX x ar cs Z B Y) H locs) (hd : decode cc pc = .ok (.baload, 1)) (kk : W p l e R s mid args below meth c H locs cells slots Q (F0 mid (pc + 1) ls (.int (Z.1 41 (60 * t + ix i)) :: rest))) : W p l e R s mid args below meth c H locs cells slots Q (F0 mid pc ls (.int i :: .ref (B.2 t) :: rest)) := by
  have h9 := xta (rest := rest) ht hn h h6 hx hb hK hE hd kk
  rw [adt_of hn] at h9
  exact h9
theorem xtlR (ht : t < 4) (hn : ¬ Z.1 40 t = -1) (h0 : 0 ≤ (Z.1 40 t).toInt) (hx : p.tables.exec = Jvm.exec) (hb : c.code = cc) (hK : KK D cs s) (hE : EW D A H0 (WX x ar cs Z B Y) H locs) (hd : decode cc pc = .ok (.arraylength, 1)) (kk : W p l e R s mid args below meth c H locs cells slots Q (F0 mid (pc + 1) ls (.int (Z.1 40 t) :: rest))) : W p l e R s mid args below meth c H locs cells slots Q (F0 mid pc ls (.ref (B.2 t) :: rest)) := by
  have h9 := xtl (rest := rest) ht hn h0 hx hb hK hE hd kk
  rw [adt_of hn] at h9
  exact h9
theorem xog_32 (hb8 : b < 8) (hnn : ¬ Z.1 30 b = 0) (hx : p.tables.exec = Jvm.exec) (hb : c.code = cc) (hts : ∀ w ∈ lw_all, w.before args s = true) (hown : s.vm.findClass RX3 = some mid.cls) (hK : KK D cs s) (hE : EW D A H0 (WX x ar cs Z B Y) H locs) (hd : decode cc pc = .ok (.getfield 15, 3)) (kk : W p l e R s mid args below meth c H locs cells slots Q (F0 mid (pc + 3) ls (.int (Z.1 32 b) :: rest))) : W p l e R s mid args below meth c H locs cells slots Q (F0 mid pc ls (.ref (B.1 b) :: rest)) := by
  obtain ⟨k9, hk, -⟩ := be_at (x := x) (ar := ar) (cs := cs) (B := B) (Y := Y) hb8 hnn
  by_cases h0 : Z.1 31 b = 0
  · rw [beF_0 h0] at hk
    exact va_get (D := D) (cl := vwCl) (tys := tyL cs) (ci := 3) (v := .int (Z.1 32 b)) (C := RX3) (T := TX3) (N := 3) hx hb hts in_X3 hown hK.1 hE.1 k9 hk rfl 0 (by decide) (hts _ q454) (fun _ h9 => h9) rfl hd kk
  by_cases h1 : Z.1 31 b = 1
  · rw [beF_1 h1] at hk
    exact va_get (D := D) (cl := vwCl) (tys := tyL cs) (ci := 4) (v := .int (Z.1 32 b)) (C := RX4) (T := TX4) (N := 5) hx hb hts in_X4 hown hK.1 hE.1 k9 hk rfl 0 (by decide) (hts _ q454) (fun _ h9 => h9) rfl hd kk
  by_cases h2 : Z.1 31 b = 2
  · rw [beF_2 h2] at hk
    exact va_get (D := D) (cl := vwCl) (tys := tyL cs) (ci := 5) (v := .int (Z.1 32 b)) (C := RX5) (T := TX5) (N := 5) hx hb hts in_X5 hown hK.1 hE.1 k9 hk rfl 0 (by decide) (hts _ q454) (fun _ h9 => h9) rfl hd kk
  rw [beF_3 h0 h1 h2] at hk
  exact va_get (D := D) (cl := vwCl) (tys := tyL cs) (ci := 6) (v := .int (Z.1 32 b)) (C := RX6) (T := TX6) (N := 6) hx hb hts in_X6 hown hK.1 hE.1 k9 hk rfl 0 (by decide) (hts _ q454) (fun _ h9 => h9) rfl hd kk
theorem xog_35 (hb8 : b < 8) (hnn : ¬ Z.1 30 b = 0) (h1 : Z.1 31 b = 1) (hx : p.tables.exec = Jvm.exec) (hb : c.code = cc) (hts : ∀ w ∈ lw_all, w.before args s = true) (hown : s.vm.findClass RX4 = some mid.cls) (hK : KK D cs s) (hE : EW D A H0 (WX x ar cs Z B Y) H locs) (hd : decode cc pc = .ok (.getfield 9, 3)) (kk : W p l e R s mid args below meth c H locs cells slots Q (F0 mid (pc + 3) ls (.int (Z.1 35 b) :: rest))) : W p l e R s mid args below meth c H locs cells slots Q (F0 mid pc ls (.ref (B.1 b) :: rest)) := by
  obtain ⟨k9, hk, -⟩ := be_at (x := x) (ar := ar) (cs := cs) (B := B) (Y := Y) hb8 hnn
  rw [beF_1 h1] at hk
  exact va_get (D := D) (cl := vwCl) (tys := tyL cs) (ci := 4) (v := .int (Z.1 35 b)) (C := RX4) (T := TX4) (N := 5) hx hb hts in_X4 hown hK.1 hE.1 k9 hk rfl 3 (by decide) (hts _ q472) (fun _ h9 => h9) rfl hd kk
theorem xog_36 (hb8 : b < 8) (hnn : ¬ Z.1 30 b = 0) (h1 : Z.1 31 b = 1) (hx : p.tables.exec = Jvm.exec) (hb : c.code = cc) (hts : ∀ w ∈ lw_all, w.before args s = true) (hown : s.vm.findClass RX4 = some mid.cls) (hK : KK D cs s) (hE : EW D A H0 (WX x ar cs Z B Y) H locs) (hd : decode cc pc = .ok (.getfield 15, 3)) (kk : W p l e R s mid args below meth c H locs cells slots Q (F0 mid (pc + 3) ls (.int (Z.1 36 b) :: rest))) : W p l e R s mid args below meth c H locs cells slots Q (F0 mid pc ls (.ref (B.1 b) :: rest)) := by
  obtain ⟨k9, hk, -⟩ := be_at (x := x) (ar := ar) (cs := cs) (B := B) (Y := Y) hb8 hnn
  rw [beF_1 h1] at hk
  exact va_get (D := D) (cl := vwCl) (tys := tyL cs) (ci := 4) (v := .int (Z.1 36 b)) (C := RX4) (T := TX4) (N := 5) hx hb hts in_X4 hown hK.1 hE.1 k9 hk rfl 4 (by decide) (hts _ q474) (fun _ h9 => h9) rfl hd kk
theorem xog_37 (hb8 : b < 8) (hnn : ¬ Z.1 30 b = 0) (h0 : ¬ Z.1 31 b = 0) (h1 : ¬ Z.1 31 b = 1) (hx : p.tables.exec = Jvm.exec) (hb : c.code = cc) (hts : ∀ w ∈ lw_all, w.before args s = true) (hown : s.vm.findClass RX5 = some mid.cls) (hK : KK D cs s) (hE : EW D A H0 (WX x ar cs Z B Y) H locs) (hd : decode cc pc = .ok (.getfield 9, 3)) (kk : W p l e R s mid args below meth c H locs cells slots Q (F0 mid (pc + 3) ls (.int (Z.1 37 b) :: rest))) : W p l e R s mid args below meth c H locs cells slots Q (F0 mid pc ls (.ref (B.1 b) :: rest)) := by
  obtain ⟨k9, hk, -⟩ := be_at (x := x) (ar := ar) (cs := cs) (B := B) (Y := Y) hb8 hnn
  by_cases h2 : Z.1 31 b = 2
  · rw [beF_2 h2] at hk
    exact va_get (D := D) (cl := vwCl) (tys := tyL cs) (ci := 5) (v := .int (Z.1 37 b)) (C := RX5) (T := TX5) (N := 5) hx hb hts in_X5 hown hK.1 hE.1 k9 hk rfl 3 (by decide) (hts _ q490) (fun _ h9 => h9) rfl hd kk
  rw [beF_3 h0 h1 h2] at hk
  exact va_get (D := D) (cl := vwCl) (tys := tyL cs) (ci := 6) (v := .int (Z.1 37 b)) (C := RX6) (T := TX6) (N := 6) hx hb hts in_X6 hown hK.1 hE.1 k9 hk rfl 3 (by decide) (hts _ q490) (fun _ h9 => h9) rfl hd kk
theorem xog_38 (hb8 : b < 8) (hnn : ¬ Z.1 30 b = 0) (h0 : ¬ Z.1 31 b = 0) (h1 : ¬ Z.1 31 b = 1) (hx : p.tables.exec = Jvm.exec) (hb : c.code = cc) (hts : ∀ w ∈ lw_all, w.before args s = true) (hown : s.vm.findClass RX5 = some mid.cls) (hK : KK D cs s) (hE : EW D A H0 (WX x ar cs Z B Y) H locs) (hd : decode cc pc = .ok (.getfield 15, 3)) (kk : W p l e R s mid args below meth c H locs cells slots Q (F0 mid (pc + 3) ls (.int (Z.1 38 b) :: rest))) : W p l e R s mid args below meth c H locs cells slots Q (F0 mid pc ls (.ref (B.1 b) :: rest)) := by
  obtain ⟨k9, hk, -⟩ := be_at (x := x) (ar := ar) (cs := cs) (B := B) (Y := Y) hb8 hnn
  by_cases h2 : Z.1 31 b = 2
  · rw [beF_2 h2] at hk
    exact va_get (D := D) (cl := vwCl) (tys := tyL cs) (ci := 5) (v := .int (Z.1 38 b)) (C := RX5) (T := TX5) (N := 5) hx hb hts in_X5 hown hK.1 hE.1 k9 hk rfl 4 (by decide) (hts _ q492) (fun _ h9 => h9) rfl hd kk
  rw [beF_3 h0 h1 h2] at hk
  exact va_get (D := D) (cl := vwCl) (tys := tyL cs) (ci := 6) (v := .int (Z.1 38 b)) (C := RX6) (T := TX6) (N := 6) hx hb hts in_X6 hown hK.1 hE.1 k9 hk rfl 4 (by decide) (hts _ q492) (fun _ h9 => h9) rfl hd kk
theorem be_recv (hb8 : b < 8) (hnn : ¬ Z.1 30 b = 0) (hK : KK D cs s) (hE : EW D A H0 (WX x ar cs Z B Y) H locs) {q : vw_C} (hc : vwCl[(beF Z b).1]? = some q) : ∃ cell : Cell, H[B.1 b]? = some cell ∧ cell.vm.isStatics = false ∧ s.vm.findClass q.1 = some cell.cls := by
  obtain ⟨k9, hk, -⟩ := be_at (x := x) (ar := ar) (cs := cs) (B := B) (Y := Y) hb8 hnn
  exact va_recv hK.1 hE.1 hc (fs := (beF Z b).2) hk
theorem xcast_1 (hb8 : b < 8) (hnn : ¬ Z.1 30 b = 0) (h1 : Z.1 31 b = 1) (hx : p.tables.exec = Jvm.exec) (hb : c.code = cc) (hts : ∀ w ∈ lw_all, w.before args s = true) (hown : s.vm.findClass RX0 = some mid.cls) (hK : KK D cs s) (hE : EW D A H0 (WX x ar cs Z B Y) H locs) (hd : decode cc pc = .ok (.checkcast 167, 3)) (kk : W p l e R s mid args below meth c H locs cells slots Q (F0 mid (pc + 3) ls (va_rf (adr Z B b) :: rest))) : W p l e R s mid args below meth c H locs cells slots Q (F0 mid pc ls (va_rf (adr Z B b) :: rest)) := by
  rw [adr_of hnn] at kk ⊢
  exact va_castS hx hb hown (hts _ q466) (hK.1.1 4 (RX4, TX4, 5) rfl).2 (be_recv hb8 hnn hK hE (q := (RX4, TX4, 5)) (by rw [beF_1 h1]; rfl)) hd kk
theorem xcast_2 (hb8 : b < 8) (hnn : ¬ Z.1 30 b = 0) (h0 : ¬ Z.1 31 b = 0) (h1 : ¬ Z.1 31 b = 1) (hx : p.tables.exec = Jvm.exec) (hb : c.code = cc) (hts : ∀ w ∈ lw_all, w.before args s = true) (hown : s.vm.findClass RX0 = some mid.cls) (hK : KK D cs s) (hE : EW D A H0 (WX x ar cs Z B Y) H locs) (hd : decode cc pc = .ok (.checkcast 170, 3)) (kk : W p l e R s mid args below meth c H locs cells slots Q (F0 mid (pc + 3) ls (va_rf (adr Z B b) :: rest))) : W p l e R s mid args below meth c H locs cells slots Q (F0 mid pc ls (va_rf (adr Z B b) :: rest)) := by
  rw [adr_of hnn] at kk ⊢
  by_cases h2 : Z.1 31 b = 2
  · exact va_castS hx hb hown (hts _ q484) (hK.1.1 5 (RX5, TX5, 5) rfl).2 (be_recv hb8 hnn hK hE (q := (RX5, TX5, 5)) (by rw [beF_2 h2]; rfl)) hd kk
  exact va_castY (C := "EaterWebs$Guest") hx hb hown (hts _ q484) (hK.2.1 (.castable "EaterWebs$Guest" "EaterWebs$Eater") (by simp [nwL, nwC])) (be_recv hb8 hnn hK hE (q := (RX6, TX6, 6)) (by rw [beF_3 h0 h1 h2]; rfl)) hd kk
theorem xcast_3 (hb8 : b < 8) (hnn : ¬ Z.1 30 b = 0) (h0 : ¬ Z.1 31 b = 0) (h1 : ¬ Z.1 31 b = 1) (h2 : ¬ Z.1 31 b = 2) (hx : p.tables.exec = Jvm.exec) (hb : c.code = cc) (hts : ∀ w ∈ lw_all, w.before args s = true) (hown : s.vm.findClass RX0 = some mid.cls) (hK : KK D cs s) (hE : EW D A H0 (WX x ar cs Z B Y) H locs) (hd : decode cc pc = .ok (.checkcast 173, 3)) (kk : W p l e R s mid args below meth c H locs cells slots Q (F0 mid (pc + 3) ls (va_rf (adr Z B b) :: rest))) : W p l e R s mid args below meth c H locs cells slots Q (F0 mid pc ls (va_rf (adr Z B b) :: rest)) := by
  rw [adr_of hnn] at kk ⊢
  exact va_castS hx hb hown (hts _ q502) (hK.1.1 6 (RX6, TX6, 6) rfl).2 (be_recv hb8 hnn hK hE (q := (RX6, TX6, 6)) (by rw [beF_3 h0 h1 h2]; rfl)) hd kk
theorem xm_maxL {a1 a2 : Int64} (hx : p.tables.exec = Jvm.exec) (hb : c.code = cc) (hml : c.maxLocals = nL) (hts : ∀ w ∈ lw_all, w.before args s = true) (hown : s.vm.findClass RX0 = some mid.cls) (hls : ls.size = nL) (hRf : mF ≤ R.frames) (hRl : mL ≤ R.locals) (h1 : 1 ≤ mF := by decide) (h2 : 23 ≤ mL := by decide) (h3 : (rest.map fun v => v.category).sum ≤ 8) (hd : decode cc pc = .ok (.invokestatic 263, 3)) (hf : cells ≤ R.cells ∧ slots ≤ R.slots) (kk : W p l e R s mid args below meth c H locs cells slots Q (F0 mid (pc + 3) ls (.long (x_maxL a1 a2) :: rest))) : W p l e R s mid args below meth c H locs cells slots Q (F0 mid pc ls (.long a2 :: .long a1 :: rest)) := va_mmax_long hx hb (hml.trans hls.symm) hown (hts _ q704) (hts _ q705) (hts _ q102) (hts _ q706) (by omega) (by omega) hf.1 hf.2 hd kk
theorem xm_minL {a1 a2 : Int64} (hx : p.tables.exec = Jvm.exec) (hb : c.code = cc) (hml : c.maxLocals = nL) (hts : ∀ w ∈ lw_all, w.before args s = true) (hown : s.vm.findClass RX0 = some mid.cls) (hls : ls.size = nL) (hRf : mF ≤ R.frames) (hRl : mL ≤ R.locals) (h1 : 1 ≤ mF := by decide) (h2 : 23 ≤ mL := by decide) (h3 : (rest.map fun v => v.category).sum ≤ 8) (hd : decode cc pc = .ok (.invokestatic 259, 3)) (hf : cells ≤ R.cells ∧ slots ≤ R.slots) (kk : W p l e R s mid args below meth c H locs cells slots Q (F0 mid (pc + 3) ls (.long (x_minL a1 a2) :: rest))) : W p l e R s mid args below meth c H locs cells slots Q (F0 mid pc ls (.long a2 :: .long a1 :: rest)) := va_mmin_long hx hb (hml.trans hls.symm) hown (hts _ q701) (hts _ q702) (hts _ q102) (hts _ q703) (by omega) (by omega) hf.1 hf.2 hd kk
theorem xm_minI {a1 a2 : Int32} (hx : p.tables.exec = Jvm.exec) (hb : c.code = cc) (hml : c.maxLocals = nL) (hts : ∀ w ∈ lw_all, w.before args s = true) (hown : s.vm.findClass RX0 = some mid.cls) (hls : ls.size = nL) (hRf : mF ≤ R.frames) (hRl : mL ≤ R.locals) (h1 : 1 ≤ mF := by decide) (h2 : 23 ≤ mL := by decide) (h3 : (rest.map fun v => v.category).sum ≤ 8) (hd : decode cc pc = .ok (.invokestatic 266, 3)) (hf : cells ≤ R.cells ∧ slots ≤ R.slots) (kk : W p l e R s mid args below meth c H locs cells slots Q (F0 mid (pc + 3) ls (.int (x_minI a1 a2) :: rest))) : W p l e R s mid args below meth c H locs cells slots Q (F0 mid pc ls (.int a2 :: .int a1 :: rest)) := va_mmin hx hb (hml.trans hls.symm) hown (hts _ q707) (hts _ q708) (hts _ q102) (hts _ q709) (by omega) (by omega) hf.1 hf.2 hd kk
theorem xm_abs {a1 : Int64} (hx : p.tables.exec = Jvm.exec) (hb : c.code = cc) (hml : c.maxLocals = nL) (hts : ∀ w ∈ lw_all, w.before args s = true) (hown : s.vm.findClass RX0 = some mid.cls) (hls : ls.size = nL) (hRf : mF ≤ R.frames) (hRl : mL ≤ R.locals) (h1 : 1 ≤ mF := by decide) (h2 : 23 ≤ mL := by decide) (h3 : (rest.map fun v => v.category).sum ≤ 8) (hd : decode cc pc = .ok (.invokestatic 67, 3)) (hf : cells ≤ R.cells ∧ slots ≤ R.slots) (kk : W p l e R s mid args below meth c H locs cells slots Q (F0 mid (pc + 3) ls (.long (x_abs a1) :: rest))) : W p l e R s mid args below meth c H locs cells slots Q (F0 mid pc ls (.long a1 :: rest)) := va_mabs_long hx hb (hml.trans hls.symm) hown (hts _ q848) (hts _ q849) (hts _ q102) (hts _ q850) (by omega) (by omega) hf.1 hf.2 hd kk
end XB1
/-! a call over the classes: the reference names x, the receiver's class selects y -/
section GCU
variable {p : Program} {l : Launch} {e : Env} {R : Room} {s : State} {mid : MethodId} {args : Array Value} {below : List Frame} {meth : Method} {c : Code} {H : Heap} {locs : List Loc} {cells slots : Nat} {Q : State → Prop} {cc : ByteArray} {pc : Nat} {ls : Array Slot} {rest : List Value} {D : va_G} {A : Nat → Prop} {cs : Nat → ClassId} {ws : va_W} {nL : Nat}
variable {x y : MethodName} {cc' : ByteArray} {maxL' mc ms index n q0 ci : Nat} {ret : Option FieldType} {rm : Room} {own C' owner : String} {S : Type} {wf : S → va_W} {b : Nat} {As st0 : List Value} {fs : List Value} {T' : u_T} {N' : Nat}
theorem lw_O {own : String} {idx : Nat} {C owner : String} {x y : MethodName} {b : ByteArray} {L : Nat} {r : Option FieldType} (h1 : Cond.methodLink own idx x ∈ lw_all) (h2 : Cond.sameMethod x.cls owner x.name x.desc ∈ lw_all) (h3 : Cond.instanceMethod ⟨owner, x.name, x.desc⟩ ∈ lw_all) (h4 : Cond.selects C x y ∈ lw_all) (h5 : Cond.instanceMethod y ∈ lw_all) (h6 : Cond.initialized y.cls ∈ lw_all) (h7 : Cond.code y b L r ∈ lw_all) : GoodIn lw_all (va_wsO own idx C owner x y (ws_ y b L r)) := by
  refine lw_app ?_ (lw_meth h7)
  intro w hw
  simp only [List.mem_cons, List.not_mem_nil, or_false] at hw
  rcases hw with e | e | e | e | e | e
  · rw [e]; exact h1
  · rw [e]; exact h2
  · rw [e]; exact h3
  · rw [e]; exact h4
  · rw [e]; exact h5
  · rw [e]; exact h6
theorem lw_U {own : String} {idx : Nat} {C owner : String} {x y : MethodName} {b : ByteArray} {L : Nat} {r : Option FieldType} (h1 : Cond.methodLink own idx x ∈ lw_all) (h2 : Cond.sameMethod x.cls owner x.name x.desc ∈ lw_all) (h4 : Cond.selects C x y ∈ lw_all) (h5 : Cond.instanceMethod y ∈ lw_all) (h6 : Cond.initialized y.cls ∈ lw_all) (h7 : Cond.code y b L r ∈ lw_all) : GoodIn lw_all (va_wsU own idx C owner x y (ws_ y b L r)) := by
  refine lw_app ?_ (lw_meth h7)
  intro w hw
  simp only [List.mem_cons, List.not_mem_nil, or_false] at hw
  rcases hw with e | e | e | e | e
  · rw [e]; exact h1
  · rw [e]; exact h2
  · rw [e]; exact h4
  · rw [e]; exact h5
  · rw [e]; exact h6
theorem lw_SU {own : String} {idx : Nat} {y : MethodName} {b : ByteArray} {L : Nat} {r : Option FieldType} (h1 : Cond.methodLink own idx y ∈ lw_all) (h2 : Cond.sameMethod y.cls y.cls y.name y.desc ∈ lw_all) (h3 : Cond.superclass own y.cls ∈ lw_all) (h5 : Cond.instanceMethod y ∈ lw_all) (h6 : Cond.initialized y.cls ∈ lw_all) (h7 : Cond.code y b L r ∈ lw_all) : GoodIn lw_all (va_wsSU own idx y (ws_ y b L r)) := by
  refine lw_app ?_ (lw_meth h7)
  intro w hw
  simp only [List.mem_cons, List.not_mem_nil, or_false] at hw
  rcases hw with e | e | e | e | e
  · rw [e]; exact h1
  · rw [e]; exact h2
  · rw [e]; exact h3
  · rw [e]; exact h5
  · rw [e]; exact h6
theorem gCallU_i {P : Int32 → S → Prop} (hx : p.tables.exec = Jvm.exec) (hb : c.code = cc) (hml : c.maxLocals = nL) (hown : s.vm.findClass own = some mid.cls) (hts : ∀ w ∈ lw_all, w.before args s = true) (hK : KK D cs s) (hA : ∀ q : Nat, s.heap.size ≤ q → A q) (hE : EW D A s.heap ws H locs) (hls : ls.size = nL)
    (hM : Met l y (ws_ y cc' maxL' ret) rm (va_Pc (.ref b :: As) (wSt D cs ws H.size)) (cQi P D wf ws H.size) mc ms (va_A ws H.size))
    (cw : va_CU R s args own C' owner index x y cc' maxL' ret (ws_ y cc' maxL' ret) rm mc ms n) (hrv : ws[q0]? = some (b, .inr (ci, fs))) (hcl : vwCl[ci]? = some (C', T', N')) (hn : As.length = n) (hst : st0 = As.reverse ++ .ref b :: rest) (hr : (rest.map fun v => v.category).sum ≤ 8) (hd : decode cc pc = .ok (.invokevirtual index, 3)) (hf : cells + mc ≤ R.cells ∧ slots + ms ≤ R.slots)
    (kk : ∀ (v : Int32) (u : S) (H1 : Heap) (locs1 : List Loc), P v u → H.size ≤ H1.size → EW D A s.heap (wf u) H1 locs1 → W p l e R s mid args below meth c H1 locs1 (cells + mc) (slots + ms) Q (F0 mid (pc + 3) ls (.int v :: rest))) : W p l e R s mid args below meth c H locs cells slots Q (F0 mid pc ls st0) := by
  refine va_calli (va_runU (C := C') (As := As) (rest := rest) ⟨hx, hb, hml, hown, hts⟩ hM cw ⟨wSt.blind, va_recv (q := (C', T', N')) hK.1 hE.1 hcl hrv, fun U hU hW => ⟨rfl, wSt.of hK hE hU hW⟩⟩ rfl hn hls hst (lv_room hr) hd hf) hE.2.2 (fun q _ h => gFree hA hE q h) (gFree hA hE) ?_
  intro v u t H1 locs1 ht hvm hp hB hz1 hk1 hS
  exact kk v u H1 locs1 hp hz1 (gAfter hA hE hB ht hS)
theorem gCallSU_i {P : Int32 → S → Prop} (hx : p.tables.exec = Jvm.exec) (hb : c.code = cc) (hml : c.maxLocals = nL) (hown : s.vm.findClass own = some mid.cls) (hts : ∀ w ∈ lw_all, w.before args s = true) (hK : KK D cs s) (hA : ∀ q : Nat, s.heap.size ≤ q → A q) (hE : EW D A s.heap ws H locs) (hls : ls.size = nL)
    (hM : Met l y (ws_ y cc' maxL' ret) rm (va_Pc (.ref b :: As) (wSt D cs ws H.size)) (cQi P D wf ws H.size) mc ms (va_A ws H.size))
    (cw : va_CS R s args own index y cc' maxL' ret (ws_ y cc' maxL' ret) rm mc ms n) (hrv : ws[q0]? = some (b, .inr (ci, fs))) (hcl : vwCl[ci]? = some (C', T', N')) (hn : As.length = n) (hst : st0 = As.reverse ++ .ref b :: rest) (hr : (rest.map fun v => v.category).sum ≤ 8) (hd : decode cc pc = .ok (.invokespecial index, 3)) (hf : cells + mc ≤ R.cells ∧ slots + ms ≤ R.slots)
    (kk : ∀ (v : Int32) (u : S) (H1 : Heap) (locs1 : List Loc), P v u → H.size ≤ H1.size → EW D A s.heap (wf u) H1 locs1 → W p l e R s mid args below meth c H1 locs1 (cells + mc) (slots + ms) Q (F0 mid (pc + 3) ls (.int v :: rest))) : W p l e R s mid args below meth c H locs cells slots Q (F0 mid pc ls st0) := by
  refine va_calli (va_runSU (C := C') (As := As) (rest := rest) (hK.1.1 ci _ hcl).2 ⟨hx, hb, hml, hown, hts⟩ hM cw ⟨wSt.blind, va_recv (q := (C', T', N')) hK.1 hE.1 hcl hrv, fun U hU hW => ⟨rfl, wSt.of hK hE hU hW⟩⟩ rfl hn hls hst (lv_room hr) hd hf) hE.2.2 (fun q _ h => gFree hA hE q h) (gFree hA hE) ?_
  intro v u t H1 locs1 ht hvm hp hB hz1 hk1 hS
  exact kk v u H1 locs1 hp hz1 (gAfter hA hE hB ht hS)
theorem gCallU_l {P : Int64 → S → Prop} (hx : p.tables.exec = Jvm.exec) (hb : c.code = cc) (hml : c.maxLocals = nL) (hown : s.vm.findClass own = some mid.cls) (hts : ∀ w ∈ lw_all, w.before args s = true) (hK : KK D cs s) (hA : ∀ q : Nat, s.heap.size ≤ q → A q) (hE : EW D A s.heap ws H locs) (hls : ls.size = nL)
    (hM : Met l y (ws_ y cc' maxL' ret) rm (va_Pc (.ref b :: As) (wSt D cs ws H.size)) (cQl P D wf ws H.size) mc ms (va_A ws H.size))
    (cw : va_CU R s args own C' owner index x y cc' maxL' ret (ws_ y cc' maxL' ret) rm mc ms n) (hrv : ws[q0]? = some (b, .inr (ci, fs))) (hcl : vwCl[ci]? = some (C', T', N')) (hn : As.length = n) (hst : st0 = As.reverse ++ .ref b :: rest) (hr : (rest.map fun v => v.category).sum ≤ 8) (hd : decode cc pc = .ok (.invokevirtual index, 3)) (hf : cells + mc ≤ R.cells ∧ slots + ms ≤ R.slots)
    (kk : ∀ (v : Int64) (u : S) (H1 : Heap) (locs1 : List Loc), P v u → H.size ≤ H1.size → EW D A s.heap (wf u) H1 locs1 → W p l e R s mid args below meth c H1 locs1 (cells + mc) (slots + ms) Q (F0 mid (pc + 3) ls (.long v :: rest))) : W p l e R s mid args below meth c H locs cells slots Q (F0 mid pc ls st0) := by
  refine va_calll (va_runU (C := C') (As := As) (rest := rest) ⟨hx, hb, hml, hown, hts⟩ hM cw ⟨wSt.blind, va_recv (q := (C', T', N')) hK.1 hE.1 hcl hrv, fun U hU hW => ⟨rfl, wSt.of hK hE hU hW⟩⟩ rfl hn hls hst (lv_room hr) hd hf) hE.2.2 (fun q _ h => gFree hA hE q h) (gFree hA hE) ?_
  intro v u t H1 locs1 ht hvm hp hB hz1 hk1 hS
  exact kk v u H1 locs1 hp hz1 (gAfter hA hE hB ht hS)
theorem gCallSU_l {P : Int64 → S → Prop} (hx : p.tables.exec = Jvm.exec) (hb : c.code = cc) (hml : c.maxLocals = nL) (hown : s.vm.findClass own = some mid.cls) (hts : ∀ w ∈ lw_all, w.before args s = true) (hK : KK D cs s) (hA : ∀ q : Nat, s.heap.size ≤ q → A q) (hE : EW D A s.heap ws H locs) (hls : ls.size = nL)
    (hM : Met l y (ws_ y cc' maxL' ret) rm (va_Pc (.ref b :: As) (wSt D cs ws H.size)) (cQl P D wf ws H.size) mc ms (va_A ws H.size))
    (cw : va_CS R s args own index y cc' maxL' ret (ws_ y cc' maxL' ret) rm mc ms n) (hrv : ws[q0]? = some (b, .inr (ci, fs))) (hcl : vwCl[ci]? = some (C', T', N')) (hn : As.length = n) (hst : st0 = As.reverse ++ .ref b :: rest) (hr : (rest.map fun v => v.category).sum ≤ 8) (hd : decode cc pc = .ok (.invokespecial index, 3)) (hf : cells + mc ≤ R.cells ∧ slots + ms ≤ R.slots)
    (kk : ∀ (v : Int64) (u : S) (H1 : Heap) (locs1 : List Loc), P v u → H.size ≤ H1.size → EW D A s.heap (wf u) H1 locs1 → W p l e R s mid args below meth c H1 locs1 (cells + mc) (slots + ms) Q (F0 mid (pc + 3) ls (.long v :: rest))) : W p l e R s mid args below meth c H locs cells slots Q (F0 mid pc ls st0) := by
  refine va_calll (va_runSU (C := C') (As := As) (rest := rest) (hK.1.1 ci _ hcl).2 ⟨hx, hb, hml, hown, hts⟩ hM cw ⟨wSt.blind, va_recv (q := (C', T', N')) hK.1 hE.1 hcl hrv, fun U hU hW => ⟨rfl, wSt.of hK hE hU hW⟩⟩ rfl hn hls hst (lv_room hr) hd hf) hE.2.2 (fun q _ h => gFree hA hE q h) (gFree hA hE) ?_
  intro v u t H1 locs1 ht hvm hp hB hz1 hk1 hS
  exact kk v u H1 locs1 hp hz1 (gAfter hA hE hB ht hS)
end GCU
