/-! the twin: items -/
set_option maxRecDepth 100000
def m_digits_b8 (p1 : Nat) (p2 : Nat) (p3 : Nat) (w8 : Int32 × ZT) : Bool × (Int32 × ZT) := (if (p2 + p3) ≤ (ix (w8.2.1 12 0)) then (false, (w8.1, w8.2)) else (if (m_isDigit p1 (ix (w8.2.1 12 0)) w8.2) = 0 then (false, (w8.1, w8.2)) else (true, (((((10 : Int32) * w8.1) + (m_at p1 (ix (w8.2.1 12 0)) w8.2)) - (48 : Int32)), sI w8.2 12 0 (nI ((ix (w8.2.1 12 0)) + 1))))))
def m_digits_e8 (w8 : Int32 × ZT) : Int32 × ZT := (w8.1, w8.2)
def m_digits (p1 : Nat) (p2 : Nat) (p3 : Nat) (Z : ZT) : Int32 × ZT := m_digits_e8 (wlR (m_digits_b8 p1 p2 p3) (p3 + 1) ((0 : Int32), sI Z 12 0 (nI p2)))
set_option maxHeartbeats 4000000 in
set_option maxRecDepth 100000 in
theorem met_m_digits (l : Launch) (D : va_G) (cs : Nat → ClassId) (m : Nat) (ar : Nat → Nat) (Z : ZT) (sz : Nat) (p1 : Nat) (p2 : Nat) (p3 : Nat) (hn1 : p1 < 4) (hn2 : p2 < 70) (hn3 : p3 < 10) (hT : (Z.1 5 p1).toInt ≤ 60) : Met l yX1_digits (ws_ yX1_digits cX1_digits 5 (some .int)) ({ frames := 2, cells := 0, slots := 0, locals := 44 }) (va_Pc [.ref m, .int (nI p1), .int (nI p2), .int (nI p3)] (wSt D cs (MW m ar cs Z) sz)) (cQi (fun (v : Int32) (u : ZT) => m_digits p1 p2 p3 Z = (v, u)) D (fun u => MW m ar cs u) (MW m ar cs Z) sz) 0 0 (va_A (MW m ar cs Z) sz) := by
  refine gStart_i (C := RX1) rfl rfl (Nat.le_of_ble_eq_true rfl) ?_
  intro p e s mid args below meth c R Q A hx hb hml hown hts hK hA hRf hRl hRc hRs hret hE ls hl
  have hRf : 2 ≤ R.frames := hRf
  have hRl : 44 ≤ R.locals := hRl
  have hl : lv_has ls 5 [(0, .ref m), (1, .int (nI p1)), (2, .int (nI p2)), (3, .int (nI p3))] := hl
  have hR : m_digits p1 p2 p3 Z = (m_digits_e8 (wlR (m_digits_b8 p1 p2 p3) (p3 + 1) ((0 : Int32), sI Z 12 0 (nI p2)))) := rfl
  refine lv_iconst (v := 0) hx hb dX1_digits_0 rfl ?_
  refine lv_istore (lv' := [(4, .int (0 : Int32)), (0, .ref m), (1, .int (nI p1)), (2, .int (nI p2)), (3, .int (nI p3))]) hx hb dX1_digits_1 hl (by decide) rfl (fun ls hl => ?_)
  refine lv_aload_n hx hb dX1_digits_3 rfl (lv_at hl 1 rfl) ?_
  refine lv_iload_n hx hb dX1_digits_4 rfl (lv_at hl 3 rfl) ?_
  refine mp_12 hx hb hts hown hK hE dX1_digits_5 (fun H locs hE => ?_)
  have hX8 : ∀ (w8 : Int32 × ZT) (hj8 : ∃ j : Nat, p2 ≤ j ∧ j ≤ p2 + p3 ∧ w8.2.1 12 0 = nI j) (hT8 : (w8.2.1 5 p1).toInt ≤ 60) (hR : m_digits p1 p2 p3 Z = m_digits_e8 w8), ∀ (H : Heap) (locs : List Loc) (ls : Array Slot), EW D A s.heap (MW m ar cs w8.2) H locs → lv_has ls 5 [(4, .int w8.1)] → W p l e R s mid args below meth c H locs 0 0 Q (F0 mid 63 ls []) := by
    intro w8 hj8 hT8 hR H locs ls hE hl
    have hR : m_digits p1 p2 p3 Z = (w8.1, w8.2) := hR
    refine lv_iload hx hb dX1_digits_63 (lv_at hl 0 rfl) ?_
    exact hret w8.1 w8.2 hR rfl hE (Nat.le_refl 0) (Nat.le_refl 0) dX1_digits_65
  have hL8 : ∀ (n : Nat) (w8 : Int32 × ZT) (hm8 : p2 + p3 - ix (w8.2.1 12 0) < n) (hj8 : ∃ j : Nat, p2 ≤ j ∧ j ≤ p2 + p3 ∧ w8.2.1 12 0 = nI j) (hT8 : (w8.2.1 5 p1).toInt ≤ 60) (hR : m_digits p1 p2 p3 Z = m_digits_e8 (wlR (m_digits_b8 p1 p2 p3) n w8)), ∀ (H : Heap) (locs : List Loc) (ls : Array Slot), EW D A s.heap (MW m ar cs w8.2) H locs → lv_has ls 5 [(0, .ref m), (1, .int (nI p1)), (2, .int (nI p2)), (3, .int (nI p3)), (4, .int w8.1)] → W p l e R s mid args below meth c H locs 0 0 Q (F0 mid 8 ls []) := by
    intro n
    induction n with
    | zero =>
      intro w8 hm8
      exact absurd hm8 (Nat.not_lt_zero _)
    | succ n ih8 =>
      intro w8 hm8 hj8 hT8 hR H locs ls hE hl
      have hv8 : vp_in (w8.2.1 12 0) 100 := by obtain ⟨j, h1, h2, h3⟩ := hj8; rw [h3]; exact vp_in_nI (by omega) (by decide)
      have hjx8 : p2 ≤ ix (w8.2.1 12 0) ∧ ix (w8.2.1 12 0) ≤ p2 + p3 := by obtain ⟨j, h1, h2, h3⟩ := hj8; rw [h3, ix_nI (by omega)]; exact ⟨h1, h2⟩
      have hB8 : m_digits_b8 p1 p2 p3 w8 = (if (p2 + p3) ≤ (ix (w8.2.1 12 0)) then (false, (w8.1, w8.2)) else (if (m_isDigit p1 (ix (w8.2.1 12 0)) w8.2) = 0 then (false, (w8.1, w8.2)) else (true, (((((10 : Int32) * w8.1) + (m_at p1 (ix (w8.2.1 12 0)) w8.2)) - (48 : Int32)), sI w8.2 12 0 (nI ((ix (w8.2.1 12 0)) + 1)))))) := rfl
      refine lv_aload_n hx hb dX1_digits_8 rfl (lv_at hl 0 rfl) ?_
      refine mg_12 hx hb hts hown hK hE dX1_digits_9 ?_
      have hna9 := vp_ix (x := w8.2.1 12 0) (N := 100) (hv8) (by decide)
      have hna9b := hna9.2
      refine top_nat hna9.1 ?_
      refine lv_iload_n hx hb dX1_digits_12 rfl (lv_at hl 2 rfl) ?_
      refine lv_iload_n hx hb dX1_digits_13 rfl (lv_at hl 3 rfl) ?_
      refine n_add (a := p2) (b := p3) hx hb dX1_digits_14 ?_
      refine n_icmp_ge (a := (ix (w8.2.1 12 0))) (b := (p2 + p3)) (tgt := 63) (by omega) (by omega) hx hb dX1_digits_15 (by decide) (fun c15 => ?_) (fun c15 => ?_)
      · have hB8 : m_digits_b8 p1 p2 p3 w8 = (false, (w8.1, w8.2)) := hB8.trans (congrArg (fun z => z) (if_pos c15))
        exact hX8 (w8.1, w8.2) (by exact hj8) (by exact hT8) (hR.trans (congrArg (fun z => m_digits_e8 z) (wl_f hB8))) _ _ _ hE (lv_sub hl [4] rfl)
      · have hB8 : m_digits_b8 p1 p2 p3 w8 = (if (m_isDigit p1 (ix (w8.2.1 12 0)) w8.2) = 0 then (false, (w8.1, w8.2)) else (true, (((((10 : Int32) * w8.1) + (m_at p1 (ix (w8.2.1 12 0)) w8.2)) - (48 : Int32)), sI w8.2 12 0 (nI ((ix (w8.2.1 12 0)) + 1))))) := hB8.trans (congrArg (fun z => z) (if_neg c15))
        refine lv_aload_n hx hb dX1_digits_18 rfl (lv_at hl 0 rfl) ?_
        refine lv_iload_n hx hb dX1_digits_19 rfl (lv_at hl 1 rfl) ?_
        refine lv_aload_n hx hb dX1_digits_20 rfl (lv_at hl 0 rfl) ?_
        refine mg_12 hx hb hts hown hK hE dX1_digits_21 ?_
        have hna21 := vp_ix (x := w8.2.1 12 0) (N := 100) (hv8) (by decide)
        have hna21b := hna21.2
        refine top_nat hna21.1 ?_
        refine call_m_isDigit hx hb hml hown hts hK hA hE hl.1 p1 (ix (w8.2.1 12 0)) (by omega) (by omega) (hT8) (lz (show 2 ≤ 2 by decide) hRf) (lz (show 44 ≤ 44 by decide) hRl) (Nat.le_of_ble_eq_true rfl) dX1_digits_24 (fun H locs hE => ?_)
        refine lv_if_eq (tgt := 63) hx hb dX1_digits_27 (by decide) (fun c27 => ?_) (fun c27 => ?_)
        · have hB8 : m_digits_b8 p1 p2 p3 w8 = (false, (w8.1, w8.2)) := hB8.trans (congrArg (fun z => z) (if_pos c27))
          exact hX8 (w8.1, w8.2) (by exact hj8) (by exact hT8) (hR.trans (congrArg (fun z => m_digits_e8 z) (wl_f hB8))) _ _ _ hE (lv_sub hl [4] rfl)
        · have hB8 : m_digits_b8 p1 p2 p3 w8 = (true, (((((10 : Int32) * w8.1) + (m_at p1 (ix (w8.2.1 12 0)) w8.2)) - (48 : Int32)), sI w8.2 12 0 (nI ((ix (w8.2.1 12 0)) + 1)))) := hB8.trans (congrArg (fun z => z) (if_neg c27))
          refine lv_bipush (v := 10) hx hb dX1_digits_30 rfl ?_
          refine lv_iload hx hb dX1_digits_32 (lv_at hl 4 rfl) ?_
          refine lv_imul hx hb dX1_digits_34 ?_
          refine lv_aload_n hx hb dX1_digits_35 rfl (lv_at hl 0 rfl) ?_
          refine lv_iload_n hx hb dX1_digits_36 rfl (lv_at hl 1 rfl) ?_
          refine lv_aload_n hx hb dX1_digits_37 rfl (lv_at hl 0 rfl) ?_
          refine mg_12 hx hb hts hown hK hE dX1_digits_38 ?_
          have hna38 := vp_ix (x := w8.2.1 12 0) (N := 100) (hv8) (by decide)
          have hna38b := hna38.2
          refine top_nat hna38.1 ?_
          refine call_m_at hx hb hml hown hts hK hA hE hl.1 p1 (ix (w8.2.1 12 0)) (by omega) (by omega) (hT8) (lz (show 1 ≤ 2 by decide) hRf) (lz (show 22 ≤ 44 by decide) hRl) (Nat.le_of_ble_eq_true rfl) dX1_digits_41 (fun H locs hE => ?_)
          refine lv_iadd hx hb dX1_digits_44 ?_
          refine lv_bipush (v := 48) hx hb dX1_digits_45 rfl ?_
          refine lv_isub hx hb dX1_digits_47 ?_
          refine lv_istore (lv' := [(4, .int ((((10 : Int32) * w8.1) + (m_at p1 (ix (w8.2.1 12 0)) w8.2)) - (48 : Int32))), (0, .ref m), (1, .int (nI p1)), (2, .int (nI p2)), (3, .int (nI p3))]) hx hb dX1_digits_48 hl (by decide) rfl (fun ls hl => ?_)
          refine lv_aload_n hx hb dX1_digits_50 rfl (lv_at hl 1 rfl) ?_
          refine lv_dup hx hb dX1_digits_51 rfl ?_
          refine mg_12 hx hb hts hown hK hE dX1_digits_52 ?_
          have hna52 := vp_ix (x := w8.2.1 12 0) (N := 100) (hv8) (by decide)
          have hna52b := hna52.2
          refine top_nat hna52.1 ?_
          refine lv_iconst (v := 1) hx hb dX1_digits_55 rfl ?_
          refine n_add (a := (ix (w8.2.1 12 0))) (b := 1) hx hb dX1_digits_56 ?_
          refine mp_12 hx hb hts hown hK hE dX1_digits_57 (fun H locs hE => ?_)
          refine lv_goto (tgt := 8) hx hb dX1_digits_60 (by decide) ?_
          exact ih8 (((((10 : Int32) * w8.1) + (m_at p1 (ix (w8.2.1 12 0)) w8.2)) - (48 : Int32)), sI w8.2 12 0 (nI ((ix (w8.2.1 12 0)) + 1))) (by show p2 + p3 - ix (nI (ix (w8.2.1 12 0) + 1)) < n; rw [ix_nI (by omega)]; omega) (by exact ⟨ix (w8.2.1 12 0) + 1, by omega, by omega, rfl⟩) (by exact hT8) (hR.trans (congrArg (fun z => m_digits_e8 z) (wl_t hB8))) _ _ _ hE (lv_sub hl [1, 2, 3, 4, 0] rfl)
  exact hL8 (p3 + 1) ((0 : Int32), sI Z 12 0 (nI p2)) (by show p2 + p3 - ix (nI p2) < p3 + 1; rw [ix_nI (by omega)]; omega) (by exact ⟨p2, by omega, by omega, rfl⟩) (by exact hT) hR _ _ _ hE (lv_sub hl [1, 2, 3, 4, 0] rfl)
section C_digits
variable {p : Program} {l : Launch} {e : Env} {R : Room} {s : State} {mid : MethodId} {args : Array Value} {below : List Frame} {meth : Method} {c : Code} {H : Heap} {locs : List Loc} {Q : State → Prop} {cc : ByteArray} {pc : Nat} {ls : Array Slot} {rest : List Value} {D : va_G} {A : Nat → Prop} {m : Nat} {ar : Nat → Nat} {cs : Nat → ClassId} {Z : ZT} {nL : Nat}
theorem call_m_digits (hx : p.tables.exec = Jvm.exec) (hb : c.code = cc) (hml : c.maxLocals = nL) (hown : s.vm.findClass RX1 = some mid.cls) (hts : ∀ w ∈ lw_all, w.before args s = true) (hK : KK D cs s) (hA : ∀ q : Nat, s.heap.size ≤ q → A q) (hE : EW D A s.heap (MW m ar cs Z) H locs) (hls : ls.size = nL) (p1 : Nat) (p2 : Nat) (p3 : Nat) (hn1 : p1 < 4) (hn2 : p2 < 70) (hn3 : p3 < 10) (hT : (Z.1 5 p1).toInt ≤ 60) (h1 : 3 ≤ R.frames) (h2 : 68 ≤ R.locals) (h3 : (rest.map fun v => v.category).sum ≤ 8) (hd : decode cc pc = .ok (.invokevirtual 149, 3)) (kk : ∀ (H1 : Heap) (locs1 : List Loc), EW D A s.heap (MW m ar cs (m_digits p1 p2 p3 Z).2) H1 locs1 → W p l e R s mid args below meth c H1 locs1 0 0 Q (F0 mid (pc + 3) ls (.int (m_digits p1 p2 p3 Z).1 :: rest))) : W p l e R s mid args below meth c H locs 0 0 Q (F0 mid pc ls (.int (nI p3) :: .int (nI p2) :: .int (nI p1) :: .ref m :: rest)) :=
  gCall_i (As := [.int (nI p1), .int (nI p2), .int (nI p3)]) (rest := rest) (q0 := 0) (ci := 1) (fs := MF ar Z) (T' := TX1) (N' := 52) hx hb hml hown hts hK hA hE hls (met_m_digits l D cs m ar Z H.size p1 p2 p3 hn1 hn2 hn3 hT) (cwV 3 hts (lw_V q1143 q1145 qs45 q85 q1146) rfl rfl rfl (by decide +kernel) ⟨h1, h2⟩) rfl rfl rfl rfl h3 hd ⟨Nat.zero_le _, Nat.zero_le _⟩ (fun v u H1 locs1 hp _ hE => by rw [hp] at kk; exact kk H1 locs1 hE)
end C_digits
def m_item_k225 (w184 : Nat) (wc201 : Int32 × ZT) : Int32 × ZT := (nI w184, sI wc201.2 11 0 wc201.1)
def m_item_c201 (w184 : Nat) (wc201 : Int32 × ZT) : Int32 × ZT := (if wc201.2.1 12 0 = nI w184 then m_item_k225 w184 wc201 else (if (sI wc201.2 11 0 wc201.1).1 11 0 ≤ (100000 : Int32) then ((-9 : Int32), sI wc201.2 11 0 wc201.1) else m_item_k225 w184 wc201))
def m_item_j201 (p1 : Nat) (p2 : Nat) (Z : ZT) (w168 : Int32) (w184 : Nat) (w201 : Nat) : Int32 × ZT := m_item_c201 w184 (m_digits p1 w184 w201 (sI (sI (sI Z 9 0 ((m_at p1 p2 Z) - (97 : Int32))) 8 0 (m_at p1 (p2 + 1) (sI Z 9 0 ((m_at p1 p2 Z) - (97 : Int32))))) 10 0 w168))
def m_item_j184 (p1 : Nat) (p2 : Nat) (Z : ZT) (w128 : Int32) (w168 : Int32) (w184 : Nat) : Int32 × ZT := m_item_j201 p1 p2 Z w168 w184 (if w128 = 0 then 6 else 2)
def m_item_j168 (p1 : Nat) (p2 : Nat) (Z : ZT) (w128 : Int32) (w168 : Int32) : Int32 × ZT := m_item_j184 p1 p2 Z w128 w168 (if w128 = 0 then (p2 + 2) else (p2 + 3))
def m_item_k148 (p1 : Nat) (p2 : Nat) (Z : ZT) (w128 : Int32) : Int32 × ZT := m_item_j168 p1 p2 Z w128 (if w128 = 0 then (0 : Int32) else ((m_at p1 (p2 + 2) (sI (sI Z 9 0 ((m_at p1 p2 Z) - (97 : Int32))) 8 0 (m_at p1 (p2 + 1) (sI Z 9 0 ((m_at p1 p2 Z) - (97 : Int32)))))) - (97 : Int32)))
def m_item_j128 (p1 : Nat) (p2 : Nat) (Z : ZT) (w128 : Int32) : Int32 × ZT := (if w128 = 0 then m_item_k148 p1 p2 Z w128 else (if (m_isLetter p1 (p2 + 2) (sI (sI Z 9 0 ((m_at p1 p2 Z) - (97 : Int32))) 8 0 (m_at p1 (p2 + 1) (sI Z 9 0 ((m_at p1 p2 Z) - (97 : Int32)))))) = 0 then (nI (p2 + 2), sI (sI Z 9 0 ((m_at p1 p2 Z) - (97 : Int32))) 8 0 (m_at p1 (p2 + 1) (sI Z 9 0 ((m_at p1 p2 Z) - (97 : Int32))))) else m_item_k148 p1 p2 Z w128))
def m_item_k114 (p1 : Nat) (p2 : Nat) (Z : ZT) : Int32 × ZT := m_item_j128 p1 p2 Z (if (sI (sI Z 9 0 ((m_at p1 p2 Z) - (97 : Int32))) 8 0 (m_at p1 (p2 + 1) (sI Z 9 0 ((m_at p1 p2 Z) - (97 : Int32))))).1 8 0 = (62 : Int32) then (1 : Int32) else (0 : Int32))
def m_item_m82 (p2 : Nat) (wm82 : ZT) : Int32 × ZT := ((-9 : Int32), sI wm82 12 0 (nI (p2 + 3)))
def m_item (p1 : Nat) (p2 : Nat) (Z : ZT) : Int32 × ZT := (if (m_isLetter p1 p2 Z) = 0 then (nI p2, Z) else (if (sI (sI Z 9 0 ((m_at p1 p2 Z) - (97 : Int32))) 8 0 (m_at p1 (p2 + 1) (sI Z 9 0 ((m_at p1 p2 Z) - (97 : Int32))))).1 8 0 = (33 : Int32) then (if (m_in (m_at p1 (p2 + 2) (sI (sI Z 9 0 ((m_at p1 p2 Z) - (97 : Int32))) 8 0 (m_at p1 (p2 + 1) (sI Z 9 0 ((m_at p1 p2 Z) - (97 : Int32)))))) (48 : Int32) (51 : Int32)) = 0 then (nI (p2 + 2), sI (sI Z 9 0 ((m_at p1 p2 Z) - (97 : Int32))) 8 0 (m_at p1 (p2 + 1) (sI Z 9 0 ((m_at p1 p2 Z) - (97 : Int32))))) else m_item_m82 p2 (sI (sI (sI Z 9 0 ((m_at p1 p2 Z) - (97 : Int32))) 8 0 (m_at p1 (p2 + 1) (sI Z 9 0 ((m_at p1 p2 Z) - (97 : Int32))))) 11 0 ((m_at p1 (p2 + 2) (sI (sI Z 9 0 ((m_at p1 p2 Z) - (97 : Int32))) 8 0 (m_at p1 (p2 + 1) (sI Z 9 0 ((m_at p1 p2 Z) - (97 : Int32)))))) - (48 : Int32)))) else (if (sI (sI Z 9 0 ((m_at p1 p2 Z) - (97 : Int32))) 8 0 (m_at p1 (p2 + 1) (sI Z 9 0 ((m_at p1 p2 Z) - (97 : Int32))))).1 8 0 = (42 : Int32) then m_item_k114 p1 p2 Z else (if (sI (sI Z 9 0 ((m_at p1 p2 Z) - (97 : Int32))) 8 0 (m_at p1 (p2 + 1) (sI Z 9 0 ((m_at p1 p2 Z) - (97 : Int32))))).1 8 0 = (62 : Int32) then m_item_k114 p1 p2 Z else (nI (p2 + 1), sI (sI Z 9 0 ((m_at p1 p2 Z) - (97 : Int32))) 8 0 (m_at p1 (p2 + 1) (sI Z 9 0 ((m_at p1 p2 Z) - (97 : Int32)))))))))
set_option maxHeartbeats 4000000 in
set_option maxRecDepth 100000 in
theorem met_m_item (l : Launch) (D : va_G) (cs : Nat → ClassId) (m : Nat) (ar : Nat → Nat) (Z : ZT) (sz : Nat) (p1 : Nat) (p2 : Nat) (hn1 : p1 < 4) (hn2 : p2 < 60) (hT : (Z.1 5 p1).toInt ≤ 60) : Met l yX1_item (ws_ yX1_item cX1_item 5 (some .int)) ({ frames := 3, cells := 0, slots := 0, locals := 68 }) (va_Pc [.ref m, .int (nI p1), .int (nI p2)] (wSt D cs (MW m ar cs Z) sz)) (cQi (fun (v : Int32) (u : ZT) => m_item p1 p2 Z = (v, u)) D (fun u => MW m ar cs u) (MW m ar cs Z) sz) 0 0 (va_A (MW m ar cs Z) sz) := by
  refine gStart_i (C := RX1) rfl rfl (Nat.le_of_ble_eq_true rfl) ?_
  intro p e s mid args below meth c R Q A hx hb hml hown hts hK hA hRf hRl hRc hRs hret hE ls hl
  have hRf : 3 ≤ R.frames := hRf
  have hRl : 68 ≤ R.locals := hRl
  have hl : lv_has ls 5 [(0, .ref m), (1, .int (nI p1)), (2, .int (nI p2))] := hl
  have hR : m_item p1 p2 Z = (if (m_isLetter p1 p2 Z) = 0 then (nI p2, Z) else (if (sI (sI Z 9 0 ((m_at p1 p2 Z) - (97 : Int32))) 8 0 (m_at p1 (p2 + 1) (sI Z 9 0 ((m_at p1 p2 Z) - (97 : Int32))))).1 8 0 = (33 : Int32) then (if (m_in (m_at p1 (p2 + 2) (sI (sI Z 9 0 ((m_at p1 p2 Z) - (97 : Int32))) 8 0 (m_at p1 (p2 + 1) (sI Z 9 0 ((m_at p1 p2 Z) - (97 : Int32)))))) (48 : Int32) (51 : Int32)) = 0 then (nI (p2 + 2), sI (sI Z 9 0 ((m_at p1 p2 Z) - (97 : Int32))) 8 0 (m_at p1 (p2 + 1) (sI Z 9 0 ((m_at p1 p2 Z) - (97 : Int32))))) else m_item_m82 p2 (sI (sI (sI Z 9 0 ((m_at p1 p2 Z) - (97 : Int32))) 8 0 (m_at p1 (p2 + 1) (sI Z 9 0 ((m_at p1 p2 Z) - (97 : Int32))))) 11 0 ((m_at p1 (p2 + 2) (sI (sI Z 9 0 ((m_at p1 p2 Z) - (97 : Int32))) 8 0 (m_at p1 (p2 + 1) (sI Z 9 0 ((m_at p1 p2 Z) - (97 : Int32)))))) - (48 : Int32)))) else (if (sI (sI Z 9 0 ((m_at p1 p2 Z) - (97 : Int32))) 8 0 (m_at p1 (p2 + 1) (sI Z 9 0 ((m_at p1 p2 Z) - (97 : Int32))))).1 8 0 = (42 : Int32) then m_item_k114 p1 p2 Z else (if (sI (sI Z 9 0 ((m_at p1 p2 Z) - (97 : Int32))) 8 0 (m_at p1 (p2 + 1) (sI Z 9 0 ((m_at p1 p2 Z) - (97 : Int32))))).1 8 0 = (62 : Int32) then m_item_k114 p1 p2 Z else (nI (p2 + 1), sI (sI Z 9 0 ((m_at p1 p2 Z) - (97 : Int32))) 8 0 (m_at p1 (p2 + 1) (sI Z 9 0 ((m_at p1 p2 Z) - (97 : Int32))))))))) := rfl
  refine lv_aload_n hx hb dX1_item_0 rfl (lv_at hl 0 rfl) ?_
  refine lv_iload_n hx hb dX1_item_1 rfl (lv_at hl 1 rfl) ?_
  refine lv_iload_n hx hb dX1_item_2 rfl (lv_at hl 2 rfl) ?_
  refine call_m_isLetter hx hb hml hown hts hK hA hE hl.1 p1 p2 (by omega) (by omega) (by exact hT) (lz (show 2 ≤ 3 by decide) hRf) (lz (show 44 ≤ 68 by decide) hRl) (Nat.le_of_ble_eq_true rfl) dX1_item_3 (fun H locs hE => ?_)
  refine lv_if_ne (tgt := 11) hx hb dX1_item_6 (by decide) (fun c6 => ?_) (fun c6 => ?_)
  · have hR : m_item p1 p2 Z = (if (sI (sI Z 9 0 ((m_at p1 p2 Z) - (97 : Int32))) 8 0 (m_at p1 (p2 + 1) (sI Z 9 0 ((m_at p1 p2 Z) - (97 : Int32))))).1 8 0 = (33 : Int32) then (if (m_in (m_at p1 (p2 + 2) (sI (sI Z 9 0 ((m_at p1 p2 Z) - (97 : Int32))) 8 0 (m_at p1 (p2 + 1) (sI Z 9 0 ((m_at p1 p2 Z) - (97 : Int32)))))) (48 : Int32) (51 : Int32)) = 0 then (nI (p2 + 2), sI (sI Z 9 0 ((m_at p1 p2 Z) - (97 : Int32))) 8 0 (m_at p1 (p2 + 1) (sI Z 9 0 ((m_at p1 p2 Z) - (97 : Int32))))) else m_item_m82 p2 (sI (sI (sI Z 9 0 ((m_at p1 p2 Z) - (97 : Int32))) 8 0 (m_at p1 (p2 + 1) (sI Z 9 0 ((m_at p1 p2 Z) - (97 : Int32))))) 11 0 ((m_at p1 (p2 + 2) (sI (sI Z 9 0 ((m_at p1 p2 Z) - (97 : Int32))) 8 0 (m_at p1 (p2 + 1) (sI Z 9 0 ((m_at p1 p2 Z) - (97 : Int32)))))) - (48 : Int32)))) else (if (sI (sI Z 9 0 ((m_at p1 p2 Z) - (97 : Int32))) 8 0 (m_at p1 (p2 + 1) (sI Z 9 0 ((m_at p1 p2 Z) - (97 : Int32))))).1 8 0 = (42 : Int32) then m_item_k114 p1 p2 Z else (if (sI (sI Z 9 0 ((m_at p1 p2 Z) - (97 : Int32))) 8 0 (m_at p1 (p2 + 1) (sI Z 9 0 ((m_at p1 p2 Z) - (97 : Int32))))).1 8 0 = (62 : Int32) then m_item_k114 p1 p2 Z else (nI (p2 + 1), sI (sI Z 9 0 ((m_at p1 p2 Z) - (97 : Int32))) 8 0 (m_at p1 (p2 + 1) (sI Z 9 0 ((m_at p1 p2 Z) - (97 : Int32)))))))) := hR.trans (congrArg (fun z => z) (if_neg c6))
    refine lv_aload_n hx hb dX1_item_11 rfl (lv_at hl 0 rfl) ?_
    refine lv_aload_n hx hb dX1_item_12 rfl (lv_at hl 0 rfl) ?_
    refine lv_iload_n hx hb dX1_item_13 rfl (lv_at hl 1 rfl) ?_
    refine lv_iload_n hx hb dX1_item_14 rfl (lv_at hl 2 rfl) ?_
    refine call_m_at hx hb hml hown hts hK hA hE hl.1 p1 p2 (by omega) (by omega) (by exact hT) (lz (show 1 ≤ 3 by decide) hRf) (lz (show 22 ≤ 68 by decide) hRl) (Nat.le_of_ble_eq_true rfl) dX1_item_15 (fun H locs hE => ?_)
    refine lv_bipush (v := 97) hx hb dX1_item_18 rfl ?_
    refine lv_isub hx hb dX1_item_20 ?_
    refine mp_9 hx hb hts hown hK hE dX1_item_21 (fun H locs hE => ?_)
    refine lv_aload_n hx hb dX1_item_24 rfl (lv_at hl 0 rfl) ?_
    refine lv_aload_n hx hb dX1_item_25 rfl (lv_at hl 0 rfl) ?_
    refine lv_iload_n hx hb dX1_item_26 rfl (lv_at hl 1 rfl) ?_
    refine lv_iload_n hx hb dX1_item_27 rfl (lv_at hl 2 rfl) ?_
    refine lv_iconst (v := 1) hx hb dX1_item_28 rfl ?_
    refine n_add (a := p2) (b := 1) hx hb dX1_item_29 ?_
    refine call_m_at hx hb hml hown hts hK hA hE hl.1 p1 (p2 + 1) (by omega) (by omega) (by exact hT) (lz (show 1 ≤ 3 by decide) hRf) (lz (show 22 ≤ 68 by decide) hRl) (Nat.le_of_ble_eq_true rfl) dX1_item_30 (fun H locs hE => ?_)
    refine mp_8 hx hb hts hown hK hE dX1_item_33 (fun H locs hE => ?_)
    refine lv_aload_n hx hb dX1_item_36 rfl (lv_at hl 0 rfl) ?_
    refine mg_8 hx hb hts hown hK hE dX1_item_37 ?_
    refine lv_bipush (v := 33) hx hb dX1_item_40 rfl ?_
    refine lv_icmp_ne (tgt := 92) hx hb dX1_item_42 (by decide) (fun c42 => ?_) (fun c42 => ?_)
    · have hR : m_item p1 p2 Z = (if (sI (sI Z 9 0 ((m_at p1 p2 Z) - (97 : Int32))) 8 0 (m_at p1 (p2 + 1) (sI Z 9 0 ((m_at p1 p2 Z) - (97 : Int32))))).1 8 0 = (42 : Int32) then m_item_k114 p1 p2 Z else (if (sI (sI Z 9 0 ((m_at p1 p2 Z) - (97 : Int32))) 8 0 (m_at p1 (p2 + 1) (sI Z 9 0 ((m_at p1 p2 Z) - (97 : Int32))))).1 8 0 = (62 : Int32) then m_item_k114 p1 p2 Z else (nI (p2 + 1), sI (sI Z 9 0 ((m_at p1 p2 Z) - (97 : Int32))) 8 0 (m_at p1 (p2 + 1) (sI Z 9 0 ((m_at p1 p2 Z) - (97 : Int32))))))) := hR.trans (congrArg (fun z => z) (if_neg c42))
      refine lv_aload_n hx hb dX1_item_92 rfl (lv_at hl 0 rfl) ?_
      refine mg_8 hx hb hts hown hK hE dX1_item_93 ?_
      refine lv_bipush (v := 42) hx hb dX1_item_96 rfl ?_
      have hJ114 : ∀ (hR : m_item p1 p2 Z = m_item_k114 p1 p2 Z), ∀ (H : Heap) (locs : List Loc) (ls : Array Slot), EW D A s.heap (MW m ar cs (sI (sI Z 9 0 ((m_at p1 p2 Z) - (97 : Int32))) 8 0 (m_at p1 (p2 + 1) (sI Z 9 0 ((m_at p1 p2 Z) - (97 : Int32)))))) H locs → lv_has ls 5 [(0, .ref m), (1, .int (nI p1)), (2, .int (nI p2))] → W p l e R s mid args below meth c H locs 0 0 Q (F0 mid 114 ls []) := by
        intro hR H locs ls hE hl
        have hR : m_item p1 p2 Z = (m_item_j128 p1 p2 Z (if (sI (sI Z 9 0 ((m_at p1 p2 Z) - (97 : Int32))) 8 0 (m_at p1 (p2 + 1) (sI Z 9 0 ((m_at p1 p2 Z) - (97 : Int32))))).1 8 0 = (62 : Int32) then (1 : Int32) else (0 : Int32))) := hR
        refine lv_aload_n hx hb dX1_item_114 rfl (lv_at hl 0 rfl) ?_
        refine mg_8 hx hb hts hown hK hE dX1_item_115 ?_
        refine lv_bipush (v := 62) hx hb dX1_item_118 rfl ?_
        have hJ128 : ∀ (w128 : Int32) (hR : m_item p1 p2 Z = m_item_j128 p1 p2 Z w128), ∀ (H : Heap) (locs : List Loc) (ls : Array Slot), EW D A s.heap (MW m ar cs (sI (sI Z 9 0 ((m_at p1 p2 Z) - (97 : Int32))) 8 0 (m_at p1 (p2 + 1) (sI Z 9 0 ((m_at p1 p2 Z) - (97 : Int32)))))) H locs → lv_has ls 5 [(0, .ref m), (1, .int (nI p1)), (2, .int (nI p2))] → W p l e R s mid args below meth c H locs 0 0 Q (F0 mid 128 ls [.int w128]) := by
          intro w128 hR H locs ls hE hl
          have hR : m_item p1 p2 Z = (if w128 = 0 then m_item_k148 p1 p2 Z w128 else (if (m_isLetter p1 (p2 + 2) (sI (sI Z 9 0 ((m_at p1 p2 Z) - (97 : Int32))) 8 0 (m_at p1 (p2 + 1) (sI Z 9 0 ((m_at p1 p2 Z) - (97 : Int32)))))) = 0 then (nI (p2 + 2), sI (sI Z 9 0 ((m_at p1 p2 Z) - (97 : Int32))) 8 0 (m_at p1 (p2 + 1) (sI Z 9 0 ((m_at p1 p2 Z) - (97 : Int32))))) else m_item_k148 p1 p2 Z w128)) := hR
          refine lv_istore_n (lv' := [(3, .int w128), (0, .ref m), (1, .int (nI p1)), (2, .int (nI p2))]) hx hb dX1_item_128 rfl hl (by decide) rfl (fun ls hl => ?_)
          refine lv_iload_n hx hb dX1_item_129 rfl (lv_at hl 0 rfl) ?_
          have hJ148 : ∀ (hR : m_item p1 p2 Z = m_item_k148 p1 p2 Z w128), ∀ (H : Heap) (locs : List Loc) (ls : Array Slot), EW D A s.heap (MW m ar cs (sI (sI Z 9 0 ((m_at p1 p2 Z) - (97 : Int32))) 8 0 (m_at p1 (p2 + 1) (sI Z 9 0 ((m_at p1 p2 Z) - (97 : Int32)))))) H locs → lv_has ls 5 [(0, .ref m), (1, .int (nI p1)), (2, .int (nI p2)), (3, .int w128)] → W p l e R s mid args below meth c H locs 0 0 Q (F0 mid 148 ls []) := by
            intro hR H locs ls hE hl
            have hR : m_item p1 p2 Z = (m_item_j168 p1 p2 Z w128 (if w128 = 0 then (0 : Int32) else ((m_at p1 (p2 + 2) (sI (sI Z 9 0 ((m_at p1 p2 Z) - (97 : Int32))) 8 0 (m_at p1 (p2 + 1) (sI Z 9 0 ((m_at p1 p2 Z) - (97 : Int32)))))) - (97 : Int32)))) := hR
            refine lv_aload_n hx hb dX1_item_148 rfl (lv_at hl 0 rfl) ?_
            refine lv_iload_n hx hb dX1_item_149 rfl (lv_at hl 3 rfl) ?_
            have hJ168 : ∀ (w168 : Int32) (hR : m_item p1 p2 Z = m_item_j168 p1 p2 Z w128 w168), ∀ (H : Heap) (locs : List Loc) (ls : Array Slot), EW D A s.heap (MW m ar cs (sI (sI Z 9 0 ((m_at p1 p2 Z) - (97 : Int32))) 8 0 (m_at p1 (p2 + 1) (sI Z 9 0 ((m_at p1 p2 Z) - (97 : Int32)))))) H locs → lv_has ls 5 [(0, .ref m), (1, .int (nI p1)), (2, .int (nI p2)), (3, .int w128)] → W p l e R s mid args below meth c H locs 0 0 Q (F0 mid 168 ls [.int w168, .ref m]) := by
              intro w168 hR H locs ls hE hl
              have hR : m_item p1 p2 Z = (m_item_j184 p1 p2 Z w128 w168 (if w128 = 0 then (p2 + 2) else (p2 + 3))) := hR
              refine mp_10 hx hb hts hown hK hE dX1_item_168 (fun H locs hE => ?_)
              refine lv_iload_n hx hb dX1_item_171 rfl (lv_at hl 3 rfl) ?_
              have hJ184 : ∀ (w184 : Nat) (hw184 : w184 ≤ p2 + 3) (hR : m_item p1 p2 Z = m_item_j184 p1 p2 Z w128 w168 w184), ∀ (H : Heap) (locs : List Loc) (ls : Array Slot), EW D A s.heap (MW m ar cs (sI (sI (sI Z 9 0 ((m_at p1 p2 Z) - (97 : Int32))) 8 0 (m_at p1 (p2 + 1) (sI Z 9 0 ((m_at p1 p2 Z) - (97 : Int32))))) 10 0 w168)) H locs → lv_has ls 5 [(0, .ref m), (1, .int (nI p1)), (3, .int w128)] → W p l e R s mid args below meth c H locs 0 0 Q (F0 mid 184 ls [.int (nI w184)]) := by
                intro w184 hw184 hR H locs ls hE hl
                have hR : m_item p1 p2 Z = (m_item_j201 p1 p2 Z w168 w184 (if w128 = 0 then 6 else 2)) := hR
                refine lv_istore (lv' := [(4, .int (nI w184)), (0, .ref m), (1, .int (nI p1)), (3, .int w128)]) hx hb dX1_item_184 hl (by decide) rfl (fun ls hl => ?_)
                refine lv_aload_n hx hb dX1_item_186 rfl (lv_at hl 1 rfl) ?_
                refine lv_aload_n hx hb dX1_item_187 rfl (lv_at hl 1 rfl) ?_
                refine lv_iload_n hx hb dX1_item_188 rfl (lv_at hl 2 rfl) ?_
                refine lv_iload hx hb dX1_item_189 (lv_at hl 0 rfl) ?_
                refine lv_iload_n hx hb dX1_item_191 rfl (lv_at hl 3 rfl) ?_
                have hJ201 : ∀ (w201 : Nat) (hw201 : w201 ≤ 6) (hR : m_item p1 p2 Z = m_item_j201 p1 p2 Z w168 w184 w201), ∀ (H : Heap) (locs : List Loc) (ls : Array Slot), EW D A s.heap (MW m ar cs (sI (sI (sI Z 9 0 ((m_at p1 p2 Z) - (97 : Int32))) 8 0 (m_at p1 (p2 + 1) (sI Z 9 0 ((m_at p1 p2 Z) - (97 : Int32))))) 10 0 w168)) H locs → lv_has ls 5 [(0, .ref m), (4, .int (nI w184))] → W p l e R s mid args below meth c H locs 0 0 Q (F0 mid 201 ls [.int (nI w201), .int (nI w184), .int (nI p1), .ref m, .ref m]) := by
                  intro w201 hw201 hR H locs ls hE hl
                  have hR : m_item p1 p2 Z = (m_item_c201 w184 (m_digits p1 w184 w201 (sI (sI (sI Z 9 0 ((m_at p1 p2 Z) - (97 : Int32))) 8 0 (m_at p1 (p2 + 1) (sI Z 9 0 ((m_at p1 p2 Z) - (97 : Int32))))) 10 0 w168))) := hR
                  refine call_m_digits hx hb hml hown hts hK hA hE hl.1 p1 w184 w201 (by omega) (by omega) (by omega) (by exact hT) (lz (show 3 ≤ 3 by decide) hRf) (lz (show 68 ≤ 68 by decide) hRl) (Nat.le_of_ble_eq_true rfl) dX1_item_201 (fun H locs hE => ?_)
                  have hNc201 : ∀ (wc201 : Int32 × ZT) (hR : m_item p1 p2 Z = m_item_c201 w184 wc201), ∀ (H : Heap) (locs : List Loc) (ls : Array Slot), EW D A s.heap (MW m ar cs wc201.2) H locs → lv_has ls 5 [(0, .ref m), (4, .int (nI w184))] → W p l e R s mid args below meth c H locs 0 0 Q (F0 mid 204 ls [.int wc201.1, .ref m]) := by
                    intro wc201 hR H locs ls hE hl
                    have hR : m_item p1 p2 Z = (if wc201.2.1 12 0 = nI w184 then m_item_k225 w184 wc201 else (if (sI wc201.2 11 0 wc201.1).1 11 0 ≤ (100000 : Int32) then ((-9 : Int32), sI wc201.2 11 0 wc201.1) else m_item_k225 w184 wc201)) := hR
                    refine mp_11 hx hb hts hown hK hE dX1_item_204 (fun H locs hE => ?_)
                    refine lv_aload_n hx hb dX1_item_207 rfl (lv_at hl 0 rfl) ?_
                    refine mg_12 hx hb hts hown hK hE dX1_item_208 ?_
                    refine lv_iload hx hb dX1_item_211 (lv_at hl 1 rfl) ?_
                    have hJ225 : ∀ (hR : m_item p1 p2 Z = m_item_k225 w184 wc201), ∀ (H : Heap) (locs : List Loc) (ls : Array Slot), EW D A s.heap (MW m ar cs (sI wc201.2 11 0 wc201.1)) H locs → lv_has ls 5 [(4, .int (nI w184))] → W p l e R s mid args below meth c H locs 0 0 Q (F0 mid 225 ls []) := by
                      intro hR H locs ls hE hl
                      have hR : m_item p1 p2 Z = (nI w184, sI wc201.2 11 0 wc201.1) := hR
                      refine lv_iload hx hb dX1_item_225 (lv_at hl 0 rfl) ?_
                      refine lv_goto (tgt := 232) hx hb dX1_item_227 (by decide) ?_
                      exact hret (nI w184) (sI wc201.2 11 0 wc201.1) hR rfl hE (Nat.le_refl 0) (Nat.le_refl 0) dX1_item_232
                    refine lv_icmp_eq (tgt := 225) hx hb dX1_item_213 (by decide) (fun c213 => ?_) (fun c213 => ?_)
                    · have hR : m_item p1 p2 Z = (m_item_k225 w184 wc201) := hR.trans (congrArg (fun z => z) (if_pos c213))
                      exact hJ225  hR _ _ _ hE (lv_sub hl [1] rfl)
                    · have hR : m_item p1 p2 Z = (if (sI wc201.2 11 0 wc201.1).1 11 0 ≤ (100000 : Int32) then ((-9 : Int32), sI wc201.2 11 0 wc201.1) else m_item_k225 w184 wc201) := hR.trans (congrArg (fun z => z) (if_neg c213))
                      refine lv_aload_n hx hb dX1_item_216 rfl (lv_at hl 0 rfl) ?_
                      refine mg_11 hx hb hts hown hK hE dX1_item_217 ?_
                      refine lv_ldc (v := 100000) hx hb hown (hts _ q1151) dX1_item_220 ?_
                      refine lv_icmp_le (tgt := 230) hx hb dX1_item_222 (by decide) (fun c222 => ?_) (fun c222 => ?_)
                      · have hR : m_item p1 p2 Z = ((-9 : Int32), sI wc201.2 11 0 wc201.1) := hR.trans (congrArg (fun z => z) (if_pos c222))
                        refine lv_bipush (v := -9) hx hb dX1_item_230 rfl ?_
                        exact hret (-9 : Int32) (sI wc201.2 11 0 wc201.1) hR rfl hE (Nat.le_refl 0) (Nat.le_refl 0) dX1_item_232
                      · have hR : m_item p1 p2 Z = (m_item_k225 w184 wc201) := hR.trans (congrArg (fun z => z) (if_neg c222))
                        exact hJ225  hR _ _ _ hE (lv_sub hl [1] rfl)
                  exact hNc201 (m_digits p1 w184 w201 (sI (sI (sI Z 9 0 ((m_at p1 p2 Z) - (97 : Int32))) 8 0 (m_at p1 (p2 + 1) (sI Z 9 0 ((m_at p1 p2 Z) - (97 : Int32))))) 10 0 w168)) hR _ _ _ hE (lv_sub hl [0, 1] rfl)
                refine lv_if_eq (tgt := 199) hx hb dX1_item_192 (by decide) (fun c192 => ?_) (fun c192 => ?_)
                · have hR : m_item p1 p2 Z = m_item_j201 p1 p2 Z w168 w184 6 := hR.trans (congrArg (fun z => m_item_j201 p1 p2 Z w168 w184 z) (if_pos c192))
                  refine lv_bipush (v := 6) hx hb dX1_item_199 rfl ?_
                  exact hJ201 6  (by decide) hR _ _ _ hE (lv_sub hl [1, 0] rfl)
                · have hR : m_item p1 p2 Z = m_item_j201 p1 p2 Z w168 w184 2 := hR.trans (congrArg (fun z => m_item_j201 p1 p2 Z w168 w184 z) (if_neg c192))
                  refine lv_iconst (v := 2) hx hb dX1_item_195 rfl ?_
                  refine lv_goto (tgt := 201) hx hb dX1_item_196 (by decide) ?_
                  exact hJ201 2  (by decide) hR _ _ _ hE (lv_sub hl [1, 0] rfl)
              refine lv_if_eq (tgt := 181) hx hb dX1_item_172 (by decide) (fun c172 => ?_) (fun c172 => ?_)
              · have hR : m_item p1 p2 Z = m_item_j184 p1 p2 Z w128 w168 (p2 + 2) := hR.trans (congrArg (fun z => m_item_j184 p1 p2 Z w128 w168 z) (if_pos c172))
                refine lv_iload_n hx hb dX1_item_181 rfl (lv_at hl 2 rfl) ?_
                refine lv_iconst (v := 2) hx hb dX1_item_182 rfl ?_
                refine n_add (a := p2) (b := 2) hx hb dX1_item_183 ?_
                exact hJ184 (p2 + 2)  (by omega) hR _ _ _ hE (lv_sub hl [0, 1, 3] rfl)
              · have hR : m_item p1 p2 Z = m_item_j184 p1 p2 Z w128 w168 (p2 + 3) := hR.trans (congrArg (fun z => m_item_j184 p1 p2 Z w128 w168 z) (if_neg c172))
                refine lv_iload_n hx hb dX1_item_175 rfl (lv_at hl 2 rfl) ?_
                refine lv_iconst (v := 3) hx hb dX1_item_176 rfl ?_
                refine n_add (a := p2) (b := 3) hx hb dX1_item_177 ?_
                refine lv_goto (tgt := 184) hx hb dX1_item_178 (by decide) ?_
                exact hJ184 (p2 + 3)  (by omega) hR _ _ _ hE (lv_sub hl [0, 1, 3] rfl)
            refine lv_if_eq (tgt := 167) hx hb dX1_item_150 (by decide) (fun c150 => ?_) (fun c150 => ?_)
            · have hR : m_item p1 p2 Z = m_item_j168 p1 p2 Z w128 (0 : Int32) := hR.trans (congrArg (fun z => m_item_j168 p1 p2 Z w128 z) (if_pos c150))
              refine lv_iconst (v := 0) hx hb dX1_item_167 rfl ?_
              exact hJ168 (0 : Int32)  hR _ _ _ hE (lv_sub hl [0, 1, 2, 3] rfl)
            · have hR : m_item p1 p2 Z = m_item_j168 p1 p2 Z w128 ((m_at p1 (p2 + 2) (sI (sI Z 9 0 ((m_at p1 p2 Z) - (97 : Int32))) 8 0 (m_at p1 (p2 + 1) (sI Z 9 0 ((m_at p1 p2 Z) - (97 : Int32)))))) - (97 : Int32)) := hR.trans (congrArg (fun z => m_item_j168 p1 p2 Z w128 z) (if_neg c150))
              refine lv_aload_n hx hb dX1_item_153 rfl (lv_at hl 0 rfl) ?_
              refine lv_iload_n hx hb dX1_item_154 rfl (lv_at hl 1 rfl) ?_
              refine lv_iload_n hx hb dX1_item_155 rfl (lv_at hl 2 rfl) ?_
              refine lv_iconst (v := 2) hx hb dX1_item_156 rfl ?_
              refine n_add (a := p2) (b := 2) hx hb dX1_item_157 ?_
              refine call_m_at hx hb hml hown hts hK hA hE hl.1 p1 (p2 + 2) (by omega) (by omega) (by exact hT) (lz (show 1 ≤ 3 by decide) hRf) (lz (show 22 ≤ 68 by decide) hRl) (Nat.le_of_ble_eq_true rfl) dX1_item_158 (fun H locs hE => ?_)
              refine lv_bipush (v := 97) hx hb dX1_item_161 rfl ?_
              refine lv_isub hx hb dX1_item_163 ?_
              refine lv_goto (tgt := 168) hx hb dX1_item_164 (by decide) ?_
              exact hJ168 ((m_at p1 (p2 + 2) (sI (sI Z 9 0 ((m_at p1 p2 Z) - (97 : Int32))) 8 0 (m_at p1 (p2 + 1) (sI Z 9 0 ((m_at p1 p2 Z) - (97 : Int32)))))) - (97 : Int32))  hR _ _ _ hE (lv_sub hl [0, 1, 2, 3] rfl)
          refine lv_if_eq (tgt := 148) hx hb dX1_item_130 (by decide) (fun c130 => ?_) (fun c130 => ?_)
          · have hR : m_item p1 p2 Z = (m_item_k148 p1 p2 Z w128) := hR.trans (congrArg (fun z => z) (if_pos c130))
            exact hJ148  hR _ _ _ hE (lv_sub hl [1, 2, 3, 0] rfl)
          · have hR : m_item p1 p2 Z = (if (m_isLetter p1 (p2 + 2) (sI (sI Z 9 0 ((m_at p1 p2 Z) - (97 : Int32))) 8 0 (m_at p1 (p2 + 1) (sI Z 9 0 ((m_at p1 p2 Z) - (97 : Int32)))))) = 0 then (nI (p2 + 2), sI (sI Z 9 0 ((m_at p1 p2 Z) - (97 : Int32))) 8 0 (m_at p1 (p2 + 1) (sI Z 9 0 ((m_at p1 p2 Z) - (97 : Int32))))) else m_item_k148 p1 p2 Z w128) := hR.trans (congrArg (fun z => z) (if_neg c130))
            refine lv_aload_n hx hb dX1_item_133 rfl (lv_at hl 1 rfl) ?_
            refine lv_iload_n hx hb dX1_item_134 rfl (lv_at hl 2 rfl) ?_
            refine lv_iload_n hx hb dX1_item_135 rfl (lv_at hl 3 rfl) ?_
            refine lv_iconst (v := 2) hx hb dX1_item_136 rfl ?_
            refine n_add (a := p2) (b := 2) hx hb dX1_item_137 ?_
            refine call_m_isLetter hx hb hml hown hts hK hA hE hl.1 p1 (p2 + 2) (by omega) (by omega) (by exact hT) (lz (show 2 ≤ 3 by decide) hRf) (lz (show 44 ≤ 68 by decide) hRl) (Nat.le_of_ble_eq_true rfl) dX1_item_138 (fun H locs hE => ?_)
            refine lv_if_ne (tgt := 148) hx hb dX1_item_141 (by decide) (fun c141 => ?_) (fun c141 => ?_)
            · have hR : m_item p1 p2 Z = (m_item_k148 p1 p2 Z w128) := hR.trans (congrArg (fun z => z) (if_neg c141))
              exact hJ148  hR _ _ _ hE (lv_sub hl [1, 2, 3, 0] rfl)
            · have hR : m_item p1 p2 Z = (nI (p2 + 2), sI (sI Z 9 0 ((m_at p1 p2 Z) - (97 : Int32))) 8 0 (m_at p1 (p2 + 1) (sI Z 9 0 ((m_at p1 p2 Z) - (97 : Int32))))) := hR.trans (congrArg (fun z => z) (if_pos c141))
              refine lv_iload_n hx hb dX1_item_144 rfl (lv_at hl 3 rfl) ?_
              refine lv_iconst (v := 2) hx hb dX1_item_145 rfl ?_
              refine n_add (a := p2) (b := 2) hx hb dX1_item_146 ?_
              exact hret (nI (p2 + 2)) (sI (sI Z 9 0 ((m_at p1 p2 Z) - (97 : Int32))) 8 0 (m_at p1 (p2 + 1) (sI Z 9 0 ((m_at p1 p2 Z) - (97 : Int32))))) hR rfl hE (Nat.le_refl 0) (Nat.le_refl 0) dX1_item_147
        refine lv_icmp_ne (tgt := 127) hx hb dX1_item_120 (by decide) (fun c120 => ?_) (fun c120 => ?_)
        · have hR : m_item p1 p2 Z = m_item_j128 p1 p2 Z (0 : Int32) := hR.trans (congrArg (fun z => m_item_j128 p1 p2 Z z) (if_neg c120))
          refine lv_iconst (v := 0) hx hb dX1_item_127 rfl ?_
          exact hJ128 (0 : Int32)  hR _ _ _ hE (lv_sub hl [0, 1, 2] rfl)
        · have hR : m_item p1 p2 Z = m_item_j128 p1 p2 Z (1 : Int32) := hR.trans (congrArg (fun z => m_item_j128 p1 p2 Z z) (if_pos c120))
          refine lv_iconst (v := 1) hx hb dX1_item_123 rfl ?_
          refine lv_goto (tgt := 128) hx hb dX1_item_124 (by decide) ?_
          exact hJ128 (1 : Int32)  hR _ _ _ hE (lv_sub hl [0, 1, 2] rfl)
      refine lv_icmp_eq (tgt := 114) hx hb dX1_item_98 (by decide) (fun c98 => ?_) (fun c98 => ?_)
      · have hR : m_item p1 p2 Z = (m_item_k114 p1 p2 Z) := hR.trans (congrArg (fun z => z) (if_pos c98))
        exact hJ114  hR _ _ _ hE (lv_sub hl [0, 1, 2] rfl)
      · have hR : m_item p1 p2 Z = (if (sI (sI Z 9 0 ((m_at p1 p2 Z) - (97 : Int32))) 8 0 (m_at p1 (p2 + 1) (sI Z 9 0 ((m_at p1 p2 Z) - (97 : Int32))))).1 8 0 = (62 : Int32) then m_item_k114 p1 p2 Z else (nI (p2 + 1), sI (sI Z 9 0 ((m_at p1 p2 Z) - (97 : Int32))) 8 0 (m_at p1 (p2 + 1) (sI Z 9 0 ((m_at p1 p2 Z) - (97 : Int32)))))) := hR.trans (congrArg (fun z => z) (if_neg c98))
        refine lv_aload_n hx hb dX1_item_101 rfl (lv_at hl 0 rfl) ?_
        refine mg_8 hx hb hts hown hK hE dX1_item_102 ?_
        refine lv_bipush (v := 62) hx hb dX1_item_105 rfl ?_
        refine lv_icmp_eq (tgt := 114) hx hb dX1_item_107 (by decide) (fun c107 => ?_) (fun c107 => ?_)
        · have hR : m_item p1 p2 Z = (m_item_k114 p1 p2 Z) := hR.trans (congrArg (fun z => z) (if_pos c107))
          exact hJ114  hR _ _ _ hE (lv_sub hl [0, 1, 2] rfl)
        · have hR : m_item p1 p2 Z = (nI (p2 + 1), sI (sI Z 9 0 ((m_at p1 p2 Z) - (97 : Int32))) 8 0 (m_at p1 (p2 + 1) (sI Z 9 0 ((m_at p1 p2 Z) - (97 : Int32))))) := hR.trans (congrArg (fun z => z) (if_neg c107))
          refine lv_iload_n hx hb dX1_item_110 rfl (lv_at hl 2 rfl) ?_
          refine lv_iconst (v := 1) hx hb dX1_item_111 rfl ?_
          refine n_add (a := p2) (b := 1) hx hb dX1_item_112 ?_
          exact hret (nI (p2 + 1)) (sI (sI Z 9 0 ((m_at p1 p2 Z) - (97 : Int32))) 8 0 (m_at p1 (p2 + 1) (sI Z 9 0 ((m_at p1 p2 Z) - (97 : Int32))))) hR rfl hE (Nat.le_refl 0) (Nat.le_refl 0) dX1_item_113
    · have hR : m_item p1 p2 Z = (if (m_in (m_at p1 (p2 + 2) (sI (sI Z 9 0 ((m_at p1 p2 Z) - (97 : Int32))) 8 0 (m_at p1 (p2 + 1) (sI Z 9 0 ((m_at p1 p2 Z) - (97 : Int32)))))) (48 : Int32) (51 : Int32)) = 0 then (nI (p2 + 2), sI (sI Z 9 0 ((m_at p1 p2 Z) - (97 : Int32))) 8 0 (m_at p1 (p2 + 1) (sI Z 9 0 ((m_at p1 p2 Z) - (97 : Int32))))) else m_item_m82 p2 (sI (sI (sI Z 9 0 ((m_at p1 p2 Z) - (97 : Int32))) 8 0 (m_at p1 (p2 + 1) (sI Z 9 0 ((m_at p1 p2 Z) - (97 : Int32))))) 11 0 ((m_at p1 (p2 + 2) (sI (sI Z 9 0 ((m_at p1 p2 Z) - (97 : Int32))) 8 0 (m_at p1 (p2 + 1) (sI Z 9 0 ((m_at p1 p2 Z) - (97 : Int32)))))) - (48 : Int32)))) := hR.trans (congrArg (fun z => z) (if_pos c42))
      refine lv_aload_n hx hb dX1_item_45 rfl (lv_at hl 0 rfl) ?_
      refine lv_iload_n hx hb dX1_item_46 rfl (lv_at hl 1 rfl) ?_
      refine lv_iload_n hx hb dX1_item_47 rfl (lv_at hl 2 rfl) ?_
      refine lv_iconst (v := 2) hx hb dX1_item_48 rfl ?_
      refine n_add (a := p2) (b := 2) hx hb dX1_item_49 ?_
      refine call_m_at hx hb hml hown hts hK hA hE hl.1 p1 (p2 + 2) (by omega) (by omega) (by exact hT) (lz (show 1 ≤ 3 by decide) hRf) (lz (show 22 ≤ 68 by decide) hRl) (Nat.le_of_ble_eq_true rfl) dX1_item_50 (fun H locs hE => ?_)
      refine lv_bipush (v := 48) hx hb dX1_item_53 rfl ?_
      refine lv_bipush (v := 51) hx hb dX1_item_55 rfl ?_
      refine call_m_in hx hb hml hown hts hK hA hE hl.1 (m_at p1 (p2 + 2) (sI (sI Z 9 0 ((m_at p1 p2 Z) - (97 : Int32))) 8 0 (m_at p1 (p2 + 1) (sI Z 9 0 ((m_at p1 p2 Z) - (97 : Int32)))))) (48 : Int32) (51 : Int32) (lz (show 1 ≤ 3 by decide) hRf) (lz (show 22 ≤ 68 by decide) hRl) (Nat.le_of_ble_eq_true rfl) dX1_item_57 (fun H locs hE => ?_)
      refine lv_if_ne (tgt := 67) hx hb dX1_item_60 (by decide) (fun c60 => ?_) (fun c60 => ?_)
      · have hR : m_item p1 p2 Z = (m_item_m82 p2 (sI (sI (sI Z 9 0 ((m_at p1 p2 Z) - (97 : Int32))) 8 0 (m_at p1 (p2 + 1) (sI Z 9 0 ((m_at p1 p2 Z) - (97 : Int32))))) 11 0 ((m_at p1 (p2 + 2) (sI (sI Z 9 0 ((m_at p1 p2 Z) - (97 : Int32))) 8 0 (m_at p1 (p2 + 1) (sI Z 9 0 ((m_at p1 p2 Z) - (97 : Int32)))))) - (48 : Int32)))) := hR.trans (congrArg (fun z => z) (if_neg c60))
        refine lv_aload_n hx hb dX1_item_67 rfl (lv_at hl 0 rfl) ?_
        refine lv_aload_n hx hb dX1_item_68 rfl (lv_at hl 0 rfl) ?_
        refine lv_iload_n hx hb dX1_item_69 rfl (lv_at hl 1 rfl) ?_
        refine lv_iload_n hx hb dX1_item_70 rfl (lv_at hl 2 rfl) ?_
        refine lv_iconst (v := 2) hx hb dX1_item_71 rfl ?_
        refine n_add (a := p2) (b := 2) hx hb dX1_item_72 ?_
        refine call_m_at hx hb hml hown hts hK hA hE hl.1 p1 (p2 + 2) (by omega) (by omega) (by exact hT) (lz (show 1 ≤ 3 by decide) hRf) (lz (show 22 ≤ 68 by decide) hRl) (Nat.le_of_ble_eq_true rfl) dX1_item_73 (fun H locs hE => ?_)
        refine lv_bipush (v := 48) hx hb dX1_item_76 rfl ?_
        refine lv_isub hx hb dX1_item_78 ?_
        refine mp_11 hx hb hts hown hK hE dX1_item_79 (fun H locs hE => ?_)
        have hNm82 : ∀ (wm82 : ZT) (hR : m_item p1 p2 Z = m_item_m82 p2 wm82), ∀ (H : Heap) (locs : List Loc) (ls : Array Slot), EW D A s.heap (MW m ar cs wm82) H locs → lv_has ls 5 [(0, .ref m), (2, .int (nI p2))] → W p l e R s mid args below meth c H locs 0 0 Q (F0 mid 82 ls []) := by
          intro wm82 hR H locs ls hE hl
          have hR : m_item p1 p2 Z = ((-9 : Int32), sI wm82 12 0 (nI (p2 + 3))) := hR
          refine lv_aload_n hx hb dX1_item_82 rfl (lv_at hl 0 rfl) ?_
          refine lv_iload_n hx hb dX1_item_83 rfl (lv_at hl 1 rfl) ?_
          refine lv_iconst (v := 3) hx hb dX1_item_84 rfl ?_
          refine n_add (a := p2) (b := 3) hx hb dX1_item_85 ?_
          refine mp_12 hx hb hts hown hK hE dX1_item_86 (fun H locs hE => ?_)
          refine lv_bipush (v := -9) hx hb dX1_item_89 rfl ?_
          exact hret (-9 : Int32) (sI wm82 12 0 (nI (p2 + 3))) hR rfl hE (Nat.le_refl 0) (Nat.le_refl 0) dX1_item_91
        exact hNm82 (sI (sI (sI Z 9 0 ((m_at p1 p2 Z) - (97 : Int32))) 8 0 (m_at p1 (p2 + 1) (sI Z 9 0 ((m_at p1 p2 Z) - (97 : Int32))))) 11 0 ((m_at p1 (p2 + 2) (sI (sI Z 9 0 ((m_at p1 p2 Z) - (97 : Int32))) 8 0 (m_at p1 (p2 + 1) (sI Z 9 0 ((m_at p1 p2 Z) - (97 : Int32)))))) - (48 : Int32))) hR _ _ _ hE (lv_sub hl [0, 2] rfl)
      · have hR : m_item p1 p2 Z = (nI (p2 + 2), sI (sI Z 9 0 ((m_at p1 p2 Z) - (97 : Int32))) 8 0 (m_at p1 (p2 + 1) (sI Z 9 0 ((m_at p1 p2 Z) - (97 : Int32))))) := hR.trans (congrArg (fun z => z) (if_pos c60))
        refine lv_iload_n hx hb dX1_item_63 rfl (lv_at hl 2 rfl) ?_
        refine lv_iconst (v := 2) hx hb dX1_item_64 rfl ?_
        refine n_add (a := p2) (b := 2) hx hb dX1_item_65 ?_
        exact hret (nI (p2 + 2)) (sI (sI Z 9 0 ((m_at p1 p2 Z) - (97 : Int32))) 8 0 (m_at p1 (p2 + 1) (sI Z 9 0 ((m_at p1 p2 Z) - (97 : Int32))))) hR rfl hE (Nat.le_refl 0) (Nat.le_refl 0) dX1_item_66
  · have hR : m_item p1 p2 Z = (nI p2, Z) := hR.trans (congrArg (fun z => z) (if_pos c6))
    refine lv_iload_n hx hb dX1_item_9 rfl (lv_at hl 2 rfl) ?_
    exact hret (nI p2) Z hR rfl hE (Nat.le_refl 0) (Nat.le_refl 0) dX1_item_10
section C_item
variable {p : Program} {l : Launch} {e : Env} {R : Room} {s : State} {mid : MethodId} {args : Array Value} {below : List Frame} {meth : Method} {c : Code} {H : Heap} {locs : List Loc} {Q : State → Prop} {cc : ByteArray} {pc : Nat} {ls : Array Slot} {rest : List Value} {D : va_G} {A : Nat → Prop} {m : Nat} {ar : Nat → Nat} {cs : Nat → ClassId} {Z : ZT} {nL : Nat}
theorem call_m_item (hx : p.tables.exec = Jvm.exec) (hb : c.code = cc) (hml : c.maxLocals = nL) (hown : s.vm.findClass RX1 = some mid.cls) (hts : ∀ w ∈ lw_all, w.before args s = true) (hK : KK D cs s) (hA : ∀ q : Nat, s.heap.size ≤ q → A q) (hE : EW D A s.heap (MW m ar cs Z) H locs) (hls : ls.size = nL) (p1 : Nat) (p2 : Nat) (hn1 : p1 < 4) (hn2 : p2 < 60) (hT : (Z.1 5 p1).toInt ≤ 60) (h1 : 4 ≤ R.frames) (h2 : 92 ≤ R.locals) (h3 : (rest.map fun v => v.category).sum ≤ 8) (hd : decode cc pc = .ok (.invokevirtual 154, 3)) (kk : ∀ (H1 : Heap) (locs1 : List Loc), EW D A s.heap (MW m ar cs (m_item p1 p2 Z).2) H1 locs1 → W p l e R s mid args below meth c H1 locs1 0 0 Q (F0 mid (pc + 3) ls (.int (m_item p1 p2 Z).1 :: rest))) : W p l e R s mid args below meth c H locs 0 0 Q (F0 mid pc ls (.int (nI p2) :: .int (nI p1) :: .ref m :: rest)) :=
  gCall_i (As := [.int (nI p1), .int (nI p2)]) (rest := rest) (q0 := 0) (ci := 1) (fs := MF ar Z) (T' := TX1) (N' := 52) hx hb hml hown hts hK hA hE hls (met_m_item l D cs m ar Z H.size p1 p2 hn1 hn2 hT) (cwV 2 hts (lw_V q1135 q1137 qs43 q85 q1138) rfl rfl rfl (by decide +kernel) ⟨h1, h2⟩) rfl rfl rfl rfl h3 hd ⟨Nat.zero_le _, Nat.zero_le _⟩ (fun v u H1 locs1 hp _ hE => by rw [hp] at kk; exact kk H1 locs1 hE)
end C_item
