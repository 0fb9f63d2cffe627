set_option maxRecDepth 100000 set_option linter.unusedVariables false set_option linter.unusedSimpArgs false
/-! PURE 48d: makeNumber, smallNumber, comparing -/
/-- what numbers need: bytes, digits -/
theorem X14_roomForDigits {s : vS} {x : Int} (h1 : 1024 ≤ gN s 152) (h2 : gN s 152 ≤ 1000000) (hx : 0 ≤ x) (hx2 : x ≤ 400000) : ∃ t, f_X14_roomForDigits x s = some t ∧ (∀ o f, gI t o f = gI s o f) ∧ (∀ b, b < 199 → b ≠ 152 → gN t b = gN s b ∧ gC t b = gC s b) ∧ x ≤ gN t 152 ∧ 1024 ≤ gN t 152 ∧ (gN t 152 = gN s 152 ∨ (gN t 152 : Int) = 2 * x) := by
  unfold f_X14_roomForDigits
  rw [w32_id (x := (gN s 152 : Int)) ⟨by omega, by omega⟩]
  by_cases c : (gN s 152 : Int) < x
  · rw [if_pos c, w32_id ⟨by omega, by omega⟩, gd_pos ⟨by omega, by omega⟩, stp_eq, gd_pos (by simp only [gI_sI, gI_sR, gI_sA, gI_sE, gI_sw2, gI_rs, gI_cpA, gI_gh1, gL_sI, gL_sR, gL_sA, gL_sE, gL_sw2, gL_rs, gL_cpA, gR_sI, gR_sR, gR_sA, gR_sE, gR_sw2, gR_rs, gR_cpA, gN_sI, gN_sR, gN_gh1, gN_sA, gN_sE, gN_cpA, gN_sw2, gN_rs, gE_gC, gB_gC, gZ_gC, gEL_gC, gC_sI, gC_sR, gC_gh1, gC_sA, gC_sE, gC_cpA, gC_sw2, gC_rs, Nat.reduceEqDiff, Nat.reduceAdd, Nat.reduceLT, Nat.reduceLeDiff, Nat.reduceBEq, reduceIte, and_self, and_true, true_and, and_false, false_and, if_true, if_false, Nat.reduceMul, Int.reduceEq, Int.reduceLT, Int.reduceLE, Int.reduceNeg, Int.reduceAdd, Int.reduceMul, Int.reduceSub]; omega), stp_eq, stp_eq]
    refine ⟨_, rfl, fun o f => rfl, fun b hb hn => ?_, ?_, ?_, ?_⟩
    · constructor
      · rw [gN_rs, if_pos hb, gN_sw2, if_neg hn, if_neg (by omega), gN_sA, if_neg (by omega)]
      · rw [gC_rs, if_pos hb, gC_sw2, if_neg hn, if_neg (by omega), gC_sA, if_neg (by omega)]
    · simp only [gI_sI, gI_sR, gI_sA, gI_sE, gI_sw2, gI_rs, gI_cpA, gI_gh1, gL_sI, gL_sR, gL_sA, gL_sE, gL_sw2, gL_rs, gL_cpA, gR_sI, gR_sR, gR_sA, gR_sE, gR_sw2, gR_rs, gR_cpA, gN_sI, gN_sR, gN_gh1, gN_sA, gN_sE, gN_cpA, gN_sw2, gN_rs, gE_gC, gB_gC, gZ_gC, gEL_gC, gC_sI, gC_sR, gC_gh1, gC_sA, gC_sE, gC_cpA, gC_sw2, gC_rs, Nat.reduceEqDiff, Nat.reduceAdd, Nat.reduceLT, Nat.reduceLeDiff, Nat.reduceBEq, reduceIte, and_self, and_true, true_and, and_false, false_and, if_true, if_false, Nat.reduceMul, Int.reduceEq, Int.reduceLT, Int.reduceLE, Int.reduceNeg, Int.reduceAdd, Int.reduceMul, Int.reduceSub]; omega
    · simp only [gI_sI, gI_sR, gI_sA, gI_sE, gI_sw2, gI_rs, gI_cpA, gI_gh1, gL_sI, gL_sR, gL_sA, gL_sE, gL_sw2, gL_rs, gL_cpA, gR_sI, gR_sR, gR_sA, gR_sE, gR_sw2, gR_rs, gR_cpA, gN_sI, gN_sR, gN_gh1, gN_sA, gN_sE, gN_cpA, gN_sw2, gN_rs, gE_gC, gB_gC, gZ_gC, gEL_gC, gC_sI, gC_sR, gC_gh1, gC_sA, gC_sE, gC_cpA, gC_sw2, gC_rs, Nat.reduceEqDiff, Nat.reduceAdd, Nat.reduceLT, Nat.reduceLeDiff, Nat.reduceBEq, reduceIte, and_self, and_true, true_and, and_false, false_and, if_true, if_false, Nat.reduceMul, Int.reduceEq, Int.reduceLT, Int.reduceLE, Int.reduceNeg, Int.reduceAdd, Int.reduceMul, Int.reduceSub]; omega
    · right; simp only [gI_sI, gI_sR, gI_sA, gI_sE, gI_sw2, gI_rs, gI_cpA, gI_gh1, gL_sI, gL_sR, gL_sA, gL_sE, gL_sw2, gL_rs, gL_cpA, gR_sI, gR_sR, gR_sA, gR_sE, gR_sw2, gR_rs, gR_cpA, gN_sI, gN_sR, gN_gh1, gN_sA, gN_sE, gN_cpA, gN_sw2, gN_rs, gE_gC, gB_gC, gZ_gC, gEL_gC, gC_sI, gC_sR, gC_gh1, gC_sA, gC_sE, gC_cpA, gC_sw2, gC_rs, Nat.reduceEqDiff, Nat.reduceAdd, Nat.reduceLT, Nat.reduceLeDiff, Nat.reduceBEq, reduceIte, and_self, and_true, true_and, and_false, false_and, if_true, if_false, Nat.reduceMul, Int.reduceEq, Int.reduceLT, Int.reduceLE, Int.reduceNeg, Int.reduceAdd, Int.reduceMul, Int.reduceSub]; omega
  · rw [if_neg c]; exact ⟨s, rfl, fun _ _ => rfl, fun _ _ _ => ⟨rfl, rfl⟩, by omega, h1, Or.inl rfl⟩
/-- numbers depend on these alone -/
theorem MN_cong {s t : vS} {V : List Int} (h : MN s V) (i4 : gI t 87 84 = gI s 87 84) (i5 : gI t 87 85 = gI s 87 85) (n7 : gN t 147 = gN s 147) (n8 : gN t 148 = gN s 148) (n9 : gN t 149 = gN s 149) (e7 : gE t 147 = gE s 147) (e8 : gE t 148 = gE s 148) (e9 : ∀ i : Int, i < gI s 87 85 → gE t 149 i = gE s 149 i) : MN t V := by
  obtain ⟨a1, a2, a3, a4, a5, a6, a7, a8, a9, a10⟩ := h
  unfold MN
  rw [i4, i5, n7, n8, n9, e7, e8]
  refine ⟨a1, a2, a3, a4, a5, a6, a7, a8, a9, fun n hn => ?_⟩
  obtain ⟨b1, b2, b3, b4⟩ := a10 n hn
  refine ⟨b1, b2, b3, ?_⟩
  unfold mnum at *
  rw [e7, e8, mby_eq (s := s) (fun i _ hi => e9 i (by omega))]
  exact b4
theorem MN_more {s t : vS} {V : List Int} (h : MN s V) {k : Int} (hk : 0 ≤ k) (i4 : gI t 87 84 = gI s 87 84) (i5 : gI t 87 85 = gI s 87 85 + k) (hb : gI s 87 85 + k ≤ gN s 149) (n7 : gN t 147 = gN s 147) (n8 : gN t 148 = gN s 148) (n9 : gN t 149 = gN s 149) (e7 : gE t 147 = gE s 147) (e8 : gE t 148 = gE s 148) (e9 : ∀ i : Int, i < gI s 87 85 → gE t 149 i = gE s 149 i) : MN t V := by
  obtain ⟨a1, a2, a3, a4, a5, a6, a7, a8, a9, a10⟩ := h
  unfold MN
  rw [i4, i5, n7, n8, n9, e7, e8]
  refine ⟨a1, by omega, hb, a4, a5, a6, a7, a8, a9, fun n hn => ?_⟩
  obtain ⟨b1, b2, b3, b4⟩ := a10 n hn
  refine ⟨b1, b2, by omega, ?_⟩
  unfold mnum at *
  rw [e7, e8, mby_eq (s := s) (fun i _ hi => e9 i (by omega))]
  exact b4
/-- what making a number may have changed in lengths -/
def NB (s t : vS) (V : List Int) (k : Int) : Prop := gI t 87 85 ≤ gI s 87 85 + k ∧ gI s 87 85 ≤ gI t 87 85 ∧ (gN t 149 = gN s 149 ∨ (gN t 149 : Int) < 2 * (gI s 87 85 + k)) ∧ (gN t 147 = gN s 147 ∨ (gN t 147 : Int) ≤ 2 * V.length)
theorem mk206 {s : vS} {V : List Int} {z : Int} {m : Nat} (h : MN s V) (hV : V.length < 400000) (hr : gI s 87 85 + (m + 1) ≤ 4000000) (hd : m + 1 ≤ gN s 152) (hd2 : gN s 152 ≤ 1000000) (ft : fits m z) (hz : ∀ i : Nat, i < m + 1 → gE s 152 i = byt z i) : ∃ t, j_X14_makeNumber_206 ((m : Int) + 1) s = some ((V.length : Int), t) ∧ MN t (V ++ [z]) ∧ NB s t V (m + 1) ∧ gI t 87 85 = gI s 87 85 + (m + 1) := by
  have h' := h
  obtain ⟨a1, a2, a3, a4, a5, a6, a7, a8, a9, a10⟩ := h
  unfold j_X14_makeNumber_206
  obtain ⟨t, r1, r2, r3⟩ := X14_roomForBytes (s := s) (x := (m : Int) + 1) a2 a8 a9 a3 (by omega) (by omega)
  have Mt := MN_room h' (x := (m : Int) + 1) (by omega) (by omega) ⟨r2, r3⟩
  rw [r1, bdv_eq, vl_eq, vl_eq, show (m : Int) + 1 - 1 = m by omega, w32_id (x := (m : Int)) ⟨by omega, by omega⟩]
  have i5 : gI t 87 85 = gI s 87 85 := by rcases r3 with rfl | ⟨_, _, r⟩; rfl; exact r.1 _ _
  have n2 : gN t 152 = gN s 152 ∧ gE t 152 = gE s 152 := by
    rcases r3 with rfl | ⟨_, _, r⟩
    · exact ⟨rfl, rfl⟩
    · exact ⟨(r.2.1 152 (by decide) (by decide)).1, r.E (by decide) (by decide)⟩
  have n7 : gN t 147 = gN s 147 := by rcases r3 with rfl | ⟨_, _, r⟩; rfl; exact (r.2.1 147 (by decide) (by decide)).1
  have n9 : gN t 149 ≤ 8000000 := by rcases r3 with rfl | ⟨_, r, _⟩ <;> omega
  obtain ⟨u, w1, w2, w3, w4, w5, w6, w7⟩ := mk224 (z := z) (gI t 87 85) (m + 1) FU t (by unfold FU; omega) (by rw [n2.1]; exact hd) (by rw [n2.1]; exact hd2) (by omega) (by rw [i5]; push_cast; omega) n9 (fun i hi => by rw [n2.2]; exact hz i hi)
  rw [show ((m + 1 : Nat) : Int) - 1 = (m : Int) by omega] at w1
  rw [w1, lq_0_eq]
  push_cast at w2 w7
  have Mu : MN u V := MN_more Mt (k := (m : Int) + 1) (by omega) (w3 87 84 (by decide)) w2 (by omega) (w4 _) (w4 _) (w4 _) (by funext i; rw [gE_gC, gE_gC, w5 147 (by decide) (by decide)]) (by funext i; rw [gE_gC, gE_gC, w5 148 (by decide) (by decide)]) w6
  obtain ⟨v, y1, y2, y3, y4, y5⟩ := X14_keepNumber (m := m) (f := gI t 87 85) Mu hV (by omega) (by omega) ft (by rw [w2]; exact w7)
  rw [y1, bd_eq]
  have q9 := w4 149
  have q7 := w4 147
  refine ⟨v, rfl, y2, ⟨by omega, by omega, ?_, by omega⟩, by omega⟩
  rcases r3 with rfl | ⟨_, r, _⟩ <;> omega
theorem X14_makeNumber {s : vS} {T V : List Int} {x1 x2 a b : Int} (h : MxT s T) (hN : MN s V) (hV : V.length < 400000) (h6 : inb x1 (gN s 96)) (h5 : inb x1 (gN s 95)) (ea : gE s 95 x1 = a) (eb : gE s 96 x1 = b) (a0 : 0 ≤ a) (hab : a ≤ b) (hb : b ≤ T.length) (hd : ∀ i : Int, a ≤ i → i < b → cDg (cha T i)) (hg1 : 1024 ≤ gN s 152) (hg2 : gN s 152 ≤ 1000000) (hr : gI s 87 85 + (b - a) + 2 ≤ 4000000) (hx : x2 = 0 ∨ x2 = 1) : ∃ t, f_X14_makeNumber x1 x2 s = some ((V.length : Int), t) ∧ MN t (V ++ [if x2 = 0 then dvA 0 (slc T a b) else -dvA 0 (slc T a b)]) ∧ NB s t V (b - a + 2) ∧ 1024 ≤ gN t 152 ∧ (gN t 152 = gN s 152 ∨ (gN t 152 : Int) = 2 * (b - a + 2)) := by
  have hT := h.2.1
  unfold f_X14_makeNumber
  rw [gd_pos h6, gd_pos h5, vl_eq, ea, eb, w32_id (x := b - a) ⟨by omega, by omega⟩, w32_id (x := b - a + 2) ⟨by omega, by omega⟩]
  obtain ⟨s1, r1, r2, r3, r4, r5, r6⟩ := X14_roomForDigits (s := s) (x := b - a + 2) hg1 hg2 (by omega) (by omega)
  have hg3 : gN s1 152 ≤ 1000000 := by omega
  rw [r1, bdv_eq, gd_pos ⟨by decide, by omega⟩, stp_eq]
  have E1 : ∀ q, q < 199 → q ≠ 152 → gE s1 q = gE s q := fun q hq hn => by funext i; rw [gE_gC, gE_gC, (r3 q hq hn).2]
  generalize hs : sE s1 152 0 0 = s2
  have o2 : Onl 152 s1 s2 := by rw [← hs]; exact Onl.sE _ _ _ _
  have z2 : gE s2 152 0 = 0 := by rw [← hs, gE_sE, if_pos ⟨rfl, rfl⟩]; decide
  have T2 : MxT s2 T := by
    obtain ⟨q1, q2, q3, q4, q5⟩ := h
    exact ⟨by rw [o2.1, r2]; exact q1, q2, by rw [o2.2.1, (r3 93 (by decide) (by decide)).1]; exact q3, by rw [o2.E (by decide) (by decide), E1 93 (by decide) (by decide)]; exact q4, q5⟩
  have n95 : gN s2 95 = gN s 95 := by rw [o2.2.1, (r3 95 (by decide) (by decide)).1]
  have n96 : gN s2 96 = gN s 96 := by rw [o2.2.1, (r3 96 (by decide) (by decide)).1]
  have e95 : gE s2 95 = gE s 95 := by rw [o2.E (by decide) (by decide), E1 95 (by decide) (by decide)]
  have e96 : gE s2 96 = gE s 96 := by rw [o2.E (by decide) (by decide), E1 96 (by decide) (by decide)]
  have N2 : MN s2 V := MN_cong hN (by rw [o2.1, r2]) (by rw [o2.1, r2]) (by rw [o2.2.1, (r3 147 (by decide) (by decide)).1]) (by rw [o2.2.1, (r3 148 (by decide) (by decide)).1]) (by rw [o2.2.1, (r3 149 (by decide) (by decide)).1]) (by rw [o2.E (by decide) (by decide), E1 147 (by decide) (by decide)]) (by rw [o2.E (by decide) (by decide), E1 148 (by decide) (by decide)]) (fun i _ => by rw [o2.E (by decide) (by decide), E1 149 (by decide) (by decide)])
  rw [n95, gd_pos h5, e95, vl_eq, ea]
  obtain ⟨m, t, w1, w2, w3, w4, w5, w6⟩ := mk39 (T := T) (x1 := x1) (b := b) x2 (b - a).toNat FU s2 1 a T2 (by rw [n96]; exact h6) (by rw [e96]; exact eb) a0 hb hab (by omega) (by unfold FU; omega) (by omega) (by rw [o2.2.1]; omega) (by rw [o2.2.1]; exact hg3) hd (fun i hi hi2 => by rw [show i = 0 by omega, z2]; omega)
  rw [show ((1 : Nat) : Int) = 1 from rfl] at w1
  rw [w1, lq_1_eq]
  have v0 : lev 256 (dg s2 0 1) = 0 := by unfold dg; simp [rowL, lev, z2]
  rw [v0] at w6
  have nt : ∀ q, gN t q = gN s1 q := by intro q; rw [w2.2.1, o2.2.1]
  rw [gd_pos ⟨by omega, by rw [nt]; omega⟩, stp_eq, vl_eq, w32_id (x := (m : Int) + 1) ⟨by omega, by omega⟩]
  generalize ht : sE t 152 m 0 = t1
  have o3 : Onl 152 t t1 := by rw [← ht]; exact Onl.sE _ _ _ _
  have e3 : ∀ i, gE t1 152 i = if i = (m : Int) then 0 else gE t 152 i := by
    intro i; rw [← ht, gE_sE]; simp only [true_and]; split <;> rfl
  have N3 : MN t1 V := by
    have o := w2.trans o3
    exact MN_cong N2 (o.1 _ _) (o.1 _ _) (o.2.1 _) (o.2.1 _) (o.2.1 _) (o.E (by decide) (by decide)) (o.E (by decide) (by decide)) (fun i _ => by rw [o.E (by decide) (by decide)])
  have i3 : gI t1 87 85 = gI s 87 85 := by rw [o3.1, w2.1, o2.1, r2]
  have n3 : ∀ q, gN t1 q = gN s1 q := by intro q; rw [o3.2.1, nt]
  generalize hv : dvA 0 (slc T a b) = v at *
  have dr : ∀ d ∈ dg t 0 m, 0 ≤ d ∧ d < 256 := by
    intro d hd2; unfold dg rowL at hd2; obtain ⟨i, hi, rfl⟩ := List.mem_map.mp hd2
    have := List.mem_range.mp hi
    exact w5 _ (by omega) (by omega)
  have vr := lev_rg (B := 256) (by decide) _ dr
  rw [w6] at vr
  unfold dg at vr
  rw [rowL_len] at vr
  have by3 : ∀ i : Nat, i < m + 1 → gE t1 152 i = byt v i := by
    intro i hi
    have := lev_at (B := 256) (by decide) (dg t 0 m) i dr
    rw [w6] at this
    unfold byt
    rw [this, e3]
    by_cases d : i = m
    · rw [if_pos (by omega)]
      exact (getD_out (by unfold dg; rw [rowL_len]; omega)).symm
    · rw [if_neg (by omega)]
      unfold dg; rw [rowL_getD _ _ (by omega), Int.zero_add]
  have ft := fits_of vr.1 vr.2
  have q9 := (r3 149 (by decide) (by decide)).1
  have q7 := (r3 147 (by decide) (by decide)).1
  have fin : ∀ (u : vS) (z : Int), Onl 152 t1 u → fits m z → (∀ i : Nat, i < m + 1 → gE u 152 i = byt z i) → ∃ w, j_X14_makeNumber_206 ((m : Int) + 1) u = some ((V.length : Int), w) ∧ MN w (V ++ [z]) ∧ NB s w V (b - a + 2) ∧ 1024 ≤ gN w 152 ∧ (gN w 152 = gN s 152 ∨ (gN w 152 : Int) = 2 * (b - a + 2)) := by
    intro u z o fz hz
    have Nu : MN u V := MN_cong N3 (o.1 _ _) (o.1 _ _) (o.2.1 _) (o.2.1 _) (o.2.1 _) (o.E (by decide) (by decide)) (o.E (by decide) (by decide)) (fun i _ => by rw [o.E (by decide) (by decide)])
    obtain ⟨w, p1, p2, p3, p4⟩ := mk206 (m := m) Nu hV (by rw [o.1, i3]; omega) (by rw [o.2.1, n3]; omega) (by rw [o.2.1, n3]; exact hg3) fz hz
    refine ⟨w, p1, p2, ?_, ?_⟩
    · obtain ⟨b1, b2, b3, b4⟩ := p3
      rw [o.1, i3] at b1 b2 b3
      rw [o.2.1, n3] at b3 b4
      exact ⟨by omega, b2, by omega, by omega⟩
    · have fr := fr_j_X14_makeNumber_206 ((m : Int) + 1) u _ p1
      have e := fr.rN (a := 152) (by decide) (by decide)
      simp only at e
      rw [e, o.2.1, n3]
      omega
  rcases hx with hx | hx
  · subst hx
    rw [if_pos rfl, if_pos rfl]
    exact fin t1 v Onl.rfl ft.1 by3
  · subst hx
    rw [if_neg (by decide), if_neg (by decide)]
    obtain ⟨u, p1, p2, p3⟩ := mk157 (v := v) (m := m + 1) (m + 1) FU t1 0 (by omega) (by unfold FU; omega) (by rw [n3]; omega) (by rw [n3]; exact hg3) (fun i _ hi => by3 i hi) (fun i hi => by omega)
    rw [Int.pow_zero, Int.emod_one, if_pos rfl] at p1
    push_cast at p1
    rw [p1, lq_0_eq]
    exact fin u (-v) p2 ft.2 p3
/-- four bytes of a small number -/
theorem sm12 {v : Int} (hv : 0 ≤ v ∧ v ≤ 2147483647) (x2 : Int) : ∀ (k n : Nat) (s : vS), k ≤ 4 → k < n → 0 ≤ gI s 87 85 → gI s 87 85 + k ≤ gN s 149 → gN s 149 ≤ 8000000 → ∃ t, l_X14_smallNumber_12 n v x2 ((k : Int) - 1) s = some t ∧ gI t 87 85 = gI s 87 85 + k ∧ (∀ o f, 1000 * o + f ≠ 87085 → gI t o f = gI s o f) ∧ (∀ b, gN t b = gN s b) ∧ (∀ b, b < 199 → b ≠ 149 → gC t b = gC s b) ∧ (∀ i : Int, i < gI s 87 85 → gE t 149 i = gE s 149 i) ∧ mby t (gI s 87 85) (gI s 87 85 + k) = be k v := by
  intro k
  induction k with
  | zero =>
    intro n s hk hn h3 h4 h5
    obtain ⟨n, rfl⟩ : ∃ m, n = m + 1 := ⟨n - 1, by omega⟩
    unfold l_X14_smallNumber_12
    rw [if_pos (by omega)]
    exact ⟨s, rfl, by simp, fun _ _ _ => rfl, fun _ => rfl, fun _ _ _ => rfl, fun _ _ => rfl, by unfold mby be; simp [rowL]⟩
  | succ k ih =>
    intro n s hk hn h3 h4 h5
    obtain ⟨n, rfl⟩ : ∃ m, n = m + 1 := ⟨n - 1, by omega⟩
    push_cast at h4
    have bg := byt_rg v k
    have eb : and32 (shr32 v (w32 (8 * (k : Int)))) 255 = byt v k := by
      rw [w32_id ⟨by omega, by omega⟩, and32_255, shr32_div _ ⟨by omega, by omega⟩ (by omega) (by omega)]
      unfold byt
      congr 2
      have : k = 0 ∨ k = 1 ∨ k = 2 ∨ k = 3 := by omega
      rcases this with rfl | rfl | rfl | rfl <;> decide
    unfold l_X14_smallNumber_12
    rw [show ((k + 1 : Nat) : Int) - 1 = (k : Int) by omega, if_neg (by omega), gd_pos ⟨h3, by omega⟩, stp_eq, stp_eq, vl_eq, eb, show (k : Int) + -1 = (k : Int) - 1 by omega, w32_id (x := (k : Int) - 1) ⟨by omega, by omega⟩]
    generalize hs : sI (sE s 149 (gI s 87 85) (byt v k)) 87 85 (w32 (gI (sE s 149 (gI s 87 85) (byt v k)) 87 85 + 1)) = s1
    have i5 : gI s1 87 85 = gI s 87 85 + 1 := by rw [← hs]; simp only [gI_sI, gI_sR, gI_sA, gI_sE, gI_sw2, gI_rs, gI_cpA, gI_gh1, gL_sI, gL_sR, gL_sA, gL_sE, gL_sw2, gL_rs, gL_cpA, gR_sI, gR_sR, gR_sA, gR_sE, gR_sw2, gR_rs, gR_cpA, gN_sI, gN_sR, gN_gh1, gN_sA, gN_sE, gN_cpA, gN_sw2, gN_rs, gE_gC, gB_gC, gZ_gC, gEL_gC, gC_sI, gC_sR, gC_gh1, gC_sA, gC_sE, gC_cpA, gC_sw2, gC_rs, Nat.reduceEqDiff, Nat.reduceAdd, Nat.reduceLT, Nat.reduceLeDiff, Nat.reduceBEq, reduceIte, and_self, and_true, true_and, and_false, false_and, if_true, if_false, Nat.reduceMul, Int.reduceEq, Int.reduceLT, Int.reduceLE, Int.reduceNeg, Int.reduceAdd, Int.reduceMul, Int.reduceSub, w32_w32]; exact w32_id ⟨by omega, by omega⟩
    have io : ∀ o f, 1000 * o + f ≠ 87085 → gI s1 o f = gI s o f := by
      intro o f hne; rw [← hs, gI_sI, if_neg (fun q => hne (by rw [q.1, q.2]))]; rfl
    have nn : ∀ b, gN s1 b = gN s b := by intro b; rw [← hs]; simp only [gI_sI, gI_sR, gI_sA, gI_sE, gI_sw2, gI_rs, gI_cpA, gI_gh1, gL_sI, gL_sR, gL_sA, gL_sE, gL_sw2, gL_rs, gL_cpA, gR_sI, gR_sR, gR_sA, gR_sE, gR_sw2, gR_rs, gR_cpA, gN_sI, gN_sR, gN_gh1, gN_sA, gN_sE, gN_cpA, gN_sw2, gN_rs, gE_gC, gB_gC, gZ_gC, gEL_gC, gC_sI, gC_sR, gC_gh1, gC_sA, gC_sE, gC_cpA, gC_sw2, gC_rs]
    have cc : ∀ b, b < 199 → b ≠ 149 → gC s1 b = gC s b := by intro b _ hb; funext i; rw [← hs, gC_sI, gC_sE, if_neg (fun q => hb q.1)]
    have e9 : ∀ i, gE s1 149 i = if i = gI s 87 85 then byt v k else gE s 149 i := by
      intro i; rw [← hs, gE_sI, gE_sE]; simp only [true_and]; rw [w32_id ⟨by omega, by omega⟩]
    obtain ⟨t, r1, r2, r3, r4, r5, r6, r7⟩ := ih n s1 (by omega) (by omega) (by omega) (by rw [nn]; omega) (by rw [nn]; exact h5)
    refine ⟨t, r1, by push_cast; omega, fun o f hne => by rw [r3 o f hne, io o f hne], fun b => by rw [r4, nn], fun b hb hn2 => by rw [r5 b hb hn2, cc b hb hn2], fun i hi => by rw [r6 i (by omega), e9, if_neg (by omega)], ?_⟩
    rw [mby_cons (by push_cast; omega), be_cons]
    congr 1
    · rw [r6 _ (by omega), e9, if_pos rfl]
    · rw [i5] at r7
      rw [show gI s 87 85 + ((k + 1 : Nat) : Int) = gI s 87 85 + 1 + k by push_cast; omega]
      exact r7
theorem X14_smallNumber {s : vS} {V : List Int} {v : Int} (hv : 0 ≤ v ∧ v ≤ 2147483647) (h : MN s V) (hV : V.length < 400000) (hr : gI s 87 85 + 4 ≤ 4000000) : ∃ t, f_X14_smallNumber v s = some ((V.length : Int), t) ∧ MN t (V ++ [v]) ∧ NB s t V 4 := by
  have h' := h
  obtain ⟨a1, a2, a3, a4, a5, a6, a7, a8, a9, a10⟩ := h
  unfold f_X14_smallNumber
  obtain ⟨t, r1, r2, r3⟩ := X14_roomForBytes (s := s) (x := 4) a2 a8 a9 a3 (by omega) (by omega)
  have Mt := MN_room h' (x := 4) (by omega) (by omega) ⟨r2, r3⟩
  rw [r1, bdv_eq, vl_eq]
  have i5 : gI t 87 85 = gI s 87 85 := by rcases r3 with rfl | ⟨_, _, r⟩; rfl; exact r.1 _ _
  have n7 : gN t 147 = gN s 147 := by rcases r3 with rfl | ⟨_, _, r⟩; rfl; exact (r.2.1 147 (by decide) (by decide)).1
  have n9 : gN t 149 ≤ 8000000 := by rcases r3 with rfl | ⟨_, r, _⟩ <;> omega
  obtain ⟨u, w1, w2, w3, w4, w5, w6, w7⟩ := sm12 hv (gI t 87 85) 4 FU t (by omega) (by decide) (by omega) (by rw [i5]; push_cast; omega) n9
  rw [show ((4 : Nat) : Int) - 1 = 3 by decide] at w1
  rw [w1, lq_0_eq]
  push_cast at w2 w7
  have Mu : MN u V := MN_more Mt (k := 4) (by omega) (w3 87 84 (by decide)) w2 (by omega) (w4 _) (w4 _) (w4 _) (by funext i; rw [gE_gC, gE_gC, w5 147 (by decide) (by decide)]) (by funext i; rw [gE_gC, gE_gC, w5 148 (by decide) (by decide)]) w6
  have ft : fits 3 v := by unfold fits; have : (256 : Int) ^ 3 = 16777216 := by decide
                           rw [this]; omega
  obtain ⟨x, y1, y2, y3, y4, y5⟩ := X14_keepNumber (m := 3) (f := gI t 87 85) Mu hV (by omega) (by omega) ft (by rw [w2]; exact w7)
  rw [y1, bd_eq]
  have q9 := w4 149
  have q7 := w4 147
  refine ⟨x, rfl, y2, by omega, by omega, ?_, by omega⟩
  rcases r3 with rfl | ⟨_, r, _⟩ <;> omega
theorem mnum_len {s : vS} {n : Int} (h : 0 ≤ gE s 148 n) : ((mnum s n).length : Int) = gE s 148 n := by
  unfold mnum; rw [mby_len]; omega
theorem mby_rg {s : vS} {V : List Int} (h : MN s V) {n : Nat} (hn : n < V.length) : 1 ≤ gE s 148 n ∧ gE s 147 n + gE s 148 n ≤ gN s 149 := by
  obtain ⟨a1, a2, a3, a4, a5, a6, a7, a8, a9, a10⟩ := h
  obtain ⟨b1, b2, b3, m, b4, b5⟩ := a10 n hn
  have := congrArg List.length b5
  rw [be_len] at this
  have := mnum_len (s := s) (n := n) b2
  omega
/-- the model's order of numbers is that of what they say -/
theorem cmp109 {s : vS} {V : List Int} (h : MN s V) {m n : Nat} (hm : m < V.length) (hn : n < V.length) (he : gE s 148 m = gE s 148 n) : ∀ (k N : Nat) (x : Int), 0 ≤ x → x ≤ gE s 148 m → gE s 148 m - x ≤ k → k < N → wpo (lqs_0 (l_X14_compareNumbers_109 N m n x s) (fun s5 => some (0, s5)) (fun q => some q)) fun q => q.2 = s ∧ (q.1 < 0 ↔ cmpL (mby s (gE s 147 m + x) (gE s 147 m + gE s 148 m)) (mby s (gE s 147 n + x) (gE s 147 n + gE s 148 n)) < 0) ∧ (q.1 = 0 ↔ cmpL (mby s (gE s 147 m + x) (gE s 147 m + gE s 148 m)) (mby s (gE s 147 n + x) (gE s 147 n + gE s 148 n)) = 0) := by
  have rm := mby_rg h hm
  have rn := mby_rg h hn
  obtain ⟨a1, a2, a3, a4, a5, a6, a7, a8, a9, a10⟩ := h
  have am := a10 m hm
  have an := a10 n hn
  intro k
  induction k with
  | zero =>
    intro N x x0 x1 hk hN
    obtain ⟨N, rfl⟩ : ∃ q, N = q + 1 := ⟨N - 1, by omega⟩
    unfold l_X14_compareNumbers_109
    rw [gd_pos ⟨by omega, by omega⟩, if_pos (by omega)]
    refine wpo_some.mpr ⟨rfl, ?_⟩
    have e1 : mby s (gE s 147 m + x) (gE s 147 m + gE s 148 m) = [] := List.eq_nil_of_length_eq_zero (by rw [mby_len]; omega)
    have e2 : mby s (gE s 147 n + x) (gE s 147 n + gE s 148 n) = [] := List.eq_nil_of_length_eq_zero (by rw [mby_len]; omega)
    rw [e1, e2]; simp [cmpL]
  | succ k ih =>
    intro N x x0 x1 hk hN
    obtain ⟨N, rfl⟩ : ∃ q, N = q + 1 := ⟨N - 1, by omega⟩
    unfold l_X14_compareNumbers_109
    rw [gd_pos ⟨by omega, by omega⟩]
    by_cases c : gE s 148 m ≤ x
    · rw [if_pos c]
      refine wpo_some.mpr ⟨rfl, ?_⟩
      have e1 : mby s (gE s 147 m + x) (gE s 147 m + gE s 148 m) = [] := List.eq_nil_of_length_eq_zero (by rw [mby_len]; omega)
      have e2 : mby s (gE s 147 n + x) (gE s 147 n + gE s 148 n) = [] := List.eq_nil_of_length_eq_zero (by rw [mby_len]; omega)
      rw [e1, e2]; simp [cmpL]
    rw [if_neg c, gd_pos ⟨by omega, by omega⟩, w32_id (x := gE s 147 m + x) ⟨by omega, by omega⟩, gd_pos ⟨by omega, by omega⟩, gd_pos ⟨by omega, by omega⟩, w32_id (x := gE s 147 n + x) ⟨by omega, by omega⟩, gd_pos ⟨by omega, by omega⟩]
    rw [mby_cons (show gE s 147 m + x < gE s 147 m + gE s 148 m by omega), mby_cons (show gE s 147 n + x < gE s 147 n + gE s 148 n by omega), cmpL]
    by_cases d : gE s 149 (gE s 147 m + x) = gE s 149 (gE s 147 n + x)
    · rw [if_pos d, if_pos d, vl_eq, w32_id (x := x + 1) ⟨by omega, by omega⟩]
      have := ih N (x + 1) (by omega) (by omega) (by omega) (by omega)
      rw [← Int.add_assoc, ← Int.add_assoc] at this
      exact this
    · rw [if_neg d, if_neg d, gd_pos ⟨by omega, by omega⟩, gd_pos ⟨by omega, by omega⟩, gd_pos ⟨by omega, by omega⟩, gd_pos ⟨by omega, by omega⟩]
      by_cases e : gE s 149 (gE s 147 n + x) ≤ gE s 149 (gE s 147 m + x)
      · rw [if_pos e]; exact wpo_some.mpr ⟨rfl, by simp only; omega, by simp only; omega⟩
      · rw [if_neg e]; exact wpo_some.mpr ⟨rfl, by simp only; omega, by simp only; omega⟩
theorem X14_compareNumbers {s : vS} {V : List Int} (h : MN s V) {m n : Nat} (hm : m < V.length) (hn : n < V.length) : wpo (f_X14_compareNumbers m n s) fun q => q.2 = s ∧ (q.1 < 0 ↔ V.getD m 0 < V.getD n 0) ∧ (q.1 = 0 ↔ V.getD m 0 = V.getD n 0) := by
  have rm := mby_rg h hm
  have rn := mby_rg h hn
  have h' := h
  obtain ⟨a1, a2, a3, a4, a5, a6, a7, a8, a9, a10⟩ := h
  obtain ⟨m1, m2, m3, m4⟩ := a10 m hm
  obtain ⟨n1, n2, n3, n4⟩ := a10 n hn
  have N := cmpN_SB m4 n4
  rw [← N.1, ← N.2]
  have fm : (mnum s m).getD 0 0 = gE s 149 (gE s 147 m) := by unfold mnum; rw [mby_cons (by omega)]; rfl
  have fn : (mnum s n).getD 0 0 = gE s 149 (gE s 147 n) := by unfold mnum; rw [mby_cons (by omega)]; rfl
  have lm := mnum_len (s := s) (n := m) m2
  have ln := mnum_len (s := s) (n := n) n2
  have c9 := cmp109 h' hm hn
  unfold f_X14_compareNumbers
  rw [gd_pos ⟨by omega, by omega⟩, gd_pos ⟨by omega, by omega⟩]
  simp only [j_X14_compareNumbers_21, j_X14_compareNumbers_43, j_X14_compareNumbers_96]
  have g1 : inb (n : Int) (gN s 147) := ⟨by omega, by omega⟩
  have g2 : inb (gE s 147 n) (gN s 149) := ⟨by omega, by omega⟩
  have g3 : inb (m : Int) (gN s 148) := ⟨by omega, by omega⟩
  have g4 : inb (n : Int) (gN s 148) := ⟨by omega, by omega⟩
  simp only [gd_pos g1, gd_pos g2, gd_pos g3, gd_pos g4]
  unfold cmpN
  rw [fm, fn]
  have le : (mnum s m).length ≠ (mnum s n).length ↔ ¬(gE s 148 m = gE s 148 n) := by omega
  have ll : (mnum s m).length < (mnum s n).length ↔ ¬(gE s 148 n ≤ gE s 148 m) := by omega
  have eqc : gE s 148 m = gE s 148 n → wpo (lqs_0 (l_X14_compareNumbers_109 FU m n 0 s) (fun s5 => some (0, s5)) (fun q => some q)) fun q => q.2 = s ∧ (q.1 < 0 ↔ cmpL (mnum s m) (mnum s n) < 0) ∧ (q.1 = 0 ↔ cmpL (mnum s m) (mnum s n) = 0) := by
    intro e
    have := c9 e (gE s 148 m).toNat FU 0 (by omega) (by omega) (by omega) (by unfold FU; omega)
    rw [Int.add_zero, Int.add_zero] at this
    exact this
  generalize gE s 149 (gE s 147 m) = x at *
  generalize gE s 149 (gE s 147 n) = y at *
  by_cases k1 : x ≤ 127 <;> by_cases k2 : y ≤ 127
  · have p1 : ¬(127 < x) := by omega
    have p2 : ¬(127 < y) := by omega
    simp only [k1, k2, p1, p2, if_true, if_false, Nat.reduceEqDiff, Nat.reduceAdd, Nat.reduceLT, Nat.reduceLeDiff, Nat.reduceBEq, reduceIte, and_self, and_true, true_and, and_false, false_and, if_true, if_false, Nat.reduceMul, Int.reduceEq, Int.reduceLT, Int.reduceLE, Int.reduceNeg, Int.reduceAdd, Int.reduceMul, Int.reduceSub, ne_eq, not_true_eq_false]
    by_cases k3 : gE s 148 m = gE s 148 n
    · rw [if_pos k3, if_neg (fun z => le.mp z k3)]; exact eqc k3
    · rw [if_neg k3, if_pos (le.mpr k3)]
      by_cases k4 : gE s 148 n ≤ gE s 148 m
      · rw [if_pos k4, if_pos (by simp; omega)]; exact wpo_some.mpr ⟨rfl, by simp, by simp⟩
      · rw [if_neg k4, if_neg (by simp; omega)]; exact wpo_some.mpr ⟨rfl, by simp, by simp⟩
  · have p1 : ¬(127 < x) := by omega
    have p2 : 127 < y := by omega
    simp only [k1, k2, p1, p2, if_true, if_false, Nat.reduceEqDiff, Nat.reduceAdd, Nat.reduceLT, Nat.reduceLeDiff, Nat.reduceBEq, reduceIte, and_self, and_true, true_and, and_false, false_and, if_true, if_false, Nat.reduceMul, Int.reduceEq, Int.reduceLT, Int.reduceLE, Int.reduceNeg, Int.reduceAdd, Int.reduceMul, Int.reduceSub]
    rw [if_pos (by simp)]
    exact wpo_some.mpr ⟨rfl, by simp, by simp⟩
  · have p1 : 127 < x := by omega
    have p2 : ¬(127 < y) := by omega
    simp only [k1, k2, p1, p2, if_true, if_false, Nat.reduceEqDiff, Nat.reduceAdd, Nat.reduceLT, Nat.reduceLeDiff, Nat.reduceBEq, reduceIte, and_self, and_true, true_and, and_false, false_and, if_true, if_false, Nat.reduceMul, Int.reduceEq, Int.reduceLT, Int.reduceLE, Int.reduceNeg, Int.reduceAdd, Int.reduceMul, Int.reduceSub]
    rw [if_pos (by simp)]
    exact wpo_some.mpr ⟨rfl, by simp, by simp⟩
  · have p1 : 127 < x := by omega
    have p2 : 127 < y := by omega
    simp only [k1, k2, p1, p2, if_true, if_false, Nat.reduceEqDiff, Nat.reduceAdd, Nat.reduceLT, Nat.reduceLeDiff, Nat.reduceBEq, reduceIte, and_self, and_true, true_and, and_false, false_and, if_true, if_false, Nat.reduceMul, Int.reduceEq, Int.reduceLT, Int.reduceLE, Int.reduceNeg, Int.reduceAdd, Int.reduceMul, Int.reduceSub, ne_eq, not_true_eq_false]
    by_cases k3 : gE s 148 m = gE s 148 n
    · rw [if_pos k3, if_neg (fun z => le.mp z k3)]; exact eqc k3
    · rw [if_neg k3, if_pos (le.mpr k3)]
      by_cases k4 : gE s 148 n ≤ gE s 148 m
      · rw [if_pos k4, if_neg (by simp; omega)]; exact wpo_some.mpr ⟨rfl, by simp, by simp⟩
      · rw [if_neg k4, if_pos (by simp; omega)]; exact wpo_some.mpr ⟨rfl, by simp, by simp⟩
