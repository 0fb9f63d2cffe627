set_option maxRecDepth 100000 set_option linter.unusedVariables false set_option linter.unusedSimpArgs false
/-! PURE 59p: the model's grammar: assignments -/
section
variable {L : Lx} {X : List Int} {ln : Nat → Nat} {s s' : vS} {a : Int} {M M' : Mt} {P : List (Nat × Int)} {α : Type} {e : Ft} {t tn : Int}
/-- one assignment -/
def finA (last n : Int) (M : Mt) : Mt := if last = -1 then M else stN M last 8 n
def gA1 (L : Lx) (X : List Int) (last : Int) (p : Pg) : Ft ⊕ Pg :=
  let n := nN p.2
  let u := lnM p.2 0
  let a := p.1 + 1
  if kdL L p.1 = 1 then
    (if kdL L a = 15 then .inl (3, stL' L X a) else
    bE (tkE L X 10 a) fun b => bE (gType L X 100 (b, adN p.2 28 p.1)) fun q =>
    .inr (q.1, finA last n (apM (apM (stN q.2 n 3 (n + 1)) 9 [lnM q.2 8]) 8 [p.1, u, -1, n, 1])))
  else if kdL L p.1 = 0 then
    bE (gType L X 100 (a, adN p.2 29 p.1)) fun q => bE (tkE L X 10 q.1) fun b =>
    bE (gValue L X u (b, stN q.2 n 3 (n + 1))) fun r =>
    .inr (r.1, finA last n (apM (stN r.2 n 4 (nN q.2)) 8 [p.1, u, lnM q.2 6, n, 0]))
  else .inl (flt L X p.1)
theorem gAssigns_eq {k : Nat} {last : Int} {p : Pg} (h : kdL L p.1 = 1 ∨ kdL L p.1 = 0) : gAssigns L X (k + 1) last p = bE (gA1 L X last p) fun q => gAssigns L X k (nN p.2) q := by
  unfold gA1
  show gAssigns L X (k + 1) last p = _
  rw [gAssigns.eq_2]
  by_cases c1 : kdL L p.1 = 1
  · simp only [c1, if_true]
    by_cases c2 : kdL L (p.1 + 1) = 15
    · simp only [c2, if_true]; rfl
    · simp only [c2, if_false, bE_as]; rfl
  · have c0 : kdL L p.1 = 0 := h.resolve_left c1
    simp only [c0, Int.reduceEq, if_false, if_true, bE_as]; rfl
theorem Sm.fin (h : Sm M M') {last n : Int} : Sm M (finA last n M') := by unfold finA; split <;> first | exact h | exact h.node _ _ _
theorem BD.ix (hN : LN L ln) (h : BD L X ln s) {c : Nat} (hc : c < 10) {A : Nat} (hA : isT A = true) (hcA : cOf A = c) : inb (gI s 87 (cnt c)) (gN s A) := by
  have cg : 0 ≤ gI s 87 (cnt c) ∧ wt c * gI s 87 (cnt c) ≤ (L.length : Int) + wt c * 2 := h.2.2.2.2.2.2.ge hc
  exact ⟨cg.1, by rw [h.2.2.2.1 A hA]; exact ixA hN hA (by rw [hcA]; exact cg.2)⟩
/-- from a reference before a brace on -/
theorem D_asg (hH : LH L X) (hN : LN L ln) (h : DM L X ln e s) : wpo (f_X14_assignment s) (FQ L X ln e) := by
  have i8 : ∀ s1, DM L X ln e s1 → ∀ A, isT A = true → cOf A = 8 → inb (gI s1 87 72) (gN s1 A) := fun s1 h1 A hA hc => h1.1.ix hN (c := 8) (by decide) hA hc
  unfold f_X14_assignment
  rw [vl_eq, gd_pos (i8 s h 141 (by decide) rfl), stp_eq]
  have h1 := h.w (A := 141) (by decide) (i := gI s 87 72) (v := gI s 87 19)
  have e1 : gI (sE s 141 (gI s 87 72) (gI s 87 19)) 87 72 = gI s 87 72 := gI_sE ..
  generalize sE s 141 (gI s 87 72) (gI s 87 19) = s1 at h1 e1
  rw [← e1, gd_pos (i8 s1 h1 143 (by decide) rfl), stp_eq]
  have h2 := h1.w (A := 143) (by decide) (i := gI s1 87 72) (v := -1)
  have e2 : gI (sE s1 143 (gI s1 87 72) (-1)) 87 72 = gI s1 87 72 := gI_sE ..
  generalize sE s1 143 (gI s1 87 72) (-1) = s2 at h2 e2
  rw [← e2, h2.eat (by decide), bd_eq, if_pos rfl]
  obtain ⟨s3, e3, f3, fr3⟩ := h2.take hH (c := 2) (by decide)
  rw [e3, bd_eq]
  have cb : inb (gI s2 87 72) (gN s2 142) := i8 s2 h2 142 (by decide) rfl
  have cn : ∀ s4, FM L X ln e s4 → ∀ A, isT A = true → cOf A = 8 → inb (gI s2 87 72) (gN s4 A) := fun s4 h4 A hA hc => by
    have z := i8 s2 h2 A hA hc
    refine ⟨z.1, ?_⟩
    rw [h4.1.2.2.2.1 A hA, ← h2.1.2.2.2.1 A hA]; exact z.2
  refine wpo_bd.mpr (wpo.mono (F_parseType f3) ?_)
  rintro ⟨r4, s4⟩ f4
  simp only at f4
  refine mF_gde f4 f3.bd (by decide) ?_
  rw [gd_pos (cn s4 f4 142 (by decide) rfl)]
  refine mF_w f4 (by decide) (fun s5 f5 => mF_take f5 ?_)
  rw [gd_pos (cn s5 f5 142 (by decide) rfl)]
  refine wpo_bd.mpr (wpo.mono (F_value f5) ?_)
  rintro ⟨r6, s6⟩ f6
  simp only at f6
  refine mF_gde f6 f5.bd (by decide) ?_
  rw [gd_pos (cn s6 f6 143 (by decide) rfl)]
  refine mF_w f6 (by decide) (fun s7 f7 => ?_)
  rw [stp_eq]
  exact wpo_some.mpr (f7.fq.w (Or.inl rfl))
/-- what an assignment leaves -/
def PA (L : Lx) (X : List Int) (ln : Nat → Nat) (g : Ft ⊕ Pg) (s1 : vS) : Prop := match g with
  | .inl e => FQ L X ln e s1 ∨ DM L X ln e s1
  | .inr q => VMd L X ln s1 q.1 q.2 []
theorem M_asg (hH : LH L X) (hN : LN L ln) {last : Int} (h : VMd L X ln s a M []) (hC : CT M a) (h0 : lnM M 0 ≤ a) (hE : kz L a ≠ 60) : wpo (f_X14_assignment s) (PA L X ln (gA1 L X last (a, M))) := by
  have hl := hH.2.1
  have al := h.al
  have a0 := h.a0
  have l0 := lnM_nn M 0
  have l8 := lnM_nn M 8
  have l9 := lnM_nn M 9
  have ct := hC
  unfold CT at ct
  have kb := h.kb
  unfold CB at kb
  unfold f_X14_assignment
  refine m_ct (c := 8) h (by decide) rfl ?_
  rw [h.at]
  refine m_gdn hN h (by decide) rfl (m_newP hN [(141, a)] h (by decide) rfl (okv_rg (by decide) ⟨by omega, by omega⟩) (by simp) (fun s1 q1 => ?_))
  refine m_gdn hN q1 (by decide) rfl (m_newP hN [(143, -1), (141, a)] q1 (by decide) rfl (okv_rg (by decide) (rgl rfl)) (by simp) (fun s2 q2 => ?_))
  -- pending cells stay
  have keep : ∀ (s3 s4 : vS) (W : List Nat) (x b : Int) (M2 : Mt), VMd L X ln s3 x M [(143, -1), (141, a)] → VMd L X ln s4 b M2 [] → Fr W s3 s4 → 141999 ∉ W → 143999 ∉ W → lnM M2 8 = lnM M 8 → VMd L X ln s4 b M2 [(143, -1), (141, a)] := by
    intro s3 s4 W x b M2 w1 w2 w3 n1 n3 e8
    have z1 : rdA s4 141 (lnM M2 (cOf 141)) = a := by
      show rdA s4 141 (lnM M2 8) = a
      rw [e8, rdA_fr w3 (by decide) n1]; exact (w1.pd (141, a) (by simp)).2
    have z3 : rdA s4 143 (lnM M2 (cOf 143)) = -1 := by
      show rdA s4 143 (lnM M2 8) = -1
      rw [e8, rdA_fr w3 (by decide) n3]; exact (w1.pd (143, -1) (by simp)).2
    exact (w2.addP (by decide) z1).addP (by decide) z3
  have F8 : ∀ (s4 : vS) (e : Ft), FM L X ln e s4 → ∀ A, isT A = true → cOf A = 8 → inb (lnM M 8) (gN s4 A) := fun s4 e h4 A hA hc => ⟨l8, by rw [h4.1.2.2.2.1 A hA]; exact ixA hN hA (by rw [hc]; show 3 * lnM M 8 ≤ (L.length : Int) + 3 * 2; omega)⟩
  have D8 : ∀ (s4 : vS) (e : Ft), DM L X ln e s4 → ∀ A, isT A = true → cOf A = 8 → inb (lnM M 8) (gN s4 A) := fun s4 e h4 A hA hc => ⟨l8, by rw [h4.1.2.2.2.1 A hA]; exact ixA hN hA (by rw [hc]; show 3 * lnM M 8 ≤ (L.length : Int) + 3 * 2; omega)⟩
  by_cases k1 : kz L a = 1
  · -- a type
    have kd1 : kdL L a = 1 := by rw [kd_1]; exact k1
    have al1 := (kz_in k1 (by decide)).2
    have ee : f_X14_eat 1 s2 = some (1, sI s2 87 19 (w32 (gI s2 87 19 + 1))) := by
      unfold f_X14_eat
      rw [if_neg (by rw [q2.f0]; decide), q2.is, bd_eq]
      unfold b2i
      rw [if_pos k1, if_neg (by decide), stp_eq]
    rw [ee, bd_eq, if_neg (by decide)]
    -- in a fault
    have FT : ∀ (s4 : vS) (e : Ft), FM L X ln e s4 → gA1 L X last (a, M) = .inl e → wpo (bd (f_X14_parseType s4) fun r55 s52 => gd (gN s52 142 = gN s4 142) <| gd (inb (lnM M 8) (gN s52 142)) <| stp (sE s52 142 (lnM M 8) r55) fun s59 => gd (inb (gI s59 87 76) (gN s59 144)) <| stp (sE s59 144 (gI s59 87 76) (lnM M 8)) fun s62 => stp (sI s62 87 76 (w32 ((gI s62 87 76) + 1))) fun s64 => stp (sI s64 87 72 (w32 ((gI s64 87 72) + 1))) fun s66 => some s66) (PA L X ln (gA1 L X last (a, M))) := by
      intro s4 e f4 eg
      rw [eg]
      refine wpo_bd.mpr (wpo.mono (F_parseType f4) ?_)
      rintro ⟨r5, s5⟩ f5
      simp only at f5
      refine mF_gde f5 f4.bd (by decide) ?_
      rw [gd_pos (F8 s5 e f5 142 (by decide) rfl)]
      refine mF_w f5 (by decide) (fun s6 f6 => ?_)
      rw [gd_pos (show inb (gI s6 87 76) (gN s6 144) from f6.1.ix hN (c := 9) (A := 144) (by decide) (by decide) rfl)]
      refine mF_w f6 (by decide) (fun s7 f7 => ?_)
      rw [stp_eq, stp_eq]
      exact wpo_some.mpr (Or.inl ((f7.fq.w (Or.inr rfl)).w (Or.inl rfl)))
    by_cases k12 : kz L (a + 1) = 12
    · have eg : gA1 L X last (a, M) = .inl (3, stL' L X (a + 1)) := by
        unfold gA1
        simp only [kd_0, kd_1, kd_2, kd_3, kd_4, kd_5, kd_10, kd_12, kd_15, kd_16, kd_17, kd_18, kd_19, kd_20, kd_21, kd_24, kd_25, kd_103, kd_105, kd_106, kd_108, kd_111, kd_116, kd_118, kd_120, kd_121, kd_123, kd_127, kd_130, kd_132, kd_133, kd_134, kd_139, kd_142, kd_143, kd_145, kd_147, kd_148, kd_149, kd_150, kd_155, kd_156, kd_159, kd_160, kd_161, kd_162, kd_165, kd_166, kd_170, kd_171, kd_172, k1, k12, if_true]
      have d1 := DM.mk' hH (q2.weakP (P' := []) (fun x hx => absurd hx List.not_mem_nil)) k1 k12
      obtain ⟨s4, e4, f4, _⟩ := d1.take hH (c := 7) (by decide)
      rw [e4, bd_eq]
      exact FT s4 _ f4 eg
    · have q3 := q2.adv hH al1 (fun z => k12 z.1)
      generalize sI s2 87 19 (w32 (gI s2 87 19 + 1)) = s3 at q3
      have eg : gA1 L X last (a, M) = bE (tkE L X 10 (a + 1)) fun b => bE (gType L X 100 (b, adN M 28 a)) fun q => .inr (q.1, finA last (nN M) (apM (apM (stN q.2 (nN M) 3 (nN M + 1)) 9 [lnM q.2 8]) 8 [a, lnM M 0, -1, nN M, 1])) := by
        unfold gA1
        simp only [kd_0, kd_1, kd_2, kd_3, kd_4, kd_5, kd_10, kd_12, kd_15, kd_16, kd_17, kd_18, kd_19, kd_20, kd_21, kd_24, kd_25, kd_103, kd_105, kd_106, kd_108, kd_111, kd_116, kd_118, kd_120, kd_121, kd_123, kd_127, kd_130, kd_132, kd_133, kd_134, kd_139, kd_142, kd_143, kd_145, kd_147, kd_148, kd_149, kd_150, kd_155, kd_156, kd_159, kd_160, kd_161, kd_162, kd_165, kd_166, kd_170, kd_171, kd_172, k1, k12, if_true, if_false]
      refine m_take hH q3 (by decide) (by decide) (fun k3 k4 s4 q4 => ?_) (fun k3 s4 q4 _ => ?_)
      · rw [tkE_y (show kdL L (a + 1) = 10 by rw [kd_10]; exact k3), bE_r] at eg
        have q5 : VMd L X ln s4 (a + 1 + 1) (adN M 28 a) [] := (q4.weakP (P' := []) (fun x hx => absurd hx List.not_mem_nil)).sm (Sm.rfl.nad _ _)
        have sm1 : Sm M (adN M 28 a) := Sm.rfl.nad _ _
        have e0 : lnM (adN M 28 a) 0 = lnM M 0 := sm1.lnE (by decide)
        have GL := gr_type (L := L) (X := X) 100 (a + 1 + 1, adN M 28 a) (by show 0 ≤ a + 1 + 1; omega)
        refine wpo_bd.mpr (wpo.mono (wpo.and (M_parseType hH hN q5 ((hC.mono (by omega)).sm sm1) (by rw [e0]; omega)) (fun r hr => fr_f_X14_parseType s4 r hr)) ?_)
        rintro ⟨r6, s6⟩ ⟨og, fr6⟩
        simp only at fr6
        generalize gType L X 100 (a + 1 + 1, adN M 28 a) = g at og GL eg
        cases g with
        | inl e =>
          rw [bE_l] at eg
          rw [eg]
          rcases og with f6 | d6
          · simp only at f6
            refine mF_gde f6 q4.bd (by decide) ?_
            rw [gd_pos (F8 s6 e f6 142 (by decide) rfl)]
            refine mF_w f6 (by decide) (fun s7 f7 => ?_)
            rw [gd_pos (show inb (gI s7 87 76) (gN s7 144) from f7.1.ix hN (c := 9) (A := 144) (by decide) (by decide) rfl)]
            refine mF_w f7 (by decide) (fun s8 f8 => ?_)
            rw [stp_eq, stp_eq]
            exact wpo_some.mpr (Or.inl ((f8.fq.w (Or.inr rfl)).w (Or.inl rfl)))
          · simp only at d6
            have c9 : gI s6 87 76 = lnM M 9 := by rw [fr6.rI (by decide)]; exact q4.ct (c := 9) (by decide)
            have c8 : gI s6 87 72 = lnM M 8 := by rw [fr6.rI (by decide)]; exact q4.ct (c := 8) (by decide)
            refine wpo_gd.mpr ⟨by rw [d6.1.2.2.2.1 142 (by decide), q4.1.2.2.2.1 142 (by decide)], ?_⟩
            rw [gd_pos (D8 s6 e d6 142 (by decide) rfl), stp_eq]
            have d7 := d6.w (A := 142) (by decide) (i := lnM M 8) (v := r6)
            have c9' : gI (sE s6 142 (lnM M 8) r6) 87 76 = lnM M 9 := by rw [gI_sE]; exact c9
            have c8' : gI (sE s6 142 (lnM M 8) r6) 87 72 = lnM M 8 := by rw [gI_sE]; exact c8
            generalize sE s6 142 (lnM M 8) r6 = s7 at d7 c9' c8'
            rw [gd_pos (show inb (gI s7 87 76) (gN s7 144) from d7.1.ix hN (c := 9) (A := 144) (by decide) (by decide) rfl), stp_eq]
            have d8 := d7.w (A := 144) (by decide) (i := gI s7 87 76) (v := lnM M 8)
            have c9'' : gI (sE s7 144 (gI s7 87 76) (lnM M 8)) 87 76 = lnM M 9 := by rw [gI_sE]; exact c9'
            have c8'' : gI (sE s7 144 (gI s7 87 76) (lnM M 8)) 87 72 = lnM M 8 := by rw [gI_sE]; exact c8'
            generalize sE s7 144 (gI s7 87 76) (lnM M 8) = s8 at d8 c9'' c8''
            rw [stp_eq, stp_eq]
            have d9 := d8.inc hH (c := 9) (by decide) c9'' (by show 3 * lnM M 9 ≤ (L.length : Int) + 3; omega)
            have d9 : DM L X ln e (sI s8 87 76 (w32 (gI s8 87 76 + 1))) := d9
            have c8z : gI (sI s8 87 76 (w32 (gI s8 87 76 + 1))) 87 72 = lnM M 8 := by rw [gI_s87, if_neg (by decide)]; exact c8''
            exact wpo_some.mpr (Or.inr (d9.inc hH (c := 8) (by decide) c8z (by show 3 * lnM M 8 ≤ (L.length : Int) + 3; omega)))
        | inr q =>
          obtain ⟨b, M2⟩ := q
          obtain ⟨hr, q6⟩ := og
          simp only at hr q6
          rw [bE_r] at eg
          have GL : GR 1 0 0 0 0 0 (a + 1 + 1, adN M 28 a) (b, M2) := GL
          have C2 := ((hC.mono (by omega : a ≤ a + 1 + 1)).sm sm1).gr GL (by decide) (by decide) (by decide) (by decide) (by decide) (by decide)
          have e8 : lnM M2 8 = lnM M 8 := by have := GL.2.2.2.2.2.2.2.2.2.1; simp only at this; rw [this]; exact sm1.lnE (by decide)
          have ct2 := C2
          unfold CT at ct2
          have b1 : a + 3 ≤ b := by have := GL.1; simp only at this; omega
          have bl := q6.al
          rw [eg, hr, e0]
          have q7 := keep s4 s6 _ _ _ _ q4 q6 fr6 (by decide) (by decide) e8
          have i9 : 3 * lnM M2 8 ≤ b - 3 ∧ 3 * lnM M2 9 ≤ b - 3 := by
            have e9 : lnM M2 9 = lnM M 9 := by have := GL.2.2.2.2.2.2.2.2.2.2; simp only at this; rw [this]; exact sm1.lnE (by decide)
            omega
          have kb2 := q7.kb
          unfold CB at kb2
          refine m_gde q7 q4 (by decide) (m_gdn hN q7 (by decide) (by show lnM M 8 = lnM M2 8; exact e8.symm) (m_newP hN [(142, lnM M 0), (143, -1), (141, a)] q7 (by decide) (by show lnM M 8 = lnM M2 8; exact e8.symm) (okv_rg (by decide) ⟨by omega, by omega⟩) (by simp) (fun s8 q8 => ?_)))
          have c9 : gI s8 87 76 = lnM M2 9 := q8.ct (c := 9) (by decide)
          refine m_gdn hN q8 (by decide) c9 (m_newP hN [(144, lnM M2 8), (142, lnM M 0), (143, -1), (141, a)] q8 (by decide) c9 (by rw [← e8]; exact okv_rg (by decide) ⟨by omega, by omega⟩) (by rw [e8]; simp) (fun s9 q9 => ?_))
          refine m_wi hH q9 (c := 9) (by decide) rfl [lnM M2 8] ?_ ?_ ⟨Nat.le_refl 1, fun z => absurd z (by decide), fun z => absurd z (by decide)⟩ (fun s10 q10 => ?_)
          · intro A hA hc
            right
            rcases cOf_9 hA hc with rfl
            simp [jOf, cOf, cid]
          · unfold CB; simp only [lnM_ap, Nat.reduceEqDiff, Nat.reduceAdd, Nat.reduceLT, Nat.reduceLeDiff, Nat.reduceBEq, reduceIte, and_self, and_true, true_and, and_false, false_and, if_true, if_false, Nat.reduceMul, Int.reduceEq, Int.reduceLT, Int.reduceLE, Int.reduceNeg, Int.reduceAdd, Int.reduceMul, Int.reduceSub]; omega
          · simp only [List.filter_cons, List.filter_nil, cOf, dropA, List.filter_cons, List.filter_nil, bne_iff_ne, ne_eq, Nat.reduceEqDiff, not_true_eq_false, not_false_eq_true, if_true, if_false, reduceIte, Bool.false_eq_true, Nat.reduceBNe, Nat.reduceEqDiff, Nat.reduceAdd, Nat.reduceLT, Nat.reduceLeDiff, Nat.reduceBEq, reduceIte, and_self, and_true, true_and, and_false, false_and, if_true, if_false, Nat.reduceMul, Int.reduceEq, Int.reduceLT, Int.reduceLE, Int.reduceNeg, Int.reduceAdd, Int.reduceMul, Int.reduceSub] at q10
            refine m_wi hH q10 (c := 8) (by decide) rfl [a, lnM M 0, -1] ?_ ?_ ⟨Nat.le_refl 3, fun z => absurd z (by decide), fun z => absurd z (by decide)⟩ (fun s11 q11 => wpo_some.mpr ?_)
            · intro A hA hc
              right
              rcases cOf_8 hA hc with rfl | rfl | rfl <;> simp [jOf, cOf, cid]
            · unfold CB; simp only [lnM_ap, Nat.reduceEqDiff, Nat.reduceAdd, Nat.reduceLT, Nat.reduceLeDiff, Nat.reduceBEq, reduceIte, and_self, and_true, true_and, and_false, false_and, if_true, if_false, Nat.reduceMul, Int.reduceEq, Int.reduceLT, Int.reduceLE, Int.reduceNeg, Int.reduceAdd, Int.reduceMul, Int.reduceSub]; omega
            · have q12 := q11.weakP (P' := []) (fun x hx => absurd hx List.not_mem_nil)
              refine (?_ : VMd L X ln s11 b (finA last (nN M) (apM (apM (stN M2 (nN M) 3 (nN M + 1)) 9 [lnM M2 8]) 8 [a, lnM M 0, -1, nN M, 1])) [])
              exact q12.sm (Sm.fin (Sm.ap (c := 8) (r := [a, lnM M 0, -1]) (r' := [a, lnM M 0, -1, nN M, 1]) (Sm.ap (c := 9) (r := [lnM M2 8]) (r' := [lnM M2 8]) (Sm.node (Sm.rfl (M := M2)) (nN M) 3 (nN M + 1)) (fun _ => rfl)) (fun _ => rfl)))
      · rw [tkE_n (show ¬kdL L (a + 1) = 10 by rw [kd_10]; exact k3), bE_l] at eg
        exact FT s4 _ q4 eg
  · -- a constant, or nothing that fits
    have nkd1 : ¬kdL L a = 1 := by rw [kd_1]; exact k1
    have ee : f_X14_eat 1 s2 = some (0, s2) := by
      unfold f_X14_eat
      rw [if_neg (by rw [q2.f0]; decide), q2.is, bd_eq]
      unfold b2i
      rw [if_neg k1, if_pos rfl]
    rw [ee, bd_eq, if_pos rfl]
    -- a fault from the value on
    have FV : ∀ (s5 : vS) (e : Ft) (x : Int), FM L X ln e s5 → gA1 L X last (a, M) = .inl e → wpo (gd (inb (lnM M 8) (gN s5 142)) <| bd (f_X14_parseValue x s5) fun r39 s36 => gd (gN s36 143 = gN s5 143) <| gd (inb (lnM M 8) (gN s36 143)) <| stp (sE s36 143 (lnM M 8) r39) fun s43 => stp (sI s43 87 72 (w32 ((gI s43 87 72) + 1))) fun s45 => some s45) (PA L X ln (gA1 L X last (a, M))) := by
      intro s5 e x f5 eg
      rw [eg, gd_pos (F8 s5 e f5 142 (by decide) rfl)]
      refine wpo_bd.mpr (wpo.mono (F_value f5) ?_)
      rintro ⟨r6, s6⟩ f6
      simp only at f6
      refine mF_gde f6 f5.bd (by decide) ?_
      rw [gd_pos (F8 s6 e f6 143 (by decide) rfl)]
      refine mF_w f6 (by decide) (fun s7 f7 => ?_)
      rw [stp_eq]
      exact wpo_some.mpr (Or.inl (f7.fq.w (Or.inl rfl)))
    refine m_take hH q2 (by decide) (by decide) (fun k3 k4 s3 q3 => ?_) (fun k3 s3 q3 _ => ?_)
    · have kd0 : kdL L a = 0 := by rw [kd_0]; exact k3
      have eg : gA1 L X last (a, M) = bE (gType L X 100 (a + 1, adN M 29 a)) fun q => bE (tkE L X 10 q.1) fun b => bE (gValue L X (lnM M 0) (b, stN q.2 (nN M) 3 (nN M + 1))) fun r => .inr (r.1, finA last (nN M) (apM (stN r.2 (nN M) 4 (nN q.2)) 8 [a, lnM M 0, lnM q.2 6, nN M, 0])) := by
        unfold gA1
        simp only [kd_0, kd_1, kd_2, kd_3, kd_4, kd_5, kd_10, kd_12, kd_15, kd_16, kd_17, kd_18, kd_19, kd_20, kd_21, kd_24, kd_25, kd_103, kd_105, kd_106, kd_108, kd_111, kd_116, kd_118, kd_120, kd_121, kd_123, kd_127, kd_130, kd_132, kd_133, kd_134, kd_139, kd_142, kd_143, kd_145, kd_147, kd_148, kd_149, kd_150, kd_155, kd_156, kd_159, kd_160, kd_161, kd_162, kd_165, kd_166, kd_170, kd_171, kd_172, k3, Int.reduceEq, if_true, if_false]
      have sm1 : Sm M (adN M 29 a) := Sm.rfl.nad _ _
      have q5 : VMd L X ln s3 (a + 1) (adN M 29 a) [] := (q3.weakP (P' := []) (fun x hx => absurd hx List.not_mem_nil)).sm sm1
      have e0 : lnM (adN M 29 a) 0 = lnM M 0 := sm1.lnE (by decide)
      have GL := gr_type (L := L) (X := X) 100 (a + 1, adN M 29 a) (by show 0 ≤ a + 1; omega)
      refine wpo_bd.mpr (wpo.mono (wpo.and (M_parseType hH hN q5 ((hC.mono (by omega)).sm sm1) (by rw [e0]; omega)) (fun r hr => fr_f_X14_parseType s3 r hr)) ?_)
      rintro ⟨r6, s6⟩ ⟨og, fr6⟩
      simp only at fr6
      generalize gType L X 100 (a + 1, adN M 29 a) = g at og GL eg
      cases g with
      | inl e =>
        rw [bE_l] at eg
        rcases og with f6 | d6
        · simp only at f6
          refine mF_gde f6 q3.bd (by decide) ?_
          rw [gd_pos (F8 s6 e f6 142 (by decide) rfl)]
          exact mF_w f6 (by decide) (fun s7 f7 => mF_take f7 (FV s7 e _ f7 eg))
        · simp only at d6
          refine wpo_gd.mpr ⟨by rw [d6.1.2.2.2.1 142 (by decide), q3.1.2.2.2.1 142 (by decide)], ?_⟩
          rw [gd_pos (D8 s6 e d6 142 (by decide) rfl), stp_eq]
          have d7 := d6.w (A := 142) (by decide) (i := lnM M 8) (v := r6)
          obtain ⟨s8, e8, f8, _⟩ := d7.take hH (c := 7) (by decide)
          rw [e8, bd_eq]
          exact FV s8 e _ f8 eg
      | inr q =>
        obtain ⟨b, M2⟩ := q
        obtain ⟨hr, q6⟩ := og
        simp only at hr q6
        rw [bE_r] at eg
        simp only at eg
        have GL : GR 1 0 0 0 0 0 (a + 1, adN M 29 a) (b, M2) := GL
        have C2 := ((hC.mono (by omega : a ≤ a + 1)).sm sm1).gr GL (by decide) (by decide) (by decide) (by decide) (by decide) (by decide)
        have e8 : lnM M2 8 = lnM M 8 := by have := GL.2.2.2.2.2.2.2.2.2.1; simp only at this; rw [this]; exact sm1.lnE (by decide)
        have ct2 := C2
        unfold CT at ct2
        have b1 : a + 2 ≤ b := by have := GL.1; simp only at this; omega
        have bl := q6.al
        rw [hr, e0]
        have q7 := keep s3 s6 _ _ _ _ q3 q6 fr6 (by decide) (by decide) e8
        refine m_gde q7 q3 (by decide) (m_gdn hN q7 (by decide) (by show lnM M 8 = lnM M2 8; exact e8.symm) (m_newP hN [(142, lnM M 0), (143, -1), (141, a)] q7 (by decide) (by show lnM M 8 = lnM M2 8; exact e8.symm) (okv_rg (by decide) ⟨by omega, by omega⟩) (by simp) (fun s8 q8 => ?_)))
        refine m_take hH q8 (by decide) (by decide) (fun k5 k6 s9 q9 => ?_) (fun k5 s9 q9 _ => ?_)
        · rw [tkE_y (show kdL L b = 10 by rw [kd_10]; exact k5), bE_r] at eg
          have rv : gE s9 142 (lnM M 8) = lnM M 0 := by
            rw [← e8]; exact q9.rp (A := 142) (by simp) (by decide)
          refine m_gdn hN q9 (by decide) (by show lnM M 8 = lnM M2 8; exact e8.symm) ?_
          rw [rv]
          have q10 : VMd L X ln s9 (b + 1) (stN M2 (nN M) 3 (nN M + 1)) [] := (q9.weakP (P' := []) (fun x hx => absurd hx List.not_mem_nil)).sm (Sm.rfl.node _ _ _)
          have sm2 : Sm M2 (stN M2 (nN M) 3 (nN M + 1)) := Sm.rfl.node _ _ _
          have GV := gr_value (L := L) (X := X) (t := lnM M 0) (p := (b + 1, stN M2 (nN M) 3 (nN M + 1)))
          refine wpo_bd.mpr (wpo.mono (wpo.and (M_value (t := lnM M 0) hH hN q10 ⟨by omega, by omega⟩ ((C2.mono (by omega)).sm sm2)) (fun r hr => fr_f_X14_parseValue (lnM M 0) s9 r hr)) ?_)
          rintro ⟨r11, s11⟩ ⟨⟨hr11, og⟩, fr11⟩
          simp only at hr11 og fr11
          have e6 : lnM (stN M2 (nN M) 3 (nN M + 1)) 6 = lnM M2 6 := sm2.lnE (by decide)
          rw [e6] at hr11
          generalize gValue L X (lnM M 0) (b + 1, stN M2 (nN M) 3 (nN M + 1)) = g at og GV eg
          cases g with
          | inl e =>
            rw [bE_l] at eg
            have f11 : FM L X ln e s11 := og
            rw [eg]
            refine mF_gde f11 q9.bd (by decide) ?_
            rw [gd_pos (F8 s11 e f11 143 (by decide) rfl)]
            refine mF_w f11 (by decide) (fun s12 f12 => ?_)
            rw [stp_eq]
            exact wpo_some.mpr (Or.inl (f12.fq.w (Or.inl rfl)))
          | inr q =>
            obtain ⟨c, M3⟩ := q
            obtain ⟨q12, g12⟩ := og
            simp only at q12 g12
            rw [bE_r] at eg
            simp only at eg
            have GV : GR 1 0 0 0 0 1 (b + 1, stN M2 (nN M) 3 (nN M + 1)) (c, M3) := GV
            have e8' : lnM M3 8 = lnM M 8 := by have := GV.2.2.2.2.2.2.2.2.2.1; simp only at this; rw [this, lnM_st]; exact e8
            have cl := q12.al
            have pk : ∀ A, A = 141 ∨ A = 142 ∨ A = 143 → isT A = true ∧ cOf A = 8 ∧ rdA s11 A (lnM M 8) = rdA s9 A (lnM M 8) := fun A hA => by
              rcases hA with rfl | rfl | rfl <;> exact ⟨rfl, rfl, rdA_fr fr11 rfl (by decide) _⟩
            have v1 : rdA s9 141 (lnM M 8) = a := by rw [← e8]; exact (q9.pd (141, a) (by simp)).2
            have v2 : rdA s9 142 (lnM M 8) = lnM M 0 := by rw [← e8]; exact (q9.pd (142, lnM M 0) (by simp)).2
            have q13 : VMd L X ln s11 c M3 [(142, lnM M 0), (141, a)] := (q12.addP (A := 141) (v := a) (by decide) (by show rdA s11 141 (lnM M3 8) = a; rw [e8', (pk 141 (Or.inl rfl)).2.2]; exact v1)).addP (A := 142) (by decide) (by show rdA s11 142 (lnM M3 8) = lnM M 0; rw [e8', (pk 142 (Or.inr (Or.inl rfl))).2.2]; exact v2)
            have kb3 := q13.kb
            unfold CB at kb3
            have g3 := GV
            unfold GR at g3
            simp only [lnM_st] at g3
            have l26 := lnM_nn M2 6
            rw [eg, hr11]
            refine m_gde q13 q9 (by decide) (m_gdn hN q13 (by decide) (by show lnM M 8 = lnM M3 8; exact e8'.symm) (m_newP hN [(143, lnM M2 6), (142, lnM M 0), (141, a)] q13 (by decide) (by show lnM M 8 = lnM M3 8; exact e8'.symm) (okv_rg (by decide) ⟨by omega, by omega⟩) (by simp) (fun s14 q14 => ?_)))
            refine m_wi hH q14 (c := 8) (by decide) rfl [a, lnM M 0, lnM M2 6] ?_ ?_ ⟨Nat.le_refl 3, fun z => absurd z (by decide), fun z => absurd z (by decide)⟩ (fun s15 q15 => wpo_some.mpr ?_)
            · intro A hA hc
              right
              rcases cOf_8 hA hc with rfl | rfl | rfl <;> simp [jOf, cOf, cid]
            · unfold CB; simp only [lnM_ap, Nat.reduceEqDiff, Nat.reduceAdd, Nat.reduceLT, Nat.reduceLeDiff, Nat.reduceBEq, reduceIte, and_self, and_true, true_and, and_false, false_and, if_true, if_false, Nat.reduceMul, Int.reduceEq, Int.reduceLT, Int.reduceLE, Int.reduceNeg, Int.reduceAdd, Int.reduceMul, Int.reduceSub]; omega
            · have q16 := q15.weakP (P' := []) (fun x hx => absurd hx List.not_mem_nil)
              refine (?_ : VMd L X ln s15 c (finA last (nN M) (apM (stN M3 (nN M) 4 (nN M2)) 8 [a, lnM M 0, lnM M2 6, nN M, 0])) [])
              exact q16.sm (Sm.fin (Sm.ap (c := 8) (r := [a, lnM M 0, lnM M2 6]) (r' := [a, lnM M 0, lnM M2 6, nN M, 0]) (Sm.node (Sm.rfl (M := M3)) (nN M) 4 (nN M2)) (fun _ => rfl)))
        · rw [tkE_n (show ¬kdL L b = 10 by rw [kd_10]; exact k5), bE_l] at eg
          exact FV s9 _ _ q9 eg
    · have eg : gA1 L X last (a, M) = .inl (flt L X a) := by
        have nkd0 : ¬kdL L a = 0 := by rw [kd_0]; exact k3
        unfold gA1
        simp only [nkd1, nkd0, if_false]
      refine wpo_bd.mpr (wpo.mono (F_parseType q3) ?_)
      rintro ⟨r5, s5⟩ f5
      simp only at f5
      refine mF_gde f5 q3.bd (by decide) ?_
      rw [gd_pos (F8 s5 _ f5 142 (by decide) rfl)]
      exact mF_w f5 (by decide) (fun s7 f7 => mF_take f7 (FV s7 _ _ f7 eg))
end
