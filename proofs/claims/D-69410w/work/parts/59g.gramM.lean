set_option maxRecDepth 100000 set_option linter.unusedVariables false set_option linter.unusedSimpArgs false
/-! PURE 59g: the model's grammar: values -/
section
variable {L : Lx} {X : List Int} {ln : Nat → Nat} {s s' : vS} {a : Int} {M M' : Mt} {P : List (Nat × Int)} {α : Type} {Q : α → Prop} {e : Ft}
/-- a value's row is there -/
theorem m_value (hH : LH L X) {b c0 c1 c2 c3 c4 c5 c6 : Int} {k : vS → Option α} (h : VMd L X ln s b M P) (hP : ∀ x ∈ [(132, c0), (133, c1), (134, c2), (135, c3), (136, c4), (137, c5), (138, c6)], x ∈ P) (hk : 2 * lnM M 6 ≤ b) (hf : ∀ x ∈ P, cOf x.1 = 6) (h1 : ∀ s', VMd L X ln s' b (apM M 6 [c0, c1, c2, c3, c4, c5, c6]) [] → wpo (k s') Q) : wpo (stp (sI s 87 61 (w32 (gI s 87 61 + 1))) k) Q := by
  have kb := h.kb
  unfold CB at kb
  refine m_wi hH h (c := 6) (by decide) rfl [c0, c1, c2, c3, c4, c5, c6] ?_ ?_ ⟨Nat.le_refl 7, fun z => absurd z (by decide), fun z => absurd z (by decide)⟩ (fun s1 q1 => h1 s1 (q1.weakP (fun x hx => absurd hx List.not_mem_nil)))
  · intro A hA hc
    right
    rcases cOf_6 hA hc with rfl | rfl | rfl | rfl | rfl | rfl | rfl
    · exact hP (132, c0) (by simp)
    · exact hP (133, c1) (by simp)
    · exact hP (134, c2) (by simp)
    · exact hP (135, c3) (by simp)
    · exact hP (136, c4) (by simp)
    · exact hP (137, c5) (by simp)
    · exact hP (138, c6) (by simp)
  · unfold CB; simp only [lnM_ap, Nat.reduceEqDiff, Nat.reduceAdd, Nat.reduceLT, Nat.reduceLeDiff, Nat.reduceBEq, reduceIte, and_self, and_true, true_and, and_false, false_and, if_true, if_false, Nat.reduceMul, Int.reduceEq, Int.reduceLT, Int.reduceLE, Int.reduceNeg, Int.reduceAdd, Int.reduceMul, Int.reduceSub]; omega
theorem mF_value (hH : LH L X) {k : vS → Option α} {v : Int} (h : FM L X ln e s) (hv : gI s 87 61 = v) (hb : 2 * v ≤ L.length + 2) (h1 : ∀ s', FM L X ln e s' → wpo (k s') Q) : wpo (stp (sI s 87 61 (w32 (gI s 87 61 + 1))) k) Q := by
  rw [stp_eq]
  exact h1 _ (h.inc hH (c := 6) (by decide) hv (by show 2 * v ≤ (L.length : Int) + 2; exact hb))
theorem M_221 (hH : LH L X) {b : Int} (h : VMd L X ln s b M P) (hk : 2 * lnM M 6 ≤ b) : wpo (j_X14_parseValue_221 (lnM M 6) s) (fun r => r.1 = lnM M 6 ∧ FM L X ln (flt L X b) r.2) := by
  have := h.al
  unfold j_X14_parseValue_221
  refine m_misfit hH h (fun s1 q1 T1 => ?_)
  exact mF_value hH q1 (T1.1 6 (by decide)) (by omega) (fun s2 q2 => wpo_some.mpr ⟨rfl, q2⟩)
theorem kz_km {L : Lx} {a : Int} (h : kz L a ≠ 0) : kz L a = km (kdL L a) := by
  unfold kz at h ⊢
  by_cases c : 0 ≤ a ∧ a < L.length
  · rw [if_pos c]
  · rw [if_neg c] at h; exact absurd rfl h
theorem vSort_kz {L : Lx} {a : Int} : vSort (kdL L a) = if kz L a = 106 then 0 else if kz L a = 67 then 1 else if kz L a = 85 then 2 else if kz L a = 2 then 4 else if kz L a = 4 then 5 else if kz L a = 5 then 6 else if kz L a = 6 then 7 else if kz L a = 12 then 8 else 3 := by
  unfold vSort
  simp only [kd_0, kd_1, kd_2, kd_3, kd_4, kd_5, kd_10, kd_12, kd_15, kd_16, kd_17, kd_18, kd_19, kd_20, kd_21, kd_24, kd_25, kd_103, kd_105, kd_106, kd_108, kd_111, kd_116, kd_118, kd_120, kd_121, kd_123, kd_127, kd_130, kd_132, kd_133, kd_134, kd_139, kd_142, kd_143, kd_145, kd_147, kd_148, kd_149, kd_150, kd_155, kd_156, kd_159, kd_160, kd_161, kd_162, kd_165, kd_166, kd_170, kd_171, kd_172]
theorem gValue_num {t b m : Int} (hb : (kz L a = 19 ∧ m = 1 ∧ b = a + 1) ∨ (kz L a ≠ 19 ∧ m = 0 ∧ b = a)) (h3 : kz L b = 3) : ∃ M3, gValue L X t (a, M) = .inr (b + 1, apM M3 6 [3, a, b, m, lnM M 7, 0, t, nN M]) ∧ Sm M M3 := by
  unfold gValue
  simp only
  have e1 : vSort (kdL L a) = 3 := by
    rw [vSort_kz]
    rcases hb with ⟨q1, q2, q3⟩ | ⟨q1, q2, q3⟩
    · rw [q1]; decide
    · rw [q3] at h3; rw [h3]; decide
  rw [e1, if_pos rfl]
  rcases hb with ⟨q1, rfl, rfl⟩ | ⟨q1, rfl, rfl⟩
  · have e2 : kdL L a = 25 := by rw [kd_25]; exact q1
    simp only [e2, if_true, Int.reduceEq, if_false]
    rw [tkE_y (show kdL L (a + 1) = 2 by rw [kd_2]; exact h3), bE_r]
    exact ⟨_, rfl, ((((Sm.rfl.nad _ _).node _ _ _).node _ _ _).node _ _ _).node _ _ _⟩
  · have e2 : ¬kdL L b = 25 := by rw [kd_25]; exact q1
    simp only [e2, if_false, if_true]
    rw [show b + 0 = b by omega, tkE_y (show kdL L b = 2 by rw [kd_2]; exact h3), bE_r]
    exact ⟨_, rfl, (((Sm.rfl.nad _ _).node _ _ _).node _ _ _).node _ _ _⟩
theorem gValue_bad {t b m : Int} (hb : (kz L a = 19 ∧ m = 1 ∧ b = a + 1) ∨ (kz L a ≠ 19 ∧ m = 0 ∧ b = a)) (h3 : kz L b ≠ 3) (h4 : m = 1 ∨ (kz L a ≠ 106 ∧ kz L a ≠ 67 ∧ kz L a ≠ 85 ∧ kz L a ≠ 2 ∧ kz L a ≠ 4 ∧ kz L a ≠ 5 ∧ kz L a ≠ 6 ∧ kz L a ≠ 12)) : gValue L X t (a, M) = .inl (flt L X b) := by
  unfold gValue
  simp only
  have e1 : vSort (kdL L a) = 3 := by
    rw [vSort_kz]
    rcases hb with ⟨q1, q2, q3⟩ | ⟨q1, q2, q3⟩
    · rw [q1]; decide
    · rcases h4 with z | ⟨z1, z2, z3, z4, z5, z6, z7, z8⟩
      · omega
      · simp only [z1, z2, z3, z4, z5, z6, z7, z8, if_false]
  rw [e1, if_pos rfl]
  rcases hb with ⟨q1, rfl, rfl⟩ | ⟨q1, rfl, rfl⟩
  · have e2 : kdL L a = 25 := by rw [kd_25]; exact q1
    simp only [e2, if_true, Int.reduceEq, if_false]
    rw [tkE_n (show ¬kdL L (a + 1) = 2 by rw [kd_2]; exact h3), bE_l]
  · have e2 : ¬kdL L b = 25 := by rw [kd_25]; exact q1
    simp only [e2, if_false, if_true]
    rw [show b + 0 = b by omega, tkE_n (show ¬kdL L b = 2 by rw [kd_2]; exact h3), bE_l]
theorem gValue_one {t : Int} (h : kz L a = 106 ∨ kz L a = 67 ∨ kz L a = 85 ∨ kz L a = 2 ∨ kz L a = 4 ∨ kz L a = 5 ∨ kz L a = 6) : ∃ M3, gValue L X t (a, M) = .inr (a + 1, apM M3 6 [kz L a, a, a, 0, lnM M 7, 0, t, nN M]) ∧ Sm M M3 := by
  unfold gValue
  simp only
  have e0 : km (kdL L a) = kz L a := (kz_km (by omega)).symm
  have e1 : vSort (kdL L a) ≠ 3 ∧ vSort (kdL L a) ≠ 8 := by
    rw [vSort_kz]
    rcases h with z | z | z | z | z | z | z <;> rw [z] <;> decide
  rw [if_neg e1.1, if_neg e1.2, e0]
  exact ⟨_, rfl, (Sm.rfl.nad _ _).node _ _ _⟩
theorem gValue_list {t : Int} (h : kz L a = 12) : gValue L X t (a, M) = bE (gParts L X (nN M) (L.length + 1) (-1) (a + 1, stN (adN M 26 a) (nN M) 5 8)) fun q => bE (tkE L X 16 q.1) fun c => .inr (c, apM q.2 6 [12, a, a, 0, lnM M 7, lnM q.2 7 - lnM M 7, t, nN M]) := by
  unfold gValue
  simp only
  have e1 : vSort (kdL L a) = 8 := by rw [vSort_kz, h]; decide
  rw [e1, if_neg (by decide), if_pos rfl]
  rfl
theorem M_value (hH : LH L X) (hN : LN L ln) {t : Int} (h : VMd L X ln s a M []) (ht : rg t) (hk : CT M a) : wpo (f_X14_parseValue t s) (fun r => r.1 = lnM M 6 ∧ OM L X ln a (gValue L X t (a, M)) r.2) := by
  have hl := hH.2.1
  have al := h.al
  have a0 := h.a0
  have l6 := lnM_nn M 6
  have l7 := lnM_nn M 7
  unfold CT at hk
  unfold f_X14_parseValue
  refine m_ct (c := 6) h (by decide) rfl (m_ifl h ?_)
  rw [h.at]
  refine m_gdn hN h (by decide) rfl (m_newP hN [(133, a)] h (by decide) rfl (okv_rg (by decide) ⟨by omega, by omega⟩) (by simp) (fun s1 q1 => ?_))
  refine m_gdn hN q1 (by decide) rfl (m_newP hN [(138, t), (133, a)] q1 (by decide) rfl (okv_rg (by decide) ht) (by simp) (fun s2 q2 => ?_))
  -- behind the minus
  have J : ∀ (s : vS) (b m : Int), VMd L X ln s b M [(138, t), (133, a)] → ((kz L a = 19 ∧ m = 1 ∧ b = a + 1) ∨ (kz L a ≠ 19 ∧ m = 0 ∧ b = a)) → wpo (gd (inb (lnM M 6) (gN s 135)) <| stp (sE s 135 (lnM M 6) m) fun s18 =>
    gd (inb (lnM M 6) (gN s18 136)) <|
    stp (sE s18 136 (lnM M 6) (gI s18 87 69)) fun s21 =>
    gd (inb (lnM M 6) (gN s21 137)) <|
    stp (sE s21 137 (lnM M 6) 0) fun s24 =>
    gd (inb (gI s24 87 19) (gN s24 94)) <|
    gd (inb (lnM M 6) (gN s24 132)) <|
    stp (sE s24 132 (lnM M 6) (gE s24 94 (gI s24 87 19))) fun s28 =>
    gd (inb (lnM M 6) (gN s28 134)) <|
    stp (sE s28 134 (lnM M 6) (gI s28 87 19)) fun s31 =>
    bd (f_X14_is 3 s31) fun r36 s33 =>
    if r36 = 0 then
      gd (inb (lnM M 6) (gN s33 135)) <|
      if (gZ s33 135 (lnM M 6)) = 0 then
        bd (f_X14_is 106 s33) fun r44 s41 =>
        if r44 = 0 then
          bd (f_X14_is 67 s41) fun r50 s47 =>
          if r50 = 0 then
            bd (f_X14_is 85 s47) fun r56 s53 =>
            if r56 = 0 then
              bd (f_X14_is 2 s53) fun r62 s59 =>
              if r62 = 0 then
                bd (f_X14_is 4 s59) fun r68 s65 =>
                if r68 = 0 then
                  bd (f_X14_is 5 s65) fun r74 s71 =>
                  if r74 = 0 then
                    bd (f_X14_is 6 s71) fun r80 s77 =>
                    if r80 = 0 then
                      j_X14_parseValue_188 (lnM M 6) s77
                    else
                      j_X14_parseValue_175 (lnM M 6) s77
                  else
                    j_X14_parseValue_175 (lnM M 6) s71
                else
                  j_X14_parseValue_175 (lnM M 6) s65
              else
                j_X14_parseValue_175 (lnM M 6) s59
            else
              j_X14_parseValue_175 (lnM M 6) s53
          else
            j_X14_parseValue_175 (lnM M 6) s47
        else
          j_X14_parseValue_175 (lnM M 6) s41
      else
        j_X14_parseValue_188 (lnM M 6) s33
    else
      stp (sI s33 87 19 (w32 ((gI s33 87 19) + 1))) fun s83 =>
      stp (sI s83 87 61 (w32 ((gI s83 87 61) + 1))) fun s85 =>
      some (lnM M 6, s85)) (fun r => r.1 = lnM M 6 ∧ OM L X ln a (gValue L X t (a, M)) r.2) := by
    intro s b m h hb
    have hm : m = 0 ∨ m = 1 := by omega
    have bl := h.al
    refine m_gdn hN h (by decide) rfl (m_newP hN [(135, m), (138, t), (133, a)] h (by decide) rfl (okv_b (by decide) hm) (by simp) (fun s1 q1 => ?_))
    rw [show gI s1 87 69 = lnM M 7 from q1.ct (c := 7) (by decide)]
    refine m_gdn hN q1 (by decide) rfl (m_newP hN [(136, lnM M 7), (135, m), (138, t), (133, a)] q1 (by decide) rfl (okv_rg (by decide) ⟨by omega, by omega⟩) (by simp) (fun s2 q2 => ?_))
    refine m_gdn hN q2 (by decide) rfl (m_newP hN [(137, 0), (136, lnM M 7), (135, m), (138, t), (133, a)] q2 (by decide) rfl (okv_rg (by decide) (rgl rfl)) (by simp) (fun s3 q3 => ?_))
    obtain ⟨w1, w2, w3, w4⟩ := q3.lex
    refine wpo_gd.mpr ⟨w1, ?_⟩
    rw [w3]
    have kr : rg (kz L b) := by rw [← w3]; exact gE_rg _ _ _
    refine m_gdn hN q3 (by decide) rfl (m_newP hN [(132, kz L b), (137, 0), (136, lnM M 7), (135, m), (138, t), (133, a)] q3 (by decide) rfl (okv_rg (by decide) kr) (by simp) (fun s4 q4 => ?_))
    rw [q4.at]
    refine m_gdn hN q4 (by decide) rfl (m_newP hN [(134, b), (132, kz L b), (137, 0), (136, lnM M 7), (135, m), (138, t), (133, a)] q4 (by decide) rfl (okv_rg (by decide) ⟨by omega, by omega⟩) (by simp) (fun s5 q5 => ?_))
    have done : ∀ (s6 : vS) (c k0 k2 k3 : Int) (M3 : Mt), VMd L X ln s6 c (apM M 6 [k0, a, k2, k3, lnM M 7, 0, t]) [] → a < c → Sm M M3 → OM L X ln a (.inr (c, apM M3 6 [k0, a, k2, k3, lnM M 7, 0, t, nN M])) s6 := fun s6 c k0 k2 k3 M3 w1 w2 w3 => ⟨w1.sm (w3.ap (fun _ => rfl)), w2⟩
    have bad : ∀ (Q' : Prop), kz L b ≠ 3 → (m = 1 ∨ (kz L a ≠ 106 ∧ kz L a ≠ 67 ∧ kz L a ≠ 85 ∧ kz L a ≠ 2 ∧ kz L a ≠ 4 ∧ kz L a ≠ 5 ∧ kz L a ≠ 6 ∧ kz L a ≠ 12)) → wpo (j_X14_parseValue_221 (lnM M 6) s5) (fun r => r.1 = lnM M 6 ∧ OM L X ln a (gValue L X t (a, M)) r.2) := fun _ w1 w2 => by
      rw [gValue_bad hb w1 w2]
      exact M_221 hH q5 (by omega)
    refine m_is q5 (fun k3 => wp_f ?_) (fun k3 => wp_t ?_)
    · refine m_adv hH q5 k3 (by decide) (by decide) (fun _ s6 q6 => ?_)
      obtain ⟨M3, e3, sm3⟩ := gValue_num (X := X) (t := t) (M := M) hb k3
      rw [k3] at q6
      refine m_value (c0 := 3) (c1 := a) (c2 := b) (c3 := m) (c4 := lnM M 7) (c5 := 0) (c6 := t) hH q6 (by simp) (by omega) (by intro x hx; simp only [List.mem_cons, List.not_mem_nil, or_false] at hx; rcases hx with rfl | rfl | rfl | rfl | rfl | rfl | rfl <;> rfl) (fun s7 q7 => wpo_some.mpr ⟨rfl, ?_⟩)
      rw [e3]
      exact done s7 (b + 1) 3 b m M3 q7 (by omega) sm3
    · refine m_gdn hN q5 (by decide) rfl ?_
      rw [show gZ s5 135 (lnM M 6) = m from q5.rpz (A := 135) (by simp) (by decide)]
      rcases hm with rfl | rfl
      · have ba : b = a := by omega
        subst ba
        rw [if_pos rfl]
        -- a sign that stands alone
        have one : (kz L b = 106 ∨ kz L b = 67 ∨ kz L b = 85 ∨ kz L b = 2 ∨ kz L b = 4 ∨ kz L b = 5 ∨ kz L b = 6) → wpo (j_X14_parseValue_175 (lnM M 6) s5) (fun r => r.1 = lnM M 6 ∧ OM L X ln b (gValue L X t (b, M)) r.2) := by
          intro hz
          unfold j_X14_parseValue_175
          obtain ⟨M3, e3, sm3⟩ := gValue_one (X := X) (t := t) (M := M) hz
          refine m_adv hH q5 (c := kz L b) rfl (by omega) (by omega) (fun _ s6 q6 => ?_)
          refine m_value (c0 := kz L b) (c1 := b) (c2 := b) (c3 := 0) (c4 := lnM M 7) (c5 := 0) (c6 := t) hH q6 (by simp) (by omega) (by intro x hx; simp only [List.mem_cons, List.not_mem_nil, or_false] at hx; rcases hx with rfl | rfl | rfl | rfl | rfl | rfl | rfl <;> rfl) (fun s7 q7 => wpo_some.mpr ⟨rfl, ?_⟩)
          rw [e3]
          exact done s7 (b + 1) (kz L b) b 0 M3 q7 (by omega) sm3
        refine m_is q5 (fun k4 => wp_f (one (by omega))) (fun k4 => wp_t ?_)
        refine m_is q5 (fun k5 => wp_f (one (by omega))) (fun k5 => wp_t ?_)
        refine m_is q5 (fun k6 => wp_f (one (by omega))) (fun k6 => wp_t ?_)
        refine m_is q5 (fun k7 => wp_f (one (by omega))) (fun k7 => wp_t ?_)
        refine m_is q5 (fun k8 => wp_f (one (by omega))) (fun k8 => wp_t ?_)
        refine m_is q5 (fun k9 => wp_f (one (by omega))) (fun k9 => wp_t ?_)
        refine m_is q5 (fun k10 => wp_f (one (by omega))) (fun k10 => wp_t ?_)
        unfold j_X14_parseValue_188
        refine m_gdn hN q5 (by decide) rfl ?_
        rw [show gZ s5 135 (lnM M 6) = 0 from q5.rpz (A := 135) (by simp) (by decide), if_pos rfl]
        refine m_eat hH q5 (by decide) (by decide) (fun k11 k12 s6 q6 => wp_f ?_) (fun k11 => wp_t ?_)
        · -- a list
          rw [gValue_list k11]
          have hP6 : P6 [(134, b), (132, 12), (136, lnM M 7), (135, 0), (138, t), (133, b)] := by
            intro x hx; simp only [List.mem_cons, List.not_mem_nil, or_false] at hx; rcases hx with rfl | rfl | rfl | rfl | rfl | rfl <;> exact ⟨rfl, Nat.ne_of_beq_eq_false rfl⟩
          rw [k11] at q6
          have q7 : VMd L X ln s6 (b + 1) (stN (adN M 26 b) (nN M) 5 8) ((137, 0) :: [(134, b), (132, 12), (136, lnM M 7), (135, 0), (138, t), (133, b)]) := (q6.weakP (by intro x hx; simp only [List.mem_cons, List.not_mem_nil, or_false] at hx ⊢; grind)).sm ((Sm.rfl.nad _ _).node _ _ _)
          have e6 : lnM (stN (adN M 26 b) (nN M) 5 8) 6 = lnM M 6 := by rw [lnM_st, lnM_ad, if_neg (by decide)]
          have e7 : lnM (stN (adN M 26 b) (nN M) 5 8) 7 = lnM M 7 := by rw [lnM_st, lnM_ad, if_neg (by decide)]
          have z := M_parts_l (vn := nN M) hH hN hP6 (L.length + 1) FU s6 (b + 1) (-1) 0 0 _ q7 (by decide) (by omega) (by omega) (by omega) (by omega) (by unfold FU; omega) (Or.inl rfl)
          rw [if_neg (fun w => absurd w.1 (by decide)), e6] at z
          have zz : wpo (f_X14_partsOf (lnM M 6) s6) (PO L X ln (stN (adN M 26 b) (nN M) 5 8) 0 [(134, b), (132, 12), (136, lnM M 7), (135, 0), (138, t), (133, b)] (b + 1) (gParts L X (nN M) (L.length + 1) (-1) (b + 1, stN (adN M 26 b) (nN M) 5 8))) := by
            unfold f_X14_partsOf
            exact wpo_lq_0.mpr (wpo.mono z (fun s7 h7 => wpo_some.mpr h7))
          have gr := gr_parts (L := L) (X := X) (vn := nN M) (L.length + 1) (-1) (b + 1, stN (adN M 26 b) (nN M) 5 8)
          refine wpo_bdv.mpr (wpo.mono (wpo.and zz (fun r hr => fr_f_X14_partsOf (lnM M 6) s6 r hr)) ?_)
          rintro s7 ⟨h7, f7⟩
          generalize gParts L X (nN M) (L.length + 1) (-1) (b + 1, stN (adN M 26 b) (nN M) 5 8) = g at h7 gr ⊢
          cases g with
          | inl e =>
            have h7 : FM L X ln e s7 := h7
            rw [bE_l]
            refine mF_take h7 ?_
            have c6 : gI s7 87 61 = lnM M 6 := by
              have w1 : gI s7 87 61 = gI s6 87 61 := f7.rI (by decide)
              rw [w1]; exact (q6.ct (c := 6) (by decide))
            exact mF_value hH h7 c6 (by omega) (fun s8 q8 => wpo_some.mpr ⟨rfl, q8⟩)
          | inr q =>
            obtain ⟨d, M8⟩ := q
            obtain ⟨h8, h9, h10⟩ := h7
            simp only at h8 h9 h10
            rw [e6] at h10
            rw [e7, show (0 : Int) + (lnM M8 7 - lnM M 7) = lnM M8 7 - lnM M 7 by omega] at h8
            have dl := h8.al
            rw [bE_r]
            refine m_take hH h8 (by decide) (by decide) (fun k13 k14 s8 q8 => ?_) (fun k13 s8 q8 T8 => ?_)
            · rw [tkE_y (show kdL L d = 16 by rw [kd_16]; exact k13), bE_r]
              rw [← h10]
              refine m_value (c0 := 12) (c1 := b) (c2 := b) (c3 := 0) (c4 := lnM M 7) (c5 := lnM M8 7 - lnM M 7) (c6 := t) hH q8 (by simp) (by omega) (by intro x hx; simp only [List.mem_cons, List.not_mem_nil, or_false] at hx; rcases hx with rfl | rfl | rfl | rfl | rfl | rfl | rfl <;> rfl) (fun s9 q9 => wpo_some.mpr ⟨rfl, ?_⟩)
              exact ⟨q9.sm (Sm.rfl.ap (fun _ => rfl)), by show b < d + 1; omega⟩
            · rw [tkE_n (show ¬kdL L d = 16 by rw [kd_16]; exact k13), bE_l]
              exact mF_value hH q8 (T8.1 6 (by decide)) (by omega) (fun s9 q9 => wpo_some.mpr ⟨rfl, q9⟩)
        · exact bad True k3 (Or.inr ⟨k4, k5, k6, k7, k8, k9, k10, k11⟩)
      · rw [if_neg (by decide)]
        unfold j_X14_parseValue_188
        refine m_gdn hN q5 (by decide) rfl ?_
        rw [show gZ s5 135 (lnM M 6) = 1 from q5.rpz (A := 135) (by simp) (by decide), if_neg (by decide)]
        exact bad True k3 (Or.inl rfl)
  refine m_eat hH q2 (by decide) (by decide) (fun k1 k2 s3 q3 => ?_) (fun k1 => ?_)
  · exact m_gde q3 q2 (by decide) (J s3 (a + 1) 1 q3 (Or.inl ⟨k1, rfl, rfl⟩))
  · exact m_gde q2 q2 (by decide) (J s2 a 0 q2 (Or.inr ⟨k1, rfl, rfl⟩))
end
