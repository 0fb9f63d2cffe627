set_option maxRecDepth 100000 set_option linter.unusedVariables false set_option linter.unusedSimpArgs false
/-! PURE 59d: the model's grammar: numbers in it, tags -/
section
variable {L : Lx} {X : List Int} {ln : Nat → Nat} {s s' : vS} {a : Int} {M M' : Mt} {P : List (Nat × Int)} {α : Type} {Q : α → Prop} {e : Ft}
/-- a number that was made -/
def NR (L : Lx) (X : List Int) (r : Int) (s : vS) (z : Int) : Prop := ∃ V, NV L X 0 V s ∧ 0 ≤ r ∧ r < V.length ∧ V.getD r.toNat 0 = z
theorem kd_2' {L : Lx} {a : Int} (h : kz L a = 3) : kdL L a = 2 := by rw [kd_2]; exact h
theorem dvL_nn' (hH : LH L X) {a : Int} (h : kdL L a = 2) : 0 ≤ dvL L X a := by
  have i := gkd_in h (by decide)
  obtain ⟨d1, d2, d3, d4⟩ := hH.2.2.2.1 a i.1 i.2
  have d4 := d4 h
  unfold dvL
  generalize (L.getD a.toNat (0, 0, 0)).2.1 = i at *
  generalize enL L a = e at *
  exact (dvA_nn (slc X i e) 0 (by decide) (fun ch hc => by
    unfold slc at hc
    obtain ⟨j, hj, rfl⟩ := List.mem_iff_getElem.mp hc
    rw [List.length_take, List.length_drop] at hj
    have q := d4 (i + j) (by omega) (by omega)
    rw [cha_in (by omega) (by omega)] at q
    simp only [List.getElem_take, List.getElem_drop]
    have e2 : X.getD (i + (j : Int)).toNat 0 = X[i.toNat + j]'(by omega) := by
      rw [show (i + (j : Int)).toNat = i.toNat + j by omega]; exact (List.getElem_eq_getD 0).symm
    rw [e2] at q; exact q)).1
theorem m_numberOf (hH : LH L X) {x : Int} {k : Int → vS → Option α} (h : VMd L X ln s a M P) (hk : kdL L x = 2) (h1 : ∀ r s', VMd L X ln s' a M P → NR L X r s' (dvL L X x) → wpo (k r s') Q) : wpo (bd (f_X14_numberOf x 0 s) k) Q := by
  obtain ⟨V, hV⟩ := h.1.2.2.1
  have i := gkd_in hk (by decide)
  refine wpo_bd.mpr (wpo.mono (hV.numberOf hH (by decide) h.1.1 i.1 hk (Or.inl rfl)) ?_)
  rintro ⟨r, t⟩ ⟨V', p1, p2, p3, p4, p5, p6⟩
  simp only at p2 p3 p4 p5 p6
  simp only [if_true] at p5
  refine h1 r t ?_ ⟨V', p2, p3, p4, p5⟩
  obtain ⟨q1, q2, q3, q4, q5, q6, q7, q8, q9, q10⟩ := h
  have nA : ∀ A, isT A = true → 1000 * A + 998 ∉ W_f_X14_numberOf ∧ 1000 * A + 999 ∉ W_f_X14_numberOf := fun A hA => by
    have := isT_rg hA; unfold W_f_X14_numberOf; simp only [List.mem_cons, List.not_mem_nil, or_false]; omega
  have nc : ∀ c, c < 10 → 87000 + cnt c ∉ W_f_X14_numberOf := fun c hc => by
    have := cnt_ne hc; unfold W_f_X14_numberOf; simp only [List.mem_cons, List.not_mem_nil, or_false]; omega
  have ec : ∀ c, c < 10 → gI t 87 (cnt c) = gI s 87 (cnt c) := fun c hc => p6.rI (nc c hc)
  obtain ⟨b1, b2, b3, b4, b5, b6, b7⟩ := q1
  refine ⟨⟨b1.fr p6 (by decide), b2.fr p6 (by decide) (by decide), ⟨V', p2⟩, fun A hA => by rw [p6.rN (by have := isT_rg hA; omega) (nA A hA).1]; exact b4 A hA, by rw [p6.rN (by decide) (by decide)]; exact b5, by rw [p6.rN (by decide) (by decide)]; exact b6, b7.congr (fun c hc => ec c hc)⟩, by rw [p6.rI (by decide)]; exact q2, by rw [p6.rI (by decide)]; exact q3, by rw [p6.rI (by decide)]; exact q4, q5, q6, q7, ⟨fun c hc => by rw [ec c hc]; exact q8.1 c hc, fun A hA i i0 i1 => by rw [rdA_fr p6 hA (nA A hA).2]; exact q8.2.1 A hA i i0 i1, q8.2.2⟩, fun x hx => ⟨(q9 x hx).1, by rw [rdA_fr p6 (q9 x hx).1 (nA _ (q9 x hx).1).2]; exact (q9 x hx).2⟩, q10⟩
theorem m_asInt {r z : Int} {k : Int → vS → Option α} (h : NR L X r s z) (hz : 0 ≤ z) (h1 : wpo (k (if z ≤ 2147483647 then z else 2147483647) s) Q) : wpo (bd (f_X14_asInt r s) k) Q := by
  obtain ⟨V, p1, p2, p3, p4⟩ := h
  have q := X14_asInt p1.1 (n := r.toNat) (by omega) (by rw [p4]; exact hz)
  rw [Int.toNat_of_nonneg p2, p4] at q
  rw [q, bd_eq]; exact h1
theorem FM.inc (hH : LH L X) (h : FM L X ln e s) {c : Nat} (hc : c < 10) {v : Int} (hv : gI s 87 (cnt c) = v) (hb : wt c * v ≤ L.length + wt c) : FM L X ln e (sI s 87 (cnt c) (w32 (gI s 87 (cnt c) + 1))) := by
  have hl := hH.2.1
  have nc := cnt_ne hc
  have cb := h.1.2.2.2.2.2.2
  have cg : 0 ≤ gI s 87 (cnt c) ∧ wt c * gI s 87 (cnt c) ≤ (L.length : Int) + wt c * 2 := cb.ge hc
  have w : w32 (v + 1) = v + 1 := by
    rw [hv] at cg
    exact w32_id ⟨by rcases wt_pos hc with z | z | z <;> rw [z] at hb cg <;> omega, by rcases wt_pos hc with z | z | z <;> rw [z] at hb cg <;> omega⟩
  rw [hv, w]
  refine ⟨h.1.ct hc ?_, by rw [gI_s87, if_neg (by omega)]; exact h.2.1, by rw [gI_s87, if_neg (by omega)]; exact h.2.2.1, h.2.2.2.1, by rw [gI_s87, if_neg (by omega)]; exact h.2.2.2.2.1, by rw [gI_s87, if_neg (by omega)]; exact h.2.2.2.2.2⟩
  have ec : ∀ d, d < 10 → gI (sI s 87 (cnt c) (v + 1)) 87 (cnt d) = if d = c then v + 1 else gI s 87 (cnt d) := by
    intro d hd
    rw [gI_s87]
    by_cases q : d = c
    · rw [if_pos (by rw [q]), if_pos q, w]
    · rw [if_neg (fun z => q (cnt_inj hd hc z)), if_neg q]
  refine CB.congr (f := fun d => if d = c then v + 1 else gI s 87 (cnt d)) ?_ ec
  rw [hv] at cg
  have : c = 0 ∨ c = 1 ∨ c = 2 ∨ c = 3 ∨ c = 4 ∨ c = 5 ∨ c = 6 ∨ c = 7 ∨ c = 8 ∨ c = 9 := by omega
  unfold CB at cb ⊢
  simp only [] at cb ⊢
  rcases this with rfl | rfl | rfl | rfl | rfl | rfl | rfl | rfl | rfl | rfl <;> simp only [wt, List.getD_cons_zero, List.getD_cons_succ] at hb cg <;> simp only [Nat.reduceEqDiff, Nat.reduceAdd, Nat.reduceLT, Nat.reduceLeDiff, Nat.reduceBEq, reduceIte, and_self, and_true, true_and, and_false, false_and, if_true, if_false, Nat.reduceMul, Int.reduceEq, Int.reduceLT, Int.reduceLE, Int.reduceNeg, Int.reduceAdd, Int.reduceMul, Int.reduceSub] <;> omega
theorem mF_tag186 (hH : LH L X) (hN : LN L ln) {t z v : Int} (h : FM L X ln e s) (hv : gI s 87 32 = v) (v0 : 0 ≤ v) (hb : 3 * v ≤ L.length + 3) (t0 : 0 ≤ t) (t1 : t ≤ L.length) : wpo (j_X14_tag_186 t v z s) (FM L X ln e) := by
  unfold j_X14_tag_186
  refine mF_gd hN h (by decide) v0 (by show 3 * v ≤ (L.length : Int) + 3 * 2; omega) ?_
  rw [stp_eq]
  have q1 : FM L X ln e (sE s 111 v z) := ⟨h.1.w (by decide), by rw [gI_sE]; exact h.2.1, by rw [gI_sE]; exact h.2.2.1, h.2.2.2.1, by rw [gI_sE]; exact h.2.2.2.2.1, by rw [gI_sE]; exact h.2.2.2.2.2⟩
  have q2 := q1.inc hH (c := 1) (by decide) (v := v) (by rw [gI_sE]; exact hv) (by show 3 * v ≤ (L.length : Int) + 3; omega)
  rw [stp_eq]
  refine mF_gd hN q2 (by decide) t0 (by show 1 * t ≤ (L.length : Int) + 1 * 2; omega) (mF_gd hN q2 (by decide) t0 (by show 1 * t ≤ (L.length : Int) + 1 * 2; omega) (mF_w q2 (by decide) (fun s3 q3 => wpo_some.mpr q3)))
theorem M_tag186 (hH : LH L X) (hN : LN L ln) {t b c dv hw n : Int} {M4 : Mt} {r5 : List Int} (h : VMd L X ln s b M [(110, dv), (109, c), (108, a)]) (t0 : 0 ≤ t) (t1 : t < lnM M 0) (c0 : 0 ≤ clM M 0 t 3) (c1 : clM M 0 t 3 ≤ b) (hw1 : rg hw) (hk : 3 * lnM M 1 ≤ b) (h5 : r5.take 4 = [a, c, dv, hw]) (hM : Sm M M4) (ha : a < b) : wpo (j_X14_tag_186 t (lnM M 1) hw s) (OM L X ln a (.inr (b, upM (apM M4 1 r5) 0 t 3 (clM M 0 t 3 + 1)))) := by
  have hl := hH.2.1
  have al := h.al
  have kb := h.kb
  unfold CB at kb
  unfold j_X14_tag_186
  refine m_gdn hN h (by decide) rfl (m_new hN h (by decide) rfl (okv_rg (by decide) hw1) ?_)
  intro s1 q1
  simp only [dropA, List.filter_cons, List.filter_nil, bne_iff_ne, ne_eq, Nat.reduceEqDiff, not_true_eq_false, not_false_eq_true, if_true, if_false, reduceIte, Bool.false_eq_true, Nat.reduceBNe] at q1
  refine m_wi hH q1 (c := 1) (by decide) rfl [a, c, dv, hw] ?_ ?_ ⟨Nat.le_refl 4, fun z => absurd z (by decide), fun z => absurd z (by decide)⟩ (fun s2 q2 => ?_)
  · intro A hA hc
    right
    rcases cOf_1 hA hc with rfl | rfl | rfl | rfl <;> simp [jOf, cOf, cid]
  · unfold CB; simp only [lnM_ap, Nat.reduceEqDiff, Nat.reduceAdd, Nat.reduceLT, Nat.reduceLeDiff, Nat.reduceBEq, reduceIte, and_self, and_true, true_and, and_false, false_and, if_true, if_false, Nat.reduceMul, Int.reduceEq, Int.reduceLT, Int.reduceLE, Int.reduceNeg, Int.reduceAdd, Int.reduceMul, Int.reduceSub]; omega
  · simp only [List.filter_cons, List.filter_nil, cOf, dropA, List.filter_cons, List.filter_nil, bne_iff_ne, ne_eq, Nat.reduceEqDiff, not_true_eq_false, not_false_eq_true, if_true, if_false, reduceIte, Bool.false_eq_true, Nat.reduceBNe, Nat.reduceEqDiff, Nat.reduceAdd, Nat.reduceLT, Nat.reduceLeDiff, Nat.reduceBEq, reduceIte, and_self, and_true, true_and, and_false, false_and, if_true, if_false, Nat.reduceMul, Int.reduceEq, Int.reduceLT, Int.reduceLE, Int.reduceNeg, Int.reduceAdd, Int.reduceMul, Int.reduceSub] at q2
    have e0 : lnM (apM M 1 [a, c, dv, hw]) 0 = lnM M 0 := by rw [lnM_ap, if_neg (by decide)]
    have ec : clM (apM M 1 [a, c, dv, hw]) 0 t 3 = clM M 0 t 3 := by rw [clM_ap t0, if_neg (fun z => absurd z.1 (by decide))]
    refine m_gdo hN q2 (by decide) t0 (by show t < lnM _ 0; omega) (m_gdo hN q2 (by decide) t0 (by show t < lnM _ 0; omega) ?_)
    refine m_inc q2 (by decide) (by decide) (by decide) t0 (by show t < lnM _ 0; omega) (by show 0 ≤ clM _ 0 t 3; omega) (by show clM _ 0 t 3 ≤ _; omega) (fun s3 q3 => ?_)
    have z : VMd L X ln s3 b (upM (apM M 1 [a, c, dv, hw]) 0 t 3 (clM (apM M 1 [a, c, dv, hw]) 0 t 3 + 1)) [] := q3
    rw [ec] at z
    exact wpo_some.mpr ⟨z.sm ((hM.ap (fun _ => by show [a, c, dv, hw] = _; exact h5.symm)).up), ha⟩
theorem M_tag (hH : LH L X) (hN : LN L ln) {t : Int} (h : VMd L X ln s a M []) (k14 : kz L a = 14) (t0 : 0 ≤ t) (t1 : t < lnM M 0) (c0 : 0 ≤ clM M 0 t 3) (c1 : clM M 0 t 3 ≤ a) (hk : 3 * lnM M 1 ≤ a) : wpo (f_X14_tag t s) (OM L X ln a (gTag L X t (a, M))) := by
  have hl := hH.2.1
  have al := h.al
  have a0 := h.a0
  have kb := h.kb
  unfold CB at kb
  -- behind the class
  have J : ∀ (s : vS) (b c : Int), VMd L X ln s b M [(109, c), (108, a)] → a < b → wpo (j_X14_tag_78 t (lnM M 1) s) (OM L X ln a (if kdL L b ≠ 2 ∨ 268435455 < dvL L X b then .inl (flt L X b) else bE (tkE L X 18 (b + 1)) fun a4 => .inr (if (if kdL L a4 = 134 then (1 : Int) else if kdL L a4 = 123 then 2 else 0) = 0 then a4 else a4 + 1, upM (apM (if (if kdL L a4 = 134 then (1 : Int) else if kdL L a4 = 123 then 2 else 0) = 0 then stN (stN (adN M 20 a) (nN M) 5 c) (nN M) 6 (dvL L X b) else stN (stN (stN (adN M 20 a) (nN M) 5 c) (nN M) 6 (dvL L X b)) (nN M) 7 (if kdL L a4 = 134 then (1 : Int) else if kdL L a4 = 123 then 2 else 0)) 1 [a, c, dvL L X b, if kdL L a4 = 134 then (1 : Int) else if kdL L a4 = 123 then 2 else 0, nN M]) 0 t 3 (clM M 0 t 3 + 1)))) := by
    intro s b c h hb
    have bl := h.al
    unfold j_X14_tag_78
    rw [if_pos h.f0]
    refine m_is h (fun k3 => wp_f ?_) (fun k3 => wp_t ?_)
    · have kd := kd_2' k3
      have nn := dvL_nn' hH kd
      rw [h.at]
      refine m_numberOf hH h kd (fun r s1 q1 n1 => m_asInt n1 nn ?_)
      have key : (if dvL L X b ≤ 2147483647 then dvL L X b else 2147483647) ≤ 268435455 ↔ ¬(268435455 < dvL L X b) := by split <;> omega
      by_cases big : 268435455 < dvL L X b
      · rw [if_neg (fun z => key.mp z big), if_pos (Or.inr big)]
        refine m_misfit hH q1 (fun s2 q2 _ => ?_)
        unfold j_X14_tag_117
        exact mF_take q2 (mF_ifl q2 (wpo_some.mpr q2))
      · rw [if_pos (key.mpr big), if_neg (by rintro (z | z); exact z kd; exact big z)]
        unfold j_X14_tag_117
        refine m_take hH q1 (by decide) (by decide) (fun _ k4 s2 q2 => ?_) (fun z => absurd k3 z)
        rw [if_pos (by rw [q2.f0]; decide)]
        refine m_numberOf hH q2 kd (fun r s3 q3 n3 => ?_)
        refine m_gde q3 q2 (by decide) (m_asInt n3 nn ?_)
        rw [if_pos (show dvL L X b ≤ 2147483647 by omega)]
        refine m_gde q3 q3 (by decide) (m_gdn hN q3 (by decide) rfl (m_new hN q3 (by decide) rfl (okv_rg (by decide) ⟨by omega, by omega⟩) ?_))
        intro s4 q4
        simp only [dropA, List.filter_cons, List.filter_nil, bne_iff_ne, ne_eq, Nat.reduceEqDiff, not_true_eq_false, not_false_eq_true, if_true, if_false, reduceIte, Bool.false_eq_true, Nat.reduceBNe] at q4
        have sm0 : ∀ v : Int, Sm M (stN (stN (adN M 20 a) (nN M) 5 c) (nN M) 6 (dvL L X b)) := fun _ => ((Sm.rfl.nad _ _).node _ _ _).node _ _ _
        refine m_take hH q4 (by decide) (by decide) (fun k5 k6 s5 q5 => ?_) (fun k5 s5 q5 T5 => ?_)
        · rw [tkE_y (show kdL L (b + 1) = 18 by rw [kd_18]; exact k5), bE_r]
          refine m_eat hH q5 (by decide) (by decide) (fun k7 k8 s6 q6 => ?_) (fun k7 => ?_)
          · refine m_gde q6 q5 (by decide) (wp_f ?_)
            have e : kdL L (b + 1 + 1) = 134 := by rw [kd_134]; exact k7
            simp only [e, if_true, Int.reduceEq, if_false]
            exact M_tag186 hH hN (n := nN M) q6 t0 t1 c0 (by omega) (rgl rfl) (by omega) rfl ((sm0 0).node _ _ _) (by omega)
          · refine m_gde q5 q5 (by decide) (wp_t ?_)
            have e : ¬kdL L (b + 1 + 1) = 134 := by rw [kd_134]; exact k7
            refine m_eat hH q5 (by decide) (by decide) (fun k9 k10 s6 q6 => ?_) (fun k9 => ?_)
            · refine m_gde q6 q5 (by decide) (wp_f ?_)
              have e2 : kdL L (b + 1 + 1) = 123 := by rw [kd_123]; exact k9
              simp only [e2, if_true, Int.reduceEq, if_false]
              exact M_tag186 hH hN (n := nN M) q6 t0 t1 c0 (by omega) (rgl rfl) (by omega) rfl ((sm0 0).node _ _ _) (by omega)
            · refine m_gde q5 q5 (by decide) (wp_t ?_)
              have e2 : ¬kdL L (b + 1 + 1) = 123 := by rw [kd_123]; exact k9
              simp only [e, e2, if_true, if_false]
              exact M_tag186 hH hN (n := nN M) q5 t0 t1 c0 (by omega) (rgl rfl) (by omega) rfl (sm0 0) (by omega)
        · rw [tkE_n (show ¬kdL L (b + 1) = 18 by rw [kd_18]; exact k5), bE_l]
          refine mF_eat q5 (mF_gde q5 q5.bd (by decide) (wp_t ?_))
          refine mF_eat q5 (mF_gde q5 q5.bd (by decide) (wp_t ?_))
          have hv : gI s5 87 32 = lnM M 1 := T5.1 1 (by decide)
          exact mF_tag186 hH hN q5 hv (lnM_nn M 1) (by omega) t0 (by omega)
    · rw [if_pos (Or.inl (show ¬kdL L b = 2 by rw [kd_2]; exact k3))]
      unfold j_X14_tag_117
      refine m_take hH h (by decide) (by decide) (fun z => absurd z k3) (fun _ s1 q1 _ => ?_)
      exact mF_ifl q1 (wpo_some.mpr q1)
  unfold f_X14_tag
  refine m_ct (c := 1) h (by decide) rfl ?_
  refine m_take hH h (by decide) (by decide) (fun _ k2 s1 q1 => ?_) (fun z => absurd k14 z)
  refine m_gde q1 h (by decide) (m_gdn hN q1 (by decide) rfl (m_new hN q1 (by decide) rfl (okv_rg (by decide) ⟨by omega, by omega⟩) ?_))
  intro s2 q2
  simp only [dropA, List.filter_cons, List.filter_nil, bne_iff_ne, ne_eq, Nat.reduceEqDiff, not_true_eq_false, not_false_eq_true, if_true, if_false, reduceIte, Bool.false_eq_true, Nat.reduceBNe] at q2
  refine m_gdn hN q2 (by decide) rfl (m_new hN q2 (by decide) rfl (okv_rg (by decide) (rgl rfl)) ?_)
  intro s3 q3
  simp only [dropA, List.filter_cons, List.filter_nil, bne_iff_ne, ne_eq, Nat.reduceEqDiff, not_true_eq_false, not_false_eq_true, if_true, if_false, reduceIte, Bool.false_eq_true, Nat.reduceBNe] at q3
  -- which class
  have K : ∀ (s : vS) (b c : Int), VMd L X ln s b M [(109, c), (108, a)] → a < b → (if kdL L (a + 1) = 170 then (0 : Int) else if kdL L (a + 1) = 103 then 1 else if kdL L (a + 1) = 155 then 3 else 2) = c → (if c = 2 then a + 1 else a + 1 + 1) = b → wpo (j_X14_tag_78 t (lnM M 1) s) (OM L X ln a (gTag L X t (a, M))) := by
    intro s b c w1 w2 w3 w4
    have w5 := J s b c w1 w2
    unfold gTag
    simp only [w3, w4]
    exact w5
  refine m_eat hH q3 (by decide) (by decide) (fun k3 k4 s4 q4 => ?_) (fun k3 => ?_)
  · refine wp_f (m_gdn hN q4 (by decide) rfl (m_new hN q4 (by decide) rfl (okv_rg (by decide) (rgl rfl)) ?_))
    intro s5 q5
    simp only [dropA, List.filter_cons, List.filter_nil, bne_iff_ne, ne_eq, Nat.reduceEqDiff, not_true_eq_false, not_false_eq_true, if_true, if_false, reduceIte, Bool.false_eq_true, Nat.reduceBNe] at q5
    exact K s5 (a + 1 + 1) 0 q5 (by omega) (by rw [if_pos (show kdL L (a + 1) = 170 by rw [kd_170]; exact k3)]) rfl
  refine wp_t ?_
  refine m_eat hH q3 (by decide) (by decide) (fun k5 k6 s4 q4 => ?_) (fun k5 => ?_)
  · refine wp_f (m_gdn hN q4 (by decide) rfl (m_new hN q4 (by decide) rfl (okv_rg (by decide) (rgl rfl)) ?_))
    intro s5 q5
    simp only [dropA, List.filter_cons, List.filter_nil, bne_iff_ne, ne_eq, Nat.reduceEqDiff, not_true_eq_false, not_false_eq_true, if_true, if_false, reduceIte, Bool.false_eq_true, Nat.reduceBNe] at q5
    exact K s5 (a + 1 + 1) 1 q5 (by omega) (by rw [if_neg (show ¬kdL L (a + 1) = 170 by rw [kd_170]; exact k3), if_pos (show kdL L (a + 1) = 103 by rw [kd_103]; exact k5)]) rfl
  refine wp_t ?_
  refine m_eat hH q3 (by decide) (by decide) (fun k7 k8 s4 q4 => ?_) (fun k7 => ?_)
  · refine wp_f (m_gdn hN q4 (by decide) rfl (m_new hN q4 (by decide) rfl (okv_rg (by decide) (rgl rfl)) ?_))
    intro s5 q5
    simp only [dropA, List.filter_cons, List.filter_nil, bne_iff_ne, ne_eq, Nat.reduceEqDiff, not_true_eq_false, not_false_eq_true, if_true, if_false, reduceIte, Bool.false_eq_true, Nat.reduceBNe] at q5
    exact K s5 (a + 1 + 1) 3 q5 (by omega) (by rw [if_neg (show ¬kdL L (a + 1) = 170 by rw [kd_170]; exact k3), if_neg (show ¬kdL L (a + 1) = 103 by rw [kd_103]; exact k5), if_pos (show kdL L (a + 1) = 155 by rw [kd_155]; exact k7)]) rfl
  refine wp_t ?_
  exact K s3 (a + 1) 2 q3 (by omega) (by rw [if_neg (show ¬kdL L (a + 1) = 170 by rw [kd_170]; exact k3), if_neg (show ¬kdL L (a + 1) = 103 by rw [kd_103]; exact k5), if_neg (show ¬kdL L (a + 1) = 155 by rw [kd_155]; exact k7)]) rfl
end
