set_option maxRecDepth 100000 set_option linter.unusedVariables false set_option linter.unusedSimpArgs false
/-! PURE 59e: the model's grammar: items -/
section
variable {L : Lx} {X : List Int} {ln : Nat → Nat} {s s' : vS} {a : Int} {M M' : Mt} {P : List (Nat × Int)} {α : Type} {Q : α → Prop} {e : Ft}
theorem mF_items_l {t x2 : Int} {N : Nat} (h : FM L X ln e s) (hN : 1 ≤ N) : l_X14_itemsOf_19 N t x2 s = some s := by
  obtain ⟨N, rfl⟩ : ∃ m, N = m + 1 := ⟨N - 1, by omega⟩
  unfold l_X14_itemsOf_19
  rw [if_neg (by have := h.eq; omega)]
theorem mF_196 {t : Int} {N : Nat} (h : FM L X ln e s) (hN : 1 ≤ N) : j_X14_itemsOf_196 (l_X14_itemsOf_19 N) t s = some s := by
  unfold j_X14_itemsOf_196
  rw [if_neg (by have := h.eq; omega)]
  unfold j_X14_itemsOf_223
  have e1 : f_X14_eat 18 s = some (0, s) := by unfold f_X14_eat; rw [if_pos (by have := h.eq; omega)]
  rw [e1, bd_eq, mF_items_l h hN]
theorem mF_233 (h : FM L X ln e s) : wpo (j_X14_itemsOf_233 s) (FM L X ln e) := by
  unfold j_X14_itemsOf_233
  exact mF_take h (wpo_some.mpr h)
theorem mF_178 (hN : LN L ln) {t i : Int} {N : Nat} (h : FM L X ln e s) (hN1 : 1 ≤ N) (i0 : 0 ≤ i) (i1 : 2 * i ≤ L.length + 4) : wpo (j_X14_itemsOf_178 (l_X14_itemsOf_19 N) t i s) (FM L X ln e) := by
  unfold j_X14_itemsOf_178
  refine mF_take h (mF_gde h h.bd (by decide) (mF_gd hN h (by decide) i0 (by show 2 * i ≤ (L.length : Int) + 2 * 2; omega) (mF_w h (by decide) (fun s1 q1 => mF_take q1 ?_))))
  rw [mF_196 q1 hN1]
  exact wpo_some.mpr q1
theorem M_items_l (hH : LH L X) (hN : LN L ln) {t tn kind : Int} (t0 : 0 ≤ t) (hkd : kind = 2 ∨ kind = 3 ∨ kind = 4) : ∀ (k N : Nat) (s : vS) (a last : Int) (M : Mt), VMd L X ln s a M [] → t < lnM M 0 → clM M 0 t 0 = kind → 0 ≤ clM M 0 t 6 → clM M 0 t 6 ≤ a → 2 * lnM M 2 ≤ a → L.length - a < k → k < N → wpo (l_X14_itemsOf_19 N t 1 s) (fun s1 => wpo (j_X14_itemsOf_233 s1) (OM L X ln a (gItems L X t tn kind k last (a, M)))) := by
  have hl := hH.2.1
  intro k
  induction k with
  | zero => intro N s a last M h h1 h2 h3 h4 h5 h6; have := h.al; omega
  | succ k ih =>
    intro N s a last M h h1 h2 h3 h4 h5 h6 h7
    obtain ⟨N, rfl⟩ : ∃ m, N = m + 1 := ⟨N - 1, by omega⟩
    have a0 := h.a0
    have al := h.al
    have kb := h.kb
    unfold CB at kb
    have kN : k < N := by omega
    have IHb : ∀ b : Int, a < b → (L.length : Int) - b < k := fun b hb => by omega
    have l2 := lnM_nn M 2
    -- a fault
    have JF : ∀ (s1 : vS) (e : Ft) (g : Ft ⊕ Pg), FM L X ln e s1 → g = .inl e → wpo (j_X14_itemsOf_233 s1) (OM L X ln a g) := fun s1 e g q eg => by
      rw [eg]; exact mF_233 q
    -- behind an item
    have J : ∀ (s : vS) (b lex m : Int) (M3 : Mt) (r5 : List Int), VMd L X ln s b M [(113, lex), (114, m), (115, -1), (112, a)] → a < b → r5.take 4 = [a, lex, m, -1] → Sm M M3 → wpo (j_X14_itemsOf_196 (l_X14_itemsOf_19 N) t s) (fun s1 => wpo (j_X14_itemsOf_233 s1) (OM L X ln a (bE (.inr (b, upM (apM M3 2 r5) 0 t 6 (clM M 0 t 6 + 1))) fun q => if kdL L q.1 = 21 then gItems L X t tn kind k (nN M) (q.1 + 1, chN q.2 tn 3 last (nN M)) else bE (tkE L X 16 q.1) fun a => .inr (a, chN q.2 tn 3 last (nN M))))) := by
      intro s b lex m M3 r5 q ab hr sm
      have bl := q.al
      rw [bE_r]
      unfold j_X14_itemsOf_196
      rw [if_pos q.f0]
      refine m_wi hH q (c := 2) (by decide) rfl [a, lex, m, -1] ?_ ?_ ⟨Nat.le_refl 4, fun z => absurd z (by decide), fun z => absurd z (by decide)⟩ (fun s1 q1 => ?_)
      · intro A hA hc
        right
        rcases cOf_2 hA hc with rfl | rfl | rfl | rfl <;> simp [jOf, cOf, cid]
      · unfold CB; simp only [lnM_ap, Nat.reduceEqDiff, Nat.reduceAdd, Nat.reduceLT, Nat.reduceLeDiff, Nat.reduceBEq, reduceIte, and_self, and_true, true_and, and_false, false_and, if_true, if_false, Nat.reduceMul, Int.reduceEq, Int.reduceLT, Int.reduceLE, Int.reduceNeg, Int.reduceAdd, Int.reduceMul, Int.reduceSub]; omega
      · simp only [List.filter_cons, List.filter_nil, cOf, dropA, List.filter_cons, List.filter_nil, bne_iff_ne, ne_eq, Nat.reduceEqDiff, not_true_eq_false, not_false_eq_true, if_true, if_false, reduceIte, Bool.false_eq_true, Nat.reduceBNe, Nat.reduceEqDiff, Nat.reduceAdd, Nat.reduceLT, Nat.reduceLeDiff, Nat.reduceBEq, reduceIte, and_self, and_true, true_and, and_false, false_and, if_true, if_false, Nat.reduceMul, Int.reduceEq, Int.reduceLT, Int.reduceLE, Int.reduceNeg, Int.reduceAdd, Int.reduceMul, Int.reduceSub] at q1
        have e0 : lnM (apM M 2 [a, lex, m, -1]) 0 = lnM M 0 := by rw [lnM_ap, if_neg (by decide)]
        have ec : clM (apM M 2 [a, lex, m, -1]) 0 t 6 = clM M 0 t 6 := by rw [clM_ap t0, if_neg (fun z => absurd z.1 (by decide))]
        refine m_gdo hN q1 (by decide) t0 (by show t < lnM _ 0; omega) (m_gdo hN q1 (by decide) t0 (by show t < lnM _ 0; omega) ?_)
        refine m_inc q1 (by decide) (by decide) (by decide) t0 (by show t < lnM _ 0; omega) (by show 0 ≤ clM _ 0 t 6; omega) (by show clM _ 0 t 6 ≤ _; omega) (fun s2 q2 => ?_)
        have z : VMd L X ln s2 b (upM (apM M 2 [a, lex, m, -1]) 0 t 6 (clM (apM M 2 [a, lex, m, -1]) 0 t 6 + 1)) [] := q2
        rw [ec] at z
        have sm2 : Sm (apM M 2 [a, lex, m, -1]) (apM M3 2 r5) := sm.ap (fun _ => by show [a, lex, m, -1] = _; exact hr.symm)
        have q3 : VMd L X ln s2 b (chN (upM (apM M3 2 r5) 0 t 6 (clM M 0 t 6 + 1)) tn 3 last (nN M)) [] := z.sm (sm2.up.nch _ _ _ _)
        unfold j_X14_itemsOf_223
        refine m_eat hH q3 (by decide) (by decide) (fun k1 k2 s3 q4 => ?_) (fun k1 => ?_)
        · rw [if_pos (show kdL L b = 21 by rw [kd_21]; exact k1)]
          have rl : RL (apM M3 2 r5) := sm2.rl q1.tb.2.2
          have i1 : t < lnM (apM M3 2 r5) 0 := by rw [lnM_ap, if_neg (by decide), sm.lnE (by decide)]; exact h1
          have e6 : clM (chN (upM (apM M3 2 r5) 0 t 6 (clM M 0 t 6 + 1)) tn 3 last (nN M)) 0 t 6 = clM M 0 t 6 + 1 := by
            have z1 : clM (chN (upM (apM M3 2 r5) 0 t 6 (clM M 0 t 6 + 1)) tn 3 last (nN M)) 0 t 6 = clM (upM (apM M3 2 r5) 0 t 6 (clM M 0 t 6 + 1)) 0 t 6 := (Sm.rfl.nch _ _ _ _).cl (by decide) (by decide)
            rw [z1, clM_up t0 i1 (show 6 < ((apM M3 2 r5 0).getD t.toNat []).length from rl.jlt (A := 103) (by decide) t0 i1) t0, if_pos ⟨rfl, rfl, rfl⟩]
          have eb : clM (chN (upM (apM M3 2 r5) 0 t 6 (clM M 0 t 6 + 1)) tn 3 last (nN M)) 0 t 0 = kind := by
            have z1 : clM (chN (upM (apM M3 2 r5) 0 t 6 (clM M 0 t 6 + 1)) tn 3 last (nN M)) 0 t 0 = clM (upM (apM M3 2 r5) 0 t 6 (clM M 0 t 6 + 1)) 0 t 0 := (Sm.rfl.nch _ _ _ _).cl (by decide) (by decide)
            rw [z1, clM_upj (by decide), clM_ap t0, if_neg (fun z => absurd z.1 (by decide)), sm.cl (by decide) (by decide)]; exact h2
          refine wpo.mono (ih N s3 (b + 1) (nN M) _ q4 (by rw [lnM_ch, lnM_up]; exact i1) eb (by omega) (by omega) (by rw [lnM_ch, lnM_up, lnM_ap, if_pos rfl, sm.lnE (by decide)]; omega) (IHb _ (by omega)) kN) (fun s4 h4 => wpo.mono h4 (fun s5 h5 => ?_))
          generalize gItems L X t tn kind k (nN M) (b + 1, chN (upM (apM M3 2 r5) 0 t 6 (clM M 0 t 6 + 1)) tn 3 last (nN M)) = g at h5 ⊢
          cases g with
          | inl e => exact h5
          | inr q => exact ⟨h5.1, by have := h5.2; omega⟩
        · rw [if_neg (show ¬kdL L b = 21 by rw [kd_21]; exact k1)]
          obtain ⟨N, rfl⟩ : ∃ m, N = m + 1 := ⟨N - 1, by omega⟩
          unfold l_X14_itemsOf_19
          rw [if_pos q3.f0, if_pos rfl]
          refine wpo_some.mpr ?_
          unfold j_X14_itemsOf_233
          refine m_take hH q3 (by decide) (by decide) (fun k3 k4 s4 q5 => ?_) (fun k3 s4 q5 _ => ?_)
          · rw [tkE_y (show kdL L b = 16 by rw [kd_16]; exact k3), bE_r]
            exact wpo_some.mpr ⟨q5, by show a < b + 1; omega⟩
          · rw [tkE_n (show ¬kdL L b = 16 by rw [kd_16]; exact k3), bE_l]
            exact wpo_some.mpr q5
    unfold l_X14_itemsOf_19
    rw [if_pos h.f0, if_neg (by decide)]
    refine m_ct (c := 2) h (by decide) rfl ?_
    unfold gItems gItem
    simp only
    refine m_take hH h (by decide) (by decide) (fun k1 k2 s1 q1 => ?_) (fun k1 s1 q1 _ => ?_)
    · rw [tkE_y (show kdL L a = 0 by rw [kd_0]; exact k1), bE_r]
      refine m_gde q1 h (by decide) (m_gdn hN q1 (by decide) rfl (m_new hN q1 (by decide) rfl (okv_rg (by decide) ⟨by omega, by omega⟩) ?_))
      intro s2 q2
      simp only [dropA, List.filter_cons, List.filter_nil, bne_iff_ne, ne_eq, Nat.reduceEqDiff, not_true_eq_false, not_false_eq_true, if_true, if_false, reduceIte, Bool.false_eq_true, Nat.reduceBNe] at q2
      refine m_gdn hN q2 (by decide) rfl (m_new hN q2 (by decide) rfl (okv_rg (by decide) (rgl rfl)) ?_)
      intro s3 q3
      simp only [dropA, List.filter_cons, List.filter_nil, bne_iff_ne, ne_eq, Nat.reduceEqDiff, not_true_eq_false, not_false_eq_true, if_true, if_false, reduceIte, Bool.false_eq_true, Nat.reduceBNe] at q3
      refine m_gdn hN q3 (by decide) rfl (m_new hN q3 (by decide) rfl (okv_b (by decide) (Or.inl rfl)) ?_)
      intro s4 q4
      simp only [dropA, List.filter_cons, List.filter_nil, bne_iff_ne, ne_eq, Nat.reduceEqDiff, not_true_eq_false, not_false_eq_true, if_true, if_false, reduceIte, Bool.false_eq_true, Nat.reduceBNe] at q4
      refine m_gdn hN q4 (by decide) rfl (m_new hN q4 (by decide) rfl (okv_rg (by decide) (rgl rfl)) ?_)
      intro s5 q5
      simp only [dropA, List.filter_cons, List.filter_nil, bne_iff_ne, ne_eq, Nat.reduceEqDiff, not_true_eq_false, not_false_eq_true, if_true, if_false, reduceIte, Bool.false_eq_true, Nat.reduceBNe] at q5
      rw [if_pos q5.f0]
      refine m_gdo hN q5 (by decide) t0 h1 ?_
      have rdb : ∀ (s : vS) (b : Int) (P : List (Nat × Int)), VMd L X ln s b M P → gE s 97 t = kind := fun s b P q => by
        have z := q.rd (A := 97) (by decide) (by decide) t0 h1 (by show clM M 0 t 0 ≠ -7; omega)
        rw [z]; exact h2
      rw [rdb _ _ _ q5]
      have JE : ∀ (s1 : vS) (e : Ft) (g : Ft ⊕ Pg), FM L X ln e s1 → g = .inl e → wpo (some s1) (fun s1 => wpo (j_X14_itemsOf_233 s1) (OM L X ln a g)) := fun s1 e g q eg => wpo_some.mpr (JF s1 e g q eg)
      have F178 : ∀ (s : vS) (e : Ft) (g : Ft ⊕ Pg), FM L X ln e s → g = .inl e → wpo (j_X14_itemsOf_178 (l_X14_itemsOf_19 N) t (lnM M 2) s) (fun s1 => wpo (j_X14_itemsOf_233 s1) (OM L X ln a g)) := fun s e g q eg => wpo.mono (mF_178 hN q (by omega) l2 (by omega)) (fun s1 q1 => JF s1 e g q1 eg)
      have F129 : ∀ (s : vS) (e : Ft) (g : Ft ⊕ Pg) (z : Int), FM L X ln e s → g = .inl e → wpo (j_X14_itemsOf_129 (l_X14_itemsOf_19 N) t (lnM M 2) (lnM M 2) z s) (fun s1 => wpo (j_X14_itemsOf_233 s1) (OM L X ln a g)) := by
        intro s e g z q eg
        unfold j_X14_itemsOf_129
        refine mF_gd hN q (by decide) l2 (by show 2 * lnM M 2 ≤ (L.length : Int) + 2 * 2; omega) (mF_w q (by decide) (fun s1 q1 => mF_if0 q1 (F178 s1 e g q1 eg)))
      -- a number behind the bracket
      have J178 : ∀ (s : vS) (b m : Int) (M2 : Mt), VMd L X ln s b M [(114, m), (115, -1), (113, -1), (112, a)] → a < b → Sm M M2 → wpo (j_X14_itemsOf_178 (l_X14_itemsOf_19 N) t (lnM M 2) s) (fun s1 => wpo (j_X14_itemsOf_233 s1) (OM L X ln a (bE (bE (tkE L X 2 b) fun a4 => bE (tkE L X 20 a4) fun a5 => .inr (a5, upM (apM M2 2 [a, b, m, -1, nN M]) 0 t 6 (clM M 0 t 6 + 1))) fun q => if kdL L q.1 = 21 then gItems L X t tn kind k (nN M) (q.1 + 1, chN q.2 tn 3 last (nN M)) else bE (tkE L X 16 q.1) fun a => .inr (a, chN q.2 tn 3 last (nN M))))) := by
        intro s b m M2 q ab sm
        have bl := q.al
        unfold j_X14_itemsOf_178
        refine m_take hH q (by decide) (by decide) (fun k3 k4 s1 q1 => ?_) (fun k3 s1 q1 _ => ?_)
        · rw [tkE_y (show kdL L b = 2 by rw [kd_2]; exact k3), bE_r]
          refine m_gde q1 q (by decide) (m_gdn hN q1 (by decide) rfl (m_new hN q1 (by decide) rfl (okv_rg (by decide) ⟨by omega, by omega⟩) ?_))
          intro s2 q2
          simp only [dropA, List.filter_cons, List.filter_nil, bne_iff_ne, ne_eq, Nat.reduceEqDiff, not_true_eq_false, not_false_eq_true, if_true, if_false, reduceIte, Bool.false_eq_true, Nat.reduceBNe] at q2
          refine m_take hH q2 (by decide) (by decide) (fun k5 k6 s3 q3 => ?_) (fun k5 s3 q3 _ => ?_)
          · rw [tkE_y (show kdL L (b + 1) = 20 by rw [kd_20]; exact k5), bE_r]
            exact J s3 (b + 1 + 1) b m M2 [a, b, m, -1, nN M] q3 (by omega) rfl sm
          · rw [tkE_n (show ¬kdL L (b + 1) = 20 by rw [kd_20]; exact k5), bE_l, bE_l, mF_196 q3 (by omega)]
            exact JE _ _ _ q3 rfl
        · rw [tkE_n (show ¬kdL L b = 2 by rw [kd_2]; exact k3), bE_l, bE_l]
          refine mF_gde q1 q.bd (by decide) (mF_gd hN q1 (by decide) l2 (by show 2 * lnM M 2 ≤ (L.length : Int) + 2 * 2; omega) (mF_w q1 (by decide) (fun s2 q2 => mF_take q2 ?_)))
          rw [mF_196 q2 (by omega)]
          exact JE _ _ _ q2 rfl
      have J129 : ∀ (s : vS) (b m : Int) (M2 : Mt), VMd L X ln s b M [(115, -1), (114, 0), (113, -1), (112, a)] → a < b → (m = 0 ∨ m = 1) → Sm M M2 → wpo (j_X14_itemsOf_129 (l_X14_itemsOf_19 N) t (lnM M 2) (lnM M 2) m s) (fun s1 => wpo (j_X14_itemsOf_233 s1) (OM L X ln a (bE (if kind = 4 ∧ kdL L b = 2 ∧ 63 < dvL L X b then .inl (flt L X b) else bE (tkE L X 2 b) fun a4 => bE (tkE L X 20 a4) fun a5 => .inr (a5, upM (apM M2 2 [a, b, m, -1, nN M]) 0 t 6 (clM M 0 t 6 + 1))) fun q => if kdL L q.1 = 21 then gItems L X t tn kind k (nN M) (q.1 + 1, chN q.2 tn 3 last (nN M)) else bE (tkE L X 16 q.1) fun a => .inr (a, chN q.2 tn 3 last (nN M))))) := by
        intro s b m M2 q ab hm sm
        unfold j_X14_itemsOf_129
        refine m_gdn hN q (by decide) rfl (m_new hN q (by decide) rfl (okv_b (by decide) hm) ?_)
        intro s1 q1
        simp only [dropA, List.filter_cons, List.filter_nil, bne_iff_ne, ne_eq, Nat.reduceEqDiff, not_true_eq_false, not_false_eq_true, if_true, if_false, reduceIte, Bool.false_eq_true, Nat.reduceBNe] at q1
        rw [if_pos q1.f0]
        refine m_gdo hN q1 (by decide) t0 h1 ?_
        rw [rdb _ _ _ q1]
        by_cases k4 : kind = 4
        · rw [if_pos k4]
          refine m_is q1 (fun k3 => wp_f ?_) (fun k3 => wp_t ?_)
          · have kd := kd_2' k3
            have nn := dvL_nn' hH kd
            rw [q1.at]
            refine m_numberOf hH q1 kd (fun r s2 q2 n2 => m_asInt n2 nn ?_)
            by_cases big : 63 < dvL L X b
            · rw [if_neg (show ¬((if dvL L X b ≤ 2147483647 then dvL L X b else 2147483647) ≤ 63) by split <;> omega), if_pos ⟨k4, kd, big⟩, bE_l]
              exact m_misfit hH q2 (fun s3 q3 _ => F178 s3 _ _ q3 rfl)
            · rw [if_pos (show (if dvL L X b ≤ 2147483647 then dvL L X b else 2147483647) ≤ 63 by split <;> omega), if_neg (fun z => big z.2.2)]
              exact J178 s2 b m M2 q2 ab sm
          · rw [if_neg (fun z => k3 (by rw [← kd_2]; exact z.2.1))]
            exact J178 s1 b m M2 q1 ab sm
        · rw [if_neg k4, if_neg (fun z => k4 z.1)]
          exact J178 s1 b m M2 q1 ab sm
      have J93 : kz L (a + 1) = 16 ∨ kz L (a + 1) ≠ 16 → ¬(kind = 3 ∧ ¬kdL L (a + 1) = 19) → wpo (j_X14_itemsOf_93 (l_X14_itemsOf_19 N) t (lnM M 2) s5) (fun s1 => wpo (j_X14_itemsOf_233 s1) (OM L X ln a (bE (bE (tkE L X 19 (a + 1)) fun a2 => if kind = 4 ∧ kdL L (a2 + if kind ≠ 4 ∧ kdL L a2 = 25 then 1 else 0) = 2 ∧ 63 < dvL L X (a2 + if kind ≠ 4 ∧ kdL L a2 = 25 then 1 else 0) then .inl (flt L X (a2 + if kind ≠ 4 ∧ kdL L a2 = 25 then 1 else 0)) else bE (tkE L X 2 (a2 + if kind ≠ 4 ∧ kdL L a2 = 25 then 1 else 0)) fun a4 => bE (tkE L X 20 a4) fun a5 => .inr (a5, upM (apM (stN (if (if kind ≠ 4 ∧ kdL L a2 = 25 then (1 : Int) else 0) = 0 then adN M 21 a else stN (adN M 21 a) (nN M) 6 1) (nN M) 5 (a2 + if kind ≠ 4 ∧ kdL L a2 = 25 then 1 else 0)) 2 [a, a2 + if kind ≠ 4 ∧ kdL L a2 = 25 then 1 else 0, if kind ≠ 4 ∧ kdL L a2 = 25 then 1 else 0, -1, nN M]) 0 t 6 (clM M 0 t 6 + 1))) fun q => if kdL L q.1 = 21 then gItems L X t tn kind k (nN M) (q.1 + 1, chN q.2 tn 3 last (nN M)) else bE (tkE L X 16 q.1) fun a => .inr (a, chN q.2 tn 3 last (nN M))))) := by
        intro _ _
        unfold j_X14_itemsOf_93
        refine m_take hH q5 (by decide) (by decide) (fun k3 k4 s6 q6 => ?_) (fun k3 s6 q6 _ => ?_)
        · rw [tkE_y (show kdL L (a + 1) = 19 by rw [kd_19]; exact k3), bE_r]
          refine m_gdo hN q6 (by decide) t0 h1 ?_
          rw [rdb _ _ _ q6]
          by_cases k4 : kind = 4
          · have e : (if kind ≠ 4 ∧ kdL L (a + 1 + 1) = 25 then (1 : Int) else 0) = 0 := if_neg (fun z => z.1 k4)
            rw [if_pos k4]
            simp only [e, if_true]
            rw [show a + 1 + 1 + 0 = a + 1 + 1 by omega]
            exact J129 s6 (a + 1 + 1) 0 _ q6 (by omega) (Or.inl rfl) ((Sm.rfl.nad _ _).node _ _ _)
          · rw [if_neg k4]
            refine m_eat hH q6 (by decide) (by decide) (fun k7 k8 s7 q7 => ?_) (fun k7 => ?_)
            · have e : (if kind ≠ 4 ∧ kdL L (a + 1 + 1) = 25 then (1 : Int) else 0) = 1 := if_pos ⟨k4, by rw [kd_25]; exact k7⟩
              refine m_gde q7 q6 (by decide) (wp_f ?_)
              simp only [e, Int.reduceEq, if_false]
              exact J129 s7 (a + 1 + 1 + 1) 1 _ q7 (by omega) (Or.inr rfl) (((Sm.rfl.nad _ _).node _ _ _).node _ _ _)
            · have e : (if kind ≠ 4 ∧ kdL L (a + 1 + 1) = 25 then (1 : Int) else 0) = 0 := if_neg (fun z => k7 (by rw [← kd_25]; exact z.2))
              refine m_gde q6 q6 (by decide) (wp_t ?_)
              simp only [e, if_true]
              rw [show a + 1 + 1 + 0 = a + 1 + 1 by omega]
              exact J129 s6 (a + 1 + 1) 0 _ q6 (by omega) (Or.inl rfl) ((Sm.rfl.nad _ _).node _ _ _)
        · rw [tkE_n (show ¬kdL L (a + 1) = 19 by rw [kd_19]; exact k3), bE_l, bE_l]
          refine mF_gd hN q6 (by decide) t0 (by show 1 * t ≤ (L.length : Int) + 1 * 2; omega) ?_
          refine wpo_ite.mpr ⟨fun _ => F129 s6 _ _ _ q6 rfl, fun _ => mF_eat q6 (mF_gde q6 q6.bd (by decide) (wp_t (F129 s6 _ _ _ q6 rfl)))⟩
      by_cases k3 : kind = 3
      · rw [if_pos k3]
        refine m_is q5 (fun k4 => wp_f ?_) (fun k4 => wp_t ?_)
        · have nz : ¬(kind = 3 ∧ ¬kdL L (a + 1) = 19) := fun z => z.2 (by rw [kd_19]; exact k4)
          rw [if_neg nz]
          exact J93 (Or.inl k4) nz
        · rw [if_pos ⟨k3, by rw [ne_eq, kd_19]; exact k4⟩]
          exact J s5 (a + 1) (-1) 0 (adN M 21 a) [a, -1, 0, -1, nN M] (q5.weakP (by intro x hx; simp only [List.mem_cons, List.not_mem_nil, or_false] at hx ⊢; grind)) (by omega) rfl (Sm.rfl.nad _ _)
      · rw [if_neg k3]
        have nz : ¬(kind = 3 ∧ ¬kdL L (a + 1) = 19) := fun z => k3 z.1
        rw [if_neg nz]
        exact J93 (by omega) nz
    · rw [tkE_n (show ¬kdL L a = 0 by rw [kd_0]; exact k1), bE_l, bE_l]
      refine mF_gde q1 h.bd (by decide) (mF_gd hN q1 (by decide) l2 (by show 2 * lnM M 2 ≤ (L.length : Int) + 2 * 2; omega) (mF_w q1 (by decide) (fun s2 q2 => ?_)))
      refine mF_gd hN q2 (by decide) l2 (by show 2 * lnM M 2 ≤ (L.length : Int) + 2 * 2; omega) (mF_w q2 (by decide) (fun s3 q3 => ?_))
      refine mF_gd hN q3 (by decide) l2 (by show 2 * lnM M 2 ≤ (L.length : Int) + 2 * 2; omega) (mF_w q3 (by decide) (fun s4 q4 => ?_))
      refine mF_gd hN q4 (by decide) l2 (by show 2 * lnM M 2 ≤ (L.length : Int) + 2 * 2; omega) (mF_w q4 (by decide) (fun s5 q5 => ?_))
      refine mF_if0 q5 ?_
      rw [mF_196 q5 (by omega)]
      exact wpo_some.mpr (JF _ _ _ q5 rfl)
end
