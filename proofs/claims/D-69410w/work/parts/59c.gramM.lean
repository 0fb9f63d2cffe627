set_option maxRecDepth 100000 set_option linter.unusedVariables false set_option linter.unusedSimpArgs false
/-! PURE 59c: the model's grammar: limits of a type -/
theorem bE_as {α β γ : Type} (m : Ft ⊕ α) (k : α → Ft ⊕ β) (k' : β → Ft ⊕ γ) : bE (bE m k) k' = bE m (fun x => bE (k x) k') := by cases m <;> rfl
section
variable {L : Lx} {X : List Int} {ln : Nat → Nat} {s s' : vS} {a : Int} {M M' : Mt} {P : List (Nat × Int)} {α : Type} {Q : α → Prop} {e : Ft}
theorem CT.gr {M M' : Mt} {a b k d0 d2 d3 d5 d6 : Int} (h : CT M a) (g : GR k d0 d2 d3 d5 d6 (a, M) (b, M')) (h0 : d0 ≤ 0) (h2 : d2 ≤ 0) (h3 : d3 ≤ 0) (h5 : d5 ≤ 0) (h6 : d6 ≤ 0) (hk : 0 ≤ k) : CT M' b := by
  unfold CT GR at *
  simp only at g
  omega
theorem mF_limits_l {t : Int} {N : Nat} (h : FM L X ln e s) (hN : 1 ≤ N) : l_X14_limitsOf_0 N t s = some s := by
  obtain ⟨N, rfl⟩ : ∃ m, N = m + 1 := ⟨N - 1, by omega⟩
  unfold l_X14_limitsOf_0
  rw [if_neg (by have := h.eq; omega)]
theorem M_limits_l (hH : LH L X) (hN : LN L ln) {t tn : Int} (t0 : 0 ≤ t) : ∀ (k N : Nat) (s : vS) (a last : Int) (M : Mt), VMd L X ln s a M [] → t < lnM M 0 → CT M a → L.length - a < k → k < N → wpo (l_X14_limitsOf_0 N t s) (OM L X ln (a - 1) (gLimits L X t tn k last (a, M))) := by
  have hl := hH.2.1
  intro k
  induction k with
  | zero => intro N s a last M h h1 h2 h3; have := h.al; omega
  | succ k ih =>
    intro N s a last M h h1 h2 h3 h4
    obtain ⟨N, rfl⟩ : ∃ m, N = m + 1 := ⟨N - 1, by omega⟩
    have a0 := h.a0
    have al := h.al
    have hG := gr_limit (L := L) (X := X) (t := t) (p := (a, M)) a0
    unfold l_X14_limitsOf_0 gLimits
    rw [if_pos h.f0]
    refine m_is h (fun k1 => wp_f ?_) (fun k1 => wp_t ?_)
    · rw [if_pos (show kdL L (a, M).1 = 19 by rw [kd_19]; exact k1)]
      refine m_vat h (m_adv hH h k1 (by decide) (by decide) (fun al s1 q1 => ?_))
      -- what a limit leaves
      have J : ∀ (g : Ft ⊕ Pg) (m : vS → Option vS) (s2 : vS), g = gLimit L X t (a, M) → OM L X ln a g s2 → (∀ e, FM L X ln e s2 → g = .inl e → True) → wpo (l_X14_limitsOf_0 N t s2) (OM L X ln (a - 1) (bE g fun q => gLimits L X t tn k (nN M) (q.1, chN q.2 tn 4 last (nN M)))) := by
        intro g m s2 eg og _
        rw [← eg] at hG
        cases g with
        | inl e =>
          have og : FM L X ln e s2 := og
          rw [bE_l, mF_limits_l og (by omega)]
          exact wpo_some.mpr og
        | inr q =>
          obtain ⟨b, M2⟩ := q
          obtain ⟨g1, g2⟩ := og
          simp only at g1 g2
          rw [bE_r]
          have gg : GR 3 0 0 0 0 0 (a, M) (b, M2) := hG
          have ct := h2.gr gg (by decide) (by decide) (by decide) (by decide) (by decide) (by decide)
          have q2 : VMd L X ln s2 b (chN M2 tn 4 last (nN M)) [] := g1.sm (Sm.rfl.nch _ _ _ _)
          have l0 : lnM M 0 ≤ lnM M2 0 := gg.2.1.1
          refine wpo.mono (ih N s2 b (nN M) (chN M2 tn 4 last (nN M)) q2 (by rw [lnM_ch]; omega) (by unfold CT at *; simp only [lnM_ch]; exact ct) (by omega) (by omega)) (fun s3 h3 => ?_)
          generalize gLimits L X t tn k (nN M) (b, chN M2 tn 4 last (nN M)) = w at h3 ⊢
          cases w with
          | inl e => exact h3
          | inr q => exact ⟨h3.1, by have := h3.2; omega⟩
      refine m_is q1 (fun k2 => wp_f ?_) (fun k2 => wp_t ?_)
      · have qq : VMd L X ln s1 (a + 1) (adN M 23 a) [] := q1.sm (Sm.rfl.nad _ _)
        have ct : CT (adN M 23 a) (a + 1) := by unfold CT at *; simp only [lnM_ad, Nat.reduceEqDiff, Nat.reduceAdd, Nat.reduceLT, Nat.reduceLeDiff, Nat.reduceBEq, reduceIte, and_self, and_true, true_and, and_false, false_and, if_true, if_false, Nat.reduceMul, Int.reduceEq, Int.reduceLT, Int.reduceLE, Int.reduceNeg, Int.reduceAdd, Int.reduceMul, Int.reduceSub]; omega
        have z := M_sizeOf (node := nN M) hH hN qq (Or.inr rfl) t0 (by rw [lnM_ad, if_neg (by decide)]; exact h1) (b := a) ⟨by omega, by omega⟩ ct
        refine wpo_bdv.mpr (wpo.mono z (fun s2 og => ?_))
        rw [if_pos k2] at og
        refine J _ (fun s => some s) s2 rfl ?_ (fun _ _ _ => trivial)
        have eg : gLimit L X t (a, M) = bE (tkE L X 19 (a + 1 + 1)) (fun a2 => bE (gRanges L X (lnM (adN M 23 a) 4) (nN M) (L.length + 1) (-1) (a2, stN (addL (adN M 23 a) t (if (1 : Int) = 0 then a + 1 + 1 else a) 1 (nN M)) (nN M) 5 1)) fun q => bE (tkE L X 20 q.1) fun c => if (1 : Int) = 0 then .inr (c, q.2) else bE (tkE L X 20 c) fun d => .inr (d, q.2)) := by
          unfold gLimit gSizes
          simp only
          rw [if_pos (show kdL L (a + 1) = 161 by rw [kd_161]; exact k2)]
          simp only [bE_as, bE_r, Int.reduceEq, if_false]
        rw [eg]
        generalize bE (tkE L X 19 (a + 1 + 1)) (fun a2 => bE (gRanges L X (lnM (adN M 23 a) 4) (nN M) (L.length + 1) (-1) (a2, stN (addL (adN M 23 a) t (if (1 : Int) = 0 then a + 1 + 1 else a) 1 (nN M)) (nN M) 5 1)) fun q => bE (tkE L X 20 q.1) fun c => if (1 : Int) = 0 then .inr (c, q.2) else bE (tkE L X 20 c) fun d => .inr (d, q.2)) = w at og ⊢
        cases w with
        | inl e => exact og
        | inr q => exact ⟨og.1, by have := og.2; omega⟩
      · have qq : VMd L X ln s1 (a + 1) (adN M 23 a) [] := q1.sm (Sm.rfl.nad _ _)
        have l4 := lnM_nn M 4
        have ct := h2
        unfold CT at ct
        refine m_addLimit (node := nN M) hH hN qq (b := a) ⟨by omega, by omega⟩ (Or.inl rfl) t0 (by rw [lnM_ad, if_neg (by decide)]; exact h1) (by rw [lnM_ad, if_neg (by decide)]; omega) (fun s2 q2 => ?_)
        have q3 : VMd L X ln s2 (a + 1) (stN (addL (adN M 23 a) t a 0 (nN M)) (nN M) 5 0) [] := q2.sm (Sm.rfl.node _ _ _)
        have c3 : clM (stN (addL (adN M 23 a) t a 0 (nN M)) (nN M) 5 0) 4 (lnM (adN M 23 a) 4) 3 = 0 := clM_addL qq.tb.2.2 t0 (by rw [lnM_ad, if_neg (by decide)]; exact h1)
        have e4 : lnM (adN M 23 a) 4 = lnM M 4 := by rw [lnM_ad, if_neg (by decide)]
        rw [e4] at c3 ⊢
        refine wpo_bdv.mpr (wpo.mono (M_ranges (lnd := nN M) hH hN q3 l4 (by rw [lnM_st, lnM_addL, if_pos rfl, e4]; omega) (by omega) (by omega) (by rw [lnM_st, lnM_addL, if_neg (by decide), lnM_ad, if_neg (by decide)]; omega)) (fun s3 og => ?_))
        have eg : gLimit L X t (a, M) = bE (gRanges L X (lnM M 4) (nN M) (L.length + 1) (-1) (a + 1, stN (addL (adN M 23 a) t a 0 (nN M)) (nN M) 5 0)) fun q => bE (tkE L X 20 q.1) fun a => .inr (a, q.2) := by
          unfold gLimit
          simp only
          rw [if_neg (show ¬kdL L (a + 1) = 161 by rw [kd_161]; exact k2)]
        have JJ := fun s2 => J (gLimit L X t (a, M)) (fun s => some s) s2 rfl
        rw [eg] at JJ ⊢
        generalize gRanges L X (lnM M 4) (nN M) (L.length + 1) (-1) (a + 1, stN (addL (adN M 23 a) t a 0 (nN M)) (nN M) 5 0) = g at og JJ ⊢
        cases g with
        | inl e =>
          have og : FM L X ln e s3 := og
          exact mF_take og (JJ s3 og (fun _ _ _ => trivial))
        | inr q =>
          obtain ⟨b, M2⟩ := q
          obtain ⟨g1, g2⟩ := og
          simp only at g1 g2
          rw [bE_r] at JJ ⊢
          refine m_take hH g1 (by decide) (by decide) (fun k3 k4 s4 q4 => ?_) (fun k3 s4 q4 _ => ?_)
          · have e : tkE L X 20 b = .inr (b + 1) := tkE_y (by rw [kd_20]; exact k3)
            simp only [e, bE_r] at JJ ⊢
            exact JJ s4 ⟨q4, by show a < b + 1; omega⟩ (fun _ _ _ => trivial)
          · have e : tkE L X 20 b = .inl (flt L X b) := tkE_n (show ¬kdL L b = 20 by rw [kd_20]; exact k3)
            simp only [e, bE_l] at JJ ⊢
            exact JJ s4 q4 (fun _ _ _ => trivial)
    · rw [if_neg (show ¬kdL L (a, M).1 = 19 by rw [kd_19]; exact k1)]
      exact wpo_some.mpr ⟨h, by show a - 1 < a; omega⟩
theorem M_limits (hH : LH L X) (hN : LN L ln) {t tn last : Int} {k : vS → Option α} (t0 : 0 ≤ t) (h : VMd L X ln s a M []) (t1 : t < lnM M 0) (hc : CT M a) (h1 : ∀ s', OM L X ln (a - 1) (gLimits L X t tn (L.length + 1) last (a, M)) s' → wpo (k s') Q) : wpo (bdv (f_X14_limitsOf t s) k) Q := by
  have hl := hH.2.1
  have a0 := h.a0
  unfold f_X14_limitsOf
  refine wpo_bdv.mpr (wpo_lq_0.mpr (wpo.mono (M_limits_l hH hN t0 (L.length + 1) FU s a last M h t1 hc (by omega) (by unfold FU; omega)) (fun s1 q => wpo_some.mpr (h1 s1 q))))
end
