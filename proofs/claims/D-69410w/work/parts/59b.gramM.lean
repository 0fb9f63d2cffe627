set_option maxRecDepth 100000 set_option linter.unusedVariables false set_option linter.unusedSimpArgs false
/-! PURE 59b: the model's grammar: sizes, limits -/
section
variable {L : Lx} {X : List Int} {ln : Nat → Nat} {s s' : vS} {a : Int} {M M' : Mt} {P : List (Nat × Int)} {α : Type} {Q : α → Prop} {e : Ft}
/-- room for what comes -/
def CT (M : Mt) (a : Int) : Prop := lnM M 0 ≤ a + 1 ∧ 3 * lnM M 1 ≤ a ∧ 2 * lnM M 2 ≤ a ∧ 2 * lnM M 3 ≤ a + 1 ∧ 3 * lnM M 4 ≤ a ∧ 2 * lnM M 5 ≤ a ∧ 2 * lnM M 6 ≤ a ∧ lnM M 7 ≤ a ∧ 3 * lnM M 8 ≤ a ∧ 3 * lnM M 9 ≤ a
theorem lnM_nn (M : Mt) (c : Nat) : 0 ≤ lnM M c := by unfold lnM; omega
theorem mF_ranges {l : Int} {k : vS → Option α} (h : FM L X ln e s) (h1 : wpo (k s) Q) : wpo (bdv (f_X14_rangesOf l s) k) Q := by
  unfold f_X14_rangesOf
  rw [mF_ranges_l h (by unfold FU; omega), lq_0_eq, bdv_eq]; exact h1
theorem M_ranges (hH : LH L X) (hN : LN L ln) {l lnd : Int} (h : VMd L X ln s a M []) (l0 : 0 ≤ l) (l1 : l < lnM M 4) (c0 : 0 ≤ clM M 4 l 3) (c1 : clM M 4 l 3 ≤ a) (h4 : 2 * lnM M 5 ≤ a + 1) : wpo (f_X14_rangesOf l s) (OM L X ln a (gRanges L X l lnd (L.length + 1) (-1) (a, M))) := by
  have hl := hH.2.1
  have a0 := h.a0
  unfold f_X14_rangesOf
  refine wpo_lq_0.mpr (wpo.mono (M_ranges_l hH hN l0 (L.length + 1) FU s a (-1) M h l1 c0 c1 h4 (by omega) (by unfold FU; omega)) (fun s1 h1 => wpo_some.mpr h1))
theorem clM_upj {M : Mt} {c : Nat} {i : Int} {j : Nat} {v : Int} {d : Nat} {k : Int} {l : Nat} (h : l ≠ j) : clM (upM M c i j v) d k l = clM M d k l := by
  unfold clM upM
  by_cases e : d = c
  · subst e
    simp only [if_true]
    simp only [List.getD_eq_getElem?_getD, List.getElem?_modify]
    cases hq : (M d)[k.toNat]? with
    | none => simp
    | some r =>
      by_cases e2 : i.toNat = k.toNat
      · simp [e2, List.getElem?_set, Ne.symm h]
      · simp [e2]
  · rw [if_neg e]
theorem clM_addL {t b z node : Int} (hr : RL M) (t0 : 0 ≤ t) (t1 : t < lnM M 0) : clM (addL M t b z node) 4 (lnM M 4) 3 = 0 := by
  have l4 := lnM_nn M 4
  unfold addL
  simp only
  have hrl : RL (apM M 4 [b, z, lnM M 5, 0, -1, node]) := hr.ap (fun _ => by show 5 ≤ 6; decide) (fun _ => rfl) (fun z => absurd z (by decide))
  have la : lnM (apM M 4 [b, z, lnM M 5, 0, -1, node]) 4 = lnM M 4 + 1 := by rw [lnM_ap, if_pos rfl]
  have l0 : lnM (apM M 4 [b, z, lnM M 5, 0, -1, node]) 0 = lnM M 0 := by rw [lnM_ap, if_neg (by decide)]
  have e0 : clM (apM M 4 [b, z, lnM M 5, 0, -1, node]) 4 (lnM M 4) 3 = 0 := by rw [clM_ap l4, if_pos ⟨rfl, rfl⟩]; rfl
  by_cases c : clM M 0 t 10 < 0
  · rw [if_pos c]; exact e0
  · rw [if_neg c, clM_upj (by decide), e0]
theorem M_size32 (hH : LH L X) (hN : LN L ln) {t b node x3 : Int} (h : VMd L X ln s a M []) (hx : x3 = 0 ∨ x3 = 1) (t0 : 0 ≤ t) (t1 : t < lnM M 0) (hb : rg b) (hk : CT M (a - 2)) : wpo (j_X14_sizeOf_32 x3 t b s) (OM L X ln (a - 2) (bE (gRanges L X (lnM M 4) node (L.length + 1) (-1) (a, stN (addL M t b 1 node) node 5 1)) fun q => bE (tkE L X 20 q.1) fun c => if x3 = 0 then .inr (c, q.2) else bE (tkE L X 20 c) fun d => .inr (d, q.2))) := by
  have hl := hH.2.1
  have al := h.al
  unfold CT at hk
  unfold j_X14_sizeOf_32
  refine m_addLimit (node := node) hH hN h hb (Or.inr rfl) t0 t1 (by omega) (fun s1 q1 => ?_)
  have q2 : VMd L X ln s1 a (stN (addL M t b 1 node) node 5 1) [] := q1.sm (Sm.rfl.node _ _ _)
  have c3 : clM (stN (addL M t b 1 node) node 5 1) 4 (lnM M 4) 3 = 0 := clM_addL h.tb.2.2 t0 t1
  have l4 := lnM_nn M 4
  refine wpo_bdv.mpr (wpo.mono (M_ranges (lnd := node) hH hN q2 l4 (by rw [lnM_st, lnM_addL, if_pos rfl]; omega) (by omega) (by have := h.a0; omega) (by rw [lnM_st, lnM_addL, if_neg (by decide)]; omega)) (fun s2 og => ?_))
  generalize gRanges L X (lnM M 4) node (L.length + 1) (-1) (a, stN (addL M t b 1 node) node 5 1) = g at og ⊢
  cases g with
  | inl e =>
    have og : FM L X ln e s2 := og
    rw [bE_l]
    refine mF_take og ?_
    rcases hx with rfl | rfl
    · exact wp_t (wpo_some.mpr og)
    · exact wp_f (mF_take og (wpo_some.mpr og))
  | inr q =>
    obtain ⟨b2, M2⟩ := q
    obtain ⟨g1, g2⟩ := og
    simp only at g1 g2
    rw [bE_r]
    refine m_take hH g1 (by decide) (by decide) (fun k1 k2 s3 q3 => ?_) (fun k1 s3 q3 _ => ?_)
    · rw [tkE_y (show kdL L b2 = 20 by rw [kd_20]; exact k1), bE_r]
      rcases hx with rfl | rfl
      · exact wp_t (wpo_some.mpr ⟨q3, by show a - 2 < b2 + 1; omega⟩)
      · rw [if_neg (by decide)]
        refine m_take hH q3 (by decide) (by decide) (fun k3 k4 s4 q4 => ?_) (fun k3 s4 q4 _ => ?_)
        · rw [tkE_y (show kdL L (b2 + 1) = 20 by rw [kd_20]; exact k3), bE_r]
          exact wpo_some.mpr ⟨q4, by show a - 2 < b2 + 1 + 1; omega⟩
        · rw [tkE_n (show ¬kdL L (b2 + 1) = 20 by rw [kd_20]; exact k3), bE_l]
          exact wpo_some.mpr q4
    · rw [tkE_n (show ¬kdL L b2 = 20 by rw [kd_20]; exact k1), bE_l]
      rcases hx with rfl | rfl
      · exact wp_t (wpo_some.mpr q3)
      · exact wp_f (mF_take q3 (wpo_some.mpr q3))
theorem mF_size32 (hH : LH L X) (hN : LN L ln) {t b x3 : Int} (h : FM L X ln e s) (hT : TB s M) (hk : CB (lnM M) L.length 1) (hx : x3 = 0 ∨ x3 = 1) (t0 : 0 ≤ t) (t1 : t < lnM M 0) : wpo (j_X14_sizeOf_32 x3 t b s) (FM L X ln e) := by
  unfold j_X14_sizeOf_32
  refine mF_addLimit hH hN h hT hk t0 t1 (fun s1 q1 => ?_)
  refine mF_ranges q1 (mF_take q1 ?_)
  rcases hx with rfl | rfl
  · exact wp_t (wpo_some.mpr q1)
  · exact wp_f (mF_take q1 (wpo_some.mpr q1))
theorem M_sizeOf (hH : LH L X) (hN : LN L ln) {t b node x3 : Int} (h : VMd L X ln s a M []) (hx : x3 = 0 ∨ x3 = 1) (t0 : 0 ≤ t) (t1 : t < lnM M 0) (hb : rg b) (hk : CT M a) : wpo (f_X14_sizeOf t b x3 s) (OM L X ln a (if kz L a = 101 then bE (tkE L X 19 (a + 1)) (fun a2 => bE (gRanges L X (lnM M 4) node (L.length + 1) (-1) (a2, stN (addL M t (if x3 = 0 then a + 1 else b) 1 node) node 5 1)) fun q => bE (tkE L X 20 q.1) fun c => if x3 = 0 then .inr (c, q.2) else bE (tkE L X 20 c) fun d => .inr (d, q.2)) else .inl (flt L X a))) := by
  have hl := hH.2.1
  have al := h.al
  have a0 := h.a0
  unfold f_X14_sizeOf
  refine m_take hH h (by decide) (by decide) (fun k1 k2 s1 q1 => ?_) (fun k1 s1 q1 T1 => ?_)
  · rw [if_pos k1]
    refine m_vat q1 (m_take hH q1 (by decide) (by decide) (fun k3 k4 s2 q2 => ?_) (fun k3 s2 q2 T2 => ?_))
    · rw [tkE_y (show kdL L (a + 1) = 19 by rw [kd_19]; exact k3), bE_r]
      have e2 : a + 1 + 1 - 2 = a := by omega
      rcases hx with rfl | rfl
      · refine wp_t ?_
        have z := M_size32 (node := node) hH hN q2 (Or.inl rfl) t0 t1 (b := a + 1) ⟨by omega, by omega⟩ (by rw [e2]; exact hk)
        rw [e2] at z
        simp only [if_true] at z ⊢
        exact z
      · refine wp_f ?_
        have z := M_size32 (node := node) hH hN q2 (Or.inr rfl) t0 t1 (b := b) hb (by rw [e2]; exact hk)
        rw [e2] at z
        rw [if_neg (by decide)]
        exact z
    · rw [tkE_n (show ¬kdL L (a + 1) = 19 by rw [kd_19]; exact k3), bE_l]
      rcases hx with rfl | rfl
      · exact wp_t (mF_size32 hH hN q2 T2 (h.kb.mono al (by decide)) (Or.inl rfl) t0 t1)
      · exact wp_f (mF_size32 hH hN q2 T2 (h.kb.mono al (by decide)) (Or.inr rfl) t0 t1)
  · rw [if_neg k1]
    rw [vl_eq]
    refine mF_take q1 ?_
    rcases hx with rfl | rfl
    · exact wp_t (mF_size32 hH hN q1 T1 (h.kb.mono al (by decide)) (Or.inl rfl) t0 t1)
    · exact wp_f (mF_size32 hH hN q1 T1 (h.kb.mono al (by decide)) (Or.inr rfl) t0 t1)
end
