set_option maxRecDepth 100000 set_option linter.unusedVariables false set_option linter.unusedSimpArgs false
/-! PURE 59f: the model's grammar: parts of values -/
section
variable {L : Lx} {X : List Int} {ln : Nat → Nat} {s s' : vS} {a : Int} {M M' : Mt} {P : List (Nat × Int)} {α : Type} {Q : α → Prop} {e : Ft}
theorem m_upd {A : Nat} {i v : Int} {k : vS → Option α} (h : VMd L X ln s a M P) (hA : isT A = true) (hv : okv A v) (i0 : 0 ≤ i) (i1 : i < lnM M (cOf A)) (hn : A ≠ 125 ∧ A ≠ 107) (h1 : ∀ s', VMd L X ln s' a (upM M (cOf A) i (jOf A) v) P → wpo (k s') Q) : wpo (stp (sE s A i v) k) Q := by
  rw [stp_eq]
  exact h1 _ (h.wu hA hv i0 i1 ⟨fun z => absurd z hn.1, fun z => absurd z hn.2⟩)
theorem M_itemsOf (hH : LH L X) (hN : LN L ln) {t tn kind : Int} (hkd : kind = 2 ∨ kind = 3 ∨ kind = 4) (h : VMd L X ln s a M []) (t0 : 0 ≤ t) (t1 : t < lnM M 0) (hb : clM M 0 t 0 = kind) (hc : clM M 0 t 6 = 0) (hk : CT M a) : wpo (f_X14_itemsOf t s) (OM L X ln a (bE (tkE L X 15 a) fun b => gItemsOf L X t tn kind (b, M))) := by
  have hl := hH.2.1
  have al := h.al
  have a0 := h.a0
  have kb := h.kb
  unfold CB at kb
  unfold CT at hk
  unfold f_X14_itemsOf
  refine m_take hH h (by decide) (by decide) (fun k1 k2 s1 q1 => ?_) (fun k1 s1 q1 _ => ?_)
  · rw [tkE_y (show kdL L a = 15 by rw [kd_15]; exact k1), bE_r]
    refine m_gdo hN q1 (by decide) t0 t1 ?_
    rw [show gI s1 87 37 = lnM M 2 from q1.ct (c := 2) (by decide)]
    refine m_upd q1 (by decide) (okv_rg (by decide) ⟨by omega, by omega⟩) t0 t1 (by decide) (fun s2 q2 => ?_)
    have q2 : VMd L X ln s2 (a + 1) (upM M 0 t 5 (lnM M 2)) [] := q2
    unfold gItemsOf
    refine wpo_lq_0.mpr (wpo.mono (M_items_l (tn := tn) hH hN t0 hkd (L.length + 1) FU s2 (a + 1) (-1) _ q2 (by rw [lnM_up]; exact t1) (by rw [clM_upj (by decide)]; exact hb) (by rw [clM_upj (by decide), hc]; decide) (by rw [clM_upj (by decide), hc]; omega) (by rw [lnM_up]; omega) (by omega) (by unfold FU; omega)) (fun s3 h3 => wpo.mono h3 (fun s4 h4 => ?_)))
    simp only
    generalize gItems L X t tn kind (L.length + 1) (-1) (a + 1, upM M 0 t 5 (lnM M 2)) = g at h4 ⊢
    cases g with
    | inl e => exact h4
    | inr q => exact ⟨h4.1, by have := h4.2; omega⟩
  · rw [tkE_n (show ¬kdL L a = 15 by rw [kd_15]; exact k1), bE_l]
    refine mF_gd hN q1 (by decide) t0 (by show 1 * t ≤ (L.length : Int) + 1 * 2; omega) (mF_w q1 (by decide) (fun s2 q2 => ?_))
    rw [mF_items_l q2 (by unfold FU; omega), lq_0_eq]
    exact mF_233 q2
theorem mF_parts_l {v x2 : Int} {N : Nat} (h : FM L X ln e s) (hN : 1 ≤ N) : l_X14_partsOf_2 N v x2 s = some s := by
  obtain ⟨N, rfl⟩ : ∃ m, N = m + 1 := ⟨N - 1, by omega⟩
  unfold l_X14_partsOf_2
  rw [if_neg (by have := h.eq; omega)]
theorem FM.wE (h : FM L X ln e s) {A : Nat} (hA : isT A = true) {i v : Int} : FM L X ln e (sE s A i v) := ⟨h.1.w hA, by rw [gI_sE]; exact h.2.1, by rw [gI_sE]; exact h.2.2.1, h.2.2.2.1, by rw [gI_sE]; exact h.2.2.2.2.1, by rw [gI_sE]; exact h.2.2.2.2.2⟩
theorem mF_127 (hH : LH L X) (hN : LN L ln) {v p : Int} {N : Nat} (h : FM L X ln e s) (hv : gI s 87 69 = p) (hp : p ≤ L.length + 1) (v0 : 0 ≤ v) (v1 : 2 * v ≤ L.length + 4) (hN1 : 1 ≤ N) : wpo (j_X14_partsOf_127 (l_X14_partsOf_2 N) v s) (FM L X ln e) := by
  unfold j_X14_partsOf_127
  rw [stp_eq]
  have q1 := h.inc hH (c := 7) (by decide) (v := p) hv (by show 1 * p ≤ (L.length : Int) + 1; omega)
  have q1 : FM L X ln e (sI s 87 69 (w32 (gI s 87 69 + 1))) := q1
  refine mF_gd hN q1 (by decide) v0 (by show 2 * v ≤ (L.length : Int) + 2 * 2; omega) (mF_gd hN q1 (by decide) v0 (by show 2 * v ≤ (L.length : Int) + 2 * 2; omega) (mF_w q1 (by decide) (fun s2 q2 => mF_eat q2 ?_)))
  rw [mF_parts_l q2 hN1]
  exact wpo_some.mpr q2
/-- pending cells of a value, but for how many parts it has -/
def P6 (P : List (Nat × Int)) : Prop := ∀ x ∈ P, cOf x.1 = 6 ∧ x.1 ≠ 137
theorem P6.d137 (h : P6 P) : dropA 137 P = P := by
  unfold dropA
  refine List.filter_eq_self.mpr fun x hx => ?_
  have := (h x hx).2
  simpa using this
theorem P6.f7 (h : P6 P) : P.filter (fun x => cOf x.1 != 7) = P := by
  refine List.filter_eq_self.mpr fun x hx => ?_
  have := (h x hx).1
  simp [this]
theorem P6.dA (h : P6 P) {A : Nat} (hA : cOf A ≠ 6) : dropA A P = P := by
  unfold dropA
  refine List.filter_eq_self.mpr fun x hx => ?_
  have := (h x hx).1
  have : x.1 ≠ A := fun z => hA (by rw [← z]; exact this)
  simpa using this
theorem m_newP (hN : LN L ln) {A : Nat} {i v : Int} {k : vS → Option α} (P' : List (Nat × Int)) (h : VMd L X ln s a M P) (hA : isT A = true) (hi : i = lnM M (cOf A)) (hv : okv A v) (hP : ∀ x ∈ P', x = (A, v) ∨ (x ∈ P ∧ x.1 ≠ A)) (h1 : ∀ s', VMd L X ln s' a M P' → wpo (k s') Q) : wpo (stp (sE s A i v) k) Q := by
  subst hi
  rw [stp_eq]
  refine h1 _ ((h.wn hA hv).weakP fun x hx => ?_)
  rcases hP x hx with z | z
  · rw [z]; exact List.mem_cons_self
  · refine List.mem_cons_of_mem _ ?_
    unfold dropA
    exact List.mem_filter.mpr ⟨z.1, by simpa using z.2⟩
theorem P6.ne (h : P6 P) {A : Nat} (hA : cOf A ≠ 6) {x : Nat × Int} (hx : x ∈ P) : x.1 ≠ A := fun z => hA (by rw [← z]; exact (h x hx).1)
/-- what is left behind parts -/
def PO (L : Lx) (X : List Int) (ln : Nat → Nat) (M : Mt) (n : Int) (P : List (Nat × Int)) (a : Int) (g : Ft ⊕ Pg) (s1 : vS) : Prop := match g with
  | .inl e => FM L X ln e s1
  | .inr q => VMd L X ln s1 q.1 q.2 ((137, n + (lnM q.2 7 - lnM M 7)) :: P) ∧ a ≤ q.1 ∧ lnM q.2 6 = lnM M 6
theorem M_parts_l (hH : LH L X) (hN : LN L ln) {vn : Int} (hP : P6 P) : ∀ (k N : Nat) (s : vS) (a last n due : Int) (M : Mt), VMd L X ln s a M ((137, n) :: P) → 0 ≤ n → n ≤ a → lnM M 7 ≤ a → 2 * lnM M 6 ≤ a + 1 → L.length - a < k → k < N → (due = 0 ∨ due = 1) → wpo (l_X14_partsOf_2 N (lnM M 6) due s) (PO L X ln M n P a (if due = 1 ∧ ¬(kdL L a = 0 ∨ kdL L a = 2) then .inl (flt L X a) else gParts L X vn k last (a, M))) := by
  have hl := hH.2.1
  intro k
  induction k with
  | zero => intro N s a last n due M h h1 h2 h3 h4 h5; have := h.al; omega
  | succ k ih =>
    intro N s a last n due M h h1 h2 h3 h4 h5 h6 hd
    obtain ⟨N, rfl⟩ : ∃ m, N = m + 1 := ⟨N - 1, by omega⟩
    have a0 := h.a0
    have al := h.al
    have kb := h.kb
    unfold CB at kb
    have l6 := lnM_nn M 6
    have l7 := lnM_nn M 7
    have kN : k < N := by omega
    have IHb : ∀ b : Int, a < b → (L.length : Int) - b < k := fun b hb => by omega
    have ix6 : 2 * lnM M 6 ≤ (L.length : Int) + 2 * 2 := by omega
    -- behind a part
    have J : ∀ (s : vS) (b nm nu : Int) (M3 : Mt) (r5 : List Int), VMd L X ln s b M ((140, nu) :: (139, nm) :: (137, n) :: P) → a < b → r5.take 2 = [nm, nu] → Sm M M3 → wpo (j_X14_partsOf_127 (l_X14_partsOf_2 N) (lnM M 6) s) (PO L X ln M n P a (if kdL L b = 21 then (if kdL L (b + 1) = 0 ∨ kdL L (b + 1) = 2 then gParts L X vn k (nN M) (b + 1, apM M3 7 r5) else .inl (flt L X (b + 1))) else gParts L X vn k (nN M) (b, apM M3 7 r5))) := by
      intro s b nm nu M3 r5 q ab hr sm
      have bl := q.al
      unfold j_X14_partsOf_127
      refine m_wi hH q (c := 7) (by decide) rfl [nm, nu] ?_ ?_ ⟨Nat.le_refl 2, fun z => absurd z (by decide), fun z => absurd z (by decide)⟩ (fun s1 q1 => ?_)
      · intro A hA hc
        right
        rcases cOf_7 hA hc with rfl | rfl <;> simp [jOf, cOf, cid]
      · unfold CB; simp only [lnM_ap, Nat.reduceEqDiff, Nat.reduceAdd, Nat.reduceLT, Nat.reduceLeDiff, Nat.reduceBEq, reduceIte, and_self, and_true, true_and, and_false, false_and, if_true, if_false, Nat.reduceMul, Int.reduceEq, Int.reduceLT, Int.reduceLE, Int.reduceNeg, Int.reduceAdd, Int.reduceMul, Int.reduceSub]; omega
      · have sm2 : Sm (apM M 7 [nm, nu]) (apM M3 7 r5) := sm.ap (fun _ => by show [nm, nu] = _; exact hr.symm)
        have q2 : VMd L X ln s1 b (apM M3 7 r5) ((137, n) :: P) := (q1.weakP (by
          intro x hx
          refine List.mem_filter.mpr ⟨List.mem_cons_of_mem _ (List.mem_cons_of_mem _ hx), ?_⟩
          rcases List.mem_cons.mp hx with z | z
          · rw [z]; rfl
          · have := (hP x z).1; simp [this])).sm sm2
        have e6 : lnM (apM M3 7 r5) 6 = lnM M 6 := by rw [lnM_ap, if_neg (by decide), sm.lnE (by decide)]
        have e7 : lnM (apM M3 7 r5) 7 = lnM M 7 + 1 := by rw [lnM_ap, if_pos rfl, sm.lnE (by decide)]
        refine m_gdn hN q2 (by decide) e6.symm (m_gdn hN q2 (by decide) e6.symm ?_)
        rw [← e6, show gE s1 137 (lnM (apM M3 7 r5) 6) = n from q2.rp (A := 137) List.mem_cons_self (by decide), w32_id ⟨by omega, by omega⟩]
        refine m_newP hN ((137, n + 1) :: P) q2 (by decide) rfl (okv_rg (by decide) ⟨by omega, by omega⟩) ?_ (fun s2 q3 => ?_)
        · intro x hx
          rcases List.mem_cons.mp hx with z | z
          · exact Or.inl z
          · exact Or.inr ⟨List.mem_cons_of_mem _ z, (hP x z).2⟩
        have fin : ∀ (c : Int) (g : Ft ⊕ Pg) (s3 : vS), b ≤ c → PO L X ln (apM M3 7 r5) (n + 1) P c g s3 → PO L X ln M n P a g s3 := by
          intro c g s3 bc og
          cases g with
          | inl e => exact og
          | inr w =>
            obtain ⟨w1, w2, w3⟩ := og
            rw [e7] at w1
            rw [show n + 1 + (lnM w.2 7 - (lnM M 7 + 1)) = n + (lnM w.2 7 - lnM M 7) by omega] at w1
            exact ⟨w1, by omega, by rw [w3, e6]⟩
        refine m_eat hH q3 (by decide) (by decide) (fun k1 k2 s3 q4 => ?_) (fun k1 => ?_)
        · rw [if_pos (show kdL L b = 21 by rw [kd_21]; exact k1)]
          have z := ih N s3 (b + 1) (nN M) (n + 1) 1 (apM M3 7 r5) q4 (by omega) (by omega) (by omega) (by omega) (IHb _ (by omega)) kN (Or.inr rfl)
          refine wpo.mono z (fun s4 h4 => fin (b + 1) _ s4 (by omega) ?_)
          by_cases c : kdL L (b + 1) = 0 ∨ kdL L (b + 1) = 2
          · rw [if_pos c]; rw [if_neg (fun w => w.2 c)] at h4; exact h4
          · rw [if_neg c]; rw [if_pos ⟨rfl, c⟩] at h4; exact h4
        · rw [if_neg (show ¬kdL L b = 21 by rw [kd_21]; exact k1)]
          have z := ih N s2 b (nN M) (n + 1) 0 (apM M3 7 r5) q3 (by omega) (by omega) (by omega) (by omega) (IHb _ (by omega)) kN (Or.inl rfl)
          refine wpo.mono z (fun s4 h4 => fin b _ s4 (by omega) ?_)
          rw [if_neg (fun w => absurd w.1 (by decide))] at h4; exact h4
    -- a part
    have G : wpo (j_X14_partsOf_29 (l_X14_partsOf_2 N) (lnM M 6) s) (PO L X ln M n P a (if ¬(kdL L a = 0 ∨ kdL L a = 2) then .inl (flt L X a) else bE (gPart L X vn last (a, M)) fun q => if kdL L q.1 = 21 then (if kdL L (q.1 + 1) = 0 ∨ kdL L (q.1 + 1) = 2 then gParts L X vn k (nN M) (q.1 + 1, q.2) else .inl (flt L X (q.1 + 1))) else gParts L X vn k (nN M) q)) := by
      unfold j_X14_partsOf_29
      have c7 : gI s 87 69 = lnM M 7 := h.ct (c := 7) (by decide)
      refine m_gdn hN h (by decide) c7 (m_newP hN ((139, -1) :: (137, n) :: P) h (by decide) c7 (okv_rg (by decide) (rgl rfl)) ?_ (fun s1 q1 => ?_))
      · intro x hx
        rcases List.mem_cons.mp hx with z | z
        · exact Or.inl z
        · refine Or.inr ⟨z, ?_⟩
          rcases List.mem_cons.mp z with w | w
          · rw [w]; exact Nat.ne_of_beq_eq_false rfl
          · exact hP.ne (by decide) w
      have d7 : gI s1 87 69 = lnM M 7 := q1.ct (c := 7) (by decide)
      refine m_gdn hN q1 (by decide) d7 (m_newP hN ((140, -1) :: (139, -1) :: (137, n) :: P) q1 (by decide) d7 (okv_rg (by decide) (rgl rfl)) ?_ (fun s2 q2 => ?_))
      · intro x hx
        rcases List.mem_cons.mp hx with z | z
        · exact Or.inl z
        · refine Or.inr ⟨z, ?_⟩
          rcases List.mem_cons.mp z with w | w
          · rw [w]; exact Nat.ne_of_beq_eq_false rfl
          · rcases List.mem_cons.mp w with w | w
            · rw [w]; exact Nat.ne_of_beq_eq_false rfl
            · exact hP.ne (by decide) w
      have e7 : gI s2 87 69 = lnM M 7 := q2.ct (c := 7) (by decide)
      have sm1 : Sm M (chN (adN M 27 a) vn 3 last (nN M)) := (Sm.rfl.nad _ _).nch _ _ _ _
      refine m_is q2 (fun k3 => wp_f ?_) (fun k3 => wp_t ?_)
      · -- a number
        have kd : kdL L a = 2 := kd_2' k3
        rw [if_neg (fun z => z (Or.inr kd))]
        unfold gPart
        simp only
        rw [if_pos kd, bE_r, e7, q2.at]
        refine m_gdn hN q2 (by decide) rfl (m_newP hN ((140, a) :: (139, -1) :: (137, n) :: P) q2 (by decide) rfl (okv_rg (by decide) ⟨by omega, by omega⟩) ?_ (fun s3 q3 => ?_))
        · intro x hx
          rcases List.mem_cons.mp hx with z | z
          · exact Or.inl z
          · refine Or.inr ⟨List.mem_cons_of_mem _ z, ?_⟩
            rcases List.mem_cons.mp z with w | w
            · rw [w]; exact Nat.ne_of_beq_eq_false rfl
            · rcases List.mem_cons.mp w with w | w
              · rw [w]; exact Nat.ne_of_beq_eq_false rfl
              · exact hP.ne (by decide) w
        · refine m_adv hH q3 k3 (by decide) (by decide) (fun _ s4 q4 => ?_)
          exact J s4 (a + 1) (-1) a _ [-1, a, nN M] q4 (by omega) rfl ((sm1.node _ _ _).node _ _ _)
      · have k3' : ¬kdL L a = 2 := by rw [kd_2]; exact k3
        refine m_take hH q2 (by decide) (by decide) (fun k4 k5 s3 q3 => ?_) (fun k4 s3 q3 T3 => ?_)
        · have kd : kdL L a = 0 := by rw [kd_0]; exact k4
          rw [if_neg (fun z => z (Or.inl kd))]
          unfold gPart
          simp only
          rw [if_neg k3', e7]
          refine m_gde q3 q2 (by decide) (m_gdn hN q3 (by decide) rfl (m_newP hN ((140, -1) :: (139, a) :: (137, n) :: P) q3 (by decide) rfl (okv_rg (by decide) ⟨by omega, by omega⟩) ?_ (fun s4 q4 => ?_)))
          · intro x hx
            rcases List.mem_cons.mp hx with z | z
            · exact Or.inr ⟨by rw [z]; exact List.mem_cons_self, by rw [z]; exact Nat.ne_of_beq_eq_false rfl⟩
            rcases List.mem_cons.mp z with z | z
            · exact Or.inl z
            · refine Or.inr ⟨List.mem_cons_of_mem _ (List.mem_cons_of_mem _ z), ?_⟩
              rcases List.mem_cons.mp z with w | w
              · rw [w]; exact Nat.ne_of_beq_eq_false rfl
              · exact hP.ne (by decide) w
          · refine m_eat hH q4 (by decide) (by decide) (fun k6 k7 s5 q5 => ?_) (fun k6 => ?_)
            · rw [if_pos (show kdL L (a + 1) = 19 by rw [kd_19]; exact k6)]
              refine wp_f ?_
              have f7 : gI s5 87 69 = lnM M 7 := q5.ct (c := 7) (by decide)
              refine m_take hH q5 (by decide) (by decide) (fun k8 k9 s6 q6 => ?_) (fun k8 s6 q6 T6 => ?_)
              · rw [tkE_y (show kdL L (a + 1 + 1) = 2 by rw [kd_2]; exact k8), bE_r, f7]
                refine m_gde q6 q5 (by decide) (m_gdn hN q6 (by decide) rfl (m_newP hN ((140, a + 1 + 1) :: (139, a) :: (137, n) :: P) q6 (by decide) rfl (okv_rg (by decide) ⟨by omega, by omega⟩) ?_ (fun s7 q7 => ?_)))
                · intro x hx
                  rcases List.mem_cons.mp hx with z | z
                  · exact Or.inl z
                  · refine Or.inr ⟨List.mem_cons_of_mem _ z, ?_⟩
                    rcases List.mem_cons.mp z with w | w
                    · rw [w]; exact Nat.ne_of_beq_eq_false rfl
                    · rcases List.mem_cons.mp w with w | w
                      · rw [w]; exact Nat.ne_of_beq_eq_false rfl
                      · exact hP.ne (by decide) w
                · refine m_take hH q7 (by decide) (by decide) (fun k10 k11 s8 q8 => ?_) (fun k10 s8 q8 T8 => ?_)
                  · rw [tkE_y (show kdL L (a + 1 + 1 + 1) = 20 by rw [kd_20]; exact k10), bE_r, bE_r]
                    exact J s8 (a + 1 + 1 + 1 + 1) a (a + 1 + 1) _ [a, a + 1 + 1, nN M] q8 (by omega) rfl ((sm1.node _ _ _).node _ _ _)
                  · rw [tkE_n (show ¬kdL L (a + 1 + 1 + 1) = 20 by rw [kd_20]; exact k10), bE_l, bE_l]
                    exact mF_127 hH hN q8 (T8.1 7 (by decide)) (by omega) l6 (by omega) (by omega)
              · rw [tkE_n (show ¬kdL L (a + 1 + 1) = 2 by rw [kd_2]; exact k8), bE_l, bE_l, f7]
                refine mF_gde q6 q5.bd (by decide) (mF_gd hN q6 (by decide) l7 (by show 1 * lnM M 7 ≤ (L.length : Int) + 1 * 2; omega) ?_)
                rw [stp_eq]
                have q7 := q6.wE (A := 140) (by decide) (i := lnM M 7) (v := 0)
                refine mF_take q7 ?_
                exact mF_127 (p := lnM M 7) hH hN q7 (by rw [gI_sE]; exact T6.1 7 (by decide)) (by omega) l6 (by omega) (by omega)
            · rw [if_neg (show ¬kdL L (a + 1) = 19 by rw [kd_19]; exact k6), bE_r]
              refine wp_t ?_
              exact J s4 (a + 1) a (-1) _ [a, -1, nN M] q4 (by omega) rfl (sm1.node _ _ _)
        · have k4' : ¬kdL L a = 0 := by rw [kd_0]; exact k4
          rw [if_pos (fun z => z.elim k4' k3'), e7]
          refine mF_gde q3 q2.bd (by decide) (mF_gd hN q3 (by decide) l7 (by show 1 * lnM M 7 ≤ (L.length : Int) + 1 * 2; omega) ?_)
          rw [stp_eq]
          have q7 := q3.wE (A := 139) (by decide) (i := lnM M 7) (v := 0)
          refine mF_eat q7 (wp_t ?_)
          exact mF_127 (p := lnM M 7) hH hN q7 (by rw [gI_sE]; exact T3.1 7 (by decide)) (by omega) l6 (by omega) (by omega)
    unfold l_X14_partsOf_2 gParts
    rw [if_pos h.f0]
    by_cases c : kdL L a = 0 ∨ kdL L a = 2
    · rw [if_neg (show ¬(due = 1 ∧ ¬(kdL L a = 0 ∨ kdL L a = 2)) from fun w => w.2 c)]
      rw [if_neg (fun w => w c)] at G
      have GG : wpo (j_X14_partsOf_29 (l_X14_partsOf_2 N) (lnM M 6) s) (PO L X ln M n P a (if kdL L (a, M).1 = 0 ∨ kdL L (a, M).1 = 2 then bE (gPart L X vn last (a, M)) fun q => if kdL L q.1 = 21 then (if kdL L (q.1 + 1) = 0 ∨ kdL L (q.1 + 1) = 2 then gParts L X vn k (nN (a, M).2) (q.1 + 1, q.2) else .inl (flt L X (q.1 + 1))) else gParts L X vn k (nN (a, M).2) q else .inr (a, M))) := by
        rw [if_pos c]; exact G
      rcases hd with rfl | rfl
      · rw [if_pos rfl]
        refine m_is h (fun k3 => wp_f GG) (fun k3 => wp_t (m_is h (fun k4 => wp_f GG) (fun k4 => ?_)))
        exact absurd c (fun z => z.elim (by rw [kd_0]; exact k3) (by rw [kd_2]; exact k4))
      · rw [if_neg (by decide)]; exact GG
    · rw [if_pos c] at G
      rcases hd with rfl | rfl
      · rw [if_neg (show ¬((0 : Int) = 1 ∧ ¬(kdL L a = 0 ∨ kdL L a = 2)) from fun w => absurd w.1 (by decide)), if_pos rfl]
        refine m_is h (fun k3 => absurd (Or.inl (by rw [kd_0]; exact k3)) c) (fun k3 => wp_t (m_is h (fun k4 => absurd (Or.inr (by rw [kd_2]; exact k4)) c) (fun k4 => wp_t ?_)))
        rw [if_neg (show ¬(kdL L (a, M).1 = 0 ∨ kdL L (a, M).1 = 2) from c)]
        refine wpo_some.mpr ⟨?_, Int.le_refl _, rfl⟩
        simp only
        rw [show n + (lnM M 7 - lnM M 7) = n by omega]; exact h
      · rw [if_pos (show (1 : Int) = 1 ∧ ¬(kdL L a = 0 ∨ kdL L a = 2) from ⟨rfl, c⟩), if_neg (by decide)]; exact G
end
