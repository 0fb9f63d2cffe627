set_option maxRecDepth 100000 set_option linter.unusedVariables false set_option linter.unusedSimpArgs false
/-! PURE 59q: the model's grammar: the assignments' loop, the end of the module -/
section
variable {L : Lx} {X : List Int} {ln : Nat → Nat} {s s' : vS} {a : Int} {M M' : Mt} {P : List (Nat × Int)} {α : Type} {e : Ft} {t tn : Int}
theorem lnM_fin {last n : Int} {c : Nat} (hc : c < 10) : lnM (finA last n M) c = lnM M c := by
  unfold finA; split
  · rfl
  · exact lnM_st _ _ _ _ _
/-- how an assignment grows -/
theorem gr_A1 {last : Int} {p : Pg} (hp : 0 ≤ p.1) (hC : CT p.2 p.1) (h0 : lnM p.2 0 ≤ p.1) : wE (gA1 L X last p) (fun q => p.1 < q.1 ∧ CT q.2 q.1 ∧ lnM q.2 0 ≤ q.1) := by
  unfold CT at hC
  unfold gA1
  simp only
  refine wE_ite (fun _ => wE_ite (fun _ => trivial) (fun _ => wE_bE (wE_tk fun _ => wE_bE ((gr_type 100 (p.1 + 1 + 1, adN p.2 28 p.1) (by show 0 ≤ p.1 + 1 + 1; omega)).mono fun q hq => ?_)))) (fun _ => wE_ite (fun _ => wE_bE ((gr_type 100 (p.1 + 1, adN p.2 29 p.1) (by show 0 ≤ p.1 + 1; omega)).mono fun q hq => wE_bE (wE_tk fun _ => wE_bE (gr_value.mono fun r hr => ?_)))) (fun _ => trivial))
  · simp only [GR, lnM_st, lnM_ad, lnM_ap, Nat.reduceEqDiff, if_true, if_false, reduceIte] at hq
    refine wE_inr ?_
    simp only [CT, lnM_fin (show 0 < 10 by decide), lnM_fin (show 1 < 10 by decide), lnM_fin (show 2 < 10 by decide), lnM_fin (show 3 < 10 by decide), lnM_fin (show 4 < 10 by decide), lnM_fin (show 5 < 10 by decide), lnM_fin (show 6 < 10 by decide), lnM_fin (show 7 < 10 by decide), lnM_fin (show 8 < 10 by decide), lnM_fin (show 9 < 10 by decide), lnM_st, lnM_ad, lnM_ap, Nat.reduceEqDiff, if_true, if_false, reduceIte]
    omega
  · simp only [GR, lnM_st, lnM_ad, lnM_ap, Nat.reduceEqDiff, if_true, if_false, reduceIte] at hq
    simp only [GR, lnM_st, lnM_ad, lnM_ap, Nat.reduceEqDiff, if_true, if_false, reduceIte] at hr
    refine wE_inr ?_
    simp only [CT, lnM_fin (show 0 < 10 by decide), lnM_fin (show 1 < 10 by decide), lnM_fin (show 2 < 10 by decide), lnM_fin (show 3 < 10 by decide), lnM_fin (show 4 < 10 by decide), lnM_fin (show 5 < 10 by decide), lnM_fin (show 6 < 10 by decide), lnM_fin (show 7 < 10 by decide), lnM_fin (show 8 < 10 by decide), lnM_fin (show 9 < 10 by decide), lnM_st, lnM_ad, lnM_ap, Nat.reduceEqDiff, if_true, if_false, reduceIte]
    omega
theorem mQ_take {c : Int} {k : Int → vS → Option α} {Q : α → Prop} (h : FQ L X ln e s) (h1 : wpo (k 0 s) Q) : wpo (bd (f_X14_take c s) k) Q := by
  unfold f_X14_take
  rw [if_neg (by have := h.eq; omega), bd_eq]; exact h1
theorem LA_F (h : FQ L X ln e s) {N : Nat} (hN : 1 ≤ N) : l_X14_parseModule_159 N s = some s := by
  obtain ⟨N, rfl⟩ : ∃ m, N = m + 1 := ⟨N - 1, by omega⟩
  unfold l_X14_parseModule_159
  rw [if_neg (by have := h.eq; omega)]
theorem LA_D (hH : LH L X) (hN : LN L ln) (h : DM L X ln e s) {N : Nat} (hM : 2 ≤ N) : wpo (l_X14_parseModule_159 N s) (FQ L X ln e) := by
  obtain ⟨N, rfl⟩ : ∃ m, N = m + 1 := ⟨N - 1, by omega⟩
  unfold l_X14_parseModule_159
  rw [if_pos h.2.1, h.is (by decide), bd_eq, if_pos rfl]
  refine wpo_bdv.mpr (wpo.mono (D_asg hH hN h) (fun s1 f1 => ?_))
  rw [LA_F f1 (by omega)]
  exact wpo_some.mpr f1
/-- what the assignments leave -/
def PL (L : Lx) (X : List Int) (ln : Nat → Nat) (g : Ft ⊕ Pg) (s1 : vS) : Prop := match g with
  | .inl e => FQ L X ln e s1
  | .inr q => VMd L X ln s1 q.1 q.2 [] ∧ kz L q.1 = 60
def eE (L : Lx) (X : List Int) (p : Pg) : Ft ⊕ Pg := if kdL L p.1 = 120 then .inr p else .inl (flt L X p.1)
theorem M_asgs (hH : LH L X) (hN : LN L ln) : ∀ (k N : Nat) (last a : Int) (M : Mt) (s : vS), VMd L X ln s a M [] → CT M a → lnM M 0 ≤ a → L.length - a < k → k + 2 ≤ N → wpo (l_X14_parseModule_159 N s) (PL L X ln (bE (gAssigns L X k last (a, M)) (eE L X))) := by
  intro k
  induction k with
  | zero => intro N last a M s h _ _ hk; have := h.al; omega
  | succ k ih =>
    intro N last a M s h hC h0 hk hM
    obtain ⟨N, rfl⟩ : ∃ m, N = m + 1 := ⟨N - 1, by omega⟩
    unfold l_X14_parseModule_159
    refine m_if0 h (m_is h (fun k60 => ?_) (fun k60 => ?_))
    · rw [if_neg (by decide)]
      have n1 : ¬kdL L a = 1 := by rw [kd_1]; omega
      have n0 : ¬kdL L a = 0 := by rw [kd_0]; omega
      have ey : kdL L a = 120 := by rw [kd_120]; exact k60
      have eg : bE (gAssigns L X (k + 1) last (a, M)) (eE L X) = .inr (a, M) := by
        rw [gAssigns.eq_2]
        simp only [n1, n0, if_false, bE_r]; simp only [eE, ey, if_true]
      rw [eg]
      exact wpo_some.mpr ⟨h, k60⟩
    · rw [if_pos rfl]
      refine wpo_bdv.mpr (wpo.mono (M_asg (last := last) hH hN h hC h0 k60) (fun s1 p1 => ?_))
      by_cases c : kdL L a = 1 ∨ kdL L a = 0
      · rw [gAssigns_eq (p := (a, M)) c]
        have gw := gr_A1 (L := L) (X := X) (last := last) (p := (a, M)) h.a0 hC h0
        generalize gA1 L X last (a, M) = g at p1 gw ⊢
        match g, p1, gw with
        | .inl e, p1, _ =>
          rw [bE_l, bE_l]
          rcases p1 with p1 | p1
          · rw [LA_F p1 (by omega)]; exact wpo_some.mpr p1
          · exact LA_D hH hN p1 (by omega)
        | .inr (b, M2), p1, gw =>
          rw [bE_r]
          obtain ⟨g1, g2, g3⟩ := (gw : a < b ∧ CT M2 b ∧ lnM M2 0 ≤ b)
          exact ih N (nN M) b M2 s1 p1 g2 g3 (by omega) (by omega)
      · have n1 : ¬kdL L a = 1 := fun z => c (Or.inl z)
        have n0 : ¬kdL L a = 0 := fun z => c (Or.inr z)
        have ey : ¬kdL L a = 120 := by rw [kd_120]; exact k60
        have e1 : gA1 L X last (a, M) = .inl (flt L X a) := by
          unfold gA1
          simp only [n1, n0, if_false]
        have eg : bE (gAssigns L X (k + 1) last (a, M)) (eE L X) = .inl (flt L X a) := by
          rw [gAssigns.eq_2]
          simp only [n1, n0, if_false, bE_r]; simp only [eE, ey, if_false]
        rw [eg]
        rw [e1] at p1
        rcases p1 with p1 | p1
        · rw [LA_F p1 (by omega)]; exact wpo_some.mpr p1
        · exact LA_D hH hN p1 (by omega)
/-- what a module leaves -/
def QM (L : Lx) (X : List Int) (ln : Nat → Nat) (g : Ft ⊕ (Int × Mt)) (s1 : vS) : Prop := match g with
  | .inl e => FQ L X ln e s1
  | .inr q => ∃ s0, VMd L X ln s0 L.length q.2 [] ∧ Fr [87019] s0 s1 ∧ gI s1 87 78 = q.1
def gRest (L : Lx) (X : List Int) (i a6 : Int) : Ft ⊕ (Int × Mt) :=
  bE (gAssigns L X (L.length + 1) (-1) (a6, fun _ => [])) fun p => bE (tkE L X 120 p.1) fun a => if kdL L a = -1 then .inr (i, p.2) else .inl (flt L X a)
theorem gRest_eq {i a6 : Int} : gRest L X i a6 = bE (bE (gAssigns L X (L.length + 1) (-1) (a6, fun _ => [])) (eE L X)) fun p => if kdL L (p.1 + 1) = -1 then .inr (i, p.2) else .inl (flt L X (p.1 + 1)) := by
  unfold gRest
  rw [bE_as]
  congr 1
  funext p
  unfold eE tkE
  by_cases c : kdL L p.1 = 120
  · rw [if_pos c, if_pos c]; rfl
  · rw [if_neg c, if_neg c]; rfl
theorem FM_182 (h : FQ L X ln e s) : wpo (j_X14_parseModule_182 s) (FQ L X ln e) := by
  unfold j_X14_parseModule_182
  exact mQ_take h (mQ_take h (wpo_some.mpr h))
theorem FM_145 (h : FM L X ln e s) : wpo (j_X14_parseModule_145 s) (FQ L X ln e) := by
  unfold j_X14_parseModule_145
  refine mF_take h (mF_take h ?_)
  rw [LA_F h.fq (by decide), lq_0_eq]
  exact FM_182 h.fq
theorem VM_182 (hH : LH L X) {i : Int} {q : Pg} (h : VMd L X ln s q.1 q.2 []) (k60 : kz L q.1 = 60) (hi : gI s 87 78 = i) : wpo (j_X14_parseModule_182 s) (QM L X ln (if kdL L (q.1 + 1) = -1 then .inr (i, q.2) else .inl (flt L X (q.1 + 1)))) := by
  have hl := hH.2.1
  obtain ⟨a, M⟩ := q
  simp only at h k60 ⊢
  have key : wpo (f_X14_take 60 s) (fun r => VMd L X ln r.2 (a + 1) M [] ∧ gI r.2 87 78 = i) := by
    have := m_take (α := Int × vS) hH (c := 60) (k := fun r s1 => some (r, s1)) (Q := fun r => VMd L X ln r.2 (a + 1) M [] ∧ Fr [87019] s r.2) h (by decide) (by decide)
    unfold f_X14_take
    rw [h.f0, if_pos (by decide), h.is, bd_eq]
    unfold b2i
    rw [if_pos k60, if_neg (by decide), stp_eq]
    have al := (kz_in k60 (by decide)).2
    have q := h.adv hH al (ND_of k60 (by decide))
    refine wpo_some.mpr ⟨q, ?_⟩
    rw [gI_s87, if_neg (by decide)]; exact hi
  unfold j_X14_parseModule_182
  refine wpo_bd.mpr (wpo.mono key ?_)
  rintro ⟨r1, s1⟩ ⟨h1, i1⟩
  simp only at h1 i1 ⊢
  have a0 := h1.a0
  have al := h1.al
  unfold f_X14_take
  rw [h1.f0, if_pos (by decide), h1.is, bd_eq]
  unfold b2i
  by_cases d : kz L (a + 1) = 0
  · have ea : a + 1 = L.length := by
      by_cases z : a + 1 < L.length
      · exfalso
        have d' := d
        unfold kz at d'
        rw [if_pos ⟨a0, z⟩] at d'
        exact km_pos _ d'
      · omega
    rw [if_pos d, if_neg (by decide), stp_eq, bd_eq, if_pos (by rw [kd_end hH]; exact d)]
    refine wpo_some.mpr ⟨s1, by rw [← ea]; exact h1, Fr.wI Fr.rfl (by decide), ?_⟩
    rw [gI_s87, if_neg (by decide)]; exact i1
  · rw [if_neg d, if_pos rfl, h1.misfit hH, bdv_eq, bd_eq, if_neg (by rw [kd_end hH]; exact d)]
    obtain ⟨q1, q2⟩ := flt_pos L X (a + 1)
    obtain ⟨w1, w2⟩ := h1.tellF (c := (flt L X (a + 1)).1) (p := (flt L X (a + 1)).2) q2 (stL_rg h1.1.1 h1.a0 h1.al) q1
    exact wpo_some.mpr w1.fq
end
