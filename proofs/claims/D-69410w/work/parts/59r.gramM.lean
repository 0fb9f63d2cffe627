set_option maxRecDepth 100000 set_option linter.unusedVariables false set_option linter.unusedSimpArgs false
/-! PURE 59r: the model's grammar: the heading, the module -/
section
variable {L : Lx} {X : List Int} {ln : Nat → Nat} {s s' : vS} {a : Int} {M M' : Mt} {P : List (Nat × Int)} {α : Type} {e : Ft} {t tn : Int}
theorem bd_ret {m : Option (Int × vS)} : bd m (fun r s1 => some (r, s1)) = m := by cases m <;> rfl
theorem m_take8 (hH : LH L X) {c i : Int} {k : Int → vS → Option α} {Q : α → Prop} (h : VMd L X ln s a M P) (hi : gI s 87 78 = i) (c0 : c ≠ 0) (c1 : c ≠ 1) (h1 : kz L a = c → ∀ r s', VMd L X ln s' (a + 1) M P → gI s' 87 78 = i → wpo (k r s') Q) (h0 : kz L a ≠ c → ∀ r s', FM L X ln (flt L X a) s' → wpo (k r s') Q) : wpo (bd (f_X14_take c s) k) Q := by
  have key : wpo (f_X14_take c s) (fun r => (kz L a = c ∧ VMd L X ln r.2 (a + 1) M P) ∨ (kz L a ≠ c ∧ FM L X ln (flt L X a) r.2)) := by
    have z := m_take (α := Int × vS) hH (c := c) (k := fun r s1 => some (r, s1)) (Q := fun r => (kz L a = c ∧ VMd L X ln r.2 (a + 1) M P) ∨ (kz L a ≠ c ∧ FM L X ln (flt L X a) r.2)) h c0 c1 (fun k1 _ s' h' => wpo_some.mpr (Or.inl ⟨k1, h'⟩)) (fun k0 s' f' _ => wpo_some.mpr (Or.inr ⟨k0, f'⟩))
    rw [bd_ret] at z
    exact z
  refine wpo_bd.mpr (wpo.mono (wpo.and key (fun r hr => fr_f_X14_take c s r hr)) ?_)
  rintro ⟨r1, s1⟩ ⟨h2, fr⟩
  simp only at h2 fr ⊢
  rcases h2 with ⟨k1, h2⟩ | ⟨k0, f2⟩
  · exact h1 k1 r1 s1 h2 (by rw [fr.rI (by decide)]; exact hi)
  · exact h0 k0 r1 s1 f2
theorem M_145 (hH : LH L X) (hN : LN L ln) {i : Int} (h : VMd L X ln s a (fun _ => []) []) (hi : gI s 87 78 = i) : wpo (j_X14_parseModule_145 s) (QM L X ln (bE (tkE L X 10 a) fun a5 => bE (tkE L X 105 a5) fun a6 => gRest L X i a6)) := by
  have hl := hH.2.1
  unfold j_X14_parseModule_145
  refine m_take8 hH h hi (by decide) (by decide) (fun k7 r1 s1 h1 i1 => ?_) (fun k7 r1 s1 f1 => ?_)
  · rw [tkE_y (by rw [kd_10]; exact k7), bE_r]
    refine m_take8 hH h1 i1 (by decide) (by decide) (fun k8 r2 s2 h2 i2 => ?_) (fun k8 r2 s2 f2 => ?_)
    · rw [tkE_y (by rw [kd_105]; exact k8), bE_r, gRest_eq]
      have a0 := h.a0
      have l0 : ∀ c, lnM (fun _ => []) c = 0 := fun c => rfl
      refine wpo_lq_0.mpr (wpo.mono (wpo.and (M_asgs hH hN (L.length + 1) FU (-1) (a + 1 + 1) (fun _ => []) s2 h2 (by unfold CT; simp only [l0]; omega) (by rw [l0]; omega) (by omega) (by unfold FU; omega)) (fun r hr => fr_l_X14_parseModule_159 FU s2 r hr)) ?_)
      rintro s3 ⟨p3, fr3⟩
      simp only at p3 fr3
      have i3 : gI s3 87 78 = i := by rw [fr3.rI (by decide)]; exact i2
      generalize bE (gAssigns L X (L.length + 1) (-1) (a + 1 + 1, fun _ => [])) (eE L X) = g at p3 ⊢
      match g, p3 with
      | .inl e, p3 => rw [bE_l]; exact FM_182 p3
      | .inr q, p3 => rw [bE_r]; exact VM_182 hH p3.1 p3.2 i3
    · rw [tkE_n (show ¬kdL L (a + 1) = 105 by rw [kd_105]; exact k8), bE_l]
      rw [LA_F f2.fq (by decide), lq_0_eq]
      exact FM_182 f2.fq
  · rw [tkE_n (show ¬kdL L a = 10 by rw [kd_10]; exact k7), bE_l]
    refine mF_take f1 ?_
    rw [LA_F f1.fq (by decide), lq_0_eq]
    exact FM_182 f1.fq
theorem M_118 (hH : LH L X) (hN : LN L ln) (h : VMd L X ln s a (fun _ => []) []) (hk : kz L a = 63 ∨ kz L a = 74) : wpo (j_X14_parseModule_118 s) (QM L X ln (bE (tkE L X 165 (a + 1)) fun a4 => bE (tkE L X 10 a4) fun a5 => bE (tkE L X 105 a5) fun a6 => gRest L X (b2i (kdL L a = 134)) a6)) := by
  have al : a < L.length := by rcases hk with z | z <;> exact (kz_in z (by decide)).2
  have nd : ND L (a + 1) := by rcases hk with z | z <;> exact ND_of z (by decide)
  have eb : b2i (kdL L a = 134) = b2i (kz L a = 74) := by
    unfold b2i
    by_cases z : kz L a = 74
    · rw [if_pos z, if_pos (by rw [kd_134]; exact z)]
    · rw [if_neg z, if_neg (by rw [kd_134]; exact z)]
  rw [eb]
  unfold j_X14_parseModule_118
  rw [h.is, bd_eq]
  have b01 : b2i (kz L a = 74) = 0 ∨ b2i (kz L a = 74) = 1 := by
    unfold b2i
    by_cases z : kz L a = 74
    · right; rw [if_pos z]
    · left; rw [if_neg z]
  generalize b2i (kz L a = 74) = r at b01
  rw [gd_pos b01, stp_eq, stp_eq]
  have h1 : VMd L X ln (sI s 87 78 r) a (fun _ => []) [] := h.oth (W := [87078]) (Fr.wI Fr.rfl (by decide)) (by decide)
  have i1 : gI (sI s 87 78 r) 87 78 = r := by
    rw [gI_s87, if_pos rfl]
    rcases b01 with z | z <;> rw [z] <;> rfl
  generalize sI s 87 78 r = s1 at h1 i1
  have h2 := h1.adv hH al nd
  have i2 : gI (sI s1 87 19 (w32 (gI s1 87 19 + 1))) 87 78 = r := by rw [gI_s87, if_neg (by decide)]; exact i1
  generalize sI s1 87 19 (w32 (gI s1 87 19 + 1)) = s2 at h2 i2
  refine m_take8 hH h2 i2 (by decide) (by decide) (fun k7 r1 s3 h3 i3 => ?_) (fun k7 r1 s3 f3 => ?_)
  · rw [tkE_y (by rw [kd_165]; exact k7), bE_r]
    exact M_145 hH hN h3 i3
  · rw [tkE_n (show ¬kdL L (a + 1) = 165 by rw [kd_165]; exact k7), bE_l]
    exact FM_145 f3
/-- the spec behind the braces -/
def gH81 (L : Lx) (X : List Int) (a2 : Int) : Ft ⊕ (Int × Mt) :=
  bE (tkE L X 118 a2) fun a3 =>
  bE (if kdL L a3 = 123 ∨ kdL L a3 = 134 then tkE L X 165 (a3 + 1) else .inr a3) fun a4 =>
  bE (tkE L X 10 a4) fun a5 => bE (tkE L X 105 a5) fun a6 => gRest L X (b2i (kdL L a3 = 134)) a6
theorem F_81 (h : FM L X ln e s) : wpo (j_X14_parseModule_81 s) (FQ L X ln e) := by
  unfold j_X14_parseModule_81
  refine mF_take h ?_
  rw [stp_eq]
  have h1 : FM L X ln e (sI s 87 78 0) := h.oth (W := [87078]) (Fr.wI Fr.rfl (by decide)) (by decide)
  exact mF_if0 h1 (FM_145 h1)
theorem M_81 (hH : LH L X) (hN : LN L ln) (h : VMd L X ln s a (fun _ => []) []) : wpo (j_X14_parseModule_81 s) (QM L X ln (gH81 L X a)) := by
  unfold j_X14_parseModule_81 gH81
  refine m_take hH h (by decide) (by decide) (fun k1 al s1 h1 => ?_) (fun k1 s1 f1 _ => ?_)
  · rw [tkE_y (by rw [kd_118]; exact k1), bE_r, stp_eq]
    have h2 : VMd L X ln (sI s1 87 78 0) (a + 1) (fun _ => []) [] := h1.oth (W := [87078]) (Fr.wI Fr.rfl (by decide)) (by decide)
    have i2 : gI (sI s1 87 78 0) 87 78 = 0 := by rw [gI_s87, if_pos rfl]; rfl
    generalize sI s1 87 78 0 = s2 at h2 i2
    refine m_if0 h2 (m_is h2 (fun k3 => ?_) (fun k3 => ?_))
    · rw [if_neg (by decide), if_pos (Or.inl (by rw [kd_123]; exact k3))]
      exact M_118 hH hN h2 (Or.inl k3)
    · rw [if_pos rfl]
      refine m_is h2 (fun k4 => ?_) (fun k4 => ?_)
      · rw [if_neg (by decide), if_pos (Or.inr (by rw [kd_134]; exact k4))]
        exact M_118 hH hN h2 (Or.inr k4)
      · have n1 : ¬kdL L (a + 1) = 123 := by rw [kd_123]; exact k3
        have n2 : ¬kdL L (a + 1) = 134 := by rw [kd_134]; exact k4
        rw [if_pos rfl, if_neg (fun z => z.elim n1 n2), bE_r]
        have eb : b2i (kdL L (a + 1) = 134) = 0 := by unfold b2i; rw [if_neg n2]
        rw [eb]
        exact M_145 hH hN h2 i2
  · rw [tkE_n (show ¬kdL L a = 118 by rw [kd_118]; exact k1), bE_l, stp_eq]
    have h1 : FM L X ln (flt L X a) (sI s1 87 78 0) := f1.oth (W := [87078]) (Fr.wI Fr.rfl (by decide)) (by decide)
    exact mF_if0 h1 (FM_145 h1)
theorem gModule_eq : gModule L X = bE (tkE L X 1 0) fun a1 =>
  bE (if kdL L a1 = 15 then tkE L X 16 (scan (fun i => kdL L i ≠ -1 ∧ kdL L i ≠ 15 ∧ kdL L i ≠ 16) (L.length + 1) (a1 + 1)) else .inr a1) fun a2 => gH81 L X a2 := by
  unfold gModule gHead gH81
  simp only [bE_as, bE_r]
  rfl
theorem LB_F (h : FM L X ln e s) {N : Nat} (hN : 1 ≤ N) : l_X14_parseModule_20 N s = some s := by
  obtain ⟨N, rfl⟩ : ∃ m, N = m + 1 := ⟨N - 1, by omega⟩
  unfold l_X14_parseModule_20
  rw [if_neg (by have := h.eq; omega)]
theorem DM.mis0 (hH : LH L X) (h : DM L X ln e s) : f_X14_misfit 0 s = some (tellS s 2 (stL' L X (gI s 87 19))) ∧ FM L X ln (2, stL' L X (gI s 87 19)) (tellS s 2 (stL' L X (gI s 87 19))) := by
  have hl := hH.2.1
  obtain ⟨w1, w2, w3, w4⟩ := h.lex
  obtain ⟨b, f0, f9, a0, al, k12, k1, he⟩ := h
  have hS := b.2.1
  have hm : f_X14_misfit 0 s = some (tellS s 2 (stL' L X (gI s 87 19))) := by
    have lp : ∃ r, l_X14_misfit_43 FU 0 12 0 0 s = some (r, s) ∧ r = 0 := by
      obtain ⟨r, r1, r2, r3⟩ := misfit_l hS (x1 := 0) (k := 12) 30 FU 0 0 (Or.inl rfl) (by decide) (by decide) (by decide) (by unfold FU; omega)
      refine ⟨r, r1, ?_⟩
      rw [str_mem] at r3
      rcases r2 with z | z
      · exact z
      · rcases r3.mp z with w | w
        · exact absurd w (by decide)
        · exact absurd w (by decide)
    obtain ⟨r, r1, r2⟩ := lp
    unfold f_X14_misfit
    rw [gd_pos w1, vl_eq, w3]
    simp only [Int.reduceEq, if_false, if_true]
    rw [r1, lq_1_eq, r2, if_pos rfl]
    unfold j_X14_misfit_118
    rw [if_pos rfl]
    unfold j_X14_misfit_129
    rw [gd_pos w2, w4, X14_tell f0, bdv_eq]
  have hf : Fr [87008, 87009] s (tellS s 2 (stL' L X (gI s 87 19))) := tell_fr
  refine ⟨hm, ?_⟩
  have ec : ∀ d, d < 10 → gI (tellS s 2 (stL' L X (gI s 87 19))) 87 (cnt d) = gI s 87 (cnt d) := fun d hd => hf.rI (by have := cnt_ne hd; simp only [List.mem_cons, List.not_mem_nil, or_false]; omega)
  refine ⟨b.fr hf (by decide) (fun A hA => ?_) (b.2.2.2.2.2.2.congr (fun d hd => ec d hd)), ?_, ?_, by show (0 : Int) < 2; decide, by rw [hf.rI (by decide)]; exact a0, by rw [hf.rI (by decide)]; exact al⟩
  · have := isT_rg hA; simp only [List.mem_cons, List.not_mem_nil, or_false]; omega
  · unfold tellS; rw [gI_s87, if_neg (by decide), gI_s87, if_pos rfl]; rfl
  · unfold tellS; rw [gI_s87, if_pos rfl]; exact w32_id (stL_rg b.1 a0 al)
/-- what the braces leave -/
def PH (L : Lx) (X : List Int) (ln : Nat → Nat) (g : Ft ⊕ Int) (s1 : vS) : Prop := match g with
  | .inl e => FM L X ln e s1
  | .inr b => VMd L X ln s1 (b - 1) (fun _ => []) [] ∧ kz L (b - 1) = 13
theorem flt15 {a : Int} (h : kdL L a = 15) : flt L X a = (2, stL' L X a) := by
  unfold flt
  rw [h, if_neg (by decide)]
theorem D_hb (hH : LH L X) (h : DM L X ln e s) {N : Nat} (hN : 2 ≤ N) (ha : gI s 87 19 = a) : wpo (l_X14_parseModule_20 N s) (FM L X ln (2, stL' L X a)) := by
  obtain ⟨N, rfl⟩ : ∃ m, N = m + 1 := ⟨N - 1, by omega⟩
  unfold l_X14_parseModule_20
  obtain ⟨w1, w2, w3, w4⟩ := h.lex
  have e12 : f_X14_is 12 s = some (1, s) := by
    unfold f_X14_is
    rw [gd_pos w1, w3, if_pos rfl]
  rw [if_pos h.2.1, h.is (by decide), bd_eq, if_pos rfl, e12, bd_eq, if_neg (by decide)]
  unfold j_X14_parseModule_53
  obtain ⟨m1, m2⟩ := h.mis0 hH
  rw [m1, bdv_eq, LB_F m2 (by omega), ← ha]
  exact wpo_some.mpr m2
theorem M_hb (hH : LH L X) : ∀ (k N : Nat) (a : Int) (s : vS), VMd L X ln s a (fun _ => []) [] → L.length - a < k → k + 3 ≤ N → wpo (l_X14_parseModule_20 N s) (PH L X ln (tkE L X 16 (scan (fun i => kdL L i ≠ -1 ∧ kdL L i ≠ 15 ∧ kdL L i ≠ 16) k a))) := by
  intro k
  induction k with
  | zero => intro N a s h hk; have := h.al; omega
  | succ k ih =>
    intro N a s h hk hM
    obtain ⟨N, rfl⟩ : ∃ m, N = m + 1 := ⟨N - 1, by omega⟩
    have a0 := h.a0
    have stop : ¬(kdL L a ≠ -1 ∧ kdL L a ≠ 15 ∧ kdL L a ≠ 16) → scan (fun i => kdL L i ≠ -1 ∧ kdL L i ≠ 15 ∧ kdL L i ≠ 16) (k + 1) a = a := fun z => by
      rw [scan]; exact if_neg z
    unfold l_X14_parseModule_20
    refine m_if0 h (m_is h (fun k3 => ?_) (fun k3 => ?_))
    · have e16 : kdL L a = 16 := by rw [kd_16]; exact k3
      rw [stop (fun z => z.2.2 e16), tkE_y e16, if_neg (by decide)]
      exact wpo_some.mpr ⟨by rw [show a + 1 - 1 = a by omega]; exact h, by rw [show a + 1 - 1 = a by omega]; exact k3⟩
    · have n16 : ¬kdL L a = 16 := by rw [kd_16]; exact k3
      rw [if_pos rfl]
      refine m_is h (fun k4 => ?_) (fun k4 => ?_)
      · have e15 : kdL L a = 15 := by rw [kd_15]; exact k4
        rw [stop (fun z => z.2.1 e15), tkE_n n16, if_neg (by decide)]
        unfold j_X14_parseModule_53
        refine m_misfit hH h (fun s1 f1 _ => ?_)
        rw [LB_F f1 (by omega)]
        exact wpo_some.mpr f1
      · have n15 : ¬kdL L a = 15 := by rw [kd_15]; exact k4
        rw [if_pos rfl]
        refine m_is h (fun k5 => ?_) (fun k5 => ?_)
        · have e0 : kdL L a = -1 := by rw [kd_end hH]; exact k5
          rw [stop (fun z => z.1 e0), tkE_n n16, if_neg (by decide)]
          unfold j_X14_parseModule_53
          refine m_misfit hH h (fun s1 f1 _ => ?_)
          rw [LB_F f1 (by omega)]
          exact wpo_some.mpr f1
        · have n0 : ¬kdL L a = -1 := by rw [kd_end hH]; exact k5
          have al : a < L.length := (kz_in rfl k5).2
          have es : scan (fun i => kdL L i ≠ -1 ∧ kdL L i ≠ 15 ∧ kdL L i ≠ 16) (k + 1) a = scan (fun i => kdL L i ≠ -1 ∧ kdL L i ≠ 15 ∧ kdL L i ≠ 16) k (a + 1) := by
            rw [scan]; exact if_pos ⟨n0, n15, n16⟩
          rw [es, if_pos rfl, stp_eq]
          by_cases z : kz L (a + 1) = 12 ∧ kz L a = 1
          · have D := DM.mk' hH h z.2 z.1
            have al1 := (kz_in z.1 (by decide)).2
            have e15 : kdL L (a + 1) = 15 := by rw [kd_15]; exact z.1
            have e19 : gI (sI s 87 19 (w32 (gI s 87 19 + 1))) 87 19 = a + 1 := by
              have hl := hH.2.1
              rw [gI_s87, if_pos rfl, h.at, w32_id (x := a + 1) ⟨by omega, by omega⟩]; exact w32_id ⟨by omega, by omega⟩
            obtain ⟨k', rfl⟩ : ∃ m, k = m + 1 := ⟨k - 1, by omega⟩
            have e2 : scan (fun i => kdL L i ≠ -1 ∧ kdL L i ≠ 15 ∧ kdL L i ≠ 16) (k' + 1) (a + 1) = a + 1 := by
              rw [scan]; exact if_neg (fun z => z.2.1 e15)
            rw [e2, tkE_n (show ¬kdL L (a + 1) = 16 by rw [e15]; decide), flt15 e15]
            exact D_hb hH D (by omega) e19
          · exact ih N (a + 1) _ (h.adv hH al (fun w => z ⟨w.1, by rw [← w.2]; congr 1; omega⟩)) (by omega) (by omega)
/-- THE MODEL'S GRAMMAR -/
theorem M_module (hH : LH L X) (hN : LN L ln) (h : VMd L X ln (sI s 87 19 0) 0 (fun _ => []) []) : wpo (f_X14_parseModule s) (QM L X ln (gModule L X)) := by
  have hl := hH.2.1
  unfold f_X14_parseModule
  rw [stp_eq, gModule_eq]
  generalize sI s 87 19 0 = s1 at h
  by_cases d : kz L 0 = 1
  · have al := (kz_in d (by decide)).2
    have e1 : f_X14_take 1 s1 = some (w32 (gI (sI s1 87 19 (w32 (gI s1 87 19 + 1))) 87 19 - 1), sI s1 87 19 (w32 (gI s1 87 19 + 1))) := by
      unfold f_X14_take
      rw [h.f0, if_pos (by decide), h.is, bd_eq]
      unfold b2i
      rw [if_pos d, if_neg (by decide), stp_eq]
    rw [e1, bd_eq, tkE_y (by rw [kd_1]; exact d), bE_r]
    by_cases k12 : kz L (0 + 1) = 12
    · have D := DM.mk' hH h d k12
      have e15 : kdL L (0 + 1) = 15 := by rw [kd_15]; exact k12
      have al2 := (kz_in k12 (by decide)).2
      rw [if_pos e15]
      have e19 : gI (sI s1 87 19 (w32 (gI s1 87 19 + 1))) 87 19 = 1 := by
        rw [gI_s87, if_pos rfl, h.at]; rfl
      have hf : Fr [87019] s1 (sI s1 87 19 (w32 (gI s1 87 19 + 1))) := Fr.wI Fr.rfl (by decide)
      generalize sI s1 87 19 (w32 (gI s1 87 19 + 1)) = s2 at D e19 hf
      obtain ⟨w1, w2, w3, w4⟩ := D.lex
      have e12 : f_X14_is 12 s2 = some (1, s2) := by
        unfold f_X14_is
        rw [gd_pos w1, w3, if_pos rfl]
      have e3 : f_X14_eat 12 s2 = some (1, sI s2 87 19 (w32 (gI s2 87 19 + 1))) := by
        unfold f_X14_eat
        rw [if_neg (by rw [D.2.1]; decide), e12, bd_eq, if_neg (by decide), stp_eq]
      rw [e3, bd_eq, if_neg (by decide)]
      have h3 : VMd L X ln (sI s2 87 19 (w32 (gI s2 87 19 + 1))) (0 + 1 + 1) (fun _ => []) [] := by
        refine h.fr (W := [87019]) (hf.trans (Fr.wI Fr.rfl (by decide))) (by rw [gI_s87, if_pos rfl, e19]; rfl) (by decide) (by omega) (ND_of k12 (by decide)) (by decide) (by decide) (by decide) (fun A hA => ?_) (fun c hc => ?_)
        · have := isT_rg hA
          simp only [List.mem_cons, List.not_mem_nil, or_false]; omega
        · have := cnt_ne hc
          simp only [List.mem_cons, List.not_mem_nil, or_false]; omega
      generalize sI s2 87 19 (w32 (gI s2 87 19 + 1)) = s3 at h3
      refine wpo_lq_0.mpr (wpo.mono (M_hb hH (L.length + 1) FU (0 + 1 + 1) s3 h3 (by omega) (by unfold FU; omega)) ?_)
      intro s4 p4
      generalize tkE L X 16 (scan (fun i => kdL L i ≠ -1 ∧ kdL L i ≠ 15 ∧ kdL L i ≠ 16) (L.length + 1) (0 + 1 + 1)) = g at p4 ⊢
      unfold j_X14_parseModule_74
      match g, p4 with
      | .inl e, p4 =>
        rw [bE_l]
        exact mF_take p4 (F_81 p4)
      | .inr b, p4 =>
        rw [bE_r]
        refine m_take hH p4.1 (by decide) (by decide) (fun _ _ s5 h5 => ?_) (fun z => absurd p4.2 z)
        rw [show b - 1 + 1 = b by omega] at h5
        exact M_81 hH hN h5
    · have n15 : ¬kdL L (0 + 1) = 15 := by rw [kd_15]; exact k12
      rw [if_neg n15, bE_r]
      have h2 := h.adv hH al (fun w => k12 w.1)
      exact m_eat hH h2 (by decide) (by decide) (fun z => absurd z k12) (fun _ => by rw [if_pos rfl]; exact M_81 hH hN h2)
  · rw [tkE_n (show ¬kdL L 0 = 1 by rw [kd_1]; exact d), bE_l]
    unfold f_X14_take
    rw [h.f0, if_pos (by decide), h.is, bd_eq]
    unfold b2i
    rw [if_neg d, if_pos rfl, h.misfit hH, bdv_eq, bd_eq]
    obtain ⟨q1, q2⟩ := flt_pos L X 0
    obtain ⟨w1, w2⟩ := h.tellF (c := (flt L X 0).1) (p := (flt L X 0).2) q2 (stL_rg h.1.1 h.a0 h.al) q1
    refine mF_eat w1 ?_
    rw [if_pos rfl]
    exact F_81 w1
end
