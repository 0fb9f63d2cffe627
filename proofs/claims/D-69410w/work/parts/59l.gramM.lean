set_option maxRecDepth 100000 set_option linter.unusedVariables false set_option linter.unusedSimpArgs false
/-! PURE 59l: the model's grammar: what a type is -/
section
variable {L : Lx} {X : List Int} {ln : Nat → Nat} {s s' : vS} {a : Int} {M M' : Mt} {P : List (Nat × Int)} {α : Type} {e : Ft} {t tn : Int} {o c0 nd : Int} {S : Int → Int × Int}
/-- how a run that reads what is in a type goes on -/
def KB (L : Lx) (X : List Int) (ln : Nat → Nat) (t o a : Int) (S : Int → Int × Int) (N : Nat) (Q : vS → Prop) (g : Ft ⊕ Pg) : Prop := (∀ e, g = .inl e → ∀ s', FDp L X ln e s' → Q s') ∧ (∀ b M', g = .inr (b, M') → ∀ (s' : vS) (N' : Nat) (S' : Int → Int × Int), VMd L X ln s' b M' [] → SV L s' o t 0 S' → (∀ i, 0 ≤ i → i < o → S' i = S i) → (N : Int) ≤ N' + 2 * (b - a) - 2 → wpo (l_X14_parseType_17 N' 0 s') Q)
theorem KB.F {N : Nat} {Q : vS → Prop} {g : Ft ⊕ Pg} (hk : KB L X ln t o a S N Q g) (hg : g = .inl e) (h : FM L X ln e s) (hN : 1 ≤ N) : wpo (l_X14_parseType_17 N 0 s) Q := by
  rw [LP_F h hN]
  exact wpo_some.mpr (hk.1 e hg _ (Or.inl h))
theorem KB.R {N : Nat} {Q : vS → Prop} {g : Ft ⊕ Pg} {b : Int} (hk : KB L X ln t o a S N Q g) (hg : g = .inr (b, M')) (h : VMd L X ln s b M' []) (hs : SV L s o t 0 S) (hb : a + 1 ≤ b) : wpo (l_X14_parseType_17 N 0 s) Q := hk.2 b M' hg s N S h hs (fun _ _ _ => rfl) (by omega)
theorem M_many (hH : LH L X) (hN : LN L ln) {d N : Nat} {Q : vS → Prop} {kind lk : Int} (hT : TM L X ln d) (h : VMd L X ln s a M []) (hs : SV L s o t 0 S) (o0 : 0 ≤ o) (ho : o + 1 = 100 - (d : Int)) (t0 : 0 ≤ t) (t1 : t < lnM M 0) (hC : CT M a) (hb : clM M 0 t 0 = kind) (c8 : clM M 0 t 8 = 0) (hk : (kind = 12 ∧ lk = 14) ∨ (kind = 13 ∧ lk = 15)) (hNN : 2 * ((L.length : Int) - a) + 110 ≤ N) (hu : upM M 0 t 0 kind = M) (hkk : KB L X ln t o (a - 1) S N Q (gMany L X (gType L X d) t tn kind lk (a, M))) :
    wpo (bdv (f_X14_row t s) fun s' => l_X14_parseType_17 N 0 s') Q := by
  have hl := hH.2.1
  have al := h.al
  have a0 := h.a0
  have ct := hC
  unfold CT at ct
  have gM : gMany L X (gType L X d) t tn kind lk (a, M) = if kz L a = 12 then (if kz L (a + 1) = 13 then .inr (a + 1 + 1, stN M tn 0 kind) else gComps L X (gType L X d) t tn 1 (L.length + 1) (-1) (-1) (a + 1, stN M tn 0 kind)) else bE (if kz L a = 101 then gSizes L X t (a + 1) (nN M) (a, stN (adN (stN M tn 0 lk) 23 a) tn 4 (nN M)) else if kz L a = 16 then (if kz L (a + 1) = 101 then bE (gSizes L X t a (nN M) (a + 1, stN (adN (stN M tn 0 lk) 23 a) tn 4 (nN M))) fun q => bE (tkE L X 20 q.1) fun a => .inr (a, q.2) else .inl (flt L X (a + 1))) else .inr (a, stN M tn 0 lk)) fun q => bE (tkE L X 149 q.1) fun a => bE (gType L X d (a, upM q.2 0 t 0 lk)) fun r => .inr (r.1, upM (stN r.2 tn 3 (nN q.2)) 0 t 9 (lnM q.2 0)) := by
    unfold gMany
    simp only [kd_0, kd_1, kd_2, kd_3, kd_4, kd_5, kd_10, kd_12, kd_15, kd_16, kd_17, kd_18, kd_19, kd_20, kd_21, kd_24, kd_25, kd_103, kd_105, kd_106, kd_108, kd_111, kd_116, kd_118, kd_120, kd_121, kd_123, kd_127, kd_130, kd_132, kd_133, kd_134, kd_139, kd_142, kd_143, kd_145, kd_147, kd_148, kd_149, kd_150, kd_155, kd_156, kd_159, kd_160, kd_161, kd_162, kd_165, kd_166, kd_170, kd_171, kd_172, hu]
  rw [gM] at hkk
  clear gM
  unfold f_X14_row
  rw [bdv_bd]
  refine v_eat hH h hs (by decide) (by decide) (fun k1 k2 s1 q1 v1 => ?_) (fun k1 => ?_)
  · rw [if_pos k1] at hkk
    rw [bdv_ite, if_neg (by decide), bdv_bd]
    refine v_eat hH q1 v1 (by decide) (by decide) (fun k3 k4 s2 q2 v2 => ?_) (fun k3 => ?_)
    · rw [if_pos k3] at hkk
      rw [bdv_ite, if_neg (by decide), bdv_eq]
      exact hkk.R rfl (q2.sm (Sm.rfl.node _ _ _)) v2 (by omega)
    · rw [if_neg k3] at hkk
      rw [bdv_ite, if_pos rfl, bdv_bdv]
      have q2 : VMd L X ln s1 (a + 1) (stN M tn 0 kind) [] := q1.sm (Sm.rfl.node _ _ _)
      have sm := Sm.node (Sm.rfl (M := M)) tn 0 kind
      exact M_comps hH hN hT (lack := 1) t0 o0 ho (L.length + 1) s1 (a + 1) (-1) (-1) (stN M tn 0 kind) S t 0 N Q q2 (by rw [if_pos (by decide)]; exact v1) (fun z => absurd z (by decide)) (by rw [lnM_st]; exact t1) ((hC.mono (by omega)).sm sm) (by rw [lnM_st]; omega) (by rw [lnM_st]; have := lnM_nn M 3; omega) (Or.inr ⟨by decide, by show clM M 0 t 0 ≠ 16; omega, by show 0 ≤ clM M 0 t 0; omega⟩) (by show 0 ≤ clM M 0 t 8; omega) (by show clM M 0 t 8 ≤ _; omega) (by omega) (by omega) (fun e he s' hf => hkk.1 e he s' hf) (fun b M2 he s' N' S' w1 w2 w3 w4 => hkk.2 b M2 he s' N' S' w1 w2 w3 (by omega))
  · rw [if_neg k1] at hkk
    rw [bdv_ite, if_pos rfl, bdv_ite, if_pos h.f0, bdv_bd]
    -- the limit is there
    have J : ∀ (s : vS) (b nd : Int) (Mq : Mt), VMd L X ln s b Mq [] → SV L s o t 0 S → a ≤ b → t < lnM Mq 0 → CT Mq b → clM Mq 0 t 0 = kind → KB L X ln t o (a - 1) S N Q (bE (tkE L X 149 b) fun a => bE (gType L X d (a, upM Mq 0 t 0 lk)) fun r => .inr (r.1, upM (stN r.2 tn 3 (nN Mq)) 0 t 9 (lnM Mq 0))) → wpo (bdv (j_X14_row_92 t s) fun s' => l_X14_parseType_17 N 0 s') Q := by
      intro s b nd Mq q v ab tq Cq bq kq
      exact M_row92 (a0' := a - 1) hH hN hT q v o0 ho t0 tq Cq bq hk (by omega) (by omega) kq.1 kq.2
    -- after sizes
    have JS : ∀ (s1 : vS) (b : Int) (x3 : Int) (g : Ft ⊕ Pg), VMd L X ln s1 a M [] ∨ True → (∀ q, g = .inr q → GR 0 0 0 0 0 0 (a, stN (adN (stN M tn 0 lk) 23 a) tn 4 (nN M)) q ∧ FX (E0 t [10]) (stN (adN (stN M tn 0 lk) 23 a) tn 4 (nN M)) q.2) → OM L X ln (a - 1) g s1 → SV L s1 o t 0 S → KB L X ln t o (a - 1) S N Q (bE g fun q => bE (tkE L X 149 q.1) fun a => bE (gType L X d (a, upM q.2 0 t 0 lk)) fun r => .inr (r.1, upM (stN r.2 tn 3 (nN q.2)) 0 t 9 (lnM q.2 0))) → wpo (bdv (j_X14_row_92 t s1) fun s' => l_X14_parseType_17 N 0 s') Q := by
      intro s1 b x3 g _ law og v kq
      cases g with
      | inl e =>
        rw [bE_l] at kq
        exact F_row92 og (by omega) (fun s' hf => kq.1 e rfl s' hf)
      | inr q =>
        obtain ⟨b2, Mq⟩ := q
        rw [bE_r] at kq
        obtain ⟨g1, g2⟩ := og
        obtain ⟨l1, l2⟩ := law _ rfl
        have sm : Sm M (stN (adN (stN M tn 0 lk) 23 a) tn 4 (nN M)) := ((Sm.rfl.node _ _ _).nad _ _).node _ _ _
        have C1 := (hC.sm sm).gr l1 (by decide) (by decide) (by decide) (by decide) (by decide) (by decide)
        have tq : t < lnM Mq 0 := by
          have : lnM (stN (adN (stN M tn 0 lk) 23 a) tn 4 (nN M)) 0 ≤ lnM Mq 0 := l2.1.1
          have e0 : lnM (stN (adN (stN M tn 0 lk) 23 a) tn 4 (nN M)) 0 = lnM M 0 := sm.lnE (by decide)
          omega
        have bq : clM Mq 0 t 0 = kind := by
          rw [l2.2 0 t 0 (Or.inl rfl) t0 (by rw [sm.lnE (by decide)]; exact t1) (fun z => absurd z.2.2 (by decide))]; exact hb
        exact J s1 b2 0 Mq g1 v (by have := g2; simp only at this; omega) tq C1 bq kq
    have smL : Sm M (stN (adN (stN M tn 0 lk) 23 a) tn 4 (nN M)) := ((Sm.rfl.node _ _ _).nad _ _).node _ _ _
    have qL : VMd L X ln s a (stN (adN (stN M tn 0 lk) 23 a) tn 4 (nN M)) [] := h.sm smL
    have CL := hC.sm smL
    have tL : t < lnM (stN (adN (stN M tn 0 lk) 23 a) tn 4 (nN M)) 0 := by rw [smL.lnE (by decide)]; exact t1
    refine m_is h (fun k5 => ?_) (fun k5 => ?_)
    · rw [if_pos k5] at hkk
      rw [bdv_ite, if_neg (by decide), bdv_bdv, h.at]
      have eg : gSizes L X t (a + 1) (nN M) (a, stN (adN (stN M tn 0 lk) 23 a) tn 4 (nN M)) = bE (tkE L X 19 (a + 1)) (fun a2 => bE (gRanges L X (lnM (stN (adN (stN M tn 0 lk) 23 a) tn 4 (nN M)) 4) (nN M) (L.length + 1) (-1) (a2, stN (addL (stN (adN (stN M tn 0 lk) 23 a) tn 4 (nN M)) t (if (0 : Int) = 0 then a + 1 else a) 1 (nN M)) (nN M) 5 1)) fun q => bE (tkE L X 20 q.1) fun c => if (0 : Int) = 0 then .inr (c, q.2) else bE (tkE L X 20 c) fun d => .inr (d, q.2)) := by
        unfold gSizes; simp only [if_true]
      have z := M_sizeOf (node := nN M) (b := a) hH hN qL (Or.inl rfl) t0 tL ⟨by omega, by omega⟩ CL
      rw [if_pos k5, ← eg] at z
      have g1 := gr_sizes (L := L) (X := X) (t := t) (b := a + 1) (node := nN M) (p := (a, stN (adN (stN M tn 0 lk) 23 a) tn 4 (nN M))) a0
      have g2 := fx_sizes (L := L) (X := X) (t := t) (b := a + 1) (node := nN M) (p := (a, stN (adN (stN M tn 0 lk) 23 a) tn 4 (nN M))) t0
      refine wpo_bdv.mpr (wpo.mono (wpo.and z (fun r hr => fr_f_X14_sizeOf t a 0 s r hr)) ?_)
      rintro s2 ⟨og, fr2⟩
      have v2 := hs.fr fr2 (by decide) (by decide) (by decide) (by decide) (by decide)
      generalize gSizes L X t (a + 1) (nN M) (a, stN (adN (stN M tn 0 lk) 23 a) tn 4 (nN M)) = g at og g1 g2 hkk
      refine JS s2 0 0 g (Or.inr trivial) (fun q hq => ?_) ?_ v2 hkk
      · rw [hq] at g1 g2
        have g1 : GR 4 0 0 0 0 0 (a, stN (adN (stN M tn 0 lk) 23 a) tn 4 (nN M)) q := g1
        refine ⟨?_, g2⟩
        unfold GR at g1 ⊢; omega
      · cases g with
        | inl e => exact og
        | inr q => exact ⟨og.1, by have := og.2; omega⟩
    · rw [if_neg k5] at hkk
      rw [bdv_ite, if_pos rfl]
      unfold j_X14_row_54
      rw [bdv_ite, if_pos h.f0, bdv_bd]
      refine m_is h (fun k6 => ?_) (fun k6 => ?_)
      · rw [if_pos k6] at hkk
        rw [bdv_ite, if_neg (by decide), bdv_vl]
        refine m_vat h ?_
        rw [bdv_stp, stp_eq]
        have al1 := (kz_in k6 (by decide)).2
        have q1 := qL.adv hH al1 (ND_of k6 (by decide))
        have v1 : SV L (sI s 87 19 (w32 (gI s 87 19 + 1))) o t 0 S := hs.w19
        generalize sI s 87 19 (w32 (gI s 87 19 + 1)) = s1 at q1 v1
        rw [bdv_bdv]
        have z := M_sizeOf (node := nN M) (b := a) hH hN q1 (Or.inr rfl) t0 tL ⟨by omega, by omega⟩ (CL.mono (by omega))
        by_cases k7 : kz L (a + 1) = 101
        · rw [if_pos k7] at hkk z
          have eg : (bE (gSizes L X t a (nN M) (a + 1, stN (adN (stN M tn 0 lk) 23 a) tn 4 (nN M))) fun q => bE (tkE L X 20 q.1) fun a => .inr (a, q.2)) = bE (tkE L X 19 (a + 1 + 1)) (fun a2 => bE (gRanges L X (lnM (stN (adN (stN M tn 0 lk) 23 a) tn 4 (nN M)) 4) (nN M) (L.length + 1) (-1) (a2, stN (addL (stN (adN (stN M tn 0 lk) 23 a) tn 4 (nN M)) t (if (1 : Int) = 0 then a + 1 + 1 else a) 1 (nN M)) (nN M) 5 1)) fun q => bE (tkE L X 20 q.1) fun c => if (1 : Int) = 0 then .inr (c, q.2) else bE (tkE L X 20 c) fun d => .inr (d, q.2)) := by
            unfold gSizes; simp only [bE_as, bE_r, Int.reduceEq, if_false]
          rw [← eg] at z
          have g1 := gr_sizes (L := L) (X := X) (t := t) (b := a) (node := nN M) (p := (a + 1, stN (adN (stN M tn 0 lk) 23 a) tn 4 (nN M))) (by show 0 ≤ a + 1; omega)
          have g2 := fx_sizes (L := L) (X := X) (t := t) (b := a) (node := nN M) (p := (a + 1, stN (adN (stN M tn 0 lk) 23 a) tn 4 (nN M))) t0
          have lw : wE (bE (gSizes L X t a (nN M) (a + 1, stN (adN (stN M tn 0 lk) 23 a) tn 4 (nN M))) fun q => bE (tkE L X 20 q.1) fun a => .inr (a, q.2)) (fun q => GR 0 0 0 0 0 0 (a, stN (adN (stN M tn 0 lk) 23 a) tn 4 (nN M)) q ∧ FX (E0 t [10]) (stN (adN (stN M tn 0 lk) 23 a) tn 4 (nN M)) q.2) := by
            generalize gSizes L X t a (nN M) (a + 1, stN (adN (stN M tn 0 lk) 23 a) tn 4 (nN M)) = g at g1 g2
            cases g with
            | inl e => trivial
            | inr q =>
              rw [bE_r]
              refine wE_bE (wE_tk fun _ => ⟨?_, g2⟩)
              have g1 : GR 4 0 0 0 0 0 (a + 1, stN (adN (stN M tn 0 lk) 23 a) tn 4 (nN M)) q := g1
              unfold GR at g1 ⊢; simp only at g1 ⊢; omega
          refine wpo_bdv.mpr (wpo.mono (wpo.and z (fun r hr => fr_f_X14_sizeOf t a 1 s1 r hr)) ?_)
          rintro s2 ⟨og, fr2⟩
          have v2 := v1.fr fr2 (by decide) (by decide) (by decide) (by decide) (by decide)
          generalize (bE (gSizes L X t a (nN M) (a + 1, stN (adN (stN M tn 0 lk) 23 a) tn 4 (nN M))) fun q => bE (tkE L X 20 q.1) fun a => (.inr (a, q.2) : Ft ⊕ Pg)) = g at og lw hkk
          refine JS s2 0 0 g (Or.inr trivial) (fun q hq => ?_) ?_ v2 hkk
          · rw [hq] at lw; exact lw
          · cases g with
            | inl e => exact og
            | inr q => exact ⟨og.1, by have := og.2; omega⟩
        · rw [if_neg k7] at hkk z
          rw [bE_l] at hkk
          refine wpo_bdv.mpr (wpo.mono z (fun s2 og => ?_))
          exact F_row92 og (by omega) (fun s' hf => hkk.1 _ rfl s' hf)
      · rw [if_neg k6, bE_r] at hkk
        rw [bdv_ite, if_pos rfl]
        exact J s a 0 (stN M tn 0 lk) (h.sm (Sm.rfl.node _ _ _)) hs (Int.le_refl _) (by rw [lnM_st]; exact t1) (hC.sm (Sm.rfl.node _ _ _)) hb hkk
end
