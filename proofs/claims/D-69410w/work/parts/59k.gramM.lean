set_option maxRecDepth 100000 set_option linter.unusedVariables false set_option linter.unusedSimpArgs false
/-! PURE 59k: the model's grammar: SEQUENCE, SET and their lists -/
section
variable {L : Lx} {X : List Int} {ln : Nat → Nat} {s s' : vS} {a : Int} {M M' : Mt} {P : List (Nat × Int)} {α : Type} {Q : α → Prop} {e : Ft} {t tn : Int} {o c0 nd : Int} {S : Int → Int × Int}
theorem CT.sm (h : CT M a) (hs : Sm M M') : CT M' a := by
  unfold CT at *
  rw [hs.lnE (by decide), hs.lnE (by decide), hs.lnE (by decide), hs.lnE (by decide), hs.lnE (by decide), hs.lnE (by decide), hs.lnE (by decide), hs.lnE (by decide), hs.lnE (by decide), hs.lnE (by decide)]
  exact h
theorem CT.mono {a b : Int} (h : CT M a) (hab : a ≤ b) : CT M b := by unfold CT at *; omega
theorem CT.up {c : Nat} {i v : Int} {j : Nat} (h : CT M a) : CT (upM M c i j v) a := by unfold CT at *; simp only [lnM_up]; exact h
theorem cl_self {A : Nat} {v : Int} (hr : RL M) (hA : isT A = true) (t0 : 0 ≤ t) (t1 : t < lnM M (cOf A)) : clM (upM M (cOf A) t (jOf A) v) (cOf A) t (jOf A) = v := by
  rw [clM_up t0 t1 (hr.jlt hA t0 t1) t0, if_pos ⟨rfl, rfl, rfl⟩]
/-- OF, and the type of what is in it -/
theorem M_row92 (hH : LH L X) (hN : LN L ln) {d N : Nat} {Q : vS → Prop} {a0' kind lk : Int} (hT : TM L X ln d) (h : VMd L X ln s a M []) (hs : SV L s o c0 0 S) (o0 : 0 ≤ o) (ho : o + 1 = 100 - (d : Int)) (t0 : 0 ≤ t) (t1 : t < lnM M 0) (hC : CT M a) (hb : clM M 0 t 0 = kind) (hk : (kind = 12 ∧ lk = 14) ∨ (kind = 13 ∧ lk = 15)) (hNN : 2 * ((L.length : Int) - a) + 110 ≤ N) (haa : a0' ≤ a)
    (hinl : ∀ e, (bE (tkE L X 149 a) fun a => bE (gType L X d (a, upM M 0 t 0 lk)) fun r => .inr (r.1, upM (stN r.2 tn 3 (nN M)) 0 t 9 (lnM M 0))) = .inl e → ∀ s', FDp L X ln e s' → Q s')
    (hinr : ∀ b M', (bE (tkE L X 149 a) fun a => bE (gType L X d (a, upM M 0 t 0 lk)) fun r => .inr (r.1, upM (stN r.2 tn 3 (nN M)) 0 t 9 (lnM M 0))) = .inr (b, M') → ∀ (s' : vS) (N' : Nat) (S' : Int → Int × Int), VMd L X ln s' b M' [] → SV L s' o t 0 S' → (∀ i, 0 ≤ i → i < o → S' i = S i) → (N : Int) ≤ N' + 2 * (b - a0') - 2 → wpo (l_X14_parseType_17 N' 0 s') Q) :
    wpo (bdv (j_X14_row_92 t s) fun s' => l_X14_parseType_17 N 0 s') Q := by
  have hl := hH.2.1
  have al := h.al
  have ap := h.a0
  have ct := hC
  unfold CT at ct
  unfold j_X14_row_92
  rw [bdv_bd]
  refine v_take hH h hs (by decide) (by decide) (fun k1 k2 s1 q1 v1 => ?_) (fun k1 s1 q1 => ?_)
  · rw [tkE_y (show kdL L a = 149 by rw [kd_149]; exact k1), bE_r] at hinl hinr
    rw [bdv_ite, if_pos (by rw [q1.f0]; decide), bdv_gd]
    refine m_gdo hN q1 (by decide) t0 t1 ?_
    have rb : gE s1 97 t = kind := by
      have y := q1.rd (A := 97) (by decide) (by decide) t0 t1 (by show clM M 0 t 0 ≠ -7; omega)
      rw [y]; exact hb
    rw [bdv_ite, rb]
    have J : wpo (bdv (j_X14_row_130 t t lk s1) fun s' => l_X14_parseType_17 N 0 s') Q := by
      unfold j_X14_row_130
      rw [bdv_gd]
      refine m_gdo hN q1 (by decide) t0 t1 ?_
      rw [bdv_stp]
      refine v_upd q1 v1 (by decide) (okv_rg (by decide) (by rcases hk with z | z <;> rw [z.2] <;> exact rgl rfl)) t0 t1 (by decide) (fun s2 q2 v2 => ?_)
      have q2 : VMd L X ln s2 (a + 1) (upM M 0 t 0 lk) [] := q2
      obtain ⟨w1, w2, w3, w4, w5, w6⟩ := id v2
      rw [bdv_gd, w1, gd_pos ⟨o0, by rw [q2.1.2.2.2.2.1]; omega⟩, bdv_stp, stp_eq, bdv_gd]
      have e1 : gI (sE s2 145 o t) 87 79 = o := by rw [gI_sE]; exact w1
      rw [e1, gd_pos ⟨o0, by rw [gN_sE, q2.1.2.2.2.2.2.1]; omega⟩, bdv_stp, stp_eq]
      have e2 : gI (sE (sE s2 145 o t) 146 o (-1)) 87 79 = o := by rw [gI_sE, gI_sE]; exact w1
      rw [bdv_stp, stp_eq, e2, w32_id (x := o + 1) ⟨by omega, by omega⟩, bdv_stp, stp_eq, bdv_eq]
      generalize hs3 : sI (sI (sE (sE s2 145 o t) 146 o (-1)) 87 79 (o + 1)) 87 83 1 = s3
      have hf : Fr [145999, 146999, 87079, 87083] s2 s3 := by rw [← hs3]; exact Fr.wI (Fr.wI (Fr.wE (Fr.wE Fr.rfl (by decide)) (by decide)) (by decide)) (by decide)
      have q3 := q2.oth hf (by decide)
      have v3 : SV L s3 (o + 1) c0 1 (upS S o (t, -1)) := by
        rw [← hs3]
        refine ⟨by rw [gI_s87, if_neg (by decide), gI_s87, if_pos rfl]; exact w32_id ⟨by omega, by omega⟩, by rw [gI_s87, if_neg (by decide), gI_s87, if_neg (by decide), gI_sE, gI_sE]; exact w2, by rw [gI_s87, if_pos rfl]; decide, by omega, by omega, fun i i0 i1 => ?_⟩
        rw [gE_sI, gE_sI, gE_sI, gE_sI]
        have f1 : gE (sE (sE s2 145 o t) 146 o (-1)) 145 i = if i = o then w32 t else gE s2 145 i := by
          rw [gE_sE, if_neg (show ¬((145 : Nat) = 146 ∧ i = o) from fun z => absurd z.1 (by decide)), gE_sE]
          by_cases e : i = o
          · rw [if_pos ⟨rfl, e⟩, if_pos e]
          · rw [if_neg (show ¬((145 : Nat) = 145 ∧ i = o) from fun z => e z.2), if_neg e]
        have f2 : gE (sE (sE s2 145 o t) 146 o (-1)) 146 i = if i = o then w32 (-1) else gE s2 146 i := by
          rw [gE_sE]
          by_cases e : i = o
          · rw [if_pos ⟨rfl, e⟩, if_pos e]
          · rw [if_neg (show ¬((146 : Nat) = 146 ∧ i = o) from fun z => e z.2), if_neg e, gE_sE, if_neg (show ¬((146 : Nat) = 145 ∧ i = o) from fun z => absurd z.1 (by decide))]
        rw [f1, f2]
        unfold upS
        by_cases e : i = o
        · rw [if_pos e, if_pos e, if_pos e]
          exact ⟨w32_id ⟨by omega, by omega⟩, (by show w32 (-1) = (-1 : Int); decide), t0, by show t ≤ (L.length : Int) + 1; omega, by show (-1 : Int) ≤ -1; decide, by show 2 * (-1 : Int) ≤ _; omega⟩
        · rw [if_neg e, if_neg e, if_neg e]
          exact w6 i i0 (by omega)
      clear hs3 hf
      have C1 : CT (upM M 0 t 0 lk) (a + 1) := hC.up.mono (by omega)
      have GL := gr_type (L := L) (X := X) d (a + 1, upM M 0 t 0 lk) (by show 0 ≤ a + 1; omega)
      have FL := fx_type (L := L) (X := X) d (a + 1, upM M 0 t 0 lk)
      refine hT s3 (a + 1) (upM M 0 t 0 lk) (o + 1) (upS S o (t, -1)) c0 N Q q3 v3 ho C1 (by rw [lnM_up]; omega) (by omega) (fun e he s' hf => hinl e (by rw [he, bE_l]) s' hf) (fun b M2 hg s4 N2 S2 q4 v4 hS2 hn2 => ?_)
      rw [hg, bE_r] at hinr
      rw [hg] at GL FL
      have GL : GR 1 0 0 0 0 0 (a + 1, upM M 0 t 0 lk) (b, M2) := GL
      have FL : FX EN (upM M 0 t 0 lk) M2 := FL
      have b1 : a + 2 ≤ b := by have := GL.1; simp only at this; omega
      have l0e : lnM (upM M 0 t 0 lk) 0 = lnM M 0 := lnM_up ..
      have t2 : t < lnM M2 0 := by have := FL.1.1; omega
      have so : S2 o = (t, -1) := by rw [hS2 o o0 (by omega)]; unfold upS; rw [if_pos rfl]
      rw [l0e] at v4
      obtain ⟨w1, w2, w3, w4, w5, w6⟩ := id v4
      obtain ⟨x1, x2, x3, x4, x5, x6⟩ := w6 o o0 (by omega)
      unfold RES
      rw [w1, if_neg (by omega)]
      unfold f_X14_resume
      rw [w1, show o + 1 - 1 = o by omega, w32_id (x := o) ⟨by omega, by omega⟩, gd_pos ⟨o0, by rw [q4.1.2.2.2.2.1]; omega⟩, vl_eq, gd_pos ⟨o0, by rw [q4.1.2.2.2.2.2.1]; omega⟩, vl_eq, x1, x2, so]
      simp only
      rw [if_neg (by decide), w2, bdv_gd]
      refine m_gdo hN q4 (by decide) t0 t2 ?_
      rw [bdv_stp]
      have ln0 := lnM_nn M 0
      refine v_upd q4 v4 (by decide) (okv_rg (by decide) ⟨by omega, by omega⟩) t0 t2 (by decide) (fun s5 q5 v5 => ?_)
      have q5 : VMd L X ln s5 b (upM (stN M2 tn 3 (nN M)) 0 t 9 (lnM M 0)) [] := (show VMd L X ln s5 b (upM M2 0 t 9 (lnM M 0)) [] from q5).sm (Sm.up (Sm.rfl.node _ _ _))
      obtain ⟨s6, e6, f6, g6⟩ := f145_fr (s := s5) (x := t)
      rw [e6, bdv_eq]
      have v6 := v5.pop o0 (x := t) ⟨by omega, by omega⟩
      rw [← g6] at v6
      refine hinr b _ rfl s6 N2 S2 (q5.oth f6 (by decide)) v6 (fun i i0 i1 => ?_) (by omega)
      rw [hS2 i i0 (by omega)]
      unfold upS; rw [if_neg (by omega)]
    rcases hk with ⟨z1, z2⟩ | ⟨z1, z2⟩
    · subst z1; subst z2; rw [if_pos rfl]; exact J
    · subst z1; subst z2; rw [if_neg (by decide)]; exact J
  · rw [tkE_n (show ¬kdL L a = 149 by rw [kd_149]; exact k1), bE_l] at hinl
    rw [bdv_ite, if_neg (by have := q1.eq; omega), bdv_eq, LP_F q1 (by omega)]
    exact wpo_some.mpr (hinl _ rfl _ (Or.inl q1))
theorem F_row92 {N : Nat} {Q : vS → Prop} (h : FM L X ln e s) (hN1 : 1 ≤ N) (hinl : ∀ s', FDp L X ln e s' → Q s') : wpo (bdv (j_X14_row_92 t s) fun s' => l_X14_parseType_17 N 0 s') Q := by
  unfold j_X14_row_92
  rw [bdv_bd]
  refine mF_take h ?_
  rw [bdv_ite, if_neg (by have := h.eq; omega), bdv_eq, LP_F h hN1]
  exact wpo_some.mpr (hinl _ (Or.inl h))
end
