set_option maxRecDepth 100000 set_option linter.unusedVariables false set_option linter.unusedSimpArgs false
/-! PURE 59n: the model's grammar: types, one in the other -/
section
variable {L : Lx} {X : List Int} {ln : Nat → Nat} {s s' : vS} {a : Int} {M M' : Mt} {P : List (Nat × Int)} {α : Type} {e : Ft} {t tn : Int} {o c0 nd : Int} {S : Int → Int × Int}
theorem F_RES (hN : LN L ln) {N : Nat} (h : FM L X ln e s) (hs : SV L s o c0 nd S) (hN1 : 1 ≤ N) : wpo (RES N s) (FM L X ln e) := by
  obtain ⟨q1, q2, q3, q4, q5, q6⟩ := hs
  unfold RES
  by_cases o0 : o = 0
  · rw [q1, if_pos o0, LP_F h hN1]; exact wpo_some.mpr h
  rw [q1, if_neg o0]
  obtain ⟨y1, y2, y3, y4, y5, y6⟩ := q6 (o - 1) (by omega) (by omega)
  have wo : w32 (o - 1) = o - 1 := w32_id ⟨by omega, by omega⟩
  have F145 : ∀ (s1 : vS), FM L X ln e s1 → wpo (bdv (j_X14_resume_145 (S (o - 1)).1 s1) fun s8 => l_X14_parseType_17 N 0 s8) (FM L X ln e) := by
    intro s1 h1
    obtain ⟨s3, e3, f3, _⟩ := f145_fr (s := s1) (x := (S (o - 1)).1)
    rw [e3, bdv_eq]
    have f4 := h1.oth f3 (by decide)
    rw [LP_F f4 hN1]
    exact wpo_some.mpr f4
  unfold f_X14_resume
  rw [q1, wo, gd_pos ⟨by omega, by rw [h.1.2.2.2.2.1]; omega⟩, vl_eq, gd_pos ⟨by omega, by rw [h.1.2.2.2.2.2.1]; omega⟩, vl_eq, y1, y2, bdv_ite]
  have g0 : ∀ (A : Nat) (hA : isT A = true) (hc : cOf A = 0) (s1 : vS), FM L X ln e s1 → inb (S (o - 1)).1 (gN s1 A) := fun A hA hc s1 h1 => ⟨y3, by rw [h1.1.2.2.2.1 A hA]; exact ixA hN hA (by rw [hc]; show 1 * (S (o - 1)).1 ≤ (L.length : Int) + 1 * 2; omega)⟩
  by_cases c6 : 0 ≤ (S (o - 1)).2
  · rw [if_pos c6, bdv_gd]
    refine mF_gd hN h (by decide) c6 (by show 2 * (S (o - 1)).2 ≤ (L.length : Int) + 2 * 2; omega) ?_
    rw [bdv_stp]
    refine mF_w h (by decide) (fun s1 h1 => ?_)
    have J122 : wpo (bdv (j_X14_resume_122 (S (o - 1)).1 (S (o - 1)).2 s1) fun s8 => l_X14_parseType_17 N 0 s8) (FM L X ln e) := by
      unfold j_X14_resume_122
      rw [bdv_bd]
      refine mF_eat h1 ?_
      rw [bdv_ite, if_pos rfl, bdv_bd]
      exact mF_take h1 (F145 s1 h1)
    have J81 : wpo (bdv (j_X14_resume_81 (S (o - 1)).1 (S (o - 1)).2 s1) fun s8 => l_X14_parseType_17 N 0 s8) (FM L X ln e) := by
      unfold j_X14_resume_81
      rw [bdv_gd, gd_pos (g0 97 (by decide) rfl s1 h1), bdv_ite]
      refine wpo_ite.mpr ⟨fun _ => J122, fun _ => ?_⟩
      rw [bdv_bd]
      refine mF_eat h1 ?_
      rw [bdv_ite, if_pos rfl]; exact J122
    rw [bdv_gd, gd_pos (g0 97 (by decide) rfl s1 h1), bdv_ite]
    refine wpo_ite.mpr ⟨fun _ => J81, fun _ => ?_⟩
    rw [bdv_bd]
    refine mF_eat h1 ?_
    rw [bdv_ite, if_pos rfl]; exact J81
  · rw [if_neg c6, bdv_gd, gd_pos (g0 106 (by decide) rfl s h), bdv_stp]
    exact mF_w h (by decide) (fun s1 h1 => F145 s1 h1)
theorem M_limits' (hH : LH L X) (hN : LN L ln) {last : Int} (t0 : 0 ≤ t) (h : VMd L X ln s a M []) (t1 : t < lnM M 0) (hc : CT M a) : wpo (f_X14_limitsOf t s) (OM L X ln (a - 1) (gLimits L X t tn (L.length + 1) last (a, M))) := by
  have hl := hH.2.1
  have a0 := h.a0
  unfold f_X14_limitsOf
  refine wpo_lq_0.mpr (wpo.mono (M_limits_l hH hN t0 (L.length + 1) FU s a last M h t1 hc (by omega) (by unfold FU; omega)) (fun s1 q => wpo_some.mpr q))
/-- the type's number is given, and it is the type at hand -/
def fl (T : Int) (s : vS) : vS := sI (sI s 87 20 (T + 1)) 87 82 T
theorem fl_new {Q : α → Prop} {T : Int} {A : Nat} {i v : Int} {k : vS → Option α} (P' : List (Nat × Int)) (h : VMd L X ln s a M P) (hs : SV L s o c0 nd S) (hN : LN L ln) (hA : isT A = true) (hi : i = lnM M (cOf A)) (hv : okv A v) (hP : ∀ x ∈ P', x = (A, v) ∨ (x ∈ P ∧ x.1 ≠ A)) (h1 : ∀ s', VMd L X ln s' a M P' → SV L s' o c0 nd S → wpo (k (fl T s')) Q) : wpo (gd (inb i (gN (fl T s) A)) <| stp (sE (fl T s) A i v) k) Q := by
  refine m_gdn (s := s) hN h hA hi ?_
  show wpo (stp (sE s A i v) (fun s' => k (fl T s'))) Q
  exact v_new P' h hs hA hi hv hP h1
theorem M_begin0 (hH : LH L X) (hN : LN L ln) {Q : vS → Prop} {K : vS → Option vS} (h : VMd L X ln s a M []) (hs : SV L s o c0 1 S) (ho : o ≠ 100) (hk : lnM M 0 ≤ a) (hC : CT M a)
    (h1 : ∀ s', VMd L X ln s' a (apM (adN M 17 a) 0 [1, a, lnM M 1, 0, -1, 0, 0, -1, 0, -1, -1, nN M]) [] → SV L s' o (lnM M 0) 0 S → wpo (bdv (lq_0 (l_X14_begin_132 FU (lnM M 0) s') fun s44 => j_X14_begin_156 (lnM M 0) s44) K) Q) : wpo (bdv (f_X14_begin s) K) Q := by
  have hl := hH.2.1
  have al := h.al
  have a0 := h.a0
  have l0 := lnM_nn M 0
  have l1 := lnM_nn M 1
  have kb := h.kb
  unfold CB at kb
  have ct := hC
  unfold CT at ct
  unfold f_X14_begin
  rw [hs.1, if_neg ho]
  have key : ∀ K' : Int → vS → Option vS, (∀ s', VMd L X ln s' a (apM (adN M 17 a) 0 [1, a, lnM M 1, 0, -1, 0, 0, -1, 0, -1, -1, nN M]) [] → SV L s' o (lnM M 0) 0 S → wpo (K' (lnM M 0) s') (fun s2 => wpo (K s2) Q)) → wpo (vl (gI s 87 20) fun y2 =>
    stp (sI s 87 20 (w32 ((gI s 87 20) + 1))) fun s5 =>
    stp (sI s5 87 82 y2) fun s7 =>
    gd (inb y2 (gN s7 98)) <|
    stp (sE s7 98 y2 (gI s7 87 19)) fun s10 =>
    gd (inb y2 (gN s10 99)) <|
    stp (sE s10 99 y2 (gI s10 87 32)) fun s13 =>
    gd (inb y2 (gN s13 100)) <|
    stp (sE s13 100 y2 0) fun s16 =>
    gd (inb y2 (gN s16 102)) <|
    stp (sE s16 102 y2 0) fun s19 =>
    gd (inb y2 (gN s19 103)) <|
    stp (sE s19 103 y2 0) fun s22 =>
    gd (inb y2 (gN s22 104)) <|
    stp (sE s22 104 y2 (-1)) fun s25 =>
    gd (inb y2 (gN s25 105)) <|
    stp (sE s25 105 y2 0) fun s28 =>
    gd (inb y2 (gN s28 106)) <|
    stp (sE s28 106 y2 (-1)) fun s31 =>
    gd (inb y2 (gN s31 107)) <|
    stp (sE s31 107 y2 (-1)) fun s34 =>
    gd (inb y2 (gN s34 101)) <|
    stp (sE s34 101 y2 (-1)) fun s37 =>
    gd (inb y2 (gN s37 97)) <|
    stp (sE s37 97 y2 1) fun s40 =>
    stp (sI s40 87 83 0) fun s42 => K' y2 s42) (fun s2 => wpo (K s2) Q) := by
    intro K' hK'
    rw [vl_eq, show gI s 87 20 = lnM M 0 from h.ct (c := 0) (by decide), w32_id (x := lnM M 0 + 1) ⟨by omega, by omega⟩, stp_eq, stp_eq]
    have g19 : ∀ s1 P1, VMd L X ln s1 a M P1 → gI (fl (lnM M 0) s1) 87 19 = a := fun s1 P1 q => by unfold fl; rw [gI_s87, if_neg (by decide), gI_s87, if_neg (by decide)]; exact q.at
    have g32 : ∀ s1 P1, VMd L X ln s1 a M P1 → gI (fl (lnM M 0) s1) 87 32 = lnM M 1 := fun s1 P1 q => by unfold fl; rw [gI_s87, if_neg (by decide), gI_s87, if_neg (by decide)]; exact q.ct (c := 1) (by decide)
    show wpo (gd (inb (lnM M 0) (gN (fl (lnM M 0) s) 98)) <| stp (sE (fl (lnM M 0) s) 98 (lnM M 0) (gI (fl (lnM M 0) s) 87 19)) _) _
    rw [g19 s _ h]
    refine fl_new [(98, a)] h hs hN (by decide) rfl (okv_rg (by decide) ⟨by omega, by omega⟩) (by simp) (fun s1 q1 v1 => ?_)
    rw [g32 s1 _ q1]
    refine fl_new [(99, lnM M 1), (98, a)] q1 v1 hN (by decide) rfl (okv_rg (by decide) ⟨by omega, by omega⟩) (by simp) (fun s2 q2 v2 => ?_)
    refine fl_new [(100, 0), (99, lnM M 1), (98, a)] q2 v2 hN (by decide) rfl (okv_rg (by decide) (rgl rfl)) (by simp) (fun s3 q3 v3 => ?_)
    refine fl_new [(102, 0), (100, 0), (99, lnM M 1), (98, a)] q3 v3 hN (by decide) rfl (okv_rg (by decide) (rgl rfl)) (by simp) (fun s4 q4 v4 => ?_)
    refine fl_new [(103, 0), (102, 0), (100, 0), (99, lnM M 1), (98, a)] q4 v4 hN (by decide) rfl (okv_rg (by decide) (rgl rfl)) (by simp) (fun s5 q5 v5 => ?_)
    refine fl_new [(104, -1), (103, 0), (102, 0), (100, 0), (99, lnM M 1), (98, a)] q5 v5 hN (by decide) rfl (okv_rg (by decide) (rgl rfl)) (by simp) (fun s6 q6 v6 => ?_)
    refine fl_new [(105, 0), (104, -1), (103, 0), (102, 0), (100, 0), (99, lnM M 1), (98, a)] q6 v6 hN (by decide) rfl (okv_rg (by decide) (rgl rfl)) (by simp) (fun s7 q7 v7 => ?_)
    refine fl_new [(106, -1), (105, 0), (104, -1), (103, 0), (102, 0), (100, 0), (99, lnM M 1), (98, a)] q7 v7 hN (by decide) rfl (okv_rg (by decide) (rgl rfl)) (by simp) (fun s8 q8 v8 => ?_)
    refine fl_new [(107, -1), (106, -1), (105, 0), (104, -1), (103, 0), (102, 0), (100, 0), (99, lnM M 1), (98, a)] q8 v8 hN (by decide) rfl (okv_rg (by decide) (rgl rfl)) (by simp) (fun s9 q9 v9 => ?_)
    refine fl_new [(101, -1), (107, -1), (106, -1), (105, 0), (104, -1), (103, 0), (102, 0), (100, 0), (99, lnM M 1), (98, a)] q9 v9 hN (by decide) rfl (okv_rg (by decide) (rgl rfl)) (by simp) (fun s10 q10 v10 => ?_)
    refine fl_new [(97, 1), (101, -1), (107, -1), (106, -1), (105, 0), (104, -1), (103, 0), (102, 0), (100, 0), (99, lnM M 1), (98, a)] q10 v10 hN (by decide) rfl (okv_rg (by decide) (rgl rfl)) (by simp) (fun s11 q11 v11 => ?_)
    rw [stp_eq]
    have w1 := q11.wi hH (c := 0) (by decide) (r := [1, a, lnM M 1, 0, -1, 0, 0, -1, 0, -1, -1, nN M]) (v := lnM M 0 + 1) (by
      intro A hA hc
      right
      rcases cOf_0 hA hc with rfl | rfl | rfl | rfl | rfl | rfl | rfl | rfl | rfl | rfl | rfl <;> simp [jOf, cOf, cid]) (by unfold CB; simp only [lnM_ap, Nat.reduceEqDiff, Nat.reduceAdd, Nat.reduceLT, Nat.reduceLeDiff, Nat.reduceBEq, reduceIte, and_self, and_true, true_and, and_false, false_and, if_true, if_false, Nat.reduceMul, Int.reduceEq, Int.reduceLT, Int.reduceLE, Int.reduceNeg, Int.reduceAdd, Int.reduceMul, Int.reduceSub]; omega) ⟨by show 11 ≤ 12; decide, fun z => absurd z (by decide), fun _ => rfl⟩ rfl
    have w1 : VMd L X ln (sI s11 87 20 (lnM M 0 + 1)) a (apM (adN M 17 a) 0 [1, a, lnM M 1, 0, -1, 0, 0, -1, 0, -1, -1, nN M]) [] := (w1.weakP (fun x hx => absurd hx List.not_mem_nil)).sm ((Sm.rfl.nad _ _).ap (fun _ => rfl))
    have v12 : SV L (sI s11 87 20 (lnM M 0 + 1)) o c0 1 S := v11.wc (d := 0) (by decide)
    have hf : Fr [87082, 87083] (sI s11 87 20 (lnM M 0 + 1)) (sI (fl (lnM M 0) s11) 87 83 0) := Fr.wI (Fr.wI Fr.rfl (by decide)) (by decide)
    refine hK' _ (w1.oth hf (by decide)) ?_
    obtain ⟨x1, x2, x3, x4, x5, x6⟩ := v12
    refine ⟨by rw [hf.rI (by decide)]; exact x1, ?_, by rw [gI_s87, if_pos rfl]; decide, x4, x5, ?_⟩
    · unfold fl; rw [gI_s87, if_neg (by decide), gI_s87, if_pos rfl]; exact w32_id ⟨by omega, by omega⟩
    · rw [hf.rE (a := 145) (by decide) (by decide), hf.rE (a := 146) (by decide) (by decide)]; exact x6
  exact wpo_bdv.mpr (key (fun y2 s42 => lq_0 (l_X14_begin_132 FU y2 s42) fun s44 => j_X14_begin_156 y2 s44) (fun s' w1 w2 => wpo_bdv.mp (h1 s' w1 w2)))
theorem M_TM (hH : LH L X) (hN : LN L ln) : ∀ (d : Nat), d ≤ 100 → TM L X ln d := by
  have hl := hH.2.1
  intro d
  induction d with
  | zero =>
    intro _ s a M o S c0 N Q h hs ho hC h0 hNN hinl hinr
    have al := h.al
    obtain ⟨N, rfl⟩ : ∃ m, N = m + 1 := ⟨N - 1, by omega⟩
    rw [LP_b h.f0 (by rw [hs.2.2.1]; decide)]
    unfold f_X14_begin
    obtain ⟨w1, w2, w3, w4⟩ := h.lex
    rw [hs.1, if_pos (by omega), gd_pos w2, w4, X14_tell h.f0, bdv_eq, bdv_eq]
    have q := (h.tellF (c := 4) (p := stL' L X a) (rgl rfl) (stL_rg h.1.1 h.a0 h.al) (by decide)).1
    rw [LP_F q (by omega)]
    exact wpo_some.mpr (hinl (4, stL' L X a) rfl _ (Or.inl q))
  | succ d ih =>
    intro hd s a M o S c0 N Q h hs ho hC h0 hNN hinl hinr
    have hT := ih (by omega)
    have al := h.al
    have a0 := h.a0
    have l0 := lnM_nn M 0
    push_cast at ho
    have o0 : 0 ≤ o := hs.2.2.2.1
    obtain ⟨N, rfl⟩ : ∃ m, N = m + 1 := ⟨N - 1, by omega⟩
    push_cast at hNN
    rw [LP_b h.f0 (by rw [hs.2.2.1]; decide)]
    refine M_begin0 hH hN h hs (by omega) h0 hC (fun s1 q1 v1 => ?_)
    have hg : gType L X (d + 1) (a, M) = bE (gTags L X (lnM M 0) (nN M) (L.length + 1) (-1) (a, apM (adN M 17 a) 0 [1, a, lnM M 1, 0, -1, 0, 0, -1, 0, -1, -1, nN M])) fun q => bE (gBase L X (gType L X d) (lnM M 0) (nN M) q) fun r => gLimits L X (lnM M 0) (nN M) (L.length + 1) (wlk (rwT (r.2 11)) (r.2 11).length (rwT (r.2 11) (nN M) 4)) r := rfl
    rw [hg] at hinl hinr
    clear hg
    have C1 : CT (apM (adN M 17 a) 0 [1, a, lnM M 1, 0, -1, 0, 0, -1, 0, -1, -1, nN M]) a := by
      unfold CT at hC ⊢
      simp only [lnM_ap, lnM_ad, Nat.reduceEqDiff, Nat.reduceAdd, Nat.reduceLT, Nat.reduceLeDiff, Nat.reduceBEq, reduceIte, and_self, and_true, true_and, and_false, false_and, if_true, if_false, Nat.reduceMul, Int.reduceEq, Int.reduceLT, Int.reduceLE, Int.reduceNeg, Int.reduceAdd, Int.reduceMul, Int.reduceSub]
      omega
    have el : lnM (apM (adN M 17 a) 0 [1, a, lnM M 1, 0, -1, 0, 0, -1, 0, -1, -1, nN M]) 0 = lnM M 0 + 1 := by simp only [lnM_ap, lnM_ad, Nat.reduceEqDiff, Nat.reduceAdd, Nat.reduceLT, Nat.reduceLeDiff, Nat.reduceBEq, reduceIte, and_self, and_true, true_and, and_false, false_and, if_true, if_false, Nat.reduceMul, Int.reduceEq, Int.reduceLT, Int.reduceLE, Int.reduceNeg, Int.reduceAdd, Int.reduceMul, Int.reduceSub]
    have ecl : ∀ j, clM (apM (adN M 17 a) 0 [1, a, lnM M 1, 0, -1, 0, 0, -1, 0, -1, -1, nN M]) 0 (lnM M 0) j = [1, a, lnM M 1, 0, -1, 0, 0, -1, 0, -1, -1, nN M].getD j 0 := fun j => by
      rw [clM_ap l0, if_pos ⟨rfl, by rw [lnM_ad, if_neg (by decide)]⟩]
    have ct := C1
    unfold CT at ct
    have GT' := gr_tags (L := L) (X := X) (t := lnM M 0) (tn := nN M) (L.length + 1) (-1) (a, apM (adN M 17 a) 0 [1, a, lnM M 1, 0, -1, 0, 0, -1, 0, -1, -1, nN M])
    have FT := fx_tags (L := L) (X := X) (t := lnM M 0) (tn := nN M) l0 (L.length + 1) (-1) (a, apM (adN M 17 a) 0 [1, a, lnM M 1, 0, -1, 0, 0, -1, 0, -1, -1, nN M])
    have z := M_tags_l (tn := nN M) hH hN l0 (L.length + 1) FU s1 a (-1) _ q1 (by rw [el]; omega) (by rw [ecl]; exact Int.le_refl 0) (by rw [ecl]; exact a0) (by omega) (by omega) (by unfold FU; omega)
    refine wpo_bdv.mpr (wpo_lq_0.mpr (wpo.mono (wpo.and z (fun r hr => fr_l_X14_begin_132 FU (lnM M 0) s1 r hr)) ?_))
    rintro s2 ⟨og, fr2⟩
    have v2 := v1.fr fr2 (by decide) (by decide) (by decide) (by decide) (by decide)
    refine wpo_bdv.mp ?_
    unfold j_X14_begin_156
    rw [bdv_ite]
    generalize gTags L X (lnM M 0) (nN M) (L.length + 1) (-1) (a, apM (adN M 17 a) 0 [1, a, lnM M 1, 0, -1, 0, 0, -1, 0, -1, -1, nN M]) = g at og GT' FT hinl hinr
    cases g with
    | inl e =>
      have og : FM L X ln e s2 := og
      rw [if_neg (by have := og.eq; omega), bdv_eq, LP_F og (by omega)]
      exact wpo_some.mpr (hinl e (by rw [bE_l]) _ (Or.inl og))
    | inr q =>
      obtain ⟨a1, M1⟩ := q
      obtain ⟨q2, g2⟩ := og
      simp only at q2 g2
      rw [bE_r] at hinl hinr
      have GT' : GR 0 0 0 0 0 0 (a, apM (adN M 17 a) 0 [1, a, lnM M 1, 0, -1, 0, 0, -1, 0, -1, -1, nN M]) (a1, M1) := GT'
      have FT : FX (E0 (lnM M 0) [3]) (apM (adN M 17 a) 0 [1, a, lnM M 1, 0, -1, 0, 0, -1, 0, -1, -1, nN M]) M1 := FT
      have C2 := C1.gr GT' (by decide) (by decide) (by decide) (by decide) (by decide) (by decide)
      have t2 : lnM M 0 < lnM M1 0 := by have := FT.1.1; omega
      have cl2 : ∀ j, j ≠ 3 → clM M1 0 (lnM M 0) j = [1, a, lnM M 1, 0, -1, 0, 0, -1, 0, -1, -1, nN M].getD j 0 := fun j hj => by
        rw [FT.2 0 (lnM M 0) j (Or.inl rfl) l0 (by omega) (fun z => hj (by simpa using z.2.2)), ecl]
      have a1l := q2.al
      rw [if_pos q2.f0, bdv_bdv]
      have GB := gr_base (L := L) (X := X) (gr_type (L := L) (X := X) d) (t := lnM M 0) (tn := nN M) (p := (a1, M1)) (by show 0 ≤ a1; omega)
      have FB := fx_base (L := L) (X := X) (fx_type (L := L) (X := X) d) (t := lnM M 0) (tn := nN M) (p := (a1, M1)) l0
      refine M_base (tn := nN M) hH hN hT q2 v2 o0 (by omega) l0 t2 C2 (cl2 6 (by decide)) (cl2 8 (by decide)) (by omega) ⟨fun e he s' hf => hinl e (by rw [he, bE_l]) s' hf, fun b M2 he s3 N3 S3 q3 v3 hS3 hn3 => ?_⟩
      rw [he, bE_r] at hinl hinr
      rw [he] at GB FB
      have GB : GR 1 (-1) 0 0 0 0 (a1, M1) (b, M2) := GB
      have FB : FX (ET (lnM M 0)) M1 M2 := FB
      have C3 := C2.gr GB (by decide) (by decide) (by decide) (by decide) (by decide) (by decide)
      have t3 : lnM M 0 < lnM M2 0 := by have := FB.1.1; omega
      have bl := q3.al
      obtain ⟨N3, rfl⟩ : ∃ m, N3 = m + 1 := ⟨N3 - 1, by omega⟩
      rw [LP_n q3.f0 v3.2.2.1, v3.2.1]
      refine wpo_bdv.mpr (wpo.mono (wpo.and (M_limits' (tn := nN M) (last := wlk (rwT (M2 11)) (M2 11).length (rwT (M2 11) (nN M) 4)) hH hN l0 q3 t3 C3) (fun r hr => fr_f_X14_limitsOf (lnM M 0) s3 r hr)) ?_)
      rintro s4 ⟨og, fr4⟩
      have v4 := v3.fr fr4 (by decide) (by decide) (by decide) (by decide) (by decide)
      simp only at hinl hinr
      generalize gLimits L X (lnM M 0) (nN M) (L.length + 1) (wlk (rwT (M2 11)) (M2 11).length (rwT (M2 11) (nN M) 4)) (b, M2) = g at og hinl hinr
      cases g with
      | inl e =>
        exact wpo.mono (F_RES hN og v4 (by omega)) (fun s5 h5 => hinl e rfl s5 (Or.inl h5))
      | inr q =>
        obtain ⟨c, M3⟩ := q
        obtain ⟨q5, g5⟩ := og
        simp only at q5 g5
        exact hinr c M3 rfl s4 N3 S3 q5 v4 hS3 (by push_cast at hn3 ⊢; omega)
end
