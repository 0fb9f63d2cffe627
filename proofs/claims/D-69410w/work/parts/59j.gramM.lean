set_option maxRecDepth 100000 set_option linter.unusedVariables false set_option linter.unusedSimpArgs false
/-! PURE 59j: the model's grammar: components, one behind the other -/
section
variable {L : Lx} {X : List Int} {ln : Nat → Nat} {s s' : vS} {a : Int} {M M' : Mt} {P : List (Nat × Int)} {α : Type} {Q : α → Prop} {e : Ft} {t tn : Int} {o c0 nd : Int} {S : Int → Int × Int}
def FDp (L : Lx) (X : List Int) (ln : Nat → Nat) (e : Ft) (s : vS) : Prop := FM L X ln e s ∨ (DM L X ln e s ∧ 0 ≤ gI s 87 82)
/-- the loop reads a type that is due, so many deep at most, and all it stands in goes on -/
def TM (L : Lx) (X : List Int) (ln : Nat → Nat) (d : Nat) : Prop := ∀ (s : vS) (a : Int) (M : Mt) (o : Int) (S : Int → Int × Int) (c0 : Int) (N : Nat) (Q : vS → Prop), VMd L X ln s a M [] → SV L s o c0 1 S → o = 100 - (d : Int) → CT M a → lnM M 0 ≤ a → 2 * ((L.length : Int) - a) + 110 ≤ N →
  (∀ e, gType L X d (a, M) = .inl e → ∀ s', FDp L X ln e s' → Q s') →
  (∀ b M', gType L X d (a, M) = .inr (b, M') → ∀ (s' : vS) (N' : Nat) (S' : Int → Int × Int), VMd L X ln s' b M' [] → SV L s' o (lnM M 0) 0 S' → (∀ i, 0 ≤ i → i < o → S' i = S i) → (N : Int) ≤ N' + 2 * (b - a) → wpo (RES N' s') Q) →
  wpo (l_X14_parseType_17 N 0 s) Q
theorem bdv_bd {m : Option (Int × vS)} {k : Int → vS → Option vS} {K : vS → Option α} : bdv (bd m k) K = bd m (fun r s => bdv (k r s) K) := by cases m <;> rfl
theorem bdv_bdv {m : Option vS} {k : vS → Option vS} {K : vS → Option α} : bdv (bdv m k) K = bdv m (fun s => bdv (k s) K) := by cases m <;> rfl
theorem bdv_ite {c : Prop} [Decidable c] {x y : Option vS} {K : vS → Option α} : bdv (if c then x else y) K = if c then bdv x K else bdv y K := by split <;> rfl
theorem bdv_gd {p : Prop} [Decidable p] {x : Option vS} {K : vS → Option α} : bdv (gd p x) K = gd p (bdv x K) := by
  by_cases h : p
  · rw [gd_pos h, gd_pos h]
  · unfold gd; rw [if_neg h, if_neg h]; rfl
theorem bdv_stp {k : vS → Option vS} {K : vS → Option α} : bdv (stp s k) K = stp s (fun s => bdv (k s) K) := rfl
theorem bdv_vl {x : Int} {k : Int → Option vS} {K : vS → Option α} : bdv (vl x k) K = vl x (fun y => bdv (k y) K) := rfl
theorem SV.w19 (hs : SV L s o c0 nd S) {v : Int} : SV L (sI s 87 19 v) o c0 nd S := hs.fr (W := [87019]) (Fr.wI Fr.rfl (by decide)) (by decide) (by decide) (by decide) (by decide) (by decide)
theorem v_eat (hH : LH L X) {c : Int} {k : Int → vS → Option α} (h : VMd L X ln s a M P) (hs : SV L s o c0 nd S) (z0 : c ≠ 0) (z1 : c ≠ 1) (h1 : kz L a = c → a < L.length → ∀ s', VMd L X ln s' (a + 1) M P → SV L s' o c0 nd S → wpo (k 1 s') Q) (h0 : kz L a ≠ c → wpo (k 0 s) Q) : wpo (bd (f_X14_eat c s) k) Q := by
  by_cases d : kz L a = c
  · have al := (kz_in d z0).2
    unfold f_X14_eat
    rw [h.f0, if_neg (by decide), h.is, bd_eq]
    unfold b2i
    rw [if_pos d, if_neg (by decide), stp_eq, bd_eq]
    exact h1 d al _ (h.adv hH al (ND_of d z1)) hs.w19
  · exact m_eat hH h z0 z1 (fun z => absurd z d) h0
theorem v_take (hH : LH L X) {c : Int} {k : Int → vS → Option α} (h : VMd L X ln s a M P) (hs : SV L s o c0 nd S) (z0 : c ≠ 0) (z1 : c ≠ 1) (h1 : kz L a = c → a < L.length → ∀ s', VMd L X ln s' (a + 1) M P → SV L s' o c0 nd S → wpo (k a s') Q) (h0 : kz L a ≠ c → ∀ s', FM L X ln (flt L X a) s' → wpo (k 0 s') Q) : wpo (bd (f_X14_take c s) k) Q := by
  by_cases d : kz L a = c
  · have hl := hH.2.1
    have a0 := h.a0
    have al := (kz_in d z0).2
    have q := h.adv hH al (ND_of d z1)
    unfold f_X14_take
    rw [h.f0, if_pos (by decide), h.is, bd_eq]
    unfold b2i
    rw [if_pos d, if_neg (by decide), stp_eq, bd_eq, q.at, show a + 1 - 1 = a by omega, w32_id ⟨by omega, by omega⟩]
    exact h1 d al _ q hs.w19
  · exact m_take hH h z0 z1 (fun z => absurd z d) (fun z s' q _ => h0 z s' q)
theorem F_145 {N : Nat} {x : Int} (h : FM L X ln e s) (hN : 1 ≤ N) {Q : vS → Prop} (hq : ∀ s', FDp L X ln e s' → Q s') : wpo (bdv (j_X14_resume_145 x s) fun s8 => l_X14_parseType_17 N 0 s8) Q := by
  obtain ⟨s3, e3, f3, _⟩ := f145_fr (s := s) (x := x)
  rw [e3, bdv_eq]
  have f4 := h.oth f3 (by decide)
  rw [LP_F f4 hN]
  exact wpo_some.mpr (hq _ (Or.inl f4))
theorem cl_gcM8 {last : Int} (hr : RL M) (t0 : 0 ≤ t) (t1 : t < lnM M 0) : clM (gcM a t last M) 0 t 8 = clM M 0 t 8 + 1 ∧ clM (gcM a t last M) 0 t 0 = clM M 0 t 0 := by
  have j := hr.jlt (A := 105) (by decide) t0 t1
  have e : clM (upM (apM (stN (adN M 22 a) (nN M) 5 0) 3 [a, -7, 0, -1, -1, nN M]) 0 t 8 (clM M 0 t 8 + 1)) 0 t 8 = clM M 0 t 8 + 1 := by
    have e5 : apM (stN (adN M 22 a) (nN M) 5 0) 3 [a, -7, 0, -1, -1, nN M] 0 = M 0 := rfl
    have l5 : lnM (apM (stN (adN M 22 a) (nN M) 5 0) 3 [a, -7, 0, -1, -1, nN M]) 0 = lnM M 0 := rfl
    rw [clM_up t0 (by rw [l5]; exact t1) (by rw [e5]; exact j) t0, if_pos ⟨rfl, rfl, rfl⟩]
  refine ⟨?_, (fx_gcM t0).2 0 t 0 (Or.inl rfl) t0 t1 (by rintro (z | z) <;> omega)⟩
  unfold gcM
  split
  · rw [clM_upj (by decide)]; exact e
  · rw [clM_upj (by decide)]; exact e
theorem lnM_gcM {last : Int} (c : Nat) (hc : c < 10) : lnM (gcM a t last M) c = if c = 3 then lnM M 3 + 1 else lnM M c := by
  unfold gcM
  split <;> (simp only [lnM_up, lnM_ap, lnM_st, lnM_ad]; by_cases e : c = 3 <;> simp [e] <;> omega)
theorem M_comps (hH : LH L X) (hN : LN L ln) {d : Nat} (hT : TM L X ln d) {lack : Int} (t0 : 0 ≤ t) (o0 : 0 ≤ o) (ho : o + 1 = 100 - (d : Int)) : ∀ (k : Nat) (s : vS) (a last lastN : Int) (M : Mt) (S : Int → Int × Int) (c0 nd : Int) (N : Nat) (Q : vS → Prop), VMd L X ln s a M [] → SV L s (if last < 0 then o else o + 1) c0 nd S → (0 ≤ last → S o = (t, last)) → t < lnM M 0 → CT M a → 2 * lnM M 3 ≤ a → last < lnM M 3 → ((lack = 0 ∧ clM M 0 t 0 = 16) ∨ (lack ≠ 0 ∧ clM M 0 t 0 ≠ 16 ∧ 0 ≤ clM M 0 t 0)) → 0 ≤ clM M 0 t 8 → clM M 0 t 8 ≤ a → (L.length : Int) - a < k → 2 * ((L.length : Int) - a) + 110 ≤ N →
    (∀ e, gComps L X (gType L X d) t tn lack k last lastN (a, M) = .inl e → ∀ s', FDp L X ln e s' → Q s') →
    (∀ b M', gComps L X (gType L X d) t tn lack k last lastN (a, M) = .inr (b, M') → ∀ (s' : vS) (N' : Nat) (S' : Int → Int × Int), VMd L X ln s' b M' [] → SV L s' o t 0 S' → (∀ i, 0 ≤ i → i < o → S' i = S i) → (N : Int) ≤ N' + 2 * (b - a) → wpo (l_X14_parseType_17 N' 0 s') Q) →
    wpo (bdv (f_X14_component t last s) fun s' => l_X14_parseType_17 N 0 s') Q := by
  have hl := hH.2.1
  intro k
  induction k with
  | zero => intro s a last lastN M S c0 nd N Q h hs hS t1 hC h3 hl1 hb c8 c9 hk; have := h.al; omega
  | succ k ih =>
    intro s a last lastN M S c0 nd N Q h hs hS t1 hC h3 hl1 hb c8 c9 hk hNN hinl hinr
    have a0 := h.a0
    have al := h.al
    have l3 := lnM_nn M 3
    have ct := hC
    unfold CT at ct
    refine wpo_bdv.mpr (wpo.mono (M_comp hH hN h hs o0 (by omega) t0 t1 hl1 (fun z => by rw [hS z]) c8 c9 h3) ?_)
    rintro s1 (⟨k1, al1, q1, v1⟩ | ⟨k1, q1⟩)
    · have e1 := gComps_eq L X (gType L X d) t tn lack k last lastN a M
      rw [tkE_y (show kdL L a = 0 by rw [kd_0]; exact k1), bE_r] at e1
      rw [e1] at hinl hinr
      clear e1
      have g0 : lnM (gcM a t last M) 0 = lnM M 0 := by rw [lnM_gcM 0 (by decide), if_neg (by decide)]
      have g3 : lnM (gcM a t last M) 3 = lnM M 3 + 1 := by rw [lnM_gcM 3 (by decide), if_pos rfl]
      have hC1 : CT (gcM a t last M) (a + 1) := by
        unfold CT
        rw [g0, g3, lnM_gcM 1 (by decide), lnM_gcM 2 (by decide), lnM_gcM 4 (by decide), lnM_gcM 5 (by decide), lnM_gcM 6 (by decide), lnM_gcM 7 (by decide), lnM_gcM 8 (by decide), lnM_gcM 9 (by decide)]
        simp only [Nat.reduceEqDiff, Nat.reduceAdd, Nat.reduceLT, Nat.reduceLeDiff, Nat.reduceBEq, reduceIte, and_self, and_true, true_and, and_false, false_and, if_true, if_false, Nat.reduceMul, Int.reduceEq, Int.reduceLT, Int.reduceLE, Int.reduceNeg, Int.reduceAdd, Int.reduceMul, Int.reduceSub]
        omega
      have GL := gr_type (L := L) (X := X) d (a + 1, gcM a t last M) (by show 0 ≤ a + 1; omega)
      have FL := fx_type (L := L) (X := X) d (a + 1, gcM a t last M)
      obtain ⟨cg8, cg0⟩ := cl_gcM8 (a := a) (last := last) h.tb.2.2 t0 t1
      have fl3 : ∀ v : Int, FX EN M M := fun _ => FX.rfl
      refine hT s1 (a + 1) (gcM a t last M) (o + 1) (upS S o (t, lnM M 3)) c0 N Q q1 v1 ho hC1 (by rw [g0]; omega) (by omega) (fun e he s' hf => hinl e (by rw [he, bE_l]) s' hf) (fun b M2 hg s2 N2 S2 q2 v2 hS2 hn2 => ?_)
      rw [hg, bE_r] at hinl hinr
      rw [hg] at GL FL
      have GL : GR 1 0 0 0 0 0 (a + 1, gcM a t last M) (b, M2) := GL
      have FL : FX EN (gcM a t last M) M2 := FL
      have hC2 := hC1.gr GL (by decide) (by decide) (by decide) (by decide) (by decide) (by decide)
      have b1 : a + 2 ≤ b := by have := GL.1; simp only at this; omega
      have t2 : t < lnM M2 0 := by have := FL.1.1; omega
      have c2 : lnM M 3 < lnM M2 3 := by have := FL.1.2; omega
      have d0 : clM M2 0 t 0 = clM M 0 t 0 := by rw [FL.2 0 t 0 (Or.inl rfl) t0 (by rw [g0]; exact t1) (fun z => z.elim), cg0]
      have d8 : clM M2 0 t 8 = clM M 0 t 8 + 1 := by rw [FL.2 0 t 8 (Or.inl rfl) t0 (by rw [g0]; exact t1) (fun z => z.elim), cg8]
      rw [g0] at v2
      -- behind a component
      have J122 : ∀ (s : vS) (b' nd : Int) (M5 : Mt), VMd L X ln s b' M5 [] → SV L s (o + 1) (lnM M 0) nd S2 → a + 2 ≤ b' → t < lnM M5 0 → CT M5 b' → clM M5 0 t 0 = clM M 0 t 0 → clM M5 0 t 8 = clM M 0 t 8 + 1 → lnM M 3 < lnM M5 3 → (N : Int) ≤ N2 + 2 * (b' - (a + 1)) → (∀ e, gcF L X (gType L X d) t tn lack k M lastN (b', M5) = .inl e → ∀ s', FDp L X ln e s' → Q s') → (∀ b M', gcF L X (gType L X d) t tn lack k M lastN (b', M5) = .inr (b, M') → ∀ (s' : vS) (N' : Nat) (S' : Int → Int × Int), VMd L X ln s' b M' [] → SV L s' o t 0 S' → (∀ i, 0 ≤ i → i < o → S' i = S i) → (N : Int) ≤ N' + 2 * (b - a) → wpo (l_X14_parseType_17 N' 0 s') Q) → wpo (bdv (j_X14_resume_122 t (lnM M 3) s) fun s8 => l_X14_parseType_17 N2 0 s8) Q := by
        intro s b' nd M5 q5 v5 ab t5 C5 z0 z8 z3 hn5 i5 r5
        have bl := q5.al
        have ct5 := C5
        unfold CT at ct5
        unfold j_X14_resume_122
        rw [bdv_bd]
        refine v_eat hH q5 v5 (by decide) (by decide) (fun k2 k3 s6 q6 v6 => ?_) (fun k2 => ?_)
        · rw [bdv_ite, if_neg (by decide), bdv_bdv]
          have ef : gcF L X (gType L X d) t tn lack k M lastN (b', M5) = gComps L X (gType L X d) t tn lack k (lnM M 3) (nN M) (b' + 1, chN M5 tn 3 lastN (nN M)) := by
            unfold gcF; rw [if_pos (show kdL L (b', M5).1 = 21 by rw [kd_21]; exact k2)]
          rw [ef] at i5 r5
          have q7 : VMd L X ln s6 (b' + 1) (chN M5 tn 3 lastN (nN M)) [] := q6.sm (Sm.rfl.nch _ _ _ _)
          have sc := fun (j : Nat) (hj : j < 11) => (Sm.rfl (M := M5)).nch tn 3 lastN (nN M) |>.cl (c := 0) (by decide) (i := t) (j := j) hj
          refine ih s6 (b' + 1) (lnM M 3) (nN M) (chN M5 tn 3 lastN (nN M)) S2 (lnM M 0) nd N2 Q q7 (by rw [if_neg (by omega)]; exact v6) (fun _ => by rw [hS2 o o0 (by omega)]; unfold upS; rw [if_pos rfl]) (by rw [lnM_ch]; exact t5) (by unfold CT; simp only [lnM_ch]; omega) (by rw [lnM_ch]; omega) (by rw [lnM_ch]; exact z3) (by rw [sc 0 (by decide), z0]; exact hb) (by rw [sc 8 (by decide), z8]; omega) (by rw [sc 8 (by decide), z8]; omega) (by omega) (by omega) i5 (fun b3 M3 e3 s7 N7 S7 q8 v8 hS7 hn7 => r5 b3 M3 e3 s7 N7 S7 q8 v8 (fun i i0 i1 => ?_) (by omega))
          rw [hS7 i i0 i1, hS2 i i0 (by omega)]
          unfold upS; rw [if_neg (by omega)]
        · rw [bdv_ite, if_pos rfl, bdv_bd]
          have ef : gcF L X (gType L X d) t tn lack k M lastN (b', M5) = bE (tkE L X 16 b') fun a => .inr (a, chN M5 tn 3 lastN (nN M)) := by
            unfold gcF; rw [if_neg (show ¬kdL L (b', M5).1 = 21 by rw [kd_21]; exact k2)]
          rw [ef] at i5 r5
          refine v_take hH q5 v5 (by decide) (by decide) (fun k4 k5 s6 q6 v6 => ?_) (fun k4 s6 q6 => ?_)
          · rw [tkE_y (show kdL L b' = 16 by rw [kd_16]; exact k4), bE_r] at r5
            obtain ⟨s7, e7, f7, g7⟩ := f145_fr (s := s6) (x := t)
            rw [e7, bdv_eq]
            have v7 := v6.pop o0 (x := t) ⟨by omega, by omega⟩
            rw [← g7] at v7
            have q7 : VMd L X ln s7 (b' + 1) (chN M5 tn 3 lastN (nN M)) [] := (q6.sm (Sm.rfl.nch _ _ _ _)).oth f7 (by decide)
            refine r5 (b' + 1) _ rfl s7 N2 S2 q7 v7 (fun i i0 i1 => ?_) (by omega)
            rw [hS2 i i0 (by omega)]
            unfold upS; rw [if_neg (by omega)]
          · rw [tkE_n (show ¬kdL L b' = 16 by rw [kd_16]; exact k4), bE_l] at i5
            exact F_145 q6 (by omega) (fun s' hf => i5 _ rfl s' hf)
      have ct2 := hC2
      unfold CT at ct2
      have b2l := q2.al
      have so : S2 o = (t, lnM M 3) := by rw [hS2 o o0 (by omega)]; unfold upS; rw [if_pos rfl]
      obtain ⟨w1, w2, w3, w4, w5, w6⟩ := id v2
      obtain ⟨x1, x2, x3, x4, x5, x6⟩ := w6 o o0 (by omega)
      unfold RES
      rw [w1, if_neg (by omega)]
      unfold f_X14_resume
      rw [w1, show o + 1 - 1 = o by omega, w32_id (x := o) ⟨by omega, by omega⟩, gd_pos ⟨o0, by rw [q2.1.2.2.2.2.1]; omega⟩, vl_eq, gd_pos ⟨o0, by rw [q2.1.2.2.2.2.2.1]; omega⟩, vl_eq, x1, x2, so]
      simp only
      rw [if_pos l3, w2, bdv_gd]
      refine m_gdo hN q2 (by decide) l3 c2 ?_
      rw [bdv_stp]
      refine v_upd q2 v2 (by decide) (okv_rg (by decide) ⟨by omega, by omega⟩) l3 c2 (by decide) (fun s3 q3 v3 => ?_)
      have q3 : VMd L X ln s3 b (gcT M M2) [] := (show VMd L X ln s3 b (upM M2 3 (lnM M 3) 1 (lnM M 0)) [] from q3).sm (Sm.up (Sm.rfl.node _ _ _))
      have gl : ∀ c, c < 10 → lnM (gcT M M2) c = lnM M2 c := fun c _ => by unfold gcT; rw [lnM_up, lnM_st]
      have gc0 : ∀ j, clM (gcT M M2) 0 t j = clM M2 0 t j := fun j => rfl
      have C3 : CT (gcT M M2) b := by unfold CT; rw [gl 0 (by decide), gl 1 (by decide), gl 2 (by decide), gl 3 (by decide), gl 4 (by decide), gl 5 (by decide), gl 6 (by decide), gl 7 (by decide), gl 8 (by decide), gl 9 (by decide)]; exact hC2
      have t3 : t < lnM (gcT M M2) 0 := by rw [gl 0 (by decide)]; exact t2
      rw [bdv_gd]
      refine m_gdo hN q3 (by decide) t0 t3 ?_
      have rb : ∀ (s : vS) (b : Int) (M5 : Mt), VMd L X ln s b M5 [] → t < lnM M5 0 → clM M5 0 t 0 = clM M 0 t 0 → gE s 97 t = clM M 0 t 0 := fun s b M5 q5 t5 z => by
        have y := q5.rd (A := 97) (by decide) (by decide) t0 t5 (by show clM M5 0 t 0 ≠ -7; rw [z]; omega)
        rw [y]; exact z
      rw [bdv_ite, rb s3 b _ q3 t3 (by rw [gc0, d0])]
      have J0 := J122 s3 b 0 (gcT M M2) q3 v3 b1 t3 C3 (by rw [gc0, d0]) (by rw [gc0, d8]) (by rw [gl 3 (by decide)]; exact c2) (by omega)
      rcases hb with ⟨hb1, hb2⟩ | ⟨hb1, hb2, hb3⟩
      · rw [if_pos hb2]
        unfold j_X14_resume_81
        rw [bdv_gd]
        refine m_gdo hN q3 (by decide) t0 t3 ?_
        rw [bdv_ite, rb s3 b _ q3 t3 (by rw [gc0, d0]), if_pos hb2]
        rw [if_neg (fun z => z.1 hb1), if_neg (fun z => z.1 hb1)] at hinl hinr
        exact J0 hinl hinr
      · rw [if_neg hb2, bdv_bd]
        refine v_eat hH q3 v3 (by decide) (by decide) (fun k4 k5 s4 q4 v4 => ?_) (fun k4 => ?_)
        · rw [if_pos ⟨hb1, show kdL L (b, M2).1 = 150 by rw [kd_150]; exact k4⟩] at hinl hinr
          rw [bdv_ite, if_neg (by decide), bdv_gd]
          refine m_gdo hN q4 (by decide) l3 (by show lnM M 3 < lnM _ 3; rw [gl 3 (by decide)]; exact c2) ?_
          rw [bdv_stp]
          refine v_upd q4 v4 (by decide) (okv_rg (by decide) (rgl rfl)) l3 (by show lnM M 3 < lnM _ 3; rw [gl 3 (by decide)]; exact c2) (by decide) (fun s5 q5 v5 => ?_)
          have q5 : VMd L X ln s5 (b + 1) (upM (stN (gcT M M2) (nN M) 5 1) 3 (lnM M 3) 2 1) [] := (show VMd L X ln s5 (b + 1) (upM (gcT M M2) 3 (lnM M 3) 2 1) [] from q5).sm (Sm.up (Sm.rfl.node _ _ _))
          refine J122 s5 (b + 1) 0 _ q5 v5 (by omega) (by rw [lnM_up, lnM_st]; exact t3) ?_ (by show clM M2 0 t 0 = _; exact d0) (by show clM M2 0 t 8 = _; exact d8) (by rw [lnM_up, lnM_st, gl 3 (by decide)]; exact c2) (by omega) hinl hinr
          unfold CT at C3 ⊢
          simp only [lnM_up, lnM_st]
          omega
        · rw [if_neg (fun z => k4 (by rw [← kd_150]; exact z.2))] at hinl hinr
          rw [bdv_ite, if_pos rfl]
          unfold j_X14_resume_81
          rw [bdv_gd]
          refine m_gdo hN q3 (by decide) t0 t3 ?_
          rw [bdv_ite, rb s3 b _ q3 t3 (by rw [gc0, d0]), if_neg hb2, bdv_bd]
          refine v_eat hH q3 v3 (by decide) (by decide) (fun k6 k7 s4 q4 v4 => ?_) (fun k6 => ?_)
          · rw [if_pos ⟨hb1, show kdL L (b, M2).1 = 116 by rw [kd_116]; exact k6⟩] at hinl hinr
            rw [bdv_ite, if_neg (by decide), bdv_gd]
            refine m_gdo hN q4 (by decide) l3 (by show lnM M 3 < lnM _ 3; rw [gl 3 (by decide)]; exact c2) ?_
            rw [bdv_stp]
            refine v_upd q4 v4 (by decide) (okv_rg (by decide) (rgl rfl)) l3 (by show lnM M 3 < lnM _ 3; rw [gl 3 (by decide)]; exact c2) (by decide) (fun s5 q5 v5 => ?_)
            have q5 : VMd L X ln s5 (b + 1) (upM (stN (gcT M M2) (nN M) 5 2) 3 (lnM M 3) 2 2) [] := (show VMd L X ln s5 (b + 1) (upM (gcT M M2) 3 (lnM M 3) 2 2) [] from q5).sm (Sm.up (Sm.rfl.node _ _ _))
            have hl5 : ∀ c, c < 10 → lnM (upM (stN (gcT M M2) (nN M) 5 2) 3 (lnM M 3) 2 2) c = lnM M2 c := fun c hc => by rw [lnM_up, lnM_st, gl c hc]
            have C5 : CT (upM (stN (gcT M M2) (nN M) 5 2) 3 (lnM M 3) 2 2) (b + 1) := by
              unfold CT
              rw [hl5 0 (by decide), hl5 1 (by decide), hl5 2 (by decide), hl5 3 (by decide), hl5 4 (by decide), hl5 5 (by decide), hl5 6 (by decide), hl5 7 (by decide), hl5 8 (by decide), hl5 9 (by decide)]
              omega
            have GV := gr_value (L := L) (X := X) (t := lnM M 0) (p := ((b, M2).1 + 1, upM (stN (gcT M (b, M2).2) (nN M) 5 2) 3 (lnM M 3) 2 2))
            have FV := fx_value (L := L) (X := X) (t := lnM M 0) (p := ((b, M2).1 + 1, upM (stN (gcT M (b, M2).2) (nN M) 5 2) 3 (lnM M 3) 2 2))
            rw [bdv_bd, show gI s5 87 82 = lnM M 0 from v5.2.1]
            refine wpo_bd.mpr (wpo.mono (wpo.and (M_value (t := lnM M 0) hH hN q5 ⟨by omega, by omega⟩ C5) (fun r hr => fr_f_X14_parseValue (lnM M 0) s5 r hr)) ?_)
            rintro ⟨r, s6⟩ ⟨⟨hr, og⟩, fr6⟩
            simp only at hr og fr6
            rw [hl5 6 (by decide)] at hr
            have v6 := v5.fr fr6 (by decide) (by decide) (by decide) (by decide) (by decide)
            simp only at hinl hinr GV FV ⊢
            have bd6 : BD L X ln s6 := by
              generalize gValue L X (lnM M 0) (b + 1, upM (stN (gcT M M2) (nN M) 5 2) 3 (lnM M 3) 2 2) = g at og
              cases g with
              | inl e => exact FM.bd og
              | inr w => exact og.1.1
            rw [bdv_gd]
            refine wpo_gd.mpr ⟨by rw [bd6.2.2.2.1 119 (by decide), q5.1.2.2.2.1 119 (by decide)], ?_⟩
            have i119 : inb (lnM M 3) (gN s6 119) := ⟨l3, by rw [bd6.2.2.2.1 119 (by decide)]; exact ixA hN (A := 119) (by decide) (by show 2 * lnM M 3 ≤ (L.length : Int) + 2 * 2; omega)⟩
            rw [bdv_gd, gd_pos i119, bdv_stp]
            generalize gValue L X (lnM M 0) (b + 1, upM (stN (gcT M M2) (nN M) 5 2) 3 (lnM M 3) 2 2) = g at og hinl hinr GV FV ⊢
            cases g with
            | inl e =>
              have og : FM L X ln e s6 := og
              have og2 := og.wE (A := 119) (by decide) (i := lnM M 3) (v := r)
              rw [stp_eq]
              unfold j_X14_resume_122
              rw [bdv_bd]
              refine mF_eat og2 ?_
              rw [bdv_ite, if_pos rfl, bdv_bd]
              refine mF_take og2 ?_
              exact F_145 og2 (by omega) (fun s' hf => hinl e (by rw [bE_l]) s' hf)
            | inr w =>
              obtain ⟨b4, M4⟩ := w
              obtain ⟨g1, g2⟩ := og
              simp only at g1 g2
              rw [bE_r] at hinl hinr
              have GV : GR 1 0 0 0 0 1 (b + 1, upM (stN (gcT M M2) (nN M) 5 2) 3 (lnM M 3) 2 2) (b4, M4) := GV
              have FV : FX EN (upM (stN (gcT M M2) (nN M) 5 2) 3 (lnM M 3) 2 2) M4 := FV
              have gv := GV
              unfold GR at gv
              simp only [hl5 0 (by decide), hl5 1 (by decide), hl5 2 (by decide), hl5 3 (by decide), hl5 4 (by decide), hl5 5 (by decide), hl5 6 (by decide), hl5 7 (by decide), hl5 8 (by decide), hl5 9 (by decide)] at gv
              have t6 : t < lnM M4 0 := by omega
              have c6 : lnM M 3 < lnM M4 3 := by omega
              have l6 := lnM_nn M2 6
              have b4l := g1.al
              rw [hr]
              refine v_upd g1 v6 (by decide) (okv_rg (by decide) ⟨by omega, by omega⟩) l3 c6 (by decide) (fun s7 q7 v7 => ?_)
              have e6 : lnM (upM (stN (gcT M M2) (nN M) 5 2) 3 (lnM M 3) 2 2) 6 = lnM M2 6 := hl5 6 (by decide)
              rw [e6] at hinl hinr
              have q7 : VMd L X ln s7 b4 (upM (stN M4 (nN M) 4 (nN (upM (stN (gcT M M2) (nN M) 5 2) 3 (lnM M 3) 2 2))) 3 (lnM M 3) 3 (lnM M2 6)) [] := (show VMd L X ln s7 b4 (upM M4 3 (lnM M 3) 3 (lnM M2 6)) [] from q7).sm (Sm.up (Sm.rfl.node _ _ _))
              refine J122 s7 b4 0 _ q7 v7 (by omega) (by rw [lnM_up, lnM_st]; exact t6) ?_ ?_ ?_ (by rw [lnM_up, lnM_st]; exact c6) (by omega) hinl hinr
              · unfold CT
                simp only [lnM_up, lnM_st]
                omega
              · show clM M4 0 t 0 = _
                rw [FV.2 0 t 0 (Or.inl rfl) t0 (by rw [hl5 0 (by decide)]; exact t2) (fun z => z.elim)]; exact d0
              · show clM M4 0 t 8 = _
                rw [FV.2 0 t 8 (Or.inl rfl) t0 (by rw [hl5 0 (by decide)]; exact t2) (fun z => z.elim)]; exact d8
          · rw [if_neg (fun z => k6 (by rw [← kd_116]; exact z.2))] at hinl hinr
            rw [bdv_ite, if_pos rfl]
            exact J0 hinl hinr
    · have e1 := gComps_eq L X (gType L X d) t tn lack k last lastN a M
      rw [tkE_n (show ¬kdL L a = 0 by rw [kd_0]; exact k1), bE_l] at e1
      rw [LP_F q1 (by omega)]
      exact wpo_some.mpr (hinl _ e1 _ (Or.inl q1))
end
