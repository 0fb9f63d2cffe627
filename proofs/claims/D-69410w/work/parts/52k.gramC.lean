set_option maxRecDepth 100000 set_option linter.unusedVariables false set_option linter.unusedSimpArgs false
/-! PURE 52k: the class's grammar: assignments -/
def fst8 (M : Mt) : Int := if lnM M 8 = 0 then -1 else clM M 8 0 3
section
variable {L : Lx} {X : List Int} {B BT : Nat} {s s' : vS} {a I : Int}
def AP (L : Lx) (X : List Int) (B BT : Nat) (I : Int) (g : Ft ⊕ Pg) (s' : vS) : Prop := match g with
  | .inl e => FC L X B BT e 0 s'
  | .inr q => CG L X B BT s' q.1 (q.2 11) ∧ q.1 ≤ L.length ∧ ((q.2 11).length : Int) ≤ 3 * q.1 + 3 ∧ AH s' (fst8 q.2) (lnM q.2 9) (lnM q.2 8 - lnM q.2 9) I ∧ lnM q.2 8 ≤ q.1
def APL (L : Lx) (X : List Int) (B BT : Nat) (I : Int) (g : Ft ⊕ Pg) : (vS ⊕ (Int × vS)) → Prop := Sum.elim (fun s1 => AP L X B BT I g s1) (fun q => q.1 = 0 ∧ ∃ e, g = .inl e ∧ FC L X B BT e 0 q.2)
theorem F_asg {e : Ft} {m x1 : Int} {N : Nat} (h : FC L X B BT e m s) (hN : 1 ≤ N) : l_X5_assignments_2 N x1 s = some (.inl s) := by
  obtain ⟨N, rfl⟩ : ∃ m, N = m + 1 := ⟨N - 1, by omega⟩
  unfold l_X5_assignments_2
  rw [if_neg (by rw [h.fault.1]; exact h.fault.2.2)]
theorem F_asg175 {e : Ft} {m x1 x3 : Int} {N : Nat} {g : Ft ⊕ Pg} (hg : g = .inl e) (h : FC L X B BT e m s) (hN : 1 ≤ N) (h1 : x1 = -1 ∨ (0 ≤ x1 ∧ x1 < x3)) (h3 : 0 ≤ x3) (h2 : x3 < m) (hx : rg x3) : wpo (j_X5_assignments_175 (l_X5_assignments_2 N) x1 x3 s) (APL L X B BT I g) := by
  subst hg
  unfold j_X5_assignments_175
  by_cases d : x1 = -1
  · have q := h.fr10 (fr10 (f := 2) (v := x3) (by decide))
    rw [if_pos d, stp_eq, F_asg q hN]
    exact wpo_some.mpr (q.mono (by omega))
  · rw [if_neg d]
    refine wpF_set h (by omega) (by omega) (by decide) (by decide) hx ⟨fun _ => by omega, fun z => by omega⟩ (fun s' q => ?_)
    rw [F_asg q hN]
    exact wpo_some.mpr (q.mono (by omega))
theorem G_asg175 (hG : LG L X BT) {last b T C : Int} {k N : Nat} {M M5 : Mt} {r8 : List Int} (ih : ∀ (N : Nat) (s : vS) (a last : Int) (M : Mt), CG L X B BT s a (M 11) → a ≤ L.length → L.length - a < k → k ≤ N → ((M 11).length : Int) ≤ 3 * a + 3 → AH s (fst8 M) (lnM M 9) (lnM M 8 - lnM M 9) I → lnM M 8 ≤ a ∧ lnM M 9 ≤ lnM M 8 → ((last = -1 ∧ lnM M 8 = 0) ∨ (0 ≤ last ∧ last < nN M ∧ 0 < lnM M 8)) →
    wpo (l_X5_assignments_2 N last s) (APL L X B BT I (gAssigns L X k last (a, M)))) (h : CG L X B BT s b (M5 11)) (hA : AH s (fst8 M) T C I) (e8 : M5 8 = M 8 ++ [r8]) (en : r8.getD 3 0 = nN M) (eT : lnM M5 9 = T) (eC : lnM M5 8 - lnM M5 9 = C) (hb : b ≤ L.length) (hk : L.length - b < k) (hN : k ≤ N) (hn : ((M5 11).length : Int) ≤ 3 * b + 3) (hn2 : nN M < (M5 11).length) (h8 : lnM M5 8 ≤ b ∧ lnM M5 9 ≤ lnM M5 8) (hl : (last = -1 ∧ lnM M 8 = 0) ∨ (0 ≤ last ∧ last < nN M ∧ 0 < lnM M 8)) :
    wpo (j_X5_assignments_175 (l_X5_assignments_2 N) last (nN M) s) (APL L X B BT I (gAssigns L X k (nN M) (b, if last = -1 then M5 else stN M5 last 8 (nN M)))) := by
  have l0 := hG.1
  have b0 := h.a0
  have n0 : 0 ≤ nN M := by rw [nN_eq]; omega
  have l58 : lnM M5 8 = lnM M 8 + 1 := by unfold lnM; rw [e8, List.length_append]; simp
  have p8 : 0 ≤ lnM M 8 := by unfold lnM; omega
  unfold j_X5_assignments_175
  by_cases d : last = -1
  · have z : lnM M 8 = 0 := by omega
    have z2 : M 8 = [] := by unfold lnM at z; exact List.length_eq_zero_iff.mp (by omega)
    have q := h.fr10 (fr10 (f := 2) (v := nN M) (by decide))
    rw [if_pos d, if_pos d, stp_eq]
    refine ih N _ b (nN M) M5 q hb hk hN hn ?_ h8 (Or.inr ⟨n0, by rw [nN_eq M5]; omega, by omega⟩)
    obtain ⟨a1, a2, a3, a4⟩ := hA
    have ef : fst8 M5 = nN M := by
      unfold fst8
      rw [if_neg (by omega)]
      unfold clM
      rw [e8, z2]
      exact en
    refine ⟨?_, ?_, ?_, ?_⟩
    · rw [gI_sI, if_pos ⟨rfl, rfl⟩, ef, w32_id ⟨by omega, by omega⟩]
    · rw [gI_sI, if_neg (by decide), a2, eT]
    · rw [gI_sI, if_neg (by decide), a3, eC]
    · rw [gI_sI, if_neg (by decide), a4]
  · rw [if_neg d, if_neg d]
    refine A_set hA h (by omega) (by omega) (by decide) (by decide) ⟨by omega, by omega⟩ ⟨fun _ => by omega, fun z => by omega⟩ (fun s' q hA' => ?_)
    refine ih N _ b (nN M) (stN M5 last 8 (nN M)) (by rw [stN_11]; exact q) hb hk hN (by rw [stN_11, upR_len]; exact hn) ?_ h8 (Or.inr ⟨n0, by rw [nN_eq (stN _ _ _ _), stN_11, upR_len]; omega, by show 0 < lnM M5 8; omega⟩)
    have ef : fst8 (stN M5 last 8 (nN M)) = fst8 M := by
      show fst8 M5 = fst8 M
      unfold fst8
      rw [if_neg (by omega), if_neg (by omega)]
      unfold clM
      have z3 : 0 < (M 8).length := by unfold lnM at hl; omega
      rw [e8]
      simp only [List.getD_eq_getElem?_getD]
      rw [List.getElem?_append_left (by exact z3)]
    rw [ef]
    show AH s' (fst8 M) (lnM M5 9) (lnM M5 8 - lnM M5 9) I
    rw [eC, eT]
    exact hA'
theorem G_type0 (hG : LG L X BT) : TY L X B BT (d_X5_type 128) 0 (gType L X 100) := G_typeD hG 100 128 (by decide) (by decide)
theorem G_asg_l (hG : LG L X BT) : ∀ (k N : Nat) (s : vS) (a last : Int) (M : Mt), CG L X B BT s a (M 11) → a ≤ L.length → L.length - a < k → k ≤ N → ((M 11).length : Int) ≤ 3 * a + 3 → AH s (fst8 M) (lnM M 9) (lnM M 8 - lnM M 9) I → lnM M 8 ≤ a ∧ lnM M 9 ≤ lnM M 8 → ((last = -1 ∧ lnM M 8 = 0) ∨ (0 ≤ last ∧ last < nN M ∧ 0 < lnM M 8)) →
    wpo (l_X5_assignments_2 N last s) (APL L X B BT I (gAssigns L X k last (a, M))) := by
  have l0 := hG.1
  intro k
  induction k with
  | zero => intro N s a last M h h1 h2; omega
  | succ k ih =>
    intro N s a last M h h1 h2 h3 h4 h5 h6 h7
    have a0 := h.a0
    obtain ⟨N, rfl⟩ : ∃ m, N = m + 1 := ⟨N - 1, by omega⟩
    have n0 : nN M = (M 11).length := rfl
    have p9 : 0 ≤ lnM M 9 := by unfold lnM; omega
    have p8 : 0 ≤ lnM M 8 := by unfold lnM; omega
    have p89 : lnM M 9 ≤ lnM M 8 := h6.2
    unfold l_X5_assignments_2
    rw [if_pos h.fl]
    refine wp_is h (by decide) (fun c1 al => wp_f ?_) (fun c1 => wp_t (wp_is h (by decide) (fun c2 al => wp_f ?_) (fun c2 => wp_t ?_)))
    · -- a type
      unfold j_X5_assignments_25 j_X5_assignments_46
      refine wp_is h (by decide) (fun _ _ => wp_f ?_) (fun z => absurd c1 z)
      refine A_add h5 h hG (by omega) (by omega) (rgl rfl) (fun s1 q1 A1 => ?_)
      refine A_adv A1 q1 (by omega) (fun s2 q2 A2 => wp_f ?_)
      unfold gAssigns
      simp only [c1, if_true]
      refine wp_is q2 (by decide) (fun c3 al3 => wp_f ?_) (fun c3 => wp_t ?_)
      · simp only [c3, if_true]
        refine wp_wrong q2 (by omega) (by simp only [upR_len, chR_len, List.length_append, List.length_singleton, Int.natCast_add, Int.cast_ofNat_Int]; omega) (rgl rfl) (by decide) (fun s3 q3 => ?_)
        refine wpo_gd.mpr ⟨Or.inl rfl, wpo_some.mpr ?_⟩
        exact ⟨rfl, _, rfl, q3.mono (by omega)⟩
      · simp only [c3, if_false]
        rw [stp_eq, A2.2.1, w32_id ⟨by omega, by omega⟩]
        have q3 := q2.fr10 (fr10 (f := 3) (v := lnM M 9 + 1) (by decide))
        have A3 : AH (sI s2 10 3 (lnM M 9 + 1)) (fst8 M) (lnM M 9 + 1) (lnM M 8 - lnM M 9) I := by
          obtain ⟨b1, b2, b3, b4⟩ := A2
          refine ⟨?_, ?_, ?_, ?_⟩
          · rw [gI_sI, if_neg (by decide), b1]
          · rw [gI_sI, if_pos ⟨rfl, rfl⟩, w32_id ⟨by omega, by omega⟩]
          · rw [gI_sI, if_neg (by decide), b3]
          · rw [gI_sI, if_neg (by decide), b4]
        refine A_take A3 q3 hG (by omega) (by simp only [upR_len, chR_len, List.length_append, List.length_singleton, Int.natCast_add, Int.cast_ofNat_Int]; omega) (by decide) (fun c4 al4 s4 q4 A4 => wp_f ?_) (fun c4 s4 q4 => wp_t ?_)
        · rw [tkE_y c4, bE_r]
          refine wpA A4 (fr_d_X5_type 128 0 s4) (by decide) (G_type0 hG s4 (a + 1 + 1) (adN M 28 a) q4 (by omega) (by simp only [stN_11, adN_11, chN_11, upM_0, upM_3, upM_4, apM_0, apM_1, apM_2, apM_3, apM_4, apM_5, apM_6, apM_7, apM_8, apM_9, addL_11, Int.reduceToNat, upR_len, chR_len, List.length_append, List.length_singleton, Int.natCast_add, Int.cast_ofNat_Int]; omega)) ?_
          rintro r s5 ⟨hr, og⟩ A5
          have k89 := k89_type (L := L) (X := X) 100 (a + 1 + 1, adN M 28 a)
          generalize gType L X 100 (a + 1 + 1, adN M 28 a) = g at og k89 ⊢
          simp only at hr og
          rw [nN_eq, adN_11, List.length_append, List.length_singleton] at hr og
          cases g with
          | inl e =>
            have og := og.bl
            rw [bE_l]
            refine wpF_set og (by omega) (by omega) (by decide) (by decide) (by rw [hr]; exact ⟨by omega, by omega⟩) ⟨fun z => absurd z (by decide), fun z => absurd z (by decide)⟩ (fun s6 q6 => ?_)
            exact F_asg175 rfl q6 (by omega) (by rcases h7 with z | z <;> omega) (by omega) (by omega) ⟨by omega, by omega⟩
          | inr q =>
            obtain ⟨b, M3⟩ := q
            obtain ⟨g1, g2, g3, g4, g5⟩ := og.br
            have k89 : K89 (adN M 28 a) M3 := k89
            rw [bE_r]
            refine A_set A5 g1 (by omega) (by omega) (by decide) (by decide) (by rw [hr]; exact ⟨by omega, by omega⟩) ⟨fun z => absurd z (by decide), fun z => absurd z (by decide)⟩ (fun s6 q6 A6 => ?_)
            rw [hr] at q6
            have e8 : M3 8 = M 8 := k89.1
            have e9 : M3 9 = M 9 := k89.2
            have l8 : lnM M3 8 = lnM M 8 := by unfold lnM; rw [e8]
            exact G_asg175 hG (M := M) (M5 := apM (apM (stN M3 (nN M) 3 (nN M + 1)) 9 [lnM M3 8]) 8 [a, lnM M 0, -1, nN M, 1]) (r8 := [a, lnM M 0, -1, nN M, 1]) ih q6 A6 (by show M3 8 ++ _ = _; rw [e8]) rfl (by show ((M3 9 ++ _).length : Int) = _; rw [e9, List.length_append]; unfold lnM; simp) (by show ((M3 8 ++ [[a, lnM M 0, -1, nN M, 1]]).length : Int) - ((M3 9 ++ [[lnM M3 8]]).length : Int) = _; rw [e8, e9, List.length_append, List.length_append]; unfold lnM; simp; omega) g3 (by omega) (by omega) (by show ((upR _ _ _ _).length : Int) ≤ _; rw [upR_len]; omega) (by show nN M < ((upR _ _ _ _).length : Int); rw [upR_len]; omega) (by show ((M3 8 ++ [[a, lnM M 0, -1, nN M, 1]]).length : Int) ≤ _ ∧ ((M3 9 ++ [[lnM M3 8]]).length : Int) ≤ ((M3 8 ++ [[a, lnM M 0, -1, nN M, 1]]).length : Int); rw [e8, e9, List.length_append, List.length_append]; unfold lnM at h6; simp; omega) h7
        · rw [tkE_n c4, bE_l]
          exact F_asg175 rfl q4 (by omega) (by rcases h7 with z | z <;> omega) (by omega) (by simp only [upR_len, chR_len, List.length_append, List.length_singleton, Int.natCast_add, Int.cast_ofNat_Int]; omega) ⟨by omega, by omega⟩
    · -- a constant
      unfold j_X5_assignments_25 j_X5_assignments_46
      refine wp_is h (by decide) (fun z _ => absurd z c1) (fun _ => wp_t ?_)
      refine A_add h5 h hG (by omega) (by omega) (rgl rfl) (fun s1 q1 A1 => ?_)
      refine A_adv A1 q1 (by omega) (fun s2 q2 A2 => wp_t ?_)
      unfold gAssigns
      simp only [c1, c2, if_false, if_true]
      rw [stp_eq, A2.2.2.1, w32_id ⟨by omega, by omega⟩]
      have q3 := q2.fr10 (fr10 (f := 4) (v := lnM M 8 - lnM M 9 + 1) (by decide))
      have A3 : AH (sI s2 10 4 (lnM M 8 - lnM M 9 + 1)) (fst8 M) (lnM M 9) (lnM M 8 - lnM M 9 + 1) I := by
        obtain ⟨b1, b2, b3, b4⟩ := A2
        refine ⟨?_, ?_, ?_, ?_⟩
        · rw [gI_sI, if_neg (by decide), b1]
        · rw [gI_sI, if_neg (by decide), b2]
        · rw [gI_sI, if_pos ⟨rfl, rfl⟩, w32_id ⟨by omega, by omega⟩]
        · rw [gI_sI, if_neg (by decide), b4]
      refine wpA A3 (fr_d_X5_type 128 0 _) (by decide) (G_type0 hG _ (a + 1) (adN M 29 a) q3 (by omega) (by simp only [stN_11, adN_11, chN_11, upM_0, upM_3, upM_4, apM_0, apM_1, apM_2, apM_3, apM_4, apM_5, apM_6, apM_7, apM_8, apM_9, addL_11, Int.reduceToNat, upR_len, chR_len, List.length_append, List.length_singleton, Int.natCast_add, Int.cast_ofNat_Int]; omega)) ?_
      rintro r s5 ⟨hr, og⟩ A5
      have k89 := k89_type (L := L) (X := X) 100 (a + 1, adN M 29 a)
      generalize gType L X 100 (a + 1, adN M 29 a) = g at og k89 ⊢
      simp only at hr og
      rw [nN_eq, adN_11, List.length_append, List.length_singleton] at hr og
      cases g with
      | inl e =>
        have og := og.bl
        rw [bE_l]
        refine wpF_set og (by omega) (by omega) (by decide) (by decide) (by rw [hr]; exact ⟨by omega, by omega⟩) ⟨fun z => absurd z (by decide), fun z => absurd z (by decide)⟩ (fun s6 q6 => ?_)
        refine wpF_take q6 hG (wp_t ?_)
        exact F_asg175 rfl q6 (by omega) (by rcases h7 with z | z <;> omega) (by omega) (by omega) ⟨by omega, by omega⟩
      | inr q =>
        obtain ⟨b, M3⟩ := q
        obtain ⟨g1, g2, g3, g4, g5⟩ := og.br
        have k89 : K89 (adN M 29 a) M3 := k89
        rw [bE_r]
        refine A_set A5 g1 (by omega) (by omega) (by decide) (by decide) (by rw [hr]; exact ⟨by omega, by omega⟩) ⟨fun z => absurd z (by decide), fun z => absurd z (by decide)⟩ (fun s6 q6 A6 => ?_)
        rw [hr] at q6
        have e8 : M3 8 = M 8 := k89.1
        have e9 : M3 9 = M 9 := k89.2
        refine A_take A6 q6 hG (by omega) (by rw [upR_len]; omega) (by decide) (fun c4 al4 s7 q7 A7 => wp_f ?_) (fun c4 s7 q7 => wp_t ?_)
        · rw [tkE_y c4, bE_r]
          refine wpA A7 (fr_f_X5_value s7) (by decide) (G_value (t := lnM M 0) (M := stN M3 (nN M) 3 (nN M + 1)) hG (by rw [stN_11]; exact q7) (by omega) (by rw [stN_11, upR_len]; omega)) ?_
          rintro r s8 ⟨hr, og⟩ A8
          have k89' := k89_value (L := L) (X := X) (t := lnM M 0) (p := (b + 1, stN M3 (nN M) 3 (nN M + 1)))
          generalize gValue L X (lnM M 0) (b + 1, stN M3 (nN M) 3 (nN M + 1)) = g at og k89' ⊢
          simp only at hr og
          rw [nN_eq (stN _ _ _ _), stN_11, upR_len] at hr og
          cases g with
          | inl e =>
            have og := og.bl
            rw [bE_l]
            refine wpF_set og (by omega) (by omega) (by decide) (by decide) (by rw [hr]; exact ⟨by omega, by omega⟩) ⟨fun z => absurd z (by decide), fun z => by omega⟩ (fun s9 q9 => ?_)
            exact F_asg175 rfl q9 (by omega) (by rcases h7 with z | z <;> omega) (by omega) (by omega) ⟨by omega, by omega⟩
          | inr q =>
            obtain ⟨b2, M4⟩ := q
            obtain ⟨w1, w2, w3, w4, w5⟩ := og.br
            have k89' : K89 (stN M3 (nN M) 3 (nN M + 1)) M4 := k89'
            rw [bE_r]
            refine A_set A8 w1 (by omega) (by omega) (by decide) (by decide) (by rw [hr]; exact ⟨by omega, by omega⟩) ⟨fun z => absurd z (by decide), fun z => by omega⟩ (fun s9 q9 A9 => ?_)
            rw [hr] at q9
            have f8 : M4 8 = M 8 := k89'.1.trans e8
            have f9 : M4 9 = M 9 := k89'.2.trans e9
            have n3 : nN M3 = (M3 11).length := rfl
            exact G_asg175 hG (M := M) (M5 := apM (stN M4 (nN M) 4 (nN M3)) 8 [a, lnM M 0, lnM M3 6, nN M, 0]) (r8 := [a, lnM M 0, lnM M3 6, nN M, 0]) ih q9 A9 (by show M4 8 ++ _ = _; rw [f8]) rfl (by show ((M4 9).length : Int) = _; rw [f9]; rfl) (by show ((M4 8 ++ [[a, lnM M 0, lnM M3 6, nN M, 0]]).length : Int) - ((M4 9).length : Int) = _; rw [f8, f9, List.length_append]; unfold lnM; simp; omega) w3 (by omega) (by omega) (by show ((upR _ _ _ _).length : Int) ≤ _; rw [upR_len]; omega) (by show nN M < ((upR _ _ _ _).length : Int); rw [upR_len]; omega) (by show ((M4 8 ++ [[a, lnM M 0, lnM M3 6, nN M, 0]]).length : Int) ≤ _ ∧ ((M4 9).length : Int) ≤ ((M4 8 ++ [[a, lnM M 0, lnM M3 6, nN M, 0]]).length : Int); rw [f8, f9, List.length_append]; unfold lnM at h6; simp; omega) h7
        · rw [tkE_n c4, bE_l]
          exact F_asg175 rfl q7 (by omega) (by rcases h7 with z | z <;> omega) (by omega) (by rw [upR_len]; omega) ⟨by omega, by omega⟩
    · unfold gAssigns
      simp only [c1, c2, if_false]
      exact wpo_some.mpr ⟨h, h1, h4, h5, h6.1⟩
theorem G_asg (hG : LG L X BT) {M : Mt} (h : CG L X B BT s a (M 11)) (ha : a ≤ L.length) (h11 : M 11 = []) (h8 : M 8 = []) (h9 : M 9 = []) (hA : AH s (-1) 0 0 I) : wpo (f_X5_assignments s) (fun r => AP L X B BT I (gAssigns L X (L.length + 1) (-1) (a, M)) r.2 ∧ r.1 = oR (gAssigns L X (L.length + 1) (-1) (a, M))) := by
  have l0 := hG.1
  have a0 := h.a0
  unfold f_X5_assignments
  rw [wpo_lqs_0]
  have z8 : lnM M 8 = 0 := by unfold lnM; rw [h8]; rfl
  have z9 : lnM M 9 = 0 := by unfold lnM; rw [h9]; rfl
  have zf : fst8 M = -1 := by unfold fst8; rw [if_pos z8]
  refine wpo.mono (G_asg_l hG (I := I) (L.length + 1) FU s a (-1) M h ha (by omega) (by unfold FU; omega) (by rw [h11]; show (0 : Int) ≤ _; omega) (by rw [zf, z8, z9]; exact hA) (by omega) (Or.inl ⟨rfl, z8⟩)) (fun r hr => ?_)
  cases r with
  | inl s1 =>
    have hr : AP L X B BT I (gAssigns L X (L.length + 1) (-1) (a, M)) s1 := hr
    show wpo (j_X5_assignments_207 s1) _
    unfold j_X5_assignments_207
    generalize gAssigns L X (L.length + 1) (-1) (a, M) = g at hr ⊢
    cases g with
    | inl e =>
      have hr : FC L X B BT e 0 s1 := hr
      rw [if_neg (by rw [hr.fault.1]; exact hr.fault.2.2)]
      exact wpo_some.mpr ⟨hr, rfl⟩
    | inr q =>
      have z : gI s1 12 3 = 0 := hr.1.fl
      rw [if_pos z]
      exact wpo_some.mpr ⟨hr, rfl⟩
  | inr q =>
    obtain ⟨q1, e, q2, q3⟩ := hr
    show wpo (some q) _
    rw [q2]
    exact wpo_some.mpr ⟨q3, q1⟩
end
