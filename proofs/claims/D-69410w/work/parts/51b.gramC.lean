set_option maxRecDepth 100000 set_option linter.unusedVariables false set_option linter.unusedSimpArgs false
/-! PURE 51b: nodes are added and chained; small numbers -/
theorem X4_set_eq {s : vS} {k c v : Int} (k0 : 0 ≤ k) (k1 : 9 * k + 9 ≤ gN s 11) (hb : gN s 11 ≤ 20000000) (c0 : 0 ≤ c) (c1 : c < 9) : f_X4_set k c v s = some (sE s 11 (9 * k + c) v) := by
  unfold f_X4_set
  rw [w32_id (x := 9 * k) ⟨by omega, by omega⟩, w32_id ⟨by omega, by omega⟩, gd_pos ⟨by omega, by omega⟩, stp_eq]
theorem add45_eq {s : vS} {x1 x2 n : Int} (hn : gI s 10 1 = n) (k0 : 0 ≤ n) (k1 : 9 * n + 9 ≤ gN s 11) (hb : gN s 11 ≤ 20000000) : j_X4_add_45 x1 x2 s = some (n, sI (sE (sE (sE (sE (sE (sE (sE (sE (sE s 11 (9 * n + 0) x1) 11 (9 * n + 1) x2) 11 (9 * n + 2) (-1)) 11 (9 * n + 3) (-1)) 11 (9 * n + 4) (-1)) 11 (9 * n + 5) (-1)) 11 (9 * n + 6) 0) 11 (9 * n + 7) 0) 11 (9 * n + 8) (-1)) 10 1 (n + 1)) := by
  unfold j_X4_add_45
  rw [hn, X4_set_eq k0 k1 hb (by decide) (by decide), bdv_eq]
  simp only [gI_sE]
  rw [hn, X4_set_eq k0 (by simp only [gN_sE]; exact k1) (by simp only [gN_sE]; exact hb) (by decide) (by decide), bdv_eq]
  simp only [gI_sE]
  rw [hn, X4_set_eq k0 (by simp only [gN_sE]; exact k1) (by simp only [gN_sE]; exact hb) (by decide) (by decide), bdv_eq]
  simp only [gI_sE]
  rw [hn, X4_set_eq k0 (by simp only [gN_sE]; exact k1) (by simp only [gN_sE]; exact hb) (by decide) (by decide), bdv_eq]
  simp only [gI_sE]
  rw [hn, X4_set_eq k0 (by simp only [gN_sE]; exact k1) (by simp only [gN_sE]; exact hb) (by decide) (by decide), bdv_eq]
  simp only [gI_sE]
  rw [hn, X4_set_eq k0 (by simp only [gN_sE]; exact k1) (by simp only [gN_sE]; exact hb) (by decide) (by decide), bdv_eq]
  simp only [gI_sE]
  rw [hn, X4_set_eq k0 (by simp only [gN_sE]; exact k1) (by simp only [gN_sE]; exact hb) (by decide) (by decide), bdv_eq]
  simp only [gI_sE]
  rw [hn, X4_set_eq k0 (by simp only [gN_sE]; exact k1) (by simp only [gN_sE]; exact hb) (by decide) (by decide), bdv_eq]
  simp only [gI_sE]
  rw [hn, X4_set_eq k0 (by simp only [gN_sE]; exact k1) (by simp only [gN_sE]; exact hb) (by decide) (by decide), bdv_eq, stp_eq]
  simp only [gI_sE, gI_sI, Nat.reduceEqDiff, Nat.reduceAdd, Nat.reduceLT, Nat.reduceLeDiff, Nat.reduceBEq, reduceIte, and_self, and_true, true_and, and_false, false_and, if_true, if_false, Nat.reduceMul, Int.reduceEq, Int.reduceLT, Int.reduceLE, Int.reduceNeg, Int.reduceAdd, Int.reduceMul, Int.reduceSub]
  rw [hn, w32_id (x := n + 1) ⟨by omega, by omega⟩, w32_id (x := n + 1) ⟨by omega, by omega⟩, w32_id ⟨by omega, by omega⟩, show n + 1 - 1 = n by omega]
theorem X4_add_eq {s : vS} {x1 x2 n : Int} (hn : gI s 10 1 = n) (k0 : 0 ≤ n) (h1 : 9 * n ≤ gN s 11) (h2 : gN s 11 % 9 = 0) (h3 : 576 ≤ gN s 11) (hb : gN s 11 ≤ 10000000) : ∃ t, f_X4_add x1 x2 s = some (n, sI (sE (sE (sE (sE (sE (sE (sE (sE (sE t 11 (9 * n + 0) x1) 11 (9 * n + 1) x2) 11 (9 * n + 2) (-1)) 11 (9 * n + 3) (-1)) 11 (9 * n + 4) (-1)) 11 (9 * n + 5) (-1)) 11 (9 * n + 6) 0) 11 (9 * n + 7) 0) 11 (9 * n + 8) (-1)) 10 1 (n + 1)) ∧ (∀ o f, gI t o f = gI s o f) ∧ 9 * n + 9 ≤ gN t 11 ∧ gN t 11 % 9 = 0 ∧ (gN t 11 = gN s 11 ∨ ((gN t 11 : Int) = 18 * n ∧ 9 * n = gN s 11)) ∧ (∀ i : Int, 0 ≤ i → i < 9 * n → gE t 11 i = gE s 11 i) := by
  unfold f_X4_add
  rw [hn, w32_id (x := 9 * n) ⟨by omega, by omega⟩, w32_id (x := (gN s 11 : Int)) ⟨by omega, by omega⟩]
  by_cases c : 9 * n = (gN s 11 : Int)
  · rw [if_pos c, w32_id (x := 2 * (gN s 11 : Int)) ⟨by omega, by omega⟩, gd_pos ⟨by omega, by omega⟩, stp_eq]
    have e1 : gN (sA s 199 ((2 * (gN s 11 : Int)).toNat, fun _ => 0)) 11 = gN s 11 := by simp only [gI_sI, gI_sR, gI_sA, gI_sE, gI_sw2, gI_rs, gI_cpA, gI_gh1, gL_sI, gL_sR, gL_sA, gL_sE, gL_sw2, gL_rs, gL_cpA, gR_sI, gR_sR, gR_sA, gR_sE, gR_sw2, gR_rs, gR_cpA, gN_sI, gN_sR, gN_gh1, gN_sA, gN_sE, gN_cpA, gN_sw2, gN_rs, gE_gC, gB_gC, gZ_gC, gEL_gC, gC_sI, gC_sR, gC_gh1, gC_sA, gC_sE, gC_cpA, gC_sw2, gC_rs, Nat.reduceEqDiff, Nat.reduceAdd, Nat.reduceLT, Nat.reduceLeDiff, Nat.reduceBEq, reduceIte, and_self, and_true, true_and, and_false, false_and, if_true, if_false, Nat.reduceMul, Int.reduceEq, Int.reduceLT, Int.reduceLE, Int.reduceNeg, Int.reduceAdd, Int.reduceMul, Int.reduceSub]
    rw [e1, w32_id (x := (gN s 11 : Int)) ⟨by omega, by omega⟩, gd_pos (by simp only [gI_sI, gI_sR, gI_sA, gI_sE, gI_sw2, gI_rs, gI_cpA, gI_gh1, gL_sI, gL_sR, gL_sA, gL_sE, gL_sw2, gL_rs, gL_cpA, gR_sI, gR_sR, gR_sA, gR_sE, gR_sw2, gR_rs, gR_cpA, gN_sI, gN_sR, gN_gh1, gN_sA, gN_sE, gN_cpA, gN_sw2, gN_rs, gE_gC, gB_gC, gZ_gC, gEL_gC, gC_sI, gC_sR, gC_gh1, gC_sA, gC_sE, gC_cpA, gC_sw2, gC_rs, Nat.reduceEqDiff, Nat.reduceAdd, Nat.reduceLT, Nat.reduceLeDiff, Nat.reduceBEq, reduceIte, and_self, and_true, true_and, and_false, false_and, if_true, if_false, Nat.reduceMul, Int.reduceEq, Int.reduceLT, Int.reduceLE, Int.reduceNeg, Int.reduceAdd, Int.reduceMul, Int.reduceSub]; omega), stp_eq, gd_pos (by simp only [gI_sI, gI_sR, gI_sA, gI_sE, gI_sw2, gI_rs, gI_cpA, gI_gh1, gL_sI, gL_sR, gL_sA, gL_sE, gL_sw2, gL_rs, gL_cpA, gR_sI, gR_sR, gR_sA, gR_sE, gR_sw2, gR_rs, gR_cpA, gN_sI, gN_sR, gN_gh1, gN_sA, gN_sE, gN_cpA, gN_sw2, gN_rs, gE_gC, gB_gC, gZ_gC, gEL_gC, gC_sI, gC_sR, gC_gh1, gC_sA, gC_sE, gC_cpA, gC_sw2, gC_rs, Nat.reduceEqDiff, Nat.reduceAdd, Nat.reduceLT, Nat.reduceLeDiff, Nat.reduceBEq, reduceIte, and_self, and_true, true_and, and_false, false_and, if_true, if_false, Nat.reduceMul, Int.reduceEq, Int.reduceLT, Int.reduceLE, Int.reduceNeg, Int.reduceAdd, Int.reduceMul, Int.reduceSub]; omega), stp_eq, stp_eq]
    generalize ht : rs (sw2 (cpA (sA s 199 ((2 * (gN s 11 : Int)).toNat, fun x => 0)) 11 199 0 0 (gN s 11)) 11 199) = t
    have i0 : ∀ o f, gI t o f = gI s o f := fun o f => by rw [← ht]; rfl
    have n1 : gN t 11 = 2 * gN s 11 := by rw [← ht]; simp only [gI_sI, gI_sR, gI_sA, gI_sE, gI_sw2, gI_rs, gI_cpA, gI_gh1, gL_sI, gL_sR, gL_sA, gL_sE, gL_sw2, gL_rs, gL_cpA, gR_sI, gR_sR, gR_sA, gR_sE, gR_sw2, gR_rs, gR_cpA, gN_sI, gN_sR, gN_gh1, gN_sA, gN_sE, gN_cpA, gN_sw2, gN_rs, gE_gC, gB_gC, gZ_gC, gEL_gC, gC_sI, gC_sR, gC_gh1, gC_sA, gC_sE, gC_cpA, gC_sw2, gC_rs, Nat.reduceEqDiff, Nat.reduceAdd, Nat.reduceLT, Nat.reduceLeDiff, Nat.reduceBEq, reduceIte, and_self, and_true, true_and, and_false, false_and, if_true, if_false, Nat.reduceMul, Int.reduceEq, Int.reduceLT, Int.reduceLE, Int.reduceNeg, Int.reduceAdd, Int.reduceMul, Int.reduceSub]; omega
    have e2 : ∀ i : Int, 0 ≤ i → i < gN s 11 → gE t 11 i = gE s 11 i := by
      intro i a b; rw [← ht, gE_gC, gE_gC]; simp only [gI_sI, gI_sR, gI_sA, gI_sE, gI_sw2, gI_rs, gI_cpA, gI_gh1, gL_sI, gL_sR, gL_sA, gL_sE, gL_sw2, gL_rs, gL_cpA, gR_sI, gR_sR, gR_sA, gR_sE, gR_sw2, gR_rs, gR_cpA, gN_sI, gN_sR, gN_gh1, gN_sA, gN_sE, gN_cpA, gN_sw2, gN_rs, gE_gC, gB_gC, gZ_gC, gEL_gC, gC_sI, gC_sR, gC_gh1, gC_sA, gC_sE, gC_cpA, gC_sw2, gC_rs, Nat.reduceEqDiff, Nat.reduceAdd, Nat.reduceLT, Nat.reduceLeDiff, Nat.reduceBEq, reduceIte, and_self, and_true, true_and, and_false, false_and, if_true, if_false, Nat.reduceMul, Int.reduceEq, Int.reduceLT, Int.reduceLE, Int.reduceNeg, Int.reduceAdd, Int.reduceMul, Int.reduceSub]
      rw [if_pos (by omega)]; congr 2; omega
    refine ⟨t, add45_eq (by rw [i0]; exact hn) k0 (by omega) (by omega), i0, by omega, by omega, Or.inr ⟨by omega, c⟩, fun i a b => e2 i a (by omega)⟩
  · rw [if_neg c]
    exact ⟨s, add45_eq hn k0 (by omega) (by omega), fun _ _ => rfl, by omega, h2, Or.inl rfl, fun _ _ _ => rfl⟩
section
variable {L : Lx} {X : List Int} {B BT : Nat} {s : vS} {a f p n : Int} {T : Int → Int → Int}
theorem CV.add (h : CV L X B BT s a f p n T) {kind lex : Int} (hk : rg kind) (hl : rg lex) (hB : 18 * n ≤ BT) : ∃ s', f_X4_add kind lex s = some (n, s') ∧ CV L X B BT s' a f p (n + 1) (addT T n kind lex) ∧ Fr W_f_X4_add s s' := by
  have h' := h
  obtain ⟨h1, h2, h3, h4, h5, h6, h7, h8, h9, h10, h11, h12, h13, h14, h15, h16⟩ := h
  obtain ⟨t, e, t1, t2, t3, t4, t5⟩ := X4_add_eq (x1 := kind) (x2 := lex) h7 h10 h11 h12 h13 (by omega)
  have hf := fr_f_X4_add kind lex s _ e
  simp only at hf
  refine ⟨_, e, ?_, hf⟩
  generalize hs : sI (sE (sE (sE (sE (sE (sE (sE (sE (sE t 11 (9 * n + 0) kind) 11 (9 * n + 1) lex) 11 (9 * n + 2) (-1)) 11 (9 * n + 3) (-1)) 11 (9 * n + 4) (-1)) 11 (9 * n + 5) (-1)) 11 (9 * n + 6) 0) 11 (9 * n + 7) 0) 11 (9 * n + 8) (-1)) 10 1 (n + 1) = s' at *
  have n11 : gN s' 11 = gN t 11 := by rw [← hs]; simp only [gI_sI, gI_sR, gI_sA, gI_sE, gI_sw2, gI_rs, gI_cpA, gI_gh1, gL_sI, gL_sR, gL_sA, gL_sE, gL_sw2, gL_rs, gL_cpA, gR_sI, gR_sR, gR_sA, gR_sE, gR_sw2, gR_rs, gR_cpA, gN_sI, gN_sR, gN_gh1, gN_sA, gN_sE, gN_cpA, gN_sw2, gN_rs, gE_gC, gB_gC, gZ_gC, gEL_gC, gC_sI, gC_sR, gC_gh1, gC_sA, gC_sE, gC_cpA, gC_sw2, gC_rs]
  have i1 : gI s' 10 1 = n + 1 := by rw [← hs]; simp only [gI_sI, gI_sR, gI_sA, gI_sE, gI_sw2, gI_rs, gI_cpA, gI_gh1, gL_sI, gL_sR, gL_sA, gL_sE, gL_sw2, gL_rs, gL_cpA, gR_sI, gR_sR, gR_sA, gR_sE, gR_sw2, gR_rs, gR_cpA, gN_sI, gN_sR, gN_gh1, gN_sA, gN_sE, gN_cpA, gN_sw2, gN_rs, gE_gC, gB_gC, gZ_gC, gEL_gC, gC_sI, gC_sR, gC_gh1, gC_sA, gC_sE, gC_cpA, gC_sw2, gC_rs, Nat.reduceEqDiff, Nat.reduceAdd, Nat.reduceLT, Nat.reduceLeDiff, Nat.reduceBEq, reduceIte, and_self, and_true, true_and, and_false, false_and, if_true, if_false, Nat.reduceMul, Int.reduceEq, Int.reduceLT, Int.reduceLE, Int.reduceNeg, Int.reduceAdd, Int.reduceMul, Int.reduceSub]; exact w32_id ⟨by omega, by omega⟩
  refine ⟨?_, ?_, by rw [hf.rR (by decide)]; exact h3, by rw [hf.rI (by decide)]; exact h4, by rw [hf.rI (by decide)]; exact h5, by rw [hf.rI (by decide)]; exact h6, i1, h8, h9, by omega, by rw [n11]; omega, by rw [n11]; exact t3, by rw [n11]; omega, by rw [n11]; omega, h15, ?_⟩
  · obtain ⟨⟨q1, q2, q3, q4⟩, q5, q6, q7⟩ := h1
    refine ⟨⟨by rw [hf.rR (by decide)]; exact q1, q2.fr hf (by decide) (by decide) (by decide), by rw [bts_fr hf (by decide) (by decide) (by decide)]; exact q3, q4⟩, ?_, by rw [hf.rN (by decide) (by decide)]; exact q6, by rw [hf.rE (by decide) (by decide)]; exact q7⟩
    unfold LxW at *
    rw [hf.rN (a := 7) (by decide) (by decide), hf.rN (a := 8) (by decide) (by decide), hf.rN (a := 9) (by decide) (by decide), hf.rI (by decide)]
    exact q5
  · rw [← h2]; unfold lexs
    rw [hf.rE (a := 7) (by decide) (by decide), hf.rE (a := 8) (by decide) (by decide), hf.rE (a := 9) (by decide) (by decide), hf.rI (by decide)]
  · intro k c a1 a2 a3 a4
    rw [← hs, gE_sI]
    simp only [gE_sE, true_and]
    unfold addT
    by_cases d : k = n
    · subst d
      rw [if_pos rfl]
      have : c = 0 ∨ c = 1 ∨ c = 2 ∨ c = 3 ∨ c = 4 ∨ c = 5 ∨ c = 6 ∨ c = 7 ∨ c = 8 := by omega
      have w0 : w32 0 = 0 := by decide
      have w1 : w32 (-1) = -1 := by decide
      rcases this with rfl | rfl | rfl | rfl | rfl | rfl | rfl | rfl | rfl
      all_goals simp (disch := omega) only [if_neg, if_pos, w32_id hk, w32_id hl, w0, w1, Nat.reduceEqDiff, Nat.reduceAdd, Nat.reduceLT, Nat.reduceLeDiff, Nat.reduceBEq, reduceIte, and_self, and_true, true_and, and_false, false_and, if_true, if_false, Nat.reduceMul, Int.reduceEq, Int.reduceLT, Int.reduceLE, Int.reduceNeg, Int.reduceAdd, Int.reduceMul, Int.reduceSub, or_true, true_or, or_false, false_or]
    · rw [if_neg d]
      have g := h16 k c a1 (by omega) a3 a4
      have e2 := t5 (9 * k + c) (by omega) (by omega)
      simp (disch := omega) only [if_neg]
      rw [e2, g]
/-- one more at a list's end -/
theorem CV.chain (h : CV L X B BT s a f p n T) {o c l k : Int} (o0 : 0 ≤ o) (o1 : o < n) (c0 : 0 ≤ c) (c1 : c < 9) (l0 : l = -1 ∨ (0 ≤ l ∧ l < n)) (k0 : 0 ≤ k) (k1 : k < n) : ∃ s', f_X4_chain o c l k s = some (k, s') ∧ CV L X B BT s' a f p n (if l = -1 then updT T o c k else updT T l 8 k) := by
  have hn := h.2.2.2.2.2.2.2.2.2.2.1
  have hb := h.2.2.2.2.2.2.2.2.2.2.2.2.2.1
  have hb2 := h.2.2.2.2.2.2.2.2.2.2.2.2.2.2.1
  unfold f_X4_chain
  by_cases d : l = -1
  · obtain ⟨s', e, q⟩ := h.set o0 o1 c0 c1 (v := k) ⟨by omega, by omega⟩
    rw [if_pos d, if_pos d, e, bdv_eq]; exact ⟨s', rfl, q⟩
  · obtain ⟨s', e, q⟩ := h.set (k := l) (c := 8) (v := k) (by omega) (by omega) (by decide) (by decide) ⟨by omega, by omega⟩
    rw [if_neg d, if_neg d, e, bdv_eq]; exact ⟨s', rfl, q⟩
theorem small_l (h : CV L X B BT s a f p n T) {x e : Int} (x0 : 0 ≤ x) (x1 : x < L.length) (he : enL L x = e) (e1 : e ≤ X.length) (hd : ∀ i : Int, (L.getD x.toNat (0, 0, 0)).2.1 ≤ i → i < e → cDg (cha X i)) : ∀ (k N : Nat) (v i : Int), (L.getD x.toNat (0, 0, 0)).2.1 ≤ i → 0 ≤ i → i ≤ e → e - i ≤ k → k < N → 0 ≤ v → v ≤ 200000000000 → ∃ r, l_X5_small_12 N x v i s = some (r, s) ∧ ((r = dvA v (slc X i e)) ∨ (10000000000 ≤ r ∧ 10000000000 ≤ dvA v (slc X i e))) := by
  intro k
  have hX := h.1.1.2.2.2
  induction k with
  | zero =>
    intro N v i i0 i1 i2 hk hN v0 v1
    obtain ⟨N, rfl⟩ : ∃ q, N = q + 1 := ⟨N - 1, by omega⟩
    unfold l_X5_small_12
    rw [gd_pos h.2.2.1, h.X3e x0 x1, bd_eq, he, if_pos (by omega)]
    exact ⟨v, rfl, Or.inl (by rw [slc_nil (by omega)]; rfl)⟩
  | succ k ih =>
    intro N v i i0 i1 i2 hk hN v0 v1
    obtain ⟨N, rfl⟩ : ∃ q, N = q + 1 := ⟨N - 1, by omega⟩
    unfold l_X5_small_12
    rw [gd_pos h.2.2.1, h.X3e x0 x1, bd_eq, he]
    by_cases c : e ≤ i
    · rw [if_pos c]; exact ⟨v, rfl, Or.inl (by rw [slc_nil (by omega)]; rfl)⟩
    rw [if_neg c]
    by_cases d : (10000000000 : Int) ≤ v
    · rw [if_pos (cmp64_ge.mpr d)]
      refine ⟨v, rfl, Or.inr ⟨d, ?_⟩⟩
      rw [dvA_lin]
      have hp := pow_pos' 10 (by decide) (slc X i e).length
      have nn := (dvA_nn (slc X i e) 0 (by decide) (fun ch hc => by
        unfold slc at hc
        have hm := List.mem_of_mem_take hc
        obtain ⟨j, hj, rfl⟩ := List.mem_iff_getElem.mp hc
        rw [List.length_take, List.length_drop] at hj
        have q := hd (i + j) (by omega) (by omega)
        rw [cha_in (by omega) (by omega)] at q
        simp only [List.getElem_take, List.getElem_drop]
        have e2 : X.getD (i + (j : Int)).toNat 0 = X[i.toNat + j]'(by omega) := by
          rw [show (i + (j : Int)).toNat = i.toNat + j by omega]; exact (List.getElem_eq_getD 0).symm
        rw [e2] at q; exact q)).1
      have : 1 * v ≤ 10 ^ (slc X i e).length * v := Int.mul_le_mul_of_nonneg_right (by omega) (by omega)
      omega
    · have q := hd i i0 (by omega)
      rw [if_neg (fun z => d (cmp64_ge.mp z)), gd_pos h.2.2.1]
      have ht : f_X3_text s = some (3, s) := by unfold f_X3_text; rw [h.1.1.1, gd_ok3]
      rw [ht, bdo_eq, gd_ok3, h.1.1.at i1 (by omega), bd_eq, vl_eq, vl_eq, w64_id (x := 10 * v) ⟨by omega, by omega⟩, w64_id (x := 10 * v + cha X i) ⟨by omega, by omega⟩, w64_id (x := 10 * v + cha X i - 48) ⟨by omega, by omega⟩, w32_id ⟨by omega, by omega⟩]
      obtain ⟨r, r1, r2⟩ := ih N (10 * v + cha X i - 48) (i + 1) (by omega) (by omega) (by omega) (by omega) (by omega) (by omega) (by omega)
      refine ⟨r, r1, ?_⟩
      rw [slc_cons i1 (by omega) e1]
      have ev : dvA v (cha X i :: slc X (i + 1) e) = dvA (10 * v + (cha X i - 48)) (slc X (i + 1) e) := rfl
      rw [ev, show 10 * v + (cha X i - 48) = 10 * v + cha X i - 48 by omega]
      exact r2
/-- a number of a lexeme, or one that is too large -/
theorem CV.small (h : CV L X B BT s a f p n T) {x : Int} (x0 : 0 ≤ x) (x1 : x < L.length) (b0 : 0 ≤ (L.getD x.toNat (0, 0, 0)).2.1) (b1 : (L.getD x.toNat (0, 0, 0)).2.1 ≤ enL L x) (e1 : enL L x ≤ X.length) (hd : ∀ i : Int, (L.getD x.toNat (0, 0, 0)).2.1 ≤ i → i < enL L x → cDg (cha X i)) : ∃ r, f_X5_small x s = some (r, s) ∧ ((r = dvL L X x) ∨ (10000000000 ≤ r ∧ 10000000000 ≤ dvL L X x)) := by
  have hX := h.1.1.2.2.2
  unfold f_X5_small
  rw [gd_pos h.2.2.1, h.X3s x0, bd_eq]
  have es : stL' L X x = (L.getD x.toNat (0, 0, 0)).2.1 := by unfold stL'; rw [if_pos ⟨x0, x1⟩]
  obtain ⟨r, r1, r2⟩ := small_l h x0 x1 rfl e1 hd (enL L x - (L.getD x.toNat (0, 0, 0)).2.1).toNat FU 0 _ (Int.le_refl _) b0 b1 (by omega) (by unfold FU; omega) (by decide) (by decide)
  rw [es, r1, lq_1_eq]
  exact ⟨r, rfl, r2⟩
end
