set_option maxRecDepth 100000 set_option linter.unusedVariables false set_option linter.unusedSimpArgs false
/-! PURE 48b: a number of the model is kept, and made -/
theorem mby_cons {s : vS} {a b : Int} (h : a < b) : mby s a b = gE s 149 a :: mby s (a + 1) b := by
  unfold mby; rw [show (b - a).toNat = (b - (a + 1)).toNat + 1 by omega, rowL_cons]
  congr 1
  · simp
  · apply rowL_congr; intro i _; congr 1; push_cast; omega
theorem mby_len {s : vS} {a b : Int} : (mby s a b).length = (b - a).toNat := rowL_len _ _
theorem mby_snoc {s : vS} {a b : Int} (h : a ≤ b) : mby s a (b + 1) = mby s a b ++ [gE s 149 b] := by
  unfold mby; rw [show (b + 1 - a).toNat = (b - a).toNat + 1 by omega, rowL_succ]
  congr 3; omega
theorem keep_l {s : vS} {f z : Int} (hf : 0 ≤ f) (hn : gI s 87 85 ≤ gN s 149) (hn2 : gN s 149 ≤ 8000000) : ∀ (m n : Nat) (k : Int), 0 ≤ k → f + k + m + 1 = gI s 87 85 → mby s (f + k) (gI s 87 85) = be (m + 1) z → fits m z → m + 1 < n → ∃ k' m', l_X14_keepNumber_4 n f k 1 s = some (k', s) ∧ k ≤ k' ∧ f + k' + (m' : Nat) + 1 = gI s 87 85 ∧ isSb m' z ∧ mby s (f + k') (gI s 87 85) = be (m' + 1) z := by
  intro m
  induction m with
  | zero =>
    intro n k k0 hk hb ft hnn
    obtain ⟨n, rfl⟩ : ∃ m, n = m + 1 := ⟨n - 1, by omega⟩
    push_cast at hk
    unfold l_X14_keepNumber_4
    rw [if_neg (by decide), w32_id (x := f + k) ⟨by omega, by omega⟩, w32_id ⟨by omega, by omega⟩, if_pos (by omega)]
    exact ⟨k, 0, rfl, Int.le_refl _, by omega, ⟨ft, Or.inl rfl⟩, hb⟩
  | succ m ih =>
    intro n k k0 hk hb ft hnn
    obtain ⟨n, rfl⟩ : ∃ m, n = m + 1 := ⟨n - 1, by omega⟩
    push_cast at hk
    have rd := redun ft
    have hb0 := hb
    rw [mby_cons (by omega), mby_cons (by omega), be_cons, be_cons] at hb
    have b1 := (List.cons.inj hb).1
    have b2 := (List.cons.inj (List.cons.inj hb).2).1
    have fin : ∀ (N : Nat) (j : Int), 0 < N → l_X14_keepNumber_4 N f j 0 s = some (j, s) := by
      intro N j hN
      obtain ⟨N, rfl⟩ : ∃ q, N = q + 1 := ⟨N - 1, by omega⟩
      unfold l_X14_keepNumber_4; rw [if_pos rfl]
    unfold l_X14_keepNumber_4
    rw [if_neg (by decide), w32_id (x := f + k) ⟨by omega, by omega⟩, w32_id (x := f + k + 1) ⟨by omega, by omega⟩, if_neg (by omega), gd_pos ⟨by omega, by omega⟩, vl_eq, gd_pos ⟨by omega, by omega⟩, vl_eq, b1, b2]
    have go : fits m z → ∃ k' m', j_X14_keepNumber_75 (l_X14_keepNumber_4 n) f k 1 s = some (k', s) ∧ k ≤ k' ∧ f + k' + (m' : Nat) + 1 = gI s 87 85 ∧ isSb m' z ∧ mby s (f + k') (gI s 87 85) = be (m' + 1) z := by
      intro q
      unfold j_X14_keepNumber_75
      rw [if_neg (by decide), vl_eq, w32_id ⟨by omega, by omega⟩]
      have e : mby s (f + (k + 1)) (gI s 87 85) = be (m + 1) z := by
        rw [mby_cons (by omega), be_cons] at hb0
        rw [← Int.add_assoc]; exact (List.cons.inj hb0).2
      obtain ⟨k', m', r1, r2, r3, r4, r5⟩ := ih n (k + 1) (by omega) (by omega) e q (by omega)
      exact ⟨k', m', r1, by omega, r3, r4, r5⟩
    have stop : ¬fits m z → ∃ k' m', j_X14_keepNumber_75 (l_X14_keepNumber_4 n) f k 0 s = some (k', s) ∧ k ≤ k' ∧ f + k' + (m' : Nat) + 1 = gI s 87 85 ∧ isSb m' z ∧ mby s (f + k') (gI s 87 85) = be (m' + 1) z := by
      intro q
      unfold j_X14_keepNumber_75
      rw [if_pos rfl, fin n k (by omega)]
      exact ⟨k, m + 1, rfl, Int.le_refl _, by push_cast; omega, ⟨ft, Or.inr (by rw [Nat.add_sub_cancel]; exact q)⟩, hb0⟩
    have rest : ¬(byt z (m + 1) = 0 ∧ byt z m < 128) → ∃ k' m', j_X14_keepNumber_55 (l_X14_keepNumber_4 n) f k (byt z (m + 1)) (byt z m) s = some (k', s) ∧ k ≤ k' ∧ f + k' + (m' : Nat) + 1 = gI s 87 85 ∧ isSb m' z ∧ mby s (f + k') (gI s 87 85) = be (m' + 1) z := by
      intro nr
      unfold j_X14_keepNumber_55
      by_cases d1 : byt z (m + 1) = 255
      · rw [if_pos d1]
        by_cases d2 : byt z m ≤ 127
        · rw [if_pos d2]; exact stop (fun q => by rcases rd.mpr q with r | r; exact nr r; omega)
        · rw [if_neg d2]; exact go (rd.mp (Or.inr ⟨d1, by omega⟩))
      · rw [if_neg d1]; exact stop (fun q => by rcases rd.mpr q with r | r; exact nr r; exact d1 r.1)
    by_cases d1 : byt z (m + 1) = 0
    · rw [if_pos d1]
      by_cases d2 : byt z m < 128
      · rw [if_pos d2]; exact go (rd.mp (Or.inl ⟨d1, d2⟩))
      · rw [if_neg d2]; exact rest (fun q => d2 q.2)
    · rw [if_neg d1]; exact rest (fun q => d1 q.1)
theorem keep132 {s : vS} {V : List Int} {z f k : Int} {m : Nat} (h : MN s V) (hl : V.length < gN s 147) (hf : 0 ≤ f) (hk : 0 ≤ k) (hm : f + k + m + 1 = gI s 87 85) (hsb : isSb m z) (hb : mby s (f + k) (gI s 87 85) = be (m + 1) z) : ∃ t, j_X14_keepNumber_132 f k s = some ((V.length : Int), t) ∧ MN t (V ++ [z]) ∧ gI t 87 85 = gI s 87 85 ∧ gN t 147 = gN s 147 ∧ gN t 149 = gN s 149 := by
  obtain ⟨a1, a2, a3, a4, a5, a6, a7, a8, a9, a10⟩ := h
  unfold j_X14_keepNumber_132
  rw [gd_pos ⟨by omega, by omega⟩, stp_eq, gd_pos (by simp only [gI_sI, gI_sR, gI_sA, gI_sE, gI_sw2, gI_rs, gI_cpA, gI_gh1, gL_sI, gL_sR, gL_sA, gL_sE, gL_sw2, gL_rs, gL_cpA, gR_sI, gR_sR, gR_sA, gR_sE, gR_sw2, gR_rs, gR_cpA, gN_sI, gN_sR, gN_gh1, gN_sA, gN_sE, gN_cpA, gN_sw2, gN_rs, gE_gC, gB_gC, gZ_gC, gEL_gC, gC_sI, gC_sR, gC_gh1, gC_sA, gC_sE, gC_cpA, gC_sw2, gC_rs]; omega), stp_eq, stp_eq]
  simp only [gI_sI, gI_sR, gI_sA, gI_sE, gI_sw2, gI_rs, gI_cpA, gI_gh1, gL_sI, gL_sR, gL_sA, gL_sE, gL_sw2, gL_rs, gL_cpA, gR_sI, gR_sR, gR_sA, gR_sE, gR_sw2, gR_rs, gR_cpA, gN_sI, gN_sR, gN_gh1, gN_sA, gN_sE, gN_cpA, gN_sw2, gN_rs, gE_gC, gB_gC, gZ_gC, gEL_gC, gC_sI, gC_sR, gC_gh1, gC_sA, gC_sE, gC_cpA, gC_sw2, gC_rs, Nat.reduceEqDiff, Nat.reduceAdd, Nat.reduceLT, Nat.reduceLeDiff, Nat.reduceBEq, reduceIte, and_self, and_true, true_and, and_false, false_and, if_true, if_false, Nat.reduceMul, Int.reduceEq, Int.reduceLT, Int.reduceLE, Int.reduceNeg, Int.reduceAdd, Int.reduceMul, Int.reduceSub]
  rw [w32_id (x := f + k) ⟨by omega, by omega⟩, w32_id (x := gI s 87 85 - f) ⟨by omega, by omega⟩, w32_id (x := gI s 87 85 - f - k) ⟨by omega, by omega⟩, w32_id (x := gI s 87 84 + 1) ⟨by omega, by omega⟩, w32_id (x := gI s 87 84 + 1) ⟨by omega, by omega⟩]
  rw [w32_id (x := gI s 87 84 + 1 - 1) ⟨by omega, by omega⟩]
  generalize hs : sI (sE (sE s 147 (gI s 87 84) (f + k)) 148 (gI s 87 84) (gI s 87 85 - f - k)) 87 84 (gI s 87 84 + 1) = t
  have i4 : gI t 87 84 = gI s 87 84 + 1 := by rw [← hs]; simp only [gI_sI, gI_sR, gI_sA, gI_sE, gI_sw2, gI_rs, gI_cpA, gI_gh1, gL_sI, gL_sR, gL_sA, gL_sE, gL_sw2, gL_rs, gL_cpA, gR_sI, gR_sR, gR_sA, gR_sE, gR_sw2, gR_rs, gR_cpA, gN_sI, gN_sR, gN_gh1, gN_sA, gN_sE, gN_cpA, gN_sw2, gN_rs, gE_gC, gB_gC, gZ_gC, gEL_gC, gC_sI, gC_sR, gC_gh1, gC_sA, gC_sE, gC_cpA, gC_sw2, gC_rs, Nat.reduceEqDiff, Nat.reduceAdd, Nat.reduceLT, Nat.reduceLeDiff, Nat.reduceBEq, reduceIte, and_self, and_true, true_and, and_false, false_and, if_true, if_false, Nat.reduceMul, Int.reduceEq, Int.reduceLT, Int.reduceLE, Int.reduceNeg, Int.reduceAdd, Int.reduceMul, Int.reduceSub]; exact w32_id ⟨by omega, by omega⟩
  have i5 : gI t 87 85 = gI s 87 85 := by rw [← hs]; simp only [gI_sI, gI_sR, gI_sA, gI_sE, gI_sw2, gI_rs, gI_cpA, gI_gh1, gL_sI, gL_sR, gL_sA, gL_sE, gL_sw2, gL_rs, gL_cpA, gR_sI, gR_sR, gR_sA, gR_sE, gR_sw2, gR_rs, gR_cpA, gN_sI, gN_sR, gN_gh1, gN_sA, gN_sE, gN_cpA, gN_sw2, gN_rs, gE_gC, gB_gC, gZ_gC, gEL_gC, gC_sI, gC_sR, gC_gh1, gC_sA, gC_sE, gC_cpA, gC_sw2, gC_rs, Nat.reduceEqDiff, Nat.reduceAdd, Nat.reduceLT, Nat.reduceLeDiff, Nat.reduceBEq, reduceIte, and_self, and_true, true_and, and_false, false_and, if_true, if_false, Nat.reduceMul, Int.reduceEq, Int.reduceLT, Int.reduceLE, Int.reduceNeg, Int.reduceAdd, Int.reduceMul, Int.reduceSub]
  have nn : ∀ b, gN t b = gN s b := by intro b; rw [← hs]; simp only [gI_sI, gI_sR, gI_sA, gI_sE, gI_sw2, gI_rs, gI_cpA, gI_gh1, gL_sI, gL_sR, gL_sA, gL_sE, gL_sw2, gL_rs, gL_cpA, gR_sI, gR_sR, gR_sA, gR_sE, gR_sw2, gR_rs, gR_cpA, gN_sI, gN_sR, gN_gh1, gN_sA, gN_sE, gN_cpA, gN_sw2, gN_rs, gE_gC, gB_gC, gZ_gC, gEL_gC, gC_sI, gC_sR, gC_gh1, gC_sA, gC_sE, gC_cpA, gC_sw2, gC_rs]
  have e7 : ∀ i, gE t 147 i = if i = gI s 87 84 then f + k else gE s 147 i := by
    intro i; rw [← hs, gE_sI, gE_sE, gE_sE]; simp only [Nat.reduceEqDiff, Nat.reduceAdd, Nat.reduceLT, Nat.reduceLeDiff, Nat.reduceBEq, reduceIte, and_self, and_true, true_and, and_false, false_and, if_true, if_false, Nat.reduceMul, Int.reduceEq, Int.reduceLT, Int.reduceLE, Int.reduceNeg, Int.reduceAdd, Int.reduceMul, Int.reduceSub]; rw [w32_id ⟨by omega, by omega⟩]
  have e8 : ∀ i, gE t 148 i = if i = gI s 87 84 then gI s 87 85 - f - k else gE s 148 i := by
    intro i; rw [← hs, gE_sI, gE_sE, gE_sE]; simp only [Nat.reduceEqDiff, Nat.reduceAdd, Nat.reduceLT, Nat.reduceLeDiff, Nat.reduceBEq, reduceIte, and_self, and_true, true_and, and_false, false_and, if_true, if_false, Nat.reduceMul, Int.reduceEq, Int.reduceLT, Int.reduceLE, Int.reduceNeg, Int.reduceAdd, Int.reduceMul, Int.reduceSub]; rw [w32_id ⟨by omega, by omega⟩]
  have e9 : gE t 149 = gE s 149 := by
    funext i; rw [← hs, gE_sI, gE_sE, gE_sE]; simp only [Nat.reduceEqDiff, Nat.reduceAdd, Nat.reduceLT, Nat.reduceLeDiff, Nat.reduceBEq, reduceIte, and_self, and_true, true_and, and_false, false_and, if_true, if_false, Nat.reduceMul, Int.reduceEq, Int.reduceLT, Int.reduceLE, Int.reduceNeg, Int.reduceAdd, Int.reduceMul, Int.reduceSub]
  refine ⟨t, by congr 2; omega, ⟨?_, ?_, ?_, ?_, ?_, ?_, ?_, ?_, ?_, ?_⟩, i5, nn 147, nn 149⟩
  · rw [i4, List.length_append]; push_cast; simp; omega
  · omega
  · rw [nn]; omega
  · rw [nn, List.length_append]; simp; omega
  · rw [nn, nn]; exact a5
  · rw [nn]; exact a6
  · rw [nn]; exact a7
  · rw [nn]; exact a8
  · rw [nn]; exact a9
  · intro n hn
    rw [List.length_append, List.length_singleton] at hn
    unfold mnum
    rw [e7, e8, i5]
    by_cases c : n = V.length
    · subst c
      rw [if_pos a1.symm, if_pos a1.symm]
      refine ⟨by omega, by omega, by omega, m, ?_, ?_⟩
      · simp [List.getD]; exact hsb
      · rw [show f + k + (gI s 87 85 - f - k) = gI s 87 85 by omega, mby_eq (s := s) (fun i _ _ => by rw [e9]), hb]
        simp [List.getD]
    · have hn2 : n < V.length := by omega
      rw [if_neg (by omega), if_neg (by omega)]
      obtain ⟨b1, b2, b3, b4⟩ := a10 n hn2
      refine ⟨b1, b2, b3, ?_⟩
      rw [mby_eq (s := s) (fun i _ _ => by rw [e9])]
      have : (V ++ [z]).getD n 0 = V.getD n 0 := by simp [List.getD, List.getElem?_append_left hn2]
      rw [this]; exact b4
theorem MN_lgr {s t : vS} {V : List Int} {a : Nat} {x : Int} (h : MN s V) (ha : a = 147 ∨ a = 148) (hl : Lgr s a x t) (hx : gN s a ≤ x) : (∀ n : Nat, n < V.length → 0 ≤ gE t 147 n ∧ 0 ≤ gE t 148 n ∧ gE t 147 n + gE t 148 n ≤ gI t 87 85 ∧ SB (V.getD n 0) (mnum t n)) ∧ gE t 149 = gE s 149 := by
  obtain ⟨a1, a2, a3, a4, a5, a6, a7, a8, a9, a10⟩ := h
  have e9 : gE t 149 = gE s 149 := hl.E (by decide) (by rcases ha with rfl | rfl <;> decide)
  refine ⟨fun n hn => ?_, e9⟩
  have e7 : gE t 147 n = gE s 147 n := by
    rcases ha with rfl | rfl
    · exact hl.2.2.2 n (by omega) (by omega)
    · rw [hl.E (by decide) (by decide)]
  have e8 : gE t 148 n = gE s 148 n := by
    rcases ha with rfl | rfl
    · rw [hl.E (by decide) (by decide)]
    · exact hl.2.2.2 n (by omega) (by omega)
  obtain ⟨b1, b2, b3, b4⟩ := a10 n hn
  unfold mnum at *
  rw [e7, e8, hl.1, mby_eq (s := s) (fun i _ _ => by rw [e9])]
  exact ⟨b1, b2, b3, b4⟩
/-- bytes that lie behind all others become a number -/
theorem X14_keepNumber {s : vS} {V : List Int} {z f : Int} {m : Nat} (h : MN s V) (hV : V.length < 400000) (hf : 0 ≤ f) (hm : f + m + 1 = gI s 87 85) (ft : fits m z) (hb : mby s f (gI s 87 85) = be (m + 1) z) : ∃ t, f_X14_keepNumber f s = some ((V.length : Int), t) ∧ MN t (V ++ [z]) ∧ gI t 87 85 = gI s 87 85 ∧ (gN t 147 = gN s 147 ∨ (gN t 147 : Int) ≤ 2 * V.length) ∧ gN t 149 = gN s 149 := by
  have h' := h
  obtain ⟨a1, a2, a3, a4, a5, a6, a7, a8, a9, a10⟩ := h
  rw [f_X14_keepNumber]
  obtain ⟨k, m', r1, r2, r3, r4, r5⟩ := keep_l hf a3 a9 m FU 0 (by decide) (by omega) (by rw [Int.add_zero]; exact hb) ft (by unfold FU; omega)
  rw [r1, lq_1_eq]
  unfold j_X14_keepNumber_86
  rw [w32_id (x := (gN s 147 : Int)) ⟨by omega, by omega⟩]
  by_cases c : gI s 87 84 = (gN s 147 : Int)
  · rw [if_pos c, w32_id (x := 2 * gI s 87 84) ⟨by omega, by omega⟩]
    obtain ⟨s1, l1, l2, l3, l4⟩ := X14_longer (s := s) (a := 147) (x := 2 * gI s 87 84) (by decide) (by omega) (by omega)
    rw [l1, bdv_eq, gd_pos ⟨by omega, by omega⟩, stp_eq, stp_eq]
    generalize rs (sw2 s1 147 199) = t1 at *
    have q8 := l4.2.1 148 (by decide) (by decide)
    have q9 := l4.2.1 149 (by decide) (by decide)
    have m1 := MN_lgr h' (Or.inl rfl) l4 (by omega)
    rw [l4.1, w32_id (x := 2 * gI s 87 84) ⟨by omega, by omega⟩]
    obtain ⟨s2, p1, p2, p3, p4⟩ := X14_longer (s := t1) (a := 148) (x := 2 * gI s 87 84) (by decide) (by omega) (by omega)
    rw [p1, bdv_eq, gd_pos ⟨by omega, by omega⟩, stp_eq, stp_eq]
    generalize rs (sw2 s2 148 199) = t2 at *
    have u7 := p4.2.1 147 (by decide) (by decide)
    have u9 := p4.2.1 149 (by decide) (by decide)
    have g7 := l4.2.2.1
    have g8 := p4.2.2.1
    have n9 : gN t1 149 = gN s 149 := q9.1
    have n9' : gN t2 149 = gN t1 149 := u9.1
    have n7' : gN t2 147 = gN t1 147 := u7.1
    have M1 : MN t2 V := by
      refine ⟨by rw [p4.1, l4.1]; exact a1, by rw [p4.1, l4.1]; exact a2, by rw [p4.1, l4.1]; omega, by omega, by omega, by omega, by omega, by omega, by omega, ?_⟩
      intro n hn
      have e7 : gE t2 147 n = gE s 147 n := by rw [p4.E (by decide) (by decide)]; exact l4.2.2.2 n (by omega) (by omega)
      have e8 : gE t2 148 n = gE s 148 n := by rw [p4.2.2.2 n (by omega) (by omega), l4.E (by decide) (by decide)]
      have e9 : gE t2 149 = gE s 149 := by rw [p4.E (by decide) (by decide), l4.E (by decide) (by decide)]
      obtain ⟨b1, b2, b3, b4⟩ := a10 n hn
      unfold mnum at *
      rw [e7, e8, p4.1, l4.1, mby_eq (s := s) (fun i _ _ => by rw [e9])]
      exact ⟨b1, b2, b3, b4⟩
    have i5 : gI t2 87 85 = gI s 87 85 := by rw [p4.1, l4.1]
    have e9 : gE t2 149 = gE s 149 := by rw [p4.E (by decide) (by decide), l4.E (by decide) (by decide)]
    obtain ⟨t, w1, w2, w3, w4, w5⟩ := keep132 (k := k) M1 (by omega) hf (by omega) (by rw [i5]; exact r3) r4 (by rw [i5, mby_eq (s := s) (fun i _ _ => by rw [e9])]; exact r5)
    exact ⟨t, w1, w2, by omega, by omega, by omega⟩
  · rw [if_neg c]
    obtain ⟨t, w1, w2, w3, w4, w5⟩ := keep132 (k := k) h' (by omega) hf (by omega) r3 r4 r5
    exact ⟨t, w1, w2, w3, Or.inl w4, w5⟩
