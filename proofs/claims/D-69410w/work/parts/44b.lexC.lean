set_option maxRecDepth 100000 set_option linter.unusedVariables false set_option linter.unusedSimpArgs false
/-! PURE 44b: lexemes as the class cuts them, on -/
theorem skipBlock_l {s : vS} {T : List Int} (h : LxT s T) : ∀ (k n : Nat) (o a : Int), pl T a → T.length - a ≤ k → k < n → 0 ≤ o → o ≤ 100000 + a → j_X3_skipBlock_84 (l_X3_skipBlock_2 n) o (sI s 5 3 a) = some ((blk T k o a).1, sI s 5 3 (blk T k o a).2) := by
  intro k
  have hT := h.2.2.2
  induction k with
  | zero =>
    intro n o a ha hk hn ho ho2
    have ra : rg a := ⟨by omega, by omega⟩
    unfold j_X3_skipBlock_84 blk
    simp only [(LxT_at h a).1, gd_ok3, X2_size, bd_eq, (LxT_at h a).size, at_sI ra, X3_isLineEnd, X3_isWhite, X3_isLetter, X3_isDigit, X3_isHex, X3_isLarge, b2i_zero, stp_eq, vl_eq, sI_sI]
    by_cases c : o ≤ 0
    · rw [if_pos c]
    · rw [if_neg c, if_neg (by omega)]
  | succ k ih =>
    intro n o a ha hk hn ho ho2
    obtain ⟨n, rfl⟩ : ∃ m, n = m + 1 := ⟨n - 1, by omega⟩
    have ra : rg a := ⟨by omega, by omega⟩; have e0 := hereS h (k := 0) ra (by omega) (by omega); have e1 := hereS h (k := 1) ra (by omega) (by omega); rw [Int.add_zero] at e0
    unfold j_X3_skipBlock_84 blk
    simp only [(LxT_at h a).1, gd_ok3, X2_size, bd_eq, (LxT_at h a).size, at_sI ra, X3_isLineEnd, X3_isWhite, X3_isLetter, X3_isDigit, X3_isHex, X3_isLarge, b2i_zero, stp_eq, vl_eq, sI_sI]
    by_cases c1 : o ≤ 0
    · rw [if_pos c1, if_neg (by omega)]
    rw [if_neg c1]
    by_cases c2 : a < T.length
    · rw [if_pos c2, if_pos (by omega)]
      unfold l_X3_skipBlock_2
      simp only [e0, e1, j_X3_skipBlock_38, j_X3_skipBlock_74, (LxT_at h a).1, gd_ok3, X2_size, bd_eq, (LxT_at h a).size, at_sI ra, X3_isLineEnd, X3_isWhite, X3_isLetter, X3_isDigit, X3_isHex, X3_isLarge, b2i_zero, stp_eq, vl_eq, sI_sI]
      rw [w32_id (x := a + 1) ⟨by omega, by omega⟩, w32_id (x := a + 2) ⟨by omega, by omega⟩, w32_id (x := o + 1) ⟨by omega, by omega⟩, w32_id (x := o + -1) ⟨by omega, by omega⟩]
      have f1 := ih n (o + 1) (a + 2) (by omega) (by omega) (by omega) (by omega) (by omega)
      have f2 := ih n (o + -1) (a + 2) (by omega) (by omega) (by omega) (by omega) (by omega)
      have f3 := ih n o (a + 1) (by omega) (by omega) (by omega) (by omega) (by omega)
      rw [f1, f2, f3, show o + -1 = o - 1 by omega]
      grind
    · rw [if_neg c2, if_neg (by omega)]
theorem X3_skipBlock {s : vS} {T : List Int} (h : LxT s T) {a : Int} (h0 : 0 ≤ a) (h1 : a < T.length) (c0 : cha T a = 47) (c1 : cha T (a + 1) = 42) : f_X3_skipBlock (sI s 5 3 a) = some (b2i ((blk T T.length 1 (a + 2)).1 = 0), sI s 5 3 (blk T T.length 1 (a + 2)).2) := by
  have hT := h.2.2.2
  have ra : rg a := ⟨by omega, by omega⟩; have e0 := hereS h (k := 0) ra (by omega) (by omega); have e1 := hereS h (k := 1) ra (by omega) (by omega); rw [Int.add_zero] at e0
  unfold f_X3_skipBlock
  have e : l_X3_skipBlock_2 FU 0 (sI s 5 3 a) = some ((blk T T.length 1 (a + 2)).1, sI s 5 3 (blk T T.length 1 (a + 2)).2) := by
    rw [show FU = 999999999999 + 1 from rfl]
    unfold l_X3_skipBlock_2
    simp only [e0, e1, c0, c1, (LxT_at h a).1, gd_ok3, X2_size, bd_eq, (LxT_at h a).size, at_sI ra, X3_isLineEnd, X3_isWhite, X3_isLetter, X3_isDigit, X3_isHex, X3_isLarge, b2i_zero, stp_eq, vl_eq, sI_sI, Nat.reduceEqDiff, Nat.reduceAdd, Nat.reduceLT, Nat.reduceLeDiff, Nat.reduceBEq, reduceIte, and_self, and_true, true_and, and_false, false_and, if_true, if_false, Nat.reduceMul, Int.reduceEq, Int.reduceLT, Int.reduceLE, Int.reduceNeg, Int.reduceAdd, Int.reduceMul, Int.reduceSub]
    rw [w32_id (x := a + 2) ⟨by omega, by omega⟩, show w32 1 = 1 by decide]
    exact skipBlock_l h T.length _ 1 (a + 2) (by omega) (by omega) (by omega) (by omega) (by omega)
  rw [e, lq_1_eq]
  unfold j_X3_skipBlock_102 b2i
  by_cases c : (blk T T.length 1 (a + 2)).1 = 0
  · rw [if_pos c, if_pos c]
  · rw [if_neg c, if_neg c]
theorem pName_lt {T : List Int} {i : Int} (h : pName T i) : i < T.length := by
  by_cases c : i < T.length
  · exact c
  · have := cha_out (T := T) (i := i) (by omega)
    unfold pName at h; omega
theorem pDig_lt {T : List Int} {i : Int} (h : pDig T i) : i < T.length := by
  by_cases c : i < T.length
  · exact c
  · have := cha_out (T := T) (i := i) (by omega)
    unfold pDig at h; omega
theorem name_l {s : vS} {T : List Int} (h : LxT s T) (x1 : Int) : ∀ (k n : Nat) (a : Int), pl T a → T.length - a ≤ k → k < n → l_X3_name_15 n x1 (sI s 5 3 a) = some (sI s 5 3 (scan (pName T) k a)) := by
  intro k
  have hT := h.2.2.2
  induction k with
  | zero =>
    intro n a ha hk hn
    obtain ⟨n, rfl⟩ : ∃ m, n = m + 1 := ⟨n - 1, by omega⟩
    have ra : rg a := ⟨by omega, by omega⟩; have e0 := hereS h (k := 0) ra (by omega) (by omega); have e1 := hereS h (k := 1) ra (by omega) (by omega); rw [Int.add_zero] at e0
    unfold l_X3_name_15 scan
    have o0 := cha_out (T := T) (i := a) (by omega)
    simp only [e0, e1, o0, (LxT_at h a).1, gd_ok3, X2_size, bd_eq, (LxT_at h a).size, at_sI ra, X3_isLineEnd, X3_isWhite, X3_isLetter, X3_isDigit, X3_isHex, X3_isLarge, b2i_zero, stp_eq, vl_eq, sI_sI, Nat.reduceEqDiff, Nat.reduceAdd, Nat.reduceLT, Nat.reduceLeDiff, Nat.reduceBEq, reduceIte, and_self, and_true, true_and, and_false, false_and, if_true, if_false, Nat.reduceMul, Int.reduceEq, Int.reduceLT, Int.reduceLE, Int.reduceNeg, Int.reduceAdd, Int.reduceMul, Int.reduceSub]
    simp
  | succ k ih =>
    intro n a ha hk hn
    obtain ⟨n, rfl⟩ : ∃ m, n = m + 1 := ⟨n - 1, by omega⟩
    have ra : rg a := ⟨by omega, by omega⟩; have e0 := hereS h (k := 0) ra (by omega) (by omega); have e1 := hereS h (k := 1) ra (by omega) (by omega); rw [Int.add_zero] at e0
    unfold l_X3_name_15 scan
    simp only [e0, e1, (LxT_at h a).1, gd_ok3, X2_size, bd_eq, (LxT_at h a).size, at_sI ra, X3_isLineEnd, X3_isWhite, X3_isLetter, X3_isDigit, X3_isHex, X3_isLarge, b2i_zero, stp_eq, vl_eq, sI_sI, pName]
    rw [w32_id (x := a + 1) ⟨by omega, by omega⟩]
    have e2 : a < T.length → l_X3_name_15 n x1 (sI s 5 3 (a + 1)) = some (sI s 5 3 (scan (pName T) k (a + 1))) := fun hl => ih n (a + 1) (by omega) (by omega) (by omega)
    have o0 : ¬(a < T.length) → cha T a = -1 := fun q => cha_out (by omega)
    by_cases c1 : a < T.length
    · rw [e2 c1]; grind
    · have o1 := o0 c1; grind
theorem number_l {s : vS} {T : List Int} (h : LxT s T) (x1 : Int) (hx : 0 ≤ x1) (hx2 : x1 < T.length) (hx3 : cha T x1 ≠ 48) : ∀ (k n : Nat) (a : Int), pl T a → T.length - a ≤ k → k < n → l_X3_number_15 n x1 (sI s 5 3 a) = some (sI s 5 3 (scan (pDig T) k a)) := by
  intro k
  have hT := h.2.2.2
  induction k with
  | zero =>
    intro n a ha hk hn
    obtain ⟨n, rfl⟩ : ∃ m, n = m + 1 := ⟨n - 1, by omega⟩
    have ra : rg a := ⟨by omega, by omega⟩; have e0 := hereS h (k := 0) ra (by omega) (by omega); have e1 := hereS h (k := 1) ra (by omega) (by omega); rw [Int.add_zero] at e0
    unfold l_X3_number_15 scan
    have o0 := cha_out (T := T) (i := a) (by omega)
    simp only [e0, e1, o0, (LxT_at h a).1, gd_ok3, X2_size, bd_eq, (LxT_at h a).size, at_sI ra, X3_isLineEnd, X3_isWhite, X3_isLetter, X3_isDigit, X3_isHex, X3_isLarge, b2i_zero, stp_eq, vl_eq, sI_sI, Nat.reduceEqDiff, Nat.reduceAdd, Nat.reduceLT, Nat.reduceLeDiff, Nat.reduceBEq, reduceIte, and_self, and_true, true_and, and_false, false_and, if_true, if_false, Nat.reduceMul, Int.reduceEq, Int.reduceLT, Int.reduceLE, Int.reduceNeg, Int.reduceAdd, Int.reduceMul, Int.reduceSub, (LxT_at h a).at hx hx2, hx3]
    simp
  | succ k ih =>
    intro n a ha hk hn
    obtain ⟨n, rfl⟩ : ∃ m, n = m + 1 := ⟨n - 1, by omega⟩
    have ra : rg a := ⟨by omega, by omega⟩; have e0 := hereS h (k := 0) ra (by omega) (by omega); have e1 := hereS h (k := 1) ra (by omega) (by omega); rw [Int.add_zero] at e0
    unfold l_X3_number_15 scan
    simp only [e0, e1, (LxT_at h a).1, gd_ok3, X2_size, bd_eq, (LxT_at h a).size, at_sI ra, X3_isLineEnd, X3_isWhite, X3_isLetter, X3_isDigit, X3_isHex, X3_isLarge, b2i_zero, stp_eq, vl_eq, sI_sI, pDig, (LxT_at h a).at hx hx2, hx3, if_false]
    rw [w32_id (x := a + 1) ⟨by omega, by omega⟩]
    have e2 : a < T.length → l_X3_number_15 n x1 (sI s 5 3 (a + 1)) = some (sI s 5 3 (scan (pDig T) k (a + 1))) := fun hl => ih n (a + 1) (by omega) (by omega) (by omega)
    have o0 : ¬(a < T.length) → cha T a = -1 := fun q => cha_out (by omega)
    by_cases c1 : a < T.length
    · rw [e2 c1]; grind
    · have o1 := o0 c1; grind
theorem quoted_l {s : vS} {T : List Int} (h : LxT s T) (x1 : Int) : ∀ (k n : Nat) (a : Int), pl T a → T.length - a ≤ k → k < n → l_X3_quoted_15 n x1 (sI s 5 3 a) = some (sI s 5 3 (scanQ T k a)) := by
  intro k
  have hT := h.2.2.2
  induction k with
  | zero =>
    intro n a ha hk hn
    obtain ⟨n, rfl⟩ : ∃ m, n = m + 1 := ⟨n - 1, by omega⟩
    have ra : rg a := ⟨by omega, by omega⟩; have e0 := hereS h (k := 0) ra (by omega) (by omega); have e1 := hereS h (k := 1) ra (by omega) (by omega); rw [Int.add_zero] at e0
    unfold l_X3_quoted_15 scanQ
    have o0 := cha_out (T := T) (i := a) (by omega)
    simp only [e0, e1, o0, (LxT_at h a).1, gd_ok3, X2_size, bd_eq, (LxT_at h a).size, at_sI ra, X3_isLineEnd, X3_isWhite, X3_isLetter, X3_isDigit, X3_isHex, X3_isLarge, b2i_zero, stp_eq, vl_eq, sI_sI, Nat.reduceEqDiff, Nat.reduceAdd, Nat.reduceLT, Nat.reduceLeDiff, Nat.reduceBEq, reduceIte, and_self, and_true, true_and, and_false, false_and, if_true, if_false, Nat.reduceMul, Int.reduceEq, Int.reduceLT, Int.reduceLE, Int.reduceNeg, Int.reduceAdd, Int.reduceMul, Int.reduceSub]
  | succ k ih =>
    intro n a ha hk hn
    obtain ⟨n, rfl⟩ : ∃ m, n = m + 1 := ⟨n - 1, by omega⟩
    have ra : rg a := ⟨by omega, by omega⟩; have e0 := hereS h (k := 0) ra (by omega) (by omega); have e1 := hereS h (k := 1) ra (by omega) (by omega); rw [Int.add_zero] at e0
    unfold l_X3_quoted_15 scanQ
    simp only [e0, e1, (LxT_at h a).1, gd_ok3, X2_size, bd_eq, (LxT_at h a).size, at_sI ra, X3_isLineEnd, X3_isWhite, X3_isLetter, X3_isDigit, X3_isHex, X3_isLarge, b2i_zero, stp_eq, vl_eq, sI_sI, j_X3_quoted_55]
    rw [w32_id (x := a + 1) ⟨by omega, by omega⟩, w32_id (x := a + 2) ⟨by omega, by omega⟩]
    have o0 : ¬(a < T.length) → cha T a = -1 := fun q => cha_out (by omega)
    by_cases c1 : a < T.length
    · rw [ih n (a + 1) (by omega) (by omega) (by omega), ih n (a + 2) (by omega) (by omega) (by omega)]; grind
    · have o1 := o0 c1; grind
theorem digits_l {s : vS} {T : List Int} (h : LxT s T) (x1 : Int) : ∀ (k n : Nat) (b a : Int), pl T a → T.length - a ≤ k → k < n → (b = 0 ∨ b = 1) → l_X3_digits_17 n x1 b (sI s 5 3 a) = some ((scanB T k b a).1, sI s 5 3 (scanB T k b a).2) := by
  intro k
  have hT := h.2.2.2
  induction k with
  | zero =>
    intro n b a ha hk hn hb
    obtain ⟨n, rfl⟩ : ∃ m, n = m + 1 := ⟨n - 1, by omega⟩
    have ra : rg a := ⟨by omega, by omega⟩; have e0 := hereS h (k := 0) ra (by omega) (by omega); have e1 := hereS h (k := 1) ra (by omega) (by omega); rw [Int.add_zero] at e0
    unfold l_X3_digits_17 scanB
    have o0 := cha_out (T := T) (i := a) (by omega)
    simp only [e0, e1, o0, (LxT_at h a).1, gd_ok3, X2_size, bd_eq, (LxT_at h a).size, at_sI ra, X3_isLineEnd, X3_isWhite, X3_isLetter, X3_isDigit, X3_isHex, X3_isLarge, b2i_zero, stp_eq, vl_eq, sI_sI, Nat.reduceEqDiff, Nat.reduceAdd, Nat.reduceLT, Nat.reduceLeDiff, Nat.reduceBEq, reduceIte, and_self, and_true, true_and, and_false, false_and, if_true, if_false, Nat.reduceMul, Int.reduceEq, Int.reduceLT, Int.reduceLE, Int.reduceNeg, Int.reduceAdd, Int.reduceMul, Int.reduceSub]
    simp
  | succ k ih =>
    intro n b a ha hk hn hb
    obtain ⟨n, rfl⟩ : ∃ m, n = m + 1 := ⟨n - 1, by omega⟩
    have ra : rg a := ⟨by omega, by omega⟩; have e0 := hereS h (k := 0) ra (by omega) (by omega); have e1 := hereS h (k := 1) ra (by omega) (by omega); rw [Int.add_zero] at e0
    unfold l_X3_digits_17 scanB
    simp only [e0, e1, (LxT_at h a).1, gd_ok3, X2_size, bd_eq, (LxT_at h a).size, at_sI ra, X3_isLineEnd, X3_isWhite, X3_isLetter, X3_isDigit, X3_isHex, X3_isLarge, b2i_zero, stp_eq, vl_eq, sI_sI, j_X3_digits_39]
    rw [w32_id (x := a + 1) ⟨by omega, by omega⟩]
    have o0 : ¬(a < T.length) → cha T a = -1 := fun q => cha_out (by omega)
    by_cases c1 : a < T.length
    · have f0 := ih n 0 (a + 1) (by omega) (by omega) (by omega) (Or.inl rfl)
      have f1 := ih n 1 (a + 1) (by omega) (by omega) (by omega) (Or.inr rfl)
      have g0 : ∀ (p : Prop) [Decidable p], ¬p → b2i p = 0 := fun p _ q => b2i_zero.mpr q
      have g1 : ∀ (p : Prop) [Decidable p], p → b2i p = 1 := fun p _ q => b2i_one.mpr q
      rw [f0, f1]
      by_cases d : b ≠ 0 ∧ (cWh (cha T a) ∨ cha T a < 50)
      · rw [g1 _ d]; grind
      · rw [g0 _ d]; grind
    · have o1 := o0 c1; grind
