set_option maxRecDepth 100000 set_option linter.unusedVariables false set_option linter.unusedSimpArgs false
/-! PURE 44: lexemes as the class cuts them -/
theorem sI_sI (s : vS) (o f : Nat) (a b : Int) : sI (sI s o f a) o f b = sI s o f b := by
  unfold sI; refine Prod.ext ?_ rfl; funext o' f'
  by_cases h : o' = o ∧ f' = f <;> simp [h]
theorem X3_isWhite (x : Int) (s : vS) : f_X3_isWhite x s = some (b2i (cWh x), s) := by
  unfold f_X3_isWhite j_X3_isWhite_12 b2i cWh
  by_cases h1 : x < 9
  · rw [if_pos h1]; by_cases h2 : x = 32
    · omega
    · rw [if_neg h2, if_neg (by omega)]
  · rw [if_neg h1]; by_cases h2 : x ≤ 13
    · rw [if_pos h2, if_pos (by omega)]
    · rw [if_neg h2]; by_cases h3 : x = 32
      · rw [if_pos h3, if_pos (by omega)]
      · rw [if_neg h3, if_neg (by omega)]
theorem X3_isLineEnd (x : Int) (s : vS) : f_X3_isLineEnd x s = some (b2i (cLe x), s) := by
  unfold f_X3_isLineEnd b2i cLe
  by_cases h1 : x < 10
  · rw [if_pos h1, if_neg (by omega)]
  · rw [if_neg h1]; by_cases h2 : 13 < x
    · rw [if_pos h2, if_neg (by omega)]
    · rw [if_neg h2, if_pos (by omega)]
theorem X3_isLarge (x : Int) (s : vS) : f_X3_isLarge x s = some (b2i (cLa x), s) := by
  unfold f_X3_isLarge b2i cLa
  by_cases h1 : x < 65
  · rw [if_pos h1, if_neg (by omega)]
  · rw [if_neg h1]; by_cases h2 : 90 < x
    · rw [if_pos h2, if_neg (by omega)]
    · rw [if_neg h2, if_pos (by omega)]
theorem X3_isDigit (x : Int) (s : vS) : f_X3_isDigit x s = some (b2i (cDg x), s) := by
  unfold f_X3_isDigit b2i cDg
  by_cases h1 : x < 48
  · rw [if_pos h1, if_neg (by omega)]
  · rw [if_neg h1]; by_cases h2 : 57 < x
    · rw [if_pos h2, if_neg (by omega)]
    · rw [if_neg h2, if_pos (by omega)]
theorem X3_isLetter (x : Int) (s : vS) : f_X3_isLetter x s = some (b2i (cLt x), s) := by
  unfold f_X3_isLetter
  rw [X3_isLarge, bd_eq]
  unfold b2i cLt cLa
  by_cases h : 65 ≤ x ∧ x ≤ 90
  · simp [h]
  · simp only [h, if_false, if_true, false_or]
    by_cases h1 : x < 97
    · rw [if_pos h1, if_neg (by omega)]
    · rw [if_neg h1]; by_cases h2 : 122 < x
      · rw [if_pos h2, if_neg (by omega)]
      · rw [if_neg h2, if_pos (by omega)]
theorem X3_isHex (x : Int) (s : vS) : f_X3_isHex x s = some (b2i (cHx x), s) := by
  unfold f_X3_isHex
  rw [X3_isDigit, bd_eq]
  unfold b2i cHx cDg
  by_cases h : 48 ≤ x ∧ x ≤ 57
  · simp [h]
  · simp only [h, if_false, if_true, false_or]
    by_cases h1 : x < 65
    · rw [if_pos h1, if_neg (by omega)]
    · rw [if_neg h1]; by_cases h2 : 70 < x
      · rw [if_pos h2, if_neg (by omega)]
      · rw [if_neg h2, if_pos (by omega)]
/-- the text that is cut -/
def LxT (s : vS) (T : List Int) : Prop := gR s 5 2 = 3 ∧ BW s 3 ∧ bts s 3 = T ∧ T.length ≤ 32768
theorem LxT_at {s : vS} {T : List Int} (h : LxT s T) (a : Int) : LxT (sI s 5 3 a) T := by
  obtain ⟨h1, h2, h3, h4⟩ := h
  refine ⟨h1, ?_, ?_, h4⟩
  · unfold BW at *; simp only [gI_sI, gI_sR, gI_sA, gI_sE, gI_sw2, gI_rs, gI_cpA, gI_gh1, gL_sI, gL_sR, gL_sA, gL_sE, gL_sw2, gL_rs, gL_cpA, gR_sI, gR_sR, gR_sA, gR_sE, gR_sw2, gR_rs, gR_cpA, gN_sI, gN_sR, gN_gh1, gN_sA, gN_sE, gN_cpA, gN_sw2, gN_rs, gE_gC, gB_gC, gZ_gC, gEL_gC, gC_sI, gC_sR, gC_gh1, gC_sA, gC_sE, gC_cpA, gC_sw2, gC_rs, Nat.reduceEqDiff, Nat.reduceAdd, Nat.reduceLT, Nat.reduceLeDiff, Nat.reduceBEq, reduceIte, and_self, and_true, true_and, and_false, false_and, if_true, if_false, Nat.reduceMul, Int.reduceEq, Int.reduceLT, Int.reduceLE, Int.reduceNeg, Int.reduceAdd, Int.reduceMul, Int.reduceSub]; exact h2
  · rw [← h3]; unfold bts; simp only [gI_sI, gI_sR, gI_sA, gI_sE, gI_sw2, gI_rs, gI_cpA, gI_gh1, gL_sI, gL_sR, gL_sA, gL_sE, gL_sw2, gL_rs, gL_cpA, gR_sI, gR_sR, gR_sA, gR_sE, gR_sw2, gR_rs, gR_cpA, gN_sI, gN_sR, gN_gh1, gN_sA, gN_sE, gN_cpA, gN_sw2, gN_rs, gE_gC, gB_gC, gZ_gC, gEL_gC, gC_sI, gC_sR, gC_gh1, gC_sA, gC_sE, gC_cpA, gC_sw2, gC_rs, Nat.reduceEqDiff, Nat.reduceAdd, Nat.reduceLT, Nat.reduceLeDiff, Nat.reduceBEq, reduceIte, and_self, and_true, true_and, and_false, false_and, if_true, if_false, Nat.reduceMul, Int.reduceEq, Int.reduceLT, Int.reduceLE, Int.reduceNeg, Int.reduceAdd, Int.reduceMul, Int.reduceSub]
theorem LxT.size {s : vS} {T : List Int} (h : LxT s T) : gI s 3 1 = T.length := by
  obtain ⟨h1, h2, h3, h4⟩ := h; rw [← h3, h2.len]
theorem LxT.at {s : vS} {T : List Int} (h : LxT s T) {x : Int} (h0 : 0 ≤ x) (h1 : x < T.length) : f_X2_at 3 x s = some (cha T x, s) := by
  rw [X2_at' h.2.1 h0 (by rw [h.size]; exact h1), cha_in h0 h1, h.2.2.1]
theorem LxT.ok {s : vS} {T : List Int} (h : LxT s T) : okB (gR s 5 2) 1 := by rw [h.1]; exact ⟨by decide, by decide⟩
theorem gd_ok3 {α : Type} {k : Option α} : gd (okB 3 1) k = k := gd_pos ⟨by decide, by decide⟩
theorem X3_here {s : vS} {T : List Int} (h : LxT s T) {k : Int} (h0 : 0 ≤ gI s 5 3 + k) (h1 : gI s 5 3 + k ≤ 2147483647) : f_X3_here k s = some (cha T (gI s 5 3 + k), s) := by
  unfold f_X3_here
  rw [gd_pos h.ok, h.1, X2_size, bd_eq, h.size, w32_id ⟨by omega, h1⟩]
  by_cases c : (T.length : Int) ≤ gI s 5 3 + k
  · rw [if_pos c, cha_out c]
  · rw [if_neg c, gd_pos h.ok, h.1, h.at h0 (by omega), bd_eq]
theorem at_sI {s : vS} {a : Int} (h : rg a) : gI (sI s 5 3 a) 5 3 = a := by simp only [gI_sI, gI_sR, gI_sA, gI_sE, gI_sw2, gI_rs, gI_cpA, gI_gh1, gL_sI, gL_sR, gL_sA, gL_sE, gL_sw2, gL_rs, gL_cpA, gR_sI, gR_sR, gR_sA, gR_sE, gR_sw2, gR_rs, gR_cpA, gN_sI, gN_sR, gN_gh1, gN_sA, gN_sE, gN_cpA, gN_sw2, gN_rs, gE_gC, gB_gC, gZ_gC, gEL_gC, gC_sI, gC_sR, gC_gh1, gC_sA, gC_sE, gC_cpA, gC_sw2, gC_rs, Nat.reduceEqDiff, Nat.reduceAdd, Nat.reduceLT, Nat.reduceLeDiff, Nat.reduceBEq, reduceIte, and_self, and_true, true_and, and_false, false_and, if_true, if_false, Nat.reduceMul, Int.reduceEq, Int.reduceLT, Int.reduceLE, Int.reduceNeg, Int.reduceAdd, Int.reduceMul, Int.reduceSub]; exact w32_id h
theorem hereS {s : vS} {T : List Int} (h : LxT s T) {a k : Int} (ha : rg a) (h0 : 0 ≤ a + k) (h1 : a + k ≤ 2147483647) : f_X3_here k (sI s 5 3 a) = some (cha T (a + k), sI s 5 3 a) := by
  have := X3_here (LxT_at h a) (k := k) (by rw [at_sI ha]; exact h0) (by rw [at_sI ha]; exact h1)
  rw [at_sI ha] at this; exact this
/-- a place of the text -/
abbrev pl (T : List Int) (a : Int) : Prop := 0 ≤ a ∧ a ≤ 100000
theorem skipLine_l {s : vS} {T : List Int} (h : LxT s T) : ∀ (k n : Nat) (a : Int), pl T a → T.length - a ≤ k → k < n → l_X3_skipLine_10 n (sI s 5 3 a) = some (sI s 5 3 (scan (pLine T) k a)) := by
  intro k
  have hT := h.2.2.2
  induction k with
  | zero =>
    intro n a ha hk hn
    obtain ⟨n, rfl⟩ : ∃ m, n = m + 1 := ⟨n - 1, by omega⟩
    unfold l_X3_skipLine_10
    rw [gd_pos (LxT_at h a).ok, (LxT_at h a).1, X2_size, bd_eq, (LxT_at h a).size, at_sI ⟨by omega, by omega⟩, if_pos (by omega)]
    rfl
  | succ k ih =>
    intro n a ha hk hn
    obtain ⟨n, rfl⟩ : ∃ m, n = m + 1 := ⟨n - 1, by omega⟩
    have ra : rg a := ⟨by omega, by omega⟩
    have e0 := hereS h (k := 0) ra (by omega) (by omega)
    have e1 := hereS h (k := 1) ra (by omega) (by omega)
    rw [Int.add_zero] at e0
    unfold l_X3_skipLine_10 scan
    simp only [(LxT_at h a).1, gd_ok3, pLine, X2_size, bd_eq, (LxT_at h a).size, at_sI ra, e0, e1, X3_isLineEnd, b2i_zero, stp, sI_sI]
    rw [w32_id ⟨by omega, by omega⟩]
    have e2 : a < T.length → l_X3_skipLine_10 n (sI s 5 3 (a + 1)) = some (sI s 5 3 (scan (pLine T) k (a + 1))) := fun hl => ih n (a + 1) (by omega) (by omega) (by omega)
    grind
theorem X3_skipLine {s : vS} {T : List Int} (h : LxT s T) {a : Int} (h0 : 0 ≤ a) (h1 : a ≤ T.length) : f_X3_skipLine (sI s 5 3 a) = some (sI s 5 3 (lineE T (a + 2))) := by
  have hT := h.2.2.2
  unfold f_X3_skipLine
  simp only [stp, sI_sI]
  rw [at_sI ⟨by omega, by omega⟩, w32_id ⟨by omega, by omega⟩, skipLine_l h T.length FU (a + 2) (by omega) (by omega) (by unfold FU; omega), lq_0_eq]
  have hs := scan_le (pLine T) (n := T.length) (fun i hi => hi.1) T.length (a + 2)
  have hb : scan (pLine T) T.length (a + 2) ≤ 40000 := by
    by_cases c : a + 2 ≤ T.length
    · have := hs.2 c; omega
    · have e : scan (pLine T) T.length (a + 2) = a + 2 := scan_id _ (fun q => by have := q.1; omega)
      omega
  have ra : rg (scan (pLine T) T.length (a + 2)) := ⟨by omega, by omega⟩
  unfold j_X3_skipLine_68
  have e0 := hereS h (k := 0) ra (by omega) (by omega)
  rw [Int.add_zero] at e0
  simp only [e0, bd_eq, stp, sI_sI, at_sI ra]
  rw [w32_id ⟨by omega, by omega⟩]
  unfold lineE
  simp only []
  by_cases c : cha T (scan (pLine T) T.length (a + 2)) = 45
  · rw [if_pos c, if_pos c]
  · rw [if_neg c, if_neg c]
