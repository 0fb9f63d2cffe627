set_option maxRecDepth 100000 set_option linter.unusedVariables false set_option linter.unusedSimpArgs false
/-! PURE 51: the class's grammar: its small steps -/
def updT (T : Int → Int → Int) (k c v : Int) : Int → Int → Int := fun k' c' => if k' = k ∧ c' = c then v else T k' c'
def addT (T : Int → Int → Int) (n kind lex : Int) : Int → Int → Int := fun k c => if k = n then (if c = 0 then kind else if c = 1 then lex else if c = 6 ∨ c = 7 then 0 else -1) else T k c
/-- the grammar's state: lexemes L of text X; where it is, its fault and place, how many nodes, their columns -/
def CV (L : Lx) (X : List Int) (B BT : Nat) (s : vS) (a f p n : Int) (T : Int → Int → Int) : Prop :=
  LxI s X B ∧ lexs s = L ∧ gR s 12 0 = 5 ∧ gI s 12 2 = a ∧ gI s 12 3 = f ∧ gI s 12 4 = p ∧ gI s 10 1 = n ∧ 0 ≤ a ∧ a ≤ 100000 ∧ 0 ≤ n ∧ 9 * n ≤ gN s 11 ∧ gN s 11 % 9 = 0 ∧ 576 ≤ gN s 11 ∧ gN s 11 ≤ BT ∧ BT ≤ 10000000 ∧ ∀ k c : Int, 0 ≤ k → k < n → 0 ≤ c → c < 9 → gE s 11 (9 * k + c) = T k c
theorem lexs_get {s : vS} {L : Lx} (h : lexs s = L) {B : Nat} (hw : LxW s B) {a : Int} (h0 : 0 ≤ a) (h1 : a < L.length) : (L.getD a.toNat (0, 0, 0)) = (gE s 7 a, gE s 8 a, gE s 9 a) := by
  have hl := lexs_len hw
  rw [h] at hl
  rw [← h, lexs, rowL_getD _ _ (by omega), Int.toNat_of_nonneg h0]
section
variable {L : Lx} {X : List Int} {B BT : Nat} {s : vS} {a f p n : Int} {T : Int → Int → Int}
theorem CV.len (h : CV L X B BT s a f p n T) : gI s 5 7 = L.length := by
  have := lexs_len h.1.2.1; rw [h.2.1] at this; omega
theorem CV.X3k (h : CV L X B BT s a f p n T) {k : Int} (k0 : 0 ≤ k) : f_X3_kind k s = some (kdL L k, s) := by
  unfold f_X3_kind kdL
  rw [h.len]
  by_cases c : (L.length : Int) ≤ k
  · rw [if_pos c, if_neg (by omega)]
  · have hw := h.1.2.1
    have hl := h.len
    rw [if_neg c, if_pos ⟨k0, by omega⟩, gd_pos ⟨k0, by have := hw.2.2.2.2.2.2; omega⟩, lexs_get h.2.1 hw k0 (by omega)]
theorem CV.X3s (h : CV L X B BT s a f p n T) {k : Int} (k0 : 0 ≤ k) : f_X3_start k s = some (stL' L X k, s) := by
  unfold f_X3_start stL'
  rw [h.len]
  have hw := h.1.2.1
  have hl := h.len
  by_cases c : (L.length : Int) ≤ k
  · rw [if_pos c, if_neg (by omega), gd_pos h.1.1.ok, h.1.1.1, X2_size, bd_eq, h.1.1.size]
  · rw [if_neg c, if_pos ⟨k0, by omega⟩, gd_pos ⟨k0, by have := hw.2.2.2.2.2.2; have := hw.1; omega⟩, lexs_get h.2.1 hw k0 (by omega)]
theorem CV.X3e (h : CV L X B BT s a f p n T) {k : Int} (k0 : 0 ≤ k) (k1 : k < L.length) : f_X3_end k s = some (enL L k, s) := by
  unfold f_X3_end enL
  have hw := h.1.2.1
  have hl := h.len
  rw [gd_pos ⟨k0, by have := hw.2.2.2.2.2.2; have := hw.2.1; omega⟩, lexs_get h.2.1 hw k0 k1]
theorem CV.is (h : CV L X B BT s a f p n T) (K : Int) : f_X5_is K s = some (b2i (kdL L a = K), s) := by
  unfold f_X5_is b2i
  rw [gd_pos h.2.2.1, h.2.2.2.1, h.X3k h.2.2.2.2.2.2.2.1, bd_eq]
  by_cases c : kdL L a = K
  · rw [if_pos c, if_pos c]
  · rw [if_neg c, if_neg c]
theorem CV.kind (h : CV L X B BT s a f p n T) : f_X5_kind s = some (kdL L a, s) := by
  unfold f_X5_kind
  rw [gd_pos h.2.2.1, h.2.2.2.1, h.X3k h.2.2.2.2.2.2.2.1, bd_eq]
theorem X5_uns (x : Int) (s : vS) : f_X5_isUnsupported x s = some (b2i (x ∈ unsK), s) := by
  have e : x ∈ unsK ↔ (x = 11 ∨ x = 13 ∨ x = 14 ∨ x = 26 ∨ x = 101 ∨ x = 102 ∨ x = 104 ∨ x = 107 ∨ x = 110 ∨ x = 112 ∨ x = 114 ∨ x = 119 ∨ x = 122 ∨ x = 124 ∨ x = 126 ∨ x = 128 ∨ x = 129 ∨ x = 131 ∨ x = 136 ∨ x = 137 ∨ x = 138 ∨ x = 140 ∨ x = 141 ∨ x = 146 ∨ x = 151 ∨ x = 157 ∨ x = 158 ∨ x = 164 ∨ x = 167 ∨ x = 168 ∨ x = 173 ∨ x = 174 ∨ x = 175 ∨ x = 176) := by
    unfold unsK; simp only [List.mem_cons, List.not_mem_nil, or_false]
  rw [b2i_congr e]
  unfold f_X5_isUnsupported b2i
  by_cases c : (x = 11 ∨ x = 13 ∨ x = 14 ∨ x = 26 ∨ x = 101 ∨ x = 102 ∨ x = 104 ∨ x = 107 ∨ x = 110 ∨ x = 112 ∨ x = 114 ∨ x = 119 ∨ x = 122 ∨ x = 124 ∨ x = 126 ∨ x = 128 ∨ x = 129 ∨ x = 131 ∨ x = 136 ∨ x = 137 ∨ x = 138 ∨ x = 140 ∨ x = 141 ∨ x = 146 ∨ x = 151 ∨ x = 157 ∨ x = 158 ∨ x = 164 ∨ x = 167 ∨ x = 168 ∨ x = 173 ∨ x = 174 ∨ x = 175 ∨ x = 176)
  · rw [if_pos c]
    rcases c with rfl | rfl | rfl | rfl | rfl | rfl | rfl | rfl | rfl | rfl | rfl | rfl | rfl | rfl | rfl | rfl | rfl | rfl | rfl | rfl | rfl | rfl | rfl | rfl | rfl | rfl | rfl | rfl | rfl | rfl | rfl | rfl | rfl | rfl <;> rfl
  · rw [if_neg c]
    simp only [not_or] at c
    simp only [c, if_false]
/-- where it is may change -/
theorem CV.go (h : CV L X B BT s a f p n T) {b : Int} (b0 : 0 ≤ b) (b1 : b ≤ 100000) : CV L X B BT (sI s 12 2 b) b f p n T := by
  obtain ⟨h1, h2, h3, h4, h5, h6, h7, h8, h9, h10, h11, h12, h13, h14, h15, h16⟩ := h
  refine ⟨?_, ?_, h3, ?_, ?_, ?_, ?_, b0, b1, h10, h11, h12, h13, h14, h15, h16⟩
  · obtain ⟨⟨q1, q2, q3, q4⟩, q5, q6, q7⟩ := h1
    refine ⟨⟨q1, ?_, ?_, q4⟩, ?_, q6, q7⟩
    · unfold BW at *; simp only [gI_sI, gI_sR, gI_sA, gI_sE, gI_sw2, gI_rs, gI_cpA, gI_gh1, gL_sI, gL_sR, gL_sA, gL_sE, gL_sw2, gL_rs, gL_cpA, gR_sI, gR_sR, gR_sA, gR_sE, gR_sw2, gR_rs, gR_cpA, gN_sI, gN_sR, gN_gh1, gN_sA, gN_sE, gN_cpA, gN_sw2, gN_rs, gE_gC, gB_gC, gZ_gC, gEL_gC, gC_sI, gC_sR, gC_gh1, gC_sA, gC_sE, gC_cpA, gC_sw2, gC_rs, Nat.reduceEqDiff, Nat.reduceAdd, Nat.reduceLT, Nat.reduceLeDiff, Nat.reduceBEq, reduceIte, and_self, and_true, true_and, and_false, false_and, if_true, if_false, Nat.reduceMul, Int.reduceEq, Int.reduceLT, Int.reduceLE, Int.reduceNeg, Int.reduceAdd, Int.reduceMul, Int.reduceSub]; exact q2
    · rw [← q3]; unfold bts; simp only [gI_sI, gI_sR, gI_sA, gI_sE, gI_sw2, gI_rs, gI_cpA, gI_gh1, gL_sI, gL_sR, gL_sA, gL_sE, gL_sw2, gL_rs, gL_cpA, gR_sI, gR_sR, gR_sA, gR_sE, gR_sw2, gR_rs, gR_cpA, gN_sI, gN_sR, gN_gh1, gN_sA, gN_sE, gN_cpA, gN_sw2, gN_rs, gE_gC, gB_gC, gZ_gC, gEL_gC, gC_sI, gC_sR, gC_gh1, gC_sA, gC_sE, gC_cpA, gC_sw2, gC_rs, Nat.reduceEqDiff, Nat.reduceAdd, Nat.reduceLT, Nat.reduceLeDiff, Nat.reduceBEq, reduceIte, and_self, and_true, true_and, and_false, false_and, if_true, if_false, Nat.reduceMul, Int.reduceEq, Int.reduceLT, Int.reduceLE, Int.reduceNeg, Int.reduceAdd, Int.reduceMul, Int.reduceSub]
    · unfold LxW at *; simp only [gI_sI, gI_sR, gI_sA, gI_sE, gI_sw2, gI_rs, gI_cpA, gI_gh1, gL_sI, gL_sR, gL_sA, gL_sE, gL_sw2, gL_rs, gL_cpA, gR_sI, gR_sR, gR_sA, gR_sE, gR_sw2, gR_rs, gR_cpA, gN_sI, gN_sR, gN_gh1, gN_sA, gN_sE, gN_cpA, gN_sw2, gN_rs, gE_gC, gB_gC, gZ_gC, gEL_gC, gC_sI, gC_sR, gC_gh1, gC_sA, gC_sE, gC_cpA, gC_sw2, gC_rs, Nat.reduceEqDiff, Nat.reduceAdd, Nat.reduceLT, Nat.reduceLeDiff, Nat.reduceBEq, reduceIte, and_self, and_true, true_and, and_false, false_and, if_true, if_false, Nat.reduceMul, Int.reduceEq, Int.reduceLT, Int.reduceLE, Int.reduceNeg, Int.reduceAdd, Int.reduceMul, Int.reduceSub]; exact q5
  · rw [← h2]; unfold lexs; simp only [gI_sI, gI_sR, gI_sA, gI_sE, gI_sw2, gI_rs, gI_cpA, gI_gh1, gL_sI, gL_sR, gL_sA, gL_sE, gL_sw2, gL_rs, gL_cpA, gR_sI, gR_sR, gR_sA, gR_sE, gR_sw2, gR_rs, gR_cpA, gN_sI, gN_sR, gN_gh1, gN_sA, gN_sE, gN_cpA, gN_sw2, gN_rs, gE_gC, gB_gC, gZ_gC, gEL_gC, gC_sI, gC_sR, gC_gh1, gC_sA, gC_sE, gC_cpA, gC_sw2, gC_rs, Nat.reduceEqDiff, Nat.reduceAdd, Nat.reduceLT, Nat.reduceLeDiff, Nat.reduceBEq, reduceIte, and_self, and_true, true_and, and_false, false_and, if_true, if_false, Nat.reduceMul, Int.reduceEq, Int.reduceLT, Int.reduceLE, Int.reduceNeg, Int.reduceAdd, Int.reduceMul, Int.reduceSub]
  · simp only [gI_sI, gI_sR, gI_sA, gI_sE, gI_sw2, gI_rs, gI_cpA, gI_gh1, gL_sI, gL_sR, gL_sA, gL_sE, gL_sw2, gL_rs, gL_cpA, gR_sI, gR_sR, gR_sA, gR_sE, gR_sw2, gR_rs, gR_cpA, gN_sI, gN_sR, gN_gh1, gN_sA, gN_sE, gN_cpA, gN_sw2, gN_rs, gE_gC, gB_gC, gZ_gC, gEL_gC, gC_sI, gC_sR, gC_gh1, gC_sA, gC_sE, gC_cpA, gC_sw2, gC_rs, Nat.reduceEqDiff, Nat.reduceAdd, Nat.reduceLT, Nat.reduceLeDiff, Nat.reduceBEq, reduceIte, and_self, and_true, true_and, and_false, false_and, if_true, if_false, Nat.reduceMul, Int.reduceEq, Int.reduceLT, Int.reduceLE, Int.reduceNeg, Int.reduceAdd, Int.reduceMul, Int.reduceSub]; exact w32_id ⟨by omega, by omega⟩
  · simp only [gI_sI, gI_sR, gI_sA, gI_sE, gI_sw2, gI_rs, gI_cpA, gI_gh1, gL_sI, gL_sR, gL_sA, gL_sE, gL_sw2, gL_rs, gL_cpA, gR_sI, gR_sR, gR_sA, gR_sE, gR_sw2, gR_rs, gR_cpA, gN_sI, gN_sR, gN_gh1, gN_sA, gN_sE, gN_cpA, gN_sw2, gN_rs, gE_gC, gB_gC, gZ_gC, gEL_gC, gC_sI, gC_sR, gC_gh1, gC_sA, gC_sE, gC_cpA, gC_sw2, gC_rs, Nat.reduceEqDiff, Nat.reduceAdd, Nat.reduceLT, Nat.reduceLeDiff, Nat.reduceBEq, reduceIte, and_self, and_true, true_and, and_false, false_and, if_true, if_false, Nat.reduceMul, Int.reduceEq, Int.reduceLT, Int.reduceLE, Int.reduceNeg, Int.reduceAdd, Int.reduceMul, Int.reduceSub]; exact h5
  · simp only [gI_sI, gI_sR, gI_sA, gI_sE, gI_sw2, gI_rs, gI_cpA, gI_gh1, gL_sI, gL_sR, gL_sA, gL_sE, gL_sw2, gL_rs, gL_cpA, gR_sI, gR_sR, gR_sA, gR_sE, gR_sw2, gR_rs, gR_cpA, gN_sI, gN_sR, gN_gh1, gN_sA, gN_sE, gN_cpA, gN_sw2, gN_rs, gE_gC, gB_gC, gZ_gC, gEL_gC, gC_sI, gC_sR, gC_gh1, gC_sA, gC_sE, gC_cpA, gC_sw2, gC_rs, Nat.reduceEqDiff, Nat.reduceAdd, Nat.reduceLT, Nat.reduceLeDiff, Nat.reduceBEq, reduceIte, and_self, and_true, true_and, and_false, false_and, if_true, if_false, Nat.reduceMul, Int.reduceEq, Int.reduceLT, Int.reduceLE, Int.reduceNeg, Int.reduceAdd, Int.reduceMul, Int.reduceSub]; exact h6
  · simp only [gI_sI, gI_sR, gI_sA, gI_sE, gI_sw2, gI_rs, gI_cpA, gI_gh1, gL_sI, gL_sR, gL_sA, gL_sE, gL_sw2, gL_rs, gL_cpA, gR_sI, gR_sR, gR_sA, gR_sE, gR_sw2, gR_rs, gR_cpA, gN_sI, gN_sR, gN_gh1, gN_sA, gN_sE, gN_cpA, gN_sw2, gN_rs, gE_gC, gB_gC, gZ_gC, gEL_gC, gC_sI, gC_sR, gC_gh1, gC_sA, gC_sE, gC_cpA, gC_sw2, gC_rs, Nat.reduceEqDiff, Nat.reduceAdd, Nat.reduceLT, Nat.reduceLeDiff, Nat.reduceBEq, reduceIte, and_self, and_true, true_and, and_false, false_and, if_true, if_false, Nat.reduceMul, Int.reduceEq, Int.reduceLT, Int.reduceLE, Int.reduceNeg, Int.reduceAdd, Int.reduceMul, Int.reduceSub]; exact h7
theorem CV.next (h : CV L X B BT s a f p n T) (ha : a < 100000) : CV L X B BT (sI s 12 2 (w32 (gI s 12 2 + 1))) (a + 1) f p n T := by
  have := h.2.2.2.2.2.2.2.1
  rw [h.2.2.2.1, w32_id ⟨by omega, by omega⟩]
  exact h.go (by omega) (by omega)
theorem CV.fail (h : CV L X B BT s a f p n T) {c q : Int} (hc : rg c) (hq : rg q) : CV L X B BT (sI (sI s 12 3 c) 12 4 q) a c q n T := by
  obtain ⟨h1, h2, h3, h4, h5, h6, h7, h8, h9, h10, h11, h12, h13, h14, h15, h16⟩ := h
  refine ⟨?_, ?_, h3, ?_, ?_, ?_, ?_, h8, h9, h10, h11, h12, h13, h14, h15, h16⟩
  · obtain ⟨⟨q1, q2, q3, q4⟩, q5, q6, q7⟩ := h1
    refine ⟨⟨q1, ?_, ?_, q4⟩, ?_, q6, q7⟩
    · unfold BW at *; simp only [gI_sI, gI_sR, gI_sA, gI_sE, gI_sw2, gI_rs, gI_cpA, gI_gh1, gL_sI, gL_sR, gL_sA, gL_sE, gL_sw2, gL_rs, gL_cpA, gR_sI, gR_sR, gR_sA, gR_sE, gR_sw2, gR_rs, gR_cpA, gN_sI, gN_sR, gN_gh1, gN_sA, gN_sE, gN_cpA, gN_sw2, gN_rs, gE_gC, gB_gC, gZ_gC, gEL_gC, gC_sI, gC_sR, gC_gh1, gC_sA, gC_sE, gC_cpA, gC_sw2, gC_rs, Nat.reduceEqDiff, Nat.reduceAdd, Nat.reduceLT, Nat.reduceLeDiff, Nat.reduceBEq, reduceIte, and_self, and_true, true_and, and_false, false_and, if_true, if_false, Nat.reduceMul, Int.reduceEq, Int.reduceLT, Int.reduceLE, Int.reduceNeg, Int.reduceAdd, Int.reduceMul, Int.reduceSub]; exact q2
    · rw [← q3]; unfold bts; simp only [gI_sI, gI_sR, gI_sA, gI_sE, gI_sw2, gI_rs, gI_cpA, gI_gh1, gL_sI, gL_sR, gL_sA, gL_sE, gL_sw2, gL_rs, gL_cpA, gR_sI, gR_sR, gR_sA, gR_sE, gR_sw2, gR_rs, gR_cpA, gN_sI, gN_sR, gN_gh1, gN_sA, gN_sE, gN_cpA, gN_sw2, gN_rs, gE_gC, gB_gC, gZ_gC, gEL_gC, gC_sI, gC_sR, gC_gh1, gC_sA, gC_sE, gC_cpA, gC_sw2, gC_rs, Nat.reduceEqDiff, Nat.reduceAdd, Nat.reduceLT, Nat.reduceLeDiff, Nat.reduceBEq, reduceIte, and_self, and_true, true_and, and_false, false_and, if_true, if_false, Nat.reduceMul, Int.reduceEq, Int.reduceLT, Int.reduceLE, Int.reduceNeg, Int.reduceAdd, Int.reduceMul, Int.reduceSub]
    · unfold LxW at *; simp only [gI_sI, gI_sR, gI_sA, gI_sE, gI_sw2, gI_rs, gI_cpA, gI_gh1, gL_sI, gL_sR, gL_sA, gL_sE, gL_sw2, gL_rs, gL_cpA, gR_sI, gR_sR, gR_sA, gR_sE, gR_sw2, gR_rs, gR_cpA, gN_sI, gN_sR, gN_gh1, gN_sA, gN_sE, gN_cpA, gN_sw2, gN_rs, gE_gC, gB_gC, gZ_gC, gEL_gC, gC_sI, gC_sR, gC_gh1, gC_sA, gC_sE, gC_cpA, gC_sw2, gC_rs, Nat.reduceEqDiff, Nat.reduceAdd, Nat.reduceLT, Nat.reduceLeDiff, Nat.reduceBEq, reduceIte, and_self, and_true, true_and, and_false, false_and, if_true, if_false, Nat.reduceMul, Int.reduceEq, Int.reduceLT, Int.reduceLE, Int.reduceNeg, Int.reduceAdd, Int.reduceMul, Int.reduceSub]; exact q5
  · rw [← h2]; unfold lexs; simp only [gI_sI, gI_sR, gI_sA, gI_sE, gI_sw2, gI_rs, gI_cpA, gI_gh1, gL_sI, gL_sR, gL_sA, gL_sE, gL_sw2, gL_rs, gL_cpA, gR_sI, gR_sR, gR_sA, gR_sE, gR_sw2, gR_rs, gR_cpA, gN_sI, gN_sR, gN_gh1, gN_sA, gN_sE, gN_cpA, gN_sw2, gN_rs, gE_gC, gB_gC, gZ_gC, gEL_gC, gC_sI, gC_sR, gC_gh1, gC_sA, gC_sE, gC_cpA, gC_sw2, gC_rs, Nat.reduceEqDiff, Nat.reduceAdd, Nat.reduceLT, Nat.reduceLeDiff, Nat.reduceBEq, reduceIte, and_self, and_true, true_and, and_false, false_and, if_true, if_false, Nat.reduceMul, Int.reduceEq, Int.reduceLT, Int.reduceLE, Int.reduceNeg, Int.reduceAdd, Int.reduceMul, Int.reduceSub]
  · simp only [gI_sI, gI_sR, gI_sA, gI_sE, gI_sw2, gI_rs, gI_cpA, gI_gh1, gL_sI, gL_sR, gL_sA, gL_sE, gL_sw2, gL_rs, gL_cpA, gR_sI, gR_sR, gR_sA, gR_sE, gR_sw2, gR_rs, gR_cpA, gN_sI, gN_sR, gN_gh1, gN_sA, gN_sE, gN_cpA, gN_sw2, gN_rs, gE_gC, gB_gC, gZ_gC, gEL_gC, gC_sI, gC_sR, gC_gh1, gC_sA, gC_sE, gC_cpA, gC_sw2, gC_rs, Nat.reduceEqDiff, Nat.reduceAdd, Nat.reduceLT, Nat.reduceLeDiff, Nat.reduceBEq, reduceIte, and_self, and_true, true_and, and_false, false_and, if_true, if_false, Nat.reduceMul, Int.reduceEq, Int.reduceLT, Int.reduceLE, Int.reduceNeg, Int.reduceAdd, Int.reduceMul, Int.reduceSub]; exact h4
  · simp only [gI_sI, gI_sR, gI_sA, gI_sE, gI_sw2, gI_rs, gI_cpA, gI_gh1, gL_sI, gL_sR, gL_sA, gL_sE, gL_sw2, gL_rs, gL_cpA, gR_sI, gR_sR, gR_sA, gR_sE, gR_sw2, gR_rs, gR_cpA, gN_sI, gN_sR, gN_gh1, gN_sA, gN_sE, gN_cpA, gN_sw2, gN_rs, gE_gC, gB_gC, gZ_gC, gEL_gC, gC_sI, gC_sR, gC_gh1, gC_sA, gC_sE, gC_cpA, gC_sw2, gC_rs, Nat.reduceEqDiff, Nat.reduceAdd, Nat.reduceLT, Nat.reduceLeDiff, Nat.reduceBEq, reduceIte, and_self, and_true, true_and, and_false, false_and, if_true, if_false, Nat.reduceMul, Int.reduceEq, Int.reduceLT, Int.reduceLE, Int.reduceNeg, Int.reduceAdd, Int.reduceMul, Int.reduceSub]; exact w32_id hc
  · simp only [gI_sI, gI_sR, gI_sA, gI_sE, gI_sw2, gI_rs, gI_cpA, gI_gh1, gL_sI, gL_sR, gL_sA, gL_sE, gL_sw2, gL_rs, gL_cpA, gR_sI, gR_sR, gR_sA, gR_sE, gR_sw2, gR_rs, gR_cpA, gN_sI, gN_sR, gN_gh1, gN_sA, gN_sE, gN_cpA, gN_sw2, gN_rs, gE_gC, gB_gC, gZ_gC, gEL_gC, gC_sI, gC_sR, gC_gh1, gC_sA, gC_sE, gC_cpA, gC_sw2, gC_rs, Nat.reduceEqDiff, Nat.reduceAdd, Nat.reduceLT, Nat.reduceLeDiff, Nat.reduceBEq, reduceIte, and_self, and_true, true_and, and_false, false_and, if_true, if_false, Nat.reduceMul, Int.reduceEq, Int.reduceLT, Int.reduceLE, Int.reduceNeg, Int.reduceAdd, Int.reduceMul, Int.reduceSub]; exact w32_id hq
  · simp only [gI_sI, gI_sR, gI_sA, gI_sE, gI_sw2, gI_rs, gI_cpA, gI_gh1, gL_sI, gL_sR, gL_sA, gL_sE, gL_sw2, gL_rs, gL_cpA, gR_sI, gR_sR, gR_sA, gR_sE, gR_sw2, gR_rs, gR_cpA, gN_sI, gN_sR, gN_gh1, gN_sA, gN_sE, gN_cpA, gN_sw2, gN_rs, gE_gC, gB_gC, gZ_gC, gEL_gC, gC_sI, gC_sR, gC_gh1, gC_sA, gC_sE, gC_cpA, gC_sw2, gC_rs, Nat.reduceEqDiff, Nat.reduceAdd, Nat.reduceLT, Nat.reduceLeDiff, Nat.reduceBEq, reduceIte, and_self, and_true, true_and, and_false, false_and, if_true, if_false, Nat.reduceMul, Int.reduceEq, Int.reduceLT, Int.reduceLE, Int.reduceNeg, Int.reduceAdd, Int.reduceMul, Int.reduceSub]; exact h7
theorem CV.st_rg (h : CV L X B BT s a f p n T) (k : Int) : rg (stL' L X k) := by
  unfold stL'
  by_cases c : 0 ≤ k ∧ k < L.length
  · rw [if_pos c, lexs_get h.2.1 h.1.2.1 c.1 c.2]; exact gE_rg _ _ _
  · rw [if_neg c]; have := h.1.1.2.2.2; exact ⟨by omega, by omega⟩
theorem CV.wrong (h : CV L X B BT s a f p n T) {c k : Int} (k0 : 0 ≤ k) (hc : rg c) : ∃ s', f_X5_wrong c k s = some (0, s') ∧ (f = 0 → CV L X B BT s' a c (stL' L X k) n T) ∧ (f ≠ 0 → s' = s) := by
  unfold f_X5_wrong
  rw [h.2.2.2.2.1]
  by_cases d : f = 0
  · rw [if_pos d, stp_eq, gd_pos (by simp only [gI_sI, gI_sR, gI_sA, gI_sE, gI_sw2, gI_rs, gI_cpA, gI_gh1, gL_sI, gL_sR, gL_sA, gL_sE, gL_sw2, gL_rs, gL_cpA, gR_sI, gR_sR, gR_sA, gR_sE, gR_sw2, gR_rs, gR_cpA, gN_sI, gN_sR, gN_gh1, gN_sA, gN_sE, gN_cpA, gN_sw2, gN_rs, gE_gC, gB_gC, gZ_gC, gEL_gC, gC_sI, gC_sR, gC_gh1, gC_sA, gC_sE, gC_cpA, gC_sw2, gC_rs]; exact h.2.2.1)]
    have h3 : f_X3_start k (sI s 12 3 c) = some (stL' L X k, sI s 12 3 c) := by
      have h2 := h.X3s k0
      unfold f_X3_start at h2 ⊢
      have e1 : gI (sI s 12 3 c) 5 7 = gI s 5 7 := by simp only [gI_sI, gI_sR, gI_sA, gI_sE, gI_sw2, gI_rs, gI_cpA, gI_gh1, gL_sI, gL_sR, gL_sA, gL_sE, gL_sw2, gL_rs, gL_cpA, gR_sI, gR_sR, gR_sA, gR_sE, gR_sw2, gR_rs, gR_cpA, gN_sI, gN_sR, gN_gh1, gN_sA, gN_sE, gN_cpA, gN_sw2, gN_rs, gE_gC, gB_gC, gZ_gC, gEL_gC, gC_sI, gC_sR, gC_gh1, gC_sA, gC_sE, gC_cpA, gC_sw2, gC_rs, Nat.reduceEqDiff, Nat.reduceAdd, Nat.reduceLT, Nat.reduceLeDiff, Nat.reduceBEq, reduceIte, and_self, and_true, true_and, and_false, false_and, if_true, if_false, Nat.reduceMul, Int.reduceEq, Int.reduceLT, Int.reduceLE, Int.reduceNeg, Int.reduceAdd, Int.reduceMul, Int.reduceSub]
      have e2 : gR (sI s 12 3 c) 5 2 = 3 := h.1.1.1
      have e3 : gI (sI s 12 3 c) 3 1 = gI s 3 1 := by simp only [gI_sI, gI_sR, gI_sA, gI_sE, gI_sw2, gI_rs, gI_cpA, gI_gh1, gL_sI, gL_sR, gL_sA, gL_sE, gL_sw2, gL_rs, gL_cpA, gR_sI, gR_sR, gR_sA, gR_sE, gR_sw2, gR_rs, gR_cpA, gN_sI, gN_sR, gN_gh1, gN_sA, gN_sE, gN_cpA, gN_sw2, gN_rs, gE_gC, gB_gC, gZ_gC, gEL_gC, gC_sI, gC_sR, gC_gh1, gC_sA, gC_sE, gC_cpA, gC_sw2, gC_rs, Nat.reduceEqDiff, Nat.reduceAdd, Nat.reduceLT, Nat.reduceLeDiff, Nat.reduceBEq, reduceIte, and_self, and_true, true_and, and_false, false_and, if_true, if_false, Nat.reduceMul, Int.reduceEq, Int.reduceLT, Int.reduceLE, Int.reduceNeg, Int.reduceAdd, Int.reduceMul, Int.reduceSub]
      rw [h.1.1.1] at h2
      rw [e1, e2]
      by_cases z : gI s 5 7 ≤ k
      · rw [if_pos z, gd_ok3, X2_size, bd_eq] at h2
        rw [if_pos z, gd_ok3, X2_size, bd_eq, e3]
        have := (Prod.mk.inj (Option.some.inj h2)).1
        rw [this]
      · rw [if_neg z] at h2 ⊢
        have gg := gd_some h2
        rw [gd_pos gg.1] at h2
        have := (Prod.mk.inj (Option.some.inj h2)).1
        rw [gN_sI, gd_pos gg.1, gE_sI, this]
    rw [h3, bd_eq, stp_eq]
    exact ⟨_, rfl, fun _ => h.fail hc (h.st_rg k), fun z => absurd d z⟩
  · rw [if_neg d]; exact ⟨s, rfl, fun z => absurd z d, fun _ => rfl⟩
theorem CV.unfit (h : CV L X B BT s a f p n T) : ∃ s', f_X5_unfit s = some (0, s') ∧ (f = 0 → CV L X B BT s' a (flt L X a).1 (flt L X a).2 n T) ∧ (f ≠ 0 → s' = s) := by
  unfold f_X5_unfit
  rw [h.kind, bd_eq, X5_uns, bd_eq]
  have ha := h.2.2.2.2.2.2.2.1
  unfold j_X5_unfit_16 flt
  rw [h.2.2.2.1]
  by_cases c : kdL L a ∈ unsK
  · rw [if_neg (by rw [b2i_zero]; exact fun z => z c)]
    obtain ⟨s', e, q1, q2⟩ := h.wrong (c := 3) (k := a) ha (rgl rfl)
    rw [e, bd_eq, gd_pos (Or.inl rfl)]
    simp only [c, if_true]
    exact ⟨s', rfl, q1, q2⟩
  · rw [if_pos (by rw [b2i_zero]; exact c)]
    obtain ⟨s', e, q1, q2⟩ := h.wrong (c := 2) (k := a) ha (rgl rfl)
    rw [e, bd_eq, gd_pos (Or.inl rfl)]
    simp only [c, if_false]
    exact ⟨s', rfl, q1, q2⟩
/-- what taking one of a kind leaves -/
theorem CV.take (h : CV L X B BT s a f p n T) (K : Int) (ha : a < 100000) : ∃ r s', f_X5_take K s = some (r, s') ∧ (f = 0 → kdL L a = K → r = 1 ∧ CV L X B BT s' (a + 1) 0 p n T) ∧ (f = 0 → kdL L a ≠ K → r = 0 ∧ CV L X B BT s' a (flt L X a).1 (flt L X a).2 n T) ∧ (f ≠ 0 → r = 0 ∧ s' = s) := by
  unfold f_X5_take
  rw [h.2.2.2.2.1]
  obtain ⟨s', e, q1, q2⟩ := h.unfit
  by_cases d : f = 0
  · rw [if_pos d, h.is, bd_eq]
    by_cases c : kdL L a = K
    · rw [if_neg (by rw [b2i_zero]; exact fun z => z c), stp_eq]
      refine ⟨1, _, rfl, fun _ _ => ⟨rfl, ?_⟩, fun _ z => absurd c z, fun z => absurd d z⟩
      have := h.next ha
      rw [d] at this; exact this
    · rw [if_pos (by rw [b2i_zero]; exact c)]
      unfold j_X5_take_15
      rw [e, bd_eq, gd_pos (Or.inl rfl)]
      exact ⟨0, s', rfl, fun _ z => absurd z c, fun _ _ => ⟨rfl, q1 d⟩, fun z => absurd d z⟩
  · rw [if_neg d]
    unfold j_X5_take_15
    rw [e, bd_eq, gd_pos (Or.inl rfl)]
    exact ⟨0, s', rfl, fun z => absurd z d, fun z => absurd z d, fun z => ⟨rfl, q2 z⟩⟩
theorem CV.may (h : CV L X B BT s a f p n T) (K : Int) (ha : a < 100000) : ∃ r s', f_X5_may K s = some (r, s') ∧ (f = 0 → kdL L a = K → r = 1 ∧ CV L X B BT s' (a + 1) 0 p n T) ∧ (f = 0 → kdL L a ≠ K → r = 0 ∧ s' = s) ∧ (f ≠ 0 → r = 0 ∧ s' = s) := by
  unfold f_X5_may
  rw [h.2.2.2.2.1]
  by_cases d : f = 0
  · rw [if_pos d, h.is, bd_eq]
    by_cases c : kdL L a = K
    · rw [if_neg (by rw [b2i_zero]; exact fun z => z c)]
      unfold j_X5_may_20
      rw [if_neg (by decide), stp_eq, gd_pos (Or.inr rfl)]
      refine ⟨1, _, rfl, fun _ _ => ⟨rfl, ?_⟩, fun _ z => absurd c z, fun z => absurd d z⟩
      have := h.next ha
      rw [d] at this; exact this
    · rw [if_pos (by rw [b2i_zero]; exact c)]
      unfold j_X5_may_20
      rw [if_pos rfl, gd_pos (Or.inl rfl)]
      exact ⟨0, s, rfl, fun _ z => absurd z c, fun _ _ => ⟨rfl, rfl⟩, fun z => absurd d z⟩
  · rw [if_neg d]
    unfold j_X5_may_20
    rw [if_pos rfl, gd_pos (Or.inl rfl)]
    exact ⟨0, s, rfl, fun z => absurd z d, fun z => absurd z d, fun _ => ⟨rfl, rfl⟩⟩
theorem CV.at4 (h : CV L X B BT s a f p n T) {k c : Int} (k0 : 0 ≤ k) (k1 : k < n) (c0 : 0 ≤ c) (c1 : c < 9) : f_X4_at k c s = some (T k c, s) := by
  obtain ⟨h1, h2, h3, h4, h5, h6, h7, h8, h9, h10, h11, h12, h13, h14, h15, h16⟩ := h
  unfold f_X4_at
  rw [w32_id (x := 9 * k) ⟨by omega, by omega⟩, w32_id ⟨by omega, by omega⟩, gd_pos ⟨by omega, by omega⟩, h16 k c k0 k1 c0 c1]
/-- contents of the tree's cells may change -/
theorem CV.cells (h : CV L X B BT s a f p n T) {s' : vS} {T' : Int → Int → Int} (hf : Fr [11999] s s') (hT : ∀ k c : Int, 0 ≤ k → k < n → 0 ≤ c → c < 9 → gE s' 11 (9 * k + c) = T' k c) : CV L X B BT s' a f p n T' := by
  obtain ⟨h1, h2, h3, h4, h5, h6, h7, h8, h9, h10, h11, h12, h13, h14, h15, h16⟩ := h
  have n11 : gN s' 11 = gN s 11 := hf.rN (by decide) (by decide)
  refine ⟨?_, ?_, by rw [hf.rR (by decide)]; exact h3, by rw [hf.rI (by decide)]; exact h4, by rw [hf.rI (by decide)]; exact h5, by rw [hf.rI (by decide)]; exact h6, by rw [hf.rI (by decide)]; exact h7, h8, h9, h10, by rw [n11]; exact h11, by rw [n11]; exact h12, by rw [n11]; exact h13, by rw [n11]; exact h14, h15, hT⟩
  · obtain ⟨⟨q1, q2, q3, q4⟩, q5, q6, q7⟩ := h1
    refine ⟨⟨by rw [hf.rR (by decide)]; exact q1, q2.fr hf (by decide) (by decide) (by decide), by rw [bts_fr hf (by decide) (by decide) (by decide)]; exact q3, q4⟩, ?_, by rw [hf.rN (by decide) (by decide)]; exact q6, by rw [hf.rE (by decide) (by decide)]; exact q7⟩
    unfold LxW at *
    rw [hf.rN (a := 7) (by decide) (by decide), hf.rN (a := 8) (by decide) (by decide), hf.rN (a := 9) (by decide) (by decide), hf.rI (by decide)]
    exact q5
  · rw [← h2]; unfold lexs
    rw [hf.rE (a := 7) (by decide) (by decide), hf.rE (a := 8) (by decide) (by decide), hf.rE (a := 9) (by decide) (by decide), hf.rI (by decide)]
theorem CV.set (h : CV L X B BT s a f p n T) {k c v : Int} (k0 : 0 ≤ k) (k1 : k < n) (c0 : 0 ≤ c) (c1 : c < 9) (hv : rg v) : ∃ s', f_X4_set k c v s = some s' ∧ CV L X B BT s' a f p n (updT T k c v) := by
  have h' := h
  obtain ⟨h1, h2, h3, h4, h5, h6, h7, h8, h9, h10, h11, h12, h13, h14, h15, h16⟩ := h
  unfold f_X4_set
  rw [w32_id (x := 9 * k) ⟨by omega, by omega⟩, w32_id ⟨by omega, by omega⟩, gd_pos ⟨by omega, by omega⟩, stp_eq]
  refine ⟨_, rfl, h'.cells (Fr.wE Fr.rfl (by decide)) fun k' c' a1 a2 a3 a4 => ?_⟩
  rw [gE_sE]
  unfold updT
  by_cases d : k' = k ∧ c' = c
  · rw [if_pos ⟨rfl, by rw [d.1, d.2]⟩, if_pos d, w32_id hv]
  · rw [if_neg (by omega), if_neg d]; exact h16 k' c' a1 a2 a3 a4
end
