set_option maxRecDepth 100000 set_option linter.unusedVariables false set_option linter.unusedSimpArgs false
/-! PURE 45e: cutText -/
def mlex (s : vS) : List (Int × Int × Int) := rowL (gI s 87 15).toNat (fun i => (gE s 94 i, gE s 95 i, gE s 96 i))
def mk3 (x : Int × Int × Int) : Int × Int × Int := (km x.1, x.2)
/-- rows for lexemes, long enough -/
def MxW (s : vS) (T : List Int) : Prop := MxT s T ∧ WT s ∧ gN s 95 = gN s 94 ∧ gN s 96 = gN s 94 ∧ T.length + 4 ≤ gN s 94 ∧ gN s 94 ≤ 40000 ∧ 0 ≤ gI s 87 15 ∧ gI s 87 15 ≤ T.length + 1
def addM (s : vS) (k a j : Int) : vS := sI (sE (sE (setK s k) 95 (gI s 87 15) a) 96 (gI s 87 15) j) 87 15 (gI s 87 15 + 1)
theorem addM_ok {s : vS} {T : List Int} (h : MxW s T) (hl : gI s 87 15 ≤ T.length) {k a j : Int} (hk : rg k) (ha : rg a) (hj : rg j) : MxW (addM s k a j) T ∧ mlex (addM s k a j) = mlex s ++ [(k, a, j)] ∧ gI (addM s k a j) 87 15 = gI s 87 15 + 1 ∧ gI (addM s k a j) 87 8 = gI s 87 8 ∧ gI (addM s k a j) 87 9 = gI s 87 9 := by
  obtain ⟨h1, h2, h3, h4, h5, h6, h7, h8⟩ := h
  have hT := h1.2.1
  have e15 : gI (addM s k a j) 87 15 = gI s 87 15 + 1 := by unfold addM setK; simp only [gI_sI, gI_sR, gI_sA, gI_sE, gI_sw2, gI_rs, gI_cpA, gI_gh1, gL_sI, gL_sR, gL_sA, gL_sE, gL_sw2, gL_rs, gL_cpA, gR_sI, gR_sR, gR_sA, gR_sE, gR_sw2, gR_rs, gR_cpA, gN_sI, gN_sR, gN_gh1, gN_sA, gN_sE, gN_cpA, gN_sw2, gN_rs, gE_gC, gB_gC, gZ_gC, gEL_gC, gC_sI, gC_sR, gC_gh1, gC_sA, gC_sE, gC_cpA, gC_sw2, gC_rs, Nat.reduceEqDiff, Nat.reduceAdd, Nat.reduceLT, Nat.reduceLeDiff, Nat.reduceBEq, reduceIte, and_self, and_true, true_and, and_false, false_and, if_true, if_false, Nat.reduceMul, Int.reduceEq, Int.reduceLT, Int.reduceLE, Int.reduceNeg, Int.reduceAdd, Int.reduceMul, Int.reduceSub]; exact w32_id ⟨by omega, by omega⟩
  have e8 : gI (addM s k a j) 87 8 = gI s 87 8 := by unfold addM setK; simp only [gI_sI, gI_sR, gI_sA, gI_sE, gI_sw2, gI_rs, gI_cpA, gI_gh1, gL_sI, gL_sR, gL_sA, gL_sE, gL_sw2, gL_rs, gL_cpA, gR_sI, gR_sR, gR_sA, gR_sE, gR_sw2, gR_rs, gR_cpA, gN_sI, gN_sR, gN_gh1, gN_sA, gN_sE, gN_cpA, gN_sw2, gN_rs, gE_gC, gB_gC, gZ_gC, gEL_gC, gC_sI, gC_sR, gC_gh1, gC_sA, gC_sE, gC_cpA, gC_sw2, gC_rs, Nat.reduceEqDiff, Nat.reduceAdd, Nat.reduceLT, Nat.reduceLeDiff, Nat.reduceBEq, reduceIte, and_self, and_true, true_and, and_false, false_and, if_true, if_false, Nat.reduceMul, Int.reduceEq, Int.reduceLT, Int.reduceLE, Int.reduceNeg, Int.reduceAdd, Int.reduceMul, Int.reduceSub]
  have e9 : gI (addM s k a j) 87 9 = gI s 87 9 := by unfold addM setK; simp only [gI_sI, gI_sR, gI_sA, gI_sE, gI_sw2, gI_rs, gI_cpA, gI_gh1, gL_sI, gL_sR, gL_sA, gL_sE, gL_sw2, gL_rs, gL_cpA, gR_sI, gR_sR, gR_sA, gR_sE, gR_sw2, gR_rs, gR_cpA, gN_sI, gN_sR, gN_gh1, gN_sA, gN_sE, gN_cpA, gN_sw2, gN_rs, gE_gC, gB_gC, gZ_gC, gEL_gC, gC_sI, gC_sR, gC_gh1, gC_sA, gC_sE, gC_cpA, gC_sw2, gC_rs, Nat.reduceEqDiff, Nat.reduceAdd, Nat.reduceLT, Nat.reduceLeDiff, Nat.reduceBEq, reduceIte, and_self, and_true, true_and, and_false, false_and, if_true, if_false, Nat.reduceMul, Int.reduceEq, Int.reduceLT, Int.reduceLE, Int.reduceNeg, Int.reduceAdd, Int.reduceMul, Int.reduceSub]
  refine ⟨⟨?_, ?_, ?_, ?_, ?_, ?_, by omega, by omega⟩, ?_, e15, e8, e9⟩
  · unfold MxT addM setK at *; simp only [gI_sI, gI_sR, gI_sA, gI_sE, gI_sw2, gI_rs, gI_cpA, gI_gh1, gL_sI, gL_sR, gL_sA, gL_sE, gL_sw2, gL_rs, gL_cpA, gR_sI, gR_sR, gR_sA, gR_sE, gR_sw2, gR_rs, gR_cpA, gN_sI, gN_sR, gN_gh1, gN_sA, gN_sE, gN_cpA, gN_sw2, gN_rs, gE_gC, gB_gC, gZ_gC, gEL_gC, gC_sI, gC_sR, gC_gh1, gC_sA, gC_sE, gC_cpA, gC_sw2, gC_rs, Nat.reduceEqDiff, Nat.reduceAdd, Nat.reduceLT, Nat.reduceLeDiff, Nat.reduceBEq, reduceIte, and_self, and_true, true_and, and_false, false_and, if_true, if_false, Nat.reduceMul, Int.reduceEq, Int.reduceLT, Int.reduceLE, Int.reduceNeg, Int.reduceAdd, Int.reduceMul, Int.reduceSub] at *; exact h1
  · unfold WT addM setK at *; simp only [gI_sI, gI_sR, gI_sA, gI_sE, gI_sw2, gI_rs, gI_cpA, gI_gh1, gL_sI, gL_sR, gL_sA, gL_sE, gL_sw2, gL_rs, gL_cpA, gR_sI, gR_sR, gR_sA, gR_sE, gR_sw2, gR_rs, gR_cpA, gN_sI, gN_sR, gN_gh1, gN_sA, gN_sE, gN_cpA, gN_sw2, gN_rs, gE_gC, gB_gC, gZ_gC, gEL_gC, gC_sI, gC_sR, gC_gh1, gC_sA, gC_sE, gC_cpA, gC_sw2, gC_rs, Nat.reduceEqDiff, Nat.reduceAdd, Nat.reduceLT, Nat.reduceLeDiff, Nat.reduceBEq, reduceIte, and_self, and_true, true_and, and_false, false_and, if_true, if_false, Nat.reduceMul, Int.reduceEq, Int.reduceLT, Int.reduceLE, Int.reduceNeg, Int.reduceAdd, Int.reduceMul, Int.reduceSub] at *; exact h2
  · unfold addM setK; simp only [gI_sI, gI_sR, gI_sA, gI_sE, gI_sw2, gI_rs, gI_cpA, gI_gh1, gL_sI, gL_sR, gL_sA, gL_sE, gL_sw2, gL_rs, gL_cpA, gR_sI, gR_sR, gR_sA, gR_sE, gR_sw2, gR_rs, gR_cpA, gN_sI, gN_sR, gN_gh1, gN_sA, gN_sE, gN_cpA, gN_sw2, gN_rs, gE_gC, gB_gC, gZ_gC, gEL_gC, gC_sI, gC_sR, gC_gh1, gC_sA, gC_sE, gC_cpA, gC_sw2, gC_rs, Nat.reduceEqDiff, Nat.reduceAdd, Nat.reduceLT, Nat.reduceLeDiff, Nat.reduceBEq, reduceIte, and_self, and_true, true_and, and_false, false_and, if_true, if_false, Nat.reduceMul, Int.reduceEq, Int.reduceLT, Int.reduceLE, Int.reduceNeg, Int.reduceAdd, Int.reduceMul, Int.reduceSub]; exact h3
  · unfold addM setK; simp only [gI_sI, gI_sR, gI_sA, gI_sE, gI_sw2, gI_rs, gI_cpA, gI_gh1, gL_sI, gL_sR, gL_sA, gL_sE, gL_sw2, gL_rs, gL_cpA, gR_sI, gR_sR, gR_sA, gR_sE, gR_sw2, gR_rs, gR_cpA, gN_sI, gN_sR, gN_gh1, gN_sA, gN_sE, gN_cpA, gN_sw2, gN_rs, gE_gC, gB_gC, gZ_gC, gEL_gC, gC_sI, gC_sR, gC_gh1, gC_sA, gC_sE, gC_cpA, gC_sw2, gC_rs, Nat.reduceEqDiff, Nat.reduceAdd, Nat.reduceLT, Nat.reduceLeDiff, Nat.reduceBEq, reduceIte, and_self, and_true, true_and, and_false, false_and, if_true, if_false, Nat.reduceMul, Int.reduceEq, Int.reduceLT, Int.reduceLE, Int.reduceNeg, Int.reduceAdd, Int.reduceMul, Int.reduceSub]; exact h4
  · unfold addM setK; simp only [gI_sI, gI_sR, gI_sA, gI_sE, gI_sw2, gI_rs, gI_cpA, gI_gh1, gL_sI, gL_sR, gL_sA, gL_sE, gL_sw2, gL_rs, gL_cpA, gR_sI, gR_sR, gR_sA, gR_sE, gR_sw2, gR_rs, gR_cpA, gN_sI, gN_sR, gN_gh1, gN_sA, gN_sE, gN_cpA, gN_sw2, gN_rs, gE_gC, gB_gC, gZ_gC, gEL_gC, gC_sI, gC_sR, gC_gh1, gC_sA, gC_sE, gC_cpA, gC_sw2, gC_rs, Nat.reduceEqDiff, Nat.reduceAdd, Nat.reduceLT, Nat.reduceLeDiff, Nat.reduceBEq, reduceIte, and_self, and_true, true_and, and_false, false_and, if_true, if_false, Nat.reduceMul, Int.reduceEq, Int.reduceLT, Int.reduceLE, Int.reduceNeg, Int.reduceAdd, Int.reduceMul, Int.reduceSub]; exact h5
  · unfold addM setK; simp only [gI_sI, gI_sR, gI_sA, gI_sE, gI_sw2, gI_rs, gI_cpA, gI_gh1, gL_sI, gL_sR, gL_sA, gL_sE, gL_sw2, gL_rs, gL_cpA, gR_sI, gR_sR, gR_sA, gR_sE, gR_sw2, gR_rs, gR_cpA, gN_sI, gN_sR, gN_gh1, gN_sA, gN_sE, gN_cpA, gN_sw2, gN_rs, gE_gC, gB_gC, gZ_gC, gEL_gC, gC_sI, gC_sR, gC_gh1, gC_sA, gC_sE, gC_cpA, gC_sw2, gC_rs, Nat.reduceEqDiff, Nat.reduceAdd, Nat.reduceLT, Nat.reduceLeDiff, Nat.reduceBEq, reduceIte, and_self, and_true, true_and, and_false, false_and, if_true, if_false, Nat.reduceMul, Int.reduceEq, Int.reduceLT, Int.reduceLE, Int.reduceNeg, Int.reduceAdd, Int.reduceMul, Int.reduceSub]; exact h6
  unfold mlex
  rw [e15, show (gI s 87 15 + 1).toNat = (gI s 87 15).toNat + 1 by omega, rowL_succ]
  congr 1
  · apply rowL_congr
    intro i hi
    unfold addM setK
    simp only [gI_sI, gI_sR, gI_sA, gI_sE, gI_sw2, gI_rs, gI_cpA, gI_gh1, gL_sI, gL_sR, gL_sA, gL_sE, gL_sw2, gL_rs, gL_cpA, gR_sI, gR_sR, gR_sA, gR_sE, gR_sw2, gR_rs, gR_cpA, gN_sI, gN_sR, gN_gh1, gN_sA, gN_sE, gN_cpA, gN_sw2, gN_rs, gE_gC, gB_gC, gZ_gC, gEL_gC, gC_sI, gC_sR, gC_gh1, gC_sA, gC_sE, gC_cpA, gC_sw2, gC_rs, Nat.reduceEqDiff, Nat.reduceAdd, Nat.reduceLT, Nat.reduceLeDiff, Nat.reduceBEq, reduceIte, and_self, and_true, true_and, and_false, false_and, if_true, if_false, Nat.reduceMul, Int.reduceEq, Int.reduceLT, Int.reduceLE, Int.reduceNeg, Int.reduceAdd, Int.reduceMul, Int.reduceSub]
    rw [if_neg (by omega), if_neg (by omega), if_neg (by omega)]
  · unfold addM setK
    simp only [gI_sI, gI_sR, gI_sA, gI_sE, gI_sw2, gI_rs, gI_cpA, gI_gh1, gL_sI, gL_sR, gL_sA, gL_sE, gL_sw2, gL_rs, gL_cpA, gR_sI, gR_sR, gR_sA, gR_sE, gR_sw2, gR_rs, gR_cpA, gN_sI, gN_sR, gN_gh1, gN_sA, gN_sE, gN_cpA, gN_sw2, gN_rs, gE_gC, gB_gC, gZ_gC, gEL_gC, gC_sI, gC_sR, gC_gh1, gC_sA, gC_sE, gC_cpA, gC_sw2, gC_rs, Nat.reduceEqDiff, Nat.reduceAdd, Nat.reduceLT, Nat.reduceLeDiff, Nat.reduceBEq, reduceIte, and_self, and_true, true_and, and_false, false_and, if_true, if_false, Nat.reduceMul, Int.reduceEq, Int.reduceLT, Int.reduceLE, Int.reduceNeg, Int.reduceAdd, Int.reduceMul, Int.reduceSub, Int.toNat_of_nonneg h7, w32_id hk, w32_id ha, w32_id hj]
theorem cut154 {s : vS} {T : List Int} (h : MxW s T) (hl : gI s 87 15 ≤ T.length) {k a j : Int} (rec : Int → vS → Option (vS)) : j_X14_cutText_154 rec a j (setK s k) = if gI s 87 8 = 0 then bd (f_X14_skip j (addM s k a j)) (fun r s1 => rec r s1) else rec a (addM s k a j) := by
  obtain ⟨h1, h2, h3, h4, h5, h6, h7, h8⟩ := h
  have hT := h1.2.1
  have e : gI (setK s k) 87 15 = gI s 87 15 := by unfold setK; simp only [gI_sI, gI_sR, gI_sA, gI_sE, gI_sw2, gI_rs, gI_cpA, gI_gh1, gL_sI, gL_sR, gL_sA, gL_sE, gL_sw2, gL_rs, gL_cpA, gR_sI, gR_sR, gR_sA, gR_sE, gR_sw2, gR_rs, gR_cpA, gN_sI, gN_sR, gN_gh1, gN_sA, gN_sE, gN_cpA, gN_sw2, gN_rs, gE_gC, gB_gC, gZ_gC, gEL_gC, gC_sI, gC_sR, gC_gh1, gC_sA, gC_sE, gC_cpA, gC_sw2, gC_rs]
  unfold j_X14_cutText_154
  rw [e, gd_pos ⟨h7, by unfold setK; simp only [gI_sI, gI_sR, gI_sA, gI_sE, gI_sw2, gI_rs, gI_cpA, gI_gh1, gL_sI, gL_sR, gL_sA, gL_sE, gL_sw2, gL_rs, gL_cpA, gR_sI, gR_sR, gR_sA, gR_sE, gR_sw2, gR_rs, gR_cpA, gN_sI, gN_sR, gN_gh1, gN_sA, gN_sE, gN_cpA, gN_sw2, gN_rs, gE_gC, gB_gC, gZ_gC, gEL_gC, gC_sI, gC_sR, gC_gh1, gC_sA, gC_sE, gC_cpA, gC_sw2, gC_rs]; omega⟩, stp_eq]
  have e2 : gI (sE (setK s k) 95 (gI s 87 15) a) 87 15 = gI s 87 15 := by unfold setK; simp only [gI_sI, gI_sR, gI_sA, gI_sE, gI_sw2, gI_rs, gI_cpA, gI_gh1, gL_sI, gL_sR, gL_sA, gL_sE, gL_sw2, gL_rs, gL_cpA, gR_sI, gR_sR, gR_sA, gR_sE, gR_sw2, gR_rs, gR_cpA, gN_sI, gN_sR, gN_gh1, gN_sA, gN_sE, gN_cpA, gN_sw2, gN_rs, gE_gC, gB_gC, gZ_gC, gEL_gC, gC_sI, gC_sR, gC_gh1, gC_sA, gC_sE, gC_cpA, gC_sw2, gC_rs]
  rw [e2, gd_pos ⟨h7, by unfold setK; simp only [gI_sI, gI_sR, gI_sA, gI_sE, gI_sw2, gI_rs, gI_cpA, gI_gh1, gL_sI, gL_sR, gL_sA, gL_sE, gL_sw2, gL_rs, gL_cpA, gR_sI, gR_sR, gR_sA, gR_sE, gR_sw2, gR_rs, gR_cpA, gN_sI, gN_sR, gN_gh1, gN_sA, gN_sE, gN_cpA, gN_sw2, gN_rs, gE_gC, gB_gC, gZ_gC, gEL_gC, gC_sI, gC_sR, gC_gh1, gC_sA, gC_sE, gC_cpA, gC_sw2, gC_rs]; omega⟩, stp_eq, stp_eq]
  have e3 : gI (sE (sE (setK s k) 95 (gI s 87 15) a) 96 (gI s 87 15) j) 87 15 = gI s 87 15 := by unfold setK; simp only [gI_sI, gI_sR, gI_sA, gI_sE, gI_sw2, gI_rs, gI_cpA, gI_gh1, gL_sI, gL_sR, gL_sA, gL_sE, gL_sw2, gL_rs, gL_cpA, gR_sI, gR_sR, gR_sA, gR_sE, gR_sw2, gR_rs, gR_cpA, gN_sI, gN_sR, gN_gh1, gN_sA, gN_sE, gN_cpA, gN_sw2, gN_rs, gE_gC, gB_gC, gZ_gC, gEL_gC, gC_sI, gC_sR, gC_gh1, gC_sA, gC_sE, gC_cpA, gC_sw2, gC_rs]
  rw [e3, w32_id ⟨by omega, by omega⟩]
  have e4 : gI (sI (sE (sE (setK s k) 95 (gI s 87 15) a) 96 (gI s 87 15) j) 87 15 (gI s 87 15 + 1)) 87 8 = gI s 87 8 := by unfold setK; simp only [gI_sI, gI_sR, gI_sA, gI_sE, gI_sw2, gI_rs, gI_cpA, gI_gh1, gL_sI, gL_sR, gL_sA, gL_sE, gL_sw2, gL_rs, gL_cpA, gR_sI, gR_sR, gR_sA, gR_sE, gR_sw2, gR_rs, gR_cpA, gN_sI, gN_sR, gN_gh1, gN_sA, gN_sE, gN_cpA, gN_sw2, gN_rs, gE_gC, gB_gC, gZ_gC, gEL_gC, gC_sI, gC_sR, gC_gh1, gC_sA, gC_sE, gC_cpA, gC_sw2, gC_rs, Nat.reduceEqDiff, Nat.reduceAdd, Nat.reduceLT, Nat.reduceLeDiff, Nat.reduceBEq, reduceIte, and_self, and_true, true_and, and_false, false_and, if_true, if_false, Nat.reduceMul, Int.reduceEq, Int.reduceLT, Int.reduceLE, Int.reduceNeg, Int.reduceAdd, Int.reduceMul, Int.reduceSub]
  rw [e4]
  rfl
theorem MxW_tell {s : vS} {T : List Int} (h : MxW s T) (n p : Int) : MxW (tellS s n p) T := by
  obtain ⟨h1, h2, h3, h4, h5, h6, h7, h8⟩ := h
  refine ⟨MxT_tell h1 n p, ?_, ?_⟩
  · unfold WT tellS at *; simp only [gI_sI, gI_sR, gI_sA, gI_sE, gI_sw2, gI_rs, gI_cpA, gI_gh1, gL_sI, gL_sR, gL_sA, gL_sE, gL_sw2, gL_rs, gL_cpA, gR_sI, gR_sR, gR_sA, gR_sE, gR_sw2, gR_rs, gR_cpA, gN_sI, gN_sR, gN_gh1, gN_sA, gN_sE, gN_cpA, gN_sw2, gN_rs, gE_gC, gB_gC, gZ_gC, gEL_gC, gC_sI, gC_sR, gC_gh1, gC_sA, gC_sE, gC_cpA, gC_sw2, gC_rs, Nat.reduceEqDiff, Nat.reduceAdd, Nat.reduceLT, Nat.reduceLeDiff, Nat.reduceBEq, reduceIte, and_self, and_true, true_and, and_false, false_and, if_true, if_false, Nat.reduceMul, Int.reduceEq, Int.reduceLT, Int.reduceLE, Int.reduceNeg, Int.reduceAdd, Int.reduceMul, Int.reduceSub] at *; exact h2
  · unfold tellS; simp only [gI_sI, gI_sR, gI_sA, gI_sE, gI_sw2, gI_rs, gI_cpA, gI_gh1, gL_sI, gL_sR, gL_sA, gL_sE, gL_sw2, gL_rs, gL_cpA, gR_sI, gR_sR, gR_sA, gR_sE, gR_sw2, gR_rs, gR_cpA, gN_sI, gN_sR, gN_gh1, gN_sA, gN_sE, gN_cpA, gN_sw2, gN_rs, gE_gC, gB_gC, gZ_gC, gEL_gC, gC_sI, gC_sR, gC_gh1, gC_sA, gC_sE, gC_cpA, gC_sw2, gC_rs, Nat.reduceEqDiff, Nat.reduceAdd, Nat.reduceLT, Nat.reduceLeDiff, Nat.reduceBEq, reduceIte, and_self, and_true, true_and, and_false, false_and, if_true, if_false, Nat.reduceMul, Int.reduceEq, Int.reduceLT, Int.reduceLE, Int.reduceNeg, Int.reduceAdd, Int.reduceMul, Int.reduceSub]; exact ⟨h3, h4, h5, h6, h7, h8⟩
theorem tellS_fp {s : vS} {p : Int} (hp : rg p) : gI (tellS s 1 p) 87 8 = 1 ∧ gI (tellS s 1 p) 87 9 = p ∧ gI (tellS s 1 p) 87 15 = gI s 87 15 := by
  unfold tellS; simp only [gI_sI, gI_sR, gI_sA, gI_sE, gI_sw2, gI_rs, gI_cpA, gI_gh1, gL_sI, gL_sR, gL_sA, gL_sE, gL_sw2, gL_rs, gL_cpA, gR_sI, gR_sR, gR_sA, gR_sE, gR_sw2, gR_rs, gR_cpA, gN_sI, gN_sR, gN_gh1, gN_sA, gN_sE, gN_cpA, gN_sw2, gN_rs, gE_gC, gB_gC, gZ_gC, gEL_gC, gC_sI, gC_sR, gC_gh1, gC_sA, gC_sE, gC_cpA, gC_sw2, gC_rs, Nat.reduceEqDiff, Nat.reduceAdd, Nat.reduceLT, Nat.reduceLeDiff, Nat.reduceBEq, reduceIte, and_self, and_true, true_and, and_false, false_and, if_true, if_false, Nat.reduceMul, Int.reduceEq, Int.reduceLT, Int.reduceLE, Int.reduceNeg, Int.reduceAdd, Int.reduceMul, Int.reduceSub]; exact ⟨by decide, w32_id hp⟩
/-- what is left of a text that was cut -/
def MCutP (s : vS) (T : List Int) (R : List (Int × Int × Int) × Int) (s' : vS) : Prop := MxW s' T ∧ (R.2 = -1 → gI s' 87 8 = 0 ∧ mlex s' = mlex s ++ R.1.map mk3 ∧ gI s' 87 9 = gI s 87 9) ∧ (R.2 ≠ -1 → gI s' 87 8 = 1 ∧ gI s' 87 9 = R.2)
theorem km_rg {x : Int} (h1 : -1000 ≤ x) (h2 : x ≤ 1000) : rg (km x) := by
  unfold km
  have r : ∀ y : Int, -2000 ≤ y → y ≤ 2000 → rg y := fun y a b => ⟨by omega, by omega⟩
  repeat' split
  all_goals apply r <;> omega
theorem psX_rg (c : Int) : -1 ≤ sX 1077 c ∧ sX 1077 c < 100 := by
  unfold sX
  by_cases k : 0 ≤ c ∧ c ≤ 255
  · rw [if_pos k]
    have : ∀ (l : List Int) (c j : Int), 0 ≤ j → -1 ≤ sIx c l j ∧ sIx c l j < j + l.length + 1 := by
      intro l
      induction l with
      | nil => intro c j hj; unfold sIx; simp; omega
      | cons b l ih => intro c j hj; unfold sIx; by_cases e : b = c; rw [if_pos e]; simp; omega; rw [if_neg e]; have := ih c (j + 1) (by omega); simp; omega
    have q := this (stB.getD (1077 - 1000) []) (n8 c) 0 (by omega)
    have e : (stB.getD (1077 - 1000) []).length = 21 := by decide
    rw [e] at q; omega
  · rw [if_neg k]; omega
theorem lsign_rg (c d e : Int) : -1000 ≤ (lsign c d e).1 ∧ (lsign c d e).1 ≤ 1000 ∧ 1 ≤ (lsign c d e).2 ∧ (lsign c d e).2 ≤ 3 := by
  have := psX_rg c
  unfold lsign
  repeat' split
  all_goals (simp only; omega)
theorem km_word {w : Int} (h : 0 ≤ w) : km (100 + w) = 40 + w := by
  unfold km
  repeat rw [if_neg (by omega)]
  rw [if_pos (by omega)]; omega
theorem nameK_km {T : List Int} {a j : Int} (hs : ¬(97 ≤ cha T a ∧ cha T a ≤ 122)) (hc : cLt (cha T a)) : km (nameK T a j) = (if wIx (slc T a j) lwords 0 = -1 then 1 else 40 + wIx (slc T a j) lwords 0) := by
  have hr := wIx_rg (slc T a j)
  unfold nameK
  rw [if_pos (by omega)]
  simp only []
  by_cases c : wIx (slc T a j) lwords 0 = -1
  · rw [if_pos c, if_pos c]; decide
  · rw [if_neg c, if_neg c]; exact km_word (by omega)
theorem nameK_ne {T : List Int} {a j : Int} : nameK T a j ≠ -2 ∧ nameK T a j ≠ -3 := by
  have hr := wIx_rg (slc T a j)
  unfold nameK
  grind
set_option maxHeartbeats 2000000 in
theorem Mcut_l {T : List Int} : ∀ (k n : Nat) (s : vS) (i : Int), MxW s T → gI s 87 8 = 0 → 0 ≤ i → i ≤ T.length → gI s 87 15 ≤ i → T.length + 1 - i ≤ k → k < n → (i < T.length → (lunit T i).1 ≠ -2 ∧ ¬isCm T i) → wpo (l_X14_cutText_11 n i s) (MCutP s T (LA T i)) := by
  intro k
  induction k with
  | zero => intro n s i h hf h0 h1 hq hk; omega
  | succ k ih =>
    intro n s i h hf h0 h1 hq hk hn hu
    obtain ⟨n, rfl⟩ : ∃ m, n = m + 1 := ⟨n - 1, by omega⟩
    have hT := h.1.2.1
    have hlx : inb (gI s 87 15) (gN s 94) := by have := h.2.2.2.2; exact ⟨by omega, by omega⟩
    unfold l_X14_cutText_11
    rw [if_pos hf, h.1.1]
    by_cases hl : (T.length : Int) ≤ i
    · rw [if_pos hl, LA_eq h0, if_pos hl]
      exact wpo_some.mpr ⟨h, fun _ => ⟨hf, by simp, rfl⟩, fun q => absurd rfl q⟩
    have hl : i < T.length := by omega
    obtain ⟨u2, ucm⟩ := hu hl
    have ll := lunit_le h0 hl
    rw [if_neg (by omega), X14_ch h.1 h0, bd_eq]
    have eL : LA T i = if (lunit T i).1 = -3 then ([], i) else (((lunit T i).1, i, (lunit T i).2) :: (LA T (lunit T i).2).1, (LA T (lunit T i).2).2) := by
      rw [LA_eq h0, if_neg (by omega), if_neg u2]
    -- a lexeme of a kind, up to a place
    have good : ∀ kd j : Int, lunit T i = (kd, j) → kd ≠ -3 → rg (km kd) → wpo (j_X14_cutText_154 (l_X14_cutText_11 n) i j (setK s (km kd))) (MCutP s T (LA T i)) := by
      intro kd j e k3 rk
      rw [e] at ll
      simp only at ll
      have hj := ll.2 k3
      rw [cut154 h (by omega), if_pos hf]
      obtain ⟨a1, a2, a3, a4, a5⟩ := addM_ok h (k := km kd) (a := i) (j := j) (by omega) rk ⟨by omega, by omega⟩ ⟨by omega, by omega⟩
      rw [hf] at a4
      rw [X14_skip a1.1 a4 (by omega) hj, bd_eq, eL, e, if_neg k3]
      have sk := skp_LA (T.length + 1) j (by omega) hj (by omega)
      by_cases d : (SK T j).2 = -1
      · rw [if_pos d]
        obtain ⟨q1, q2, q3, q4⟩ := sk.1 d
        refine (ih n (addM s (km kd) i j) (SK T j).1 a1 a4 (by unfold SK; omega) q2 (by unfold SK; omega) (by unfold SK; omega) (by omega) q4).mono ?_
        rintro s' ⟨p1, p2, p3⟩
        simp only []
        rw [q3]
        refine ⟨p1, fun z => ?_, p3⟩
        obtain ⟨p4, p5, p6⟩ := p2 z
        exact ⟨p4, by rw [p5, a2]; simp [mk3]; rfl, by rw [p6, a5]⟩
      · rw [if_neg d]
        obtain ⟨q1, q0, q2⟩ := sk.2 d
        have rp : rg (SK T j).2 := ⟨by unfold SK; omega, by unfold SK; omega⟩
        obtain ⟨t1, t2, t3⟩ := tellS_fp (s := addM s (km kd) i j) rp
        obtain ⟨m, rfl⟩ : ∃ m, n = m + 1 := ⟨n - 1, by omega⟩
        unfold l_X14_cutText_11
        rw [if_neg (by rw [t1]; decide)]
        simp only []
        rw [q2]
        exact wpo_some.mpr ⟨MxW_tell a1 _ _, fun z => absurd z d, fun _ => ⟨t1, t2⟩⟩
    have bad : ∀ (kd j : Int), lunit T i = (-3, j) → rg kd → rg j → wpo (j_X14_cutText_154 (l_X14_cutText_11 n) i j (setK (tellS s 1 i) kd)) (MCutP s T (LA T i)) := by
      intro kd j e rk rj
      have ri : rg i := ⟨by omega, by omega⟩
      obtain ⟨t1, t2, t3⟩ := tellS_fp (s := s) ri
      rw [cut154 (MxW_tell h 1 i) (by omega), if_neg (by rw [t1]; decide), eL, e, if_pos rfl]
      obtain ⟨a1, a2, a3, a4, a5⟩ := addM_ok (MxW_tell h 1 i) (k := kd) (a := i) (j := j) (by omega) rk ri rj
      rw [t1] at a4
      rw [t2] at a5
      obtain ⟨m, rfl⟩ : ∃ m, n = m + 1 := ⟨n - 1, by omega⟩
      unfold l_X14_cutText_11
      rw [if_neg (by rw [a4]; decide)]
      exact wpo_some.mpr ⟨a1, fun z => absurd z (by simp only; omega), fun _ => ⟨a4, a5⟩⟩
    have U := lunit.eq_1 T i
    simp only [] at U
    have w1 : ¬cWh (cha T i) := fun z => u2 ((lunit_skip h0 hl).mpr (Or.inl z))
    have w2 : ¬(cha T i = 45 ∧ cha T (i + 1) = 45) := fun z => u2 ((lunit_skip h0 hl).mpr (Or.inr (Or.inl z)))
    rw [if_neg w1, if_neg w2, if_neg ucm] at U
    rw [X14_isSmall, bd_eq, X14_isLarge, bd_eq, X14_isDigit, bd_eq]
    have hp := scan_le (pName T) (n := T.length) (fun i => pName_lt) T.length (i + 1)
    have nm : cLt (cha T i) → wpo (j_X14_cutText_46 (l_X14_cutText_11 n) i (cha T i) s) (MCutP s T (LA T i)) := by
      intro c4
      rw [if_pos c4] at U
      unfold j_X14_cutText_46
      rw [X14_nameEnd h.1 h0 hl c4, bd_eq, X14_isSmall, bd_eq, gd_pos rfl, X14_wordAt h.1 h.2.1 h0 (by omega) (hp.2 (by omega)), bd_eq, gd_pos rfl, gd_pos hlx, gd_pos hlx, stp_eq, stp_eq]
      have g := good _ _ U nameK_ne.2
      by_cases c : 97 ≤ cha T i ∧ cha T i ≤ 122
      · rw [if_neg (by rw [b2i_zero]; exact fun q => q c)]
        have ek : nameK T i (scan (pName T) T.length (i + 1)) = 0 := by unfold nameK; rw [if_neg (by omega)]
        rw [ek, show km 0 = 2 by decide] at g
        exact g (rgl rfl)
      · rw [if_pos (by rw [b2i_zero]; exact c)]
        rw [nameK_km c c4] at g
        have hr := wIx_rg (slc T i (scan (pName T) T.length (i + 1)))
        exact g (by split <;> constructor <;> omega)
    by_cases c4 : cLt (cha T i)
    · by_cases c : 97 ≤ cha T i ∧ cha T i ≤ 122
      · rw [if_neg (by rw [b2i_zero]; exact fun q => q c)]; exact nm c4
      · rw [if_pos (by rw [b2i_zero]; exact c), if_neg (by rw [b2i_zero]; omega)]; exact nm c4
    rw [if_pos (by rw [b2i_zero]; omega), if_pos (by rw [b2i_zero]; omega)]
    rw [if_neg c4] at U
    by_cases c5 : cDg (cha T i)
    · rw [if_neg (by rw [b2i_zero]; exact fun q => q c5), X14_numberEnd h.1 hf h0 hl c5, bd_eq]
      rw [if_pos c5] at U
      have hd := scan_le (pDig T) (n := T.length) (fun i => pDig_lt) T.length (i + 1)
      have hd2 := hd.2 (by omega)
      by_cases c6 : cha T i = 48
      · rw [if_pos c6] at U
        by_cases c7 : cDg (cha T (i + 1))
        · rw [if_pos c7] at U
          rw [if_pos ⟨c6, c7⟩]
          have tr := tellS_rd s 1 i
          rw [gd_pos (by rw [tr.1, tr.2]; exact hlx), stp_eq]
          have ri : rg i := ⟨by omega, by omega⟩
          obtain ⟨t1, t2, t3⟩ := tellS_fp (s := s) ri
          change wpo (j_X14_cutText_154 (l_X14_cutText_11 n) i _ (setK (tellS s 1 i) 3)) _
          rw [cut154 (MxW_tell h 1 i) (by omega), if_neg (by rw [t1]; decide), eL, U, if_pos rfl]
          obtain ⟨a1, a2, a3, a4, a5⟩ := addM_ok (MxW_tell h 1 i) (k := 3) (a := i) (j := scan (pDig T) T.length (i + 1)) (by omega) (rgl rfl) ri ⟨by omega, by omega⟩
          rw [t1] at a4
          rw [t2] at a5
          obtain ⟨m, rfl⟩ : ∃ m, n = m + 1 := ⟨n - 1, by omega⟩
          unfold l_X14_cutText_11
          rw [if_neg (by rw [a4]; decide)]
          exact wpo_some.mpr ⟨a1, fun z => absurd z (by simp only; omega), fun _ => ⟨a4, a5⟩⟩
        · rw [if_neg c7] at U
          rw [if_neg (fun z => c7 z.2), gd_pos hlx, stp_eq, scan_id (pDig T) c7]
          have g := good _ _ U (by decide) (km_rg (by decide) (by decide)); rw [show km 2 = 3 by decide] at g; exact g
      · rw [if_neg c6] at U
        rw [if_neg (fun z => c6 z.1), gd_pos hlx, stp_eq]
        have g := good _ _ U (by decide) (km_rg (by decide) (by decide)); rw [show km 2 = 3 by decide] at g; exact g
    rw [if_pos (by rw [b2i_zero]; exact c5)]
    rw [if_neg c5] at U
    by_cases c7 : cha T i = 39
    · rw [if_pos c7, X14_quoted h.1 hf h0 hl hlx, bd_eq]
      rw [if_neg (by rw [c7]; decide), if_pos c7] at U
      have hd := scanB_le (T := T) T.length 1 (i + 1)
      have hd2 := hd.2 (by omega)
      by_cases d : cha T (scanB T T.length 1 (i + 1)).2 = 39 ∧ (cha T ((scanB T T.length 1 (i + 1)).2 + 1) = 72 ∨ (cha T ((scanB T T.length 1 (i + 1)).2 + 1) = 66 ∧ (scanB T T.length 1 (i + 1)).1 ≠ 0))
      · rw [if_pos d] at U ⊢
        by_cases e : cha T ((scanB T T.length 1 (i + 1)).2 + 1) = 72
        · rw [if_pos e] at U ⊢; have g := good _ _ U (by decide) (km_rg (by decide) (by decide)); rw [show km 4 = 5 by decide] at g; exact g
        · rw [if_neg e] at U ⊢; have g := good _ _ U (by decide) (km_rg (by decide) (by decide)); rw [show km 3 = 4 by decide] at g; exact g
      · rw [if_neg d] at U ⊢
        exact bad _ _ U (rgl rfl) ⟨by omega, by omega⟩
    rw [if_neg c7]
    by_cases c6 : cha T i = 34
    · rw [if_pos c6, X14_textEnd h.1 hf h0 hl, bd_eq]
      rw [if_pos c6] at U
      have hd := scanQ_le (T := T) T.length (i + 1)
      have hd2 := hd.2 (by omega)
      have tr := tellS_rd s 1 i
      by_cases d : cha T (scanQ T T.length (i + 1)) = 34
      · rw [if_pos d] at U ⊢
        rw [gd_pos hlx, stp_eq]; have g := good _ _ U (by decide) (km_rg (by decide) (by decide)); rw [show km 5 = 6 by decide] at g; exact g
      · rw [if_neg d] at U ⊢
        rw [gd_pos (by rw [tr.1, tr.2]; exact hlx), stp_eq]
        exact bad 6 _ U (rgl rfl) ⟨by omega, by omega⟩
    rw [if_neg c6, signEnd_sign h.1 hf h0 hl hlx, bd_eq]
    rw [if_neg c6, if_neg c7] at U
    have V : lunit T i = ((lsign (cha T i) (cha T (i + 1)) (cha T (i + 2))).1, i + (lsign (cha T i) (cha T (i + 1)) (cha T (i + 2))).2) := by
      rw [U]; unfold lsign
      grind
    by_cases d : (lsign (cha T i) (cha T (i + 1)) (cha T (i + 2))).1 = -3
    · rw [if_pos d]
      have e2 : 1 ≤ (lsign (cha T i) (cha T (i + 1)) (cha T (i + 2))).2 ∧ (lsign (cha T i) (cha T (i + 1)) (cha T (i + 2))).2 ≤ 3 := (lsign_rg _ _ _).2.2
      rw [d] at V
      exact bad _ _ V (rgl rfl) ⟨by omega, by omega⟩
    · rw [if_neg d]
      refine good _ _ V d ?_
      exact km_rg (lsign_rg _ _ _).1 (lsign_rg _ _ _).2.1
theorem X14_cutText {s : vS} {T : List Int} (h : MxT s T) (hw : WT s) (h5 : gN s 95 = gN s 94) (h6 : gN s 96 = gN s 94) (hr : T.length + 4 ≤ gN s 94) (hr2 : gN s 94 ≤ 40000) (hf : gI s 87 8 = 0) : wpo (f_X14_cutText s) fun s' => MxW s' T ∧ ((lexT T).2 = -1 → gI s' 87 8 = 0 ∧ gI s' 87 9 = gI s 87 9 ∧ mlex s' = (lexT T).1.map mk3 ∧ gE s' 94 (gI s' 87 15) = 0 ∧ gE s' 95 (gI s' 87 15) = T.length ∧ gE s' 96 (gI s' 87 15) = T.length) ∧ ((lexT T).2 ≠ -1 → gI s' 87 8 = 1 ∧ gI s' 87 9 = (lexT T).2) ∧ Fr W_f_X14_cutText s s' := by
  suffices key : wpo (f_X14_cutText s) (fun s' => MxW s' T ∧ ((lexT T).2 = -1 → gI s' 87 8 = 0 ∧ gI s' 87 9 = gI s 87 9 ∧ mlex s' = (lexT T).1.map mk3 ∧ gE s' 94 (gI s' 87 15) = 0 ∧ gE s' 95 (gI s' 87 15) = T.length ∧ gE s' 96 (gI s' 87 15) = T.length) ∧ ((lexT T).2 ≠ -1 → gI s' 87 8 = 1 ∧ gI s' 87 9 = (lexT T).2)) from (key.and (fun r e => fr_f_X14_cutText s r e)).mono fun r h => ⟨h.1.1, h.1.2.1, h.1.2.2, h.2⟩
  have hT := h.2.1
  unfold f_X14_cutText
  rw [stp_eq]
  generalize hs : sI s 87 15 0 = s1
  have g15 : gI s1 87 15 = 0 := by rw [← hs]; simp only [gI_sI, gI_sR, gI_sA, gI_sE, gI_sw2, gI_rs, gI_cpA, gI_gh1, gL_sI, gL_sR, gL_sA, gL_sE, gL_sw2, gL_rs, gL_cpA, gR_sI, gR_sR, gR_sA, gR_sE, gR_sw2, gR_rs, gR_cpA, gN_sI, gN_sR, gN_gh1, gN_sA, gN_sE, gN_cpA, gN_sw2, gN_rs, gE_gC, gB_gC, gZ_gC, gEL_gC, gC_sI, gC_sR, gC_gh1, gC_sA, gC_sE, gC_cpA, gC_sw2, gC_rs, Nat.reduceEqDiff, Nat.reduceAdd, Nat.reduceLT, Nat.reduceLeDiff, Nat.reduceBEq, reduceIte, and_self, and_true, true_and, and_false, false_and, if_true, if_false, Nat.reduceMul, Int.reduceEq, Int.reduceLT, Int.reduceLE, Int.reduceNeg, Int.reduceAdd, Int.reduceMul, Int.reduceSub]; decide
  have g8 : gI s1 87 8 = 0 := by rw [← hs]; simp only [gI_sI, gI_sR, gI_sA, gI_sE, gI_sw2, gI_rs, gI_cpA, gI_gh1, gL_sI, gL_sR, gL_sA, gL_sE, gL_sw2, gL_rs, gL_cpA, gR_sI, gR_sR, gR_sA, gR_sE, gR_sw2, gR_rs, gR_cpA, gN_sI, gN_sR, gN_gh1, gN_sA, gN_sE, gN_cpA, gN_sw2, gN_rs, gE_gC, gB_gC, gZ_gC, gEL_gC, gC_sI, gC_sR, gC_gh1, gC_sA, gC_sE, gC_cpA, gC_sw2, gC_rs, Nat.reduceEqDiff, Nat.reduceAdd, Nat.reduceLT, Nat.reduceLeDiff, Nat.reduceBEq, reduceIte, and_self, and_true, true_and, and_false, false_and, if_true, if_false, Nat.reduceMul, Int.reduceEq, Int.reduceLT, Int.reduceLE, Int.reduceNeg, Int.reduceAdd, Int.reduceMul, Int.reduceSub]; exact hf
  have g9 : gI s1 87 9 = gI s 87 9 := by rw [← hs]; simp only [gI_sI, gI_sR, gI_sA, gI_sE, gI_sw2, gI_rs, gI_cpA, gI_gh1, gL_sI, gL_sR, gL_sA, gL_sE, gL_sw2, gL_rs, gL_cpA, gR_sI, gR_sR, gR_sA, gR_sE, gR_sw2, gR_rs, gR_cpA, gN_sI, gN_sR, gN_gh1, gN_sA, gN_sE, gN_cpA, gN_sw2, gN_rs, gE_gC, gB_gC, gZ_gC, gEL_gC, gC_sI, gC_sR, gC_gh1, gC_sA, gC_sE, gC_cpA, gC_sw2, gC_rs, Nat.reduceEqDiff, Nat.reduceAdd, Nat.reduceLT, Nat.reduceLeDiff, Nat.reduceBEq, reduceIte, and_self, and_true, true_and, and_false, false_and, if_true, if_false, Nat.reduceMul, Int.reduceEq, Int.reduceLT, Int.reduceLE, Int.reduceNeg, Int.reduceAdd, Int.reduceMul, Int.reduceSub]
  have g1 : MxW s1 T := by
    refine ⟨?_, ?_, ?_⟩
    · rw [← hs]; unfold MxT at *; simp only [gI_sI, gI_sR, gI_sA, gI_sE, gI_sw2, gI_rs, gI_cpA, gI_gh1, gL_sI, gL_sR, gL_sA, gL_sE, gL_sw2, gL_rs, gL_cpA, gR_sI, gR_sR, gR_sA, gR_sE, gR_sw2, gR_rs, gR_cpA, gN_sI, gN_sR, gN_gh1, gN_sA, gN_sE, gN_cpA, gN_sw2, gN_rs, gE_gC, gB_gC, gZ_gC, gEL_gC, gC_sI, gC_sR, gC_gh1, gC_sA, gC_sE, gC_cpA, gC_sw2, gC_rs, Nat.reduceEqDiff, Nat.reduceAdd, Nat.reduceLT, Nat.reduceLeDiff, Nat.reduceBEq, reduceIte, and_self, and_true, true_and, and_false, false_and, if_true, if_false, Nat.reduceMul, Int.reduceEq, Int.reduceLT, Int.reduceLE, Int.reduceNeg, Int.reduceAdd, Int.reduceMul, Int.reduceSub] at *; exact h
    · rw [← hs]; unfold WT at *; simp only [gI_sI, gI_sR, gI_sA, gI_sE, gI_sw2, gI_rs, gI_cpA, gI_gh1, gL_sI, gL_sR, gL_sA, gL_sE, gL_sw2, gL_rs, gL_cpA, gR_sI, gR_sR, gR_sA, gR_sE, gR_sw2, gR_rs, gR_cpA, gN_sI, gN_sR, gN_gh1, gN_sA, gN_sE, gN_cpA, gN_sw2, gN_rs, gE_gC, gB_gC, gZ_gC, gEL_gC, gC_sI, gC_sR, gC_gh1, gC_sA, gC_sE, gC_cpA, gC_sw2, gC_rs, Nat.reduceEqDiff, Nat.reduceAdd, Nat.reduceLT, Nat.reduceLeDiff, Nat.reduceBEq, reduceIte, and_self, and_true, true_and, and_false, false_and, if_true, if_false, Nat.reduceMul, Int.reduceEq, Int.reduceLT, Int.reduceLE, Int.reduceNeg, Int.reduceAdd, Int.reduceMul, Int.reduceSub] at *; exact hw
    · rw [g15, ← hs]; simp only [gI_sI, gI_sR, gI_sA, gI_sE, gI_sw2, gI_rs, gI_cpA, gI_gh1, gL_sI, gL_sR, gL_sA, gL_sE, gL_sw2, gL_rs, gL_cpA, gR_sI, gR_sR, gR_sA, gR_sE, gR_sw2, gR_rs, gR_cpA, gN_sI, gN_sR, gN_gh1, gN_sA, gN_sE, gN_cpA, gN_sw2, gN_rs, gE_gC, gB_gC, gZ_gC, gEL_gC, gC_sI, gC_sR, gC_gh1, gC_sA, gC_sE, gC_cpA, gC_sw2, gC_rs, Nat.reduceEqDiff, Nat.reduceAdd, Nat.reduceLT, Nat.reduceLeDiff, Nat.reduceBEq, reduceIte, and_self, and_true, true_and, and_false, false_and, if_true, if_false, Nat.reduceMul, Int.reduceEq, Int.reduceLT, Int.reduceLE, Int.reduceNeg, Int.reduceAdd, Int.reduceMul, Int.reduceSub]; omega
  have gl : mlex s1 = [] := by unfold mlex; rw [g15]; rfl
  rw [X14_skip g1.1 g8 (by omega) (by omega), bd_eq]
  have sk := skp_LA (T := T) (T.length + 1) 0 (by omega) (by omega) (by omega)
  have tail : ∀ s2 : vS, MxW s2 T → wpo (j_X14_cutText_200 s2) (fun s' => MxW s' T ∧ gI s' 87 8 = gI s2 87 8 ∧ gI s' 87 9 = gI s2 87 9 ∧ mlex s' = mlex s2 ∧ gE s' 94 (gI s' 87 15) = 0 ∧ gE s' 95 (gI s' 87 15) = T.length ∧ gE s' 96 (gI s' 87 15) = T.length) := by
    intro s2 m
    have m0 := m
    obtain ⟨m1, m2, m3, m4, m5, m6, m7, m8⟩ := m
    unfold j_X14_cutText_200
    refine wpo_gd.mpr ⟨⟨m7, by omega⟩, wpo_stp.mpr (wpo_gd.mpr ⟨by simp only [gI_sI, gI_sR, gI_sA, gI_sE, gI_sw2, gI_rs, gI_cpA, gI_gh1, gL_sI, gL_sR, gL_sA, gL_sE, gL_sw2, gL_rs, gL_cpA, gR_sI, gR_sR, gR_sA, gR_sE, gR_sw2, gR_rs, gR_cpA, gN_sI, gN_sR, gN_gh1, gN_sA, gN_sE, gN_cpA, gN_sw2, gN_rs, gE_gC, gB_gC, gZ_gC, gEL_gC, gC_sI, gC_sR, gC_gh1, gC_sA, gC_sE, gC_cpA, gC_sw2, gC_rs]; omega, wpo_stp.mpr (wpo_gd.mpr ⟨by simp only [gI_sI, gI_sR, gI_sA, gI_sE, gI_sw2, gI_rs, gI_cpA, gI_gh1, gL_sI, gL_sR, gL_sA, gL_sE, gL_sw2, gL_rs, gL_cpA, gR_sI, gR_sR, gR_sA, gR_sE, gR_sw2, gR_rs, gR_cpA, gN_sI, gN_sR, gN_gh1, gN_sA, gN_sE, gN_cpA, gN_sw2, gN_rs, gE_gC, gB_gC, gZ_gC, gEL_gC, gC_sI, gC_sR, gC_gh1, gC_sA, gC_sE, gC_cpA, gC_sw2, gC_rs]; omega, wpo_stp.mpr (wpo_some.mpr ?_)⟩)⟩)⟩
    refine ⟨⟨?_, ?_, ?_⟩, ?_, ?_, ?_, ?_, ?_, ?_⟩
    · unfold MxT at *; simp only [gI_sI, gI_sR, gI_sA, gI_sE, gI_sw2, gI_rs, gI_cpA, gI_gh1, gL_sI, gL_sR, gL_sA, gL_sE, gL_sw2, gL_rs, gL_cpA, gR_sI, gR_sR, gR_sA, gR_sE, gR_sw2, gR_rs, gR_cpA, gN_sI, gN_sR, gN_gh1, gN_sA, gN_sE, gN_cpA, gN_sw2, gN_rs, gE_gC, gB_gC, gZ_gC, gEL_gC, gC_sI, gC_sR, gC_gh1, gC_sA, gC_sE, gC_cpA, gC_sw2, gC_rs, Nat.reduceEqDiff, Nat.reduceAdd, Nat.reduceLT, Nat.reduceLeDiff, Nat.reduceBEq, reduceIte, and_self, and_true, true_and, and_false, false_and, if_true, if_false, Nat.reduceMul, Int.reduceEq, Int.reduceLT, Int.reduceLE, Int.reduceNeg, Int.reduceAdd, Int.reduceMul, Int.reduceSub] at *; exact m1
    · unfold WT at *; simp only [gI_sI, gI_sR, gI_sA, gI_sE, gI_sw2, gI_rs, gI_cpA, gI_gh1, gL_sI, gL_sR, gL_sA, gL_sE, gL_sw2, gL_rs, gL_cpA, gR_sI, gR_sR, gR_sA, gR_sE, gR_sw2, gR_rs, gR_cpA, gN_sI, gN_sR, gN_gh1, gN_sA, gN_sE, gN_cpA, gN_sw2, gN_rs, gE_gC, gB_gC, gZ_gC, gEL_gC, gC_sI, gC_sR, gC_gh1, gC_sA, gC_sE, gC_cpA, gC_sw2, gC_rs, Nat.reduceEqDiff, Nat.reduceAdd, Nat.reduceLT, Nat.reduceLeDiff, Nat.reduceBEq, reduceIte, and_self, and_true, true_and, and_false, false_and, if_true, if_false, Nat.reduceMul, Int.reduceEq, Int.reduceLT, Int.reduceLE, Int.reduceNeg, Int.reduceAdd, Int.reduceMul, Int.reduceSub] at *; exact m2
    · simp only [gI_sI, gI_sR, gI_sA, gI_sE, gI_sw2, gI_rs, gI_cpA, gI_gh1, gL_sI, gL_sR, gL_sA, gL_sE, gL_sw2, gL_rs, gL_cpA, gR_sI, gR_sR, gR_sA, gR_sE, gR_sw2, gR_rs, gR_cpA, gN_sI, gN_sR, gN_gh1, gN_sA, gN_sE, gN_cpA, gN_sw2, gN_rs, gE_gC, gB_gC, gZ_gC, gEL_gC, gC_sI, gC_sR, gC_gh1, gC_sA, gC_sE, gC_cpA, gC_sw2, gC_rs, Nat.reduceEqDiff, Nat.reduceAdd, Nat.reduceLT, Nat.reduceLeDiff, Nat.reduceBEq, reduceIte, and_self, and_true, true_and, and_false, false_and, if_true, if_false, Nat.reduceMul, Int.reduceEq, Int.reduceLT, Int.reduceLE, Int.reduceNeg, Int.reduceAdd, Int.reduceMul, Int.reduceSub]; omega
    · simp only [gI_sI, gI_sR, gI_sA, gI_sE, gI_sw2, gI_rs, gI_cpA, gI_gh1, gL_sI, gL_sR, gL_sA, gL_sE, gL_sw2, gL_rs, gL_cpA, gR_sI, gR_sR, gR_sA, gR_sE, gR_sw2, gR_rs, gR_cpA, gN_sI, gN_sR, gN_gh1, gN_sA, gN_sE, gN_cpA, gN_sw2, gN_rs, gE_gC, gB_gC, gZ_gC, gEL_gC, gC_sI, gC_sR, gC_gh1, gC_sA, gC_sE, gC_cpA, gC_sw2, gC_rs]
    · simp only [gI_sI, gI_sR, gI_sA, gI_sE, gI_sw2, gI_rs, gI_cpA, gI_gh1, gL_sI, gL_sR, gL_sA, gL_sE, gL_sw2, gL_rs, gL_cpA, gR_sI, gR_sR, gR_sA, gR_sE, gR_sw2, gR_rs, gR_cpA, gN_sI, gN_sR, gN_gh1, gN_sA, gN_sE, gN_cpA, gN_sw2, gN_rs, gE_gC, gB_gC, gZ_gC, gEL_gC, gC_sI, gC_sR, gC_gh1, gC_sA, gC_sE, gC_cpA, gC_sw2, gC_rs]
    · unfold mlex; simp only [gI_sI, gI_sR, gI_sA, gI_sE, gI_sw2, gI_rs, gI_cpA, gI_gh1, gL_sI, gL_sR, gL_sA, gL_sE, gL_sw2, gL_rs, gL_cpA, gR_sI, gR_sR, gR_sA, gR_sE, gR_sw2, gR_rs, gR_cpA, gN_sI, gN_sR, gN_gh1, gN_sA, gN_sE, gN_cpA, gN_sw2, gN_rs, gE_gC, gB_gC, gZ_gC, gEL_gC, gC_sI, gC_sR, gC_gh1, gC_sA, gC_sE, gC_cpA, gC_sw2, gC_rs]; apply rowL_congr; intro i hi
      simp only [Nat.reduceEqDiff, Nat.reduceAdd, Nat.reduceLT, Nat.reduceLeDiff, Nat.reduceBEq, reduceIte, and_self, and_true, true_and, and_false, false_and, if_true, if_false, Nat.reduceMul, Int.reduceEq, Int.reduceLT, Int.reduceLE, Int.reduceNeg, Int.reduceAdd, Int.reduceMul, Int.reduceSub]
      rw [if_neg (by omega), if_neg (by omega), if_neg (by omega)]
    · simp only [gI_sI, gI_sR, gI_sA, gI_sE, gI_sw2, gI_rs, gI_cpA, gI_gh1, gL_sI, gL_sR, gL_sA, gL_sE, gL_sw2, gL_rs, gL_cpA, gR_sI, gR_sR, gR_sA, gR_sE, gR_sw2, gR_rs, gR_cpA, gN_sI, gN_sR, gN_gh1, gN_sA, gN_sE, gN_cpA, gN_sw2, gN_rs, gE_gC, gB_gC, gZ_gC, gEL_gC, gC_sI, gC_sR, gC_gh1, gC_sA, gC_sE, gC_cpA, gC_sw2, gC_rs, Nat.reduceEqDiff, Nat.reduceAdd, Nat.reduceLT, Nat.reduceLeDiff, Nat.reduceBEq, reduceIte, and_self, and_true, true_and, and_false, false_and, if_true, if_false, Nat.reduceMul, Int.reduceEq, Int.reduceLT, Int.reduceLE, Int.reduceNeg, Int.reduceAdd, Int.reduceMul, Int.reduceSub]; decide
    · simp only [gI_sI, gI_sR, gI_sA, gI_sE, gI_sw2, gI_rs, gI_cpA, gI_gh1, gL_sI, gL_sR, gL_sA, gL_sE, gL_sw2, gL_rs, gL_cpA, gR_sI, gR_sR, gR_sA, gR_sE, gR_sw2, gR_rs, gR_cpA, gN_sI, gN_sR, gN_gh1, gN_sA, gN_sE, gN_cpA, gN_sw2, gN_rs, gE_gC, gB_gC, gZ_gC, gEL_gC, gC_sI, gC_sR, gC_gh1, gC_sA, gC_sE, gC_cpA, gC_sw2, gC_rs, Nat.reduceEqDiff, Nat.reduceAdd, Nat.reduceLT, Nat.reduceLeDiff, Nat.reduceBEq, reduceIte, and_self, and_true, true_and, and_false, false_and, if_true, if_false, Nat.reduceMul, Int.reduceEq, Int.reduceLT, Int.reduceLE, Int.reduceNeg, Int.reduceAdd, Int.reduceMul, Int.reduceSub, m1.1]; exact w32_id ⟨by omega, by omega⟩
    · simp only [gI_sI, gI_sR, gI_sA, gI_sE, gI_sw2, gI_rs, gI_cpA, gI_gh1, gL_sI, gL_sR, gL_sA, gL_sE, gL_sw2, gL_rs, gL_cpA, gR_sI, gR_sR, gR_sA, gR_sE, gR_sw2, gR_rs, gR_cpA, gN_sI, gN_sR, gN_gh1, gN_sA, gN_sE, gN_cpA, gN_sw2, gN_rs, gE_gC, gB_gC, gZ_gC, gEL_gC, gC_sI, gC_sR, gC_gh1, gC_sA, gC_sE, gC_cpA, gC_sw2, gC_rs, Nat.reduceEqDiff, Nat.reduceAdd, Nat.reduceLT, Nat.reduceLeDiff, Nat.reduceBEq, reduceIte, and_self, and_true, true_and, and_false, false_and, if_true, if_false, Nat.reduceMul, Int.reduceEq, Int.reduceLT, Int.reduceLE, Int.reduceNeg, Int.reduceAdd, Int.reduceMul, Int.reduceSub, m1.1]; exact w32_id ⟨by omega, by omega⟩
  by_cases d : (SK T 0).2 = -1
  · rw [if_pos d]
    obtain ⟨q1, q2, q3, q4⟩ := sk.1 d
    refine wpo_lq_0.mpr ((Mcut_l (T.length + 1) FU s1 (SK T 0).1 g1 g8 q1 q2 (by unfold SK; omega) (by unfold SK; omega) (by unfold FU; omega) q4).mono ?_)
    rintro s2 ⟨p1, p2, p3⟩
    have e : LA T (SK T 0).1 = lexT T := q3.symm
    rw [e] at p2 p3
    refine (tail s2 p1).mono ?_
    rintro s' ⟨t1, t2, t3, t4, t5, t6, t7⟩
    refine ⟨t1, fun z => ?_, fun z => ?_⟩
    · obtain ⟨p4, p5, p6⟩ := p2 z
      rw [gl, List.nil_append] at p5
      exact ⟨by rw [t2]; exact p4, by rw [t3, p6, g9], by rw [t4, p5], t5, t6, t7⟩
    · obtain ⟨p4, p5⟩ := p3 z
      exact ⟨by rw [t2, p4], by rw [t3, p5]⟩
  · rw [if_neg d]
    obtain ⟨q1, q0, q2⟩ := sk.2 d
    have rp : rg (SK T 0).2 := ⟨by unfold SK; omega, by unfold SK; omega⟩
    obtain ⟨t1, t2, t3⟩ := tellS_fp (s := s1) rp
    have e1 : ∀ N, N = FU → l_X14_cutText_11 N (SK T 0).1 (tellS s1 1 (SK T 0).2) = some (tellS s1 1 (SK T 0).2) := by
      intro N hN
      obtain ⟨m, rfl⟩ : ∃ m, N = m + 1 := ⟨N - 1, by rw [hN]; unfold FU; omega⟩
      unfold l_X14_cutText_11
      rw [if_neg (by rw [t1]; decide)]
    rw [e1 FU rfl, lq_0_eq]
    have e : LA T 0 = lexT T := rfl
    rw [e] at q2
    refine (tail _ (MxW_tell g1 1 _)).mono ?_
    rintro s' ⟨y1, y2, y3, y4, y5, y6, y7⟩
    refine ⟨y1, fun z => ?_, fun z => ⟨by rw [y2, t1], by rw [y3, t2, q2]; rfl⟩⟩
    rw [q2] at z; exact absurd z d
