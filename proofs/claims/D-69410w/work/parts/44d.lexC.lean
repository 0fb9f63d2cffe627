set_option maxRecDepth 100000 set_option linter.unusedVariables false set_option linter.unusedSimpArgs false
/-! PURE 44d: lexemes are kept -/
def LxW (s : vS) (B : Nat) : Prop := gN s 8 = gN s 7 ∧ gN s 9 = gN s 7 ∧ 64 ≤ gN s 7 ∧ gN s 7 ≤ B ∧ B ≤ 131072 ∧ 0 ≤ gI s 5 7 ∧ gI s 5 7 ≤ gN s 7
def lexs (s : vS) : List (Int × Int × Int) := rowL (gI s 5 7).toNat (fun i => (gE s 7 i, gE s 8 i, gE s 9 i))
theorem lexs_len {s : vS} {B : Nat} (h : LxW s B) : ((lexs s).length : Int) = gI s 5 7 := by
  unfold lexs; rw [rowL_len]; exact Int.toNat_of_nonneg h.2.2.2.2.2.1
theorem add45 {s : vS} {B : Nat} {k f : Int} (hw : LxW s B) (hlt : gI s 5 7 < gN s 7) (hk : rg k) (hf : rg f) : wpo (j_X3_add_45 k f s) fun s' => LxW s' B ∧ lexs s' = lexs s ++ [(k, f, gI s 5 3)] ∧ gI s' 5 7 = gI s 5 7 + 1 ∧ gN s' 7 = gN s 7 := by
  obtain ⟨h1, h2, h3, h4, h5, h6, h7⟩ := hw
  unfold j_X3_add_45
  refine wpo_gd.mpr ⟨⟨h6, hlt⟩, wpo_stp.mpr (wpo_gd.mpr ⟨?_, wpo_stp.mpr (wpo_gd.mpr ⟨?_, wpo_stp.mpr (wpo_stp.mpr (wpo_some.mpr ?_))⟩)⟩)⟩
  · simp only [gI_sI, gI_sR, gI_sA, gI_sE, gI_sw2, gI_rs, gI_cpA, gI_gh1, gL_sI, gL_sR, gL_sA, gL_sE, gL_sw2, gL_rs, gL_cpA, gR_sI, gR_sR, gR_sA, gR_sE, gR_sw2, gR_rs, gR_cpA, gN_sI, gN_sR, gN_gh1, gN_sA, gN_sE, gN_cpA, gN_sw2, gN_rs, gE_gC, gB_gC, gZ_gC, gEL_gC, gC_sI, gC_sR, gC_gh1, gC_sA, gC_sE, gC_cpA, gC_sw2, gC_rs, Nat.reduceEqDiff, Nat.reduceAdd, Nat.reduceLT, Nat.reduceLeDiff, Nat.reduceBEq, reduceIte, and_self, and_true, true_and, and_false, false_and, if_true, if_false, Nat.reduceMul, Int.reduceEq, Int.reduceLT, Int.reduceLE, Int.reduceNeg, Int.reduceAdd, Int.reduceMul, Int.reduceSub]; omega
  · simp only [gI_sI, gI_sR, gI_sA, gI_sE, gI_sw2, gI_rs, gI_cpA, gI_gh1, gL_sI, gL_sR, gL_sA, gL_sE, gL_sw2, gL_rs, gL_cpA, gR_sI, gR_sR, gR_sA, gR_sE, gR_sw2, gR_rs, gR_cpA, gN_sI, gN_sR, gN_gh1, gN_sA, gN_sE, gN_cpA, gN_sw2, gN_rs, gE_gC, gB_gC, gZ_gC, gEL_gC, gC_sI, gC_sR, gC_gh1, gC_sA, gC_sE, gC_cpA, gC_sw2, gC_rs, Nat.reduceEqDiff, Nat.reduceAdd, Nat.reduceLT, Nat.reduceLeDiff, Nat.reduceBEq, reduceIte, and_self, and_true, true_and, and_false, false_and, if_true, if_false, Nat.reduceMul, Int.reduceEq, Int.reduceLT, Int.reduceLE, Int.reduceNeg, Int.reduceAdd, Int.reduceMul, Int.reduceSub]; omega
  generalize hs : sI (sE (sE (sE s 7 (gI s 5 7) k) 8 (gI (sE s 7 (gI s 5 7) k) 5 7) f) 9 (gI (sE (sE s 7 (gI s 5 7) k) 8 (gI (sE s 7 (gI s 5 7) k) 5 7) f) 5 7) (gI (sE (sE s 7 (gI s 5 7) k) 8 (gI (sE s 7 (gI s 5 7) k) 5 7) f) 5 3)) 5 7 (w32 (gI (sE (sE (sE s 7 (gI s 5 7) k) 8 (gI (sE s 7 (gI s 5 7) k) 5 7) f) 9 (gI (sE (sE s 7 (gI s 5 7) k) 8 (gI (sE s 7 (gI s 5 7) k) 5 7) f) 5 7) (gI (sE (sE s 7 (gI s 5 7) k) 8 (gI (sE s 7 (gI s 5 7) k) 5 7) f) 5 3)) 5 7 + 1)) = s'
  have eI : gI s' 5 7 = gI s 5 7 + 1 := by rw [← hs]; simp only [gI_sI, gI_sR, gI_sA, gI_sE, gI_sw2, gI_rs, gI_cpA, gI_gh1, gL_sI, gL_sR, gL_sA, gL_sE, gL_sw2, gL_rs, gL_cpA, gR_sI, gR_sR, gR_sA, gR_sE, gR_sw2, gR_rs, gR_cpA, gN_sI, gN_sR, gN_gh1, gN_sA, gN_sE, gN_cpA, gN_sw2, gN_rs, gE_gC, gB_gC, gZ_gC, gEL_gC, gC_sI, gC_sR, gC_gh1, gC_sA, gC_sE, gC_cpA, gC_sw2, gC_rs, Nat.reduceEqDiff, Nat.reduceAdd, Nat.reduceLT, Nat.reduceLeDiff, Nat.reduceBEq, reduceIte, and_self, and_true, true_and, and_false, false_and, if_true, if_false, Nat.reduceMul, Int.reduceEq, Int.reduceLT, Int.reduceLE, Int.reduceNeg, Int.reduceAdd, Int.reduceMul, Int.reduceSub, w32_w32]; exact w32_id ⟨by omega, by omega⟩
  have n7 : gN s' 7 = gN s 7 := by rw [← hs]; simp only [gI_sI, gI_sR, gI_sA, gI_sE, gI_sw2, gI_rs, gI_cpA, gI_gh1, gL_sI, gL_sR, gL_sA, gL_sE, gL_sw2, gL_rs, gL_cpA, gR_sI, gR_sR, gR_sA, gR_sE, gR_sw2, gR_rs, gR_cpA, gN_sI, gN_sR, gN_gh1, gN_sA, gN_sE, gN_cpA, gN_sw2, gN_rs, gE_gC, gB_gC, gZ_gC, gEL_gC, gC_sI, gC_sR, gC_gh1, gC_sA, gC_sE, gC_cpA, gC_sw2, gC_rs, Nat.reduceEqDiff, Nat.reduceAdd, Nat.reduceLT, Nat.reduceLeDiff, Nat.reduceBEq, reduceIte, and_self, and_true, true_and, and_false, false_and, if_true, if_false, Nat.reduceMul, Int.reduceEq, Int.reduceLT, Int.reduceLE, Int.reduceNeg, Int.reduceAdd, Int.reduceMul, Int.reduceSub]
  have n8 : gN s' 8 = gN s 8 := by rw [← hs]; simp only [gI_sI, gI_sR, gI_sA, gI_sE, gI_sw2, gI_rs, gI_cpA, gI_gh1, gL_sI, gL_sR, gL_sA, gL_sE, gL_sw2, gL_rs, gL_cpA, gR_sI, gR_sR, gR_sA, gR_sE, gR_sw2, gR_rs, gR_cpA, gN_sI, gN_sR, gN_gh1, gN_sA, gN_sE, gN_cpA, gN_sw2, gN_rs, gE_gC, gB_gC, gZ_gC, gEL_gC, gC_sI, gC_sR, gC_gh1, gC_sA, gC_sE, gC_cpA, gC_sw2, gC_rs, Nat.reduceEqDiff, Nat.reduceAdd, Nat.reduceLT, Nat.reduceLeDiff, Nat.reduceBEq, reduceIte, and_self, and_true, true_and, and_false, false_and, if_true, if_false, Nat.reduceMul, Int.reduceEq, Int.reduceLT, Int.reduceLE, Int.reduceNeg, Int.reduceAdd, Int.reduceMul, Int.reduceSub]
  have n9 : gN s' 9 = gN s 9 := by rw [← hs]; simp only [gI_sI, gI_sR, gI_sA, gI_sE, gI_sw2, gI_rs, gI_cpA, gI_gh1, gL_sI, gL_sR, gL_sA, gL_sE, gL_sw2, gL_rs, gL_cpA, gR_sI, gR_sR, gR_sA, gR_sE, gR_sw2, gR_rs, gR_cpA, gN_sI, gN_sR, gN_gh1, gN_sA, gN_sE, gN_cpA, gN_sw2, gN_rs, gE_gC, gB_gC, gZ_gC, gEL_gC, gC_sI, gC_sR, gC_gh1, gC_sA, gC_sE, gC_cpA, gC_sw2, gC_rs, Nat.reduceEqDiff, Nat.reduceAdd, Nat.reduceLT, Nat.reduceLeDiff, Nat.reduceBEq, reduceIte, and_self, and_true, true_and, and_false, false_and, if_true, if_false, Nat.reduceMul, Int.reduceEq, Int.reduceLT, Int.reduceLE, Int.reduceNeg, Int.reduceAdd, Int.reduceMul, Int.reduceSub]
  refine ⟨⟨by omega, by omega, by omega, by omega, by omega, by omega, by omega⟩, ?_, eI, n7⟩
  unfold lexs
  rw [eI, show (gI s 5 7 + 1).toNat = (gI s 5 7).toNat + 1 by omega, rowL_succ]
  congr 1
  · apply rowL_congr
    intro i hi
    rw [← hs]
    simp only [gI_sI, gI_sR, gI_sA, gI_sE, gI_sw2, gI_rs, gI_cpA, gI_gh1, gL_sI, gL_sR, gL_sA, gL_sE, gL_sw2, gL_rs, gL_cpA, gR_sI, gR_sR, gR_sA, gR_sE, gR_sw2, gR_rs, gR_cpA, gN_sI, gN_sR, gN_gh1, gN_sA, gN_sE, gN_cpA, gN_sw2, gN_rs, gE_gC, gB_gC, gZ_gC, gEL_gC, gC_sI, gC_sR, gC_gh1, gC_sA, gC_sE, gC_cpA, gC_sw2, gC_rs, Nat.reduceEqDiff, Nat.reduceAdd, Nat.reduceLT, Nat.reduceLeDiff, Nat.reduceBEq, reduceIte, and_self, and_true, true_and, and_false, false_and, if_true, if_false, Nat.reduceMul, Int.reduceEq, Int.reduceLT, Int.reduceLE, Int.reduceNeg, Int.reduceAdd, Int.reduceMul, Int.reduceSub]
    rw [if_neg (by omega), if_neg (by omega), if_neg (by omega)]
  · rw [← hs]
    simp only [gI_sI, gI_sR, gI_sA, gI_sE, gI_sw2, gI_rs, gI_cpA, gI_gh1, gL_sI, gL_sR, gL_sA, gL_sE, gL_sw2, gL_rs, gL_cpA, gR_sI, gR_sR, gR_sA, gR_sE, gR_sw2, gR_rs, gR_cpA, gN_sI, gN_sR, gN_gh1, gN_sA, gN_sE, gN_cpA, gN_sw2, gN_rs, gE_gC, gB_gC, gZ_gC, gEL_gC, gC_sI, gC_sR, gC_gh1, gC_sA, gC_sE, gC_cpA, gC_sw2, gC_rs, Nat.reduceEqDiff, Nat.reduceAdd, Nat.reduceLT, Nat.reduceLeDiff, Nat.reduceBEq, reduceIte, and_self, and_true, true_and, and_false, false_and, if_true, if_false, Nat.reduceMul, Int.reduceEq, Int.reduceLT, Int.reduceLE, Int.reduceNeg, Int.reduceAdd, Int.reduceMul, Int.reduceSub, Int.toNat_of_nonneg h6]
    simp only [w32_id hk, w32_id hf, w32_id (gI_rg s 5 3)]
theorem X3_grown {s : vS} {a : Nat} (ha : a < 199) (h1 : 1 ≤ gN s a) (h2 : gN s a ≤ 1000000) : f_X3_grown a s = some (cpA (sA s 199 (2 * gN s a, fun _ => 0)) a 199 0 0 (gN s a)) := by
  have e : ¬ a = 199 := by omega
  unfold f_X3_grown
  rw [w32_id (x := (gN s a : Int)) ⟨by omega, by omega⟩, w32_id (x := 2 * (gN s a : Int)) ⟨by omega, by omega⟩, gd_pos ⟨by omega, by omega⟩, stp_eq]
  simp only [gI_sI, gI_sR, gI_sA, gI_sE, gI_sw2, gI_rs, gI_cpA, gI_gh1, gL_sI, gL_sR, gL_sA, gL_sE, gL_sw2, gL_rs, gL_cpA, gR_sI, gR_sR, gR_sA, gR_sE, gR_sw2, gR_rs, gR_cpA, gN_sI, gN_sR, gN_gh1, gN_sA, gN_sE, gN_cpA, gN_sw2, gN_rs, gE_gC, gB_gC, gZ_gC, gEL_gC, gC_sI, gC_sR, gC_gh1, gC_sA, gC_sE, gC_cpA, gC_sw2, gC_rs, Nat.reduceEqDiff, Nat.reduceAdd, Nat.reduceLT, Nat.reduceLeDiff, Nat.reduceBEq, reduceIte, and_self, and_true, true_and, and_false, false_and, if_true, if_false, Nat.reduceMul, Int.reduceEq, Int.reduceLT, Int.reduceLE, Int.reduceNeg, Int.reduceAdd, Int.reduceMul, Int.reduceSub, if_neg e]
  rw [w32_id (x := (gN s a : Int)) ⟨by omega, by omega⟩, gd_pos ⟨by omega, by omega, by omega, by omega, by omega⟩, stp_eq, show (2 * (gN s a : Int)).toNat = 2 * gN s a by omega]
/-- an array with twice its length in its place -/
def dbl (s : vS) (a : Nat) : vS := rs (sw2 (cpA (sA s 199 (2 * gN s a, fun _ => 0)) a 199 0 0 (gN s a)) a 199)
theorem gI_dbl (s : vS) (a o f : Nat) : gI (dbl s a) o f = gI s o f := rfl
theorem gN_dbl {s : vS} {a b : Nat} (hb : b < 199) : gN (dbl s a) b = if b = a then 2 * gN s a else gN s b := by
  unfold dbl; simp only [gI_sI, gI_sR, gI_sA, gI_sE, gI_sw2, gI_rs, gI_cpA, gI_gh1, gL_sI, gL_sR, gL_sA, gL_sE, gL_sw2, gL_rs, gL_cpA, gR_sI, gR_sR, gR_sA, gR_sE, gR_sw2, gR_rs, gR_cpA, gN_sI, gN_sR, gN_gh1, gN_sA, gN_sE, gN_cpA, gN_sw2, gN_rs, gE_gC, gB_gC, gZ_gC, gEL_gC, gC_sI, gC_sR, gC_gh1, gC_sA, gC_sE, gC_cpA, gC_sw2, gC_rs, if_pos hb]
  by_cases h : b = a
  · simp [h]
  · simp only [h, if_false, show ¬ b = 199 by omega, Nat.reduceEqDiff, Nat.reduceAdd, Nat.reduceLT, Nat.reduceLeDiff, Nat.reduceBEq, reduceIte, and_self, and_true, true_and, and_false, false_and, if_true, if_false, Nat.reduceMul, Int.reduceEq, Int.reduceLT, Int.reduceLE, Int.reduceNeg, Int.reduceAdd, Int.reduceMul, Int.reduceSub]
theorem gC_dbl {s : vS} {a b : Nat} {i : Int} (ha : a < 199) (hb : b < 199) : gC (dbl s a) b i = if b = a then (if 0 ≤ i ∧ i < gN s a then gC s a i else 0) else gC s b i := by
  have e : ¬ a = 199 := by omega
  unfold dbl; simp only [gI_sI, gI_sR, gI_sA, gI_sE, gI_sw2, gI_rs, gI_cpA, gI_gh1, gL_sI, gL_sR, gL_sA, gL_sE, gL_sw2, gL_rs, gL_cpA, gR_sI, gR_sR, gR_sA, gR_sE, gR_sw2, gR_rs, gR_cpA, gN_sI, gN_sR, gN_gh1, gN_sA, gN_sE, gN_cpA, gN_sw2, gN_rs, gE_gC, gB_gC, gZ_gC, gEL_gC, gC_sI, gC_sR, gC_gh1, gC_sA, gC_sE, gC_cpA, gC_sw2, gC_rs, if_pos hb]
  by_cases h : b = a
  · simp only [h, if_true, true_and, if_neg e]
    by_cases k : 0 ≤ i ∧ i < gN s a
    · rw [if_pos k, if_pos (by omega)]; congr 1; omega
    · rw [if_neg k, if_neg (by omega)]
  · simp only [h, if_false, show ¬ b = 199 by omega, Nat.reduceEqDiff, Nat.reduceAdd, Nat.reduceLT, Nat.reduceLeDiff, Nat.reduceBEq, reduceIte, and_self, and_true, true_and, and_false, false_and, if_true, if_false, Nat.reduceMul, Int.reduceEq, Int.reduceLT, Int.reduceLE, Int.reduceNeg, Int.reduceAdd, Int.reduceMul, Int.reduceSub]
theorem X3_add {s : vS} {B : Nat} {k f : Int} (hw : LxW s B) (hB : 2 * gI s 5 7 ≤ B) (hk : rg k) (hf : rg f) : wpo (f_X3_add k f s) fun s' => LxW s' B ∧ lexs s' = lexs s ++ [(k, f, gI s 5 3)] ∧ gI s' 5 7 = gI s 5 7 + 1 ∧ Fr W_f_X3_add s s' := by
  have hw' := hw
  obtain ⟨h1, h2, h3, h4, h5, h6, h7⟩ := hw
  suffices key : wpo (f_X3_add k f s) (fun s' => LxW s' B ∧ lexs s' = lexs s ++ [(k, f, gI s 5 3)] ∧ gI s' 5 7 = gI s 5 7 + 1) from (key.and (fun r e => fr_f_X3_add k f s r e)).mono fun r h => ⟨h.1.1, h.1.2.1, h.1.2.2, h.2⟩
  unfold f_X3_add
  rw [w32_id (x := (gN s 7 : Int)) ⟨by omega, by omega⟩]
  refine wpo_ite.mpr ⟨fun c => ?_, fun c => (add45 hw' (by omega) hk hf).mono fun r h => ⟨h.1, h.2.1, h.2.2.1⟩⟩
  rw [X3_grown (by decide) (by omega) (by omega)]
  rw [bdv_eq]
  refine wpo_gd.mpr ⟨by simp only [gI_sI, gI_sR, gI_sA, gI_sE, gI_sw2, gI_rs, gI_cpA, gI_gh1, gL_sI, gL_sR, gL_sA, gL_sE, gL_sw2, gL_rs, gL_cpA, gR_sI, gR_sR, gR_sA, gR_sE, gR_sw2, gR_rs, gR_cpA, gN_sI, gN_sR, gN_gh1, gN_sA, gN_sE, gN_cpA, gN_sw2, gN_rs, gE_gC, gB_gC, gZ_gC, gEL_gC, gC_sI, gC_sR, gC_gh1, gC_sA, gC_sE, gC_cpA, gC_sw2, gC_rs, Nat.reduceEqDiff, Nat.reduceAdd, Nat.reduceLT, Nat.reduceLeDiff, Nat.reduceBEq, reduceIte, and_self, and_true, true_and, and_false, false_and, if_true, if_false, Nat.reduceMul, Int.reduceEq, Int.reduceLT, Int.reduceLE, Int.reduceNeg, Int.reduceAdd, Int.reduceMul, Int.reduceSub]; omega, wpo_stp.mpr (wpo_stp.mpr ?_)⟩
  change wpo (bdv (f_X3_grown 8 (dbl s 7)) _) _
  have a1 : gN (dbl s 7) 8 = gN s 7 := by simp only [gN_dbl (show 8 < 199 by decide), Nat.reduceEqDiff, Nat.reduceAdd, Nat.reduceLT, Nat.reduceLeDiff, Nat.reduceBEq, reduceIte, and_self, and_true, true_and, and_false, false_and, if_true, if_false, Nat.reduceMul, Int.reduceEq, Int.reduceLT, Int.reduceLE, Int.reduceNeg, Int.reduceAdd, Int.reduceMul, Int.reduceSub, h1]
  rw [X3_grown (by decide) (by omega) (by omega), bdv_eq]
  refine wpo_gd.mpr ⟨by simp only [gI_sI, gI_sR, gI_sA, gI_sE, gI_sw2, gI_rs, gI_cpA, gI_gh1, gL_sI, gL_sR, gL_sA, gL_sE, gL_sw2, gL_rs, gL_cpA, gR_sI, gR_sR, gR_sA, gR_sE, gR_sw2, gR_rs, gR_cpA, gN_sI, gN_sR, gN_gh1, gN_sA, gN_sE, gN_cpA, gN_sw2, gN_rs, gE_gC, gB_gC, gZ_gC, gEL_gC, gC_sI, gC_sR, gC_gh1, gC_sA, gC_sE, gC_cpA, gC_sw2, gC_rs, Nat.reduceEqDiff, Nat.reduceAdd, Nat.reduceLT, Nat.reduceLeDiff, Nat.reduceBEq, reduceIte, and_self, and_true, true_and, and_false, false_and, if_true, if_false, Nat.reduceMul, Int.reduceEq, Int.reduceLT, Int.reduceLE, Int.reduceNeg, Int.reduceAdd, Int.reduceMul, Int.reduceSub]; omega, wpo_stp.mpr (wpo_stp.mpr ?_)⟩
  change wpo (bdv (f_X3_grown 9 (dbl (dbl s 7) 8)) _) _
  have a2 : gN (dbl (dbl s 7) 8) 9 = gN s 7 := by simp only [gN_dbl (show 9 < 199 by decide), Nat.reduceEqDiff, Nat.reduceAdd, Nat.reduceLT, Nat.reduceLeDiff, Nat.reduceBEq, reduceIte, and_self, and_true, true_and, and_false, false_and, if_true, if_false, Nat.reduceMul, Int.reduceEq, Int.reduceLT, Int.reduceLE, Int.reduceNeg, Int.reduceAdd, Int.reduceMul, Int.reduceSub, h2]
  rw [X3_grown (by decide) (by omega) (by omega), bdv_eq]
  refine wpo_gd.mpr ⟨by simp only [gI_sI, gI_sR, gI_sA, gI_sE, gI_sw2, gI_rs, gI_cpA, gI_gh1, gL_sI, gL_sR, gL_sA, gL_sE, gL_sw2, gL_rs, gL_cpA, gR_sI, gR_sR, gR_sA, gR_sE, gR_sw2, gR_rs, gR_cpA, gN_sI, gN_sR, gN_gh1, gN_sA, gN_sE, gN_cpA, gN_sw2, gN_rs, gE_gC, gB_gC, gZ_gC, gEL_gC, gC_sI, gC_sR, gC_gh1, gC_sA, gC_sE, gC_cpA, gC_sw2, gC_rs, Nat.reduceEqDiff, Nat.reduceAdd, Nat.reduceLT, Nat.reduceLeDiff, Nat.reduceBEq, reduceIte, and_self, and_true, true_and, and_false, false_and, if_true, if_false, Nat.reduceMul, Int.reduceEq, Int.reduceLT, Int.reduceLE, Int.reduceNeg, Int.reduceAdd, Int.reduceMul, Int.reduceSub]; omega, wpo_stp.mpr (wpo_stp.mpr ?_)⟩
  change wpo (j_X3_add_45 k f (dbl (dbl (dbl s 7) 8) 9)) _
  have b7 : gN (dbl (dbl (dbl s 7) 8) 9) 7 = 2 * gN s 7 := by simp only [gN_dbl (show 7 < 199 by decide), Nat.reduceEqDiff, Nat.reduceAdd, Nat.reduceLT, Nat.reduceLeDiff, Nat.reduceBEq, reduceIte, and_self, and_true, true_and, and_false, false_and, if_true, if_false, Nat.reduceMul, Int.reduceEq, Int.reduceLT, Int.reduceLE, Int.reduceNeg, Int.reduceAdd, Int.reduceMul, Int.reduceSub]
  have b8 : gN (dbl (dbl (dbl s 7) 8) 9) 8 = 2 * gN s 7 := by simp only [gN_dbl (show 8 < 199 by decide), Nat.reduceEqDiff, Nat.reduceAdd, Nat.reduceLT, Nat.reduceLeDiff, Nat.reduceBEq, reduceIte, and_self, and_true, true_and, and_false, false_and, if_true, if_false, Nat.reduceMul, Int.reduceEq, Int.reduceLT, Int.reduceLE, Int.reduceNeg, Int.reduceAdd, Int.reduceMul, Int.reduceSub, h1]
  have b9 : gN (dbl (dbl (dbl s 7) 8) 9) 9 = 2 * gN s 7 := by simp only [gN_dbl (show 9 < 199 by decide), Nat.reduceEqDiff, Nat.reduceAdd, Nat.reduceLT, Nat.reduceLeDiff, Nat.reduceBEq, reduceIte, and_self, and_true, true_and, and_false, false_and, if_true, if_false, Nat.reduceMul, Int.reduceEq, Int.reduceLT, Int.reduceLE, Int.reduceNeg, Int.reduceAdd, Int.reduceMul, Int.reduceSub, h2]
  have bI : ∀ o f, gI (dbl (dbl (dbl s 7) 8) 9) o f = gI s o f := fun _ _ => rfl
  refine (add45 (B := B) ⟨by omega, by omega, by omega, by omega, by omega, by rw [bI]; omega, by rw [bI]; omega⟩ (by rw [bI]; omega) hk hf).mono fun r h => ⟨h.1, ?_, by rw [h.2.2.1, bI]⟩
  rw [h.2.1, bI]
  congr 1
  unfold lexs
  rw [bI]
  apply rowL_congr
  intro i hi
  simp only [gE_gC, gC_dbl (show 9 < 199 by decide) (show 7 < 199 by decide), gC_dbl (show 8 < 199 by decide) (show 7 < 199 by decide), gC_dbl (show 7 < 199 by decide) (show 7 < 199 by decide), gC_dbl (show 9 < 199 by decide) (show 8 < 199 by decide), gC_dbl (show 8 < 199 by decide) (show 8 < 199 by decide), gC_dbl (show 7 < 199 by decide) (show 8 < 199 by decide), gC_dbl (show 9 < 199 by decide) (show 9 < 199 by decide), gC_dbl (show 8 < 199 by decide) (show 9 < 199 by decide), gC_dbl (show 7 < 199 by decide) (show 9 < 199 by decide), gN_dbl (show 8 < 199 by decide), gN_dbl (show 9 < 199 by decide), Nat.reduceEqDiff, Nat.reduceAdd, Nat.reduceLT, Nat.reduceLeDiff, Nat.reduceBEq, reduceIte, and_self, and_true, true_and, and_false, false_and, if_true, if_false, Nat.reduceMul, Int.reduceEq, Int.reduceLT, Int.reduceLE, Int.reduceNeg, Int.reduceAdd, Int.reduceMul, Int.reduceSub]
  rw [if_pos (by omega), if_pos (by omega), if_pos (by omega)]
