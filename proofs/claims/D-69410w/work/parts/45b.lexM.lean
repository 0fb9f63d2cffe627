set_option maxRecDepth 100000 set_option linter.unusedVariables false set_option linter.unusedSimpArgs false
/-! PURE 45b: signs, words, as the model reads them -/
/-- the model's kinds -/
def km (k : Int) : Int := if k = 0 then 2 else if k = 1 then 1 else if k = 2 then 3 else if k = 3 then 4 else if k = 4 then 5 else if k = 5 then 6 else if k = 10 then 7 else if k = 11 then 8 else if k = 12 then 9 else if k = 13 then 10 else if k = 14 then 11 else if k = 15 then 12 else if k = 16 then 13 else if k = 17 then 14 else if k = 18 then 15 else if k = 19 then 16 else if k = 20 then 17 else if k = 21 then 18 else if k = 24 then 21 else if k = 25 then 19 else if k = 26 then 20 else if 100 ≤ k then k - 60 else 22
def setK (s : vS) (k : Int) : vS := sE s 94 (gI s 87 15) k
theorem tellS_rd (s : vS) (n p : Int) : gI (tellS s n p) 87 15 = gI s 87 15 ∧ gN (tellS s n p) 94 = gN s 94 := by
  unfold tellS; simp only [gI_sI, gI_sR, gI_sA, gI_sE, gI_sw2, gI_rs, gI_cpA, gI_gh1, gL_sI, gL_sR, gL_sA, gL_sE, gL_sw2, gL_rs, gL_cpA, gR_sI, gR_sR, gR_sA, gR_sE, gR_sw2, gR_rs, gR_cpA, gN_sI, gN_sR, gN_gh1, gN_sA, gN_sE, gN_cpA, gN_sw2, gN_rs, gE_gC, gB_gC, gZ_gC, gEL_gC, gC_sI, gC_sR, gC_gh1, gC_sA, gC_sE, gC_cpA, gC_sw2, gC_rs, Nat.reduceEqDiff, Nat.reduceAdd, Nat.reduceLT, Nat.reduceLeDiff, Nat.reduceBEq, reduceIte, and_self, and_true, true_and, and_false, false_and, if_true, if_false, Nat.reduceMul, Int.reduceEq, Int.reduceLT, Int.reduceLE, Int.reduceNeg, Int.reduceAdd, Int.reduceMul, Int.reduceSub]
theorem MxT_tell {s : vS} {T : List Int} (h : MxT s T) (n p : Int) : MxT (tellS s n p) T := by
  unfold MxT tellS at *; simp only [gI_sI, gI_sR, gI_sA, gI_sE, gI_sw2, gI_rs, gI_cpA, gI_gh1, gL_sI, gL_sR, gL_sA, gL_sE, gL_sw2, gL_rs, gL_cpA, gR_sI, gR_sR, gR_sA, gR_sE, gR_sw2, gR_rs, gR_cpA, gN_sI, gN_sR, gN_gh1, gN_sA, gN_sE, gN_cpA, gN_sw2, gN_rs, gE_gC, gB_gC, gZ_gC, gEL_gC, gC_sI, gC_sR, gC_gh1, gC_sA, gC_sE, gC_cpA, gC_sw2, gC_rs, Nat.reduceEqDiff, Nat.reduceAdd, Nat.reduceLT, Nat.reduceLeDiff, Nat.reduceBEq, reduceIte, and_self, and_true, true_and, and_false, false_and, if_true, if_false, Nat.reduceMul, Int.reduceEq, Int.reduceLT, Int.reduceLE, Int.reduceNeg, Int.reduceAdd, Int.reduceMul, Int.reduceSub] at *; exact h
theorem MxT_setK {s : vS} {T : List Int} (h : MxT s T) (k : Int) : MxT (setK s k) T := by
  unfold MxT setK at *; simp only [gI_sI, gI_sR, gI_sA, gI_sE, gI_sw2, gI_rs, gI_cpA, gI_gh1, gL_sI, gL_sR, gL_sA, gL_sE, gL_sw2, gL_rs, gL_cpA, gR_sI, gR_sR, gR_sA, gR_sE, gR_sw2, gR_rs, gR_cpA, gN_sI, gN_sR, gN_gh1, gN_sA, gN_sE, gN_cpA, gN_sw2, gN_rs, gE_gC, gB_gC, gZ_gC, gEL_gC, gC_sI, gC_sR, gC_gh1, gC_sA, gC_sE, gC_cpA, gC_sw2, gC_rs, Nat.reduceEqDiff, Nat.reduceAdd, Nat.reduceLT, Nat.reduceLeDiff, Nat.reduceBEq, reduceIte, and_self, and_true, true_and, and_false, false_and, if_true, if_false, Nat.reduceMul, Int.reduceEq, Int.reduceLT, Int.reduceLE, Int.reduceNeg, Int.reduceAdd, Int.reduceMul, Int.reduceSub] at *; exact h
theorem X14_quoted {s : vS} {T : List Int} (h : MxT s T) (hf : gI s 87 8 = 0) {a : Int} (h0 : 0 ≤ a) (h1 : a < T.length) (hl : inb (gI s 87 15) (gN s 94)) : f_X14_quoted a s = some ((scanB T T.length 1 (a + 1)).2 + 2,
    if cha T (scanB T T.length 1 (a + 1)).2 = 39 ∧ (cha T ((scanB T T.length 1 (a + 1)).2 + 1) = 72 ∨ (cha T ((scanB T T.length 1 (a + 1)).2 + 1) = 66 ∧ (scanB T T.length 1 (a + 1)).1 ≠ 0)) then setK s (if cha T ((scanB T T.length 1 (a + 1)).2 + 1) = 72 then 5 else 4) else setK (tellS s 1 a) 5) := by
  have hT := h.2.1
  have hs := scanB_le (T := T) T.length 1 (a + 1)
  unfold f_X14_quoted
  rw [vl_eq, w32_id (x := a + 1) ⟨by omega, by omega⟩, Mquoted_l h a T.length FU 1 (a + 1) (by omega) (by omega) (by unfold FU; omega) (Or.inr rfl), lq_2_eq]
  generalize (scanB T T.length 1 (a + 1)).1 = b at *
  generalize (scanB T T.length 1 (a + 1)).2 = j at *
  have := hs.2 (by omega)
  have t1 := tellS_rd s 1 a
  rw [w32_id (x := j + 1) ⟨by omega, by omega⟩]
  simp only [j_X14_quoted_128, j_X14_quoted_141, X14_ch h (show 0 ≤ j by omega), X14_ch h (show 0 ≤ j + 1 by omega), bd_eq, X14_tell hf, bdv_eq, Nat.reduceEqDiff, Nat.reduceAdd, Nat.reduceLT, Nat.reduceLeDiff, Nat.reduceBEq, reduceIte, and_self, and_true, true_and, and_false, false_and, if_true, if_false, Nat.reduceMul, Int.reduceEq, Int.reduceLT, Int.reduceLE, Int.reduceNeg, Int.reduceAdd, Int.reduceMul, Int.reduceSub, stp_eq]
  rw [w32_id (x := j + 1) ⟨by omega, by omega⟩, w32_id (x := j + 2) ⟨by omega, by omega⟩]
  simp only [X14_ch h (show 0 ≤ j + 1 by omega), bd_eq, gd_pos hl, t1, gd, if_true]
  have hl' := hl
  unfold setK
  rw [t1.1]
  grind
/-- the part of a place's reading that is about signs -/
def lsign (c d e : Int) : Int × Int := if sX 1077 c < 0 then (-3, 1)
  else if c = 58 ∧ d = 58 ∧ e = 61 then (10, 3)
  else if c = 46 ∧ d = 46 then (if e = 46 then (11, 3) else (12, 2))
  else if c = 91 ∧ d = 91 then (13, 2)
  else if c = 93 ∧ d = 93 then (14, 2)
  else (15 + sX 1077 c, 1)
theorem sX_tab : ∀ c : Fin 256, sX 1077 (c.val : Int) = if c.val = 123 then 0 else if c.val = 125 then 1 else if c.val = 91 then 2 else if c.val = 93 then 3 else if c.val = 40 then 4 else if c.val = 41 then 5 else if c.val = 44 then 6 else if c.val = 58 then 7 else if c.val = 59 then 8 else if c.val = 124 then 9 else if c.val = 45 then 10 else if c.val = 60 then 11 else if c.val = 46 then 12 else if c.val = 62 then 13 else if c.val = 61 then 14 else if c.val = 64 then 15 else if c.val = 33 then 16 else if c.val = 94 then 17 else if c.val = 42 then 18 else if c.val = 47 then 19 else if c.val = 38 then 20 else -1 := by decide +kernel
theorem sX_eq {c : Int} (h0 : 0 ≤ c) (h1 : c < 256) : sX 1077 c = if c = 123 then 0 else if c = 125 then 1 else if c = 91 then 2 else if c = 93 then 3 else if c = 40 then 4 else if c = 41 then 5 else if c = 44 then 6 else if c = 58 then 7 else if c = 59 then 8 else if c = 124 then 9 else if c = 45 then 10 else if c = 60 then 11 else if c = 46 then 12 else if c = 62 then 13 else if c = 61 then 14 else if c = 64 then 15 else if c = 33 then 16 else if c = 94 then 17 else if c = 42 then 18 else if c = 47 then 19 else if c = 38 then 20 else -1 := by
  obtain ⟨n, rfl⟩ := Int.eq_ofNat_of_zero_le h0
  have := sX_tab ⟨n, by omega⟩
  simp only at this
  rw [this]
  norm_cast
theorem signEnd_sign {s : vS} {T : List Int} (h : MxT s T) (hf : gI s 87 8 = 0) {a : Int} (h0 : 0 ≤ a) (h1 : a < T.length) (hl : inb (gI s 87 15) (gN s 94)) : f_X14_signEnd a s = some (a + (lsign (cha T a) (cha T (a + 1)) (cha T (a + 2))).2, if (lsign (cha T a) (cha T (a + 1)) (cha T (a + 2))).1 = -3 then setK (tellS s 1 a) 22 else setK s (km (lsign (cha T a) (cha T (a + 1)) (cha T (a + 2))).1)) := by
  have hT := h.2.1
  have t1 := tellS_rd s 1 a
  have c0 := (h.2.2.2.2 a h0 h1).1
  have c1 := (h.2.2.2.2 a h0 h1).2
  have ex := sX_eq c0 c1
  unfold f_X14_signEnd
  rw [X14_ch h h0, bd_eq, w32_id (x := a + 1) ⟨by omega, by omega⟩, X14_ch h (show 0 ≤ a + 1 by omega), bd_eq]
  simp only [j_X14_signEnd_55]
  rw [w32_id (x := a + 2) ⟨by omega, by omega⟩, X14_ch h (show 0 ≤ a + 2 by omega), bd_eq, bd_eq]
  generalize cha T a = c at *
  generalize cha T (a + 1) = d at *
  generalize cha T (a + 2) = e at *
  have F : ∀ (n k z : Int), n = 1 ∨ n = 2 ∨ n = 3 → j_X14_signEnd_341 a n k z s = some (a + n, if k = 22 ∧ z = 0 then setK (tellS s 1 a) 22 else setK s k) := by
    intro n k z hn
    unfold j_X14_signEnd_341
    simp only [X14_tell hf, bdv_eq, stp_eq, t1.1, t1.2, gd_pos hl]
    rw [w32_id (x := a + n) ⟨by omega, by omega⟩]
    unfold setK
    rw [t1.1]
    grind
  unfold lsign
  rw [ex]
  simp only [j_X14_signEnd_104, j_X14_signEnd_121, j_X14_signEnd_158, j_X14_signEnd_84]

  by_cases k123 : c = 123
  · subst k123
    simp only [j_X14_signEnd_270, Nat.reduceEqDiff, Nat.reduceAdd, Nat.reduceLT, Nat.reduceLeDiff, Nat.reduceBEq, reduceIte, and_self, and_true, true_and, and_false, false_and, if_true, if_false, Nat.reduceMul, Int.reduceEq, Int.reduceLT, Int.reduceLE, Int.reduceNeg, Int.reduceAdd, Int.reduceMul, Int.reduceSub, F _ _ _ (Or.inl rfl), F _ _ _ (Or.inr (Or.inl rfl)), F _ _ _ (Or.inr (Or.inr rfl)), km]
  by_cases k125 : c = 125
  · subst k125
    simp only [j_X14_signEnd_270, Nat.reduceEqDiff, Nat.reduceAdd, Nat.reduceLT, Nat.reduceLeDiff, Nat.reduceBEq, reduceIte, and_self, and_true, true_and, and_false, false_and, if_true, if_false, Nat.reduceMul, Int.reduceEq, Int.reduceLT, Int.reduceLE, Int.reduceNeg, Int.reduceAdd, Int.reduceMul, Int.reduceSub, F _ _ _ (Or.inl rfl), F _ _ _ (Or.inr (Or.inl rfl)), F _ _ _ (Or.inr (Or.inr rfl)), km]
  by_cases k91 : c = 91
  · subst k91
    by_cases hd : d = 91
    · subst hd; simp only [j_X14_signEnd_270, Nat.reduceEqDiff, Nat.reduceAdd, Nat.reduceLT, Nat.reduceLeDiff, Nat.reduceBEq, reduceIte, and_self, and_true, true_and, and_false, false_and, if_true, if_false, Nat.reduceMul, Int.reduceEq, Int.reduceLT, Int.reduceLE, Int.reduceNeg, Int.reduceAdd, Int.reduceMul, Int.reduceSub, F _ _ _ (Or.inl rfl), F _ _ _ (Or.inr (Or.inl rfl)), F _ _ _ (Or.inr (Or.inr rfl)), km]
    · simp only [j_X14_signEnd_270, Nat.reduceEqDiff, Nat.reduceAdd, Nat.reduceLT, Nat.reduceLeDiff, Nat.reduceBEq, reduceIte, and_self, and_true, true_and, and_false, false_and, if_true, if_false, Nat.reduceMul, Int.reduceEq, Int.reduceLT, Int.reduceLE, Int.reduceNeg, Int.reduceAdd, Int.reduceMul, Int.reduceSub, F _ _ _ (Or.inl rfl), F _ _ _ (Or.inr (Or.inl rfl)), F _ _ _ (Or.inr (Or.inr rfl)), km, hd]
  by_cases k93 : c = 93
  · subst k93
    by_cases hd : d = 93
    · subst hd; simp only [j_X14_signEnd_270, Nat.reduceEqDiff, Nat.reduceAdd, Nat.reduceLT, Nat.reduceLeDiff, Nat.reduceBEq, reduceIte, and_self, and_true, true_and, and_false, false_and, if_true, if_false, Nat.reduceMul, Int.reduceEq, Int.reduceLT, Int.reduceLE, Int.reduceNeg, Int.reduceAdd, Int.reduceMul, Int.reduceSub, F _ _ _ (Or.inl rfl), F _ _ _ (Or.inr (Or.inl rfl)), F _ _ _ (Or.inr (Or.inr rfl)), km]
    · simp only [j_X14_signEnd_270, Nat.reduceEqDiff, Nat.reduceAdd, Nat.reduceLT, Nat.reduceLeDiff, Nat.reduceBEq, reduceIte, and_self, and_true, true_and, and_false, false_and, if_true, if_false, Nat.reduceMul, Int.reduceEq, Int.reduceLT, Int.reduceLE, Int.reduceNeg, Int.reduceAdd, Int.reduceMul, Int.reduceSub, F _ _ _ (Or.inl rfl), F _ _ _ (Or.inr (Or.inl rfl)), F _ _ _ (Or.inr (Or.inr rfl)), km, hd]
  by_cases k40 : c = 40
  · subst k40
    simp only [j_X14_signEnd_270, Nat.reduceEqDiff, Nat.reduceAdd, Nat.reduceLT, Nat.reduceLeDiff, Nat.reduceBEq, reduceIte, and_self, and_true, true_and, and_false, false_and, if_true, if_false, Nat.reduceMul, Int.reduceEq, Int.reduceLT, Int.reduceLE, Int.reduceNeg, Int.reduceAdd, Int.reduceMul, Int.reduceSub, F _ _ _ (Or.inl rfl), F _ _ _ (Or.inr (Or.inl rfl)), F _ _ _ (Or.inr (Or.inr rfl)), km]
  by_cases k41 : c = 41
  · subst k41
    simp only [j_X14_signEnd_270, Nat.reduceEqDiff, Nat.reduceAdd, Nat.reduceLT, Nat.reduceLeDiff, Nat.reduceBEq, reduceIte, and_self, and_true, true_and, and_false, false_and, if_true, if_false, Nat.reduceMul, Int.reduceEq, Int.reduceLT, Int.reduceLE, Int.reduceNeg, Int.reduceAdd, Int.reduceMul, Int.reduceSub, F _ _ _ (Or.inl rfl), F _ _ _ (Or.inr (Or.inl rfl)), F _ _ _ (Or.inr (Or.inr rfl)), km]
  by_cases k44 : c = 44
  · subst k44
    simp only [j_X14_signEnd_270, Nat.reduceEqDiff, Nat.reduceAdd, Nat.reduceLT, Nat.reduceLeDiff, Nat.reduceBEq, reduceIte, and_self, and_true, true_and, and_false, false_and, if_true, if_false, Nat.reduceMul, Int.reduceEq, Int.reduceLT, Int.reduceLE, Int.reduceNeg, Int.reduceAdd, Int.reduceMul, Int.reduceSub, F _ _ _ (Or.inl rfl), F _ _ _ (Or.inr (Or.inl rfl)), F _ _ _ (Or.inr (Or.inr rfl)), km]
  by_cases k58 : c = 58
  · subst k58
    by_cases hd : d = 58
    · subst hd
      by_cases he : e = 61
      · subst he; simp only [j_X14_signEnd_270, Nat.reduceEqDiff, Nat.reduceAdd, Nat.reduceLT, Nat.reduceLeDiff, Nat.reduceBEq, reduceIte, and_self, and_true, true_and, and_false, false_and, if_true, if_false, Nat.reduceMul, Int.reduceEq, Int.reduceLT, Int.reduceLE, Int.reduceNeg, Int.reduceAdd, Int.reduceMul, Int.reduceSub, F _ _ _ (Or.inl rfl), F _ _ _ (Or.inr (Or.inl rfl)), F _ _ _ (Or.inr (Or.inr rfl)), km]
      · simp only [j_X14_signEnd_270, Nat.reduceEqDiff, Nat.reduceAdd, Nat.reduceLT, Nat.reduceLeDiff, Nat.reduceBEq, reduceIte, and_self, and_true, true_and, and_false, false_and, if_true, if_false, Nat.reduceMul, Int.reduceEq, Int.reduceLT, Int.reduceLE, Int.reduceNeg, Int.reduceAdd, Int.reduceMul, Int.reduceSub, F _ _ _ (Or.inl rfl), F _ _ _ (Or.inr (Or.inl rfl)), F _ _ _ (Or.inr (Or.inr rfl)), km, he]
    · simp only [j_X14_signEnd_270, Nat.reduceEqDiff, Nat.reduceAdd, Nat.reduceLT, Nat.reduceLeDiff, Nat.reduceBEq, reduceIte, and_self, and_true, true_and, and_false, false_and, if_true, if_false, Nat.reduceMul, Int.reduceEq, Int.reduceLT, Int.reduceLE, Int.reduceNeg, Int.reduceAdd, Int.reduceMul, Int.reduceSub, F _ _ _ (Or.inl rfl), F _ _ _ (Or.inr (Or.inl rfl)), F _ _ _ (Or.inr (Or.inr rfl)), km, hd]
  by_cases k59 : c = 59
  · subst k59
    simp only [j_X14_signEnd_270, Nat.reduceEqDiff, Nat.reduceAdd, Nat.reduceLT, Nat.reduceLeDiff, Nat.reduceBEq, reduceIte, and_self, and_true, true_and, and_false, false_and, if_true, if_false, Nat.reduceMul, Int.reduceEq, Int.reduceLT, Int.reduceLE, Int.reduceNeg, Int.reduceAdd, Int.reduceMul, Int.reduceSub, F _ _ _ (Or.inl rfl), F _ _ _ (Or.inr (Or.inl rfl)), F _ _ _ (Or.inr (Or.inr rfl)), km]
  by_cases k124 : c = 124
  · subst k124
    simp only [j_X14_signEnd_270, Nat.reduceEqDiff, Nat.reduceAdd, Nat.reduceLT, Nat.reduceLeDiff, Nat.reduceBEq, reduceIte, and_self, and_true, true_and, and_false, false_and, if_true, if_false, Nat.reduceMul, Int.reduceEq, Int.reduceLT, Int.reduceLE, Int.reduceNeg, Int.reduceAdd, Int.reduceMul, Int.reduceSub, F _ _ _ (Or.inl rfl), F _ _ _ (Or.inr (Or.inl rfl)), F _ _ _ (Or.inr (Or.inr rfl)), km]
  by_cases k45 : c = 45
  · subst k45
    simp only [j_X14_signEnd_270, Nat.reduceEqDiff, Nat.reduceAdd, Nat.reduceLT, Nat.reduceLeDiff, Nat.reduceBEq, reduceIte, and_self, and_true, true_and, and_false, false_and, if_true, if_false, Nat.reduceMul, Int.reduceEq, Int.reduceLT, Int.reduceLE, Int.reduceNeg, Int.reduceAdd, Int.reduceMul, Int.reduceSub, F _ _ _ (Or.inl rfl), F _ _ _ (Or.inr (Or.inl rfl)), F _ _ _ (Or.inr (Or.inr rfl)), km]
  by_cases k60 : c = 60
  · subst k60
    simp only [j_X14_signEnd_270, Nat.reduceEqDiff, Nat.reduceAdd, Nat.reduceLT, Nat.reduceLeDiff, Nat.reduceBEq, reduceIte, and_self, and_true, true_and, and_false, false_and, if_true, if_false, Nat.reduceMul, Int.reduceEq, Int.reduceLT, Int.reduceLE, Int.reduceNeg, Int.reduceAdd, Int.reduceMul, Int.reduceSub, F _ _ _ (Or.inl rfl), F _ _ _ (Or.inr (Or.inl rfl)), F _ _ _ (Or.inr (Or.inr rfl)), km]
  by_cases k46 : c = 46
  · subst k46
    by_cases hd : d = 46
    · subst hd
      by_cases he : e = 46
      · subst he; simp only [j_X14_signEnd_270, Nat.reduceEqDiff, Nat.reduceAdd, Nat.reduceLT, Nat.reduceLeDiff, Nat.reduceBEq, reduceIte, and_self, and_true, true_and, and_false, false_and, if_true, if_false, Nat.reduceMul, Int.reduceEq, Int.reduceLT, Int.reduceLE, Int.reduceNeg, Int.reduceAdd, Int.reduceMul, Int.reduceSub, F _ _ _ (Or.inl rfl), F _ _ _ (Or.inr (Or.inl rfl)), F _ _ _ (Or.inr (Or.inr rfl)), km]
      · simp only [j_X14_signEnd_270, Nat.reduceEqDiff, Nat.reduceAdd, Nat.reduceLT, Nat.reduceLeDiff, Nat.reduceBEq, reduceIte, and_self, and_true, true_and, and_false, false_and, if_true, if_false, Nat.reduceMul, Int.reduceEq, Int.reduceLT, Int.reduceLE, Int.reduceNeg, Int.reduceAdd, Int.reduceMul, Int.reduceSub, F _ _ _ (Or.inl rfl), F _ _ _ (Or.inr (Or.inl rfl)), F _ _ _ (Or.inr (Or.inr rfl)), km, he]
    · simp only [j_X14_signEnd_270, Nat.reduceEqDiff, Nat.reduceAdd, Nat.reduceLT, Nat.reduceLeDiff, Nat.reduceBEq, reduceIte, and_self, and_true, true_and, and_false, false_and, if_true, if_false, Nat.reduceMul, Int.reduceEq, Int.reduceLT, Int.reduceLE, Int.reduceNeg, Int.reduceAdd, Int.reduceMul, Int.reduceSub, F _ _ _ (Or.inl rfl), F _ _ _ (Or.inr (Or.inl rfl)), F _ _ _ (Or.inr (Or.inr rfl)), km, hd]
  by_cases k62 : c = 62
  · subst k62
    simp only [j_X14_signEnd_270, Nat.reduceEqDiff, Nat.reduceAdd, Nat.reduceLT, Nat.reduceLeDiff, Nat.reduceBEq, reduceIte, and_self, and_true, true_and, and_false, false_and, if_true, if_false, Nat.reduceMul, Int.reduceEq, Int.reduceLT, Int.reduceLE, Int.reduceNeg, Int.reduceAdd, Int.reduceMul, Int.reduceSub, F _ _ _ (Or.inl rfl), F _ _ _ (Or.inr (Or.inl rfl)), F _ _ _ (Or.inr (Or.inr rfl)), km]
  by_cases k61 : c = 61
  · subst k61
    simp only [j_X14_signEnd_270, Nat.reduceEqDiff, Nat.reduceAdd, Nat.reduceLT, Nat.reduceLeDiff, Nat.reduceBEq, reduceIte, and_self, and_true, true_and, and_false, false_and, if_true, if_false, Nat.reduceMul, Int.reduceEq, Int.reduceLT, Int.reduceLE, Int.reduceNeg, Int.reduceAdd, Int.reduceMul, Int.reduceSub, F _ _ _ (Or.inl rfl), F _ _ _ (Or.inr (Or.inl rfl)), F _ _ _ (Or.inr (Or.inr rfl)), km]
  by_cases k64 : c = 64
  · subst k64
    simp only [j_X14_signEnd_270, Nat.reduceEqDiff, Nat.reduceAdd, Nat.reduceLT, Nat.reduceLeDiff, Nat.reduceBEq, reduceIte, and_self, and_true, true_and, and_false, false_and, if_true, if_false, Nat.reduceMul, Int.reduceEq, Int.reduceLT, Int.reduceLE, Int.reduceNeg, Int.reduceAdd, Int.reduceMul, Int.reduceSub, F _ _ _ (Or.inl rfl), F _ _ _ (Or.inr (Or.inl rfl)), F _ _ _ (Or.inr (Or.inr rfl)), km]
  by_cases k33 : c = 33
  · subst k33
    simp only [j_X14_signEnd_270, Nat.reduceEqDiff, Nat.reduceAdd, Nat.reduceLT, Nat.reduceLeDiff, Nat.reduceBEq, reduceIte, and_self, and_true, true_and, and_false, false_and, if_true, if_false, Nat.reduceMul, Int.reduceEq, Int.reduceLT, Int.reduceLE, Int.reduceNeg, Int.reduceAdd, Int.reduceMul, Int.reduceSub, F _ _ _ (Or.inl rfl), F _ _ _ (Or.inr (Or.inl rfl)), F _ _ _ (Or.inr (Or.inr rfl)), km]
  by_cases k94 : c = 94
  · subst k94
    simp only [j_X14_signEnd_270, Nat.reduceEqDiff, Nat.reduceAdd, Nat.reduceLT, Nat.reduceLeDiff, Nat.reduceBEq, reduceIte, and_self, and_true, true_and, and_false, false_and, if_true, if_false, Nat.reduceMul, Int.reduceEq, Int.reduceLT, Int.reduceLE, Int.reduceNeg, Int.reduceAdd, Int.reduceMul, Int.reduceSub, F _ _ _ (Or.inl rfl), F _ _ _ (Or.inr (Or.inl rfl)), F _ _ _ (Or.inr (Or.inr rfl)), km]
  by_cases k42 : c = 42
  · subst k42
    simp only [j_X14_signEnd_270, Nat.reduceEqDiff, Nat.reduceAdd, Nat.reduceLT, Nat.reduceLeDiff, Nat.reduceBEq, reduceIte, and_self, and_true, true_and, and_false, false_and, if_true, if_false, Nat.reduceMul, Int.reduceEq, Int.reduceLT, Int.reduceLE, Int.reduceNeg, Int.reduceAdd, Int.reduceMul, Int.reduceSub, F _ _ _ (Or.inl rfl), F _ _ _ (Or.inr (Or.inl rfl)), F _ _ _ (Or.inr (Or.inr rfl)), km]
  by_cases k47 : c = 47
  · subst k47
    simp only [j_X14_signEnd_270, Nat.reduceEqDiff, Nat.reduceAdd, Nat.reduceLT, Nat.reduceLeDiff, Nat.reduceBEq, reduceIte, and_self, and_true, true_and, and_false, false_and, if_true, if_false, Nat.reduceMul, Int.reduceEq, Int.reduceLT, Int.reduceLE, Int.reduceNeg, Int.reduceAdd, Int.reduceMul, Int.reduceSub, F _ _ _ (Or.inl rfl), F _ _ _ (Or.inr (Or.inl rfl)), F _ _ _ (Or.inr (Or.inr rfl)), km]
  by_cases k38 : c = 38
  · subst k38
    simp only [j_X14_signEnd_270, Nat.reduceEqDiff, Nat.reduceAdd, Nat.reduceLT, Nat.reduceLeDiff, Nat.reduceBEq, reduceIte, and_self, and_true, true_and, and_false, false_and, if_true, if_false, Nat.reduceMul, Int.reduceEq, Int.reduceLT, Int.reduceLE, Int.reduceNeg, Int.reduceAdd, Int.reduceMul, Int.reduceSub, F _ _ _ (Or.inl rfl), F _ _ _ (Or.inr (Or.inl rfl)), F _ _ _ (Or.inr (Or.inr rfl)), km]
  simp only [j_X14_signEnd_270, Nat.reduceEqDiff, Nat.reduceAdd, Nat.reduceLT, Nat.reduceLeDiff, Nat.reduceBEq, reduceIte, and_self, and_true, true_and, and_false, false_and, if_true, if_false, Nat.reduceMul, Int.reduceEq, Int.reduceLT, Int.reduceLE, Int.reduceNeg, Int.reduceAdd, Int.reduceMul, Int.reduceSub, k123, k125, k91, k93, k40, k41, k44, k58, k59, k124, k45, k60, k46, k62, k61, k64, k33, k94, k42, k47, k38, F _ _ _ (Or.inl rfl)]
