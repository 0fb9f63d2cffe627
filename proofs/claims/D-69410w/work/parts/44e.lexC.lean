set_option maxRecDepth 100000 set_option linter.unusedVariables false set_option linter.unusedSimpArgs false
/-! PURE 44e: each sort of lexeme; the whole text -/
def LxI (s : vS) (T : List Int) (B : Nat) : Prop := LxT s T ∧ LxW s B ∧ gN s 6 = 77 ∧ (∀ y : Int, 0 ≤ y → y < 77 → gE s 6 y = 1)
theorem LxI_at {s : vS} {T : List Int} {B : Nat} (h : LxI s T B) (a : Int) : LxI (sI s 5 3 a) T B := by
  obtain ⟨h1, h2, h3, h4⟩ := h
  refine ⟨LxT_at h1 a, ?_, h3, h4⟩
  unfold LxW at *; simp only [gI_sI, gI_sR, gI_sA, gI_sE, gI_sw2, gI_rs, gI_cpA, gI_gh1, gL_sI, gL_sR, gL_sA, gL_sE, gL_sw2, gL_rs, gL_cpA, gR_sI, gR_sR, gR_sA, gR_sE, gR_sw2, gR_rs, gR_cpA, gN_sI, gN_sR, gN_gh1, gN_sA, gN_sE, gN_cpA, gN_sw2, gN_rs, gE_gC, gB_gC, gZ_gC, gEL_gC, gC_sI, gC_sR, gC_gh1, gC_sA, gC_sE, gC_cpA, gC_sw2, gC_rs, Nat.reduceEqDiff, Nat.reduceAdd, Nat.reduceLT, Nat.reduceLeDiff, Nat.reduceBEq, reduceIte, and_self, and_true, true_and, and_false, false_and, if_true, if_false, Nat.reduceMul, Int.reduceEq, Int.reduceLT, Int.reduceLE, Int.reduceNeg, Int.reduceAdd, Int.reduceMul, Int.reduceSub]; exact h2
theorem lexs_at (s : vS) (a : Int) : lexs (sI s 5 3 a) = lexs s := by
  unfold lexs; simp only [gI_sI, gI_sR, gI_sA, gI_sE, gI_sw2, gI_rs, gI_cpA, gI_gh1, gL_sI, gL_sR, gL_sA, gL_sE, gL_sw2, gL_rs, gL_cpA, gR_sI, gR_sR, gR_sA, gR_sE, gR_sw2, gR_rs, gR_cpA, gN_sI, gN_sR, gN_gh1, gN_sA, gN_sE, gN_cpA, gN_sw2, gN_rs, gE_gC, gB_gC, gZ_gC, gEL_gC, gC_sI, gC_sR, gC_gh1, gC_sA, gC_sE, gC_cpA, gC_sw2, gC_rs, Nat.reduceEqDiff, Nat.reduceAdd, Nat.reduceLT, Nat.reduceLeDiff, Nat.reduceBEq, reduceIte, and_self, and_true, true_and, and_false, false_and, if_true, if_false, Nat.reduceMul, Int.reduceEq, Int.reduceLT, Int.reduceLE, Int.reduceNeg, Int.reduceAdd, Int.reduceMul, Int.reduceSub]
theorem addS {s : vS} {T : List Int} {B : Nat} (h : LxI s T B) (hB : 2 * gI s 5 7 ≤ B) {k a j : Int} (hj : rg j) (hk : rg k) (ha : rg a) : wpo (f_X3_add k a (sI s 5 3 j)) fun s' => LxI s' T B ∧ gI s' 5 3 = j ∧ lexs s' = lexs s ++ [(k, a, j)] := by
  have h' := LxI_at h j
  refine (X3_add h'.2.1 (by simp only [gI_sI, gI_sR, gI_sA, gI_sE, gI_sw2, gI_rs, gI_cpA, gI_gh1, gL_sI, gL_sR, gL_sA, gL_sE, gL_sw2, gL_rs, gL_cpA, gR_sI, gR_sR, gR_sA, gR_sE, gR_sw2, gR_rs, gR_cpA, gN_sI, gN_sR, gN_gh1, gN_sA, gN_sE, gN_cpA, gN_sw2, gN_rs, gE_gC, gB_gC, gZ_gC, gEL_gC, gC_sI, gC_sR, gC_gh1, gC_sA, gC_sE, gC_cpA, gC_sw2, gC_rs, Nat.reduceEqDiff, Nat.reduceAdd, Nat.reduceLT, Nat.reduceLeDiff, Nat.reduceBEq, reduceIte, and_self, and_true, true_and, and_false, false_and, if_true, if_false, Nat.reduceMul, Int.reduceEq, Int.reduceLT, Int.reduceLE, Int.reduceNeg, Int.reduceAdd, Int.reduceMul, Int.reduceSub]; exact hB) hk ha).mono ?_
  rintro s' ⟨q1, q2, q3, fr⟩
  rw [at_sI hj, lexs_at] at q2
  refine ⟨⟨⟨?_, ?_, ?_, h'.1.2.2.2⟩, q1, ?_, ?_⟩, ?_, q2⟩
  · rw [fr.rR (by decide)]; exact h'.1.1
  · exact h'.1.2.1.fr fr (by decide) (by decide) (by decide)
  · rw [bts_fr fr (by decide) (by decide) (by decide)]; exact h'.1.2.2.1
  · rw [fr.rN (by decide) (by decide)]; exact h'.2.2.1
  · rw [fr.rE (by decide) (by decide)]; exact h'.2.2.2
  · rw [fr.rI (by decide), at_sI hj]
theorem cha_rg {s : vS} {T : List Int} (h : LxT s T) (i : Int) : -1 ≤ cha T i ∧ cha T i < 256 := by
  by_cases c : 0 ≤ i ∧ i < T.length
  · rw [cha_in c.1 c.2, ← h.2.2.1, bts, rowL_getD _ _ (by rw [h.size]; omega)]; omega
  · unfold cha; rw [if_neg c]; omega
theorem X3_name {s : vS} {T : List Int} {B : Nat} (h : LxI s T B) (hB : 2 * gI s 5 7 ≤ B) {a : Int} (ha : gI s 5 3 = a) (h0 : 0 ≤ a) (h1 : a < T.length) : wpo (f_X3_name s) fun s' => LxI s' T B ∧ gI s' 5 3 = scan (pName T) T.length (a + 1) ∧ lexs s' = lexs s ++ [(nameK T a (scan (pName T) T.length (a + 1)), a, scan (pName T) T.length (a + 1))] := by
  have hT := h.1.2.2.2
  have hs := scan_le (pName T) (n := T.length) (fun i => pName_lt) T.length (a + 1)
  unfold f_X3_name
  rw [vl_eq, stp_eq, ha, w32_id ⟨by omega, by omega⟩, name_l h.1 a T.length FU (a + 1) (by omega) (by omega) (by unfold FU; omega), lq_0_eq]
  generalize scan (pName T) T.length (a + 1) = j at *
  have hj : j ≤ T.length := hs.2 (by omega)
  have rj : rg j := ⟨by omega, by omega⟩
  have h' := LxI_at h j
  unfold j_X3_name_82
  rw [gd_pos h'.1.ok, h'.1.1, h'.1.at h0 h1, bd_eq, X3_isLarge, bd_eq]
  unfold nameK
  by_cases c : cLa (cha T a)
  · rw [if_neg (by rw [b2i_zero]; simp [c]), X3_wordOf h'.1 h'.2.2.1 h'.2.2.2 h0 (by rw [at_sI rj]; omega) (by rw [at_sI rj]; exact hj), bd_eq, at_sI rj, if_pos c]
    have hr := wIx_rg (slc T a j)
    generalize wIx (slc T a j) lwords 0 = w at *
    unfold j_X3_name_105 j_X3_name_138
    simp only [h'.1.1, gd_ok3, h'.1.at h0 h1, bd_eq, X3_isLarge, b2i_zero, c, not_true_eq_false, if_false]
    by_cases cw : w = -1
    · simp only [cw, if_true]
      rw [if_neg (fun q => q c)]
      refine wpo_bdv.mpr ?_
      refine (addS (k := 1) (a := a) h hB rj (rgl rfl) ⟨by omega, by omega⟩).mono fun r q => ?_
      exact wpo_some.mpr q
    · simp only [cw, if_false]
      rw [w32_id (x := 100 + w) ⟨by omega, by omega⟩]
      exact wpo_bdv.mpr ((addS (k := 100 + w) (a := a) h hB rj ⟨by omega, by omega⟩ ⟨by omega, by omega⟩).mono fun r q => wpo_some.mpr q)
  · rw [if_pos (by rw [b2i_zero]; exact c), if_neg c]
    unfold j_X3_name_105 j_X3_name_138
    simp only [h'.1.1, gd_ok3, h'.1.at h0 h1, bd_eq, X3_isLarge, b2i_zero, c, not_false_eq_true, if_true]
    exact wpo_bdv.mpr ((addS (k := 0) (a := a) h hB rj (rgl rfl) ⟨by omega, by omega⟩).mono fun r q => wpo_some.mpr q)
/-- what a sort of lexeme leaves: a new one, or word that it is none -/
def PUl (s : vS) (T : List Int) (B : Nat) (a k j r : Int) (s' : vS) : Prop := LxI s' T B ∧ ((k = -3 ∧ r = 0) ∨ (k ≠ -3 ∧ r = 1 ∧ gI s' 5 3 = j ∧ lexs s' = lexs s ++ [(k, a, j)]))
theorem addP {s : vS} {T : List Int} {B : Nat} (h : LxI s T B) (hB : 2 * gI s 5 7 ≤ B) {k a j : Int} (hj : rg j) (hk : rg k) (ha : rg a) (h3 : k ≠ -3) : wpo (bdv (f_X3_add k a (sI s 5 3 j)) fun s1 => some ((1 : Int), s1)) fun q => PUl s T B a k j q.1 q.2 :=
  wpo_bdv.mpr ((addS h hB hj hk ha).mono fun r q => wpo_some.mpr ⟨q.1, Or.inr ⟨h3, rfl, q.2.1, q.2.2⟩⟩)
theorem X3_number {s : vS} {T : List Int} {B : Nat} (h : LxI s T B) (hB : 2 * gI s 5 7 ≤ B) {a : Int} (ha : gI s 5 3 = a) (h0 : 0 ≤ a) (h1 : a < T.length) : wpo (f_X3_number s) fun q => PUl s T B a (if cha T a = 48 ∧ cDg (cha T (a + 1)) then -3 else 2) (if cha T a = 48 then a + 1 else scan (pDig T) T.length (a + 1)) q.1 q.2 := by
  have hT := h.1.2.2.2
  have hs := scan_le (pDig T) (n := T.length) (fun i => pDig_lt) T.length (a + 1)
  unfold f_X3_number
  rw [vl_eq, stp_eq, ha, w32_id ⟨by omega, by omega⟩]
  by_cases c : cha T a = 48
  · have e1 : l_X3_number_15 FU a (sI s 5 3 (a + 1)) = some (sI s 5 3 (a + 1)) := by
      rw [show FU = 999999999999 + 1 from rfl]
      unfold l_X3_number_15
      rw [gd_pos (LxI_at h _).1.ok, (LxI_at h _).1.1, (LxI_at h _).1.at h0 h1, bd_eq, if_pos c]
    rw [e1, lq_0_eq]
    have e0 := hereS h.1 (a := a + 1) (k := 0) ⟨by omega, by omega⟩ (by omega) (by omega)
    rw [Int.add_zero] at e0
    unfold j_X3_number_52 j_X3_number_78
    simp only [(LxI_at h (a + 1)).1.1, gd_ok3, (LxI_at h (a + 1)).1.at h0 h1, bd_eq, c, if_true, e0, X3_isDigit, b2i_zero, true_and]
    by_cases d : cDg (cha T (a + 1))
    · rw [if_neg (by simp [d]), if_pos d]; exact wpo_some.mpr ⟨LxI_at h _, Or.inl ⟨rfl, rfl⟩⟩
    · rw [if_pos d, if_neg d]; exact addP h hB ⟨by omega, by omega⟩ (rgl rfl) ⟨by omega, by omega⟩ (by decide)
  · rw [number_l h.1 a h0 h1 c T.length FU (a + 1) (by omega) (by omega) (by unfold FU; omega), lq_0_eq]
    generalize scan (pDig T) T.length (a + 1) = j at *
    have hj : j ≤ T.length := hs.2 (by omega)
    unfold j_X3_number_52 j_X3_number_78
    simp only [(LxI_at h j).1.1, gd_ok3, (LxI_at h j).1.at h0 h1, bd_eq, c, if_false, false_and]
    exact addP h hB ⟨by omega, by omega⟩ (rgl rfl) ⟨by omega, by omega⟩ (by decide)
theorem scanQ_le {T : List Int} : ∀ (k : Nat) (i : Int), i ≤ scanQ T k i ∧ (i ≤ T.length → scanQ T k i ≤ T.length)
  | 0, i => ⟨Int.le_refl _, id⟩
  | k + 1, i => by
    unfold scanQ
    by_cases h : (32 ≤ cha T i ∧ cha T i ≤ 126) ∧ (cha T i ≠ 34 ∨ cha T (i + 1) = 34)
    · rw [if_pos h]
      have l1 := cha_lt (T := T) (i := i) (by omega)
      by_cases c : cha T i = 34
      · rw [if_pos c]
        have l2 := cha_lt (T := T) (i := i + 1) (by omega)
        have := scanQ_le (T := T) k (i + 2); omega
      · rw [if_neg c]; have := scanQ_le (T := T) k (i + 1); omega
    · rw [if_neg h]; omega
theorem scanB_le {T : List Int} : ∀ (k : Nat) (b i : Int), i ≤ (scanB T k b i).2 ∧ (i ≤ T.length → (scanB T k b i).2 ≤ T.length)
  | 0, b, i => ⟨Int.le_refl _, id⟩
  | k + 1, b, i => by
    unfold scanB
    by_cases h : cHx (cha T i) ∨ cWh (cha T i)
    · rw [if_pos h]
      have l1 := cha_lt (T := T) (i := i) (by omega)
      have := scanB_le (T := T) k (b2i (b ≠ 0 ∧ (cWh (cha T i) ∨ cha T i < 50))) (i + 1); omega
    · rw [if_neg h]; omega
theorem X3_quoted {s : vS} {T : List Int} {B : Nat} (h : LxI s T B) (hB : 2 * gI s 5 7 ≤ B) {a : Int} (ha : gI s 5 3 = a) (h0 : 0 ≤ a) (h1 : a < T.length) : wpo (f_X3_quoted s) fun q => PUl s T B a (if cha T (scanQ T T.length (a + 1)) = 34 then 5 else -3) (scanQ T T.length (a + 1) + 1) q.1 q.2 := by
  have hT := h.1.2.2.2
  have hs := scanQ_le (T := T) T.length (a + 1)
  unfold f_X3_quoted
  rw [vl_eq, stp_eq, ha, w32_id ⟨by omega, by omega⟩, quoted_l h.1 a T.length FU (a + 1) (by omega) (by omega) (by unfold FU; omega), lq_0_eq]
  generalize scanQ T T.length (a + 1) = j at *
  have hj : j ≤ T.length := hs.2 (by omega)
  have rj : rg j := ⟨by omega, by omega⟩
  have e0 := hereS h.1 (a := j) (k := 0) rj (by omega) (by omega)
  rw [Int.add_zero] at e0
  unfold j_X3_quoted_82
  rw [e0, bd_eq, stp_eq, at_sI rj, sI_sI, w32_id ⟨by omega, by omega⟩]
  by_cases c : cha T j = 34
  · rw [if_pos c, if_pos c]; exact addP h hB ⟨by omega, by omega⟩ (rgl rfl) ⟨by omega, by omega⟩ (by decide)
  · rw [if_neg c, if_neg c]; exact wpo_some.mpr ⟨LxI_at h _, Or.inl ⟨rfl, rfl⟩⟩
theorem X3_digits {s : vS} {T : List Int} {B : Nat} (h : LxI s T B) (hB : 2 * gI s 5 7 ≤ B) {a : Int} (ha : gI s 5 3 = a) (h0 : 0 ≤ a) (h1 : a < T.length) : wpo (f_X3_digits s) fun q => PUl s T B a (if cha T (scanB T T.length 1 (a + 1)).2 = 39 ∧ (cha T ((scanB T T.length 1 (a + 1)).2 + 1) = 72 ∨ (cha T ((scanB T T.length 1 (a + 1)).2 + 1) = 66 ∧ (scanB T T.length 1 (a + 1)).1 ≠ 0)) then (if cha T ((scanB T T.length 1 (a + 1)).2 + 1) = 72 then 4 else 3) else -3) ((scanB T T.length 1 (a + 1)).2 + 2) q.1 q.2 := by
  have hT := h.1.2.2.2
  have hs := scanB_le (T := T) T.length 1 (a + 1)
  unfold f_X3_digits
  rw [vl_eq, stp_eq, ha, w32_id ⟨by omega, by omega⟩, digits_l h.1 a T.length FU 1 (a + 1) (by omega) (by omega) (by unfold FU; omega) (Or.inr rfl), lq_1_eq]
  generalize (scanB T T.length 1 (a + 1)).1 = b at *
  generalize (scanB T T.length 1 (a + 1)).2 = j at *
  have hj : j ≤ T.length := hs.2 (by omega)
  have rj : rg j := ⟨by omega, by omega⟩
  have e0 := hereS h.1 (a := j) (k := 0) rj (by omega) (by omega)
  have e1 := hereS h.1 (a := j) (k := 1) rj (by omega) (by omega)
  rw [Int.add_zero] at e0
  have bad : wpo (some ((0 : Int), sI s 5 3 j)) fun q => PUl s T B a (-3) (j + 2) q.1 q.2 := wpo_some.mpr ⟨LxI_at h _, Or.inl ⟨rfl, rfl⟩⟩
  have g4 := addP h hB (k := 4) (a := a) (j := j + 2) ⟨by omega, by omega⟩ (rgl rfl) ⟨by omega, by omega⟩ (by decide)
  have g3 := addP h hB (k := 3) (a := a) (j := j + 2) ⟨by omega, by omega⟩ (rgl rfl) ⟨by omega, by omega⟩ (by decide)
  unfold j_X3_digits_117 j_X3_digits_139
  rw [e1, bd_eq, e0, bd_eq]
  simp only [stp_eq, at_sI rj, sI_sI]
  rw [w32_id ⟨by omega, by omega⟩]
  by_cases c1 : cha T j = 39
  · simp only [c1, if_true, true_and]
    by_cases c2 : cha T (j + 1) = 72
    · simp only [c2, if_true, true_or]; exact g4
    · by_cases c3 : cha T (j + 1) = 66
      · simp only [c3, if_true, true_and]
        by_cases c4 : b = 0
        · simp only [c4, if_true]; simpa using bad
        · simp only [c4, ne_eq, not_false_eq_true, if_false, if_true]; simpa [c4] using g3
      · simp only [c2, c3, if_false, false_and, or_false]; exact bad
  · simp only [c1, if_false, false_and]; exact bad
theorem X3_sign {s : vS} {T : List Int} {B : Nat} (h : LxI s T B) (hB : 2 * gI s 5 7 ≤ B) {a : Int} (ha : gI s 5 3 = a) (h0 : 0 ≤ a) (h1 : a < T.length) : wpo (f_X3_sign s) fun q => PUl s T B a
    (if sX 1077 (cha T a) < 0 then -3 else if cha T a = 58 ∧ cha T (a + 1) = 58 ∧ cha T (a + 2) = 61 then 10 else if cha T a = 46 ∧ cha T (a + 1) = 46 then (if cha T (a + 2) = 46 then 11 else 12) else if cha T a = 91 ∧ cha T (a + 1) = 91 then 13 else if cha T a = 93 ∧ cha T (a + 1) = 93 then 14 else 15 + sX 1077 (cha T a))
    (if sX 1077 (cha T a) < 0 then a + 1 else if cha T a = 58 ∧ cha T (a + 1) = 58 ∧ cha T (a + 2) = 61 then a + 3 else if cha T a = 46 ∧ cha T (a + 1) = 46 then (if cha T (a + 2) = 46 then a + 3 else a + 2) else if cha T a = 91 ∧ cha T (a + 1) = 91 then a + 2 else if cha T a = 93 ∧ cha T (a + 1) = 93 then a + 2 else a + 1) q.1 q.2 := by
  have hT := h.1.2.2.2
  have e0 : f_X3_here 0 s = some (cha T a, s) := by
    have := X3_here h.1 (k := 0) (by omega) (by omega); rw [Int.add_zero, ha] at this; exact this
  have g0 := hereS h.1 (a := a + 1) (k := 0) ⟨by omega, by omega⟩ (by omega) (by omega)
  have g1 := hereS h.1 (a := a + 1) (k := 1) ⟨by omega, by omega⟩ (by omega) (by omega)
  rw [Int.add_zero] at g0
  rw [Int.add_assoc, show (1 : Int) + 1 = 2 by decide] at g1
  have rx : -1 ≤ sX 1077 (cha T a) ∧ sX 1077 (cha T a) < 100 := by
    unfold sX
    by_cases c : 0 ≤ cha T a ∧ cha T a ≤ 255
    · rw [if_pos c]
      have : ∀ (l : List Int) (c j : Int), 0 ≤ j → -1 ≤ sIx c l j ∧ sIx c l j < j + l.length + 1 := by
        intro l
        induction l with
        | nil => intro c j hj; unfold sIx; simp; omega
        | cons b l ih => intro c j hj; unfold sIx; by_cases e : b = c; rw [if_pos e]; simp; omega; rw [if_neg e]; have := ih c (j + 1) (by omega); simp; omega
      have q := this (stB.getD (1077 - 1000) []) (n8 (cha T a)) 0 (by omega)
      have e : (stB.getD (1077 - 1000) []).length = 21 := by decide
      rw [e] at q; omega
    · rw [if_neg c]; omega
  have A := fun (k j : Int) (hk : 0 ≤ k ∧ k < 200) (hj : 0 ≤ j ∧ j ≤ 40000) => addP h hB (k := k) (a := a) (j := j) ⟨by omega, by omega⟩ ⟨by omega, by omega⟩ ⟨by omega, by omega⟩ (by omega)
  have bad : wpo (some ((0 : Int), s)) fun q => PUl s T B a (-3) (a + 1) q.1 q.2 := wpo_some.mpr ⟨h, Or.inl ⟨rfl, rfl⟩⟩
  have r1 : rg (a + 1) := ⟨by omega, by omega⟩
  unfold f_X3_sign
  rw [vl_eq, e0, bd_eq, gd_pos (by decide), vl_eq, ha, stp_eq, w32_id r1]
  simp only [j_X3_sign_80, j_X3_sign_116, j_X3_sign_138, j_X3_sign_145, j_X3_sign_157, j_X3_sign_190, j_X3_sign_197, g0, g1, bd_eq, stp_eq, at_sI r1, sI_sI]
  rw [w32_id (x := a + 1 + 2) ⟨by omega, by omega⟩, w32_id (x := a + 1 + 1) ⟨by omega, by omega⟩, at_sI (a := a + 1 + 2) ⟨by omega, by omega⟩, at_sI (a := a + 1 + 1) ⟨by omega, by omega⟩, w32_id (x := a + 1 + 2 - a) ⟨by omega, by omega⟩, w32_id (x := a + 1 + 1 - a) ⟨by omega, by omega⟩, w32_id (x := 15 + sX 1077 (cha T a)) ⟨by omega, by omega⟩]
  rw [show a + 1 + 2 = a + 3 by omega, show a + 1 + 1 = a + 2 by omega, if_pos (show a + 3 - a = 3 by omega), if_neg (show ¬ a + 2 - a = 3 by omega)]
  generalize hx : sX 1077 (cha T a) = x at *
  by_cases c0 : x < 0
  · rw [if_neg (by omega), if_pos c0, if_pos c0]; exact bad
  rw [if_pos (by omega), if_neg c0, if_neg c0]
  have A10 := A 10 (a + 3) (by omega) (by omega)
  have A11 := A 11 (a + 3) (by omega) (by omega)
  have A12 := A 12 (a + 2) (by omega) (by omega)
  have A13 := A 13 (a + 2) (by omega) (by omega)
  have A14 := A 14 (a + 2) (by omega) (by omega)
  have A15 := A (15 + x) (a + 1) (by omega) (by omega)
  generalize cha T a = c at *
  generalize cha T (a + 1) = d at *
  generalize cha T (a + 2) = e at *
  by_cases c1 : c = 58
  · subst c1
    by_cases c2 : d = 58
    · subst c2
      by_cases c3 : e = 61
      · subst c3; simpa using A10
      · simpa [c3] using A15
    · simpa [c2] using A15
  by_cases c2 : c = 46
  · subst c2
    by_cases c3 : d = 46
    · subst c3
      by_cases c4 : e = 46
      · subst c4; simpa using A11
      · simpa [c4] using A12
    · simpa [c3] using A15
  by_cases c3 : c = 91
  · subst c3
    by_cases c4 : d = 91
    · subst c4; simpa using A13
    · simpa [c4] using A15
  by_cases c4 : c = 93
  · subst c4
    by_cases c5 : d = 93
    · subst c5; simpa using A14
    · simpa [c5] using A15
  simpa [c1, c2, c3, c4] using A15
theorem blk_le {T : List Int} : ∀ (k : Nat) (o i : Int), i ≤ (blk T k o i).2 ∧ (i ≤ T.length → (blk T k o i).2 ≤ T.length)
  | 0, o, i => ⟨Int.le_refl _, id⟩
  | k + 1, o, i => by
    unfold blk
    by_cases h : 0 < o ∧ i < T.length
    · rw [if_pos h]
      by_cases c1 : cha T i = 47 ∧ cha T (i + 1) = 42
      · rw [if_pos c1]; have l2 := cha_lt (T := T) (i := i + 1) (by omega); have := blk_le (T := T) k (o + 1) (i + 2); omega
      · rw [if_neg c1]
        by_cases c2 : cha T i = 42 ∧ cha T (i + 1) = 47
        · rw [if_pos c2]; have l2 := cha_lt (T := T) (i := i + 1) (by omega); have := blk_le (T := T) k (o - 1) (i + 2); omega
        · rw [if_neg c2]; have := blk_le (T := T) k o (i + 1); omega
    · rw [if_neg h]; omega
theorem lineE_le {T : List Int} {i : Int} (h0 : 0 ≤ i) (h : i ≤ T.length) : i ≤ lineE T i ∧ lineE T i ≤ T.length := by
  have hs := scan_le (pLine T) (n := T.length) (fun i hi => hi.1) T.length i
  have hq := scan_stop (pLine T) (n := T.length) (fun i hi => hi.1) T.length i (by omega)
  unfold lineE
  simp only []
  generalize scan (pLine T) T.length i = j at *
  by_cases c : cha T j = 45
  · rw [if_pos c]
    have l1 := cha_lt (T := T) (i := j) (by omega)
    have : cha T (j + 1) = 45 := by
      by_cases d : cha T (j + 1) = 45
      · exact d
      · exact absurd ⟨l1.2, by rw [c]; omega, by simp [d]⟩ hq
    have l2 := cha_lt (T := T) (i := j + 1) (by omega)
    omega
  · rw [if_neg c]; omega
/-- what begins at a place goes on to a later one, within the text -/
theorem lunit_le {T : List Int} {i : Int} (h0 : 0 ≤ i) (h1 : i < T.length) : i < (lunit T i).2 ∧ ((lunit T i).1 ≠ -3 → (lunit T i).2 ≤ T.length) := by
  unfold lunit
  simp only []
  have n1 := @cha_lt T (i + 1)
  have n2 := @cha_lt T (i + 2)
  by_cases c1 : cWh (cha T i)
  · rw [if_pos c1]; simp; omega
  rw [if_neg c1]
  by_cases c2 : cha T i = 45 ∧ cha T (i + 1) = 45
  · rw [if_pos c2]; have := n1 (by omega); have := lineE_le (T := T) (i := i + 2) (by omega) (by omega); simp; omega
  rw [if_neg c2]
  by_cases c3 : cha T i = 47 ∧ cha T (i + 1) = 42
  · rw [if_pos c3]; have := n1 (by omega); have := blk_le (T := T) T.length 1 (i + 2); simp; omega
  rw [if_neg c3]
  by_cases c4 : cLt (cha T i)
  · rw [if_pos c4]; have := scan_le (pName T) (n := T.length) (fun i => pName_lt) T.length (i + 1); simp; omega
  rw [if_neg c4]
  by_cases c5 : cDg (cha T i)
  · rw [if_pos c5]
    by_cases c6 : cha T i = 48
    · rw [if_pos c6]; simp; omega
    · rw [if_neg c6]; have := scan_le (pDig T) (n := T.length) (fun i => pDig_lt) T.length (i + 1); simp; omega
  rw [if_neg c5]
  by_cases c6 : cha T i = 34
  · rw [if_pos c6]; have := scanQ_le (T := T) T.length (i + 1)
    refine ⟨by simp; omega, fun q => ?_⟩
    simp only at q ⊢
    by_cases d : cha T (scanQ T T.length (i + 1)) = 34
    · have := cha_lt (T := T) (i := scanQ T T.length (i + 1)) (by omega); omega
    · rw [if_neg d] at q; exact absurd rfl q
  rw [if_neg c6]
  by_cases c7 : cha T i = 39
  · rw [if_pos c7]; have := scanB_le (T := T) T.length 1 (i + 1)
    refine ⟨by simp; omega, fun q => ?_⟩
    simp only at q ⊢
    by_cases d : cha T (scanB T T.length 1 (i + 1)).2 = 39 ∧ (cha T ((scanB T T.length 1 (i + 1)).2 + 1) = 72 ∨ (cha T ((scanB T T.length 1 (i + 1)).2 + 1) = 66 ∧ (scanB T T.length 1 (i + 1)).1 ≠ 0))
    · have := cha_lt (T := T) (i := (scanB T T.length 1 (i + 1)).2 + 1) (by omega); omega
    · rw [if_neg d] at q; exact absurd rfl q
  rw [if_neg c7]
  by_cases c8 : sX 1077 (cha T i) < 0
  · rw [if_pos c8]; simp; omega
  rw [if_neg c8]
  by_cases c9 : cha T i = 58 ∧ cha T (i + 1) = 58 ∧ cha T (i + 2) = 61
  · rw [if_pos c9]; have := n2 (by omega); simp; omega
  rw [if_neg c9]
  by_cases c10 : cha T i = 46 ∧ cha T (i + 1) = 46
  · rw [if_pos c10]; have := n1 (by omega)
    by_cases d : cha T (i + 2) = 46
    · rw [if_pos d]; have := n2 (by omega); simp; omega
    · rw [if_neg d]; simp; omega
  rw [if_neg c10]
  by_cases c11 : cha T i = 91 ∧ cha T (i + 1) = 91
  · rw [if_pos c11]; have := n1 (by omega); simp; omega
  rw [if_neg c11]
  by_cases c12 : cha T i = 93 ∧ cha T (i + 1) = 93
  · rw [if_pos c12]; have := n1 (by omega); simp; omega
  rw [if_neg c12]; simp; omega
theorem X3_skipLine' {s : vS} {T : List Int} (h : LxT s T) {a : Int} (ha : gI s 5 3 = a) (h0 : 0 ≤ a) (h1 : a ≤ T.length) : f_X3_skipLine s = some (sI s 5 3 (lineE T (a + 2))) := by
  rw [← X3_skipLine h h0 h1]
  have hT := h.2.2.2
  unfold f_X3_skipLine
  rw [stp_eq, stp_eq, ha, at_sI ⟨by omega, by omega⟩, sI_sI]
theorem X3_skipBlock' {s : vS} {T : List Int} (h : LxT s T) {a : Int} (ha : gI s 5 3 = a) (h0 : 0 ≤ a) (h1 : a < T.length) (c0 : cha T a = 47) (c1 : cha T (a + 1) = 42) : f_X3_skipBlock s = some (b2i ((blk T T.length 1 (a + 2)).1 = 0), sI s 5 3 (blk T T.length 1 (a + 2)).2) := by
  have hT := h.2.2.2
  have e0 : f_X3_here 0 s = some (cha T a, s) := by
    have := X3_here h (k := 0) (by omega) (by omega); rw [Int.add_zero, ha] at this; exact this
  have e1 : f_X3_here 1 s = some (cha T (a + 1), s) := by
    have := X3_here h (k := 1) (by omega) (by omega); rw [ha] at this; exact this
  unfold f_X3_skipBlock
  have e : l_X3_skipBlock_2 FU 0 s = some ((blk T T.length 1 (a + 2)).1, sI s 5 3 (blk T T.length 1 (a + 2)).2) := by
    rw [show FU = 999999999999 + 1 from rfl]
    unfold l_X3_skipBlock_2
    rw [e0, bd_eq, if_pos c0, e1, bd_eq, if_pos c1, vl_eq, stp_eq, ha, w32_id (x := a + 2) ⟨by omega, by omega⟩, show w32 (0 + 1) = 1 by decide]
    exact skipBlock_l h T.length 999999999999 1 (a + 2) (by omega) (by omega) (by omega) (by omega) (by omega)
  rw [e, lq_1_eq]
  unfold j_X3_skipBlock_102 b2i
  by_cases c : (blk T T.length 1 (a + 2)).1 = 0
  · rw [if_pos c, if_pos c]
  · rw [if_neg c, if_neg c]
theorem lexA_pos {T : List Int} : ∀ (k m : Nat) (i : Int), 0 ≤ i → T.length + 1 - i ≤ k → T.length + 1 - i ≤ m → lexA T k i = lexA T m i := by
  intro k
  induction k with
  | zero =>
    intro m i h0 h1 h2
    cases m with
    | zero => rfl
    | succ m => unfold lexA; rw [if_pos (by omega)]
  | succ k ih =>
    intro m i h0 h1 h2
    cases m with
    | zero => unfold lexA; rw [if_pos (by omega)]
    | succ m =>
      unfold lexA
      by_cases c : (T.length : Int) ≤ i
      · rw [if_pos c, if_pos c]
      rw [if_neg c, if_neg c]
      have hl := lunit_le h0 (show i < T.length by omega)
      simp only []
      rw [ih m (lunit T i).2 (by omega) (by omega) (by omega)]
def CutP (T : List Int) (B : Nat) (L0 : List (Int × Int × Int)) (R : List (Int × Int × Int) × Int) : (vS ⊕ (Int × vS)) → Prop
  | .inl s' => LxI s' T B ∧ R.2 = -1 ∧ lexs s' = L0 ++ R.1
  | .inr q => LxI q.2 T B ∧ R.2 = q.1 ∧ q.1 ≠ -1
/-- one round of cutting: the class does at a place what the place says -/
theorem cut_l {T : List Int} {B : Nat} : ∀ (k n : Nat) (s : vS) (a : Int), LxI s T B → gI s 5 3 = a → 0 ≤ a → a ≤ T.length → T.length + 1 - a ≤ k → k < n → 2 * (gI s 5 7 + (lexA T k a).1.length) ≤ B →
    wpo (l_X3_cut_15 3 n s) (CutP T B (lexs s) (lexA T k a)) := by
  intro k
  induction k with
  | zero => intro n s a h ha h0 h1 hk; omega
  | succ k ih =>
    intro n s a h ha h0 h1 hk hn hB
    obtain ⟨n, rfl⟩ : ∃ m, n = m + 1 := ⟨n - 1, by omega⟩
    have hT := h.1.2.2.2
    have hsz := lexs_len h.2.1
    have e0 : f_X3_here 0 s = some (cha T a, s) := by
      have := X3_here h.1 (k := 0) (by omega) (by omega); rw [Int.add_zero, ha] at this; exact this
    have e1 : f_X3_here 1 s = some (cha T (a + 1), s) := by
      have := X3_here h.1 (k := 1) (by omega) (by omega); rw [ha] at this; exact this
    unfold l_X3_cut_15
    rw [gd_pos h.1.ok, h.1.1, X2_size, bd_eq, h.1.size, ha, vl_eq, e0, bd_eq, X3_isWhite, bd_eq, e1, bd_eq, stp_eq, ha, w32_id (x := a + 1) ⟨by omega, by omega⟩]
    by_cases c : (T.length : Int) ≤ a
    · rw [if_pos c]
      refine wpo_some.mpr ⟨h, ?_⟩
      unfold lexA; rw [if_pos c]; simp
    rw [if_neg c]
    have hl := lunit_le h0 (show a < T.length by omega)
    have eA : lexA T (k + 1) a = if (lunit T a).1 = -3 then ([], a) else if (lunit T a).1 = -2 then lexA T k (lunit T a).2 else (((lunit T a).1, a, (lunit T a).2) :: (lexA T k (lunit T a).2).1, (lexA T k (lunit T a).2).2) := by
      rw [lexA, if_neg c]
    rw [eA] at hB ⊢
    have hB2 : 2 * gI s 5 7 ≤ B := by omega
    -- what follows a round that was good
    have skip : ∀ j, lunit T a = (-2, j) → wpo (j_X3_cut_177 3 (l_X3_cut_15 3 n) a 1 (sI s 5 3 j)) (CutP T B (lexs s) (if (lunit T a).1 = -3 then ([], a) else if (lunit T a).1 = -2 then lexA T k (lunit T a).2 else (((lunit T a).1, a, (lunit T a).2) :: (lexA T k (lunit T a).2).1, (lexA T k (lunit T a).2).2))) := by
      intro j e
      rw [e] at hl hB ⊢
      simp only [Nat.reduceEqDiff, Nat.reduceAdd, Nat.reduceLT, Nat.reduceLeDiff, Nat.reduceBEq, reduceIte, and_self, and_true, true_and, and_false, false_and, if_true, if_false, Nat.reduceMul, Int.reduceEq, Int.reduceLT, Int.reduceLE, Int.reduceNeg, Int.reduceAdd, Int.reduceMul, Int.reduceSub] at hl hB ⊢
      have hj := hl.2 (by decide)
      unfold j_X3_cut_177
      rw [if_neg (by decide), ← lexs_at s j]
      exact ih n (sI s 5 3 j) j (LxI_at h j) (at_sI ⟨by omega, by omega⟩) (by omega) hj (by omega) (by omega) (by simp only [gI_sI, gI_sR, gI_sA, gI_sE, gI_sw2, gI_rs, gI_cpA, gI_gh1, gL_sI, gL_sR, gL_sA, gL_sE, gL_sw2, gL_rs, gL_cpA, gR_sI, gR_sR, gR_sA, gR_sE, gR_sw2, gR_rs, gR_cpA, gN_sI, gN_sR, gN_gh1, gN_sA, gN_sE, gN_cpA, gN_sw2, gN_rs, gE_gC, gB_gC, gZ_gC, gEL_gC, gC_sI, gC_sR, gC_gh1, gC_sA, gC_sE, gC_cpA, gC_sw2, gC_rs, Nat.reduceEqDiff, Nat.reduceAdd, Nat.reduceLT, Nat.reduceLeDiff, Nat.reduceBEq, reduceIte, and_self, and_true, true_and, and_false, false_and, if_true, if_false, Nat.reduceMul, Int.reduceEq, Int.reduceLT, Int.reduceLE, Int.reduceNeg, Int.reduceAdd, Int.reduceMul, Int.reduceSub]; exact hB)
    have good : ∀ (kd j r : Int) (s' : vS), lunit T a = (kd, j) → kd ≠ -2 → PUl s T B a kd j r s' → wpo (j_X3_cut_177 3 (l_X3_cut_15 3 n) a r s') (CutP T B (lexs s) (if (lunit T a).1 = -3 then ([], a) else if (lunit T a).1 = -2 then lexA T k (lunit T a).2 else (((lunit T a).1, a, (lunit T a).2) :: (lexA T k (lunit T a).2).1, (lexA T k (lunit T a).2).2))) := by
      intro kd j r s' e hk2 hp
      rw [e] at hl hB ⊢
      simp only at hl hB ⊢
      obtain ⟨p1, p2⟩ := hp
      unfold j_X3_cut_177
      rcases p2 with ⟨p3, p4⟩ | ⟨p3, p4, p5, p6⟩
      · rw [if_pos p4, if_pos p3]
        exact wpo_some.mpr ⟨p1, rfl, by show a ≠ -1; omega⟩
      · rw [if_neg (by omega), if_neg p3, if_neg hk2]
        rw [if_neg p3, if_neg hk2] at hB
        have hs' := lexs_len p1.2.1
        rw [p6] at hs'
        simp at hs' hB
        refine (ih n s' j p1 p5 (by omega) (hl.2 p3) (by omega) (by omega) (by omega)).mono ?_
        intro z hz
        cases z with
        | inl s2 =>
          obtain ⟨z1, z2, z3⟩ := hz
          exact ⟨z1, z2, by rw [z3, p6]; simp⟩
        | inr q => exact hz
    have U := lunit.eq_1 T a
    simp only [] at U
    by_cases c1 : cWh (cha T a)
    · rw [if_neg (by rw [b2i_zero]; exact fun q => q c1)]
      rw [if_pos c1] at U
      exact skip _ U
    rw [if_pos (by rw [b2i_zero]; exact c1)]
    rw [if_neg c1] at U
    by_cases c2 : cha T a = 45 ∧ cha T (a + 1) = 45
    · rw [if_pos c2] at U
      rw [if_pos c2.1, if_pos c2.2, X3_skipLine' h.1 ha h0 h1, bdv_eq]
      exact skip _ U
    rw [if_neg c2] at U
    have big : wpo (j_X3_cut_86 3 (l_X3_cut_15 3 n) a (cha T a) 1 s) (CutP T B (lexs s) (if (lunit T a).1 = -3 then ([], a) else if (lunit T a).1 = -2 then lexA T k (lunit T a).2 else (((lunit T a).1, a, (lunit T a).2) :: (lexA T k (lunit T a).2).1, (lexA T k (lunit T a).2).2))) := by
      unfold j_X3_cut_86
      rw [e1, bd_eq]
      by_cases c3 : cha T a = 47 ∧ cha T (a + 1) = 42
      · rw [if_pos c3] at U
        rw [if_pos c3.1, if_pos c3.2, X3_skipBlock' h.1 ha h0 (by omega) c3.1 c3.2, bd_eq]
        by_cases d : (blk T T.length 1 (a + 2)).1 = 0
        · rw [b2i_one.mpr d]; rw [if_pos d] at U; exact skip _ U
        · rw [b2i_zero.mpr d]; rw [if_neg d] at U; exact good _ _ 0 _ U (by decide) ⟨LxI_at h _, Or.inl ⟨rfl, rfl⟩⟩
      rw [if_neg c3] at U
      have small : wpo (j_X3_cut_111 3 (l_X3_cut_15 3 n) a (cha T a) 1 s) (CutP T B (lexs s) (if (lunit T a).1 = -3 then ([], a) else if (lunit T a).1 = -2 then lexA T k (lunit T a).2 else (((lunit T a).1, a, (lunit T a).2) :: (lexA T k (lunit T a).2).1, (lexA T k (lunit T a).2).2))) := by
        unfold j_X3_cut_111
        rw [X3_isLetter, bd_eq, X3_isDigit, bd_eq]
        by_cases c4 : cLt (cha T a)
        · rw [if_neg (by rw [b2i_zero]; exact fun q => q c4)]
          rw [if_pos c4] at U
          refine wpo_bdv.mpr ((X3_name h hB2 ha h0 (by omega)).mono fun s' q => ?_)
          have nk : nameK T a (scan (pName T) T.length (a + 1)) ≠ -2 ∧ nameK T a (scan (pName T) T.length (a + 1)) ≠ -3 := by
            unfold nameK
            by_cases cl : cLa (cha T a)
            · rw [if_pos cl]; simp only []; have := wIx_rg (slc T a (scan (pName T) T.length (a + 1)))
              by_cases cw : wIx (slc T a (scan (pName T) T.length (a + 1))) lwords 0 = -1
              · rw [if_pos cw]; decide
              · rw [if_neg cw]; omega
            · rw [if_neg cl]; decide
          exact good _ _ 1 s' U nk.1 ⟨q.1, Or.inr ⟨nk.2, rfl, q.2.1, q.2.2⟩⟩
        rw [if_pos (by rw [b2i_zero]; exact c4)]
        rw [if_neg c4] at U
        by_cases c5 : cDg (cha T a)
        · rw [if_neg (by rw [b2i_zero]; exact fun q => q c5)]
          rw [if_pos c5] at U
          refine wpo_bd.mpr ((X3_number h hB2 ha h0 (by omega)).mono fun q hq => ?_)
          by_cases c6 : cha T a = 48
          · rw [if_pos c6] at U
            rw [if_pos c6] at hq
            by_cases c7 : cDg (cha T (a + 1))
            · rw [if_pos c7] at U; rw [if_pos ⟨c6, c7⟩] at hq; exact good _ _ _ _ U (by decide) hq
            · rw [if_neg c7] at U; rw [if_neg (fun z => c7 z.2)] at hq; exact good _ _ _ _ U (by decide) hq
          · rw [if_neg c6] at U
            rw [if_neg (fun z => c6 z.1), if_neg c6] at hq
            exact good _ _ _ _ U (by decide) hq
        rw [if_pos (by rw [b2i_zero]; exact c5)]
        rw [if_neg c5] at U
        by_cases c6 : cha T a = 34
        · rw [if_pos c6]; rw [if_pos c6] at U
          refine wpo_bd.mpr ((X3_quoted h hB2 ha h0 (by omega)).mono fun q hq => ?_)
          exact good _ _ _ _ U (by split <;> decide) hq
        rw [if_neg c6]; rw [if_neg c6] at U
        by_cases c7 : cha T a = 39
        · rw [if_pos c7]; rw [if_pos c7] at U
          refine wpo_bd.mpr ((X3_digits h hB2 ha h0 (by omega)).mono fun q hq => ?_)
          exact good _ _ _ _ U (by split; split <;> decide; decide) hq
        rw [if_neg c7]; rw [if_neg c7] at U
        refine wpo_bd.mpr ((X3_sign h hB2 ha h0 (by omega)).mono fun q hq => ?_)
        by_cases c8 : sX 1077 (cha T a) < 0
        · rw [if_pos c8] at U; rw [if_pos c8, if_pos c8] at hq; exact good _ _ _ _ U (by decide) hq
        rw [if_neg c8] at U; rw [if_neg c8, if_neg c8] at hq
        by_cases c9 : cha T a = 58 ∧ cha T (a + 1) = 58 ∧ cha T (a + 2) = 61
        · rw [if_pos c9] at U; rw [if_pos c9, if_pos c9] at hq; exact good _ _ _ _ U (by decide) hq
        rw [if_neg c9] at U; rw [if_neg c9, if_neg c9] at hq
        by_cases c10 : cha T a = 46 ∧ cha T (a + 1) = 46
        · rw [if_pos c10] at U; rw [if_pos c10, if_pos c10] at hq
          by_cases d : cha T (a + 2) = 46
          · rw [if_pos d] at U; rw [if_pos d, if_pos d] at hq; exact good _ _ _ _ U (by decide) hq
          · rw [if_neg d] at U; rw [if_neg d, if_neg d] at hq; exact good _ _ _ _ U (by decide) hq
        rw [if_neg c10] at U; rw [if_neg c10, if_neg c10] at hq
        by_cases c11 : cha T a = 91 ∧ cha T (a + 1) = 91
        · rw [if_pos c11] at U; rw [if_pos c11, if_pos c11] at hq; exact good _ _ _ _ U (by decide) hq
        rw [if_neg c11] at U; rw [if_neg c11, if_neg c11] at hq
        by_cases c12 : cha T a = 93 ∧ cha T (a + 1) = 93
        · rw [if_pos c12] at U; rw [if_pos c12, if_pos c12] at hq; exact good _ _ _ _ U (by decide) hq
        rw [if_neg c12] at U; rw [if_neg c12, if_neg c12] at hq
        exact good _ _ _ _ U (by omega) hq
      by_cases c3a : cha T a = 47
      · rw [if_pos c3a, if_neg (fun z => c3 ⟨c3a, z⟩)]; exact small
      · rw [if_neg c3a]; exact small
    by_cases c2a : cha T a = 45
    · rw [if_pos c2a, if_neg (fun z => c2 ⟨c2a, z⟩)]; exact big
    · rw [if_neg c2a]; exact big
theorem X3_cut {s : vS} {T : List Int} {B : Nat} (hb : BW s 3) (hT : bts s 3 = T) (hl : T.length ≤ 32768) (hw : LxW s B) (h6 : gN s 6 = 77) (h6e : ∀ y : Int, 0 ≤ y → y < 77 → gE s 6 y = 1) (hB : 2 * (lexT T).1.length ≤ B) : wpo (f_X3_cut 3 s) fun q => LxI q.2 T B ∧ (lexT T).2 = q.1 ∧ (q.1 = -1 → lexs q.2 = (lexT T).1) ∧ Fr W_f_X3_cut s q.2 := by
  suffices key : wpo (f_X3_cut 3 s) (fun q => LxI q.2 T B ∧ (lexT T).2 = q.1 ∧ (q.1 = -1 → lexs q.2 = (lexT T).1)) from (key.and (fun r e => fr_f_X3_cut 3 s r e)).mono fun r h => ⟨h.1.1, h.1.2.1, h.1.2.2, h.2⟩
  unfold f_X3_cut
  rw [stp_eq, stp_eq, stp_eq]
  generalize hs : sI (sI (sR s 5 2 3) 5 3 0) 5 7 0 = s1
  have h1 : LxI s1 T B := by
    refine ⟨⟨?_, ?_, ?_, hl⟩, ?_, ?_, ?_⟩
    · rw [← hs]; simp only [gI_sI, gI_sR, gI_sA, gI_sE, gI_sw2, gI_rs, gI_cpA, gI_gh1, gL_sI, gL_sR, gL_sA, gL_sE, gL_sw2, gL_rs, gL_cpA, gR_sI, gR_sR, gR_sA, gR_sE, gR_sw2, gR_rs, gR_cpA, gN_sI, gN_sR, gN_gh1, gN_sA, gN_sE, gN_cpA, gN_sw2, gN_rs, gE_gC, gB_gC, gZ_gC, gEL_gC, gC_sI, gC_sR, gC_gh1, gC_sA, gC_sE, gC_cpA, gC_sw2, gC_rs, Nat.reduceEqDiff, Nat.reduceAdd, Nat.reduceLT, Nat.reduceLeDiff, Nat.reduceBEq, reduceIte, and_self, and_true, true_and, and_false, false_and, if_true, if_false, Nat.reduceMul, Int.reduceEq, Int.reduceLT, Int.reduceLE, Int.reduceNeg, Int.reduceAdd, Int.reduceMul, Int.reduceSub]
    · unfold BW at *; rw [← hs]; simp only [gI_sI, gI_sR, gI_sA, gI_sE, gI_sw2, gI_rs, gI_cpA, gI_gh1, gL_sI, gL_sR, gL_sA, gL_sE, gL_sw2, gL_rs, gL_cpA, gR_sI, gR_sR, gR_sA, gR_sE, gR_sw2, gR_rs, gR_cpA, gN_sI, gN_sR, gN_gh1, gN_sA, gN_sE, gN_cpA, gN_sw2, gN_rs, gE_gC, gB_gC, gZ_gC, gEL_gC, gC_sI, gC_sR, gC_gh1, gC_sA, gC_sE, gC_cpA, gC_sw2, gC_rs, Nat.reduceEqDiff, Nat.reduceAdd, Nat.reduceLT, Nat.reduceLeDiff, Nat.reduceBEq, reduceIte, and_self, and_true, true_and, and_false, false_and, if_true, if_false, Nat.reduceMul, Int.reduceEq, Int.reduceLT, Int.reduceLE, Int.reduceNeg, Int.reduceAdd, Int.reduceMul, Int.reduceSub]; exact hb
    · rw [← hT, ← hs]; unfold bts; simp only [gI_sI, gI_sR, gI_sA, gI_sE, gI_sw2, gI_rs, gI_cpA, gI_gh1, gL_sI, gL_sR, gL_sA, gL_sE, gL_sw2, gL_rs, gL_cpA, gR_sI, gR_sR, gR_sA, gR_sE, gR_sw2, gR_rs, gR_cpA, gN_sI, gN_sR, gN_gh1, gN_sA, gN_sE, gN_cpA, gN_sw2, gN_rs, gE_gC, gB_gC, gZ_gC, gEL_gC, gC_sI, gC_sR, gC_gh1, gC_sA, gC_sE, gC_cpA, gC_sw2, gC_rs, Nat.reduceEqDiff, Nat.reduceAdd, Nat.reduceLT, Nat.reduceLeDiff, Nat.reduceBEq, reduceIte, and_self, and_true, true_and, and_false, false_and, if_true, if_false, Nat.reduceMul, Int.reduceEq, Int.reduceLT, Int.reduceLE, Int.reduceNeg, Int.reduceAdd, Int.reduceMul, Int.reduceSub]
    · unfold LxW at *; rw [← hs]; simp only [gI_sI, gI_sR, gI_sA, gI_sE, gI_sw2, gI_rs, gI_cpA, gI_gh1, gL_sI, gL_sR, gL_sA, gL_sE, gL_sw2, gL_rs, gL_cpA, gR_sI, gR_sR, gR_sA, gR_sE, gR_sw2, gR_rs, gR_cpA, gN_sI, gN_sR, gN_gh1, gN_sA, gN_sE, gN_cpA, gN_sw2, gN_rs, gE_gC, gB_gC, gZ_gC, gEL_gC, gC_sI, gC_sR, gC_gh1, gC_sA, gC_sE, gC_cpA, gC_sw2, gC_rs, Nat.reduceEqDiff, Nat.reduceAdd, Nat.reduceLT, Nat.reduceLeDiff, Nat.reduceBEq, reduceIte, and_self, and_true, true_and, and_false, false_and, if_true, if_false, Nat.reduceMul, Int.reduceEq, Int.reduceLT, Int.reduceLE, Int.reduceNeg, Int.reduceAdd, Int.reduceMul, Int.reduceSub]; have : w32 0 = 0 := by decide
      omega
    · rw [← hs]; exact h6
    · rw [← hs]; exact h6e
  have h2 : gI s1 5 3 = 0 := by rw [← hs]; simp only [gI_sI, gI_sR, gI_sA, gI_sE, gI_sw2, gI_rs, gI_cpA, gI_gh1, gL_sI, gL_sR, gL_sA, gL_sE, gL_sw2, gL_rs, gL_cpA, gR_sI, gR_sR, gR_sA, gR_sE, gR_sw2, gR_rs, gR_cpA, gN_sI, gN_sR, gN_gh1, gN_sA, gN_sE, gN_cpA, gN_sw2, gN_rs, gE_gC, gB_gC, gZ_gC, gEL_gC, gC_sI, gC_sR, gC_gh1, gC_sA, gC_sE, gC_cpA, gC_sw2, gC_rs, Nat.reduceEqDiff, Nat.reduceAdd, Nat.reduceLT, Nat.reduceLeDiff, Nat.reduceBEq, reduceIte, and_self, and_true, true_and, and_false, false_and, if_true, if_false, Nat.reduceMul, Int.reduceEq, Int.reduceLT, Int.reduceLE, Int.reduceNeg, Int.reduceAdd, Int.reduceMul, Int.reduceSub]; decide
  have h3 : gI s1 5 7 = 0 := by rw [← hs]; simp only [gI_sI, gI_sR, gI_sA, gI_sE, gI_sw2, gI_rs, gI_cpA, gI_gh1, gL_sI, gL_sR, gL_sA, gL_sE, gL_sw2, gL_rs, gL_cpA, gR_sI, gR_sR, gR_sA, gR_sE, gR_sw2, gR_rs, gR_cpA, gN_sI, gN_sR, gN_gh1, gN_sA, gN_sE, gN_cpA, gN_sw2, gN_rs, gE_gC, gB_gC, gZ_gC, gEL_gC, gC_sI, gC_sR, gC_gh1, gC_sA, gC_sE, gC_cpA, gC_sw2, gC_rs, Nat.reduceEqDiff, Nat.reduceAdd, Nat.reduceLT, Nat.reduceLeDiff, Nat.reduceBEq, reduceIte, and_self, and_true, true_and, and_false, false_and, if_true, if_false, Nat.reduceMul, Int.reduceEq, Int.reduceLT, Int.reduceLE, Int.reduceNeg, Int.reduceAdd, Int.reduceMul, Int.reduceSub]; decide
  have h4 : lexs s1 = [] := by unfold lexs; rw [h3]; rfl
  refine wpo_lqs_0.mpr ((cut_l (T.length + 1) FU s1 0 h1 h2 (by omega) (by omega) (by omega) (by unfold FU; omega) (by rw [h3]; unfold lexT at hB; omega)).mono ?_)
  intro z hz
  cases z with
  | inl s2 =>
    obtain ⟨z1, z2, z3⟩ := hz
    rw [h4, List.nil_append] at z3
    exact wpo_some.mpr ⟨z1, z2, fun _ => z3⟩
  | inr q =>
    obtain ⟨z1, z2, z3⟩ := hz
    exact wpo_some.mpr ⟨z1, z2, fun h => absurd h z3⟩
