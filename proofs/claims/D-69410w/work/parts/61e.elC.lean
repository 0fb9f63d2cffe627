set_option maxRecDepth 100000 set_option linter.unusedVariables false set_option linter.unusedSimpArgs false
/-! PURE 61e: reading all elements, class -/
theorem EW.fld {s : vS} {B : Nat} (h : EW s B) (f : Nat) (v : Int) : EW (sI s 44 f v) B := h
theorem ER.fld {s : vS} {els : List (List Int)} {stk : List (Int × Int × Int)} (h : ER s els stk) {f : Nat} (v : Int) (hf : f ≠ 10) (hf2 : f ≠ 14) : ER (sI s 44 f v) els stk := by
  obtain ⟨r1, r2, r3, r4, r5⟩ := h
  refine ⟨by rw [gI_sI, if_neg (by omega)]; exact r1, by rw [gI_sI, if_neg (by omega)]; exact r2, SRk_eq (s := s) (t := sI s 44 f v) (fun i _ _ => ⟨rfl, rfl, rfl⟩) r3, r4, r5⟩
theorem X12_element {s : vS} {D : List Int} {B : Nat} {a lim : Int} {els : List (List Int)} {stk : List (Int × Int × Int)} (h : EI s D B a els stk) (hl : 0 ≤ lim ∧ lim ≤ 1024) : ∃ r t, f_X12_element lim s = some (r, t) ∧ (match elm D lim (a, els, stk) with
    | .inl f => r = 0 ∧ EF t D B f
    | .inr e => r = 1 ∧ EI t D B e.1 e.2.1 e.2.2) := by
  obtain ⟨h1, h2, h3, h4, h5, h6, h7, h8, h9, h10, h11, h12⟩ := h
  have hD := h1.2.2.2
  have hbl := h7.le
  have ra : rg a := ⟨by omega, by omega⟩
  unfold f_X12_element
  rw [h4, stp_eq]
  generalize hs1 : sI s 44 3 a = s1
  have T1 : ETp s1 D := by rw [← hs1]; exact h1.fld 3 a
  have W1 : EW s1 B := by rw [← hs1]; exact h2.fld 3 a
  have R1 : ER s1 els stk := by rw [← hs1]; exact h3.fld a (by decide) (by decide)
  have a1 : gI s1 44 1 = a := by rw [← hs1]; simp only [gI_sI, gI_sR, gI_sA, gI_sE, gI_sw2, gI_rs, gI_cpA, gI_gh1, gL_sI, gL_sR, gL_sA, gL_sE, gL_sw2, gL_rs, gL_cpA, gR_sI, gR_sR, gR_sA, gR_sE, gR_sw2, gR_rs, gR_cpA, gN_sI, gN_sR, gN_gh1, gN_sA, gN_sE, gN_cpA, gN_sw2, gN_rs, gE_gC, gB_gC, gZ_gC, gEL_gC, gC_sI, gC_sR, gC_gh1, gC_sA, gC_sE, gC_cpA, gC_sw2, gC_rs, Nat.reduceEqDiff, Nat.reduceAdd, Nat.reduceLT, Nat.reduceLeDiff, Nat.reduceBEq, reduceIte, and_self, and_true, true_and, and_false, false_and, if_true, if_false, Nat.reduceMul, Int.reduceEq, Int.reduceLT, Int.reduceLE, Int.reduceNeg, Int.reduceAdd, Int.reduceMul, Int.reduceSub]; exact h4
  have f1 : gI s1 44 2 = 0 := by rw [← hs1]; simp only [gI_sI, gI_sR, gI_sA, gI_sE, gI_sw2, gI_rs, gI_cpA, gI_gh1, gL_sI, gL_sR, gL_sA, gL_sE, gL_sw2, gL_rs, gL_cpA, gR_sI, gR_sR, gR_sA, gR_sE, gR_sw2, gR_rs, gR_cpA, gN_sI, gN_sR, gN_gh1, gN_sA, gN_sE, gN_cpA, gN_sw2, gN_rs, gE_gC, gB_gC, gZ_gC, gEL_gC, gC_sI, gC_sR, gC_gh1, gC_sA, gC_sE, gC_cpA, gC_sw2, gC_rs, Nat.reduceEqDiff, Nat.reduceAdd, Nat.reduceLT, Nat.reduceLeDiff, Nat.reduceBEq, reduceIte, and_self, and_true, true_and, and_false, false_and, if_true, if_false, Nat.reduceMul, Int.reduceEq, Int.reduceLT, Int.reduceLE, Int.reduceNeg, Int.reduceAdd, Int.reduceMul, Int.reduceSub]; exact h5
  have p1 : gI s1 44 3 = a := by rw [← hs1]; simp only [gI_sI, gI_sR, gI_sA, gI_sE, gI_sw2, gI_rs, gI_cpA, gI_gh1, gL_sI, gL_sR, gL_sA, gL_sE, gL_sw2, gL_rs, gL_cpA, gR_sI, gR_sR, gR_sA, gR_sE, gR_sw2, gR_rs, gR_cpA, gN_sI, gN_sR, gN_gh1, gN_sA, gN_sE, gN_cpA, gN_sw2, gN_rs, gE_gC, gB_gC, gZ_gC, gEL_gC, gC_sI, gC_sR, gC_gh1, gC_sA, gC_sE, gC_cpA, gC_sw2, gC_rs, Nat.reduceEqDiff, Nat.reduceAdd, Nat.reduceLT, Nat.reduceLeDiff, Nat.reduceBEq, reduceIte, and_self, and_true, true_and, and_false, false_and, if_true, if_false, Nat.reduceMul, Int.reduceEq, Int.reduceLT, Int.reduceLE, Int.reduceNeg, Int.reduceAdd, Int.reduceMul, Int.reduceSub]; exact w32_id ra
  have nn : ∀ b, gN s1 b = gN s b := by intro b; rw [← hs1]; rfl
  rw [EI.bound (a := a) T1 W1 R1 (by rw [nn]; exact h9), bd_eq, a1]
  unfold elm
  rw [eBnd_bnd]
  simp only []
  have bad : ∀ (c : Int) (s2 : vS), ETp s2 D → EW s2 B → gI s2 44 3 = a → rg c → ∃ r t, (bd (f_X12_wrong c s2) fun r4 s3 => gd (r4 = 0 ∨ r4 = 1) <| some (r4, s3)) = some (r, t) ∧ (r = 0 ∧ EF t D B (c, a)) := by
    intro c s2 t2 w2 q2 rc
    rw [X12_wrong, bd_eq, gd_pos (Or.inl rfl)]
    exact ⟨0, _, rfl, rfl, t2.fld 2 c, w2.fld 2 c, by simp only [gI_sI, gI_sR, gI_sA, gI_sE, gI_sw2, gI_rs, gI_cpA, gI_gh1, gL_sI, gL_sR, gL_sA, gL_sE, gL_sw2, gL_rs, gL_cpA, gR_sI, gR_sR, gR_sA, gR_sE, gR_sw2, gR_rs, gR_cpA, gN_sI, gN_sR, gN_gh1, gN_sA, gN_sE, gN_cpA, gN_sw2, gN_rs, gE_gC, gB_gC, gZ_gC, gEL_gC, gC_sI, gC_sR, gC_gh1, gC_sA, gC_sE, gC_cpA, gC_sw2, gC_rs, Nat.reduceEqDiff, Nat.reduceAdd, Nat.reduceLT, Nat.reduceLeDiff, Nat.reduceBEq, reduceIte, and_self, and_true, true_and, and_false, false_and, if_true, if_false, Nat.reduceMul, Int.reduceEq, Int.reduceLT, Int.reduceLE, Int.reduceNeg, Int.reduceAdd, Int.reduceMul, Int.reduceSub]; exact w32_id rc, by simp only [gI_sI, gI_sR, gI_sA, gI_sE, gI_sw2, gI_rs, gI_cpA, gI_gh1, gL_sI, gL_sR, gL_sA, gL_sE, gL_sw2, gL_rs, gL_cpA, gR_sI, gR_sR, gR_sA, gR_sE, gR_sw2, gR_rs, gR_cpA, gN_sI, gN_sR, gN_gh1, gN_sA, gN_sE, gN_cpA, gN_sw2, gN_rs, gE_gC, gB_gC, gZ_gC, gEL_gC, gC_sI, gC_sR, gC_gh1, gC_sA, gC_sE, gC_cpA, gC_sw2, gC_rs, Nat.reduceEqDiff, Nat.reduceAdd, Nat.reduceLT, Nat.reduceLeDiff, Nat.reduceBEq, reduceIte, and_self, and_true, true_and, and_false, false_and, if_true, if_false, Nat.reduceMul, Int.reduceEq, Int.reduceLT, Int.reduceLE, Int.reduceNeg, Int.reduceAdd, Int.reduceMul, Int.reduceSub]; exact q2⟩
  by_cases c1 : bndS D stk ≤ a
  · rw [if_neg (show ¬a < bndS D stk by omega), if_pos c1]
    exact bad 1 s1 T1 W1 p1 (rgl rfl)
  rw [if_pos (show a < bndS D stk by omega), if_neg c1, R1.2.1]
  by_cases c2 : lim < (stk.length : Int)
  · rw [if_neg (show ¬(stk.length : Int) ≤ lim by omega), if_pos c2]
    exact bad 5 s1 T1 W1 p1 (rgl rfl)
  rw [if_pos (show (stk.length : Int) ≤ lim by omega), if_neg c2, T1.1, gd_ok1, T1.at h6 (by omega), bd_eq, stp_eq, a1, w32_id (x := a + 1) ⟨by omega, by omega⟩]
  have ca := h1.rg a h6 (by omega)
  have T2 : ∀ b : Int, ETp (sI s1 44 1 b) D := fun b => T1.fld 1 b
  have W2 : ∀ b : Int, EW (sI s1 44 1 b) B := fun b => W1.fld 1 b
  have R2 : ∀ b : Int, ER (sI s1 44 1 b) els stk := fun b => R1.fld b (by decide) (by decide)
  have p2 : ∀ b : Int, gI (sI s1 44 1 b) 44 3 = a := fun b => by simp only [gI_sI, gI_sR, gI_sA, gI_sE, gI_sw2, gI_rs, gI_cpA, gI_gh1, gL_sI, gL_sR, gL_sA, gL_sE, gL_sw2, gL_rs, gL_cpA, gR_sI, gR_sR, gR_sA, gR_sE, gR_sw2, gR_rs, gR_cpA, gN_sI, gN_sR, gN_gh1, gN_sA, gN_sE, gN_cpA, gN_sw2, gN_rs, gE_gC, gB_gC, gZ_gC, gEL_gC, gC_sI, gC_sR, gC_gh1, gC_sA, gC_sE, gC_cpA, gC_sw2, gC_rs, Nat.reduceEqDiff, Nat.reduceAdd, Nat.reduceLT, Nat.reduceLeDiff, Nat.reduceBEq, reduceIte, and_self, and_true, true_and, and_false, false_and, if_true, if_false, Nat.reduceMul, Int.reduceEq, Int.reduceLT, Int.reduceLE, Int.reduceNeg, Int.reduceAdd, Int.reduceMul, Int.reduceSub]; exact p1
  have f2 : ∀ b : Int, gI (sI s1 44 1 b) 44 2 = 0 := fun b => by simp only [gI_sI, gI_sR, gI_sA, gI_sE, gI_sw2, gI_rs, gI_cpA, gI_gh1, gL_sI, gL_sR, gL_sA, gL_sE, gL_sw2, gL_rs, gL_cpA, gR_sI, gR_sR, gR_sA, gR_sE, gR_sw2, gR_rs, gR_cpA, gN_sI, gN_sR, gN_gh1, gN_sA, gN_sE, gN_cpA, gN_sw2, gN_rs, gE_gC, gB_gC, gZ_gC, gEL_gC, gC_sI, gC_sR, gC_gh1, gC_sA, gC_sE, gC_cpA, gC_sw2, gC_rs, Nat.reduceEqDiff, Nat.reduceAdd, Nat.reduceLT, Nat.reduceLeDiff, Nat.reduceBEq, reduceIte, and_self, and_true, true_and, and_false, false_and, if_true, if_false, Nat.reduceMul, Int.reduceEq, Int.reduceLT, Int.reduceLE, Int.reduceNeg, Int.reduceAdd, Int.reduceMul, Int.reduceSub]; exact f1
  unfold eHead
  by_cases c3 : cha D a = 0 ∨ cha D a = 32
  · rw [if_pos ((by223 ca.1 ca.2).mpr c3), if_pos c3]
    exact bad 4 _ (T2 _) (W2 _) (p2 _) (rgl rfl)
  rw [if_neg (fun z => c3 ((by223 ca.1 ca.2).mp z)), if_neg c3, vl_eq, and32_31]
  -- a fault in the head
  have badH : ∀ (c a' : Int), rg c → c ≠ 0 → rg a' → EF (sI (sI s1 44 1 a') 44 2 c) D B (c, a) := fun c a' rc _ _ => ⟨(T2 a').fld 2 c, (W2 a').fld 2 c, by simp only [gI_sI, gI_sR, gI_sA, gI_sE, gI_sw2, gI_rs, gI_cpA, gI_gh1, gL_sI, gL_sR, gL_sA, gL_sE, gL_sw2, gL_rs, gL_cpA, gR_sI, gR_sR, gR_sA, gR_sE, gR_sw2, gR_rs, gR_cpA, gN_sI, gN_sR, gN_gh1, gN_sA, gN_sE, gN_cpA, gN_sw2, gN_rs, gE_gC, gB_gC, gZ_gC, gEL_gC, gC_sI, gC_sR, gC_gh1, gC_sA, gC_sE, gC_cpA, gC_sw2, gC_rs, Nat.reduceEqDiff, Nat.reduceAdd, Nat.reduceLT, Nat.reduceLeDiff, Nat.reduceBEq, reduceIte, and_self, and_true, true_and, and_false, false_and, if_true, if_false, Nat.reduceMul, Int.reduceEq, Int.reduceLT, Int.reduceLE, Int.reduceNeg, Int.reduceAdd, Int.reduceMul, Int.reduceSub]; exact w32_id rc, by simp only [gI_sI, gI_sR, gI_sA, gI_sE, gI_sw2, gI_rs, gI_cpA, gI_gh1, gL_sI, gL_sR, gL_sA, gL_sE, gL_sw2, gL_rs, gL_cpA, gR_sI, gR_sR, gR_sA, gR_sE, gR_sw2, gR_rs, gR_cpA, gN_sI, gN_sR, gN_gh1, gN_sA, gN_sE, gN_cpA, gN_sw2, gN_rs, gE_gC, gB_gC, gZ_gC, gEL_gC, gC_sI, gC_sR, gC_gh1, gC_sA, gC_sE, gC_cpA, gC_sw2, gC_rs, Nat.reduceEqDiff, Nat.reduceAdd, Nat.reduceLT, Nat.reduceLeDiff, Nat.reduceBEq, reduceIte, and_self, and_true, true_and, and_false, false_and, if_true, if_false, Nat.reduceMul, Int.reduceEq, Int.reduceLT, Int.reduceLE, Int.reduceNeg, Int.reduceAdd, Int.reduceMul, Int.reduceSub]; exact p1⟩
  have tail : ∀ q : Int × Int, a < q.2 → q.2 ≤ bndS D stk → 0 ≤ q.1 → q.1 ≤ 268435455 → ∃ r t, j_X12_element_105 (bndS D stk) (cha D a) q.1 (sI s1 44 1 q.2) = some (r, t) ∧ (match (match (match eLen D (bndS D stk) (cha D a / 32 % 2) q.2 with | .inl c => (.inl c : Int ⊕ (Int × Int × Int × Int)) | .inr r => if r.1 ≠ -1 ∧ bndS D stk - r.2 < r.1 then .inl 1 else .inr (cha D a / 64 * 268435456 + q.1, cha D a / 32 % 2, r.1, r.2)) with
        | .inl c => (.inl (c, a) : Ft ⊕ Es3)
        | .inr h => if h.2.1 = 0 then .inr (h.2.2.2 + h.2.2.1, els ++ [[h.1, a, h.2.2.2, h.2.2.2 + h.2.2.1, els.length + 1, 0]], stk) else .inr (h.2.2.2, els ++ [[h.1, a, h.2.2.2, 0, 0, 1]], ((els.length : Int), (if h.2.2.1 = -1 then -1 else h.2.2.2 + h.2.2.1), (if h.2.2.1 = -1 then bndS D stk else h.2.2.2 + h.2.2.1)) :: stk)) with
      | .inl f => r = 0 ∧ EF t D B f
      | .inr e => r = 1 ∧ EI t D B e.1 e.2.1 e.2.2) := by
    intro q q1 q2 q3 q4
    have con01 : cha D a / 32 % 2 = 0 ∨ cha D a / 32 % 2 = 1 := by omega
    have e105 : j_X12_element_105 (bndS D stk) (cha D a) q.1 (sI s1 44 1 q.2) = j_X12_element_117 (bndS D stk) (cha D a) q.1 (cha D a / 32 % 2) (sI s1 44 1 q.2) := by
      unfold j_X12_element_105
      by_cases z : cha D a / 32 % 2 = 0
      · rw [if_pos ((by32 ca.1 ca.2).mpr z), z]
      · rw [if_neg (fun w => z ((by32 ca.1 ca.2).mp w)), show cha D a / 32 % 2 = 1 by omega]
    rw [e105]
    unfold j_X12_element_117
    have L := X12_length T1 hbl.2 (con := cha D a / 32 % 2) (a := q.2) (by omega) (by omega)
    have lle : ∀ r : Int × Int, eLen D (bndS D stk) (cha D a / 32 % 2) q.2 = .inr r → q.2 < r.2 ∧ r.2 ≤ bndS D stk ∧ (r.1 = -1 ∨ 0 ≤ r.1) ∧ r.1 ≤ 2147483647 ∧ (cha D a / 32 % 2 = 0 → r.1 ≠ -1) := by
      intro r hr
      unfold eLen at hr
      by_cases d1 : bndS D stk ≤ q.2
      · rw [if_pos d1] at hr; cases hr
      rw [if_neg d1] at hr
      have cq := h1.rg q.2 (by omega) (by omega)
      by_cases d2 : cha D q.2 < 128
      · rw [if_pos d2] at hr; have := Sum.inr.inj hr; subst this; simp only; omega
      rw [if_neg d2] at hr
      by_cases d3 : cha D q.2 = 255 ∨ (cha D q.2 = 128 ∧ cha D a / 32 % 2 = 0)
      · rw [if_pos d3] at hr; cases hr
      rw [if_neg d3] at hr
      by_cases d4 : cha D q.2 = 128
      · rw [if_pos d4] at hr; have := Sum.inr.inj hr; subst this; simp only
        exact ⟨by omega, by omega, Or.inl trivial, by decide, fun z => absurd (Or.inr ⟨d4, z⟩) d3⟩
      · rw [if_neg d4] at hr
        have := lenN_le h1.rg hbl.2 _ 0 (q.2 + 1) (by omega) (by decide) (by decide) hr
        omega
    generalize hR : eLen D (bndS D stk) (cha D a / 32 % 2) q.2 = R at L ⊢
    cases R with
    | inl c =>
      obtain ⟨a', ra', e1⟩ := L
      have cc : rg c ∧ c ≠ 0 := by
        have : c = 1 ∨ c = 3 := by
          unfold eLen at hR
          have lc : ∀ (k : Nat) (v i : Int), lenN D (bndS D stk) k v i = .inl c → c = 1 ∨ c = 3 := by
            intro k
            induction k with
            | zero => intro v i hh; unfold lenN at hh; cases hh
            | succ k ih =>
              intro v i hh; unfold lenN at hh
              by_cases z1 : bndS D stk ≤ i
              · rw [if_pos z1] at hh; left; exact (Sum.inl.inj hh).symm
              rw [if_neg z1] at hh
              by_cases z2 : 2147483647 < v * 256 + cha D i
              · rw [if_pos z2] at hh; right; exact (Sum.inl.inj hh).symm
              rw [if_neg z2] at hh; exact ih _ _ hh
          by_cases z1 : bndS D stk ≤ q.2
          · rw [if_pos z1] at hR; left; exact (Sum.inl.inj hR).symm
          rw [if_neg z1] at hR
          by_cases z2 : cha D q.2 < 128
          · rw [if_pos z2] at hR; cases hR
          rw [if_neg z2] at hR
          by_cases z3 : cha D q.2 = 255 ∨ (cha D q.2 = 128 ∧ cha D a / 32 % 2 = 0)
          · rw [if_pos z3] at hR; right; exact (Sum.inl.inj hR).symm
          rw [if_neg z3] at hR
          by_cases z4 : cha D q.2 = 128
          · rw [if_pos z4] at hR; cases hR
          rw [if_neg z4] at hR; exact lc _ _ _ hR
        rcases this with rfl | rfl
        · exact ⟨rgl rfl, by decide⟩
        · exact ⟨rgl rfl, by decide⟩
      rw [e1, bd_eq]
      have ef := badH c a' cc.1 cc.2 ra'
      rw [if_neg (by rw [ef.2.2.1]; exact cc.2)]
      exact ⟨0, _, rfl, rfl, ef⟩
    | inr r =>
      have lr := lle r hR
      have L : f_X12_length (bndS D stk) (cha D a / 32 % 2) (sI s1 44 1 q.2) = some (r.1, sI s1 44 1 r.2) := L
      rw [L, bd_eq, if_pos (f2 _)]
      have rr : rg r.2 := ⟨by omega, by omega⟩
      have a2 : gI (sI s1 44 1 r.2) 44 1 = r.2 := at44 rr
      have go : (r.1 = -1 ∨ (0 ≤ r.1 ∧ r.2 + r.1 ≤ bndS D stk)) → ∃ r' t, j_X12_element_160 (bndS D stk) (cha D a) q.1 (cha D a / 32 % 2) r.1 (sI s1 44 1 r.2) = some (r', t) ∧ (match (if cha D a / 32 % 2 = 0 then (.inr (r.2 + r.1, els ++ [[cha D a / 64 * 268435456 + q.1, a, r.2, r.2 + r.1, (els.length : Int) + 1, 0]], stk) : Ft ⊕ Es3) else .inr (r.2, els ++ [[cha D a / 64 * 268435456 + q.1, a, r.2, 0, 0, 1]], ((els.length : Int), (if r.1 = -1 then -1 else r.2 + r.1), (if r.1 = -1 then bndS D stk else r.2 + r.1)) :: stk)) with | .inl f => r' = 0 ∧ EF t D B f | .inr e => r' = 1 ∧ EI t D B e.1 e.2.1 e.2.2) := by
        intro hlen
        obtain ⟨t, e1, e2⟩ := el160 (s := sI s1 44 1 r.2) (D := D) (B := B) (a := r.2) (pl := a) (els := els) (stk := stk) (x3 := cha D a) (num := q.1) (con := cha D a / 32 % 2) (len := r.1) (T2 _) (W2 _) (R2 _) (p2 _) (f2 _) a2 (by omega) (by omega) h7 (by omega) (by show (els.length : Int) ≤ gN s1 45; rw [nn]; exact h8) (by show (stk.length : Int) ≤ gN s1 51; rw [nn]; exact h9) (by omega) (by omega) h12 ca ⟨q3, q4⟩ con01 hlen lr.2.2.2.2 (by omega) ra
        refine ⟨1, t, e1, ?_⟩
        by_cases z : cha D a / 32 % 2 = 0
        · rw [if_pos z] at e2 ⊢; exact ⟨rfl, e2⟩
        · rw [if_neg z] at e2 ⊢; exact ⟨rfl, e2⟩
      by_cases z : r.1 = -1
      · rw [if_pos z]
        simp only []
        rw [if_neg (show ¬(r.1 ≠ -1 ∧ bndS D stk - r.2 < r.1) from fun w => w.1 z)]
        exact go (Or.inl z)
      · rw [if_neg z, a2, w32_id ⟨by omega, by omega⟩]
        simp only []
        by_cases y : r.1 ≤ bndS D stk - r.2
        · rw [if_pos y, if_neg (show ¬(r.1 ≠ -1 ∧ bndS D stk - r.2 < r.1) from fun w => by have := w.2; omega)]
          exact go (Or.inr ⟨by omega, by omega⟩)
        · rw [if_neg y, if_pos (show r.1 ≠ -1 ∧ bndS D stk - r.2 < r.1 from ⟨z, by omega⟩)]
          exact bad 1 _ (T2 _) (W2 _) (p2 _) (rgl rfl)
  unfold eNum
  by_cases c4 : cha D a % 32 = 31
  · rw [if_pos c4, if_pos c4]
    have N := tagNumber_l T1 (b := bndS D stk) hbl.2 (D.length + 1) FU 0 true 0 (a + 1) (by omega) (by omega) (by omega) (by unfold FU; omega) (by decide) (by decide) (by simp) (by decide) (by omega)
    have tle : ∀ q : Int × Int, tagN D (bndS D stk) (D.length + 1) 0 true (a + 1) = .inr q → a < q.2 ∧ q.2 ≤ bndS D stk ∧ 0 ≤ q.1 ∧ q.1 ≤ 268435455 := by
      intro q hq; have := tagN_le _ 0 true (a + 1) (by decide) hq; omega
    have tc : ∀ (k : Nat) (v i : Int) (ff : Bool) (c : Int), 0 < k → (bndS D stk : Int) < i + k → tagN D (bndS D stk) k v ff i = .inl c → c = 1 ∨ c = 2 := by
      intro k
      induction k with
      | zero => intro v i ff c hk; omega
      | succ k ih =>
        intro v i ff c _ hb2 hh
        unfold tagN at hh
        by_cases z1 : bndS D stk ≤ i
        · rw [if_pos z1] at hh; left; exact (Sum.inl.inj hh).symm
        rw [if_neg z1] at hh
        by_cases z2 : (ff = true ∧ cha D i = 128) ∨ 2097151 < v
        · rw [if_pos z2] at hh; right; exact (Sum.inl.inj hh).symm
        rw [if_neg z2] at hh
        by_cases z3 : cha D i ≤ 127
        · rw [if_pos z3] at hh; cases hh
        rw [if_neg z3] at hh
        exact ih _ _ _ _ (by push_cast at hb2; omega) (by push_cast at hb2; omega) hh
    have e26 : ∃ f26, f_X12_tagNumber (bndS D stk) (sI s1 44 1 (a + 1)) = f26 ∧ numR s1 (match tagN D (bndS D stk) (D.length + 1) 0 true (a + 1) with | .inl c => .inl c | .inr q => if q.1 < 31 then .inl 2 else .inr q) f26 := ⟨_, rfl, by rw [f_X12_tagNumber]; exact N⟩
    obtain ⟨f26, e26, N⟩ := e26
    rw [e26]
    generalize hR : tagN D (bndS D stk) (D.length + 1) 0 true (a + 1) = R at N ⊢
    cases R with
    | inl c =>
      obtain ⟨a', ra', e1⟩ := N
      have := tc _ _ _ _ c (by omega) (by push_cast; omega) hR
      have cc : rg c ∧ c ≠ 0 := by rcases this with rfl | rfl; exact ⟨rgl rfl, by decide⟩; exact ⟨rgl rfl, by decide⟩
      rw [e1, bd_eq, if_pos rfl]
      exact ⟨0, _, rfl, rfl, badH c a' cc.1 cc.2 ra'⟩
    | inr q =>
      have tq := tle q hR
      simp only at N ⊢
      by_cases z : q.1 < 31
      · rw [if_pos z] at N ⊢
        obtain ⟨a', ra', e1⟩ := N
        rw [e1, bd_eq, if_pos rfl]
        exact ⟨0, _, rfl, rfl, badH 2 a' (rgl rfl) (by decide) ra'⟩
      · rw [if_neg z] at N ⊢
        have N : f26 = some (q.1, sI s1 44 1 q.2) := N
        rw [N, bd_eq, if_neg (show ¬q.1 = -1 by omega)]
        exact tail q tq.1 tq.2.1 tq.2.2.1 tq.2.2.2
  · rw [if_neg c4, if_neg c4]
    exact tail (cha D a % 32, a + 1) (by simp only; omega) (by simp only; omega) (by simp only; omega) (by simp only; omega)
