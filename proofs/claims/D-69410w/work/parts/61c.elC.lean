set_option maxRecDepth 100000 set_option linter.unusedVariables false set_option linter.unusedSimpArgs false
/-! PURE 61c: an element is read by the class -/
theorem add95 {s : vS} {B : Nat} {n : Int} (h : EW s B) (hn : gI s 44 10 = n) (n0 : 0 ≤ n) (hl : n < gN s 45) {x y : Int} (hx : rg x) (hy : y = 0 ∨ y = 1) : ∃ t, j_X12_add_95 x y s = some t ∧ EW t B ∧ gI t 44 10 = n + 1 ∧ (∀ f, f ≠ 10 → gI t 44 f = gI s 44 f) ∧ (∀ i : Int, i ≠ n → gE t 45 i = gE s 45 i ∧ gE t 46 i = gE s 46 i ∧ gZ t 50 i = gZ s 50 i) ∧ gE t 45 n = x ∧ gE t 46 n = gI s 44 3 ∧ gZ t 50 n = y ∧ (∀ b, b < 199 → b ≠ 45 → b ≠ 46 → b ≠ 50 → gE t b = gE s b) ∧ (∀ b, gN t b = gN s b) := by
  have h' := h
  obtain ⟨h1, h2, h3, h4, h5, h6, h7, h8, h9, h10, h11, h12⟩ := h
  unfold j_X12_add_95
  rw [hn, gd_pos ⟨n0, hl⟩, stp_eq]
  have e1 : gI (sE s 45 n x) 44 10 = n := by rw [gI_sE]; exact hn
  rw [e1, gd_pos ⟨n0, by simp only [gI_sI, gI_sR, gI_sA, gI_sE, gI_sw2, gI_rs, gI_cpA, gI_gh1, gL_sI, gL_sR, gL_sA, gL_sE, gL_sw2, gL_rs, gL_cpA, gR_sI, gR_sR, gR_sA, gR_sE, gR_sw2, gR_rs, gR_cpA, gN_sI, gN_sR, gN_gh1, gN_sA, gN_sE, gN_cpA, gN_sw2, gN_rs, gE_gC, gB_gC, gZ_gC, gEL_gC, gC_sI, gC_sR, gC_gh1, gC_sA, gC_sE, gC_cpA, gC_sw2, gC_rs]; omega⟩, stp_eq]
  have e2 : gI (sE (sE s 45 n x) 46 n (gI (sE s 45 n x) 44 3)) 44 10 = n := by rw [gI_sE]; exact e1
  rw [e2, gd_pos ⟨n0, by simp only [gI_sI, gI_sR, gI_sA, gI_sE, gI_sw2, gI_rs, gI_cpA, gI_gh1, gL_sI, gL_sR, gL_sA, gL_sE, gL_sw2, gL_rs, gL_cpA, gR_sI, gR_sR, gR_sA, gR_sE, gR_sw2, gR_rs, gR_cpA, gN_sI, gN_sR, gN_gh1, gN_sA, gN_sE, gN_cpA, gN_sw2, gN_rs, gE_gC, gB_gC, gZ_gC, gEL_gC, gC_sI, gC_sR, gC_gh1, gC_sA, gC_sE, gC_cpA, gC_sw2, gC_rs]; omega⟩, stp_eq, stp_eq]
  simp only [gI_sE]
  rw [hn, w32_id ⟨by omega, by omega⟩]
  generalize ht : sI (sE (sE (sE s 45 n x) 46 n (gI s 44 3)) 50 n y) 44 10 (n + 1) = t
  have nn : ∀ b, gN t b = gN s b := by intro b; rw [← ht]; simp only [gI_sI, gI_sR, gI_sA, gI_sE, gI_sw2, gI_rs, gI_cpA, gI_gh1, gL_sI, gL_sR, gL_sA, gL_sE, gL_sw2, gL_rs, gL_cpA, gR_sI, gR_sR, gR_sA, gR_sE, gR_sw2, gR_rs, gR_cpA, gN_sI, gN_sR, gN_gh1, gN_sA, gN_sE, gN_cpA, gN_sw2, gN_rs, gE_gC, gB_gC, gZ_gC, gEL_gC, gC_sI, gC_sR, gC_gh1, gC_sA, gC_sE, gC_cpA, gC_sw2, gC_rs]
  refine ⟨t, rfl, ?_, ?_, ?_, ?_, ?_, ?_, ?_, ?_, nn⟩
  · unfold EW at *; simp only [nn]; exact h'
  · rw [← ht]; simp only [gI_sI, gI_sR, gI_sA, gI_sE, gI_sw2, gI_rs, gI_cpA, gI_gh1, gL_sI, gL_sR, gL_sA, gL_sE, gL_sw2, gL_rs, gL_cpA, gR_sI, gR_sR, gR_sA, gR_sE, gR_sw2, gR_rs, gR_cpA, gN_sI, gN_sR, gN_gh1, gN_sA, gN_sE, gN_cpA, gN_sw2, gN_rs, gE_gC, gB_gC, gZ_gC, gEL_gC, gC_sI, gC_sR, gC_gh1, gC_sA, gC_sE, gC_cpA, gC_sw2, gC_rs, Nat.reduceEqDiff, Nat.reduceAdd, Nat.reduceLT, Nat.reduceLeDiff, Nat.reduceBEq, reduceIte, and_self, and_true, true_and, and_false, false_and, if_true, if_false, Nat.reduceMul, Int.reduceEq, Int.reduceLT, Int.reduceLE, Int.reduceNeg, Int.reduceAdd, Int.reduceMul, Int.reduceSub]; exact w32_id ⟨by omega, by omega⟩
  · intro f hf; rw [← ht, gI_sI, if_neg (by omega)]; rfl
  · intro i hi
    rw [← ht]
    refine ⟨?_, ?_, ?_⟩
    · rw [gE_sI, gE_sE, gE_sE, gE_sE, if_neg (by omega), if_neg (by omega), if_neg (fun z => hi z.2)]
    · rw [gE_sI, gE_sE, gE_sE, gE_sE, if_neg (by omega), if_neg (fun z => hi z.2), if_neg (by omega)]
    · rw [gZ_sI, gZ_sE, gZ_sE, gZ_sE, if_neg (fun z => hi z.2), if_neg (by omega), if_neg (by omega)]
  · rw [← ht, gE_sI, gE_sE, gE_sE, gE_sE, if_neg (by omega), if_neg (by omega), if_pos ⟨rfl, rfl⟩, w32_id hx]
  · rw [← ht, gE_sI, gE_sE, gE_sE, if_neg (by omega), if_pos ⟨rfl, rfl⟩, w32_id (gI_rg _ _ _)]
  · rw [← ht, gZ_sI, gZ_sE, if_pos ⟨rfl, rfl⟩, bz_eq]; rcases hy with rfl | rfl <;> decide
  · intro b _ b1 b2 b3; funext i
    rw [← ht, gE_sI, gE_sE, gE_sE, gE_sE, if_neg (fun z => b3 z.1), if_neg (fun z => b2 z.1), if_neg (fun z => b1 z.1)]
theorem X12_add {s : vS} {B : Nat} {n : Int} (h : EW s B) (hn : gI s 44 10 = n) (n0 : 0 ≤ n) (hl : n ≤ gN s 45) (hB : 2 * n ≤ B) {x y : Int} (hx : rg x) (hy : y = 0 ∨ y = 1) : ∃ t, f_X12_add x y s = some t ∧ EW t B ∧ n < gN t 45 ∧ gI t 44 10 = n + 1 ∧ (∀ f, f ≠ 10 → gI t 44 f = gI s 44 f) ∧ (∀ i : Int, 0 ≤ i → i < n → gE t 45 i = gE s 45 i ∧ gE t 46 i = gE s 46 i ∧ gE t 47 i = gE s 47 i ∧ gE t 48 i = gE s 48 i ∧ gE t 49 i = gE s 49 i ∧ gZ t 50 i = gZ s 50 i) ∧ gE t 45 n = x ∧ gE t 46 n = gI s 44 3 ∧ gZ t 50 n = y ∧ (∀ b, b = 51 ∨ b = 52 ∨ b = 53 → gE t b = gE s b ∧ gN t b = gN s b) := by
  rw [X12_add_eq h]
  have h' := h
  obtain ⟨h1, h2, h3, h4, h5, h6, h7, h8, h9, h10, h11, h12⟩ := h
  by_cases c : gI s 44 10 = (gN s 45 : Int)
  · rw [if_pos c]
    have i0 : ∀ o f, gI (d6 s) o f = gI s o f := by intro o f; unfold d6; rw [gI_dbl, gI_dbl, gI_dbl, gI_dbl, gI_dbl, gI_dbl]
    have n45 := d6_N (s := s) 45 (by decide)
    have n46 := d6_N (s := s) 46 (by decide)
    have n47 := d6_N (s := s) 47 (by decide)
    have n48 := d6_N (s := s) 48 (by decide)
    have n49 := d6_N (s := s) 49 (by decide)
    have n50 := d6_N (s := s) 50 (by decide)
    have n51 := d6_N (s := s) 51 (by decide)
    have n52 := d6_N (s := s) 52 (by decide)
    have n53 := d6_N (s := s) 53 (by decide)
    simp only [Nat.reduceEqDiff, Nat.reduceAdd, Nat.reduceLT, Nat.reduceLeDiff, Nat.reduceBEq, reduceIte, and_self, and_true, true_and, and_false, false_and, if_true, if_false, Nat.reduceMul, Int.reduceEq, Int.reduceLT, Int.reduceLE, Int.reduceNeg, Int.reduceAdd, Int.reduceMul, Int.reduceSub, or_true, true_or, or_false, false_or] at n45 n46 n47 n48 n49 n50 n51 n52 n53
    have W6 : EW (d6 s) B := ⟨by omega, by omega, by omega, by omega, by omega, by omega, by omega, h8, by omega, by omega, by omega, by omega⟩
    obtain ⟨t, r1, r2, r3, r4, r5, r6, r7, r8, r9, r10⟩ := add95 W6 (by rw [i0]; exact hn) n0 (by omega) hx hy
    refine ⟨t, r1, r2, by rw [r10]; omega, r3, fun f hf => by rw [r4 f hf, i0], ?_, r6, by rw [r7, i0], r8, ?_⟩
    · intro i i0' i1
      obtain ⟨q1, q2, q3⟩ := r5 i (by omega)
      refine ⟨by rw [q1, d6_E 45 (by decide) (fun _ => ⟨i0', by omega⟩)], by rw [q2, d6_E 46 (by decide) (fun _ => ⟨i0', by omega⟩)], by rw [r9 47 (by decide) (by decide) (by decide) (by decide), d6_E 47 (by decide) (fun _ => ⟨i0', by omega⟩)], by rw [r9 48 (by decide) (by decide) (by decide) (by decide), d6_E 48 (by decide) (fun _ => ⟨i0', by omega⟩)], by rw [r9 49 (by decide) (by decide) (by decide) (by decide), d6_E 49 (by decide) (fun _ => ⟨i0', by omega⟩)], by rw [q3, d6_Z i0' (by omega)]⟩
    · intro b hb
      have hb2 : b < 199 ∧ b ≠ 45 ∧ b ≠ 46 ∧ b ≠ 50 := by omega
      refine ⟨?_, ?_⟩
      · rw [r9 b hb2.1 hb2.2.1 hb2.2.2.1 hb2.2.2.2]
        funext i; exact d6_E b hb2.1 (fun z => by omega)
      · rw [r10, d6_N b hb2.1, if_neg (by omega)]
  · rw [if_neg c]
    obtain ⟨t, r1, r2, r3, r4, r5, r6, r7, r8, r9, r10⟩ := add95 h' hn n0 (by omega) hx hy
    refine ⟨t, r1, r2, by rw [r10]; omega, r3, r4, fun i _ i1 => ?_, r6, r7, r8, fun b hb => ⟨r9 b (by omega) (by omega) (by omega) (by omega), r10 b⟩⟩
    obtain ⟨q1, q2, q3⟩ := r5 i (by omega)
    exact ⟨q1, q2, by rw [r9 47 (by decide) (by decide) (by decide) (by decide)], by rw [r9 48 (by decide) (by decide) (by decide) (by decide)], by rw [r9 49 (by decide) (by decide) (by decide) (by decide)], q3⟩
/-- an element becomes open -/
def d3 (s : vS) : vS := dbl (dbl (dbl s 51) 52) 53
theorem enter45 {s : vS} {B : Nat} {d n : Int} (h : EW s B) (hd : gI s 44 14 = d) (hn : gI s 44 10 = n) (d0 : 0 ≤ d) (dl : d < gN s 51) (n1 : 1 ≤ n) (n2 : n ≤ 1000000) {x y : Int} (hx : rg x) (hy : rg y) : ∃ t, j_X12_enter_45 x y s = some t ∧ EW t B ∧ gI t 44 14 = d + 1 ∧ (∀ f, f ≠ 14 → gI t 44 f = gI s 44 f) ∧ (∀ i : Int, i ≠ d → gE t 51 i = gE s 51 i ∧ gE t 52 i = gE s 52 i ∧ gE t 53 i = gE s 53 i) ∧ gE t 51 d = n - 1 ∧ gE t 52 d = x ∧ gE t 53 d = y ∧ (∀ b, b < 199 → b ≠ 51 → b ≠ 52 → b ≠ 53 → gC t b = gC s b) ∧ (∀ b, gN t b = gN s b) := by
  have h' := h
  obtain ⟨h1, h2, h3, h4, h5, h6, h7, h8, h9, h10, h11, h12⟩ := h
  unfold j_X12_enter_45
  rw [hd, hn, gd_pos ⟨d0, dl⟩, stp_eq]
  simp only [gI_sE, hd]
  rw [gd_pos ⟨d0, by simp only [gI_sI, gI_sR, gI_sA, gI_sE, gI_sw2, gI_rs, gI_cpA, gI_gh1, gL_sI, gL_sR, gL_sA, gL_sE, gL_sw2, gL_rs, gL_cpA, gR_sI, gR_sR, gR_sA, gR_sE, gR_sw2, gR_rs, gR_cpA, gN_sI, gN_sR, gN_gh1, gN_sA, gN_sE, gN_cpA, gN_sw2, gN_rs, gE_gC, gB_gC, gZ_gC, gEL_gC, gC_sI, gC_sR, gC_gh1, gC_sA, gC_sE, gC_cpA, gC_sw2, gC_rs]; omega⟩, stp_eq]
  simp only [gI_sE, hd]
  rw [gd_pos ⟨d0, by simp only [gI_sI, gI_sR, gI_sA, gI_sE, gI_sw2, gI_rs, gI_cpA, gI_gh1, gL_sI, gL_sR, gL_sA, gL_sE, gL_sw2, gL_rs, gL_cpA, gR_sI, gR_sR, gR_sA, gR_sE, gR_sw2, gR_rs, gR_cpA, gN_sI, gN_sR, gN_gh1, gN_sA, gN_sE, gN_cpA, gN_sw2, gN_rs, gE_gC, gB_gC, gZ_gC, gEL_gC, gC_sI, gC_sR, gC_gh1, gC_sA, gC_sE, gC_cpA, gC_sw2, gC_rs]; omega⟩, stp_eq, stp_eq]
  simp only [gI_sE, hd]
  rw [w32_id (x := n - 1) ⟨by omega, by omega⟩, w32_id (x := d + 1) ⟨by omega, by omega⟩]
  generalize ht : sI (sE (sE (sE s 51 d (n - 1)) 52 d x) 53 d y) 44 14 (d + 1) = t
  have nn : ∀ b, gN t b = gN s b := by intro b; rw [← ht]; simp only [gI_sI, gI_sR, gI_sA, gI_sE, gI_sw2, gI_rs, gI_cpA, gI_gh1, gL_sI, gL_sR, gL_sA, gL_sE, gL_sw2, gL_rs, gL_cpA, gR_sI, gR_sR, gR_sA, gR_sE, gR_sw2, gR_rs, gR_cpA, gN_sI, gN_sR, gN_gh1, gN_sA, gN_sE, gN_cpA, gN_sw2, gN_rs, gE_gC, gB_gC, gZ_gC, gEL_gC, gC_sI, gC_sR, gC_gh1, gC_sA, gC_sE, gC_cpA, gC_sw2, gC_rs]
  refine ⟨t, rfl, ?_, ?_, ?_, ?_, ?_, ?_, ?_, ?_, nn⟩
  · unfold EW at *; simp only [nn]; exact h'
  · rw [← ht]; simp only [gI_sI, gI_sR, gI_sA, gI_sE, gI_sw2, gI_rs, gI_cpA, gI_gh1, gL_sI, gL_sR, gL_sA, gL_sE, gL_sw2, gL_rs, gL_cpA, gR_sI, gR_sR, gR_sA, gR_sE, gR_sw2, gR_rs, gR_cpA, gN_sI, gN_sR, gN_gh1, gN_sA, gN_sE, gN_cpA, gN_sw2, gN_rs, gE_gC, gB_gC, gZ_gC, gEL_gC, gC_sI, gC_sR, gC_gh1, gC_sA, gC_sE, gC_cpA, gC_sw2, gC_rs, Nat.reduceEqDiff, Nat.reduceAdd, Nat.reduceLT, Nat.reduceLeDiff, Nat.reduceBEq, reduceIte, and_self, and_true, true_and, and_false, false_and, if_true, if_false, Nat.reduceMul, Int.reduceEq, Int.reduceLT, Int.reduceLE, Int.reduceNeg, Int.reduceAdd, Int.reduceMul, Int.reduceSub]; exact w32_id ⟨by omega, by omega⟩
  · intro f hf; rw [← ht, gI_sI, if_neg (by omega)]; rfl
  · intro i hi
    rw [← ht]
    refine ⟨?_, ?_, ?_⟩
    · rw [gE_sI, gE_sE, gE_sE, gE_sE, if_neg (by omega), if_neg (by omega), if_neg (fun z => hi z.2)]
    · rw [gE_sI, gE_sE, gE_sE, gE_sE, if_neg (by omega), if_neg (fun z => hi z.2), if_neg (by omega)]
    · rw [gE_sI, gE_sE, gE_sE, gE_sE, if_neg (fun z => hi z.2), if_neg (by omega), if_neg (by omega)]
  · rw [← ht, gE_sI, gE_sE, gE_sE, gE_sE, if_neg (by omega), if_neg (by omega), if_pos ⟨rfl, rfl⟩, w32_id ⟨by omega, by omega⟩]
  · rw [← ht, gE_sI, gE_sE, gE_sE, if_neg (by omega), if_pos ⟨rfl, rfl⟩, w32_id hx]
  · rw [← ht, gE_sI, gE_sE, if_pos ⟨rfl, rfl⟩, w32_id hy]
  · intro b _ b1 b2 b3; funext i
    rw [← ht, gC_sI, gC_sE, gC_sE, gC_sE, if_neg (fun z => b3 z.1), if_neg (fun z => b2 z.1), if_neg (fun z => b1 z.1)]
theorem X12_enter {s : vS} {B : Nat} {d n : Int} (h : EW s B) (hd : gI s 44 14 = d) (hn : gI s 44 10 = n) (d0 : 0 ≤ d) (dl : d ≤ gN s 51) (d2 : d ≤ 2048) (n1 : 1 ≤ n) (n2 : n ≤ 1000000) {x y : Int} (hx : rg x) (hy : rg y) : ∃ t, f_X12_enter x y s = some t ∧ EW t B ∧ d < gN t 51 ∧ gI t 44 14 = d + 1 ∧ (∀ f, f ≠ 14 → gI t 44 f = gI s 44 f) ∧ (∀ i : Int, 0 ≤ i → i < d → gE t 51 i = gE s 51 i ∧ gE t 52 i = gE s 52 i ∧ gE t 53 i = gE s 53 i) ∧ gE t 51 d = n - 1 ∧ gE t 52 d = x ∧ gE t 53 d = y ∧ (∀ b, b < 199 → b ≠ 51 → b ≠ 52 → b ≠ 53 → gC t b = gC s b ∧ gN t b = gN s b) := by
  have h' := h
  obtain ⟨h1, h2, h3, h4, h5, h6, h7, h8, h9, h10, h11, h12⟩ := h
  unfold f_X12_enter
  rw [hd, w32_id (x := (gN s 51 : Int)) ⟨by omega, by omega⟩]
  by_cases c : d = (gN s 51 : Int)
  · rw [if_pos c]
    have a1 : gN (dbl s 51) 52 = gN s 51 := by simp only [gN_dbl (show 52 < 199 by decide), Nat.reduceEqDiff, Nat.reduceAdd, Nat.reduceLT, Nat.reduceLeDiff, Nat.reduceBEq, reduceIte, and_self, and_true, true_and, and_false, false_and, if_true, if_false, Nat.reduceMul, Int.reduceEq, Int.reduceLT, Int.reduceLE, Int.reduceNeg, Int.reduceAdd, Int.reduceMul, Int.reduceSub, h9]
    have a2 : gN (dbl (dbl s 51) 52) 53 = gN s 51 := by simp only [gN_dbl (show 53 < 199 by decide), Nat.reduceEqDiff, Nat.reduceAdd, Nat.reduceLT, Nat.reduceLeDiff, Nat.reduceBEq, reduceIte, and_self, and_true, true_and, and_false, false_and, if_true, if_false, Nat.reduceMul, Int.reduceEq, Int.reduceLT, Int.reduceLE, Int.reduceNeg, Int.reduceAdd, Int.reduceMul, Int.reduceSub, h10]
    rw [gro_step (by decide) (by omega) (by omega), gro_step (by decide) (by omega) (by omega), gro_step (by decide) (by omega) (by omega)]
    have i0 : ∀ o f, gI (dbl (dbl (dbl s 51) 52) 53) o f = gI s o f := by intro o f; rw [gI_dbl, gI_dbl, gI_dbl]
    have N : ∀ b, b < 199 → gN (dbl (dbl (dbl s 51) 52) 53) b = if b = 51 ∨ b = 52 ∨ b = 53 then 2 * gN s b else gN s b := by
      intro b hb
      simp only [gN_dbl hb, gN_dbl (show 51 < 199 by decide), gN_dbl (show 52 < 199 by decide), gN_dbl (show 53 < 199 by decide), Nat.reduceEqDiff, Nat.reduceAdd, Nat.reduceLT, Nat.reduceLeDiff, Nat.reduceBEq, reduceIte, and_self, and_true, true_and, and_false, false_and, if_true, if_false, Nat.reduceMul, Int.reduceEq, Int.reduceLT, Int.reduceLE, Int.reduceNeg, Int.reduceAdd, Int.reduceMul, Int.reduceSub]
      grind
    have C : ∀ b, b < 199 → b ≠ 51 → b ≠ 52 → b ≠ 53 → gC (dbl (dbl (dbl s 51) 52) 53) b = gC s b := by
      intro b hb b1 b2 b3; funext i
      rw [gC_dbl (by decide) hb, if_neg b3, gC_dbl (by decide) hb, if_neg b2, gC_dbl (by decide) hb, if_neg b1]
    have E : ∀ b, b = 51 ∨ b = 52 ∨ b = 53 → ∀ i : Int, 0 ≤ i → i < gN s 51 → gE (dbl (dbl (dbl s 51) 52) 53) b i = gE s b i := by
      intro b hb i i0' i1
      rcases hb with rfl | rfl | rfl
      · rw [gE_dbl (by decide) (by decide), if_neg (by decide), gE_dbl (by decide) (by decide), if_neg (by decide), gE_dbl (by decide) (by decide), if_pos rfl, if_pos ⟨i0', i1⟩]
      · rw [gE_dbl (by decide) (by decide), if_neg (by decide), gE_dbl (by decide) (by decide), if_pos rfl, if_pos ⟨i0', by omega⟩, gE_dbl (by decide) (by decide), if_neg (by decide)]
      · rw [gE_dbl (by decide) (by decide), if_pos rfl, if_pos ⟨i0', by omega⟩, gE_dbl (by decide) (by decide), if_neg (by decide), gE_dbl (by decide) (by decide), if_neg (by decide)]
    generalize dbl (dbl (dbl s 51) 52) 53 = u at *
    have m45 := N 45 (by decide)
    have m46 := N 46 (by decide)
    have m47 := N 47 (by decide)
    have m48 := N 48 (by decide)
    have m49 := N 49 (by decide)
    have m50 := N 50 (by decide)
    have m51 := N 51 (by decide)
    have m52 := N 52 (by decide)
    have m53 := N 53 (by decide)
    simp only [Nat.reduceEqDiff, Nat.reduceAdd, Nat.reduceLT, Nat.reduceLeDiff, Nat.reduceBEq, reduceIte, and_self, and_true, true_and, and_false, false_and, if_true, if_false, Nat.reduceMul, Int.reduceEq, Int.reduceLT, Int.reduceLE, Int.reduceNeg, Int.reduceAdd, Int.reduceMul, Int.reduceSub, or_true, true_or, or_false, false_or] at m45 m46 m47 m48 m49 m50 m51 m52 m53
    have W3 : EW u B := ⟨by omega, by omega, by omega, by omega, by omega, by omega, by omega, h8, by omega, by omega, by omega, by omega⟩
    obtain ⟨t, r1, r2, r3, r4, r5, r6, r7, r8, r9, r10⟩ := enter45 W3 (by rw [i0]; exact hd) (by rw [i0]; exact hn) d0 (by omega) n1 n2 hx hy
    refine ⟨t, r1, r2, by rw [r10]; omega, r3, fun f hf => by rw [r4 f hf, i0], fun i i0' i1 => ?_, r6, r7, r8, fun b hb b1 b2 b3 => ⟨by rw [r9 b hb b1 b2 b3, C b hb b1 b2 b3], by rw [r10, N b hb, if_neg (by omega)]⟩⟩
    obtain ⟨q1, q2, q3⟩ := r5 i (by omega)
    exact ⟨by rw [q1, E 51 (by decide) i i0' (by omega)], by rw [q2, E 52 (by decide) i i0' (by omega)], by rw [q3, E 53 (by decide) i i0' (by omega)]⟩
  · rw [if_neg c]
    obtain ⟨t, r1, r2, r3, r4, r5, r6, r7, r8, r9, r10⟩ := enter45 h' hd hn d0 (by omega) n1 n2 hx hy
    exact ⟨t, r1, r2, by rw [r10]; omega, r3, r4, fun i _ i1 => r5 i (by omega), r6, r7, r8, fun b hb b1 b2 b3 => ⟨r9 b hb b1 b2 b3, r10 b⟩⟩
