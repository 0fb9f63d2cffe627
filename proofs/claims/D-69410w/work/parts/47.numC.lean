set_option maxRecDepth 100000 set_option linter.unusedVariables false set_option linter.unusedSimpArgs false
/-! PURE 47: the class's whole numbers -/
def lev (B : Int) : List Int → Int
  | [] => 0
  | d :: l => d + B * lev B l
theorem lev_app (B : Int) : ∀ l m : List Int, lev B (l ++ m) = lev B l + B ^ l.length * lev B m
  | [], m => by simp [lev]
  | d :: l, m => by
    rw [List.cons_append, lev, lev, lev_app B l m, List.length_cons, Int.pow_succ]
    grind
theorem lev_rg {B : Int} (hB : 0 < B) : ∀ l : List Int, (∀ d ∈ l, 0 ≤ d ∧ d < B) → 0 ≤ lev B l ∧ lev B l < B ^ l.length
  | [], _ => by simp [lev]
  | d :: l, h => by
    have ih := lev_rg hB l (fun x hx => h x (by simp [hx]))
    have hd := h d (by simp)
    rw [lev, List.length_cons, Int.pow_succ]
    have h1 : 0 ≤ B * lev B l := Int.mul_nonneg (by omega) ih.1
    have h2 : B * (lev B l + 1) ≤ B * B ^ l.length := Int.mul_le_mul_of_nonneg_left (by omega) (by omega)
    rw [Int.mul_add, Int.mul_one] at h2
    rw [Int.mul_comm (B ^ l.length)]
    omega
/-- digits in the middle -/
theorem lev_at {B : Int} (hB : 1 < B) : ∀ (l : List Int) (k : Nat), (∀ d ∈ l, 0 ≤ d ∧ d < B) → lev B l / B ^ k % B = l.getD k 0
  | [], k, _ => by
    have := pow_pos' B (by omega) k
    simp [lev]
  | d :: l, 0, h => by
    have hd := h d (by simp)
    rw [lev, Int.pow_zero, Int.ediv_one, Int.add_mul_emod_self_left, Int.emod_eq_of_lt hd.1 hd.2]; rfl
  | d :: l, k + 1, h => by
    have hd := h d (by simp)
    have ih := lev_at hB l k (fun x hx => h x (by simp [hx]))
    rw [lev, Int.pow_succ, Int.mul_comm (B ^ k), ← Int.ediv_ediv_of_nonneg (show 0 ≤ B by omega), Int.add_mul_ediv_left _ _ (by omega), Int.ediv_eq_zero_of_lt hd.1 hd.2, Int.zero_add, ih]
    rfl
def wds (s : vS) (o : Nat) : List Int := rowL (gI s o 1).toNat (fun i => gE s (o + 1) i % 4294967296)
def nv (s : vS) (o : Nat) : Int := lev 4294967296 (wds s o)
def NW0 (s : vS) (o : Nat) : Prop := 0 ≤ gI s o 1 ∧ gI s o 1 ≤ gN s (o + 1) ∧ 8 ≤ gN s (o + 1) ∧ gN s (o + 1) ≤ 1000000
def NWf (s : vS) (o : Nat) : Prop := NW0 s o ∧ (gI s o 1 = 0 ∨ 4294967296 ^ ((gI s o 1).toNat - 1) ≤ nv s o)
theorem wds_rg (s : vS) (o : Nat) : ∀ d ∈ wds s o, 0 ≤ d ∧ d < 4294967296 := by
  intro d hd; unfold wds rowL at hd; obtain ⟨i, _, rfl⟩ := List.mem_map.mp hd; omega
theorem nv_nn (s : vS) (o : Nat) : 0 ≤ nv s o := (lev_rg (by decide) _ (wds_rg s o)).1
theorem add40 {s : vS} {o : Nat} {v : Int} (h : NW0 s o) (hl : gI s o 1 < gN s (o + 1)) (hv : 0 ≤ v ∧ v < 4294967296) : wpo (j_X7_add_40 o (w32 v) s) fun s' => NW0 s' o ∧ wds s' o = wds s o ++ [v] ∧ gI s' o 1 = gI s o 1 + 1 ∧ gN s' (o + 1) = gN s (o + 1) := by
  obtain ⟨h1, h2, h3, h4⟩ := h
  unfold j_X7_add_40
  refine wpo_gd.mpr ⟨⟨h1, hl⟩, wpo_stp.mpr (wpo_stp.mpr (wpo_some.mpr ?_))⟩
  generalize hs : sI (sE s (o + 1) (gI s o 1) (w32 v)) o 1 (w32 (gI (sE s (o + 1) (gI s o 1) (w32 v)) o 1 + 1)) = s'
  have e1 : gI s' o 1 = gI s o 1 + 1 := by rw [← hs]; simp only [gI_sI, gI_sR, gI_sA, gI_sE, gI_sw2, gI_rs, gI_cpA, gI_gh1, gL_sI, gL_sR, gL_sA, gL_sE, gL_sw2, gL_rs, gL_cpA, gR_sI, gR_sR, gR_sA, gR_sE, gR_sw2, gR_rs, gR_cpA, gN_sI, gN_sR, gN_gh1, gN_sA, gN_sE, gN_cpA, gN_sw2, gN_rs, gE_gC, gB_gC, gZ_gC, gEL_gC, gC_sI, gC_sR, gC_gh1, gC_sA, gC_sE, gC_cpA, gC_sw2, gC_rs, Nat.reduceEqDiff, Nat.reduceAdd, Nat.reduceLT, Nat.reduceLeDiff, Nat.reduceBEq, reduceIte, and_self, and_true, true_and, and_false, false_and, if_true, if_false, Nat.reduceMul, Int.reduceEq, Int.reduceLT, Int.reduceLE, Int.reduceNeg, Int.reduceAdd, Int.reduceMul, Int.reduceSub, w32_w32]; exact w32_id ⟨by omega, by omega⟩
  have e2 : gN s' (o + 1) = gN s (o + 1) := by rw [← hs]; simp only [gI_sI, gI_sR, gI_sA, gI_sE, gI_sw2, gI_rs, gI_cpA, gI_gh1, gL_sI, gL_sR, gL_sA, gL_sE, gL_sw2, gL_rs, gL_cpA, gR_sI, gR_sR, gR_sA, gR_sE, gR_sw2, gR_rs, gR_cpA, gN_sI, gN_sR, gN_gh1, gN_sA, gN_sE, gN_cpA, gN_sw2, gN_rs, gE_gC, gB_gC, gZ_gC, gEL_gC, gC_sI, gC_sR, gC_gh1, gC_sA, gC_sE, gC_cpA, gC_sw2, gC_rs]
  refine ⟨⟨by omega, by omega, by omega, by omega⟩, ?_, e1, e2⟩
  unfold wds
  rw [e1, show (gI s o 1 + 1).toNat = (gI s o 1).toNat + 1 by omega, rowL_succ]
  congr 1
  · apply rowL_congr
    intro i hi
    rw [← hs]
    simp only [gI_sI, gI_sR, gI_sA, gI_sE, gI_sw2, gI_rs, gI_cpA, gI_gh1, gL_sI, gL_sR, gL_sA, gL_sE, gL_sw2, gL_rs, gL_cpA, gR_sI, gR_sR, gR_sA, gR_sE, gR_sw2, gR_rs, gR_cpA, gN_sI, gN_sR, gN_gh1, gN_sA, gN_sE, gN_cpA, gN_sw2, gN_rs, gE_gC, gB_gC, gZ_gC, gEL_gC, gC_sI, gC_sR, gC_gh1, gC_sA, gC_sE, gC_cpA, gC_sw2, gC_rs, Nat.reduceEqDiff, Nat.reduceAdd, Nat.reduceLT, Nat.reduceLeDiff, Nat.reduceBEq, reduceIte, and_self, and_true, true_and, and_false, false_and, if_true, if_false, Nat.reduceMul, Int.reduceEq, Int.reduceLT, Int.reduceLE, Int.reduceNeg, Int.reduceAdd, Int.reduceMul, Int.reduceSub]
    rw [if_neg (by omega)]
  · rw [← hs]
    simp only [gI_sI, gI_sR, gI_sA, gI_sE, gI_sw2, gI_rs, gI_cpA, gI_gh1, gL_sI, gL_sR, gL_sA, gL_sE, gL_sw2, gL_rs, gL_cpA, gR_sI, gR_sR, gR_sA, gR_sE, gR_sw2, gR_rs, gR_cpA, gN_sI, gN_sR, gN_gh1, gN_sA, gN_sE, gN_cpA, gN_sw2, gN_rs, gE_gC, gB_gC, gZ_gC, gEL_gC, gC_sI, gC_sR, gC_gh1, gC_sA, gC_sE, gC_cpA, gC_sw2, gC_rs, Nat.reduceEqDiff, Nat.reduceAdd, Nat.reduceLT, Nat.reduceLeDiff, Nat.reduceBEq, reduceIte, and_self, and_true, true_and, and_false, false_and, if_true, if_false, Nat.reduceMul, Int.reduceEq, Int.reduceLT, Int.reduceLE, Int.reduceNeg, Int.reduceAdd, Int.reduceMul, Int.reduceSub, Int.toNat_of_nonneg h1, w32_w32]
    unfold w32
    have : (Int.bmod v 4294967296) % 4294967296 = v % 4294967296 := Int.bmod_emod
    rw [this, Int.emod_eq_of_lt hv.1 hv.2]
theorem X7_add {s : vS} {o : Nat} {v : Int} (h : NW0 s o) (ho : o + 1 < 199) (hl : gI s o 1 < 500000) (hv : 0 ≤ v ∧ v < 4294967296) : wpo (f_X7_add o (w32 v) s) fun s' => NW0 s' o ∧ wds s' o = wds s o ++ [v] ∧ gI s' o 1 = gI s o 1 + 1 ∧ gN s (o + 1) ≤ gN s' (o + 1) ∧ (gN s' (o + 1) = gN s (o + 1) ∨ gN s' (o + 1) ≤ 2 * gI s o 1) := by
  have h' := h
  obtain ⟨h1, h2, h3, h4⟩ := h
  have e1 : ¬ o = 198 := by omega
  unfold f_X7_add
  rw [w32_id (x := (gN s (o + 1) : Int)) ⟨by omega, by omega⟩]
  refine wpo_ite.mpr ⟨fun c => ?_, fun c => (add40 h' (by omega) hv).mono fun r q => ⟨q.1, q.2.1, q.2.2.1, by omega, Or.inl q.2.2.2⟩⟩
  rw [w32_id (x := 2 * gI s o 1) ⟨by omega, by omega⟩]
  refine wpo_gd.mpr ⟨⟨by omega, by omega⟩, wpo_stp.mpr (wpo_gd.mpr ⟨?_, wpo_stp.mpr (wpo_gd.mpr ⟨?_, wpo_stp.mpr (wpo_stp.mpr ?_)⟩)⟩)⟩
  · simp only [gI_sI, gI_sR, gI_sA, gI_sE, gI_sw2, gI_rs, gI_cpA, gI_gh1, gL_sI, gL_sR, gL_sA, gL_sE, gL_sw2, gL_rs, gL_cpA, gR_sI, gR_sR, gR_sA, gR_sE, gR_sw2, gR_rs, gR_cpA, gN_sI, gN_sR, gN_gh1, gN_sA, gN_sE, gN_cpA, gN_sw2, gN_rs, gE_gC, gB_gC, gZ_gC, gEL_gC, gC_sI, gC_sR, gC_gh1, gC_sA, gC_sE, gC_cpA, gC_sw2, gC_rs, Nat.reduceEqDiff, Nat.reduceAdd, Nat.reduceLT, Nat.reduceLeDiff, Nat.reduceBEq, reduceIte, and_self, and_true, true_and, and_false, false_and, if_true, if_false, Nat.reduceMul, Int.reduceEq, Int.reduceLT, Int.reduceLE, Int.reduceNeg, Int.reduceAdd, Int.reduceMul, Int.reduceSub, if_neg e1]; omega
  · simp only [gI_sI, gI_sR, gI_sA, gI_sE, gI_sw2, gI_rs, gI_cpA, gI_gh1, gL_sI, gL_sR, gL_sA, gL_sE, gL_sw2, gL_rs, gL_cpA, gR_sI, gR_sR, gR_sA, gR_sE, gR_sw2, gR_rs, gR_cpA, gN_sI, gN_sR, gN_gh1, gN_sA, gN_sE, gN_cpA, gN_sw2, gN_rs, gE_gC, gB_gC, gZ_gC, gEL_gC, gC_sI, gC_sR, gC_gh1, gC_sA, gC_sE, gC_cpA, gC_sw2, gC_rs, Nat.reduceEqDiff, Nat.reduceAdd, Nat.reduceLT, Nat.reduceLeDiff, Nat.reduceBEq, reduceIte, and_self, and_true, true_and, and_false, false_and, if_true, if_false, Nat.reduceMul, Int.reduceEq, Int.reduceLT, Int.reduceLE, Int.reduceNeg, Int.reduceAdd, Int.reduceMul, Int.reduceSub, if_neg e1]; omega
  generalize hs : rs (sw2 (cpA (sA s 199 ((2 * gI s o 1).toNat, fun x => 0)) (o + 1) 199 0 0 (gI (sA s 199 ((2 * gI s o 1).toNat, fun x => 0)) o 1)) (o + 1) 199) = s1
  have b1 : gI s1 o 1 = gI s o 1 := by rw [← hs]; simp only [gI_sI, gI_sR, gI_sA, gI_sE, gI_sw2, gI_rs, gI_cpA, gI_gh1, gL_sI, gL_sR, gL_sA, gL_sE, gL_sw2, gL_rs, gL_cpA, gR_sI, gR_sR, gR_sA, gR_sE, gR_sw2, gR_rs, gR_cpA, gN_sI, gN_sR, gN_gh1, gN_sA, gN_sE, gN_cpA, gN_sw2, gN_rs, gE_gC, gB_gC, gZ_gC, gEL_gC, gC_sI, gC_sR, gC_gh1, gC_sA, gC_sE, gC_cpA, gC_sw2, gC_rs]
  have b2 : gN s1 (o + 1) = 2 * gN s (o + 1) := by rw [← hs]; simp only [gI_sI, gI_sR, gI_sA, gI_sE, gI_sw2, gI_rs, gI_cpA, gI_gh1, gL_sI, gL_sR, gL_sA, gL_sE, gL_sw2, gL_rs, gL_cpA, gR_sI, gR_sR, gR_sA, gR_sE, gR_sw2, gR_rs, gR_cpA, gN_sI, gN_sR, gN_gh1, gN_sA, gN_sE, gN_cpA, gN_sw2, gN_rs, gE_gC, gB_gC, gZ_gC, gEL_gC, gC_sI, gC_sR, gC_gh1, gC_sA, gC_sE, gC_cpA, gC_sw2, gC_rs, Nat.reduceEqDiff, Nat.reduceAdd, Nat.reduceLT, Nat.reduceLeDiff, Nat.reduceBEq, reduceIte, and_self, and_true, true_and, and_false, false_and, if_true, if_false, Nat.reduceMul, Int.reduceEq, Int.reduceLT, Int.reduceLE, Int.reduceNeg, Int.reduceAdd, Int.reduceMul, Int.reduceSub, if_pos ho]; omega
  have b3 : wds s1 o = wds s o := by
    unfold wds; rw [b1]; apply rowL_congr; intro i hi
    rw [← hs]; simp only [gI_sI, gI_sR, gI_sA, gI_sE, gI_sw2, gI_rs, gI_cpA, gI_gh1, gL_sI, gL_sR, gL_sA, gL_sE, gL_sw2, gL_rs, gL_cpA, gR_sI, gR_sR, gR_sA, gR_sE, gR_sw2, gR_rs, gR_cpA, gN_sI, gN_sR, gN_gh1, gN_sA, gN_sE, gN_cpA, gN_sw2, gN_rs, gE_gC, gB_gC, gZ_gC, gEL_gC, gC_sI, gC_sR, gC_gh1, gC_sA, gC_sE, gC_cpA, gC_sw2, gC_rs, Nat.reduceEqDiff, Nat.reduceAdd, Nat.reduceLT, Nat.reduceLeDiff, Nat.reduceBEq, reduceIte, and_self, and_true, true_and, and_false, false_and, if_true, if_false, Nat.reduceMul, Int.reduceEq, Int.reduceLT, Int.reduceLE, Int.reduceNeg, Int.reduceAdd, Int.reduceMul, Int.reduceSub, if_pos ho, if_neg e1]
    rw [if_pos (by omega)]; congr 3; omega
  refine (add40 (s := s1) ⟨by omega, by omega, by omega, by omega⟩ (by omega) hv).mono fun r q => ⟨q.1, by rw [q.2.1, b3], by rw [q.2.2.1, b1], by omega, by omega⟩
theorem grow_step {w' B c1 w f c L' Q c' L : Int} (h1 : w' + B * c1 = w * f + c) (h2 : L' + Q * c' = f * L + c1) : (w' + B * L') + (Q * B) * c' = f * (w + B * L) + c := by grind
theorem X7_grow_l (o : Nat) (ho : o + 1 < 199) (f : Int) (hf : 1 ≤ f ∧ f ≤ 1000000000) : ∀ (j n : Nat) (s : vS) (c k : Int), NW0 s o → 0 ≤ c → c ≤ 1000000000 → 0 ≤ k → gI s o 1 = k + j → j < n → ∃ c' s', l_X7_grow_6 o n f c k s = some (c', s') ∧ 0 ≤ c' ∧ c' ≤ 1000000000 ∧ NW0 s' o ∧ gI s' o 1 = gI s o 1 ∧ gN s' (o + 1) = gN s (o + 1) ∧ (∀ i : Int, i < k → gC s' (o + 1) i = gC s (o + 1) i) ∧ lev 4294967296 (rowL j (fun i => gE s' (o + 1) (k + i) % 4294967296)) + 4294967296 ^ j * c' = f * lev 4294967296 (rowL j (fun i => gE s (o + 1) (k + i) % 4294967296)) + c := by
  intro j
  induction j with
  | zero =>
    intro n s c k h c0 c1 k0 hk hn
    obtain ⟨n, rfl⟩ : ∃ m, n = m + 1 := ⟨n - 1, by omega⟩
    unfold l_X7_grow_6
    rw [if_pos (by omega)]
    exact ⟨c, s, rfl, c0, c1, h, rfl, rfl, fun _ _ => rfl, by simp [rowL_zero, lev]⟩
  | succ j ih =>
    intro n s c k h c0 c1 k0 hk hn
    obtain ⟨n, rfl⟩ : ∃ m, n = m + 1 := ⟨n - 1, by omega⟩
    have h' := h
    obtain ⟨h1, h2, h3, h4⟩ := h
    push_cast at hk
    unfold l_X7_grow_6
    rw [if_neg (by omega), gd_pos ⟨k0, by omega⟩, vl_eq, gd_pos ⟨k0, by omega⟩, stp_eq, vl_eq, vl_eq, and64_32]
    have hw := Int.emod_nonneg (gE s (o + 1) k) (show (4294967296 : Int) ≠ 0 by decide)
    have hw2 := Int.emod_lt_of_pos (gE s (o + 1) k) (show (0 : Int) < 4294967296 by decide)
    generalize hW : gE s (o + 1) k % 4294967296 = w at *
    have m1 : 0 ≤ w * f := Int.mul_nonneg hw (by omega)
    have m2 : w * f ≤ 4294967295 * 1000000000 := by
      have a1 : w * f ≤ 4294967295 * f := Int.mul_le_mul_of_nonneg_right (by omega) (by omega)
      have a2 : 4294967295 * f ≤ 4294967295 * 1000000000 := Int.mul_le_mul_of_nonneg_left hf.2 (by decide)
      omega
    rw [w64_id (x := w * f) ⟨by omega, by omega⟩, w64_id (x := w * f + c) ⟨by omega, by omega⟩, ushr64_div 32 (by omega) (by omega) (by decide) (by decide), w32_id (x := k + 1) ⟨by omega, by omega⟩]
    have e32 : (2 : Int) ^ (32 : Int).toNat = 4294967296 := by decide
    rw [e32]
    generalize hv : w * f + c = v at *
    generalize hs : sE s (o + 1) k (w32 v) = s1
    have b1 : gI s1 o 1 = gI s o 1 := by rw [← hs]; simp only [gI_sI, gI_sR, gI_sA, gI_sE, gI_sw2, gI_rs, gI_cpA, gI_gh1, gL_sI, gL_sR, gL_sA, gL_sE, gL_sw2, gL_rs, gL_cpA, gR_sI, gR_sR, gR_sA, gR_sE, gR_sw2, gR_rs, gR_cpA, gN_sI, gN_sR, gN_gh1, gN_sA, gN_sE, gN_cpA, gN_sw2, gN_rs, gE_gC, gB_gC, gZ_gC, gEL_gC, gC_sI, gC_sR, gC_gh1, gC_sA, gC_sE, gC_cpA, gC_sw2, gC_rs]
    have b2 : gN s1 (o + 1) = gN s (o + 1) := by rw [← hs]; simp only [gI_sI, gI_sR, gI_sA, gI_sE, gI_sw2, gI_rs, gI_cpA, gI_gh1, gL_sI, gL_sR, gL_sA, gL_sE, gL_sw2, gL_rs, gL_cpA, gR_sI, gR_sR, gR_sA, gR_sE, gR_sw2, gR_rs, gR_cpA, gN_sI, gN_sR, gN_gh1, gN_sA, gN_sE, gN_cpA, gN_sw2, gN_rs, gE_gC, gB_gC, gZ_gC, gEL_gC, gC_sI, gC_sR, gC_gh1, gC_sA, gC_sE, gC_cpA, gC_sw2, gC_rs]
    obtain ⟨c', s', e, q1, q2, q3, q4, q5, q6, q7⟩ := ih n s1 (v / 4294967296) (k + 1) ⟨by omega, by omega, by omega, by omega⟩ (by omega) (by omega) (by omega) (by omega) (by omega)
    refine ⟨c', s', e, q1, q2, q3, by omega, by omega, ?_, ?_⟩
    · intro i hi
      rw [q6 i (by omega), ← hs, gC_sE, if_neg (by omega)]
    · rw [rowL_cons, rowL_cons, lev, lev, Int.pow_succ]
      have ek : gE s' (o + 1) (k + ((0 : Nat) : Int)) % 4294967296 = v % 4294967296 := by
        rw [Int.natCast_zero, Int.add_zero, gE_gC, q6 k (by omega), ← hs, gC_sE, if_pos ⟨rfl, rfl⟩, w32_w32]
        exact Int.bmod_emod
      rw [ek, Int.natCast_zero, Int.add_zero, hW]
      have eL : ∀ t : vS, rowL j (fun i => gE t (o + 1) (k + ((i + 1 : Nat) : Int)) % 4294967296) = rowL j (fun i => gE t (o + 1) (k + 1 + i) % 4294967296) := by
        intro t; apply rowL_congr; intro i _; congr 2; push_cast; omega
      rw [eL s', eL s]
      have eS : rowL j (fun i => gE s1 (o + 1) (k + 1 + i) % 4294967296) = rowL j (fun i => gE s (o + 1) (k + 1 + i) % 4294967296) := by
        apply rowL_congr; intro i _; rw [← hs, gE_sE, if_neg (by omega)]
      rw [eS] at q7
      exact grow_step (by omega) q7
theorem X7_grow {s : vS} {o : Nat} (ho : o + 1 < 199) {f m : Int} (h : NWf s o) (hf : 1 ≤ f ∧ f ≤ 1000000000) (hm : 0 ≤ m ∧ m ≤ 1000000000) (hl : gI s o 1 < 400000) : wpo (f_X7_grow o f m s) fun s' => NWf s' o ∧ nv s' o = f * nv s o + m ∧ gI s o 1 ≤ gI s' o 1 ∧ gI s' o 1 ≤ gI s o 1 + 1 ∧ gN s (o + 1) ≤ gN s' (o + 1) ∧ (gN s' (o + 1) = gN s (o + 1) ∨ gN s' (o + 1) ≤ 2 * gI s o 1) := by
  obtain ⟨h0, hn⟩ := h
  have h0' := h0
  obtain ⟨h1, h2, h3, h4⟩ := h0
  unfold f_X7_grow
  obtain ⟨c', s', e, q1, q2, q3, q4, q5, q6, q7⟩ := X7_grow_l o ho f hf (gI s o 1).toNat FU s m 0 h0' hm.1 hm.2 (by omega) (by omega) (by unfold FU; omega)
  rw [e, lq_1_eq]
  have ew : ∀ t : vS, gI t o 1 = gI s o 1 → lev 4294967296 (rowL (gI s o 1).toNat (fun i => gE t (o + 1) (0 + i) % 4294967296)) = nv t o := by
    intro t ht; unfold nv wds; rw [ht]; congr 1; apply rowL_congr; intro i _; rw [Int.zero_add]
  rw [ew s' q4, ew s rfl] at q7
  have hp := pow_pos' 4294967296 (by decide) (gI s o 1).toNat
  have fn : nv s o ≤ f * nv s o := by
    have := Int.mul_le_mul_of_nonneg_right hf.1 (nv_nn s o); omega
  refine wpo_ite.mpr ⟨fun c => wpo_some.mpr ?_, fun c => ?_⟩
  · rw [cmp64_le] at c
    have : c' = 0 := by omega
    subst this
    rw [Int.mul_zero, Int.add_zero] at q7
    refine ⟨⟨q3, ?_⟩, q7, by omega, by omega, by omega, Or.inl q5⟩
    rw [q4]
    rcases hn with hn | hn
    · exact Or.inl hn
    · right; rw [q7]; omega
  · rw [cmp64_le] at c
    refine wpo_bdv.mpr ((X7_add q3 ho (by omega) ⟨q1, by omega⟩).mono ?_)
    rintro s2 ⟨a1, a2, a3, a4, a5⟩
    have en : nv s2 o = f * nv s o + m := by
      rw [← q7]; unfold nv; rw [a2, lev_app]
      have : (wds s' o).length = (gI s o 1).toNat := by unfold wds; rw [rowL_len, q4]
      rw [this]; simp [lev]
    refine wpo_some.mpr ⟨⟨a1, Or.inr ?_⟩, en, by omega, by omega, by omega, by omega⟩
    rw [a3, q4, show (gI s o 1 + 1).toNat - 1 = (gI s o 1).toNat by omega, en, ← q7]
    have := nv_nn s' o
    have : 4294967296 ^ (gI s o 1).toNat * 1 ≤ 4294967296 ^ (gI s o 1).toNat * c' := Int.mul_le_mul_of_nonneg_left (by omega) (by omega)
    omega
