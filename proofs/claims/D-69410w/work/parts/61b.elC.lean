set_option maxRecDepth 100000 set_option linter.unusedVariables false set_option linter.unusedSimpArgs false
/-! PURE 61b: elements as the class keeps them -/
def ecl (els : List (List Int)) (i : Int) (c : Nat) : Int := (els.getD i.toNat []).getD c 0
/-- open elements as three arrays, the innermost one last -/
def SRk (s : vS) : List (Int × Int × Int) → Prop
  | [] => True
  | x :: r => gE s 51 r.length = x.1 ∧ gE s 52 r.length = x.2.1 ∧ gE s 53 r.length = x.2.2 ∧ SRk s r
/-- arrays of elements, long enough -/
def EW (s : vS) (B : Nat) : Prop := gN s 46 = gN s 45 ∧ gN s 47 = gN s 45 ∧ gN s 48 = gN s 45 ∧ gN s 49 = gN s 45 ∧ gN s 50 = gN s 45 ∧ 64 ≤ gN s 45 ∧ gN s 45 ≤ B ∧ B ≤ 1000000 ∧ gN s 52 = gN s 51 ∧ gN s 53 = gN s 51 ∧ 16 ≤ gN s 51 ∧ gN s 51 ≤ 4096
def ER (s : vS) (els : List (List Int)) (stk : List (Int × Int × Int)) : Prop := gI s 44 10 = els.length ∧ gI s 44 14 = stk.length ∧ SRk s stk ∧ (∀ x ∈ stk, 0 ≤ x.1 ∧ x.1 < els.length) ∧ ∀ i : Int, 0 ≤ i → i < els.length → gE s 45 i = ecl els i 0 ∧ gE s 46 i = ecl els i 1 ∧ gE s 47 i = ecl els i 2 ∧ gZ s 50 i = ecl els i 5 ∧ ((∀ x ∈ stk, x.1 ≠ i) → gE s 48 i = ecl els i 3 ∧ gE s 49 i = ecl els i 4)
theorem X12_grown {s : vS} {a : Nat} (ha : a < 199) (h1 : 1 ≤ gN s a) (h2 : gN s a ≤ 1000000) : f_X12_grown a s = some (cpA (sA s 199 (2 * gN s a, fun _ => 0)) a 199 0 0 (gN s a)) := X3_grown ha h1 h2
theorem gZ_dbl {s : vS} {a b : Nat} {i : Int} (ha : a < 199) (hb : b < 199) : gZ (dbl s a) b i = if b = a then (if 0 ≤ i ∧ i < gN s a then gZ s a i else 0) else gZ s b i := by
  rw [gZ_gC, gC_dbl ha hb]
  by_cases c : b = a
  · rw [if_pos c, if_pos c]
    by_cases d : 0 ≤ i ∧ i < gN s a
    · rw [if_pos d, if_pos d]; rfl
    · rw [if_neg d, if_neg d]; decide
  · rw [if_neg c, if_neg c]; rfl
theorem gE_dbl {s : vS} {a b : Nat} {i : Int} (ha : a < 199) (hb : b < 199) : gE (dbl s a) b i = if b = a then (if 0 ≤ i ∧ i < gN s a then gE s a i else 0) else gE s b i := by
  rw [gE_gC, gC_dbl ha hb]
  by_cases c : b = a
  · rw [if_pos c, if_pos c]
    by_cases d : 0 ≤ i ∧ i < gN s a
    · rw [if_pos d, if_pos d]; rfl
    · rw [if_neg d, if_neg d]; decide
  · rw [if_neg c, if_neg c]; rfl
/-- the same elements, in longer arrays -/
def d6 (s : vS) : vS := dbl (dbl (dbl (dbl (dbl (dbl s 45) 46) 47) 48) 49) 50
theorem d6_N {s : vS} (b : Nat) (hb : b < 199) : gN (d6 s) b = if b = 45 ∨ b = 46 ∨ b = 47 ∨ b = 48 ∨ b = 49 ∨ b = 50 then 2 * gN s b else gN s b := by
  unfold d6
  simp only [gN_dbl hb, gN_dbl (show 45 < 199 by decide), gN_dbl (show 46 < 199 by decide), gN_dbl (show 47 < 199 by decide), gN_dbl (show 48 < 199 by decide), gN_dbl (show 49 < 199 by decide), gN_dbl (show 50 < 199 by decide), Nat.reduceEqDiff, Nat.reduceAdd, Nat.reduceLT, Nat.reduceLeDiff, Nat.reduceBEq, reduceIte, and_self, and_true, true_and, and_false, false_and, if_true, if_false, Nat.reduceMul, Int.reduceEq, Int.reduceLT, Int.reduceLE, Int.reduceNeg, Int.reduceAdd, Int.reduceMul, Int.reduceSub]
  grind
theorem d6_E {s : vS} (b : Nat) (hb : b < 199) {i : Int} (hi : (b = 45 ∨ b = 46 ∨ b = 47 ∨ b = 48 ∨ b = 49 ∨ b = 50) → 0 ≤ i ∧ i < gN s b) : gE (d6 s) b i = gE s b i := by
  unfold d6
  simp only [gE_dbl (show 45 < 199 by decide) hb, gE_dbl (show 46 < 199 by decide) hb, gE_dbl (show 47 < 199 by decide) hb, gE_dbl (show 48 < 199 by decide) hb, gE_dbl (show 49 < 199 by decide) hb, gE_dbl (show 50 < 199 by decide) hb, gE_dbl (show 45 < 199 by decide) (show 46 < 199 by decide), gE_dbl (show 45 < 199 by decide) (show 47 < 199 by decide), gE_dbl (show 46 < 199 by decide) (show 47 < 199 by decide), gE_dbl (show 45 < 199 by decide) (show 48 < 199 by decide), gE_dbl (show 46 < 199 by decide) (show 48 < 199 by decide), gE_dbl (show 47 < 199 by decide) (show 48 < 199 by decide), gE_dbl (show 45 < 199 by decide) (show 49 < 199 by decide), gE_dbl (show 46 < 199 by decide) (show 49 < 199 by decide), gE_dbl (show 47 < 199 by decide) (show 49 < 199 by decide), gE_dbl (show 48 < 199 by decide) (show 49 < 199 by decide), gE_dbl (show 45 < 199 by decide) (show 50 < 199 by decide), gE_dbl (show 46 < 199 by decide) (show 50 < 199 by decide), gE_dbl (show 47 < 199 by decide) (show 50 < 199 by decide), gE_dbl (show 48 < 199 by decide) (show 50 < 199 by decide), gE_dbl (show 49 < 199 by decide) (show 50 < 199 by decide), gN_dbl (show 45 < 199 by decide), gN_dbl (show 46 < 199 by decide), gN_dbl (show 47 < 199 by decide), gN_dbl (show 48 < 199 by decide), gN_dbl (show 49 < 199 by decide), gN_dbl (show 50 < 199 by decide), Nat.reduceEqDiff, Nat.reduceAdd, Nat.reduceLT, Nat.reduceLeDiff, Nat.reduceBEq, reduceIte, and_self, and_true, true_and, and_false, false_and, if_true, if_false, Nat.reduceMul, Int.reduceEq, Int.reduceLT, Int.reduceLE, Int.reduceNeg, Int.reduceAdd, Int.reduceMul, Int.reduceSub]
  grind
theorem d6_Z {s : vS} {i : Int} (h0 : 0 ≤ i) (hi : i < gN s 50) : gZ (d6 s) 50 i = gZ s 50 i := by
  unfold d6
  simp only [gZ_dbl (show 45 < 199 by decide) (show 50 < 199 by decide), gZ_dbl (show 46 < 199 by decide) (show 50 < 199 by decide), gZ_dbl (show 47 < 199 by decide) (show 50 < 199 by decide), gZ_dbl (show 48 < 199 by decide) (show 50 < 199 by decide), gZ_dbl (show 49 < 199 by decide) (show 50 < 199 by decide), gZ_dbl (show 50 < 199 by decide) (show 50 < 199 by decide), gN_dbl (show 50 < 199 by decide), Nat.reduceEqDiff, Nat.reduceAdd, Nat.reduceLT, Nat.reduceLeDiff, Nat.reduceBEq, reduceIte, and_self, and_true, true_and, and_false, false_and, if_true, if_false, Nat.reduceMul, Int.reduceEq, Int.reduceLT, Int.reduceLE, Int.reduceNeg, Int.reduceAdd, Int.reduceMul, Int.reduceSub]
  rw [if_pos ⟨h0, hi⟩]
theorem gro_step {α : Type} {s : vS} {a : Nat} {k : vS → Option α} (ha : a < 199) (h1 : 1 ≤ gN s a) (h2 : gN s a ≤ 1000000) : (bdv (f_X12_grown a s) fun s2 => gd (2 * gN s2 a ≤ gN s2 199 ∧ 2 ≤ gN s2 199) <| stp (sw2 s2 a 199) fun s6 => stp (rs s6) fun s8 => k s8) = k (dbl s a) := by
  have e : ¬a = 199 := by omega
  rw [X12_grown ha h1 h2, bdv_eq, gd_pos (by simp only [gI_sI, gI_sR, gI_sA, gI_sE, gI_sw2, gI_rs, gI_cpA, gI_gh1, gL_sI, gL_sR, gL_sA, gL_sE, gL_sw2, gL_rs, gL_cpA, gR_sI, gR_sR, gR_sA, gR_sE, gR_sw2, gR_rs, gR_cpA, gN_sI, gN_sR, gN_gh1, gN_sA, gN_sE, gN_cpA, gN_sw2, gN_rs, gE_gC, gB_gC, gZ_gC, gEL_gC, gC_sI, gC_sR, gC_gh1, gC_sA, gC_sE, gC_cpA, gC_sw2, gC_rs, Nat.reduceEqDiff, Nat.reduceAdd, Nat.reduceLT, Nat.reduceLeDiff, Nat.reduceBEq, reduceIte, and_self, and_true, true_and, and_false, false_and, if_true, if_false, Nat.reduceMul, Int.reduceEq, Int.reduceLT, Int.reduceLE, Int.reduceNeg, Int.reduceAdd, Int.reduceMul, Int.reduceSub, if_neg e]; omega), stp_eq, stp_eq]; rfl
theorem gro_step2 {α : Type} {s : vS} {a : Nat} {n : Int} {k : vS → Option α} (ha : a < 199) (hn : n = gN s a) (h1 : 1 ≤ gN s a) (h2 : gN s a ≤ 1000000) (o f : Nat) (hi : gI s o f = n) : (gd (naG (w32 (2 * gI s o f))) <| stp (sA s 199 (Int.toNat (w32 (2 * gI s o f)), fun _ => 0)) fun s43 => gd (cpG 0 0 (gI s43 o f) (gN s43 a) (gN s43 199)) <| stp (cpA s43 a 199 0 0 (gI s43 o f)) fun s46 => gd (2 * gN s46 a ≤ gN s46 199 ∧ 2 ≤ gN s46 199) <| stp (sw2 s46 a 199) fun s49 => stp (rs s49) fun s51 => k s51) = k (dbl s a) := by
  have e : ¬a = 199 := by omega
  rw [hi, w32_id ⟨by omega, by omega⟩, gd_pos ⟨by omega, by omega⟩, stp_eq]
  have i6 : gI (sA s 199 ((2 * n).toNat, fun _ => 0)) o f = n := by rw [gI_sA]; exact hi
  rw [i6, gd_pos (by simp only [gI_sI, gI_sR, gI_sA, gI_sE, gI_sw2, gI_rs, gI_cpA, gI_gh1, gL_sI, gL_sR, gL_sA, gL_sE, gL_sw2, gL_rs, gL_cpA, gR_sI, gR_sR, gR_sA, gR_sE, gR_sw2, gR_rs, gR_cpA, gN_sI, gN_sR, gN_gh1, gN_sA, gN_sE, gN_cpA, gN_sw2, gN_rs, gE_gC, gB_gC, gZ_gC, gEL_gC, gC_sI, gC_sR, gC_gh1, gC_sA, gC_sE, gC_cpA, gC_sw2, gC_rs, Nat.reduceEqDiff, Nat.reduceAdd, Nat.reduceLT, Nat.reduceLeDiff, Nat.reduceBEq, reduceIte, and_self, and_true, true_and, and_false, false_and, if_true, if_false, Nat.reduceMul, Int.reduceEq, Int.reduceLT, Int.reduceLE, Int.reduceNeg, Int.reduceAdd, Int.reduceMul, Int.reduceSub, if_neg e]; omega), stp_eq, gd_pos (by simp only [gI_sI, gI_sR, gI_sA, gI_sE, gI_sw2, gI_rs, gI_cpA, gI_gh1, gL_sI, gL_sR, gL_sA, gL_sE, gL_sw2, gL_rs, gL_cpA, gR_sI, gR_sR, gR_sA, gR_sE, gR_sw2, gR_rs, gR_cpA, gN_sI, gN_sR, gN_gh1, gN_sA, gN_sE, gN_cpA, gN_sw2, gN_rs, gE_gC, gB_gC, gZ_gC, gEL_gC, gC_sI, gC_sR, gC_gh1, gC_sA, gC_sE, gC_cpA, gC_sw2, gC_rs, Nat.reduceEqDiff, Nat.reduceAdd, Nat.reduceLT, Nat.reduceLeDiff, Nat.reduceBEq, reduceIte, and_self, and_true, true_and, and_false, false_and, if_true, if_false, Nat.reduceMul, Int.reduceEq, Int.reduceLT, Int.reduceLE, Int.reduceNeg, Int.reduceAdd, Int.reduceMul, Int.reduceSub, if_neg e]; omega), stp_eq, stp_eq, show (2 * n).toNat = 2 * gN s a by omega, hn]; rfl
theorem X12_add_eq {s : vS} {B : Nat} (h : EW s B) {x y : Int} : f_X12_add x y s = (if gI s 44 10 = (gN s 45 : Int) then j_X12_add_95 x y (d6 s) else j_X12_add_95 x y s) := by
  obtain ⟨h1, h2, h3, h4, h5, h6, h7, h8, _⟩ := h
  unfold f_X12_add
  rw [w32_id (x := (gN s 45 : Int)) ⟨by omega, by omega⟩]
  by_cases c : gI s 44 10 = (gN s 45 : Int)
  · rw [if_pos c, if_pos c, gro_step (by decide) (by omega) (by omega)]
    have a1 : gN (dbl s 45) 46 = gN s 45 := by simp only [gN_dbl (show 46 < 199 by decide), Nat.reduceEqDiff, Nat.reduceAdd, Nat.reduceLT, Nat.reduceLeDiff, Nat.reduceBEq, reduceIte, and_self, and_true, true_and, and_false, false_and, if_true, if_false, Nat.reduceMul, Int.reduceEq, Int.reduceLT, Int.reduceLE, Int.reduceNeg, Int.reduceAdd, Int.reduceMul, Int.reduceSub, h1]
    have a2 : gN (dbl (dbl s 45) 46) 47 = gN s 45 := by simp only [gN_dbl (show 47 < 199 by decide), Nat.reduceEqDiff, Nat.reduceAdd, Nat.reduceLT, Nat.reduceLeDiff, Nat.reduceBEq, reduceIte, and_self, and_true, true_and, and_false, false_and, if_true, if_false, Nat.reduceMul, Int.reduceEq, Int.reduceLT, Int.reduceLE, Int.reduceNeg, Int.reduceAdd, Int.reduceMul, Int.reduceSub, h2]
    have a3 : gN (dbl (dbl (dbl s 45) 46) 47) 48 = gN s 45 := by simp only [gN_dbl (show 48 < 199 by decide), Nat.reduceEqDiff, Nat.reduceAdd, Nat.reduceLT, Nat.reduceLeDiff, Nat.reduceBEq, reduceIte, and_self, and_true, true_and, and_false, false_and, if_true, if_false, Nat.reduceMul, Int.reduceEq, Int.reduceLT, Int.reduceLE, Int.reduceNeg, Int.reduceAdd, Int.reduceMul, Int.reduceSub, h3]
    have a4 : gN (dbl (dbl (dbl (dbl s 45) 46) 47) 48) 49 = gN s 45 := by simp only [gN_dbl (show 49 < 199 by decide), Nat.reduceEqDiff, Nat.reduceAdd, Nat.reduceLT, Nat.reduceLeDiff, Nat.reduceBEq, reduceIte, and_self, and_true, true_and, and_false, false_and, if_true, if_false, Nat.reduceMul, Int.reduceEq, Int.reduceLT, Int.reduceLE, Int.reduceNeg, Int.reduceAdd, Int.reduceMul, Int.reduceSub, h4]
    have a5 : gN (dbl (dbl (dbl (dbl (dbl s 45) 46) 47) 48) 49) 50 = gN s 45 := by simp only [gN_dbl (show 50 < 199 by decide), Nat.reduceEqDiff, Nat.reduceAdd, Nat.reduceLT, Nat.reduceLeDiff, Nat.reduceBEq, reduceIte, and_self, and_true, true_and, and_false, false_and, if_true, if_false, Nat.reduceMul, Int.reduceEq, Int.reduceLT, Int.reduceLE, Int.reduceNeg, Int.reduceAdd, Int.reduceMul, Int.reduceSub, h5]
    have i5 : gI (dbl (dbl (dbl (dbl (dbl s 45) 46) 47) 48) 49) 44 10 = gI s 44 10 := by rw [gI_dbl, gI_dbl, gI_dbl, gI_dbl, gI_dbl]
    rw [gro_step (by decide) (by omega) (by omega), gro_step (by decide) (by omega) (by omega), gro_step (by decide) (by omega) (by omega), gro_step (by decide) (by omega) (by omega), gro_step2 (n := gI s 44 10) (by decide) (by omega) (by omega) (by omega) 44 10 i5]
    rfl
  · rw [if_neg c, if_neg c]
/-- a row more -/
theorem ecl_app {els : List (List Int)} {r : List Int} {i : Int} {c : Nat} (h0 : 0 ≤ i) (h1 : i < els.length) : ecl (els ++ [r]) i c = ecl els i c := by
  unfold ecl; simp [List.getD, List.getElem?_append_left (show i.toNat < els.length by omega)]
theorem ecl_last {els : List (List Int)} {r : List Int} {c : Nat} : ecl (els ++ [r]) els.length c = r.getD c 0 := by
  unfold ecl; simp [List.getD]
theorem SRk_eq {s t : vS} : ∀ {l : List (Int × Int × Int)}, (∀ i : Int, 0 ≤ i → i < l.length → gE t 51 i = gE s 51 i ∧ gE t 52 i = gE s 52 i ∧ gE t 53 i = gE s 53 i) → SRk s l → SRk t l
  | [], _, _ => trivial
  | x :: r, h, q => by
    obtain ⟨q1, q2, q3, q4⟩ := q
    have := h r.length (by omega) (by simp only [List.length_cons]; omega)
    exact ⟨by rw [this.1]; exact q1, by rw [this.2.1]; exact q2, by rw [this.2.2]; exact q3, SRk_eq (fun i a b => h i a (by simp only [List.length_cons]; omega)) q4⟩
