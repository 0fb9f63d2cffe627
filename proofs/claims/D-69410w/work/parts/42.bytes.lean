set_option maxRecDepth 100000 set_option linter.unusedVariables false set_option linter.unusedSimpArgs false
/-! PURE 42: rows of bytes -/
/-- the first n of a row -/
def rowL {α : Type} (n : Nat) (f : Nat → α) : List α := (List.range n).map f
theorem rowL_len {α : Type} (n : Nat) (f : Nat → α) : (rowL n f).length = n := by simp [rowL]
theorem rowL_succ {α : Type} (n : Nat) (f : Nat → α) : rowL (n + 1) f = rowL n f ++ [f n] := by simp [rowL, List.range_succ]
theorem rowL_zero {α : Type} (f : Nat → α) : rowL 0 f = [] := rfl
theorem rowL_congr {α : Type} {n : Nat} {f g : Nat → α} (h : ∀ i, i < n → f i = g i) : rowL n f = rowL n g := by
  simp only [rowL]; apply List.map_congr_left; intro i hi; exact h i (List.mem_range.mp hi)
theorem rowL_add {α : Type} (n m : Nat) (f : Nat → α) : rowL (n + m) f = rowL n f ++ rowL m (fun i => f (n + i)) := by
  induction m with
  | zero => simp [rowL_zero]
  | succ m ih => rw [← Nat.add_assoc, rowL_succ, ih, rowL_succ, List.append_assoc]
theorem rowL_at {α : Type} {n i : Nat} (f : Nat → α) (h : i < n) : (rowL n f)[i]? = some (f i) := by simp [rowL, h]
theorem rowL_getD {α : Type} {n i : Nat} (f : Nat → α) (d : α) (h : i < n) : (rowL n f).getD i d = f i := by simp [List.getD, rowL_at f h]
theorem rowL_inj {α : Type} {n m : Nat} {f g : Nat → α} (h : rowL n f = rowL m g) : n = m ∧ ∀ i, i < n → f i = g i := by
  have e : n = m := by have := congrArg List.length h; simpa [rowL_len] using this
  subst e
  refine ⟨rfl, fun i hi => ?_⟩
  have := congrArg (fun l => l[i]?) h
  simp only [rowL_at _ hi] at this
  exact Option.some.inj this
theorem rowL_take {α : Type} {n k : Nat} (f : Nat → α) (h : k ≤ n) : (rowL n f).take k = rowL k f := by
  obtain ⟨m, rfl⟩ := Nat.exists_eq_add_of_le h
  rw [rowL_add, List.take_append_of_le_length (by rw [rowL_len]; exact Nat.le_refl _), List.take_of_length_le (by rw [rowL_len]; exact Nat.le_refl _)]
theorem rowL_drop {α : Type} {n k : Nat} (f : Nat → α) (h : k ≤ n) : (rowL n f).drop k = rowL (n - k) (fun i => f (k + i)) := by
  obtain ⟨m, rfl⟩ := Nat.exists_eq_add_of_le h
  rw [rowL_add, List.drop_append_of_le_length (by rw [rowL_len]; exact Nat.le_refl _), List.drop_of_length_le (by rw [rowL_len]; exact Nat.le_refl _), List.nil_append, Nat.add_sub_cancel_left]
/-- the bytes of a row of class Bytes -/
def bts (s : vS) (o : Nat) : List Int := rowL (gI s o 1).toNat (fun i => gC s (o + 1) i % 256)
/-- such a row is well formed -/
def BW (s : vS) (o : Nat) : Prop := 0 ≤ gI s o 1 ∧ gI s o 1 ≤ gN s (o + 1) ∧ 64 ≤ gN s (o + 1) ∧ gN s (o + 1) ≤ 33554432
theorem bts_len (s : vS) (o : Nat) : (bts s o).length = (gI s o 1).toNat := rowL_len _ _
theorem BW.len {s : vS} {o : Nat} (h : BW s o) : ((bts s o).length : Int) = gI s o 1 := by rw [bts_len]; exact Int.toNat_of_nonneg h.1
theorem at_val (s : vS) (o : Nat) (x : Int) : and32 (gB s (o + 1) x) 255 = gC s (o + 1) x % 256 := by rw [gB_gC, n8_255]
theorem X2_at {s : vS} {o : Nat} {x : Int} (h0 : 0 ≤ x) (h1 : x < gN s (o + 1)) : f_X2_at o x s = some (gC s (o + 1) x % 256, s) := by
  unfold f_X2_at; rw [gd_pos ⟨h0, h1⟩, at_val]
theorem X2_at' {s : vS} {o : Nat} {x : Int} (hw : BW s o) (h0 : 0 ≤ x) (h1 : x < gI s o 1) : f_X2_at o x s = some ((bts s o).getD x.toNat 0, s) := by
  rw [X2_at h0 (by have := hw.2.1; omega)]
  rw [bts, rowL_getD _ _ (by omega), Int.toNat_of_nonneg h0]
theorem X2_size {s : vS} {o : Nat} : f_X2_size o s = some (gI s o 1, s) := rfl
theorem X2_ready_l (o : Nat) (s : vS) {x1 : Int} (hx : x1 ≤ 16777216) : ∀ (k n : Nat) (x2 : Int), 0 < x2 → (x1 - x2).toNat ≤ k → k < n → x2 < 2 * x1 → ∃ y, l_X2_ready_16 o n x1 x2 s = some (y, s) ∧ x1 ≤ y ∧ y < 2 * x1 ∧ x2 ≤ y ∧ (x2 < x1 → 2 * x2 ≤ y) := by
  intro k
  induction k with
  | zero =>
    intro n x2 h0 hk hn h2
    obtain ⟨n, rfl⟩ : ∃ m, n = m + 1 := ⟨n - 1, by omega⟩
    unfold l_X2_ready_16
    rw [if_pos (by omega)]
    exact ⟨x2, rfl, by omega, h2, Int.le_refl _, fun h => by omega⟩
  | succ k ih =>
    intro n x2 h0 hk hn h2
    obtain ⟨n, rfl⟩ : ∃ m, n = m + 1 := ⟨n - 1, by omega⟩
    unfold l_X2_ready_16
    by_cases h : x1 ≤ x2
    · rw [if_pos h]; exact ⟨x2, rfl, h, h2, Int.le_refl _, fun h => by omega⟩
    · rw [if_neg h]
      simp only [vl]
      rw [w32_id ⟨by omega, by omega⟩]
      obtain ⟨y, e, h3, h4, h5, h6⟩ := ih n (x2 * 2) (by omega) (by omega) (by omega) (by omega)
      exact ⟨y, e, h3, h4, by omega, fun _ => by omega⟩
theorem X2_ready {s : vS} {o : Nat} {n : Int} (hw : BW s o) (hn : n ≤ 16777216) (ho : o + 1 < 199) : wpo (f_X2_ready o n s) fun s' =>
    Fr (W_f_X2_ready o) s s' ∧ gI s' o 1 = gI s o 1 ∧ n ≤ gN s' (o + 1) ∧ gN s (o + 1) ≤ gN s' (o + 1) ∧ (gN s' (o + 1) = gN s (o + 1) ∨ gN s' (o + 1) < 2 * n) ∧ ∀ i, 0 ≤ i → i < gI s o 1 → gC s' (o + 1) i = gC s (o + 1) i := by
  obtain ⟨h1, h2, h3, h4⟩ := hw
  have key : wpo (f_X2_ready o n s) fun s' => gI s' o 1 = gI s o 1 ∧ n ≤ gN s' (o + 1) ∧ gN s (o + 1) ≤ gN s' (o + 1) ∧ (gN s' (o + 1) = gN s (o + 1) ∨ gN s' (o + 1) < 2 * n) ∧ ∀ i, 0 ≤ i → i < gI s o 1 → gC s' (o + 1) i = gC s (o + 1) i := by
    unfold f_X2_ready
    rw [w32_id ⟨by omega, by omega⟩]
    refine wpo_ite.mpr ⟨fun h => ?_, fun h => wpo_some.mpr ⟨rfl, by omega, Nat.le_refl _, Or.inl rfl, fun _ _ _ => rfl⟩⟩
    obtain ⟨y, e, h5, h6, _, h7⟩ := X2_ready_l o s hn (n - gN s (o + 1)).toNat FU (gN s (o + 1)) (by omega) (by omega) (by unfold FU; omega) (by omega)
    have h7 := h7 h
    have e1 : ¬ o = 198 := by omega
    have e2 : o ≠ 199 := by omega
    have e3 : (y.toNat : Int) = y := by omega
    simp only [vl, e, lq_1_eq]
    refine wpo_gd.mpr ⟨⟨by omega, by omega⟩, ?_⟩
    refine wpo_stp.mpr (wpo_gd.mpr ⟨?_, ?_⟩)
    · simp only [gI_sI, gI_sR, gI_sA, gI_sE, gI_sw2, gI_rs, gI_cpA, gI_gh1, gL_sI, gL_sR, gL_sA, gL_sE, gL_sw2, gL_rs, gL_cpA, gR_sI, gR_sR, gR_sA, gR_sE, gR_sw2, gR_rs, gR_cpA, gN_sI, gN_sR, gN_gh1, gN_sA, gN_sE, gN_cpA, gN_sw2, gN_rs, gE_gC, gB_gC, gZ_gC, gEL_gC, gC_sI, gC_sR, gC_gh1, gC_sA, gC_sE, gC_cpA, gC_sw2, gC_rs, Nat.reduceEqDiff, Nat.reduceAdd, Nat.reduceLT, Nat.reduceLeDiff, Nat.reduceBEq, reduceIte, and_self, and_true, true_and, and_false, false_and, if_true, if_false, Nat.reduceMul, Int.reduceEq, Int.reduceLT, Int.reduceLE, Int.reduceNeg, Int.reduceAdd, Int.reduceMul, Int.reduceSub, if_neg e1, if_pos]; omega
    refine wpo_stp.mpr (wpo_gd.mpr ⟨?_, ?_⟩)
    · simp only [gI_sI, gI_sR, gI_sA, gI_sE, gI_sw2, gI_rs, gI_cpA, gI_gh1, gL_sI, gL_sR, gL_sA, gL_sE, gL_sw2, gL_rs, gL_cpA, gR_sI, gR_sR, gR_sA, gR_sE, gR_sw2, gR_rs, gR_cpA, gN_sI, gN_sR, gN_gh1, gN_sA, gN_sE, gN_cpA, gN_sw2, gN_rs, gE_gC, gB_gC, gZ_gC, gEL_gC, gC_sI, gC_sR, gC_gh1, gC_sA, gC_sE, gC_cpA, gC_sw2, gC_rs, Nat.reduceEqDiff, Nat.reduceAdd, Nat.reduceLT, Nat.reduceLeDiff, Nat.reduceBEq, reduceIte, and_self, and_true, true_and, and_false, false_and, if_true, if_false, Nat.reduceMul, Int.reduceEq, Int.reduceLT, Int.reduceLE, Int.reduceNeg, Int.reduceAdd, Int.reduceMul, Int.reduceSub, if_neg e1]; omega
    refine wpo_stp.mpr (wpo_stp.mpr (wpo_some.mpr ⟨?_, ?_, ?_, ?_, ?_⟩))
    · simp only [gI_sI, gI_sR, gI_sA, gI_sE, gI_sw2, gI_rs, gI_cpA, gI_gh1, gL_sI, gL_sR, gL_sA, gL_sE, gL_sw2, gL_rs, gL_cpA, gR_sI, gR_sR, gR_sA, gR_sE, gR_sw2, gR_rs, gR_cpA, gN_sI, gN_sR, gN_gh1, gN_sA, gN_sE, gN_cpA, gN_sw2, gN_rs, gE_gC, gB_gC, gZ_gC, gEL_gC, gC_sI, gC_sR, gC_gh1, gC_sA, gC_sE, gC_cpA, gC_sw2, gC_rs, Nat.reduceEqDiff, Nat.reduceAdd, Nat.reduceLT, Nat.reduceLeDiff, Nat.reduceBEq, reduceIte, and_self, and_true, true_and, and_false, false_and, if_true, if_false, Nat.reduceMul, Int.reduceEq, Int.reduceLT, Int.reduceLE, Int.reduceNeg, Int.reduceAdd, Int.reduceMul, Int.reduceSub]
    · simp only [gI_sI, gI_sR, gI_sA, gI_sE, gI_sw2, gI_rs, gI_cpA, gI_gh1, gL_sI, gL_sR, gL_sA, gL_sE, gL_sw2, gL_rs, gL_cpA, gR_sI, gR_sR, gR_sA, gR_sE, gR_sw2, gR_rs, gR_cpA, gN_sI, gN_sR, gN_gh1, gN_sA, gN_sE, gN_cpA, gN_sw2, gN_rs, gE_gC, gB_gC, gZ_gC, gEL_gC, gC_sI, gC_sR, gC_gh1, gC_sA, gC_sE, gC_cpA, gC_sw2, gC_rs, Nat.reduceEqDiff, Nat.reduceAdd, Nat.reduceLT, Nat.reduceLeDiff, Nat.reduceBEq, reduceIte, and_self, and_true, true_and, and_false, false_and, if_true, if_false, Nat.reduceMul, Int.reduceEq, Int.reduceLT, Int.reduceLE, Int.reduceNeg, Int.reduceAdd, Int.reduceMul, Int.reduceSub, if_pos ho]; omega
    · simp only [gI_sI, gI_sR, gI_sA, gI_sE, gI_sw2, gI_rs, gI_cpA, gI_gh1, gL_sI, gL_sR, gL_sA, gL_sE, gL_sw2, gL_rs, gL_cpA, gR_sI, gR_sR, gR_sA, gR_sE, gR_sw2, gR_rs, gR_cpA, gN_sI, gN_sR, gN_gh1, gN_sA, gN_sE, gN_cpA, gN_sw2, gN_rs, gE_gC, gB_gC, gZ_gC, gEL_gC, gC_sI, gC_sR, gC_gh1, gC_sA, gC_sE, gC_cpA, gC_sw2, gC_rs, Nat.reduceEqDiff, Nat.reduceAdd, Nat.reduceLT, Nat.reduceLeDiff, Nat.reduceBEq, reduceIte, and_self, and_true, true_and, and_false, false_and, if_true, if_false, Nat.reduceMul, Int.reduceEq, Int.reduceLT, Int.reduceLE, Int.reduceNeg, Int.reduceAdd, Int.reduceMul, Int.reduceSub, if_pos ho]; omega
    · simp only [gI_sI, gI_sR, gI_sA, gI_sE, gI_sw2, gI_rs, gI_cpA, gI_gh1, gL_sI, gL_sR, gL_sA, gL_sE, gL_sw2, gL_rs, gL_cpA, gR_sI, gR_sR, gR_sA, gR_sE, gR_sw2, gR_rs, gR_cpA, gN_sI, gN_sR, gN_gh1, gN_sA, gN_sE, gN_cpA, gN_sw2, gN_rs, gE_gC, gB_gC, gZ_gC, gEL_gC, gC_sI, gC_sR, gC_gh1, gC_sA, gC_sE, gC_cpA, gC_sw2, gC_rs, Nat.reduceEqDiff, Nat.reduceAdd, Nat.reduceLT, Nat.reduceLeDiff, Nat.reduceBEq, reduceIte, and_self, and_true, true_and, and_false, false_and, if_true, if_false, Nat.reduceMul, Int.reduceEq, Int.reduceLT, Int.reduceLE, Int.reduceNeg, Int.reduceAdd, Int.reduceMul, Int.reduceSub, if_pos ho]; omega
    · intro i hi hj
      simp only [gI_sI, gI_sR, gI_sA, gI_sE, gI_sw2, gI_rs, gI_cpA, gI_gh1, gL_sI, gL_sR, gL_sA, gL_sE, gL_sw2, gL_rs, gL_cpA, gR_sI, gR_sR, gR_sA, gR_sE, gR_sw2, gR_rs, gR_cpA, gN_sI, gN_sR, gN_gh1, gN_sA, gN_sE, gN_cpA, gN_sw2, gN_rs, gE_gC, gB_gC, gZ_gC, gEL_gC, gC_sI, gC_sR, gC_gh1, gC_sA, gC_sE, gC_cpA, gC_sw2, gC_rs, Nat.reduceEqDiff, Nat.reduceAdd, Nat.reduceLT, Nat.reduceLeDiff, Nat.reduceBEq, reduceIte, and_self, and_true, true_and, and_false, false_and, if_true, if_false, Nat.reduceMul, Int.reduceEq, Int.reduceLT, Int.reduceLE, Int.reduceNeg, Int.reduceAdd, Int.reduceMul, Int.reduceSub, if_pos ho, if_neg e1]
      rw [if_pos ⟨hi, by omega⟩]; congr 1; omega
  exact (key.and (fun r e => fr_f_X2_ready o n s r e)).mono fun r h => ⟨h.2, h.1⟩
/-- bytes of a row from a place to another one -/
def bsl (s : vS) (o : Nat) (a b : Int) : List Int := rowL (b - a).toNat (fun i => gC s (o + 1) (a + i) % 256)
theorem rowL_cons {α : Type} (n : Nat) (f : Nat → α) : rowL (n + 1) f = f 0 :: rowL n (fun i => f (i + 1)) := by
  rw [Nat.add_comm, rowL_add]; show [f 0] ++ _ = _
  simp only [List.singleton_append]; congr 1; apply rowL_congr; intro i _; rw [Nat.add_comm]
theorem bsl_nil {s : vS} {o : Nat} {a b : Int} (h : b ≤ a) : bsl s o a b = [] := by
  unfold bsl; rw [show (b - a).toNat = 0 by omega]; rfl
theorem bsl_cons {s : vS} {o : Nat} {a b : Int} (h : a < b) : bsl s o a b = (gC s (o + 1) a % 256) :: bsl s o (a + 1) b := by
  unfold bsl; rw [show (b - a).toNat = (b - (a + 1)).toNat + 1 by omega, rowL_cons]
  congr 1
  · simp
  · apply rowL_congr; intro i _; congr 2; push_cast; omega
theorem bsl_len {s : vS} {o : Nat} {a b : Int} : (bsl s o a b).length = (b - a).toNat := rowL_len _ _
theorem bts_bsl {s : vS} {o : Nat} : bts s o = bsl s o 0 (gI s o 1) := by
  unfold bts bsl; rw [Int.sub_zero]; apply rowL_congr; intro i _; rw [Int.zero_add]
theorem bsl_snoc {s : vS} {o : Nat} {a b : Int} (h : a ≤ b) : bsl s o a (b + 1) = bsl s o a b ++ [gC s (o + 1) b % 256] := by
  unfold bsl; rw [show (b + 1 - a).toNat = (b - a).toNat + 1 by omega, rowL_succ]
  congr 3; congr 1; omega
theorem bsl_app {s : vS} {o : Nat} {a b c : Int} (h : a ≤ b) (h2 : b ≤ c) : bsl s o a c = bsl s o a b ++ bsl s o b c := by
  unfold bsl; rw [show (c - a).toNat = (b - a).toNat + (c - b).toNat by omega, rowL_add]
  congr 1; apply rowL_congr; intro i _; congr 2; omega
theorem bsl_eq {s t : vS} {o p : Nat} {a b c d : Int} (h : b - a = d - c) (k : ∀ i : Int, 0 ≤ i → i < b - a → gC s (o + 1) (a + i) % 256 = gC t (p + 1) (c + i) % 256) : bsl s o a b = bsl t p c d := by
  unfold bsl; rw [h]; apply rowL_congr; intro i hi; exact k i (by omega) (by omega)
theorem bsl_rg {s : vS} {o : Nat} {a b x : Int} (h : x ∈ bsl s o a b) : 0 ≤ x ∧ x < 256 := by
  unfold bsl rowL at h; obtain ⟨i, _, rfl⟩ := List.mem_map.mp h; omega
theorem bts_sl {s : vS} {o : Nat} {a b : Int} (h0 : 0 ≤ a) (h : a ≤ b) (h1 : b ≤ gI s o 1) : bsl s o a b = ((bts s o).drop a.toNat).take (b - a).toNat := by
  rw [bts_bsl, bsl_app (show (0:Int) ≤ a from h0) (by omega : a ≤ gI s o 1), List.drop_append_of_le_length (by rw [bsl_len]; omega), List.drop_of_length_le (by rw [bsl_len]; omega), List.nil_append]
  rw [bsl_app h h1, List.take_append_of_le_length (by rw [bsl_len]; omega), List.take_of_length_le (by rw [bsl_len]; omega)]
/-- order of rows -/
def cmpL : List Int → List Int → Int
  | [], [] => 0
  | [], _ :: _ => -1
  | _ :: _, [] => 1
  | a :: l, b :: m => if a = b then cmpL l m else a - b
theorem cmpL_zero : ∀ {l m : List Int}, cmpL l m = 0 ↔ l = m
  | [], [] => by simp [cmpL]
  | [], _ :: _ => by simp [cmpL]
  | _ :: _, [] => by simp [cmpL]
  | a :: l, b :: m => by
    unfold cmpL
    by_cases h : a = b
    · rw [if_pos h, cmpL_zero]; simp [h]
    · rw [if_neg h]; constructor
      · intro k; omega
      · intro k; exact absurd (List.cons.inj k).1 h
theorem n8_mod (a : Int) : n8 a % 256 = a % 256 := by rw [n8_eq]; exact Int.bmod_emod
theorem n8_eq_iff (a b : Int) : n8 a = n8 b ↔ a % 256 = b % 256 := by
  constructor
  · intro h; rw [← n8_mod a, h, n8_mod]
  · intro h; rw [n8_eq, n8_eq]
    have h1 := Int.emod_bmod a 256
    have h2 := Int.emod_bmod b 256
    rw [← h1, ← h2]; exact congrArg (fun x => Int.bmod x 256) h
theorem X2_compare_l (o p : Nat) (s : vS) (x1 x2 x4 x5 : Int) (h1 : 0 ≤ x1) (h2 : x2 ≤ gN s (o + 1)) (h4 : 0 ≤ x4) (h5 : x5 ≤ gN s (p + 1)) (ho : gN s (o + 1) ≤ 33554432) (hp : gN s (p + 1) ≤ 33554432) :
    ∀ (k n : Nat) (x6 : Int), 0 ≤ x6 → x1 + x6 ≤ x2 ∨ x6 = 0 → x4 + x6 ≤ x5 ∨ x6 = 0 → (x2 - x1 - x6).toNat ≤ k → k < n → rg x1 → rg x4 → lq_1 (l_X2_compare_3 o p n x1 x2 x4 x5 x6 s) (fun y1 s2 => j_X2_compare_49 o p x1 x2 x4 x5 y1 s2) = some (cmpL (bsl s o (x1 + x6) x2) (bsl s p (x4 + x6) x5), s) := by
  have fin : ∀ x6, rg (x1 + x6) → rg (x4 + x6) → 0 ≤ x6 → (x2 ≤ x1 + x6 ∨ x5 ≤ x4 + x6 ∨ gC s (o + 1) (x1 + x6) % 256 ≠ gC s (p + 1) (x4 + x6) % 256) → j_X2_compare_49 o p x1 x2 x4 x5 x6 s = some (cmpL (bsl s o (x1 + x6) x2) (bsl s p (x4 + x6) x5), s) := by
    intro x6 g1 g2 h0 h
    simp only [j_X2_compare_49, j_X2_compare_62, j_X2_compare_79, j_X2_compare_112]
    rw [w32_id g1, w32_id g2]
    by_cases c1 : x2 ≤ x1 + x6
    · simp only [if_pos c1, Nat.reduceEqDiff, Nat.reduceAdd, Nat.reduceLT, Nat.reduceLeDiff, Nat.reduceBEq, reduceIte, and_self, and_true, true_and, and_false, false_and, if_true, if_false, Nat.reduceMul, Int.reduceEq, Int.reduceLT, Int.reduceLE, Int.reduceNeg, Int.reduceAdd, Int.reduceMul, Int.reduceSub]
      rw [bsl_nil c1]
      by_cases c2 : x5 ≤ x4 + x6
      · simp only [if_pos c2, Nat.reduceEqDiff, Nat.reduceAdd, Nat.reduceLT, Nat.reduceLeDiff, Nat.reduceBEq, reduceIte, and_self, and_true, true_and, and_false, false_and, if_true, if_false, Nat.reduceMul, Int.reduceEq, Int.reduceLT, Int.reduceLE, Int.reduceNeg, Int.reduceAdd, Int.reduceMul, Int.reduceSub]; rw [bsl_nil c2]; rfl
      · simp only [if_neg c2, Nat.reduceEqDiff, Nat.reduceAdd, Nat.reduceLT, Nat.reduceLeDiff, Nat.reduceBEq, reduceIte, and_self, and_true, true_and, and_false, false_and, if_true, if_false, Nat.reduceMul, Int.reduceEq, Int.reduceLT, Int.reduceLE, Int.reduceNeg, Int.reduceAdd, Int.reduceMul, Int.reduceSub]; rw [bsl_cons (show x4 + x6 < x5 by omega)]; rfl
    · simp only [if_neg c1, Nat.reduceEqDiff, Nat.reduceAdd, Nat.reduceLT, Nat.reduceLeDiff, Nat.reduceBEq, reduceIte, and_self, and_true, true_and, and_false, false_and, if_true, if_false, Nat.reduceMul, Int.reduceEq, Int.reduceLT, Int.reduceLE, Int.reduceNeg, Int.reduceAdd, Int.reduceMul, Int.reduceSub]
      rw [bsl_cons (show x1 + x6 < x2 by omega)]
      by_cases c2 : x5 ≤ x4 + x6
      · simp only [if_pos c2, Nat.reduceEqDiff, Nat.reduceAdd, Nat.reduceLT, Nat.reduceLeDiff, Nat.reduceBEq, reduceIte, and_self, and_true, true_and, and_false, false_and, if_true, if_false, Nat.reduceMul, Int.reduceEq, Int.reduceLT, Int.reduceLE, Int.reduceNeg, Int.reduceAdd, Int.reduceMul, Int.reduceSub]; rw [bsl_nil c2]; rfl
      · simp only [if_neg c2, Nat.reduceEqDiff, Nat.reduceAdd, Nat.reduceLT, Nat.reduceLeDiff, Nat.reduceBEq, reduceIte, and_self, and_true, true_and, and_false, false_and, if_true, if_false, Nat.reduceMul, Int.reduceEq, Int.reduceLT, Int.reduceLE, Int.reduceNeg, Int.reduceAdd, Int.reduceMul, Int.reduceSub]; rw [bsl_cons (show x4 + x6 < x5 by omega)]
        rw [X2_at (by omega) (by omega), bd_eq, X2_at (by omega) (by omega), bd_eq, w32_id ⟨by omega, by omega⟩]
        rw [cmpL, if_neg (by omega)]
  intro k
  induction k with
  | zero =>
    intro n x6 h0 d1 d2 hk hn r1 r2
    obtain ⟨n, rfl⟩ : ∃ m, n = m + 1 := ⟨n - 1, by omega⟩
    unfold rg at r1 r2
    have g1 : rg (x1 + x6) := ⟨by omega, by omega⟩
    have g2 : rg (x4 + x6) := ⟨by omega, by omega⟩
    unfold l_X2_compare_3
    rw [w32_id g1, if_pos (by omega), lq_1_eq]
    exact fin x6 g1 g2 h0 (Or.inl (by omega))
  | succ k ih =>
    intro n x6 h0 d1 d2 hk hn r1 r2
    obtain ⟨n, rfl⟩ : ∃ m, n = m + 1 := ⟨n - 1, by omega⟩
    have r1' := r1
    have r2' := r2
    unfold rg at r1 r2
    have g1 : rg (x1 + x6) := ⟨by omega, by omega⟩
    have g2 : rg (x4 + x6) := ⟨by omega, by omega⟩
    unfold l_X2_compare_3
    rw [w32_id g1, w32_id g2]
    by_cases c1 : x2 ≤ x1 + x6
    · rw [if_pos c1, lq_1_eq]; exact fin x6 g1 g2 h0 (Or.inl c1)
    rw [if_neg c1]
    by_cases c2 : x5 ≤ x4 + x6
    · rw [if_pos c2, lq_1_eq]; exact fin x6 g1 g2 h0 (Or.inr (Or.inl c2))
    rw [if_neg c2, gd_pos ⟨by omega, by omega⟩, gd_pos ⟨by omega, by omega⟩]
    by_cases c3 : gC s (o + 1) (x1 + x6) % 256 = gC s (p + 1) (x4 + x6) % 256
    · rw [if_pos (by rw [gB_gC, gB_gC, n8_eq_iff]; exact c3)]
      simp only [vl]
      rw [w32_id ⟨by omega, by omega⟩, ih n (x6 + 1) (by omega) (by omega) (by omega) (by omega) (by omega) r1' r2']
      rw [bsl_cons (show x1 + x6 < x2 by omega), bsl_cons (show x4 + x6 < x5 by omega), cmpL, if_pos c3, Int.add_assoc, Int.add_assoc]
    · rw [if_neg (by rw [gB_gC, gB_gC, n8_eq_iff]; exact c3), lq_1_eq]
      exact fin x6 g1 g2 h0 (Or.inr (Or.inr c3))
theorem X2_compare {o p : Nat} {s : vS} {x1 x2 x4 x5 : Int} (h1 : 0 ≤ x1) (h2 : x2 ≤ gN s (o + 1)) (h4 : 0 ≤ x4) (h5 : x5 ≤ gN s (p + 1)) (ho : gN s (o + 1) ≤ 33554432) (hp : gN s (p + 1) ≤ 33554432) (r1 : rg x1) (r4 : rg x4) : f_X2_compare o x1 x2 p x4 x5 s = some (cmpL (bsl s o x1 x2) (bsl s p x4 x5), s) := by
  have := X2_compare_l o p s x1 x2 x4 x5 h1 h2 h4 h5 ho hp (x2 - x1).toNat FU 0 (by omega) (Or.inr rfl) (Or.inr rfl) (by omega) (by unfold FU; omega) r1 r4
  rw [Int.add_zero, Int.add_zero] at this
  exact this
theorem X2_add {s : vS} {o : Nat} {v : Int} (hw : BW s o) (hn : gI s o 1 < 16777215) (ho : o + 1 < 199) : wpo (f_X2_add o v s) fun s' =>
    Fr (W_f_X2_add o) s s' ∧ BW s' o ∧ bts s' o = bts s o ++ [v % 256] ∧ gI s' o 1 = gI s o 1 + 1 ∧ gN s (o + 1) ≤ gN s' (o + 1) ∧ (gN s' (o + 1) = gN s (o + 1) ∨ gN s' (o + 1) < 2 * (gI s o 1 + 1)) := by
  have hw' := hw
  obtain ⟨h1, h2, h3, h4⟩ := hw
  refine ((?_ : wpo (f_X2_add o v s) _).and (fun r e => fr_f_X2_add o v s r e)).mono fun r h => ⟨h.2, h.1⟩
  unfold f_X2_add
  rw [w32_id ⟨by omega, by omega⟩]
  refine wpo_bdv.mpr ((X2_ready hw' (by omega) ho).mono ?_)
  rintro s1 ⟨fr, e1, e2, e3, e4, e5⟩
  refine wpo_gd.mpr ⟨⟨by omega, by omega⟩, ?_⟩
  refine wpo_stp.mpr (wpo_stp.mpr (wpo_some.mpr ?_))
  have e6 : gI (sI (sE s1 (o + 1) (gI s1 o 1) (n8 v)) o 1 (w32 (gI (sE s1 (o + 1) (gI s1 o 1) (n8 v)) o 1 + 1))) o 1 = gI s o 1 + 1 := by
    simp only [gI_sI, gI_sR, gI_sA, gI_sE, gI_sw2, gI_rs, gI_cpA, gI_gh1, gL_sI, gL_sR, gL_sA, gL_sE, gL_sw2, gL_rs, gL_cpA, gR_sI, gR_sR, gR_sA, gR_sE, gR_sw2, gR_rs, gR_cpA, gN_sI, gN_sR, gN_gh1, gN_sA, gN_sE, gN_cpA, gN_sw2, gN_rs, gE_gC, gB_gC, gZ_gC, gEL_gC, gC_sI, gC_sR, gC_gh1, gC_sA, gC_sE, gC_cpA, gC_sw2, gC_rs, Nat.reduceEqDiff, Nat.reduceAdd, Nat.reduceLT, Nat.reduceLeDiff, Nat.reduceBEq, reduceIte, and_self, and_true, true_and, and_false, false_and, if_true, if_false, Nat.reduceMul, Int.reduceEq, Int.reduceLT, Int.reduceLE, Int.reduceNeg, Int.reduceAdd, Int.reduceMul, Int.reduceSub, w32_w32, e1]; exact w32_id ⟨by omega, by omega⟩
  have e7 : gN (sI (sE s1 (o + 1) (gI s1 o 1) (n8 v)) o 1 (w32 (gI (sE s1 (o + 1) (gI s1 o 1) (n8 v)) o 1 + 1))) (o + 1) = gN s1 (o + 1) := by simp only [gI_sI, gI_sR, gI_sA, gI_sE, gI_sw2, gI_rs, gI_cpA, gI_gh1, gL_sI, gL_sR, gL_sA, gL_sE, gL_sw2, gL_rs, gL_cpA, gR_sI, gR_sR, gR_sA, gR_sE, gR_sw2, gR_rs, gR_cpA, gN_sI, gN_sR, gN_gh1, gN_sA, gN_sE, gN_cpA, gN_sw2, gN_rs, gE_gC, gB_gC, gZ_gC, gEL_gC, gC_sI, gC_sR, gC_gh1, gC_sA, gC_sE, gC_cpA, gC_sw2, gC_rs, Nat.reduceEqDiff, Nat.reduceAdd, Nat.reduceLT, Nat.reduceLeDiff, Nat.reduceBEq, reduceIte, and_self, and_true, true_and, and_false, false_and, if_true, if_false, Nat.reduceMul, Int.reduceEq, Int.reduceLT, Int.reduceLE, Int.reduceNeg, Int.reduceAdd, Int.reduceMul, Int.reduceSub]
  refine ⟨⟨by omega, by omega, by omega, by omega⟩, ?_, e6, by omega, by omega⟩
  unfold bts
  rw [e6, show (gI s o 1 + 1).toNat = (gI s o 1).toNat + 1 by omega, rowL_succ]
  congr 1
  · apply rowL_congr
    intro i hi
    simp only [gI_sI, gI_sR, gI_sA, gI_sE, gI_sw2, gI_rs, gI_cpA, gI_gh1, gL_sI, gL_sR, gL_sA, gL_sE, gL_sw2, gL_rs, gL_cpA, gR_sI, gR_sR, gR_sA, gR_sE, gR_sw2, gR_rs, gR_cpA, gN_sI, gN_sR, gN_gh1, gN_sA, gN_sE, gN_cpA, gN_sw2, gN_rs, gE_gC, gB_gC, gZ_gC, gEL_gC, gC_sI, gC_sR, gC_gh1, gC_sA, gC_sE, gC_cpA, gC_sw2, gC_rs, Nat.reduceEqDiff, Nat.reduceAdd, Nat.reduceLT, Nat.reduceLeDiff, Nat.reduceBEq, reduceIte, and_self, and_true, true_and, and_false, false_and, if_true, if_false, Nat.reduceMul, Int.reduceEq, Int.reduceLT, Int.reduceLE, Int.reduceNeg, Int.reduceAdd, Int.reduceMul, Int.reduceSub, e1]
    rw [if_neg (by omega), e5 i (by omega) (by omega)]
  · simp only [gI_sI, gI_sR, gI_sA, gI_sE, gI_sw2, gI_rs, gI_cpA, gI_gh1, gL_sI, gL_sR, gL_sA, gL_sE, gL_sw2, gL_rs, gL_cpA, gR_sI, gR_sR, gR_sA, gR_sE, gR_sw2, gR_rs, gR_cpA, gN_sI, gN_sR, gN_gh1, gN_sA, gN_sE, gN_cpA, gN_sw2, gN_rs, gE_gC, gB_gC, gZ_gC, gEL_gC, gC_sI, gC_sR, gC_gh1, gC_sA, gC_sE, gC_cpA, gC_sw2, gC_rs, Nat.reduceEqDiff, Nat.reduceAdd, Nat.reduceLT, Nat.reduceLeDiff, Nat.reduceBEq, reduceIte, and_self, and_true, true_and, and_false, false_and, if_true, if_false, Nat.reduceMul, Int.reduceEq, Int.reduceLT, Int.reduceLE, Int.reduceNeg, Int.reduceAdd, Int.reduceMul, Int.reduceSub, e1, Int.toNat_of_nonneg h1]
    rw [n8_mod]
theorem X2_all {s : vS} {o p : Nat} {a b : Int} (hw : BW s o) (ha : 0 ≤ a) (hab : a ≤ b) (hb : b ≤ gN s (p + 1)) (hb' : b ≤ 33554432) (hn : gI s o 1 + b - a ≤ 16777216) (ho : o + 1 < 199) (hp : p + 1 < 199) (hop : p ≠ o) : wpo (f_X2_all o p a b s) fun s' =>
    Fr (W_f_X2_all o) s s' ∧ BW s' o ∧ bts s' o = bts s o ++ bsl s p a b ∧ gI s' o 1 = gI s o 1 + (b - a) ∧ gN s (o + 1) ≤ gN s' (o + 1) ∧ (gN s' (o + 1) = gN s (o + 1) ∨ gN s' (o + 1) < 2 * (gI s o 1 + (b - a))) := by
  have hw' := hw
  obtain ⟨h1, h2, h3, h4⟩ := hw
  refine ((?_ : wpo (f_X2_all o p a b s) _).and (fun r e => fr_f_X2_all o p a b s r e)).mono fun r h => ⟨h.2, h.1⟩
  unfold f_X2_all
  rw [w32_id (x := gI s o 1 + b) ⟨by omega, by omega⟩, w32_id (x := gI s o 1 + b - a) ⟨by omega, by omega⟩, w32_id (x := b - a) ⟨by omega, by omega⟩]
  refine wpo_bdv.mpr ((X2_ready hw' (by omega) ho).mono ?_)
  rintro s1 ⟨fr, e1, e2, e3, e4, e5⟩
  have f1 : gN s1 (p + 1) = gN s (p + 1) := fr.rN hp (by simp [W_f_X2_ready]; omega)
  have f2 : gC s1 (p + 1) = gC s (p + 1) := fr.rC hp (by simp [W_f_X2_ready]; omega)
  refine wpo_gd.mpr ⟨⟨by omega, by omega, by omega, by omega, by omega⟩, ?_⟩
  refine wpo_stp.mpr (wpo_stp.mpr (wpo_some.mpr ?_))
  have e6 : gI (sI (cpA s1 (p + 1) (o + 1) a (gI s1 o 1) (b - a)) o 1 (w32 (gI (cpA s1 (p + 1) (o + 1) a (gI s1 o 1) (b - a)) o 1 + (b - a)))) o 1 = gI s o 1 + (b - a) := by
    simp only [gI_sI, gI_sR, gI_sA, gI_sE, gI_sw2, gI_rs, gI_cpA, gI_gh1, gL_sI, gL_sR, gL_sA, gL_sE, gL_sw2, gL_rs, gL_cpA, gR_sI, gR_sR, gR_sA, gR_sE, gR_sw2, gR_rs, gR_cpA, gN_sI, gN_sR, gN_gh1, gN_sA, gN_sE, gN_cpA, gN_sw2, gN_rs, gE_gC, gB_gC, gZ_gC, gEL_gC, gC_sI, gC_sR, gC_gh1, gC_sA, gC_sE, gC_cpA, gC_sw2, gC_rs, Nat.reduceEqDiff, Nat.reduceAdd, Nat.reduceLT, Nat.reduceLeDiff, Nat.reduceBEq, reduceIte, and_self, and_true, true_and, and_false, false_and, if_true, if_false, Nat.reduceMul, Int.reduceEq, Int.reduceLT, Int.reduceLE, Int.reduceNeg, Int.reduceAdd, Int.reduceMul, Int.reduceSub, w32_w32, e1]; exact w32_id ⟨by omega, by omega⟩
  have e7 : gN (sI (cpA s1 (p + 1) (o + 1) a (gI s1 o 1) (b - a)) o 1 (w32 (gI (cpA s1 (p + 1) (o + 1) a (gI s1 o 1) (b - a)) o 1 + (b - a)))) (o + 1) = gN s1 (o + 1) := by simp only [gI_sI, gI_sR, gI_sA, gI_sE, gI_sw2, gI_rs, gI_cpA, gI_gh1, gL_sI, gL_sR, gL_sA, gL_sE, gL_sw2, gL_rs, gL_cpA, gR_sI, gR_sR, gR_sA, gR_sE, gR_sw2, gR_rs, gR_cpA, gN_sI, gN_sR, gN_gh1, gN_sA, gN_sE, gN_cpA, gN_sw2, gN_rs, gE_gC, gB_gC, gZ_gC, gEL_gC, gC_sI, gC_sR, gC_gh1, gC_sA, gC_sE, gC_cpA, gC_sw2, gC_rs, Nat.reduceEqDiff, Nat.reduceAdd, Nat.reduceLT, Nat.reduceLeDiff, Nat.reduceBEq, reduceIte, and_self, and_true, true_and, and_false, false_and, if_true, if_false, Nat.reduceMul, Int.reduceEq, Int.reduceLT, Int.reduceLE, Int.reduceNeg, Int.reduceAdd, Int.reduceMul, Int.reduceSub]
  refine ⟨⟨by omega, by omega, by omega, by omega⟩, ?_, e6, by omega, by omega⟩
  unfold bts bsl
  rw [e6, show (gI s o 1 + (b - a)).toNat = (gI s o 1).toNat + (b - a).toNat by omega, rowL_add]
  congr 1
  · apply rowL_congr
    intro i hi
    simp only [gI_sI, gI_sR, gI_sA, gI_sE, gI_sw2, gI_rs, gI_cpA, gI_gh1, gL_sI, gL_sR, gL_sA, gL_sE, gL_sw2, gL_rs, gL_cpA, gR_sI, gR_sR, gR_sA, gR_sE, gR_sw2, gR_rs, gR_cpA, gN_sI, gN_sR, gN_gh1, gN_sA, gN_sE, gN_cpA, gN_sw2, gN_rs, gE_gC, gB_gC, gZ_gC, gEL_gC, gC_sI, gC_sR, gC_gh1, gC_sA, gC_sE, gC_cpA, gC_sw2, gC_rs, Nat.reduceEqDiff, Nat.reduceAdd, Nat.reduceLT, Nat.reduceLeDiff, Nat.reduceBEq, reduceIte, and_self, and_true, true_and, and_false, false_and, if_true, if_false, Nat.reduceMul, Int.reduceEq, Int.reduceLT, Int.reduceLE, Int.reduceNeg, Int.reduceAdd, Int.reduceMul, Int.reduceSub, e1]
    rw [if_neg (by omega), e5 i (by omega) (by omega)]
  · apply rowL_congr
    intro i hi
    simp only [gI_sI, gI_sR, gI_sA, gI_sE, gI_sw2, gI_rs, gI_cpA, gI_gh1, gL_sI, gL_sR, gL_sA, gL_sE, gL_sw2, gL_rs, gL_cpA, gR_sI, gR_sR, gR_sA, gR_sE, gR_sw2, gR_rs, gR_cpA, gN_sI, gN_sR, gN_gh1, gN_sA, gN_sE, gN_cpA, gN_sw2, gN_rs, gE_gC, gB_gC, gZ_gC, gEL_gC, gC_sI, gC_sR, gC_gh1, gC_sA, gC_sE, gC_cpA, gC_sw2, gC_rs, Nat.reduceEqDiff, Nat.reduceAdd, Nat.reduceLT, Nat.reduceLeDiff, Nat.reduceBEq, reduceIte, and_self, and_true, true_and, and_false, false_and, if_true, if_false, Nat.reduceMul, Int.reduceEq, Int.reduceLT, Int.reduceLE, Int.reduceNeg, Int.reduceAdd, Int.reduceMul, Int.reduceSub, e1, f2]
    rw [if_pos (by omega)]; congr 2; push_cast; omega
theorem X2_set {s : vS} {o : Nat} {i v : Int} (h0 : 0 ≤ i) (h1 : i < gN s (o + 1)) : f_X2_set o i v s = some (sE s (o + 1) i (n8 v)) := by
  unfold f_X2_set; rw [gd_pos ⟨h0, h1⟩]; rfl
theorem X2_clear (s : vS) (o : Nat) : f_X2_clear o s = some (sI s o 1 0) := rfl
theorem X2_cut (s : vS) (o : Nat) (n : Int) : f_X2_cut o n s = some (sI s o 1 n) := rfl
theorem BW_clear {s : vS} {o : Nat} (h : BW s o) : BW (sI s o 1 0) o := by
  unfold BW at *; simp only [gI_sI, gI_sR, gI_sA, gI_sE, gI_sw2, gI_rs, gI_cpA, gI_gh1, gL_sI, gL_sR, gL_sA, gL_sE, gL_sw2, gL_rs, gL_cpA, gR_sI, gR_sR, gR_sA, gR_sE, gR_sw2, gR_rs, gR_cpA, gN_sI, gN_sR, gN_gh1, gN_sA, gN_sE, gN_cpA, gN_sw2, gN_rs, gE_gC, gB_gC, gZ_gC, gEL_gC, gC_sI, gC_sR, gC_gh1, gC_sA, gC_sE, gC_cpA, gC_sw2, gC_rs, Nat.reduceEqDiff, Nat.reduceAdd, Nat.reduceLT, Nat.reduceLeDiff, Nat.reduceBEq, reduceIte, and_self, and_true, true_and, and_false, false_and, if_true, if_false, Nat.reduceMul, Int.reduceEq, Int.reduceLT, Int.reduceLE, Int.reduceNeg, Int.reduceAdd, Int.reduceMul, Int.reduceSub]; have : w32 0 = 0 := by decide
  omega
theorem bts_clear (s : vS) (o : Nat) : bts (sI s o 1 0) o = [] := by
  unfold bts; simp only [gI_sI, gI_sR, gI_sA, gI_sE, gI_sw2, gI_rs, gI_cpA, gI_gh1, gL_sI, gL_sR, gL_sA, gL_sE, gL_sw2, gL_rs, gL_cpA, gR_sI, gR_sR, gR_sA, gR_sE, gR_sw2, gR_rs, gR_cpA, gN_sI, gN_sR, gN_gh1, gN_sA, gN_sE, gN_cpA, gN_sw2, gN_rs, gE_gC, gB_gC, gZ_gC, gEL_gC, gC_sI, gC_sR, gC_gh1, gC_sA, gC_sE, gC_cpA, gC_sw2, gC_rs, Nat.reduceEqDiff, Nat.reduceAdd, Nat.reduceLT, Nat.reduceLeDiff, Nat.reduceBEq, reduceIte, and_self, and_true, true_and, and_false, false_and, if_true, if_false, Nat.reduceMul, Int.reduceEq, Int.reduceLT, Int.reduceLE, Int.reduceNeg, Int.reduceAdd, Int.reduceMul, Int.reduceSub]; rfl
theorem BW_cut {s : vS} {o : Nat} {n : Int} (h : BW s o) (h0 : 0 ≤ n) (h1 : n ≤ gI s o 1) : BW (sI s o 1 n) o ∧ bts (sI s o 1 n) o = (bts s o).take n.toNat ∧ gI (sI s o 1 n) o 1 = n := by
  obtain ⟨a1, a2, a3, a4⟩ := h
  have e : gI (sI s o 1 n) o 1 = n := by simp only [gI_sI, gI_sR, gI_sA, gI_sE, gI_sw2, gI_rs, gI_cpA, gI_gh1, gL_sI, gL_sR, gL_sA, gL_sE, gL_sw2, gL_rs, gL_cpA, gR_sI, gR_sR, gR_sA, gR_sE, gR_sw2, gR_rs, gR_cpA, gN_sI, gN_sR, gN_gh1, gN_sA, gN_sE, gN_cpA, gN_sw2, gN_rs, gE_gC, gB_gC, gZ_gC, gEL_gC, gC_sI, gC_sR, gC_gh1, gC_sA, gC_sE, gC_cpA, gC_sw2, gC_rs, Nat.reduceEqDiff, Nat.reduceAdd, Nat.reduceLT, Nat.reduceLeDiff, Nat.reduceBEq, reduceIte, and_self, and_true, true_and, and_false, false_and, if_true, if_false, Nat.reduceMul, Int.reduceEq, Int.reduceLT, Int.reduceLE, Int.reduceNeg, Int.reduceAdd, Int.reduceMul, Int.reduceSub]; exact w32_id ⟨by omega, by omega⟩
  refine ⟨⟨by omega, by rw [e]; simp only [gI_sI, gI_sR, gI_sA, gI_sE, gI_sw2, gI_rs, gI_cpA, gI_gh1, gL_sI, gL_sR, gL_sA, gL_sE, gL_sw2, gL_rs, gL_cpA, gR_sI, gR_sR, gR_sA, gR_sE, gR_sw2, gR_rs, gR_cpA, gN_sI, gN_sR, gN_gh1, gN_sA, gN_sE, gN_cpA, gN_sw2, gN_rs, gE_gC, gB_gC, gZ_gC, gEL_gC, gC_sI, gC_sR, gC_gh1, gC_sA, gC_sE, gC_cpA, gC_sw2, gC_rs]; omega, a3, a4⟩, ?_, e⟩
  unfold bts; rw [e, rowL_take _ (by omega)]; rfl
theorem BW.fr {W : List Nat} {s t : vS} {o : Nat} (h : BW s o) (hf : Fr W s t) (ho : o + 1 < 199) (q1 : 1000 * o + 1 ∉ W) (q2 : 1000 * (o + 1) + 998 ∉ W) : BW t o := by
  unfold BW at *; rw [hf.rI q1, hf.rN ho q2]; exact h
theorem bts_fr {W : List Nat} {s t : vS} {o : Nat} (hf : Fr W s t) (ho : o + 1 < 199) (q1 : 1000 * o + 1 ∉ W) (q2 : 1000 * (o + 1) + 999 ∉ W) : bts t o = bts s o := by
  unfold bts; rw [hf.rI q1, hf.rC ho q2]
theorem bsl_fr {W : List Nat} {s t : vS} {o : Nat} {a b : Int} (hf : Fr W s t) (ho : o + 1 < 199) (q2 : 1000 * (o + 1) + 999 ∉ W) : bsl t o a b = bsl s o a b := by
  unfold bsl; rw [hf.rC ho q2]
