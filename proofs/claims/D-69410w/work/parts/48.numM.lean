set_option maxRecDepth 100000 set_option linter.unusedVariables false set_option linter.unusedSimpArgs false
/-! PURE 48: the model's whole numbers -/
/-- an array of ints has become longer; all else is as it was -/
def Lgr (s : vS) (a : Nat) (x : Int) (t : vS) : Prop := (∀ o f, gI t o f = gI s o f) ∧ (∀ b, b < 199 → b ≠ a → gN t b = gN s b ∧ gC t b = gC s b) ∧ (gN t a : Int) = x ∧ ∀ i : Int, 0 ≤ i → i < gN s a → gE t a i = gE s a i
theorem longer_l {a : Nat} (ha : a < 199) : ∀ (k n : Nat) (s : vS) (x : Int), 0 ≤ x → gN s a - x ≤ k → k < n → gN s a ≤ gN s 199 → gN s a ≤ 60000000 → (∀ i : Int, 0 ≤ i → i < x → gE s 199 i = gE s a i) → ∃ s', l_X14_longer_6 a n x s = some s' ∧ (∀ o f, gI s' o f = gI s o f) ∧ (∀ b, gN s' b = gN s b) ∧ (∀ b, b < 199 → gC s' b = gC s b) ∧ ∀ i : Int, 0 ≤ i → i < gN s a → gE s' 199 i = gE s a i := by
  intro k
  have e9 : ¬ a = 199 := by omega
  induction k with
  | zero =>
    intro n s x h0 hk hn hl hm hx
    obtain ⟨n, rfl⟩ : ∃ m, n = m + 1 := ⟨n - 1, by omega⟩
    unfold l_X14_longer_6
    rw [w32_id ⟨by omega, by omega⟩, if_pos (by omega)]
    exact ⟨s, rfl, fun _ _ => rfl, fun _ => rfl, fun _ _ => rfl, fun i a b => hx i a (by omega)⟩
  | succ k ih =>
    intro n s x h0 hk hn hl hm hx
    obtain ⟨n, rfl⟩ : ∃ m, n = m + 1 := ⟨n - 1, by omega⟩
    unfold l_X14_longer_6
    rw [w32_id ⟨by omega, by omega⟩]
    by_cases c : (gN s a : Int) ≤ x
    · rw [if_pos c]; exact ⟨s, rfl, fun _ _ => rfl, fun _ => rfl, fun _ _ => rfl, fun i a b => hx i a (by omega)⟩
    rw [if_neg c, gd_pos ⟨h0, by omega⟩, gd_pos ⟨h0, by omega⟩, stp_eq, vl_eq, w32_id ⟨by omega, by omega⟩]
    generalize hs : sE s 199 x (gE s a x) = s1
    have e1 : ∀ b, gN s1 b = gN s b := by intro b; rw [← hs]; simp only [gI_sI, gI_sR, gI_sA, gI_sE, gI_sw2, gI_rs, gI_cpA, gI_gh1, gL_sI, gL_sR, gL_sA, gL_sE, gL_sw2, gL_rs, gL_cpA, gR_sI, gR_sR, gR_sA, gR_sE, gR_sw2, gR_rs, gR_cpA, gN_sI, gN_sR, gN_gh1, gN_sA, gN_sE, gN_cpA, gN_sw2, gN_rs, gE_gC, gB_gC, gZ_gC, gEL_gC, gC_sI, gC_sR, gC_gh1, gC_sA, gC_sE, gC_cpA, gC_sw2, gC_rs]
    have e2 : ∀ b, b < 199 → gC s1 b = gC s b := by intro b hb; funext i; rw [← hs, gC_sE, if_neg (by omega)]
    have e3 : ∀ i, gE s1 199 i = if i = x then gE s a x else gE s 199 i := by
      intro i; rw [← hs, gE_sE]; simp only [true_and]; rw [w32_id (gE_rg s a x)]
    have e4 : gE s1 a = gE s a := by funext i; rw [gE_gC, gE_gC, e2 a ha]
    obtain ⟨s', r1, r2, r3, r4, r5⟩ := ih n s1 (x + 1) (by omega) (by rw [e1]; omega) (by omega) (by rw [e1, e1]; exact hl) (by rw [e1]; exact hm) (by
      intro i hi hi2
      rw [e3, e4]
      by_cases d : i = x
      · rw [if_pos d, d]
      · rw [if_neg d]; exact hx i hi (by omega))
    refine ⟨s', r1, fun o f => ?_, fun b => by rw [r3, e1], fun b hb => by rw [r4 b hb, e2 b hb], fun i hi hi2 => by rw [r5 i hi (by rw [e1]; exact hi2), e4]⟩
    rw [r2, ← hs]; rfl
theorem X14_longer {s : vS} {a : Nat} {x : Int} (ha : a < 199) (h1 : gN s a ≤ x) (h2 : x ≤ 60000000) : ∃ s1, f_X14_longer a x s = some s1 ∧ (gN s1 199 : Int) = x ∧ gN s1 a = gN s a ∧ Lgr s a x (rs (sw2 s1 a 199)) := by
  have e9 : ¬ a = 199 := by omega
  unfold f_X14_longer
  rw [gd_pos ⟨by omega, h2⟩, stp_eq]
  generalize hs : sA s 199 (x.toNat, fun _ => 0) = s0
  have n9 : gN s0 199 = x.toNat := by rw [← hs]; simp only [gI_sI, gI_sR, gI_sA, gI_sE, gI_sw2, gI_rs, gI_cpA, gI_gh1, gL_sI, gL_sR, gL_sA, gL_sE, gL_sw2, gL_rs, gL_cpA, gR_sI, gR_sR, gR_sA, gR_sE, gR_sw2, gR_rs, gR_cpA, gN_sI, gN_sR, gN_gh1, gN_sA, gN_sE, gN_cpA, gN_sw2, gN_rs, gE_gC, gB_gC, gZ_gC, gEL_gC, gC_sI, gC_sR, gC_gh1, gC_sA, gC_sE, gC_cpA, gC_sw2, gC_rs, Nat.reduceEqDiff, Nat.reduceAdd, Nat.reduceLT, Nat.reduceLeDiff, Nat.reduceBEq, reduceIte, and_self, and_true, true_and, and_false, false_and, if_true, if_false, Nat.reduceMul, Int.reduceEq, Int.reduceLT, Int.reduceLE, Int.reduceNeg, Int.reduceAdd, Int.reduceMul, Int.reduceSub]
  have nb : ∀ b, b < 199 → gN s0 b = gN s b := by intro b hb; rw [← hs, gN_sA, if_neg (by omega)]
  have cb : ∀ b, b < 199 → gC s0 b = gC s b := by intro b hb; rw [← hs, gC_sA, if_neg (by omega)]
  obtain ⟨s', r1, r2, r3, r4, r5⟩ := longer_l ha (gN s a) FU s0 0 (by omega) (by rw [nb a ha]; omega) (by unfold FU; omega) (by rw [nb a ha, n9]; omega) (by rw [nb a ha]; omega) (fun i a b => by omega)
  rw [r1, lq_0_eq]
  refine ⟨s', rfl, by rw [r3, n9]; omega, by rw [r3, nb a ha], ?_, ?_, ?_, ?_⟩
  · intro o f; rw [gI_rs, gI_sw2, r2, ← hs]; rfl
  · intro b hb hba
    constructor
    · rw [gN_rs, if_pos hb, gN_sw2, if_neg hba, if_neg (by omega), r3, nb b hb]
    · rw [gC_rs, if_pos hb, gC_sw2, if_neg hba, if_neg (by omega), r4 b hb, cb b hb]
  · rw [gN_rs, if_pos ha, gN_sw2, if_pos rfl, r3, n9]; omega
  · intro i hi hi2
    rw [gE_gC, gC_rs, if_pos ha, gC_sw2, if_pos rfl, ← gE_gC, r5 i hi (by rw [nb a ha]; exact hi2), gE_gC, cb a ha, ← gE_gC]
theorem Lgr.E {s t : vS} {a : Nat} {x : Int} (h : Lgr s a x t) {b : Nat} (hb : b < 199) (hba : b ≠ a) : gE t b = gE s b := by
  funext i; rw [gE_gC, gE_gC, (h.2.1 b hb hba).2]
/-- bytes of a number of the model -/
def mby (s : vS) (a b : Int) : List Int := rowL (b - a).toNat (fun i => gE s 149 (a + i))
def mnum (s : vS) (n : Int) : List Int := mby s (gE s 147 n) (gE s 147 n + gE s 148 n)
/-- the model's numbers have these values -/
def MN (s : vS) (V : List Int) : Prop := gI s 87 84 = V.length ∧ 0 ≤ gI s 87 85 ∧ gI s 87 85 ≤ gN s 149 ∧ V.length ≤ gN s 147 ∧ gN s 148 = gN s 147 ∧ 64 ≤ gN s 147 ∧ gN s 147 ≤ 1000000 ∧ 1024 ≤ gN s 149 ∧ gN s 149 ≤ 8000000 ∧ ∀ n : Nat, n < V.length → 0 ≤ gE s 147 n ∧ 0 ≤ gE s 148 n ∧ gE s 147 n + gE s 148 n ≤ gI s 87 85 ∧ SB (V.getD n 0) (mnum s n)
theorem roomBytes_l {s : vS} {x1 : Int} (h : 0 ≤ gI s 87 85) (h1 : gI s 87 85 + x1 ≤ 4000000) : ∀ (k n : Nat) (x2 : Int), 0 < x2 → gI s 87 85 + x1 - x2 ≤ k → k < n → x2 < 2 * (gI s 87 85 + x1) → 0 ≤ x1 → ∃ y, l_X14_roomForBytes_21 n x1 x2 s = some (y, s) ∧ gI s 87 85 + x1 ≤ y ∧ y < 2 * (gI s 87 85 + x1) ∧ x2 ≤ y ∧ (x2 < gI s 87 85 + x1 → 2 * x2 ≤ y) := by
  intro k
  induction k with
  | zero =>
    intro n x2 h0 hk hn h2 h3
    obtain ⟨n, rfl⟩ : ∃ m, n = m + 1 := ⟨n - 1, by omega⟩
    unfold l_X14_roomForBytes_21
    rw [w32_id ⟨by omega, by omega⟩, if_pos (by omega)]
    exact ⟨x2, rfl, by omega, h2, Int.le_refl _, fun h => by omega⟩
  | succ k ih =>
    intro n x2 h0 hk hn h2 h3
    obtain ⟨n, rfl⟩ : ∃ m, n = m + 1 := ⟨n - 1, by omega⟩
    unfold l_X14_roomForBytes_21
    rw [w32_id ⟨by omega, by omega⟩]
    by_cases c : gI s 87 85 + x1 ≤ x2
    · rw [if_pos c]; exact ⟨x2, rfl, c, h2, Int.le_refl _, fun h => by omega⟩
    · rw [if_neg c, vl_eq, w32_id ⟨by omega, by omega⟩]
      obtain ⟨y, e, q1, q2, q3, q4⟩ := ih n (2 * x2) (by omega) (by omega) (by omega) (by omega) h3
      exact ⟨y, e, q1, q2, by omega, fun _ => by omega⟩
/-- room for bytes: the array may have become longer -/
theorem X14_roomForBytes {s : vS} {x : Int} (h : 0 ≤ gI s 87 85) (h2 : 1024 ≤ gN s 149) (h3 : gN s 149 ≤ 8000000) (hb : gI s 87 85 ≤ gN s 149) (hx : 0 ≤ x) (hr : gI s 87 85 + x ≤ 4000000) : ∃ t, f_X14_roomForBytes x s = some t ∧ gI s 87 85 + x ≤ gN t 149 ∧ (t = s ∨ (gN s 149 < gI s 87 85 + x ∧ (gN t 149 : Int) < 2 * (gI s 87 85 + x) ∧ Lgr s 149 (gN t 149) t)) := by
  unfold f_X14_roomForBytes
  rw [w32_id (x := (gN s 149 : Int)) ⟨by omega, by omega⟩, w32_id (x := gI s 87 85 + x) ⟨by omega, by omega⟩]
  by_cases c : (gN s 149 : Int) < gI s 87 85 + x
  · rw [if_pos c, vl_eq]
    obtain ⟨y, e, q1, q2, q3, q4⟩ := roomBytes_l h hr (gI s 87 85 + x - gN s 149).toNat FU (gN s 149) (by omega) (by omega) (by unfold FU; omega) (by omega) hx
    rw [e, lq_1_eq]
    obtain ⟨s1, r1, r2, r3, r4⟩ := X14_longer (s := s) (a := 149) (x := y) (by decide) (by omega) (by omega)
    rw [r1, bdv_eq, gd_pos ⟨by have := q4 c; omega, by omega⟩, stp_eq, stp_eq]
    refine ⟨_, rfl, by rw [r4.2.2.1]; exact q1, Or.inr ⟨c, by rw [r4.2.2.1]; exact q2, by rw [r4.2.2.1]; exact r4⟩⟩
  · rw [if_neg c]; exact ⟨s, rfl, by omega, Or.inl rfl⟩
theorem mby_eq {s t : vS} {a b : Int} (h : ∀ i : Int, a ≤ i → i < b → gE t 149 i = gE s 149 i) : mby t a b = mby s a b := by
  unfold mby; apply rowL_congr; intro i hi; exact h _ (by omega) (by omega)
theorem MN_room {s t : vS} {V : List Int} (h : MN s V) {x : Int} (hx : 0 ≤ x) (hr : gI s 87 85 + x ≤ 4000000) (ht : gI s 87 85 + x ≤ gN t 149 ∧ (t = s ∨ (gN s 149 < gI s 87 85 + x ∧ (gN t 149 : Int) < 2 * (gI s 87 85 + x) ∧ Lgr s 149 (gN t 149) t))) : MN t V := by
  rcases ht with ⟨h1, rfl | ⟨h2, h3, h4⟩⟩
  · exact h
  obtain ⟨a1, a2, a3, a4, a5, a6, a7, a8, a9, a10⟩ := h
  have e7 := h4.2.1 147 (by decide) (by decide)
  have e8 := h4.2.1 148 (by decide) (by decide)
  have g7 := h4.E (b := 147) (by decide) (by decide)
  have g8 := h4.E (b := 148) (by decide) (by decide)
  refine ⟨by rw [h4.1]; exact a1, by rw [h4.1]; exact a2, by rw [h4.1]; omega, by rw [e7.1]; exact a4, by rw [e7.1, e8.1]; exact a5, by rw [e7.1]; exact a6, by rw [e7.1]; exact a7, by omega, by omega, fun n hn => ?_⟩
  obtain ⟨b1, b2, b3, b4⟩ := a10 n hn
  rw [g7, g8, h4.1]
  refine ⟨b1, b2, b3, ?_⟩
  unfold mnum at *
  rw [g7, g8, mby_eq (s := s) (fun i hi hi2 => h4.2.2.2 i (by omega) (by omega))]
  exact b4
