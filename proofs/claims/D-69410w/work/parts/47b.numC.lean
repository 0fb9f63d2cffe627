set_option maxRecDepth 100000 set_option linter.unusedVariables false set_option linter.unusedSimpArgs false
/-! PURE 47b: reading digits -/
def dvA (a : Int) (L : List Int) : Int := L.foldl (fun a c => 10 * a + (c - 48)) a
theorem dvA_app (a : Int) (L M : List Int) : dvA a (L ++ M) = dvA (dvA a L) M := by unfold dvA; rw [List.foldl_append]
theorem dvA_lin : ∀ (L : List Int) (a : Int), dvA a L = 10 ^ L.length * a + dvA 0 L
  | [], a => by simp [dvA]
  | c :: L, a => by
    show dvA (10 * a + (c - 48)) L = _ * a + dvA (10 * 0 + (c - 48)) L
    rw [dvA_lin L (10 * a + (c - 48)), dvA_lin L (10 * 0 + (c - 48)), List.length_cons, Int.pow_succ]
    grind
theorem dvA_nn : ∀ (L : List Int) (a : Int), 0 ≤ a → (∀ c ∈ L, 48 ≤ c ∧ c ≤ 57) → 0 ≤ dvA a L ∧ dvA a L < 10 ^ L.length * (a + 1)
  | [], a, h, _ => by simp [dvA]; omega
  | c :: L, a, h, hc => by
    have q := hc c (by simp)
    have ih := dvA_nn L (10 * a + (c - 48)) (by omega) (fun x hx => hc x (by simp [hx]))
    show 0 ≤ dvA (10 * a + (c - 48)) L ∧ dvA (10 * a + (c - 48)) L < _
    refine ⟨ih.1, ?_⟩
    rw [List.length_cons, Int.pow_succ]
    have hp := pow_pos' 10 (by decide) L.length
    have : 10 ^ L.length * (10 * a + (c - 48) + 1) ≤ 10 ^ L.length * (10 * (a + 1)) := Int.mul_le_mul_of_nonneg_left (by omega) (by omega)
    rw [← Int.mul_assoc] at this
    omega
theorem read23 {s : vS} {p : Nat} (o : Nat) {x3 : Int} (h3 : x3 ≤ gN s (p + 1)) (hb : gN s (p + 1) ≤ 33554432) : ∀ (k n : Nat) (x4 x5 x7 x9 : Int), 0 ≤ x4 → x9 + k = 9 → 0 ≤ x9 → k < n → 0 ≤ x5 → x5 * 10 ^ k ≤ 1000000000 → 0 ≤ x7 → 10 ^ k * (x7 + 1) ≤ 1000000000 → (∀ i : Int, x4 ≤ i → i < x3 → 48 ≤ gC s (p + 1) i % 256 ∧ gC s (p + 1) i % 256 ≤ 57) → ∃ j : Nat, j ≤ k ∧ (x4 < x3 → 0 < k → 0 < j) ∧ (x4 ≤ x3 → x4 + j ≤ x3) ∧ l_X7_read_23 o p n x3 x4 x5 x7 x9 s = some (x4 + j, x5 * 10 ^ j, dvA x7 (bsl s p x4 (x4 + j)), s) := by
  intro k
  induction k with
  | zero =>
    intro n x4 x5 x7 x9 a1 a2 a3 hn a4 a5 a6 a7 hd
    obtain ⟨n, rfl⟩ : ∃ m, n = m + 1 := ⟨n - 1, by omega⟩
    unfold l_X7_read_23
    rw [if_pos (by omega)]
    exact ⟨0, by omega, fun _ h => by omega, fun _ => by omega, by rw [bsl_nil (by omega)]; simp [dvA]⟩
  | succ k ih =>
    intro n x4 x5 x7 x9 a1 a2 a3 hn a4 a5 a6 a7 hd
    obtain ⟨n, rfl⟩ : ∃ m, n = m + 1 := ⟨n - 1, by omega⟩
    unfold l_X7_read_23
    rw [if_neg (by omega)]
    by_cases c : x3 ≤ x4
    · rw [if_pos c]
      exact ⟨0, by omega, fun h => by omega, fun _ => by omega, by rw [bsl_nil (by omega)]; simp [dvA]⟩
    rw [if_neg c, vl_eq, X2_at a1 (by omega), bd_eq, vl_eq, vl_eq, vl_eq]
    have q := hd x4 (by omega) (by omega)
    have hp := pow_pos' 10 (by decide) k
    rw [Int.pow_succ] at a5 a7
    have b1 : x5 * 10 ≤ 1000000000 := by
      have : x5 * 10 * 1 ≤ x5 * 10 * 10 ^ k := Int.mul_le_mul_of_nonneg_left (by omega) (by omega)
      have e : x5 * 10 * 10 ^ k = x5 * (10 ^ k * 10) := by rw [Int.mul_assoc, Int.mul_comm 10]
      omega
    have b2 : 10 * (x7 + 1) ≤ 1000000000 := by
      have : 1 * (10 * (x7 + 1)) ≤ 10 ^ k * (10 * (x7 + 1)) := Int.mul_le_mul_of_nonneg_right (by omega) (by omega)
      rw [← Int.mul_assoc (10 ^ k)] at this
      omega
    rw [w64_id (x := x5 * 10) ⟨by omega, by omega⟩, w64_id (x := 10 * x7) ⟨by omega, by omega⟩, w64_id (x := 10 * x7 + gC s (p + 1) x4 % 256) ⟨by omega, by omega⟩, w64_id (x := 10 * x7 + gC s (p + 1) x4 % 256 - 48) ⟨by omega, by omega⟩, w32_id (x := x4 + 1) ⟨by omega, by omega⟩, w32_id (x := x9 + 1) ⟨by omega, by omega⟩]
    obtain ⟨j, j1, j2, j3, j4⟩ := ih n (x4 + 1) (x5 * 10) (10 * x7 + gC s (p + 1) x4 % 256 - 48) (x9 + 1) (by omega) (by omega) (by omega) (by omega) (by omega) (by rw [Int.mul_assoc, Int.mul_comm 10]; exact a5) (by omega) (by
      have : 10 ^ k * (10 * x7 + gC s (p + 1) x4 % 256 - 48 + 1) ≤ 10 ^ k * (10 * (x7 + 1)) := Int.mul_le_mul_of_nonneg_left (by omega) (by omega)
      rw [← Int.mul_assoc] at this; omega) (fun i hi hi2 => hd i (by omega) hi2)
    refine ⟨j + 1, by omega, fun _ _ => by omega, fun _ => by have := j3 (by omega); omega, ?_⟩
    rw [j4, bsl_cons (show x4 < x4 + ((j + 1 : Nat) : Int) by omega)]
    have e1 : x4 + 1 + (j : Int) = x4 + ((j + 1 : Nat) : Int) := by push_cast; omega
    have e2 : x5 * 10 * 10 ^ j = x5 * 10 ^ (j + 1) := by rw [Int.pow_succ, Int.mul_assoc, Int.mul_comm 10]
    rw [e1, e2]
    show some (_, _, _, s) = some (_, _, dvA (10 * x7 + (gC s (p + 1) x4 % 256 - 48)) _, s)
    rw [show 10 * x7 + gC s (p + 1) x4 % 256 - 48 = 10 * x7 + (gC s (p + 1) x4 % 256 - 48) by omega]
theorem read8 {o p : Nat} (ho : o + 1 < 199) (hp : p + 1 < 199) (hop : p ≠ o) {x3 : Int} : ∀ (k n : Nat) (s : vS) (x4 : Int), NWf s o → x3 ≤ gN s (p + 1) → gN s (p + 1) ≤ 33554432 → 0 ≤ x4 → x4 ≤ x3 → x3 - x4 ≤ k → k < n → gI s o 1 + k < 400000 → (∀ i : Int, x4 ≤ i → i < x3 → 48 ≤ gC s (p + 1) i % 256 ∧ gC s (p + 1) i % 256 ≤ 57) → wpo (l_X7_read_8 o p n x3 x4 s) fun s' => NWf s' o ∧ nv s' o = dvA (nv s o) (bsl s p x4 x3) ∧ gI s o 1 ≤ gI s' o 1 ∧ gI s' o 1 ≤ gI s o 1 + (x3 - x4) ∧ gN s (o + 1) ≤ gN s' (o + 1) ∧ (gN s' (o + 1) = gN s (o + 1) ∨ gN s' (o + 1) ≤ 2 * gI s' o 1) := by
  intro k
  induction k with
  | zero =>
    intro n s x4 h h3 hb a1 a2 hk hn hl hd
    obtain ⟨n, rfl⟩ : ∃ m, n = m + 1 := ⟨n - 1, by omega⟩
    unfold l_X7_read_8
    rw [if_pos (by omega)]
    exact wpo_some.mpr ⟨h, by rw [bsl_nil (by omega)]; rfl, Int.le_refl _, by omega, Nat.le_refl _, Or.inl rfl⟩
  | succ k ih =>
    intro n s x4 h h3 hb a1 a2 hk hn hl hd
    obtain ⟨n, rfl⟩ : ∃ m, n = m + 1 := ⟨n - 1, by omega⟩
    unfold l_X7_read_8
    by_cases c : x3 ≤ x4
    · rw [if_pos c]
      exact wpo_some.mpr ⟨h, by rw [bsl_nil (by omega)]; rfl, Int.le_refl _, by omega, Nat.le_refl _, Or.inl rfl⟩
    rw [if_neg c]
    obtain ⟨j, j1, j2, j3, j4⟩ := read23 o h3 hb 9 FU x4 1 0 0 a1 (by decide) (by decide) (by decide) (by decide) (by decide) (by decide) (by decide) hd
    rw [j4, lq_3_eq]
    have j2 := j2 (by omega) (by decide)
    have j3 := j3 (by omega)
    unfold j_X7_read_73
    have hpj : (1 : Int) ≤ 10 ^ j := by have := pow_pos' 10 (by decide) j; omega
    have hpj2 : (10 : Int) ^ j ≤ 1000000000 := by
      have : ∀ j : Fin 10, (10 : Int) ^ j.val ≤ 1000000000 := by decide
      exact this ⟨j, by omega⟩
    have dn := dvA_nn (bsl s p x4 (x4 + j)) 0 (by decide) (fun c hc => by
      unfold bsl rowL at hc; obtain ⟨i, hi, rfl⟩ := List.mem_map.mp hc
      have := List.mem_range.mp hi
      exact hd _ (by omega) (by omega))
    rw [bsl_len, show (x4 + (j : Int) - x4).toNat = j by omega] at dn
    rw [Int.one_mul]
    refine wpo_bdv.mpr ?_
    have fr : ∀ r, f_X7_grow o (10 ^ j) (dvA 0 (bsl s p x4 (x4 + j))) s = some r → Fr (W_f_X7_grow o) s r := fun r e => fr_f_X7_grow o (10 ^ j) (dvA 0 (bsl s p x4 (x4 + j))) s r e
    refine ((X7_grow ho h ⟨hpj, hpj2⟩ ⟨dn.1, by omega⟩ (by omega)).and fr).mono ?_
    rintro s1 ⟨⟨g1, g2, g3, g4, g5, g6⟩, fr1⟩
    have f1 : gN s1 (p + 1) = gN s (p + 1) := fr1.rN hp (by simp [W_f_X7_grow]; omega)
    have f2 : gC s1 (p + 1) = gC s (p + 1) := fr1.rC hp (by simp [W_f_X7_grow]; omega)
    refine (ih n s1 (x4 + j) g1 (by rw [f1]; exact h3) (by rw [f1]; exact hb) (by omega) (by omega) (by omega) (by omega) (by omega) (by rw [f2]; exact fun i hi hi2 => hd i (by omega) hi2)).mono ?_
    rintro s2 ⟨r1, r2, r6, r3, r4, r5⟩
    refine ⟨r1, ?_, by omega, by omega, by omega, by omega⟩
    rw [r2, g2, bsl_app (show x4 ≤ x4 + (j : Int) by omega) (show x4 + (j : Int) ≤ x3 by omega), dvA_app, dvA_lin (bsl s p x4 (x4 + j)) (nv s o), bsl_len, show (x4 + (j : Int) - x4).toNat = j by omega]
    congr 1
    unfold bsl; rw [f2]
theorem X7_read {s : vS} {o p : Nat} (ho : o + 1 < 199) (hp : p + 1 < 199) (hop : p ≠ o) {a b : Int} (h : NW0 s o) (h3 : b ≤ gN s (p + 1)) (hb : gN s (p + 1) ≤ 33554432) (h0 : 0 ≤ a) (h1 : a ≤ b) (hl : b - a < 400000) (hd : ∀ i : Int, a ≤ i → i < b → 48 ≤ gC s (p + 1) i % 256 ∧ gC s (p + 1) i % 256 ≤ 57) : wpo (f_X7_read o p a b s) fun s' => NWf s' o ∧ nv s' o = dvA 0 (bsl s p a b) ∧ gI s' o 1 ≤ b - a ∧ gN s (o + 1) ≤ gN s' (o + 1) ∧ (gN s' (o + 1) = gN s (o + 1) ∨ gN s' (o + 1) ≤ 2 * gI s' o 1) ∧ Fr (W_f_X7_read o) s s' := by
  suffices key : wpo (f_X7_read o p a b s) (fun s' => NWf s' o ∧ nv s' o = dvA 0 (bsl s p a b) ∧ gI s' o 1 ≤ b - a ∧ gN s (o + 1) ≤ gN s' (o + 1) ∧ (gN s' (o + 1) = gN s (o + 1) ∨ gN s' (o + 1) ≤ 2 * gI s' o 1)) from (key.and (fun r e => fr_f_X7_read o p a b s r e)).mono fun r h => ⟨h.1.1, h.1.2.1, h.1.2.2.1, h.1.2.2.2.1, h.1.2.2.2.2, h.2⟩
  obtain ⟨k1, k2, k3, k4⟩ := h
  unfold f_X7_read
  rw [stp_eq]
  generalize hs : sI s o 1 0 = s1
  have e1 : gI s1 o 1 = 0 := by rw [← hs]; simp only [gI_sI, gI_sR, gI_sA, gI_sE, gI_sw2, gI_rs, gI_cpA, gI_gh1, gL_sI, gL_sR, gL_sA, gL_sE, gL_sw2, gL_rs, gL_cpA, gR_sI, gR_sR, gR_sA, gR_sE, gR_sw2, gR_rs, gR_cpA, gN_sI, gN_sR, gN_gh1, gN_sA, gN_sE, gN_cpA, gN_sw2, gN_rs, gE_gC, gB_gC, gZ_gC, gEL_gC, gC_sI, gC_sR, gC_gh1, gC_sA, gC_sE, gC_cpA, gC_sw2, gC_rs, Nat.reduceEqDiff, Nat.reduceAdd, Nat.reduceLT, Nat.reduceLeDiff, Nat.reduceBEq, reduceIte, and_self, and_true, true_and, and_false, false_and, if_true, if_false, Nat.reduceMul, Int.reduceEq, Int.reduceLT, Int.reduceLE, Int.reduceNeg, Int.reduceAdd, Int.reduceMul, Int.reduceSub]; decide
  have e2 : ∀ q, gN s1 q = gN s q := by intro q; rw [← hs]; rfl
  have e3 : ∀ q, gC s1 q = gC s q := by intro q; rw [← hs]; rfl
  have e4 : nv s1 o = 0 := by unfold nv wds; rw [e1]; rfl
  refine wpo_lq_0.mpr ((read8 ho hp hop (b - a).toNat FU s1 a ⟨⟨by omega, by rw [e2]; omega, by rw [e2]; omega, by rw [e2]; omega⟩, Or.inl e1⟩ (by rw [e2]; exact h3) (by rw [e2]; exact hb) h0 h1 (by omega) (by unfold FU; omega) (by omega) (by rw [e3]; exact hd)).mono ?_)
  rintro s' ⟨r1, r2, r6, r3, r4, r5⟩
  rw [e2] at r4 r5
  refine wpo_some.mpr ⟨r1, ?_, by omega, r4, r5⟩
  rw [r2, e4]; congr 1; unfold bsl; rw [e3]
