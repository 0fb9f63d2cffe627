set_option maxRecDepth 100000 set_option linter.unusedVariables false set_option linter.unusedSimpArgs false
/-! PURE 46b: signs, order, shortness -/
theorem fits_div {m : Nat} {z : Int} : fits m z ↔ -128 ≤ z / 256 ^ m ∧ z / 256 ^ m < 128 := by
  unfold fits
  have hp := pow_pos' 256 (by decide) m
  rw [Int.le_ediv_iff_mul_le hp, Int.ediv_lt_iff_lt_mul hp, Int.neg_mul]
theorem neg_div {m : Nat} {z : Int} : z < 0 ↔ z / 256 ^ m < 0 := by
  have hp := pow_pos' 256 (by decide) m
  rw [Int.ediv_lt_iff_lt_mul hp, Int.zero_mul]
/-- whether the first byte could be left out -/
theorem redun {m : Nat} {z : Int} (h : fits (m + 1) z) : ((byt z (m + 1) = 0 ∧ byt z m < 128) ∨ (byt z (m + 1) = 255 ∧ 127 < byt z m)) ↔ fits m z := by
  rw [fits_div] at h ⊢
  unfold byt
  rw [show m + 1 = m + 1 from rfl, div_pow z m 1, Int.pow_one] at *
  generalize z / 256 ^ m = q at *
  omega
theorem sign_byt {m : Nat} {z : Int} (h : fits m z) : 127 < byt z m ↔ z < 0 := by
  rw [fits_div] at h
  rw [neg_div (m := m)]
  unfold byt
  generalize z / 256 ^ m = q at *
  omega
theorem mod_step (m : Nat) (z : Int) : z % 256 ^ (m + 1) = byt z m * 256 ^ m + z % 256 ^ m := by
  have hp := pow_pos' 256 (by decide) m
  have q1 := Int.emod_add_mul_ediv z (256 ^ m)
  have q2 := Int.emod_add_mul_ediv (z / 256 ^ m) 256
  have n1 := Int.emod_nonneg z (show (256 : Int) ^ m ≠ 0 by omega)
  have n2 := Int.emod_lt_of_pos z hp
  unfold byt
  rw [Int.pow_succ]
  have e1 : z = (z / 256 ^ m % 256 * 256 ^ m + z % 256 ^ m) + 256 ^ m * 256 * (z / 256 ^ m / 256) := by
    have : 256 ^ m * (z / 256 ^ m) = z / 256 ^ m % 256 * 256 ^ m + 256 ^ m * 256 * (z / 256 ^ m / 256) := by
      conv => lhs; rw [← q2]
      rw [Int.mul_add, Int.mul_comm (256 ^ m) (z / 256 ^ m % 256), Int.mul_assoc]
    omega
  conv => lhs; rw [e1]
  rw [Int.add_mul_emod_self_left]
  have b1 : 0 ≤ z / 256 ^ m % 256 := Int.emod_nonneg _ (by decide)
  have b2 : z / 256 ^ m % 256 ≤ 255 := by have := Int.emod_lt_of_pos (z / 256 ^ m) (show (0 : Int) < 256 by decide); omega
  generalize z / 256 ^ m % 256 = b at *
  generalize (256 : Int) ^ m = P at *
  apply Int.emod_eq_of_lt
  · have := Int.mul_nonneg b1 (Int.le_of_lt hp); omega
  · have : b * P ≤ 255 * P := Int.mul_le_mul_of_nonneg_right b2 (by omega)
    omega
theorem cmpL_be : ∀ (m : Nat) (z w : Int), (cmpL (be m z) (be m w) < 0 ↔ z % 256 ^ m < w % 256 ^ m) ∧ (cmpL (be m z) (be m w) = 0 ↔ z % 256 ^ m = w % 256 ^ m)
  | 0, z, w => by simp [be, rowL, cmpL, Int.emod_one]
  | m + 1, z, w => by
    have ih := cmpL_be m z w
    rw [be_cons, be_cons, cmpL, mod_step, mod_step]
    have hp := pow_pos' 256 (by decide) m
    have n1 := Int.emod_nonneg z (show (256 : Int) ^ m ≠ 0 by omega)
    have n2 := Int.emod_lt_of_pos z hp
    have n3 := Int.emod_nonneg w (show (256 : Int) ^ m ≠ 0 by omega)
    have n4 := Int.emod_lt_of_pos w hp
    by_cases c : byt z m = byt w m
    · rw [if_pos c, c]; omega
    · rw [if_neg c]
      generalize byt z m = a at *
      generalize byt w m = b at *
      generalize (256 : Int) ^ m = P at *
      rcases Int.lt_or_lt_of_ne c with d | d
      · have : (a + 1) * P ≤ b * P := Int.mul_le_mul_of_nonneg_right (by omega) (by omega)
        rw [Int.add_mul, Int.one_mul] at this
        omega
      · have : (b + 1) * P ≤ a * P := Int.mul_le_mul_of_nonneg_right (by omega) (by omega)
        rw [Int.add_mul, Int.one_mul] at this
        omega
theorem mod_sign {m : Nat} {z : Int} (h : fits m z) : z % 256 ^ (m + 1) = if z < 0 then z + 256 ^ (m + 1) else z := by
  unfold fits at h
  have hp := pow_pos' 256 (by decide) m
  rw [Int.pow_succ]
  generalize (256 : Int) ^ m = P at *
  by_cases c : z < 0
  · rw [if_pos c, ← Int.add_emod_right, Int.emod_eq_of_lt (by omega) (by omega)]
  · rw [if_neg c, Int.emod_eq_of_lt (by omega) (by omega)]
/-- the order of numbers by their shortest bytes -/
def cmpN (L M : List Int) : Int :=
  if (127 < L.getD 0 0) ≠ (127 < M.getD 0 0) then (if 127 < L.getD 0 0 then -1 else 1)
  else if L.length ≠ M.length then (if (L.length < M.length) = (127 < L.getD 0 0) then 1 else -1)
  else cmpL L M
theorem be_first (m : Nat) (z : Int) : (be (m + 1) z).getD 0 0 = byt z m := by rw [be_cons]; rfl
theorem cmpN_SB {z w : Int} {L M : List Int} (h : SB z L) (k : SB w M) : (cmpN L M < 0 ↔ z < w) ∧ (cmpN L M = 0 ↔ z = w) := by
  obtain ⟨m, ⟨h1, h2⟩, rfl⟩ := h
  obtain ⟨n, ⟨k1, k2⟩, rfl⟩ := k
  unfold cmpN
  rw [be_first, be_first, be_len, be_len]
  have s1 := sign_byt h1
  have s2 := sign_byt k1
  by_cases c : (127 < byt z m) = (127 < byt w n)
  · rw [if_neg (by simp [c])]
    have cs : z < 0 ↔ w < 0 := by rw [← s1, ← s2, c]
    by_cases d : m = n
    · subst d
      rw [if_neg (by simp)]
      have q := cmpL_be (m + 1) z w
      rw [mod_sign h1, mod_sign k1] at q
      rw [q.1, q.2]
      by_cases e : z < 0
      · rw [if_pos e, if_pos (cs.mp e)]; omega
      · rw [if_neg e, if_neg (fun x => e (cs.mpr x))]; exact ⟨Iff.rfl, Iff.rfl⟩
    · rw [if_pos (by omega)]
      rcases Nat.lt_or_gt_of_ne d with e | e
      · have nf : ¬fits (n - 1) w := by rcases k2 with k2 | k2; omega; exact k2
        have f1 := fits_mono (show m ≤ n - 1 by omega) h1
        unfold fits at nf f1
        by_cases g : z < 0
        · rw [if_pos (propext ⟨fun _ => s1.mpr g, fun _ => by omega⟩)]; have := cs.mp g; omega
        · rw [if_neg (show ¬((m + 1 < n + 1) = (127 < byt z m)) from fun x => g (s1.mp (x.mp (by omega))))]; have : ¬w < 0 := fun x => g (cs.mpr x); omega
      · have nf : ¬fits (m - 1) z := by rcases h2 with h2 | h2; omega; exact h2
        have f1 := fits_mono (show n ≤ m - 1 by omega) k1
        unfold fits at nf f1
        by_cases g : z < 0
        · rw [if_neg (show ¬((m + 1 < n + 1) = (127 < byt z m)) from fun x => absurd (x.mpr (s1.mpr g)) (by omega))]; have := cs.mp g; omega
        · rw [if_pos (propext ⟨fun _ => by omega, fun x => absurd (s1.mp x) g⟩)]; have : ¬w < 0 := fun x => g (cs.mpr x); omega
  · rw [if_pos c]
    rw [s1, s2] at c
    by_cases g : z < 0
    · have : ¬w < 0 := fun x => c (by simp [g, x])
      rw [if_pos (s1.mpr g)]; omega
    · have : w < 0 := by
        by_cases x : w < 0
        · exact x
        · exact absurd (by simp [g, x]) c
      rw [if_neg (fun x => g (s1.mp x))]; omega
/-- each row of bytes says a number -/
theorem be_ex : ∀ (L : List Int), (∀ b ∈ L, 0 ≤ b ∧ b < 256) → ∃ z : Int, 0 ≤ z ∧ z < 256 ^ L.length ∧ L = be L.length z
  | [], _ => ⟨0, by decide, by decide, rfl⟩
  | b :: L, h => by
    obtain ⟨z, h1, h2, h3⟩ := be_ex L (fun x hx => h x (by simp [hx]))
    have hb := h b (by simp)
    have hp := pow_pos' 256 (by decide) L.length
    refine ⟨b * 256 ^ L.length + z, ?_, ?_, ?_⟩
    · have := Int.mul_nonneg hb.1 (Int.le_of_lt hp); omega
    · rw [List.length_cons, Int.pow_succ]
      have : b * 256 ^ L.length ≤ 255 * 256 ^ L.length := Int.mul_le_mul_of_nonneg_right (by omega) (by omega)
      generalize (256 : Int) ^ L.length = P at *
      omega
    · rw [List.length_cons, be_cons]
      congr 1
      · unfold byt
        rw [Int.add_comm, Int.add_mul_ediv_right _ _ (by omega), Int.ediv_eq_zero_of_lt h1 h2, Int.zero_add]
        exact (Int.emod_eq_of_lt hb.1 hb.2).symm
      · conv => lhs; rw [h3]
        unfold be
        apply rowL_congr
        intro i hi
        unfold byt
        have e : L.length = (L.length - 1 - i) + (i + 1) := by omega
        have e2 : (256 : Int) ^ L.length = 256 ^ (L.length - 1 - i) * (256 ^ i * 256) := by
          conv => lhs; rw [e]
          rw [Int.pow_add, Int.pow_succ]
        have hq := pow_pos' 256 (by decide) (L.length - 1 - i)
        rw [e2, show b * (256 ^ (L.length - 1 - i) * (256 ^ i * 256)) + z = z + 256 ^ (L.length - 1 - i) * (b * (256 ^ i * 256)) by
          rw [Int.add_comm, Int.mul_left_comm], Int.add_mul_ediv_left _ _ (by omega), show b * (256 ^ i * 256) = 256 * (b * 256 ^ i) by
          rw [Int.mul_comm 256, Int.mul_assoc], Int.add_mul_emod_self_left]
/-- as few bytes as can be -/
def shortB (L : List Int) : Prop := L ≠ [] ∧ (1 < L.length → ¬((L.getD 0 0 = 0 ∧ L.getD 1 0 < 128) ∨ (L.getD 0 0 = 255 ∧ 127 < L.getD 1 0)))
theorem be_shift (m : Nat) (z : Int) : be m (z - 256 ^ m) = be m z := by
  unfold be
  apply rowL_congr
  intro i hi
  unfold byt
  have e : m = (m - 1 - i) + (i + 1) := by omega
  have e2 : (256 : Int) ^ m = 256 ^ (m - 1 - i) * (256 ^ i * 256) := by
    conv => lhs; rw [e]
    rw [Int.pow_add, Int.pow_succ]
  have hq := pow_pos' 256 (by decide) (m - 1 - i)
  rw [e2, show z - 256 ^ (m - 1 - i) * (256 ^ i * 256) = z + 256 ^ (m - 1 - i) * (-(256 ^ i * 256)) by rw [Int.mul_neg]; omega, Int.add_mul_ediv_left _ _ (by omega), show -((256 : Int) ^ i * 256) = 256 * (-(256 ^ i)) by rw [Int.mul_neg, Int.mul_comm], Int.add_mul_emod_self_left]
theorem short_SB {L : List Int} (hb : ∀ b ∈ L, 0 ≤ b ∧ b < 256) : shortB L ↔ ∃ z, SB z L := by
  constructor
  · rintro ⟨h1, h2⟩
    obtain ⟨m, hm⟩ : ∃ m, L.length = m + 1 := ⟨L.length - 1, by have := List.length_pos_iff.mpr h1; omega⟩
    obtain ⟨z, z1, z2, z3⟩ := be_ex L hb
    rw [hm] at z2 z3
    have hp := pow_pos' 256 (by decide) m
    have key : ∃ y, fits m y ∧ L = be (m + 1) y := by
      by_cases c : z < 128 * 256 ^ m
      · exact ⟨z, ⟨by omega, c⟩, z3⟩
      · refine ⟨z - 256 ^ (m + 1), ⟨?_, ?_⟩, by rw [be_shift]; exact z3⟩
        all_goals (rw [Int.pow_succ] at *; generalize (256 : Int) ^ m = P at *; omega)
    obtain ⟨y, y1, y2⟩ := key
    refine ⟨y, m, ⟨y1, ?_⟩, y2⟩
    by_cases d : m = 0
    · exact Or.inl d
    · right
      obtain ⟨k, rfl⟩ : ∃ k, m = k + 1 := ⟨m - 1, by omega⟩
      intro f
      have r := (redun y1).mpr f
      apply h2 (by omega)
      rw [y2, be_cons, be_cons]
      exact r
  · rintro ⟨z, m, ⟨h1, h2⟩, rfl⟩
    refine ⟨by rw [be_cons]; simp, fun hl => ?_⟩
    rw [be_len] at hl
    obtain ⟨k, rfl⟩ : ∃ k, m = k + 1 := ⟨m - 1, by omega⟩
    rw [be_cons, be_cons]
    intro r
    have := (redun h1).mp r
    rcases h2 with h2 | h2
    · omega
    · exact h2 this
