set_option maxRecDepth 100000 set_option linter.unusedVariables false set_option linter.unusedSimpArgs false
/-! PURE 46: whole numbers as bytes -/
theorem pow_pos' (b : Int) (hb : 0 < b) : ∀ k : Nat, 0 < b ^ k
  | 0 => by simp
  | k + 1 => by rw [Int.pow_succ]; exact Int.mul_pos (pow_pos' b hb k) hb
/-- byte k of a number, from below -/
def byt (z : Int) (k : Nat) : Int := z / 256 ^ k % 256
/-- so many bytes of a number, the highest first -/
def be (m : Nat) (z : Int) : List Int := rowL m (fun i => byt z (m - 1 - i))
theorem be_len (m : Nat) (z : Int) : (be m z).length = m := rowL_len _ _
theorem byt_rg (z : Int) (k : Nat) : 0 ≤ byt z k ∧ byt z k < 256 := by unfold byt; omega
theorem be_cons (m : Nat) (z : Int) : be (m + 1) z = byt z m :: be m z := by
  unfold be; rw [rowL_cons]; congr 1; apply rowL_congr; intro i hi; congr 1; omega
theorem be_snoc (m : Nat) (z : Int) : be (m + 1) z = be m (z / 256) ++ [byt z 0] := by
  unfold be; rw [rowL_succ]; congr 1
  · apply rowL_congr; intro i hi
    unfold byt
    rw [show m + 1 - 1 - i = (m - 1 - i) + 1 by omega, Int.pow_succ, Int.mul_comm, ← Int.ediv_ediv_of_nonneg (by omega : (0:Int) ≤ 256)]
  · congr 2; omega
theorem div_pow (z : Int) (a b : Nat) : z / 256 ^ (a + b) = z / 256 ^ a / 256 ^ b := by
  rw [Int.pow_add, Int.ediv_ediv_of_nonneg (Int.le_of_lt (pow_pos' 256 (by decide) a))]
/-- m bytes are enough for z -/
def fits (m : Nat) (z : Int) : Prop := -(128 * 256 ^ m) ≤ z ∧ z < 128 * 256 ^ m
def isSb (m : Nat) (z : Int) : Prop := fits m z ∧ (m = 0 ∨ ¬fits (m - 1) z)
/-- the shortest bytes of a number -/
def SB (z : Int) (L : List Int) : Prop := ∃ m, isSb m z ∧ L = be (m + 1) z
theorem fits_mono {m n : Nat} {z : Int} (h : m ≤ n) (hf : fits m z) : fits n z := by
  obtain ⟨d, rfl⟩ := Nat.exists_eq_add_of_le h
  unfold fits at *
  have h1 : (256 : Int) ^ m ≤ 256 ^ (m + d) := by
    rw [Int.pow_add]
    have := pow_pos' 256 (by decide) m
    have h2 := pow_pos' 256 (by decide) d
    calc (256 : Int) ^ m = 256 ^ m * 1 := by rw [Int.mul_one]
      _ ≤ 256 ^ m * 256 ^ d := Int.mul_le_mul_of_nonneg_left (by omega) (by omega)
  omega
theorem isSb_uniq {m n : Nat} {z : Int} (h : isSb m z) (k : isSb n z) : m = n := by
  obtain ⟨h1, h2⟩ := h
  obtain ⟨k1, k2⟩ := k
  rcases Nat.lt_trichotomy m n with c | c | c
  · rcases k2 with k2 | k2
    · omega
    · exact absurd (fits_mono (by omega) h1) k2
  · exact c
  · rcases h2 with h2 | h2
    · omega
    · exact absurd (fits_mono (by omega) k1) h2
theorem SB_uniq {z : Int} {L M : List Int} (h : SB z L) (k : SB z M) : L = M := by
  obtain ⟨m, h1, rfl⟩ := h
  obtain ⟨n, k1, rfl⟩ := k
  rw [isSb_uniq h1 k1]
theorem fits_ex : ∀ (n : Nat) (z : Int), -(128 * 256 ^ n) ≤ z → z < 128 * 256 ^ n → ∃ m, isSb m z
  | 0, z, h1, h2 => ⟨0, ⟨h1, h2⟩, Or.inl rfl⟩
  | n + 1, z, h1, h2 => by
    by_cases c : fits n z
    · exact fits_ex n z c.1 c.2
    · exact ⟨n + 1, ⟨h1, h2⟩, Or.inr c⟩
/-- the value of so many low bytes -/
theorem be_val : ∀ (m : Nat) (z w : Int), be m z = be m w → z % 256 ^ m = w % 256 ^ m
  | 0, z, w, _ => by simp [Int.emod_one]
  | m + 1, z, w, h => by
    rw [be_snoc, be_snoc] at h
    have l : (be m (z / 256)).length = (be m (w / 256)).length := by rw [be_len, be_len]
    obtain ⟨a, b⟩ := List.append_inj h l
    have ih := be_val m (z / 256) (w / 256) a
    have b := List.cons.inj b
    have e : ∀ x : Int, x % 256 ^ (m + 1) = 256 * (x / 256 % 256 ^ m) + x % 256 := by
      intro x
      have hp := pow_pos' 256 (by decide) m
      have q1 := Int.emod_add_mul_ediv (x / 256) (256 ^ m)
      have q2 := Int.emod_add_mul_ediv x 256
      have n1 := Int.emod_nonneg (x / 256) (show (256 : Int) ^ m ≠ 0 by omega)
      have n2 := Int.emod_lt_of_pos (x / 256) hp
      have n3 := Int.emod_nonneg x (show (256 : Int) ≠ 0 by decide)
      have n4 := Int.emod_lt_of_pos x (show (0 : Int) < 256 by decide)
      rw [Int.pow_succ]
      have e1 : x = (256 * (x / 256 % 256 ^ m) + x % 256) + 256 ^ m * 256 * (x / 256 / 256 ^ m) := by
        have : 256 * (x / 256) = 256 * (x / 256 % 256 ^ m) + 256 ^ m * 256 * (x / 256 / 256 ^ m) := by
          conv => lhs; rw [← q1]
          rw [Int.mul_add]
          congr 1
          rw [Int.mul_comm (256 ^ m) 256, Int.mul_assoc]
        omega
      conv => lhs; rw [e1]
      rw [Int.add_mul_emod_self_left]
      apply Int.emod_eq_of_lt
      · omega
      · generalize (256 : Int) ^ m = P at *
        omega
    rw [e z, e w, ih]
    have bb := b.1
    unfold byt at bb
    rw [Int.pow_zero, Int.ediv_one, Int.ediv_one] at bb
    omega
theorem emod_inj {P z w : Int} (hP : 0 < P) (h : z % P = w % P) (h1 : -P ≤ 2 * z) (h2 : 2 * z < P) (h3 : -P ≤ 2 * w) (h4 : 2 * w < P) : z = w := by
  have a := Int.emod_add_mul_ediv z P
  have b := Int.emod_add_mul_ediv w P
  rw [h] at a
  have e : P * (z / P) - P * (w / P) = z - w := by omega
  rw [← Int.mul_sub] at e
  generalize z / P - w / P = d at e
  have : d = 0 := by
    rcases Int.lt_trichotomy d 0 with c | c | c
    · have : P * d ≤ P * (-1) := Int.mul_le_mul_of_nonneg_left (by omega) (by omega)
      omega
    · exact c
    · have : P * 1 ≤ P * d := Int.mul_le_mul_of_nonneg_left (by omega) (by omega)
      omega
  subst this
  omega
theorem SB_inj {z w : Int} {L : List Int} (h : SB z L) (k : SB w L) : z = w := by
  obtain ⟨m, h1, rfl⟩ := h
  obtain ⟨n, k1, e⟩ := k
  have l : m + 1 = n + 1 := by have := congrArg List.length e; rwa [be_len, be_len] at this
  have l : m = n := by omega
  subst l
  have q := be_val _ _ _ e
  have hp := pow_pos' 256 (by decide) m
  refine emod_inj (pow_pos' 256 (by decide) (m + 1)) q ?_ ?_ ?_ ?_
  all_goals (rw [Int.pow_succ]; have := h1.1; have := k1.1; unfold fits at *; generalize (256 : Int) ^ m = P at *; omega)
