set_option maxRecDepth 100000 set_option linter.unusedVariables false set_option linter.unusedSimpArgs false
/-! PURE 49: what lexemes are made of -/
theorem scan_all (p : Int → Prop) [DecidablePred p] : ∀ (k : Nat) (i j : Int), i ≤ j → j < scan p k i → p j
  | 0, i, j, h1, h2 => by unfold scan at h2; omega
  | k + 1, i, j, h1, h2 => by
    unfold scan at h2
    by_cases c : p i
    · rw [if_pos c] at h2
      by_cases e : j = i
      · rw [e]; exact c
      · exact scan_all p k (i + 1) j (by omega) h2
    · rw [if_neg c] at h2; omega
theorem lunit_num {T : List Int} {i : Int} (h : (lunit T i).1 = 2) : cDg (cha T i) ∧ ((lunit T i).2 = i + 1 ∨ (lunit T i).2 = scan (pDig T) T.length (i + 1)) := by
  have U := lunit.eq_1 T i
  simp only [] at U
  by_cases c1 : cWh (cha T i)
  · rw [if_pos c1] at U; rw [U] at h; exact absurd h (by simp)
  rw [if_neg c1] at U
  by_cases c2 : cha T i = 45 ∧ cha T (i + 1) = 45
  · rw [if_pos c2] at U; rw [U] at h; exact absurd h (by simp)
  rw [if_neg c2] at U
  by_cases c3 : cha T i = 47 ∧ cha T (i + 1) = 42
  · rw [if_pos c3] at U; rw [U] at h; simp only at h; split at h <;> exact absurd h (by decide)
  rw [if_neg c3] at U
  by_cases c4 : cLt (cha T i)
  · rw [if_pos c4] at U; rw [U] at h; simp only at h
    unfold nameK at h
    have hr := wIx_rg (slc T i (scan (pName T) T.length (i + 1)))
    by_cases cl : cLa (cha T i)
    · rw [if_pos cl] at h; simp only [] at h
      by_cases cw : wIx (slc T i (scan (pName T) T.length (i + 1))) lwords 0 = -1
      · rw [if_pos cw] at h; exact absurd h (by decide)
      · rw [if_neg cw] at h; omega
    · rw [if_neg cl] at h; exact absurd h (by decide)
  rw [if_neg c4] at U
  by_cases c5 : cDg (cha T i)
  · rw [if_pos c5] at U
    refine ⟨c5, ?_⟩
    by_cases c6 : cha T i = 48
    · rw [if_pos c6] at U; rw [U]; exact Or.inl rfl
    · rw [if_neg c6] at U; rw [U]; exact Or.inr rfl
  rw [if_neg c5] at U
  exfalso
  by_cases c6 : cha T i = 34
  · rw [if_pos c6] at U; rw [U] at h; simp only at h; split at h <;> exact absurd h (by decide)
  rw [if_neg c6] at U
  by_cases c7 : cha T i = 39
  · rw [if_pos c7] at U; rw [U] at h; simp only at h
    split at h
    · split at h <;> exact absurd h (by decide)
    · exact absurd h (by decide)
  rw [if_neg c7] at U
  have sg := psX_rg (cha T i)
  by_cases c8 : sX 1077 (cha T i) < 0
  · rw [if_pos c8] at U; rw [U] at h; exact absurd h (by simp)
  rw [if_neg c8] at U
  by_cases c9 : cha T i = 58 ∧ cha T (i + 1) = 58 ∧ cha T (i + 2) = 61
  · rw [if_pos c9] at U; rw [U] at h; exact absurd h (by simp)
  rw [if_neg c9] at U
  by_cases c10 : cha T i = 46 ∧ cha T (i + 1) = 46
  · rw [if_pos c10] at U
    by_cases d : cha T (i + 2) = 46
    · rw [if_pos d] at U; rw [U] at h; exact absurd h (by simp)
    · rw [if_neg d] at U; rw [U] at h; exact absurd h (by simp)
  rw [if_neg c10] at U
  by_cases c11 : cha T i = 91 ∧ cha T (i + 1) = 91
  · rw [if_pos c11] at U; rw [U] at h; exact absurd h (by simp)
  rw [if_neg c11] at U
  by_cases c12 : cha T i = 93 ∧ cha T (i + 1) = 93
  · rw [if_pos c12] at U; rw [U] at h; exact absurd h (by simp)
  rw [if_neg c12] at U
  rw [U] at h; simp only at h; omega
/-- numbers are digits; lexemes lie in the text -/
theorem lexA_prop {T : List Int} : ∀ (k : Nat) (i : Int), 0 ≤ i → ∀ x ∈ (lexA T k i).1, 0 ≤ x.2.1 ∧ x.2.1 < x.2.2 ∧ x.2.2 ≤ T.length ∧ (x.1 = 2 → ∀ j : Int, x.2.1 ≤ j → j < x.2.2 → cDg (cha T j)) := by
  intro k
  induction k with
  | zero => intro i h0 x hx; unfold lexA at hx; simp at hx
  | succ k ih =>
    intro i h0 x hx
    unfold lexA at hx
    by_cases c : (T.length : Int) ≤ i
    · rw [if_pos c] at hx; simp at hx
    rw [if_neg c] at hx
    have ll := lunit_le h0 (show i < T.length by omega)
    simp only [] at hx
    by_cases c1 : (lunit T i).1 = -3
    · rw [if_pos c1] at hx; simp at hx
    rw [if_neg c1] at hx
    by_cases c2 : (lunit T i).1 = -2
    · rw [if_pos c2] at hx; exact ih _ (by omega) x hx
    rw [if_neg c2] at hx
    simp only [List.mem_cons] at hx
    rcases hx with rfl | hx
    · refine ⟨h0, ll.1, ll.2 c1, fun h2 j j0 j1 => ?_⟩
      simp only at h2 j0 j1
      have u := lunit_num h2
      by_cases e : j = i
      · rw [e]; exact u.1
      · rcases u.2 with q | q
        · omega
        · rw [q] at j1; exact scan_all (pDig T) T.length (i + 1) j (by omega) j1
    · exact ih _ (by omega) x hx
