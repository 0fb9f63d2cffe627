set_option maxRecDepth 100000 set_option linter.unusedVariables false set_option linter.unusedSimpArgs false
/-! PURE 45d: the model's whole text -/
def LA (T : List Int) (i : Int) : List (Int × Int × Int) × Int := lexA T (T.length + 1) i
theorem LA_eq {T : List Int} {i : Int} (h0 : 0 ≤ i) : LA T i = if (T.length : Int) ≤ i then ([], -1) else if (lunit T i).1 = -3 then ([], i) else if (lunit T i).1 = -2 then LA T (lunit T i).2 else (((lunit T i).1, i, (lunit T i).2) :: (LA T (lunit T i).2).1, (LA T (lunit T i).2).2) := by
  unfold LA
  rw [lexA]
  by_cases c : (T.length : Int) ≤ i
  · rw [if_pos c, if_pos c]
  rw [if_neg c, if_neg c]
  have hl := lunit_le h0 (show i < T.length by omega)
  simp only []
  rw [lexA_pos T.length (T.length + 1) (lunit T i).2 (by omega) (by omega) (by omega)]
abbrev isCm (T : List Int) (i : Int) : Prop := cha T i = 47 ∧ cha T (i + 1) = 42
def skp (T : List Int) : Nat → Int → Int × Int
  | 0, i => (i, -1)
  | k + 1, i => if i < T.length ∧ (lunit T i).1 = -2 then skp T k (lunit T i).2 else if i < T.length ∧ isCm T i then ((lunit T i).2, i) else (i, -1)
theorem lunit_cm {T : List Int} {i : Int} (h : isCm T i) : lunit T i = (if (blk T T.length 1 (i + 2)).1 = 0 then -2 else -3, (blk T T.length 1 (i + 2)).2) := by
  unfold lunit; simp only []
  rw [if_neg (show ¬cWh (cha T i) by rw [h.1]; decide), if_neg (show ¬(cha T i = 45 ∧ cha T (i + 1) = 45) by rw [h.1]; omega), if_pos h]
/-- what is skipped: white, comments -/
theorem lunit_skip {T : List Int} {i : Int} (h0 : 0 ≤ i) (h : i < T.length) : (lunit T i).1 = -2 ↔ cWh (cha T i) ∨ (cha T i = 45 ∧ cha T (i + 1) = 45) ∨ (isCm T i ∧ (blk T T.length 1 (i + 2)).1 = 0) := by
  constructor
  · intro q
    by_cases c1 : cWh (cha T i)
    · exact Or.inl c1
    by_cases c2 : cha T i = 45 ∧ cha T (i + 1) = 45
    · exact Or.inr (Or.inl c2)
    by_cases c3 : isCm T i
    · rw [lunit_cm c3] at q
      by_cases d : (blk T T.length 1 (i + 2)).1 = 0
      · exact Or.inr (Or.inr ⟨c3, d⟩)
      · rw [if_neg d] at q; simp only at q; exact absurd q (by decide)
    exfalso
    unfold lunit at q
    simp only [] at q
    rw [if_neg c1, if_neg c2, if_neg c3] at q
    by_cases c4 : cLt (cha T i)
    · rw [if_pos c4] at q; simp only at q; unfold nameK at q
      have := wIx_rg (slc T i (scan (pName T) T.length (i + 1)))
      grind
    rw [if_neg c4] at q
    by_cases c5 : cDg (cha T i)
    · rw [if_pos c5] at q; grind
    rw [if_neg c5] at q
    by_cases c6 : cha T i = 34
    · rw [if_pos c6] at q; simp only at q; grind
    rw [if_neg c6] at q
    by_cases c7 : cha T i = 39
    · rw [if_pos c7] at q; simp only at q; grind
    rw [if_neg c7] at q
    grind
  · intro q
    unfold lunit; simp only []
    rcases q with q | q | q
    · rw [if_pos q]
    · rw [if_neg (show ¬cWh (cha T i) by rw [q.1]; decide), if_pos q]
    · have := lunit_cm q.1; unfold lunit at this; simp only [] at this; rw [this, if_pos q.2]
theorem Mskip_l {T : List Int} : ∀ (k n : Nat) (s : vS) (a : Int), MxT s T → gI s 87 8 = 0 → 0 ≤ a → a ≤ T.length → T.length + 1 - a ≤ k → k + 1 < n → l_X14_skip_4 n a 1 s = some ((skp T k a).1, if (skp T k a).2 = -1 then s else tellS s 1 (skp T k a).2) := by
  intro k
  induction k with
  | zero => intro n s a h hf h0 h1 hk; omega
  | succ k ih =>
    intro n s a h hf h0 h1 hk hn
    obtain ⟨n, rfl⟩ : ∃ m, n = m + 1 := ⟨n - 1, by omega⟩
    have hT := h.2.1
    have fin : ∀ (b : Int) (s : vS) (m : Nat), 0 < m → l_X14_skip_4 m b 0 s = some (b, s) := by
      intro b s m hm
      obtain ⟨m, rfl⟩ : ∃ j, m = j + 1 := ⟨m - 1, by omega⟩
      unfold l_X14_skip_4; rw [if_pos rfl]
    have fin2 : ∀ (b : Int) (s : vS) (m : Nat), 0 < m → gI s 87 8 ≠ 0 → l_X14_skip_4 m b 1 s = some (b, s) := by
      intro b s m hm hs
      obtain ⟨m, rfl⟩ : ∃ j, m = j + 1 := ⟨m - 1, by omega⟩
      unfold l_X14_skip_4; rw [if_neg (by decide), if_neg hs]
    unfold l_X14_skip_4 skp
    rw [if_neg (by decide), if_pos hf, X14_ch h h0, bd_eq, X14_isWhite, bd_eq, X14_ch h h0, bd_eq, w32_id (x := a + 1) ⟨by omega, by omega⟩, X14_ch h (show 0 ≤ a + 1 by omega), bd_eq, w32_id (x := a + 2) ⟨by omega, by omega⟩, vl_eq]
    by_cases hl : a < T.length
    · have ll := lunit_le h0 hl
      have ls := lunit_skip h0 hl
      by_cases c1 : cWh (cha T a)
      · have e : lunit T a = (-2, a + 1) := by unfold lunit; simp only []; rw [if_pos c1]
        rw [if_neg (by rw [b2i_zero]; exact fun q => q c1), if_pos ⟨hl, by rw [e]⟩, e]
        exact ih n s (a + 1) h hf (by omega) (by omega) (by omega) (by omega)
      rw [if_pos (by rw [b2i_zero]; exact c1)]
      by_cases c2 : cha T a = 45 ∧ cha T (a + 1) = 45
      · have e : lunit T a = (-2, lineE T (a + 2)) := by unfold lunit; simp only []; rw [if_neg c1, if_pos c2]
        rw [if_pos c2.1, if_pos c2.2, X14_skipLine h (by omega) (by omega), bd_eq, if_pos ⟨hl, by rw [e]⟩, e]
        rw [e] at ll
        simp only at ll
        exact ih n s _ h hf (by omega) (ll.2 (by decide)) (by omega) (by omega)
      have rest : j_X14_skip_65 (l_X14_skip_4 n) a 1 s = some ((if a < T.length ∧ (lunit T a).1 = -2 then skp T k (lunit T a).2 else if a < T.length ∧ isCm T a then ((lunit T a).2, a) else (a, -1)).1, if (if a < T.length ∧ (lunit T a).1 = -2 then skp T k (lunit T a).2 else if a < T.length ∧ isCm T a then ((lunit T a).2, a) else (a, -1)).2 = -1 then s else tellS s 1 (if a < T.length ∧ (lunit T a).1 = -2 then skp T k (lunit T a).2 else if a < T.length ∧ isCm T a then ((lunit T a).2, a) else (a, -1)).2) := by
        unfold j_X14_skip_65
        rw [X14_ch h h0, bd_eq, w32_id (x := a + 1) ⟨by omega, by omega⟩, X14_ch h (show 0 ≤ a + 1 by omega), bd_eq, X14_skipStars h hf h0 h1, bd_eq]
        by_cases c3 : isCm T a
        · rw [if_pos c3.1, if_pos c3.2]
          have e := lunit_cm c3
          by_cases d : (blk T T.length 1 (a + 2)).1 = 0
          · rw [if_pos d] at e
            rw [if_pos d, if_pos ⟨hl, by rw [e]⟩, e]
            rw [e] at ll
            simp only at ll
            exact ih n s _ h hf (by omega) (ll.2 (by decide)) (by omega) (by omega)
          · rw [if_neg d] at e
            rw [if_neg d, if_neg (fun z => by rw [e] at z; have z2 := z.2; simp only at z2; exact absurd z2 (by decide)), if_pos ⟨hl, c3⟩, e]
            rw [fin2 _ _ n (by omega) (by unfold tellS; simp only [gI_sI, gI_sR, gI_sA, gI_sE, gI_sw2, gI_rs, gI_cpA, gI_gh1, gL_sI, gL_sR, gL_sA, gL_sE, gL_sw2, gL_rs, gL_cpA, gR_sI, gR_sR, gR_sA, gR_sE, gR_sw2, gR_rs, gR_cpA, gN_sI, gN_sR, gN_gh1, gN_sA, gN_sE, gN_cpA, gN_sw2, gN_rs, gE_gC, gB_gC, gZ_gC, gEL_gC, gC_sI, gC_sR, gC_gh1, gC_sA, gC_sE, gC_cpA, gC_sw2, gC_rs, Nat.reduceEqDiff, Nat.reduceAdd, Nat.reduceLT, Nat.reduceLeDiff, Nat.reduceBEq, reduceIte, and_self, and_true, true_and, and_false, false_and, if_true, if_false, Nat.reduceMul, Int.reduceEq, Int.reduceLT, Int.reduceLE, Int.reduceNeg, Int.reduceAdd, Int.reduceMul, Int.reduceSub]; decide)]
            simp only []
            rw [if_neg (by omega)]
        · have n1 : ¬(a < T.length ∧ (lunit T a).1 = -2) := fun z => by rcases ls.mp z.2 with q | q | q; exact c1 q; exact c2 q; exact c3 q.1
          have n2 : ¬(a < T.length ∧ isCm T a) := fun z => c3 z.2
          simp only [n1, n2, if_false, if_true]
          by_cases c4 : cha T a = 47
          · rw [if_pos c4, if_neg (fun z => c3 ⟨c4, z⟩), fin _ _ n (by omega)]
          · rw [if_neg c4, fin _ _ n (by omega)]
      by_cases c2a : cha T a = 45
      · rw [if_pos c2a, if_neg (fun z => c2 ⟨c2a, z⟩)]; exact rest
      · rw [if_neg c2a]; exact rest
    · have o := cha_out (T := T) (i := a) (by omega)
      have n1 : ¬(a < T.length ∧ (lunit T a).1 = -2) := fun z => hl z.1
      have n2 : ¬(a < T.length ∧ isCm T a) := fun z => hl z.1
      simp only [n1, n2, if_false, if_true]
      rw [if_pos (by rw [b2i_zero, o]; omega), if_neg (by rw [o]; decide)]
      unfold j_X14_skip_65
      rw [X14_ch h h0, bd_eq, if_neg (by rw [o]; decide), fin _ _ n (by omega)]
def SK (T : List Int) (i : Int) : Int × Int := skp T (T.length + 1) i
theorem X14_skip {s : vS} {T : List Int} (h : MxT s T) (hf : gI s 87 8 = 0) {a : Int} (h0 : 0 ≤ a) (h1 : a ≤ T.length) : f_X14_skip a s = some ((SK T a).1, if (SK T a).2 = -1 then s else tellS s 1 (SK T a).2) := by
  have hT := h.2.1
  rw [f_X14_skip, Mskip_l (T.length + 1) FU s a h hf h0 h1 (by omega) (by unfold FU; omega), lq_1_eq]; rfl
theorem skp_LA {T : List Int} : ∀ (k : Nat) (i : Int), 0 ≤ i → i ≤ T.length → T.length + 1 - i ≤ k → ((skp T k i).2 = -1 → i ≤ (skp T k i).1 ∧ (skp T k i).1 ≤ T.length ∧ LA T i = LA T (skp T k i).1 ∧ ((skp T k i).1 < T.length → (lunit T (skp T k i).1).1 ≠ -2 ∧ ¬isCm T (skp T k i).1)) ∧ ((skp T k i).2 ≠ -1 → 0 ≤ (skp T k i).2 ∧ (skp T k i).2 < T.length ∧ LA T i = ([], (skp T k i).2)) := by
  intro k
  induction k with
  | zero => intro i h0 h1 h2; omega
  | succ k ih =>
    intro i h0 h1 h2
    unfold skp
    by_cases c : i < T.length ∧ (lunit T i).1 = -2
    · rw [if_pos c]
      have ll := lunit_le h0 c.1
      have e : LA T i = LA T (lunit T i).2 := by rw [LA_eq h0, if_neg (by omega), if_neg (by rw [c.2]; decide), if_pos c.2]
      have q := ih (lunit T i).2 (by omega) (ll.2 (by rw [c.2]; decide)) (by omega)
      rw [e]
      exact ⟨fun z => ⟨by have := (q.1 z).1; omega, (q.1 z).2⟩, q.2⟩
    rw [if_neg c]
    by_cases d : i < T.length ∧ isCm T i
    · rw [if_pos d]
      refine ⟨fun z => absurd z (by simp only; omega), fun _ => ⟨h0, d.1, ?_⟩⟩
      have e := lunit_cm d.2
      have n2 : ¬(blk T T.length 1 (i + 2)).1 = 0 := fun z => c ⟨d.1, by rw [e, if_pos z]⟩
      rw [LA_eq h0, if_neg (by omega), if_pos (by rw [e, if_neg n2])]
    · rw [if_neg d]
      exact ⟨fun _ => ⟨Int.le_refl _, h1, rfl, fun z => ⟨fun y => c ⟨z, y⟩, fun y => d ⟨z, y⟩⟩⟩, fun z => absurd rfl z⟩
