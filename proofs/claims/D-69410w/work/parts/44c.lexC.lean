set_option maxRecDepth 100000 set_option linter.unusedVariables false set_option linter.unusedSimpArgs false
/-! PURE 44c: words, and what is kept of lexemes -/
/-- the class's own comparison of a name with a word -/
def cmpV : List Int → List Int → Int
  | [], m => -(m.length : Int)
  | _ :: l, [] => (l.length : Int) + 1
  | a :: l, b :: m => if a = b then cmpV l m else a - b
theorem cmpV_cmpL : ∀ (l m : List Int), (cmpV l m = 0 ↔ l = m) ∧ (cmpV l m < 0 ↔ cmpL l m < 0)
  | [], [] => by simp [cmpV, cmpL]
  | [], b :: m => by simp [cmpV, cmpL]; omega
  | a :: l, [] => by simp [cmpV, cmpL]; omega
  | a :: l, b :: m => by
    unfold cmpV cmpL
    have ih := cmpV_cmpL l m
    by_cases h : a = b
    · subst h; simp only [if_true, List.cons.injEq, true_and]; exact ih
    · rw [if_neg h, if_neg h]; exact ⟨⟨fun k => by omega, fun k => absurd (List.cons.inj k).1 h⟩, Iff.rfl⟩
theorem cmpL_swap : ∀ (l m : List Int), cmpL l m < 0 ↔ 0 < cmpL m l
  | [], [] => by simp [cmpL]
  | [], b :: m => by simp [cmpL]
  | a :: l, [] => by simp [cmpL]
  | a :: l, b :: m => by
    unfold cmpL
    by_cases h : a = b
    · subst h; simp only [if_true]; exact cmpL_swap l m
    · rw [if_neg h, if_neg (by omega)]; omega
theorem cmpL_trans : ∀ (l m r : List Int), cmpL l m < 0 → cmpL m r < 0 → cmpL l r < 0
  | [], [], r => by simp [cmpL]
  | [], b :: m, [] => by simp [cmpL]
  | [], b :: m, c :: r => by simp [cmpL]
  | a :: l, [], r => by simp [cmpL]
  | a :: l, b :: m, [] => by simp [cmpL]
  | a :: l, b :: m, c :: r => by
    unfold cmpL
    have ih := cmpL_trans l m r
    by_cases h1 : a = b <;> by_cases h2 : b = c
    · subst h1; subst h2; simpa using ih
    · subst h1; simp only [h2, if_false, if_true]; intro _ h; exact h
    · subst h2; simp only [h1, if_false, if_true]; intro h _; exact h
    · rw [if_neg h1, if_neg h2]; intro h3 h4; rw [if_neg (by omega)]; omega
theorem slc_len {T : List Int} {i j : Int} (h0 : 0 ≤ i) (h1 : i ≤ j) (h2 : j ≤ T.length) : (slc T i j).length = (j - i).toNat := by
  unfold slc; simp; omega
theorem slc_cons {T : List Int} {i j : Int} (h0 : 0 ≤ i) (h1 : i < j) (h2 : j ≤ T.length) : slc T i j = cha T i :: slc T (i + 1) j := by
  unfold slc
  rw [cha_in h0 (by omega), show (j - i).toNat = (j - (i + 1)).toNat + 1 by omega, List.drop_eq_getElem_cons (by omega), List.take_succ_cons, show (i + 1).toNat = i.toNat + 1 by omega]
  congr 1
  simp [List.getD, List.getElem?_eq_getElem (show i.toNat < T.length by omega)]
theorem slc_nil {T : List Int} {i j : Int} (h1 : j ≤ i) : slc T i j = [] := by
  unfold slc; rw [show (j - i).toNat = 0 by omega]; simp
theorem compare_l {s : vS} {T : List Int} (h : LxT s T) (w : Nat) (hw : w < 77) (x1 x3 : Int) (h0 : 0 ≤ x1) (h2 : x1 + x3 ≤ T.length) :
    ∀ (k n : Nat) (x4 : Int), 0 ≤ x4 → x4 ≤ x3 → x4 ≤ (stB.getD w []).length → x3 - x4 ≤ k → k < n → lqs_0 (l_X3_compare_10 (1000 + w) n x1 x3 x4 s) (fun s4 => j_X3_compare_70 (1000 + w) x3 s4) (fun q => some q) = some (cmpV (slc T (x1 + x4) (x1 + x3)) ((stB.getD w []).drop x4.toNat), s) := by
  have hT := h.2.2.2
  have hl := (st_ok w (by omega)).1
  have eL : sL (1000 + w) = ((stB.getD w []).length : Int) := by unfold sL sLen; rw [Nat.add_sub_cancel_left]
  have eC : ∀ j, sC (1000 + w) j = (stB.getD w []).getD j.toNat 0 := by intro j; unfold sC sByt; rw [Nat.add_sub_cancel_left]
  intro k
  induction k with
  | zero =>
    intro n x4 a0 a1 a2 hk hn
    obtain ⟨n, rfl⟩ : ∃ m, n = m + 1 := ⟨n - 1, by omega⟩
    unfold l_X3_compare_10
    rw [if_pos (by omega)]
    show j_X3_compare_70 (1000 + w) x3 s = _
    unfold j_X3_compare_70
    rw [slc_nil (by omega), eL, w32_id ⟨by omega, by omega⟩, cmpV, List.length_drop]
    congr 2; omega
  | succ k ih =>
    intro n x4 a0 a1 a2 hk hn
    obtain ⟨n, rfl⟩ : ∃ m, n = m + 1 := ⟨n - 1, by omega⟩
    unfold l_X3_compare_10
    rw [eL]
    by_cases c1 : x3 ≤ x4
    · rw [if_pos c1]
      show j_X3_compare_70 (1000 + w) x3 s = _
      unfold j_X3_compare_70
      rw [slc_nil (by omega), eL, w32_id ⟨by omega, by omega⟩, cmpV, List.length_drop]
      congr 2; omega
    rw [if_neg c1]
    by_cases c2 : ((stB.getD w []).length : Int) ≤ x4
    · rw [if_pos c2]
      show j_X3_compare_70 (1000 + w) x3 s = _
      unfold j_X3_compare_70
      rw [slc_cons (by omega) (by omega) (by omega), List.drop_of_length_le (by omega), eL, w32_id ⟨by omega, by omega⟩, cmpV, slc_len (by omega) (by omega) (by omega)]
      congr 2; omega
    rw [if_neg c2, gd_pos h.ok, h.1, w32_id ⟨by omega, by omega⟩, h.at (by omega) (by omega), bd_eq, gd_pos ⟨by omega, by omega⟩, eC]
    rw [slc_cons (by omega) (by omega) (by omega), List.drop_eq_getElem_cons (by omega), cmpV]
    have eg : (stB.getD w []).getD x4.toNat 0 = (stB.getD w [])[x4.toNat]'(by omega) := (List.getElem_eq_getD 0).symm
    rw [eg]
    by_cases c3 : cha T (x1 + x4) = (stB.getD w [])[x4.toNat]'(by omega)
    · rw [if_pos c3, if_pos c3]
      rw [vl_eq]
      rw [w32_id ⟨by omega, by omega⟩, ih n (x4 + 1) (by omega) (by omega) (by omega) (by omega) (by omega)]
      rw [Int.add_assoc, show (x4 + 1).toNat = x4.toNat + 1 by omega]
    · rw [if_neg c3, if_neg c3, gd_pos h.ok, h.1, h.at (by omega) (by omega), bd_eq, gd_pos ⟨by omega, by omega⟩]
      have q1 := (st_ok w (by omega)).2 _ (List.getElem_mem (show x4.toNat < (stB.getD w []).length by omega))
      have q2 : 0 ≤ cha T (x1 + x4) ∧ cha T (x1 + x4) < 256 := by
        rw [cha_in (by omega) (by omega), ← h.2.2.1, bts, rowL_getD _ _ (by rw [h.size]; omega)]; omega
      rw [w32_id ⟨by omega, by omega⟩]; rfl
theorem X3_compare {s : vS} {T : List Int} (h : LxT s T) (w : Nat) (hw : w < 77) {x1 : Int} (h0 : 0 ≤ x1) (h1 : x1 ≤ gI s 5 3) (h2 : gI s 5 3 ≤ T.length) : f_X3_compare x1 (1000 + w) s = some (cmpV (slc T x1 (gI s 5 3)) (stB.getD w []), s) := by
  have hT := h.2.2.2
  unfold f_X3_compare
  rw [vl_eq]
  rw [w32_id ⟨by omega, by omega⟩]
  have := compare_l h w hw x1 (gI s 5 3 - x1) h0 (by omega) (gI s 5 3 - x1).toNat FU 0 (by omega) (by omega) (by omega) (by omega) (by unfold FU; omega)
  rw [Int.add_zero, show x1 + (gI s 5 3 - x1) = gI s 5 3 by omega] at this
  exact this
theorem words_sorted : ∀ i, i < 77 → ∀ j, j < 77 → i < j → cmpL (stB.getD i []) (stB.getD j []) < 0 := by decide +kernel
theorem wIx_ge (w : List Int) : ∀ (l : List (List Int)) (j : Int), wIx w l j = -1 ∨ j ≤ wIx w l j
  | [], j => Or.inl rfl
  | b :: l, j => by unfold wIx; by_cases h : w = b; rw [if_pos h]; exact Or.inr (Int.le_refl _); rw [if_neg h]; have := wIx_ge w l (j + 1); omega
theorem wIx_at (w : List Int) : ∀ (l : List (List Int)) (j : Int) (k : Nat), k < l.length → l.getD k [] = w → (∀ i, i < k → l.getD i [] ≠ w) → wIx w l j = j + k
  | [], j, k, h, _, _ => by simp at h
  | b :: l, j, 0, h, e, _ => by unfold wIx; rw [if_pos (by simpa using e.symm)]; simp
  | b :: l, j, k + 1, h, e, q => by
    unfold wIx
    rw [if_neg (fun z => q 0 (by omega) (by simpa using z.symm)), wIx_at w l (j + 1) k (by simpa using h) (by simpa using e) (fun i hi => by have := q (i + 1) (by omega); simpa using this)]
    push_cast; omega
theorem wIx_none (w : List Int) : ∀ (l : List (List Int)) (j : Int), (∀ k, k < l.length → l.getD k [] ≠ w) → wIx w l j = -1
  | [], j, _ => rfl
  | b :: l, j, q => by
    unfold wIx
    rw [if_neg (fun z => q 0 (by simp) (by simpa using z.symm))]
    exact wIx_none w l (j + 1) (fun k hk => by have := q (k + 1) (by simpa using hk); simpa using this)
theorem lwords_len : lwords.length = 77 := by decide
theorem lwords_at {k : Nat} (h : k < 77) : lwords.getD k [] = stB.getD k [] := by
  unfold lwords; simp [List.getD, List.getElem?_take, h]
theorem wordOf_l {s : vS} {T : List Int} (h : LxT s T) (h6 : gN s 6 = 77) (h6e : ∀ y : Int, 0 ≤ y → y < 77 → gE s 6 y = 1) {x1 : Int} (h0 : 0 ≤ x1) (h1 : x1 ≤ gI s 5 3) (h2 : gI s 5 3 ≤ T.length) :
    ∀ (k n : Nat) (lo hi : Int), 0 ≤ lo → lo ≤ 77 → -1 ≤ hi → hi < 77 → hi - lo + 1 ≤ k → k < n → (∀ i : Nat, i < lo → 0 < cmpL (slc T x1 (gI s 5 3)) (stB.getD i [])) → (∀ i : Nat, hi < i → i < 77 → cmpL (slc T x1 (gI s 5 3)) (stB.getD i []) < 0) → lqs_0 (l_X3_wordOf_10 n x1 lo hi s) (fun s4 => some ((-1), s4)) (fun q => some q) = some (wIx (slc T x1 (gI s 5 3)) lwords 0, s) := by
  have base : ∀ lo hi : Int, hi < lo → (∀ i : Nat, i < lo → 0 < cmpL (slc T x1 (gI s 5 3)) (stB.getD i [])) → (∀ i : Nat, hi < i → i < 77 → cmpL (slc T x1 (gI s 5 3)) (stB.getD i []) < 0) → wIx (slc T x1 (gI s 5 3)) lwords 0 = -1 := by
    intro lo hi c p q
    apply wIx_none
    intro k hk
    rw [lwords_len] at hk
    rw [lwords_at hk]
    intro e
    have z : cmpL (slc T x1 (gI s 5 3)) (stB.getD k []) = 0 := cmpL_zero.mpr e.symm
    by_cases d : (k : Int) < lo
    · have := p k d; omega
    · have := q k (by omega) hk; omega
  intro k
  induction k with
  | zero =>
    intro n lo hi a0 a1 a2 a3 hk hn p q
    obtain ⟨n, rfl⟩ : ∃ m, n = m + 1 := ⟨n - 1, by omega⟩
    unfold l_X3_wordOf_10
    rw [if_pos (by omega), base lo hi (by omega) p q]; rfl
  | succ k ih =>
    intro n lo hi a0 a1 a2 a3 hk hn p q
    obtain ⟨n, rfl⟩ : ∃ m, n = m + 1 := ⟨n - 1, by omega⟩
    unfold l_X3_wordOf_10
    by_cases c1 : hi < lo
    · rw [if_pos c1, base lo hi c1 p q]; rfl
    rw [if_neg c1]
    rw [vl_eq]
    rw [w32_id (x := lo + hi) ⟨by omega, by omega⟩, d32_div (by omega) (by omega) (by omega) (by omega)]
    obtain ⟨m, hm⟩ := Int.eq_ofNat_of_zero_le (show 0 ≤ (lo + hi) / 2 by omega)
    rw [hm]
    have hm1 : lo ≤ (m : Int) := by omega
    have hm2 : (m : Int) ≤ hi := by omega
    have hm3 : m < 77 := by omega
    rw [gd_pos ⟨⟨⟨by omega, by rw [h6]; omega⟩, by omega⟩, h6e _ (by omega) (by omega)⟩]
    rw [show Int.toNat (m : Int) = m from rfl, X3_compare h m hm3 h0 h1 h2, bd_eq]
    have v := cmpV_cmpL (slc T x1 (gI s 5 3)) (stB.getD m [])
    by_cases c2 : cmpV (slc T x1 (gI s 5 3)) (stB.getD m []) = 0
    · rw [if_pos c2]
      have e := v.1.mp c2
      have : wIx (slc T x1 (gI s 5 3)) lwords 0 = 0 + (m : Int) := by
        apply wIx_at _ _ _ _ (by rw [lwords_len]; exact hm3) (by rw [lwords_at hm3]; exact e.symm)
        intro i hi2
        rw [lwords_at (by omega), e]
        intro z
        have s1 := words_sorted i (by omega) m hm3 hi2
        rw [z, cmpL_zero.mpr rfl] at s1; omega
      rw [this, Int.zero_add]; rfl
    rw [if_neg c2]
    by_cases c3 : 0 ≤ cmpV (slc T x1 (gI s 5 3)) (stB.getD m [])
    · rw [if_pos c3, w32_id ⟨by omega, by omega⟩]
      apply ih n ((m : Int) + 1) hi (by omega) (by omega) a2 a3 (by omega) (by omega) _ q
      intro i hi2
      have n1 : ¬ cmpL (slc T x1 (gI s 5 3)) (stB.getD m []) < 0 := fun z => by have := v.2.mpr z; omega
      have n2 : cmpL (slc T x1 (gI s 5 3)) (stB.getD m []) ≠ 0 := fun z => c2 (v.1.mpr (cmpL_zero.mp z))
      by_cases d : i = m
      · subst d; omega
      · have s1 := words_sorted i (by omega) m hm3 (by omega)
        rw [← cmpL_swap]
        exact cmpL_trans _ _ _ s1 ((cmpL_swap _ _).mpr (by omega))
    · rw [if_neg c3, w32_id ⟨by omega, by omega⟩]
      apply ih n lo ((m : Int) - 1) a0 a1 (by omega) (by omega) (by omega) (by omega) p
      intro i hi2 hi3
      have n1 : cmpL (slc T x1 (gI s 5 3)) (stB.getD m []) < 0 := v.2.mp (by omega)
      by_cases d : i = m
      · subst d; exact n1
      · exact cmpL_trans _ _ _ n1 (words_sorted m hm3 i hi3 (by omega))
theorem X3_wordOf {s : vS} {T : List Int} (h : LxT s T) (h6 : gN s 6 = 77) (h6e : ∀ y : Int, 0 ≤ y → y < 77 → gE s 6 y = 1) {x1 : Int} (h0 : 0 ≤ x1) (h1 : x1 ≤ gI s 5 3) (h2 : gI s 5 3 ≤ T.length) : f_X3_wordOf x1 s = some (wIx (slc T x1 (gI s 5 3)) lwords 0, s) := by
  have e := wordOf_l h h6 h6e h0 h1 h2 77 FU 0 76 (by omega) (by omega) (by omega) (by omega) (by omega) (by decide) (fun i hi => by omega) (fun i hi hi2 => by omega)
  have e2 : w32 (w32 ((77 : Nat) : Int) - 1) = 76 := by decide
  rw [f_X3_wordOf, vl_eq, h6, e2]
  exact e
theorem wIx_rg (w : List Int) : -1 ≤ wIx w lwords 0 ∧ wIx w lwords 0 < 77 := by
  have : ∀ (l : List (List Int)) (j : Int), 0 ≤ j → -1 ≤ wIx w l j ∧ wIx w l j < j + l.length ∨ wIx w l j = -1 := by
    intro l
    induction l with
    | nil => intro j _; right; rfl
    | cons b l ih => intro j hj; unfold wIx; by_cases h : w = b; rw [if_pos h]; left; simp; omega; rw [if_neg h]; have := ih (j + 1) (by omega); simp; omega
  have := this lwords 0 (by omega)
  rw [lwords_len] at this; omega
