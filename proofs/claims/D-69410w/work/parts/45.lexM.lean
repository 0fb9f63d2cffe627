set_option maxRecDepth 100000 set_option linter.unusedVariables false set_option linter.unusedSimpArgs false
/-! PURE 45: lexemes as the model cuts them -/
def MxT (s : vS) (T : List Int) : Prop := gI s 87 13 = T.length ∧ T.length ≤ 32768 ∧ gN s 93 = 32800 ∧ (∀ i : Int, 0 ≤ i → i < T.length → gE s 93 i = cha T i) ∧ (∀ i : Int, 0 ≤ i → i < T.length → 0 ≤ cha T i ∧ cha T i < 256)
theorem X14_ch {s : vS} {T : List Int} (h : MxT s T) {i : Int} (h0 : 0 ≤ i) : f_X14_ch i s = some (cha T i, s) := by
  obtain ⟨h1, h2, h3, h4, h5⟩ := h
  unfold f_X14_ch
  rw [h1]
  by_cases c : (T.length : Int) ≤ i
  · rw [if_pos c, cha_out c]
  · rw [if_neg c, gd_pos ⟨h0, by omega⟩, h4 i h0 (by omega)]
theorem X14_within (x a b : Int) (s : vS) : f_X14_within x a b s = some (b2i (a ≤ x ∧ x ≤ b), s) := by
  unfold f_X14_within b2i
  by_cases h1 : x < a
  · rw [if_pos h1, if_neg (by omega)]
  · rw [if_neg h1]; by_cases h2 : b < x
    · rw [if_pos h2, if_neg (by omega)]
    · rw [if_neg h2, if_pos (by omega)]
theorem b2i_01 (p : Prop) [Decidable p] : b2i p = 0 ∨ b2i p = 1 := by unfold b2i; by_cases h : p <;> simp [h]
theorem X14_isSmall (x : Int) (s : vS) : f_X14_isSmall x s = some (b2i (97 ≤ x ∧ x ≤ 122), s) := by
  unfold f_X14_isSmall; rw [X14_within, bd_eq, gd_pos (b2i_01 _)]
theorem X14_isLarge (x : Int) (s : vS) : f_X14_isLarge x s = some (b2i (cLa x), s) := by
  unfold f_X14_isLarge; rw [X14_within, bd_eq, gd_pos (b2i_01 _)]
theorem X14_isDigit (x : Int) (s : vS) : f_X14_isDigit x s = some (b2i (cDg x), s) := by
  unfold f_X14_isDigit; rw [X14_within, bd_eq, gd_pos (b2i_01 _)]
theorem X14_isNameChar (x : Int) (s : vS) : f_X14_isNameChar x s = some (b2i (cLt x ∨ cDg x), s) := by
  unfold f_X14_isNameChar
  simp only [X14_isSmall, X14_isLarge, X14_isDigit, bd_eq, b2i_zero]
  unfold b2i
  grind
theorem X14_isWhite (x : Int) (s : vS) : f_X14_isWhite x s = some (b2i (cWh x), s) := by
  unfold f_X14_isWhite
  simp only [X14_within, bd_eq, b2i_zero]
  unfold b2i
  grind
theorem MskipLine_l {s : vS} {T : List Int} (h : MxT s T) : ∀ (k n : Nat) (a : Int), pl T a → T.length - a ≤ k → k < n → l_X14_skipLine_2 n a s = some (scan (pLine T) k a, s) := by
  intro k
  have hT := h.2.1
  induction k with
  | zero =>
    intro n a ha hk hn
    obtain ⟨n, rfl⟩ : ∃ m, n = m + 1 := ⟨n - 1, by omega⟩
    unfold l_X14_skipLine_2
    rw [h.1, if_pos (by omega)]; rfl
  | succ k ih =>
    intro n a ha hk hn
    obtain ⟨n, rfl⟩ : ∃ m, n = m + 1 := ⟨n - 1, by omega⟩
    unfold l_X14_skipLine_2 scan
    rw [w32_id (x := a + 1) ⟨by omega, by omega⟩]
    simp only [X14_ch h (show 0 ≤ a by omega), X14_ch h (show 0 ≤ a + 1 by omega), bd_eq, X14_within, b2i_zero, vl_eq, h.1, pLine]
    have e2 : a < T.length → l_X14_skipLine_2 n (a + 1) s = some (scan (pLine T) k (a + 1), s) := fun hl => ih n (a + 1) (by omega) (by omega) (by omega)
    grind
theorem X14_skipLine {s : vS} {T : List Int} (h : MxT s T) {a : Int} (h0 : 0 ≤ a) (h1 : a ≤ T.length + 2) : f_X14_skipLine a s = some (lineE T a, s) := by
  have hT := h.2.1
  unfold f_X14_skipLine
  rw [MskipLine_l h T.length FU a (by omega) (by omega) (by unfold FU; omega), lq_1_eq]
  have hs := scan_le (pLine T) (n := T.length) (fun i hi => hi.1) T.length a
  have hb : scan (pLine T) T.length a ≤ 40000 := by
    by_cases c : a ≤ T.length
    · have := hs.2 c; omega
    · have e : scan (pLine T) T.length a = a := scan_id _ (fun q => by have := q.1; omega)
      omega
  unfold j_X14_skipLine_53 lineE
  simp only []
  generalize scan (pLine T) T.length a = j at *
  rw [w32_id (x := j + 2) ⟨by omega, by omega⟩, X14_ch h (by omega), bd_eq, h.1]
  have o0 : ¬(j < T.length) → cha T j = -1 := fun q => cha_out (by omega)
  grind
theorem blk_nn {T : List Int} : ∀ (k : Nat) (o i : Int), 0 ≤ o → 0 ≤ (blk T k o i).1
  | 0, o, i, h => h
  | k + 1, o, i, h => by
    unfold blk
    have a1 := blk_nn (T := T) k (o + 1) (i + 2)
    have a2 := blk_nn (T := T) k (o - 1) (i + 2)
    have a3 := blk_nn (T := T) k o (i + 1)
    grind
theorem MskipStars_l {s : vS} {T : List Int} (h : MxT s T) (x1 : Int) : ∀ (k n : Nat) (o a : Int), pl T a → T.length - a ≤ k → k < n → 0 ≤ o → o ≤ 100000 + a → l_X14_skipStars_6 n x1 a o s = some ((blk T k o a).2, (blk T k o a).1, s) := by
  intro k
  have hT := h.2.1
  induction k with
  | zero =>
    intro n o a ha hk hn ho ho2
    obtain ⟨n, rfl⟩ : ∃ m, n = m + 1 := ⟨n - 1, by omega⟩
    unfold l_X14_skipStars_6 blk
    rw [h.1]
    by_cases c : o ≤ 0
    · rw [if_pos c]
    · rw [if_neg c, if_pos (by omega)]
  | succ k ih =>
    intro n o a ha hk hn ho ho2
    obtain ⟨n, rfl⟩ : ∃ m, n = m + 1 := ⟨n - 1, by omega⟩
    unfold l_X14_skipStars_6 blk
    simp only [j_X14_skipStars_49]
    rw [w32_id (x := a + 1) ⟨by omega, by omega⟩, w32_id (x := a + 2) ⟨by omega, by omega⟩, w32_id (x := o + 1) ⟨by omega, by omega⟩, w32_id (x := o + -1) ⟨by omega, by omega⟩]
    simp only [X14_ch h (show 0 ≤ a by omega), X14_ch h (show 0 ≤ a + 1 by omega), bd_eq, vl_eq, h.1]
    by_cases c1 : o ≤ 0
    · rw [if_pos c1, if_neg (by omega)]
    rw [if_neg c1]
    by_cases c2 : a < T.length
    · rw [if_neg (show ¬ (T.length : Int) ≤ a by omega), if_pos (show 0 < o ∧ a < T.length by omega)]
      rw [ih n (o + 1) (a + 2) (by omega) (by omega) (by omega) (by omega) (by omega), ih n (o + -1) (a + 2) (by omega) (by omega) (by omega) (by omega) (by omega), ih n o (a + 1) (by omega) (by omega) (by omega) (by omega) (by omega), show o + -1 = o - 1 by omega]
      grind
    · rw [if_pos (show (T.length : Int) ≤ a by omega), if_neg (by omega)]
/-- a fault is told, if there is none yet -/
def tellS (s : vS) (n p : Int) : vS := sI (sI s 87 8 n) 87 9 p
theorem X14_tell {s : vS} {n p : Int} (h : gI s 87 8 = 0) : f_X14_tell n p s = some (tellS s n p) := by
  unfold f_X14_tell; rw [h]; rfl
theorem X14_tell' {s : vS} {n p : Int} (h : 0 < gI s 87 8) : f_X14_tell n p s = some s := by
  unfold f_X14_tell; simp only [stp_eq]; rw [if_neg (by omega)]
theorem X14_skipStars {s : vS} {T : List Int} (h : MxT s T) (hf : gI s 87 8 = 0) {a : Int} (h0 : 0 ≤ a) (h1 : a ≤ T.length) : f_X14_skipStars a s = some ((blk T T.length 1 (a + 2)).2, if (blk T T.length 1 (a + 2)).1 = 0 then s else tellS s 1 a) := by
  have hT := h.2.1
  unfold f_X14_skipStars
  rw [vl_eq, w32_id (x := a + 2) ⟨by omega, by omega⟩, MskipStars_l h a T.length FU 1 (a + 2) (by omega) (by omega) (by unfold FU; omega) (by omega) (by omega), lq_2_eq]
  have := blk_nn (T := T) T.length 1 (a + 2) (by omega)
  unfold j_X14_skipStars_86
  rw [X14_tell hf, bdv_eq]
  by_cases c : (blk T T.length 1 (a + 2)).1 = 0
  · rw [if_pos (by omega), if_pos c]
  · rw [if_neg (by omega), if_neg c]
theorem MnameEnd_l {s : vS} {T : List Int} (h : MxT s T) : ∀ (k n : Nat) (a : Int), pl T a → T.length - a ≤ k → k < n → l_X14_nameEnd_2 n a s = some (scan (pName T) k a, s) := by
  intro k
  have hT := h.2.1
  induction k with
  | zero =>
    intro n a ha hk hn
    obtain ⟨n, rfl⟩ : ∃ m, n = m + 1 := ⟨n - 1, by omega⟩
    unfold l_X14_nameEnd_2 scan
    rw [w32_id (x := a + 1) ⟨by omega, by omega⟩]
    have o0 := cha_out (T := T) (i := a) (by omega)
    simp only [X14_ch h (show 0 ≤ a by omega), X14_ch h (show 0 ≤ a + 1 by omega), bd_eq, X14_isNameChar, b2i_zero, vl_eq, o0]
    grind
  | succ k ih =>
    intro n a ha hk hn
    obtain ⟨n, rfl⟩ : ∃ m, n = m + 1 := ⟨n - 1, by omega⟩
    unfold l_X14_nameEnd_2 scan
    rw [w32_id (x := a + 1) ⟨by omega, by omega⟩]
    simp only [X14_ch h (show 0 ≤ a by omega), X14_ch h (show 0 ≤ a + 1 by omega), bd_eq, X14_isNameChar, b2i_zero, vl_eq, pName]
    have e2 : a < T.length → l_X14_nameEnd_2 n (a + 1) s = some (scan (pName T) k (a + 1), s) := fun hl => ih n (a + 1) (by omega) (by omega) (by omega)
    have o0 : ¬(a < T.length) → cha T a = -1 := fun q => cha_out (by omega)
    by_cases c1 : a < T.length
    · rw [e2 c1]; grind
    · have o1 := o0 c1; grind
theorem X14_nameEnd {s : vS} {T : List Int} (h : MxT s T) {a : Int} (h0 : 0 ≤ a) (h1 : a < T.length) (hc : cLt (cha T a)) : f_X14_nameEnd a s = some (scan (pName T) T.length (a + 1), s) := by
  have hT := h.2.1
  unfold f_X14_nameEnd
  rw [MnameEnd_l h (T.length + 1) FU a (by omega) (by omega) (by unfold FU; omega), lq_1_eq, scan, if_pos (Or.inl hc)]
theorem MnumberEnd_l {s : vS} {T : List Int} (h : MxT s T) (x1 : Int) : ∀ (k n : Nat) (a : Int), pl T a → T.length - a ≤ k → k < n → l_X14_numberEnd_2 n x1 a s = some (scan (pDig T) k a, s) := by
  intro k
  have hT := h.2.1
  induction k with
  | zero =>
    intro n a ha hk hn
    obtain ⟨n, rfl⟩ : ∃ m, n = m + 1 := ⟨n - 1, by omega⟩
    unfold l_X14_numberEnd_2 scan
    rw [w32_id (x := a + 1) ⟨by omega, by omega⟩]
    have o0 := cha_out (T := T) (i := a) (by omega)
    simp only [X14_ch h (show 0 ≤ a by omega), bd_eq, X14_isDigit, b2i_zero, vl_eq, o0]
    grind
  | succ k ih =>
    intro n a ha hk hn
    obtain ⟨n, rfl⟩ : ∃ m, n = m + 1 := ⟨n - 1, by omega⟩
    unfold l_X14_numberEnd_2 scan
    rw [w32_id (x := a + 1) ⟨by omega, by omega⟩]
    simp only [X14_ch h (show 0 ≤ a by omega), bd_eq, X14_isDigit, b2i_zero, vl_eq, pDig]
    have e2 : a < T.length → l_X14_numberEnd_2 n x1 (a + 1) s = some (scan (pDig T) k (a + 1), s) := fun hl => ih n (a + 1) (by omega) (by omega) (by omega)
    have o0 : ¬(a < T.length) → cha T a = -1 := fun q => cha_out (by omega)
    by_cases c1 : a < T.length
    · rw [e2 c1]; grind
    · have o1 := o0 c1; grind
theorem X14_numberEnd {s : vS} {T : List Int} (h : MxT s T) (hf : gI s 87 8 = 0) {a : Int} (h0 : 0 ≤ a) (h1 : a < T.length) (hc : cDg (cha T a)) : f_X14_numberEnd a s = some (scan (pDig T) T.length (a + 1), if cha T a = 48 ∧ cDg (cha T (a + 1)) then tellS s 1 a else s) := by
  have hT := h.2.1
  unfold f_X14_numberEnd
  rw [MnumberEnd_l h a (T.length + 1) FU a (by omega) (by omega) (by unfold FU; omega), lq_1_eq, X14_ch h h0, bd_eq, X14_tell hf, bdv_eq, scan, if_pos hc, w32_id ⟨by omega, by omega⟩]
  have hs := scan_le (pDig T) (n := T.length) (fun i => pDig_lt) T.length (a + 1)
  have e : scan (pDig T) T.length (a + 1) ≤ a + 1 ↔ ¬cDg (cha T (a + 1)) := by
    constructor
    · intro q z
      obtain ⟨m, hm⟩ : ∃ m, T.length = m + 1 := ⟨T.length - 1, by omega⟩
      rw [hm, scan, if_pos z] at q
      have := scan_le (pDig T) (n := T.length) (fun i => pDig_lt) m (a + 1 + 1); omega
    · intro q; rw [scan_id (pDig T) q]; omega
  by_cases c1 : cha T a = 48
  · rw [if_pos c1]
    by_cases c2 : cDg (cha T (a + 1))
    · rw [if_neg (by rw [e]; exact fun q => q c2), if_pos ⟨c1, c2⟩]
    · rw [if_pos (e.mpr c2), if_neg (fun q => c2 q.2)]
  · rw [if_neg c1, if_neg (fun q => c1 q.1)]
theorem MtextEnd_l {s : vS} {T : List Int} (h : MxT s T) (x1 : Int) : ∀ (k n : Nat) (a : Int), pl T a → T.length - a ≤ k → k < n → l_X14_textEnd_4 n x1 a s = some (scanQ T k a, s) := by
  intro k
  have hT := h.2.1
  induction k with
  | zero =>
    intro n a ha hk hn
    obtain ⟨n, rfl⟩ : ∃ m, n = m + 1 := ⟨n - 1, by omega⟩
    unfold l_X14_textEnd_4 scanQ
    rw [w32_id (x := a + 1) ⟨by omega, by omega⟩]
    have o0 := cha_out (T := T) (i := a) (by omega)
    simp only [X14_ch h (show 0 ≤ a by omega), bd_eq, X14_within, b2i_zero, vl_eq, o0]
    grind
  | succ k ih =>
    intro n a ha hk hn
    obtain ⟨n, rfl⟩ : ∃ m, n = m + 1 := ⟨n - 1, by omega⟩
    unfold l_X14_textEnd_4 scanQ
    simp only [j_X14_textEnd_41]
    rw [w32_id (x := a + 1) ⟨by omega, by omega⟩, w32_id (x := a + 2) ⟨by omega, by omega⟩]
    simp only [X14_ch h (show 0 ≤ a by omega), X14_ch h (show 0 ≤ a + 1 by omega), bd_eq, X14_within, b2i_zero, vl_eq]
    have o0 : ¬(a < T.length) → cha T a = -1 := fun q => cha_out (by omega)
    by_cases c1 : a < T.length
    · rw [ih n (a + 1) (by omega) (by omega) (by omega), ih n (a + 2) (by omega) (by omega) (by omega)]; grind
    · have o1 := o0 c1; grind
theorem X14_textEnd {s : vS} {T : List Int} (h : MxT s T) (hf : gI s 87 8 = 0) {a : Int} (h0 : 0 ≤ a) (h1 : a < T.length) : f_X14_textEnd a s = some (scanQ T T.length (a + 1) + 1, if cha T (scanQ T T.length (a + 1)) = 34 then s else tellS s 1 a) := by
  have hT := h.2.1
  have hs := scanQ_le (T := T) T.length (a + 1)
  unfold f_X14_textEnd
  rw [vl_eq, w32_id (x := a + 1) ⟨by omega, by omega⟩, MtextEnd_l h a T.length FU (a + 1) (by omega) (by omega) (by unfold FU; omega), lq_1_eq]
  generalize scanQ T T.length (a + 1) = j at *
  have := hs.2 (by omega)
  unfold j_X14_textEnd_62
  rw [X14_ch h (by omega), bd_eq, X14_tell hf, bdv_eq, w32_id ⟨by omega, by omega⟩]
  by_cases c : cha T j = 34
  · rw [if_pos c, if_pos c]
  · rw [if_neg c, if_neg c]
theorem Mquoted_l {s : vS} {T : List Int} (h : MxT s T) (x1 : Int) : ∀ (k n : Nat) (b a : Int), pl T a → T.length - a ≤ k → k < n → (b = 0 ∨ b = 1) → l_X14_quoted_6 n x1 a b s = some ((scanB T k b a).2, (scanB T k b a).1, s) := by
  intro k
  have hT := h.2.1
  induction k with
  | zero =>
    intro n b a ha hk hn hb
    obtain ⟨n, rfl⟩ : ∃ m, n = m + 1 := ⟨n - 1, by omega⟩
    unfold l_X14_quoted_6 scanB
    have o0 := cha_out (T := T) (i := a) (by omega)
    simp only [X14_ch h (show 0 ≤ a by omega), bd_eq, X14_within, X14_isWhite, X14_isDigit, b2i_zero, vl_eq, o0]
    grind
  | succ k ih =>
    intro n b a ha hk hn hb
    obtain ⟨n, rfl⟩ : ∃ m, n = m + 1 := ⟨n - 1, by omega⟩
    unfold l_X14_quoted_6 scanB
    simp only [j_X14_quoted_43]
    rw [w32_id (x := a + 1) ⟨by omega, by omega⟩]
    simp only [X14_ch h (show 0 ≤ a by omega), bd_eq, X14_within, X14_isWhite, X14_isDigit, b2i_zero, vl_eq]
    have o0 : ¬(a < T.length) → cha T a = -1 := fun q => cha_out (by omega)
    by_cases c1 : a < T.length
    · have g0 : ∀ (p : Prop) [Decidable p], ¬p → b2i p = 0 := fun p _ q => b2i_zero.mpr q
      have g1 : ∀ (p : Prop) [Decidable p], p → b2i p = 1 := fun p _ q => b2i_one.mpr q
      rw [ih n 0 (a + 1) (by omega) (by omega) (by omega) (Or.inl rfl), ih n 1 (a + 1) (by omega) (by omega) (by omega) (Or.inr rfl)]
      by_cases d : b ≠ 0 ∧ (cWh (cha T a) ∨ cha T a < 50)
      · rw [g1 _ d]; grind
      · rw [g0 _ d]; grind
    · have o1 := o0 c1; grind
