set_option maxRecDepth 100000 set_option linter.unusedVariables false set_option linter.unusedSimpArgs false
/-! PURE 45c: words as the model finds them -/
def wtb : List Int := (lwords.map (· ++ [0])).flatten
def wG (i : Int) : Int := wtb.getD i.toNat 0
def wAtB (g : Int → Int) : List (List Int) → Int → Bool
  | [], i => decide (i = 686)
  | w :: l, i => decide (0 ≤ i) && (List.range w.length).all (fun k => decide (g (i + k) = w.getD k 0) && decide (w.getD k 0 ≠ 0)) && decide (g (i + w.length) = 0) && decide (i + w.length < 686) && wAtB g l (i + w.length + 1)
theorem wAt_words : wAtB wG lwords 0 = true := by decide +kernel
/-- a word at a place of the model's table -/
def wHas (g : Int → Int) (i : Int) (w : List Int) : Prop := 0 ≤ i ∧ i + w.length < 686 ∧ (∀ k : Nat, k < w.length → g (i + k) = w.getD k 0 ∧ w.getD k 0 ≠ 0) ∧ g (i + w.length) = 0
theorem wAtB_cons {g : Int → Int} {w : List Int} {l : List (List Int)} {i : Int} (h : wAtB g (w :: l) i = true) : wHas g i w ∧ wAtB g l (i + w.length + 1) = true := by
  unfold wAtB at h
  simp only [Bool.and_eq_true, decide_eq_true_eq, List.all_eq_true, List.mem_range] at h
  obtain ⟨⟨⟨⟨h1, h2⟩, h3⟩, h4⟩, h5⟩ := h
  exact ⟨⟨h1, h4, h2, h3⟩, h5⟩
theorem wHas_cons {g : Int → Int} {i b : Int} {w : List Int} (h : wHas g i (b :: w)) : g i = b ∧ b ≠ 0 ∧ wHas g (i + 1) w := by
  obtain ⟨h1, h2, h3, h4⟩ := h
  have q := h3 0 (by simp)
  simp only [List.length_cons] at h2 h3 h4
  push_cast at h2 h4
  refine ⟨by simpa using q.1, by simpa using q.2, by omega, by omega, fun k hk => ?_, by rw [← h4]; congr 1; omega⟩
  have z := h3 (k + 1) (by omega)
  rw [show i + ((k + 1 : Nat) : Int) = i + 1 + k by push_cast; omega] at z
  simpa using z
def WT (s : vS) : Prop := gN s 88 = 686 ∧ ∀ i : Int, 0 ≤ i → i < 686 → gE s 88 i = wG i
theorem wordAt91 {s : vS} (hw : WT s) (x1 x2 x3 : Int) : ∀ (v : List Int) (n : Nat) (i : Int), v.length < n → wHas wG i v → l_X14_wordAt_91 n x1 x2 x3 i s = some (i + v.length, s) := by
  intro v
  induction v with
  | nil =>
    intro n i hn h
    obtain ⟨n, rfl⟩ : ∃ m, n = m + 1 := ⟨n - 1, by omega⟩
    obtain ⟨h1, h2, h3, h4⟩ := h
    simp only [List.length_nil] at h2 h4 ⊢
    push_cast at h2 h4 ⊢
    rw [Int.add_zero] at h4
    unfold l_X14_wordAt_91
    rw [hw.1, gd_pos ⟨h1, by omega⟩, hw.2 i h1 (by omega), if_pos h4, Int.add_zero]
  | cons b v ih =>
    intro n i hn h
    obtain ⟨n, rfl⟩ : ∃ m, n = m + 1 := ⟨n - 1, by omega⟩
    have q := wHas_cons h
    obtain ⟨h1, h2, h3, h4⟩ := h
    simp only [List.length_cons] at h2 hn ⊢
    push_cast at h2 ⊢
    unfold l_X14_wordAt_91
    rw [hw.1, gd_pos ⟨h1, by omega⟩, hw.2 i h1 (by omega), if_neg (by rw [q.1]; exact q.2.1), vl_eq, w32_id ⟨by omega, by omega⟩, ih n (i + 1) (by omega) q.2.2]
    congr 2; omega
theorem wordAt16 {s : vS} {T : List Int} (h : MxT s T) (hw : WT s) {x1 x2 : Int} (h0 : 0 ≤ x1) (h2 : x2 ≤ T.length) (x3 : Int) (hx3 : 0 ≤ x3 ∧ x3 < 100) (rec : Int → Int → Int → Int → vS → Option ((vS) ⊕ (Int × vS))) (w0 : List Int) (i : Int) (hi : wHas wG i w0) :
    ∀ (v : List Int) (n : Nat) (k : Int), v.length < n → 0 ≤ k → x1 + k ≤ x2 → wHas wG (i + k) v → lq_1 (l_X14_wordAt_16 n x1 x2 x3 i k s) (fun y2 s3 => j_X14_wordAt_65 rec x1 x2 x3 i y2 s3) = if slc T (x1 + k) x2 = v then some (.inr (40 + x3, s)) else rec x1 x2 (x3 + 1) (i + w0.length + 1) s := by
  have hT := h.2.1
  have hi2 := hi.2.1
  have hi1 := hi.1
  have nxt : ∀ (F : Nat), F = FU → lq_1 (l_X14_wordAt_91 F x1 x2 x3 i s) (fun y3 s4 => vl (w32 (y3 + 1)) fun y7 => vl (w32 (x3 + 1)) fun y10 => rec x1 x2 y10 y7 s4) = rec x1 x2 (x3 + 1) (i + w0.length + 1) s := by
    intro F hF
    rw [wordAt91 hw x1 x2 x3 w0 F i (by rw [hF]; unfold FU; omega) hi, lq_1_eq, vl_eq, vl_eq, w32_id ⟨by omega, by omega⟩, w32_id ⟨by omega, by omega⟩]
  intro v
  induction v with
  | nil =>
    intro n k hn hk hk2 hv
    obtain ⟨n, rfl⟩ : ∃ m, n = m + 1 := ⟨n - 1, by omega⟩
    have g4 := hv.2.2.2
    have g2 := hv.2.1
    simp only [List.length_nil] at g4 g2
    push_cast at g4 g2
    rw [Int.add_zero] at g4
    have g1 := hv.1
    unfold l_X14_wordAt_16
    rw [w32_id (x := i + k) ⟨by omega, by omega⟩, hw.1, gd_pos ⟨by omega, by omega⟩, hw.2 _ (by omega) (by omega), if_pos g4, lq_1_eq]
    unfold j_X14_wordAt_65
    rw [w32_id (x := i + k) ⟨by omega, by omega⟩, hw.1, gd_pos ⟨by omega, by omega⟩, hw.2 _ (by omega) (by omega), if_pos g4, w32_id (x := x1 + k) ⟨by omega, by omega⟩]
    by_cases c : x1 + k = x2
    · rw [if_pos c, if_pos (slc_nil (by omega)), w32_id ⟨by omega, by omega⟩]
    · rw [if_neg c, if_neg (by rw [slc_cons (by omega) (by omega) h2]; simp)]
      exact nxt FU rfl
  | cons b v ih =>
    intro n k hn hk hk2 hv
    obtain ⟨n, rfl⟩ : ∃ m, n = m + 1 := ⟨n - 1, by omega⟩
    have q := wHas_cons hv
    have g2 := hv.2.1
    have g1 := hv.1
    simp only [List.length_cons] at g2 hn
    push_cast at g2
    have stop : (gE s 88 (i + k) ≠ 0) → j_X14_wordAt_65 rec x1 x2 x3 i k s = rec x1 x2 (x3 + 1) (i + w0.length + 1) s := by
      intro z
      unfold j_X14_wordAt_65
      rw [w32_id (x := i + k) ⟨by omega, by omega⟩, hw.1, gd_pos ⟨by omega, by omega⟩, if_neg z]
      exact nxt FU rfl
    have e88 : gE s 88 (i + k) = b := by rw [hw.2 _ (by omega) (by omega)]; exact q.1
    unfold l_X14_wordAt_16
    rw [w32_id (x := i + k) ⟨by omega, by omega⟩, hw.1, gd_pos ⟨by omega, by omega⟩, e88, if_neg q.2.1, w32_id (x := x1 + k) ⟨by omega, by omega⟩]
    by_cases c : x2 ≤ x1 + k
    · rw [if_pos c, lq_1_eq, stop (by rw [e88]; exact q.2.1), if_neg (by rw [slc_nil c]; simp)]
    rw [if_neg c, gd_pos ⟨by omega, by omega⟩, gd_pos ⟨by omega, by rw [h.2.2.1]; omega⟩, h.2.2.2.1 _ (by omega) (by omega)]
    rw [slc_cons (by omega) (by omega) h2]
    by_cases c2 : b = cha T (x1 + k)
    · rw [if_pos c2, vl_eq, w32_id ⟨by omega, by omega⟩, ih n (k + 1) (by omega) (by omega) (by omega) (by rw [← Int.add_assoc]; exact q.2.2)]
      rw [← Int.add_assoc, ← c2]
      by_cases c3 : slc T (x1 + k + 1) x2 = v
      · rw [if_pos c3, if_pos (by rw [c3])]
      · rw [if_neg c3, if_neg (fun z => c3 (List.cons.inj z).2)]
    · rw [if_neg c2, lq_1_eq, stop (by rw [e88]; exact q.2.1), if_neg (fun z => c2 (List.cons.inj z).1.symm)]
theorem wordAt5 {s : vS} {T : List Int} (h : MxT s T) (hw : WT s) {x1 x2 : Int} (h0 : 0 ≤ x1) (h1 : x1 ≤ x2) (h2 : x2 ≤ T.length) :
    ∀ (l : List (List Int)) (n : Nat) (x3 i : Int), l.length < n → 0 ≤ x3 → x3 + l.length < 100 → wAtB wG l i = true → (∀ w ∈ l, w.length < 100) → lqs_0 (l_X14_wordAt_5 n x1 x2 x3 i s) (fun s1 => some (1, s1)) (fun q => some q) = some (if wIx (slc T x1 x2) l x3 = -1 then 1 else 40 + wIx (slc T x1 x2) l x3, s) := by
  intro l
  induction l with
  | nil =>
    intro n x3 i hn a0 a1 ha _
    obtain ⟨n, rfl⟩ : ∃ m, n = m + 1 := ⟨n - 1, by omega⟩
    have : i = 686 := by unfold wAtB at ha; simpa using ha
    unfold l_X14_wordAt_5
    rw [if_pos (by omega)]
    unfold wIx
    rfl
  | cons w l ih =>
    intro n x3 i hn a0 a1 ha hlen
    obtain ⟨n, rfl⟩ : ∃ m, n = m + 1 := ⟨n - 1, by omega⟩
    obtain ⟨hh, ht⟩ := wAtB_cons ha
    simp only [List.length_cons] at hn a1
    push_cast at a1
    unfold l_X14_wordAt_5
    have hi := hh.2.1
    rw [if_neg (by omega)]
    have e := wordAt16 h hw h0 h2 x3 (by omega) (l_X14_wordAt_5 n) w i hh w FU 0 (by have := hlen w (by simp); unfold FU; omega) (by omega) (by omega) (by rw [Int.add_zero]; exact hh)
    rw [Int.add_zero] at e
    rw [e]
    unfold wIx
    by_cases c : slc T x1 x2 = w
    · rw [if_pos c, if_pos c, if_neg (by omega)]; rfl
    · rw [if_neg c, if_neg c]
      exact ih n (x3 + 1) (i + w.length + 1) (by omega) (by omega) (by omega) ht (fun w' hw' => hlen w' (by simp [hw']))
theorem lwords_short : ∀ w ∈ lwords, w.length < 100 := by decide +kernel
theorem X14_wordAt {s : vS} {T : List Int} (h : MxT s T) (hw : WT s) {x1 x2 : Int} (h0 : 0 ≤ x1) (h1 : x1 ≤ x2) (h2 : x2 ≤ T.length) : f_X14_wordAt x1 x2 s = some (if wIx (slc T x1 x2) lwords 0 = -1 then 1 else 40 + wIx (slc T x1 x2) lwords 0, s) := by
  rw [f_X14_wordAt]
  exact wordAt5 h hw h0 h1 h2 lwords FU 0 0 (by rw [lwords_len]; decide) (by decide) (by rw [lwords_len]; decide) wAt_words lwords_short
