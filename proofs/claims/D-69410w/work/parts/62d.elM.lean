set_option maxRecDepth 100000 set_option linter.unusedVariables false set_option linter.unusedSimpArgs false
/-! PURE 62d: the model's elements: what is open, the wall -/
section
variable {D : List Int} {s s' : vS} {a b st n ca lim : Int}
/-- open elements, the innermost first: by the parents -/
def SPk (D : List Int) (s : vS) (n : Int) : List (Int × Int × Int) → Int → Prop
  | [], p => p = -1
  | x :: r, p => p = x.1 ∧ 0 ≤ p ∧ p < n ∧ (x.2.1 = -1 ∧ gZ s 178 p = 1 ∧ x.2.2 = bndS D r ∨ x.2.1 = x.2.2 ∧ 0 ≤ x.2.1 ∧ gZ s 178 p = 0 ∧ gE s 177 p = x.2.2) ∧ gE s 179 p < p ∧ SPk D s n r (gE s 179 p)
theorem SPk.cong {s t : vS} {m : Int} (h1 : n ≤ m) (e1 : ∀ i : Int, 0 ≤ i → i < n → gZ t 178 i = gZ s 178 i ∧ gE t 179 i = gE s 179 i) : ∀ {l : List (Int × Int × Int)} {p : Int}, (∀ x ∈ l, gE t 177 x.1 = gE s 177 x.1) → SPk D s n l p → SPk D t m l p
  | [], p, _, h => h
  | x :: r, p, e2, h => by
    obtain ⟨q1, q2, q3, q4, q5, q6⟩ := h
    obtain ⟨w1, w2⟩ := e1 p q2 q3
    refine ⟨q1, q2, by omega, ?_, by rw [w2]; exact q5, by rw [w2]; exact SPk.cong h1 e1 (fun y hy => e2 y (List.mem_cons_of_mem _ hy)) q6⟩
    have w3 := e2 x List.mem_cons_self
    rw [← q1] at w3
    rw [w1, w3]; exact q4
theorem SPk.lt : ∀ {l : List (Int × Int × Int)} {p : Int}, SPk D s n l p → ∀ x ∈ l, 0 ≤ x.1 ∧ x.1 ≤ p
  | [], p, _, x, hx => absurd hx List.not_mem_nil
  | y :: r, p, h, x, hx => by
    obtain ⟨q1, q2, q3, q4, q5, q6⟩ := h
    rcases List.mem_cons.mp hx with z | z
    · rw [z]; omega
    · have := SPk.lt q6 x z; omega
theorem SPk.len : ∀ {l : List (Int × Int × Int)} {p : Int}, SPk D s n l p → (l.length : Int) ≤ p + 1
  | [], p, h => by have h : p = -1 := h; subst h; simp
  | y :: r, p, h => by
    obtain ⟨q1, q2, q3, q4, q5, q6⟩ := h
    have := SPk.len q6
    simp only [List.length_cons]; omega
/-- the arrays are long enough -/
def EZ (D : List Int) (s : vS) : Prop := ∀ A, 172 ≤ A → A ≤ 182 → (D.length : Int) + 7 ≤ 2 * (gN s A : Int)
theorem EZ.ix (h : EZ D s) {A : Nat} (h1 : 172 ≤ A) (h2 : A ≤ 182) {i : Int} (i0 : 0 ≤ i) (i1 : 2 * i ≤ D.length + 2) : inb i (gN s A) := ⟨i0, by have := h A h1 h2; omega⟩
theorem wall_l (hz : EZ D s) (hd : gI s 87 127 = D.length) (hn : 2 * n ≤ D.length) : ∀ (l : List (Int × Int × Int)) (p : Int) (N : Nat), SPk D s n l p → l.length + 1 ≤ N → ∃ p', l_X14_wall_5 N p s = some (p', s) ∧ j_X14_wall_28 p' s = some (bndS D l, s) := by
  intro l
  induction l with
  | nil =>
    intro p N h hN
    have h : p = -1 := h
    obtain ⟨N, rfl⟩ : ∃ m, N = m + 1 := ⟨N - 1, by omega⟩
    refine ⟨-1, ?_, ?_⟩
    · rw [h]; unfold l_X14_wall_5; rw [if_pos (by decide)]
    · unfold j_X14_wall_28; rw [if_neg (by decide), hd]; rfl
  | cons x r ih =>
    intro p N h hN
    obtain ⟨q1, q2, q3, q4, q5, q6⟩ := h
    obtain ⟨N, rfl⟩ : ∃ m, N = m + 1 := ⟨N - 1, by omega⟩
    simp only [List.length_cons] at hN
    unfold l_X14_wall_5
    rw [if_neg (by omega), gd_pos (hz.ix (by decide) (by decide) q2 (by omega))]
    rcases q4 with ⟨w1, w2, w3⟩ | ⟨w1, w2, w3, w4⟩
    · rw [w2, if_neg (by decide), gd_pos (hz.ix (by decide) (by decide) q2 (by omega)), vl_eq]
      obtain ⟨p', e1, e2⟩ := ih (gE s 179 p) N q6 (by omega)
      exact ⟨p', e1, by rw [e2, ← w3]; rfl⟩
    · rw [w3, if_pos rfl]
      refine ⟨p, rfl, ?_⟩
      unfold j_X14_wall_28
      rw [if_pos q2, gd_pos (hz.ix (by decide) (by decide) q2 (by omega)), w4]; rfl
theorem M_wall (hz : EZ D s) (hd : gI s 87 127 = D.length) (hl : D.length ≤ 32768) (hn : 2 * n ≤ D.length) {l : List (Int × Int × Int)} (h : SPk D s n l (gI s 87 141)) : f_X14_wall s = some (bndS D l, s) := by
  unfold f_X14_wall
  rw [vl_eq]
  have k := h.len
  have pn : gI s 87 141 < 32768 + 1 := by
    match l, h with
    | [], h => have h : gI s 87 141 = -1 := h; omega
    | x :: r, h => have := h.2.2.1; omega
  obtain ⟨p', e1, e2⟩ := wall_l hz hd hn l (gI s 87 141) FU h (by unfold FU; omega)
  rw [e1, lq_1_eq, e2]
/-- an open one ends -/
theorem M_close (hz : EZ D s) (hn : 2 * n ≤ D.length) {x : Int × Int × Int} {r : List (Int × Int × Int)} (h : SPk D s n (x :: r) (gI s 87 141)) : f_X14_closeParent s = some (sI (sI s 87 141 (gE s 179 (gI s 87 141))) 87 142 (w32 (gI s 87 142 - 1))) := by
  unfold f_X14_closeParent
  obtain ⟨q1, q2, q3, q4, q5, q6⟩ := h
  rw [gd_pos (hz.ix (by decide) (by decide) q2 (by omega)), stp_eq, stp_eq, gI_s87, if_neg (by decide)]
end
