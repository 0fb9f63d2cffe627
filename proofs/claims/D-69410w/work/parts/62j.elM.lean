set_option maxRecDepth 100000 set_option linter.unusedVariables false set_option linter.unusedSimpArgs false
/-! PURE 62j: the model's elements: all of them -/
section
variable {D : List Int} {s : vS} {a b lim to : Int} {els : List (List Int)} {x : Int × Int × Int} {r stk : List (Int × Int × Int)}
theorem elm_mu (hD : ∀ i : Int, 0 ≤ i → i < D.length → 0 ≤ cha D i ∧ cha D i < 256) (hb : bndS D stk ≤ D.length) (a0 : 0 ≤ a) {e' : Es3} (he : elm D lim (a, els, stk) = .inr e') : a + 2 ≤ e'.1 ∧ e'.2.2.length ≤ stk.length + 1 ∧ e'.2.1.length = els.length + 1 := by
  unfold elm at he
  rw [eBnd_bnd] at he
  simp only at he
  by_cases c1 : bndS D stk ≤ a
  · rw [if_pos c1] at he; cases he
  rw [if_neg c1] at he
  by_cases c2 : lim < stk.length
  · rw [if_pos c2] at he; cases he
  rw [if_neg c2] at he
  have le := fun r => @eHead_le D (bndS D stk) a hD hb a0 (by omega) r
  generalize eHead D (bndS D stk) a = R at he le
  match R, he, le with
  | .inl c, he, _ => cases he
  | .inr (tag, con, len, body), he, le =>
    obtain ⟨l1, l2, l3, l4, l5, l6, l7⟩ := le _ rfl
    simp only at he l1 l2 l3 l4 l5
    by_cases c : con = 0
    · rw [if_pos c] at he
      cases he
      have := l3.resolve_left (l5 c)
      refine ⟨by show a + 2 ≤ body + len; omega, by simp, by simp⟩
    · rw [if_neg c] at he
      cases he
      exact ⟨l1, by simp, by simp⟩
theorem estep_mu (hD : ∀ i : Int, 0 ≤ i → i < D.length → 0 ≤ cha D i ∧ cha D i < 256) (hb : bndS D (x :: r) ≤ D.length) (a0 : 0 ≤ a) (h6 : RL6 els) (h1 : 1 ≤ els.length) {e' : Es3} (he : estep D lim (a, els, x :: r) = .inr e') : 3 * (D.length - e'.1) + (e'.2.2.length : Int) + 1 ≤ 3 * (D.length - a) + (r.length + 1) ∧ RL6 e'.2.1 ∧ 1 ≤ e'.2.1.length := by
  unfold estep at he
  simp only at he
  by_cases c1 : x.2.1 = a
  · rw [if_pos c1] at he
    cases he
    exact ⟨by show 3 * ((D.length : Int) - a) + (r.length : Int) + 1 ≤ _; omega, h6.ev _ _, by rw [elv_len]; exact h1⟩
  rw [if_neg c1] at he
  by_cases c2 : x.2.1 = -1 ∧ a + 1 < eBnd D (a, els, x :: r) ∧ cha D a = 0 ∧ cha D (a + 1) = 0
  · rw [if_pos c2] at he
    cases he
    exact ⟨by show 3 * ((D.length : Int) - (a + 2)) + (r.length : Int) + 1 ≤ _; omega, h6.ev _ _, by rw [elv_len]; exact h1⟩
  · rw [if_neg c2] at he
    have R := elm_RL (e := (a, els, x :: r)) h6 he
    obtain ⟨m1, m2, m3⟩ := elm_mu hD hb a0 he
    simp only [List.length_cons] at m2
    exact ⟨by omega, R, by omega⟩
theorem LC_F {N : Nat} {y : Int} (h : 0 < gI s 87 8) (hN : 1 ≤ N) : l_X14_cutElements_22 N y s = some s := by
  obtain ⟨N, rfl⟩ : ∃ m, N = m + 1 := ⟨N - 1, by omega⟩
  unfold l_X14_cutElements_22
  rw [if_neg (by omega)]
/-- what reading leaves -/
def EL (D : List Int) (lim : Int) (m : Option vS) (g : Ft ⊕ Es3) : Prop :=
  (∀ f, g = .inl f → 0 < f.1 ∧ f.1 ≤ 6 ∧ ∃ s0, m = some (tellS s0 f.1 f.2)) ∧ (∀ e', g = .inr e' → ∃ t, m = some t ∧ EMv D lim t e' ∧ e'.2.2 = [])
theorem M_cut : ∀ (k N : Nat) (s : vS) (a : Int) (els : List (List Int)) (stk : List (Int × Int × Int)), EMv D lim s (a, els, stk) → RL6 els → 1 ≤ els.length → 3 * ((D.length : Int) - a) + stk.length < k → k + 3 ≤ N → EL D lim (l_X14_cutElements_22 N 0 s) (erun D lim k (a, els, stk)) := by
  intro k
  induction k with
  | zero =>
    intro N s a els stk h _ _ hk
    have := h.2.2.2.2.2.2.2.1.le
    simp only at this
    omega
  | succ k ih =>
    intro N s a els stk h h6 h1 hk hN
    have h' := h
    obtain ⟨hd, hz, h127, hl6, h8, h143, a0, hs, h129, h142, h2, hp, hr, h181⟩ := h
    simp only at h143 a0 hs h129 h142 h2 hp hr h181
    have sl := hs.le
    obtain ⟨N, rfl⟩ : ∃ m, N = m + 1 := ⟨N - 1, by omega⟩
    unfold l_X14_cutElements_22 erun
    rw [if_pos h8, if_pos rfl, M_wall hz h127 hd.1 (n := els.length) (by omega) hp, bd_eq]
    cases stk with
    | nil =>
      have hp : gI s 87 141 = -1 := hp
      obtain ⟨N, rfl⟩ : ∃ m, N = m + 1 := ⟨N - 1, by omega⟩
      rw [if_neg (show ¬0 ≤ gI s 87 141 by omega), if_neg (show ¬gI s 87 129 ≤ 0 by omega), if_pos rfl]
      unfold l_X14_cutElements_22
      rw [if_pos h8, if_neg (by decide)]
      exact ⟨fun f z => by (cases z), fun e' z => by (cases z); exact ⟨s, rfl, h', rfl⟩⟩
    | cons x r =>
      have q2 := hp.2.1
      rw [if_pos q2, if_neg (by simp)]
      have P := M_57 (rec := l_X14_cutElements_22 N) (x1 := 0) h' h6
      have mu := fun e' => @estep_mu D a lim els x r (fun i i0 i1 => (hd.2.2 i i0 i1).2) sl.2 a0 h6 h1 e'
      unfold EP at P
      generalize estep D lim (a, els, x :: r) = R at P mu
      match R, P, mu with
      | .inl f, P, _ =>
        obtain ⟨g1, g2, g3⟩ := P.1 f rfl
        rw [g3, LC_F (tS8 g1 g2) (by omega)]
        exact ⟨fun f' z => by (cases z); exact ⟨g1, g2, s, rfl⟩, fun e' z => by (cases z)⟩
      | .inr e, P, mu =>
        obtain ⟨t, g1, g2⟩ := P.2 e rfl
        obtain ⟨m1, m2, m3⟩ := mu e rfl
        rw [g1]
        simp only [List.length_cons] at hk
        push_cast at hk
        exact ih N t e.1 e.2.1 e.2.2 g2 m2 m3 (by omega) (by omega)
end
