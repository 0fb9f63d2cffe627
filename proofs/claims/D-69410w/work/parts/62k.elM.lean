set_option maxRecDepth 100000 set_option linter.unusedVariables false set_option linter.unusedSimpArgs false
/-! PURE 62k: the model's elements: cutElements -/
section
variable {D : List Int} {s : vS} {lim : Int}
def EA (D : List Int) (lim : Int) (m : Option vS) (g : Ft ⊕ List (List Int)) : Prop :=
  (∀ f, g = .inl f → 0 < f.1 ∧ f.1 ≤ 6 ∧ ∃ s0, m = some (tellS s0 f.1 f.2)) ∧ (∀ els, g = .inr els → ∃ t, m = some t ∧ EMv D lim t (D.length, els, []))
/-- THE MODEL'S ELEMENTS -/
theorem M_elements (hd : DD D s) (hz : EZ D s) (h127 : gI s 87 127 = D.length) (hl : gI s 87 6 = lim) (h8 : gI s 87 8 = 0) : EA D lim (f_X14_cutElements s) (eAllD D lim) := by
  have hD := hd.1
  unfold f_X14_cutElements
  rw [stp_eq, stp_eq, stp_eq, stp_eq]
  have E : EMv D lim (sI (sI (sI (sI s 87 129 0) 87 141 (-1)) 87 142 0) 87 143 0) (0, [], []) := by
    refine ⟨hd, hz, ?_, ?_, ?_, ?_, Int.le_refl _, by show (0 : Int) ≤ D.length; omega, ?_, ?_, by show 2 * (0 : Int) ≤ 0; decide, ?_, fun i i0 i1 => ?_, fun i i0 i1 => ?_⟩
    · simp only [gI_sI]; exact h127
    · simp only [gI_sI]; exact hl
    · simp only [gI_sI]; exact h8
    · rfl
    · rfl
    · rfl
    · rfl
    · simp only [List.length_nil] at i1; push_cast at i1; omega
    · simp only [List.length_nil] at i1; push_cast at i1; omega
  generalize sI (sI (sI (sI s 87 129 0) 87 141 (-1)) 87 142 0) 87 143 0 = s7 at E
  have E' := E
  obtain ⟨ed, ez, e127, el6, e8, e143, ea0, es, e129, e142, e2, ep, er, e181⟩ := E
  simp only at e143 e129
  have ep : gI s7 87 141 = -1 := ep
  have e129 : gI s7 87 129 = 0 := e129
  have st : ∀ N, l_X14_cutElements_22 (N + 1) 0 s7 = j_X14_cutElements_184 (l_X14_cutElements_22 N) 0 (bndS D []) s7 := fun N => by
    rw [l_X14_cutElements_22.eq_2, if_pos e8, if_pos rfl, M_wall (D := D) (n := 0) (l := []) ez e127 ed.1 (by omega) ep, bd_eq, if_neg (by omega), if_pos (by omega)]
    unfold j_X14_cutElements_57 j_X14_cutElements_99
    rw [if_pos (by omega), if_pos (by omega)]
  have fu : ∃ N, FU = N + 1 ∧ 200000 ≤ N := ⟨FU - 1, by unfold FU; omega, by unfold FU; omega⟩
  obtain ⟨N, hF, hN⟩ := fu
  rw [hF, st N]
  have P := M_184 (rec := l_X14_cutElements_22 N) (x1 := 0) E'
  have mu := fun e' => @elm_mu D 0 lim [] [] (fun i i0 i1 => (ed.2.2 i i0 i1).2) (Int.le_refl _) (Int.le_refl _) e'
  have rl := fun e' => @elm_RL D lim (0, [], []) e' (fun r hr => absurd hr List.not_mem_nil)
  unfold EP at P
  unfold eAllD
  generalize elm D lim (0, [], []) = R at P mu rl
  have ff : ∀ (f : Ft) (s0 : vS), 0 < f.1 → f.1 ≤ 6 → EA D lim (lq_0 (some (tellS s0 f.1 f.2)) fun s9 => j_X14_cutElements_235 s9) (.inl f) := fun f s0 g1 g2 => by
    have t8 := tS8 (s := s0) (p := f.2) g1 g2
    rw [lq_0_eq]
    unfold j_X14_cutElements_235
    rw [if_neg (by omega)]
    exact ⟨fun f' z => by (cases z); exact ⟨g1, g2, s0, rfl⟩, fun e' z => by (cases z)⟩
  match R, P, mu, rl with
  | .inl f, P, _, _ =>
    obtain ⟨g1, g2, g3⟩ := P.1 f rfl
    rw [g3, LC_F (tS8 g1 g2) (by omega)]
    exact ff f s7 g1 g2
  | .inr e, P, mu, rl =>
    obtain ⟨t, g1, g2⟩ := P.2 e rfl
    obtain ⟨m1, m2, m3⟩ := mu e rfl
    have h6 := rl e rfl
    simp only [List.length_nil] at m2 m3
    rw [g1]
    have C := M_cut (3 * D.length + 3) N t e.1 e.2.1 e.2.2 g2 h6 (by omega) (by push_cast; omega) (by omega)
    simp only
    change EA D lim _ (match erun D lim (3 * D.length + 3) (e.1, e.2.1, e.2.2) with | .inl f => .inl f | .inr e' => if e'.1 = D.length then .inr e'.2.1 else .inl (6, e'.1))
    generalize erun D lim (3 * D.length + 3) (e.1, e.2.1, e.2.2) = R2 at C
    match R2, C with
    | .inl f, C =>
      obtain ⟨g1, g2, s0, g3⟩ := C.1 f rfl
      rw [g3]
      exact ff f s0 g1 g2
    | .inr e2, C =>
      obtain ⟨u, c1, c2, c3⟩ := C.2 e2 rfl
      obtain ⟨a2, els2, stk2⟩ := e2
      simp only at c3
      subst c3
      rw [c1, lq_0_eq]
      have c2' := c2
      obtain ⟨ud, uz, u127, u6, u8, u143, ua0, us, u129, _⟩ := c2
      have us := us.le
      simp only at u143 us
      have ub : a2 ≤ D.length := us.1
      unfold j_X14_cutElements_235
      rw [if_pos u8, u127, u143]
      simp only
      by_cases c : a2 = D.length
      · rw [if_pos (show (D.length : Int) ≤ a2 by omega), if_pos c]
        subst c
        exact ⟨fun f z => by (cases z), fun els z => by (cases z); exact ⟨u, rfl, c2'⟩⟩
      · rw [if_neg (show ¬(D.length : Int) ≤ a2 by omega), if_neg c, X14_tell u8, bdv_eq]
        exact ⟨fun f z => by (cases z); exact ⟨by show (0 : Int) < 6; decide, by show (6 : Int) ≤ 6; decide, u, rfl⟩, fun e' z => by (cases z)⟩
end
