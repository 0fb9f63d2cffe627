set_option maxRecDepth 100000 set_option linter.unusedVariables false set_option linter.unusedSimpArgs false
/-! PURE 62c: the model's elements: a whole head -/
section
variable {D : List Int} {s s' : vS} {a b st n ca : Int}
theorem eHead_eq {D : List Int} {b a : Int} (c0 : ¬(cha D a = 0 ∨ cha D a = 32)) {q : Int × Int} (e : eNum D b a = .inr q) : eHead D b a = match eL2 D b (cha D a / 32 % 2) q.2 with
  | .inl c => .inl c
  | .inr r => .inr (cha D a / 64 * 268435456 + q.1, cha D a / 32 % 2, r.1, r.2) := by
  unfold eHead eL2
  rw [if_neg c0, e]
  simp only
  generalize eLen D b (cha D a / 32 % 2) q.2 = R
  match R with
  | .inl c => rfl
  | .inr r =>
    simp only
    by_cases z : r.1 ≠ -1 ∧ b - r.2 < r.1
    · rw [if_pos z, if_pos z]
    · rw [if_neg z, if_neg z]
/-- what a head leaves -/
def HE (D : List Int) (b a : Int) (s : vS) (m : Option vS) : Prop :=
  (∀ c, eHead D b a = .inl c → 0 < c ∧ c ≤ 6 ∧ m = some (tellS s c a)) ∧
  (∀ r, eHead D b a = .inr r → ∃ num x8 x11, r.1 = cha D a / 64 * 268435456 + num ∧ 0 ≤ num ∧ num < 268435456 ∧ (x11 = 1 ∧ r.2.2.1 = -1 ∨ x11 = 0 ∧ r.2.2.1 = x8 ∧ 0 ≤ x8 ∧ x8 ≤ 2147483647) ∧ m = j_X14_element_436 (gI s 87 129) a (cha D a) r.2.2.2 num x8 r.2.1 x11 s)
theorem M_num {num a1 : Int} (h : DD D s) (h0 : gI s 87 8 = 0) (hb : b ≤ D.length) (a0 : 0 ≤ a) (aa : a < a1) (ab : a1 ≤ b) (hca : 0 ≤ cha D a ∧ cha D a < 256) (c0 : ¬(cha D a = 0 ∨ cha D a = 32)) (e : eNum D b a = .inr (num, a1)) (hn : 0 ≤ num ∧ num < 268435456) : HE D b a s (j_X14_element_205 b (gI s 87 129) a (cha D a) a1 num s) := by
  have L := M_len (n := gI s 87 129) (num := num) h h0 hb a0 aa ab hca
  unfold HE
  rw [eHead_eq c0 e]
  simp only
  unfold HM at L
  generalize eL2 D b (cha D a / 32 % 2) a1 = R at L
  match R, L with
  | .inl c, L =>
    refine ⟨fun c' z => ?_, fun r z => by cases z⟩
    cases z
    exact L.1 c rfl
  | .inr r, L =>
    refine ⟨fun c' z => by (cases z), fun r' z => ?_⟩
    cases z
    obtain ⟨x8, x11, w1, w2⟩ := L.2 r rfl
    exact ⟨num, x8, x11, rfl, hn.1, hn.2, w1, w2⟩
theorem M_head (h : DD D s) (h0 : gI s 87 8 = 0) (hb : b ≤ D.length) (a0 : 0 ≤ a) (ab : a < b) (ha : gI s 87 143 = a) : HE D b a s (f_X14_element b s) := by
  have h' := h
  obtain ⟨hl, hn, hd⟩ := h
  obtain ⟨d1, d2, d3⟩ := hd a a0 (by omega)
  unfold f_X14_element
  rw [vl_eq, vl_eq, ha, gd_pos ⟨by omega, by omega⟩, d1, vl_eq]
  have f4 : cha D a = 0 ∨ cha D a = 32 → HE D b a s (j_X14_element_30 a s) := fun z => by
    unfold HE eHead
    rw [if_pos z]
    refine ⟨fun c w => ?_, fun r w => by cases w⟩
    cases w
    refine ⟨by decide, by decide, ?_⟩
    unfold j_X14_element_30
    rw [X14_tell h0, bdv_eq]
  by_cases c1 : cha D a = 0
  · rw [if_pos c1]; exact f4 (Or.inl c1)
  rw [if_neg c1]
  by_cases c2 : cha D a = 32
  · rw [if_pos c2]; exact f4 (Or.inr c2)
  rw [if_neg c2]
  have c0 : ¬(cha D a = 0 ∨ cha D a = 32) := fun z => z.elim c1 c2
  rw [vl_eq, vl_eq, w32_id (x := a + 1) ⟨by omega, by omega⟩, and32_31]
  by_cases c3 : cha D a % 32 = 31
  · rw [if_pos c3]
    have T := tag_l (b := b) (st := a) (n := gI s 87 129) (ca := cha D a) h' h0 hb a0 (D.length + 1) FU 0 (a + 1) true (by simp) (by omega) (by omega) (by decide) (by decide) (by omega) (by unfold FU; omega)
    generalize hR : tagN D b (D.length + 1) 0 true (a + 1) = R at T
    match R, T with
    | .inl c, T =>
      obtain ⟨e1, e2, y, z, e3⟩ := T.2 c rfl
      have en : eNum D b a = .inl c := by
        unfold eNum
        rw [if_pos c3, hR]
      have f8 := tS8 (s := s) (p := a) e1 e2
      rw [e3, lq_2_eq]
      unfold j_X14_element_185
      rw [if_neg (show ¬gI (tellS s c a) 87 8 = 0 by omega), F_205 f8]
      unfold HE eHead
      rw [if_neg c0, en]
      refine ⟨fun c w => ?_, fun r w => by cases w⟩
      cases w
      exact ⟨e1, e2, rfl⟩
    | .inr q, T =>
      obtain ⟨q1, q2, q3, q4⟩ := tagN_le (D.length + 1) 0 true (a + 1) (by decide) hR
      have en : eNum D b a = (if q.1 < 31 then .inl 2 else .inr q) := by
        unfold eNum
        rw [if_pos c3, hR]
      rw [T.1 q rfl, lq_2_eq]
      unfold j_X14_element_185
      rw [if_pos h0]
      by_cases c4 : q.1 < 31
      · have f2 := tS8 (s := s) (c := 2) (p := a) (by decide) (by decide)
        rw [if_neg (show ¬31 ≤ q.1 by omega), X14_tell h0, bdv_eq, F_205 f2]
        unfold HE eHead
        simp only [c4, if_true] at en
        rw [if_neg c0, en]
        refine ⟨fun c w => ?_, fun r w => by cases w⟩
        cases w
        exact ⟨by decide, by decide, rfl⟩
      · rw [if_pos (show 31 ≤ q.1 by omega)]
        simp only [c4, if_false] at en
        exact M_num h' h0 hb a0 (by omega) q2 ⟨d2, d3⟩ c0 en ⟨q3, by omega⟩
  · rw [if_neg c3]
    have en : eNum D b a = .inr (cha D a % 32, a + 1) := by
      unfold eNum
      rw [if_neg c3]
    exact M_num h' h0 hb a0 (by omega) (by omega) ⟨d2, d3⟩ c0 en ⟨by omega, by omega⟩
end
