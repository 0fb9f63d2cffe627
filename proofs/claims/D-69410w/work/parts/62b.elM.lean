set_option maxRecDepth 100000 set_option linter.unusedVariables false set_option linter.unusedSimpArgs false
/-! PURE 62b: the model's elements: a length, a whole head -/
section
variable {D : List Int} {s s' : vS} {a b st n ca : Int}
theorem LL_F {x1 x2 x3 x4 x5 x6 x7 x8 x10 x11 : Int} {N : Nat} (h : 0 < gI s 87 8) (hN : 1 ≤ N) : l_X14_element_310 N x1 x2 x3 x4 x5 x6 x7 x8 x10 x11 s = some (x5, x8, s) := by
  obtain ⟨N, rfl⟩ : ∃ m, N = m + 1 := ⟨N - 1, by omega⟩
  unfold l_X14_element_310
  by_cases c : w32 (x7 - 128) ≤ x11
  · rw [if_pos c]
  · rw [if_neg c, if_neg (show ¬gI s 87 8 = 0 by omega)]
theorem L363_F {x1 x2 x3 x4 x5 x6 x7 x10 x11 z0 z1 : Int} {N : Nat} (h : 0 < gI s 87 8) (hN : 1 ≤ N) : ∃ y z, j_X14_element_363 (l_X14_element_310 N) x1 x2 x3 x4 x5 x6 x7 x10 x11 z0 z1 s = some (y, z, s) := by
  unfold j_X14_element_363
  rw [vl_eq]
  by_cases c : cmp64 (w64 (z0 + z1)) 2147483647 ≤ 0
  · rw [if_pos c, vl_eq, vl_eq, LL_F h hN]; exact ⟨_, _, rfl⟩
  · rw [if_neg c, X14_tell' h, bdv_eq, vl_eq, vl_eq, LL_F h hN]; exact ⟨_, _, rfl⟩
theorem len_l {x6 x7 x10 : Int} (h : DD D s) (h0 : gI s 87 8 = 0) (hb : b ≤ D.length) (s0 : 0 ≤ st) (h7 : 128 ≤ x7 ∧ x7 ≤ 255) : ∀ (k N : Nat) (v a i : Int), i + k = x7 - 128 → 0 ≤ i → st < a → a ≤ b → 0 ≤ v → v ≤ 2147483647 → k + 2 ≤ N →
    (∀ q, lenN D b k v a = .inr q → l_X14_element_310 N b n st ca a x6 x7 v x10 i s = some (q.2, q.1, s)) ∧ (∀ c, lenN D b k v a = .inl c → 0 < c ∧ c ≤ 6 ∧ ∃ y z, l_X14_element_310 N b n st ca a x6 x7 v x10 i s = some (y, z, tellS s c st)) := by
  intro k
  induction k with
  | zero =>
    intro N v a i hi i0 ha ab v0 v1 hN
    obtain ⟨N, rfl⟩ : ∃ m, N = m + 1 := ⟨N - 1, by omega⟩
    unfold l_X14_element_310 lenN
    rw [w32_id (x := x7 - 128) ⟨by omega, by omega⟩, if_pos (show x7 - 128 ≤ i by omega)]
    refine ⟨fun q z => ?_, fun c z => by cases z⟩
    cases z
    rfl
  | succ k ih =>
    intro N v a i hi i0 ha ab v0 v1 hN
    obtain ⟨hl, hn, hd⟩ := h
    obtain ⟨N, rfl⟩ : ∃ m, N = m + 1 := ⟨N - 1, by omega⟩
    unfold l_X14_element_310 lenN
    rw [w32_id (x := x7 - 128) ⟨by omega, by omega⟩, if_neg (show ¬x7 - 128 ≤ i by omega), if_pos h0]
    by_cases c1 : b ≤ a
    · rw [if_pos c1, if_neg (show ¬a < b by omega)]
      refine ⟨fun q z => by (cases z), fun c z => ?_⟩
      cases z
      refine ⟨by decide, by decide, ?_⟩
      rw [X14_tell h0, bdv_eq]
      unfold j_X14_element_340
      rw [if_pos c1]
      exact L363_F (tS8 (by decide) (by decide)) (by omega)
    · rw [if_neg c1, if_pos (show a < b by omega)]
      obtain ⟨d1, d2, d3⟩ := hd a (by omega) (by omega)
      unfold j_X14_element_340
      rw [if_neg c1, gd_pos ⟨by omega, by omega⟩, d1]
      unfold j_X14_element_363
      rw [vl_eq, w64_id (x := 256 * v) ⟨by omega, by omega⟩, w64_id (x := 256 * v + cha D a) ⟨by omega, by omega⟩, show 256 * v + cha D a = v * 256 + cha D a by omega]
      by_cases c2 : 2147483647 < v * 256 + cha D a
      · rw [if_pos c2, if_neg (fun z => by rw [cmp64_le] at z; omega)]
        refine ⟨fun q z => by (cases z), fun c z => ?_⟩
        cases z
        refine ⟨by decide, by decide, ?_⟩
        rw [X14_tell h0, bdv_eq, vl_eq, vl_eq, LL_F (tS8 (by decide) (by decide)) (by omega)]
        exact ⟨_, _, rfl⟩
      · rw [if_neg c2, if_pos (by rw [cmp64_le]; omega), vl_eq, vl_eq, w32_id (x := a + 1) ⟨by omega, by omega⟩, w32_id (x := i + 1) ⟨by omega, by omega⟩]
        exact ih N (v * 256 + cha D a) (a + 1) (i + 1) (by omega) (by omega) (by omega) (by omega) (by omega) (by omega) (by omega)
theorem F_436 {x2 x3 x4 x5 x6 x8 x10 x11 : Int} (h : 0 < gI s 87 8) : j_X14_element_436 x2 x3 x4 x5 x6 x8 x10 x11 s = some s := by
  unfold j_X14_element_436
  rw [if_neg (by omega)]
theorem F_404 {x1 x2 x3 x4 x5 x6 x8 x10 z0 : Int} (h : 0 < gI s 87 8) : j_X14_element_404 x1 x2 x3 x4 x5 x6 x8 x10 z0 s = some s := by
  unfold j_X14_element_404
  rw [if_neg (by omega), F_436 h]
theorem F_391 {x1 x2 x3 x4 x5 x6 x7 x8 x10 : Int} (h : 0 < gI s 87 8) : j_X14_element_391 x1 x2 x3 x4 x5 x6 x7 x8 x10 s = some s := by
  unfold j_X14_element_391
  rw [F_404 h, F_404 h]
  split <;> rfl
theorem F_205 {x1 x2 x3 x4 x5 x6 : Int} (h : 0 < gI s 87 8) : j_X14_element_205 x1 x2 x3 x4 x5 x6 s = some s := by
  unfold j_X14_element_205 j_X14_element_224
  rw [if_neg (by omega), if_neg (by omega)]
def eL2 (D : List Int) (b con a : Int) : Int ⊕ (Int × Int) := match eLen D b con a with
  | .inl c => .inl c
  | .inr r => if r.1 ≠ -1 ∧ b - r.2 < r.1 then .inl 1 else .inr r
/-- what a head leaves to be written -/
def HM (b n a ca num con : Int) (s : vS) (m : Option vS) (g : Int ⊕ (Int × Int)) : Prop :=
  (∀ c, g = .inl c → 0 < c ∧ c ≤ 6 ∧ m = some (tellS s c a)) ∧
  (∀ r, g = .inr r → ∃ x8 x11, (x11 = 1 ∧ r.1 = -1 ∨ x11 = 0 ∧ r.1 = x8 ∧ 0 ≤ x8 ∧ x8 ≤ 2147483647) ∧ m = j_X14_element_436 n a ca r.2 num x8 con x11 s)
theorem con_eq {ca : Int} (h : 0 ≤ ca ∧ ca < 256) : and32 (shr32 ca 5) 1 = ca / 32 % 2 := by
  rw [and32_1, shr32_div 5 ⟨by omega, by omega⟩ (by decide) (by decide)]
  rfl
theorem M_len {num a1 : Int} (h : DD D s) (h0 : gI s 87 8 = 0) (hb : b ≤ D.length) (a0 : 0 ≤ a) (a1a : a < a1) (ab : a1 ≤ b) (hca : 0 ≤ ca ∧ ca < 256) : HM b n a ca num (ca / 32 % 2) s (j_X14_element_205 b n a ca a1 num s) (eL2 D b (ca / 32 % 2) a1) := by
  have h' := h
  obtain ⟨hl, hn, hd⟩ := h
  have hc01 : ca / 32 % 2 = 0 ∨ ca / 32 % 2 = 1 := by omega
  generalize hcon : ca / 32 % 2 = con at hc01 ⊢
  have f1 : 0 < gI (tellS s 1 a) 87 8 := tS8 (by decide) (by decide)
  have f3 : 0 < gI (tellS s 3 a) 87 8 := tS8 (by decide) (by decide)
  unfold j_X14_element_205 eL2 eLen HM
  rw [if_pos h0]
  by_cases c1 : b ≤ a1
  · rw [if_pos c1, if_neg (show ¬a1 < b by omega), X14_tell h0, bdv_eq]
    refine ⟨fun c z => ?_, fun r z => by (cases z)⟩
    cases z
    refine ⟨by decide, by decide, ?_⟩
    unfold j_X14_element_224
    rw [if_neg (show ¬gI (tellS s 1 a) 87 8 ≤ 0 by omega)]
  rw [if_neg c1, if_pos (show a1 < b by omega)]
  unfold j_X14_element_224
  obtain ⟨d1, d2, d3⟩ := hd a1 (by omega) (by omega)
  rw [if_pos (show gI s 87 8 ≤ 0 by omega), gd_pos ⟨by omega, by omega⟩, d1, vl_eq, vl_eq, w32_id (x := a1 + 1) ⟨by omega, by omega⟩, con_eq hca, hcon]
  have ez : (if con = 1 then j_X14_element_264 b n a ca (a1 + 1) num (cha D a1) (cha D a1) 1 s else j_X14_element_264 b n a ca (a1 + 1) num (cha D a1) (cha D a1) 0 s) = j_X14_element_264 b n a ca (a1 + 1) num (cha D a1) (cha D a1) con s := by
    rcases hc01 with z | z <;> subst z <;> rfl
  rw [ez]
  -- what a definite length leads to
  have fin : ∀ (x7 x8 a2 : Int), x7 ≠ 128 → 0 ≤ x8 → x8 ≤ 2147483647 → 0 ≤ a2 → a2 ≤ b → HM b n a ca num con s (j_X14_element_391 b n a ca a2 num x7 x8 con s) (if x8 ≠ -1 ∧ b - a2 < x8 then .inl 1 else .inr (x8, a2)) := by
    intro x7 x8 a2 n7 p0 p1 q0 q1
    unfold HM j_X14_element_391
    rw [if_neg n7]
    unfold j_X14_element_404
    rw [if_pos h0, if_pos rfl, w64_id (x := a2 + x8) ⟨by omega, by omega⟩]
    by_cases z : b - a2 < x8
    · rw [if_pos ⟨by omega, z⟩, if_neg (fun w => by rw [cmp64_le] at w; omega), X14_tell h0, bdv_eq, F_436 f1]
      refine ⟨fun c z => ?_, fun r z => by (cases z)⟩
      cases z
      exact ⟨by decide, by decide, rfl⟩
    · rw [if_neg (fun w => z w.2), if_pos (by rw [cmp64_le]; omega)]
      refine ⟨fun c z => by (cases z), fun r z => ?_⟩
      cases z
      exact ⟨x8, 0, Or.inr ⟨rfl, rfl, p0, p1⟩, rfl⟩
  have bad : HM b n a ca num con s (j_X14_element_287 b n a ca (a1 + 1) num (cha D a1) (cha D a1) con s) (.inl 3) := by
    unfold HM j_X14_element_287
    rw [X14_tell h0, bdv_eq, F_391 f3]
    refine ⟨fun c z => ?_, fun r z => by (cases z)⟩
    cases z
    exact ⟨by decide, by decide, rfl⟩
  unfold HM at fin bad
  unfold j_X14_element_264
  by_cases c2 : cha D a1 < 128
  · rw [if_pos c2, if_neg (show ¬cha D a1 = 255 by omega), if_neg (show ¬cha D a1 = 128 by omega)]
    unfold j_X14_element_296
    rw [if_pos (show cha D a1 ≤ 128 by omega)]
    exact fin (cha D a1) (cha D a1) (a1 + 1) (by omega) (by omega) (by omega) (by omega) (by omega)
  rw [if_neg c2]
  by_cases c3 : cha D a1 = 255
  · rw [if_pos (Or.inl c3), if_pos c3]
    exact bad
  rw [if_neg c3]
  by_cases c4 : cha D a1 = 128
  · rw [if_pos c4]
    by_cases c5 : con = 0
    · rw [if_pos c5, if_pos (Or.inr ⟨c4, c5⟩), if_pos c4]
      exact bad
    · rw [if_neg c5, if_neg (fun z => z.elim c3 (fun z => c5 z.2)), if_pos c4]
      unfold j_X14_element_296 j_X14_element_391 j_X14_element_404
      rw [if_pos (show cha D a1 ≤ 128 by omega), if_pos c4, if_pos h0, if_neg (show ¬(1 : Int) = 0 by decide)]
      refine ⟨fun c z => ?_, fun r z => ?_⟩
      · simp only [ne_eq, not_true_eq_false, false_and, if_false] at z; cases z
      · simp only [ne_eq, not_true_eq_false, false_and, if_false] at z
        cases z
        exact ⟨cha D a1, 1, Or.inl ⟨rfl, rfl⟩, rfl⟩
  · rw [if_neg c4, if_neg (fun z => z.elim c3 (fun z => c4 z.1)), if_neg c4]
    unfold j_X14_element_296
    rw [if_neg (show ¬cha D a1 ≤ 128 by omega)]
    have lp := len_l (n := n) (ca := ca) (x6 := num) (x7 := cha D a1) (x10 := con) h' h0 hb a0 ⟨by omega, by omega⟩ (cha D a1 - 128).toNat FU 0 (a1 + 1) 0 (by omega) (by decide) (by omega) (by omega) (by decide) (by decide) (by unfold FU; omega)
    generalize hR : lenN D b (cha D a1 - 128).toNat 0 (a1 + 1) = R at lp
    match R, lp with
    | .inl c, lp =>
      obtain ⟨e1, e2, y, z, e3⟩ := lp.2 c rfl
      rw [e3, lq_2_eq, F_391 (tS8 e1 e2)]
      refine ⟨fun c z => ?_, fun r z => by (cases z)⟩
      cases z
      exact ⟨e1, e2, rfl⟩
    | .inr q, lp =>
      have e3 := lp.1 q rfl
      have q4 := lenN_le (fun i i0 i1 => (hd i i0 i1).2) hb _ 0 (a1 + 1) (by omega) (by decide) (by decide) hR
      rw [e3, lq_2_eq]
      exact fin (cha D a1) q.1 q.2 c4 q4.2.2.1 q4.2.2.2 (by omega) (q4.2.1 (by omega))
end
