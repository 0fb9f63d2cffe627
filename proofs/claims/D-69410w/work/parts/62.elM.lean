set_option maxRecDepth 100000 set_option linter.unusedVariables false set_option linter.unusedSimpArgs false
/-! PURE 62: the model's elements: a head -/
section
variable {D : List Int} {s s' : vS} {b st n ca : Int}
def DD (D : List Int) (s : vS) : Prop := D.length ≤ 32768 ∧ D.length ≤ gN s 171 ∧ ∀ i : Int, 0 ≤ i → i < D.length → gE s 171 i = cha D i ∧ 0 ≤ cha D i ∧ cha D i < 256
theorem tS8 {c p : Int} (h : 0 < c) (h1 : c ≤ 6) : 0 < gI (tellS s c p) 87 8 := by
  unfold tellS
  rw [gI_s87, if_neg (by decide), gI_s87, if_pos rfl, w32_id ⟨by omega, by omega⟩]; exact h
theorem TL_F {x1 x2 x3 x4 x5 x6 x7 : Int} {N : Nat} (h : 0 < gI s 87 8) (hN : 1 ≤ N) : l_X14_element_62 N x1 x2 x3 x4 x5 x6 x7 s = some (x5, x6, s) := by
  obtain ⟨N, rfl⟩ : ∃ m, N = m + 1 := ⟨N - 1, by omega⟩
  unfold l_X14_element_62
  by_cases c : x7 = 0
  · rw [if_pos c]
  · rw [if_neg c, if_neg (show ¬gI s 87 8 = 0 by omega)]
theorem T151_F {x1 x2 x3 x4 x5 x6 x8 : Int} {N : Nat} (h : 0 < gI s 87 8) (hN : 1 ≤ N) : ∃ y z, j_X14_element_151 (l_X14_element_62 N) x1 x2 x3 x4 x5 x6 x8 s = some (y, z, s) := by
  unfold j_X14_element_151
  rw [vl_eq]
  by_cases c : x8 ≤ 127
  · rw [if_pos c, vl_eq, TL_F h hN]; exact ⟨_, _, rfl⟩
  · rw [if_neg c, vl_eq, TL_F h hN]; exact ⟨_, _, rfl⟩
theorem T134_F {x1 x2 x3 x4 x5 x6 x8 : Int} {N : Nat} (h : 0 < gI s 87 8) (hN : 1 ≤ N) : ∃ y z, j_X14_element_134 (l_X14_element_62 N) x1 x2 x3 x4 x5 x6 x8 s = some (y, z, s) := by
  unfold j_X14_element_134
  by_cases c : x6 ≤ 2097151
  · rw [if_pos c]; exact T151_F h hN
  · rw [if_neg c, X14_tell' h, bdv_eq]; exact T151_F h hN
/-- a tag's number -/
theorem tag_l (h : DD D s) (h0 : gI s 87 8 = 0) (hb : b ≤ D.length) (s0 : 0 ≤ st) : ∀ (k N : Nat) (v a : Int) (fs : Bool), (fs = true ↔ a = st + 1) → st < a → a ≤ b → 0 ≤ v → v ≤ 268435455 → b - a < k → k + 2 ≤ N →
    (∀ q, tagN D b k v fs a = .inr q → l_X14_element_62 N b n st ca a v 1 s = some (q.2, q.1, s)) ∧ (∀ c, tagN D b k v fs a = .inl c → 0 < c ∧ c ≤ 6 ∧ ∃ y z, l_X14_element_62 N b n st ca a v 1 s = some (y, z, tellS s c st)) := by
  intro k
  induction k with
  | zero => intro N v a fs hf ha ab v0 v1 hk; omega
  | succ k ih =>
    intro N v a fs hf ha ab v0 v1 hk hN
    obtain ⟨hl, hn, hd⟩ := h
    obtain ⟨N, rfl⟩ : ∃ m, N = m + 1 := ⟨N - 1, by omega⟩
    unfold l_X14_element_62 tagN
    rw [if_neg (show ¬(1 : Int) = 0 by decide), if_pos h0]
    by_cases c1 : b ≤ a
    · rw [if_pos c1, if_neg (show ¬a < b by omega)]
      refine ⟨fun q z => by (cases z), fun c z => ?_⟩
      cases z
      refine ⟨by decide, by decide, ?_⟩
      rw [X14_tell h0, bdv_eq]
      unfold j_X14_element_86 j_X14_element_103
      have f8 := tS8 (s := s) (c := 1) (p := st) (by decide) (by decide)
      rw [if_pos c1, if_neg (show ¬gI (tellS s 1 st) 87 8 = 0 by omega)]
      exact T134_F f8 (by omega)
    · rw [if_neg c1, if_pos (show a < b by omega)]
      obtain ⟨d1, d2, d3⟩ := hd a (by omega) (by omega)
      unfold j_X14_element_86
      rw [if_neg c1, gd_pos ⟨by omega, by omega⟩, d1]
      unfold j_X14_element_103
      rw [if_pos h0, w32_id (x := st + 1) ⟨by omega, by omega⟩]
      have e2 : ∀ (s1 : vS), (0 < gI (tellS s 2 st) 87 8) := fun _ => tS8 (by decide) (by decide)
      by_cases c2 : (fs = true ∧ cha D a = 128) ∨ 2097151 < v
      · rw [if_pos c2]
        refine ⟨fun q z => by (cases z), fun c z => ?_⟩
        cases z
        refine ⟨by decide, by decide, ?_⟩
        have f8 := tS8 (s := s) (c := 2) (p := st) (by decide) (by decide)
        have big : 2097151 < v → ∃ y z, j_X14_element_134 (l_X14_element_62 N) b n st ca a v (cha D a) s = some (y, z, tellS s 2 st) := fun w => by
          unfold j_X14_element_134
          rw [if_neg (show ¬v ≤ 2097151 by omega), X14_tell h0, bdv_eq]
          exact T151_F f8 (by omega)
        by_cases c3 : a = st + 1
        · rw [if_pos c3]
          by_cases c4 : cha D a = 128
          · rw [if_pos c4, X14_tell h0, bdv_eq]; exact T134_F f8 (by omega)
          · rw [if_neg c4]; exact big (c2.resolve_left (fun z => c4 z.2))
        · rw [if_neg c3]; exact big (c2.resolve_left (fun z => c3 (hf.mp z.1)))
      · rw [if_neg c2]
        have v2 : v ≤ 2097151 := by
          by_cases z : 2097151 < v
          · exact absurd (Or.inr z) c2
          · omega
        have ej : (if a = st + 1 then (if cha D a = 128 then bdv (f_X14_tell 2 st s) fun s4 => j_X14_element_134 (l_X14_element_62 N) b n st ca a v (cha D a) s4 else j_X14_element_134 (l_X14_element_62 N) b n st ca a v (cha D a) s) else j_X14_element_134 (l_X14_element_62 N) b n st ca a v (cha D a) s) = j_X14_element_134 (l_X14_element_62 N) b n st ca a v (cha D a) s := by
          by_cases c3 : a = st + 1
          · rw [if_pos c3, if_neg (fun z => c2 (Or.inl ⟨hf.mpr c3, z⟩))]
          · rw [if_neg c3]
        rw [ej]
        unfold j_X14_element_134
        rw [if_pos v2]
        unfold j_X14_element_151
        rw [vl_eq, and32_127, w32_id (x := 128 * v) ⟨by omega, by omega⟩, w32_id (x := 128 * v + cha D a % 128) ⟨by omega, by omega⟩, vl_eq, vl_eq, w32_id (x := a + 1) ⟨by omega, by omega⟩, show 128 * v + cha D a % 128 = v * 128 + cha D a % 128 by omega]
        by_cases c5 : cha D a ≤ 127
        · rw [if_pos c5, if_pos c5]
          refine ⟨fun q z => ?_, fun c z => by (cases z)⟩
          cases z
          obtain ⟨N, rfl⟩ : ∃ m, N = m + 1 := ⟨N - 1, by omega⟩
          unfold l_X14_element_62
          rw [if_pos rfl]
        · rw [if_neg c5, if_neg c5]
          exact ih N (v * 128 + cha D a % 128) (a + 1) false (by constructor; (intro z; cases z); (intro z; omega)) (by omega) (by omega) (by omega) (by omega) (by omega) (by omega)
end
