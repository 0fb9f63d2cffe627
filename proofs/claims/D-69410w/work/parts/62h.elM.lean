set_option maxRecDepth 100000 set_option linter.unusedVariables false set_option linter.unusedSimpArgs false
/-! PURE 62h: the model's elements: an open one ends -/
section
variable {D : List Int} {s : vS} {b lim to : Int} {els : List (List Int)} {x : Int × Int × Int} {r : List (Int × Int × Int)}
theorem len_elv {y : Int} : (elv els y to).length = els.length := by unfold elv; simp
theorem EMv.pop (h : EMv D lim s (b, els, x :: r)) (h6 : RL6 els) (ht : gE s 177 x.1 = to) : EMv D lim (sI (sI s 87 141 (gE s 179 (gI s 87 141))) 87 142 (w32 (gI s 87 142 - 1))) (b, elv els x.1 to, r) := by
  obtain ⟨hd, hz, h127, hl6, h8, h143, a0, hs, h129, h142, h2, hp, hr, h181⟩ := h
  simp only at h143 a0 hs h129 h142 h2 hp hr h181
  have hD := hd.1
  have sl := hs.le
  have pl := hp.len
  obtain ⟨q1, q2, q3, q4, q5, q6⟩ := hp
  have tp := q6.top
  have nD : 2 * (els.length : Int) ≤ D.length := by omega
  simp only [List.length_cons] at h142 pl
  push_cast at h142 pl
  have wp : w32 (gE s 179 (gI s 87 141)) = gE s 179 (gI s 87 141) := w32_id ⟨by omega, by omega⟩
  obtain ⟨T, hT⟩ : ∃ T, T = sI (sI s 87 141 (gE s 179 (gI s 87 141))) 87 142 (w32 (gI s 87 142 - 1)) := ⟨_, rfl⟩
  rw [← hT]
  have et : gI T 87 141 = gE s 179 (gI s 87 141) := by
    rw [hT]
    simp only [gI_sI, Nat.reduceEqDiff, and_false, true_and, and_true, and_self, if_false, if_true, reduceIte]
    exact wp
  have et2 : gI T 87 142 = r.length := by
    rw [hT, gI_sI, if_pos ⟨rfl, rfl⟩, h142, w32_id (x := (r.length : Int) + 1 - 1) ⟨by omega, by omega⟩, w32_id (x := (r.length : Int) + 1 - 1) ⟨by omega, by omega⟩]; omega
  have gA : ∀ A i, gE T A i = gE s A i := fun A i => by rw [hT]; rfl
  have gB : ∀ A i, gZ T A i = gZ s A i := fun A i => by rw [hT]; rfl
  have gM : ∀ A, gN T A = gN s A := fun A => by rw [hT]; rfl
  have gF : ∀ f : Nat, f ≠ 141 → f ≠ 142 → gI T 87 f = gI s 87 f := fun f h1 h2 => by
    rw [hT, gI_sI, if_neg (fun z => h2 z.2), gI_sI, if_neg (fun z => h1 z.2)]
  refine ⟨⟨hD, by rw [gM]; exact hd.2.1, fun i i0 i1 => by rw [gA]; exact hd.2.2 i i0 i1⟩, fun A h1 h2 => by rw [gM]; exact hz A h1 h2, ?_, ?_, ?_, ?_, a0, hs.2.2.2, ?_, et2, ?_, ?_, ?_, ?_⟩
  · rw [gF _ (by decide) (by decide)]; exact h127
  · rw [gF _ (by decide) (by decide)]; exact hl6
  · rw [gF _ (by decide) (by decide)]; exact h8
  · rw [gF _ (by decide) (by decide)]; exact h143
  · show gI T 87 129 = ((elv els x.1 to).length : Int)
    rw [gF _ (by decide) (by decide), len_elv]; exact h129
  · show 2 * ((elv els x.1 to).length : Int) ≤ b
    rw [len_elv]; exact h2
  · show SPk D T ((elv els x.1 to).length : Int) r (gI T 87 141)
    rw [len_elv, et]
    refine SPk.cong (s := s) (n := els.length) (Int.le_refl _) (fun i i0 i1 => ?_) (fun y hy => ?_) q6
    · rw [gA, gB]; exact ⟨rfl, rfl⟩
    · rw [gA]
  · intro i i0 i1
    simp only [len_elv] at i1 ⊢
    obtain ⟨w1, w2, w3, w4, w5, w6, w7⟩ := hr i i0 i1
    have ec : ∀ c : Nat, c ≠ 3 → c ≠ 4 → ecl (elv els x.1 to) i c = ecl els i c := fun c n3 n4 => by
      rw [ecl_elv h6 (by omega) (by omega) i0 i1, if_neg (fun z => n3 z.2), if_neg (fun z => n4 z.2)]
    rw [gA, gA, gA, gB, gA, gA, ec 1 (by decide) (by decide), ec 0 (by decide) (by decide), ec 5 (by decide) (by decide), ec 2 (by decide) (by decide)]
    refine ⟨w1, w2, w3, w4, w5, w6, fun w => ?_⟩
    rw [ecl_elv h6 (by omega) (by omega) i0 i1]
    by_cases z : i = x.1
    · rw [if_pos ⟨z, rfl⟩, z]; exact ht
    · rw [if_neg (fun y => z y.1), if_neg (fun y => z y.1)]
      refine w7 (fun y hy => ?_)
      rcases List.mem_cons.mp hy with e | e
      · rw [e]; exact Ne.symm z
      · exact w y e
  · intro i i0 i1
    simp only [len_elv] at i1 ⊢
    rw [gA]; exact h181 i i0 i1
end
