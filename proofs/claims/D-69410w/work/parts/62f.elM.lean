set_option maxRecDepth 100000 set_option linter.unusedVariables false set_option linter.unusedSimpArgs false
/-! PURE 62f: the model's elements: what is read behind the writing of one -/
section
variable {D : List Int} {s s' t : vS} {a b st n ca lim p cls con num body e op i : Int} {els : List (List Int)} {stk stk' : List (Int × Int × Int)}
theorem gZ_ite {c : Prop} [Decidable c] {t u : vS} {A : Nat} {i : Int} {v : Int} (h1 : gZ t A i = v) (h2 : gZ u A i = v) : gZ (if c then t else u) A i = v := by split <;> assumption
theorem gZ_lk {A : Nat} {i : Int} (h1 : A ≠ 180) (h2 : A ≠ 181) (h3 : A ≠ 182) : gZ (lk s n p) A i = gZ s A i := by
  unfold lk
  refine gZ_ite rfl ?_
  have e1 : gZ (if gE s 181 p < 0 then s else sE s 182 (gE s 181 p) n) A i = gZ s A i := gZ_ite rfl (by rw [gZ_sE, if_neg (fun z => h3 z.1)])
  simp only
  rw [gZ_sE, if_neg (fun z => h2 z.1)]
  exact gZ_ite e1 (by rw [gZ_sE, if_neg (fun z => h1 z.1)]; exact e1)
theorem c172 : gE (lk (w11 s n a cls con num body e op p) n p) 172 i = if i = n then w32 a else gE s 172 i := by
  rw [gE_lk (by decide) (by decide) (by decide)]; unfold w11
  simp only [gE_sE, Nat.reduceEqDiff, false_and, true_and, if_false]
theorem c173 : gE (lk (w11 s n a cls con num body e op p) n p) 173 i = if i = n then w32 cls else gE s 173 i := by
  rw [gE_lk (by decide) (by decide) (by decide)]; unfold w11
  simp only [gE_sE, Nat.reduceEqDiff, false_and, true_and, if_false]
theorem c174 : gZ (lk (w11 s n a cls con num body e op p) n p) 174 i = if i = n then bz con else gZ s 174 i := by
  rw [gZ_lk (by decide) (by decide) (by decide)]; unfold w11
  simp only [gZ_sE, Nat.reduceEqDiff, false_and, true_and, if_false]
theorem c175 : gE (lk (w11 s n a cls con num body e op p) n p) 175 i = if i = n then w32 num else gE s 175 i := by
  rw [gE_lk (by decide) (by decide) (by decide)]; unfold w11
  simp only [gE_sE, Nat.reduceEqDiff, false_and, true_and, if_false]
theorem c176 : gE (lk (w11 s n a cls con num body e op p) n p) 176 i = if i = n then w32 body else gE s 176 i := by
  rw [gE_lk (by decide) (by decide) (by decide)]; unfold w11
  simp only [gE_sE, Nat.reduceEqDiff, false_and, true_and, if_false]
theorem c177 : gE (lk (w11 s n a cls con num body e op p) n p) 177 i = if i = n then w32 e else gE s 177 i := by
  rw [gE_lk (by decide) (by decide) (by decide)]; unfold w11
  simp only [gE_sE, Nat.reduceEqDiff, false_and, true_and, if_false]
theorem c178 : gZ (lk (w11 s n a cls con num body e op p) n p) 178 i = if i = n then bz op else gZ s 178 i := by
  rw [gZ_lk (by decide) (by decide) (by decide)]; unfold w11
  simp only [gZ_sE, Nat.reduceEqDiff, false_and, true_and, if_false]
theorem c179 : gE (lk (w11 s n a cls con num body e op p) n p) 179 i = if i = n then w32 p else gE s 179 i := by
  rw [gE_lk (by decide) (by decide) (by decide)]; unfold w11
  simp only [gE_sE, Nat.reduceEqDiff, false_and, true_and, if_false]
theorem c171 : gE (lk (w11 s n a cls con num body e op p) n p) 171 i = gE s 171 i := by
  rw [gE_lk (by decide) (by decide) (by decide)]; unfold w11
  simp only [gE_sE, Nat.reduceEqDiff, false_and, true_and, if_false]
theorem cI {o f : Nat} : gI (lk (w11 s n a cls con num body e op p) n p) o f = gI s o f := by
  rw [gI_lk]; unfold w11
  simp only [gI_sE]
theorem gN_ite {c : Prop} [Decidable c] {t u : vS} {A : Nat} {v : Nat} (h1 : gN t A = v) (h2 : gN u A = v) : gN (if c then t else u) A = v := by split <;> assumption
theorem cN {A : Nat} : gN (lk (w11 s n a cls con num body e op p) n p) A = gN s A := by
  have e0 : gN (w11 s n a cls con num body e op p) A = gN s A := by unfold w11; simp only [gN_sE]
  rw [← e0]
  generalize w11 s n a cls con num body e op p = t
  unfold lk
  refine gN_ite rfl ?_
  have e1 : gN (if gE t 181 p < 0 then t else sE t 182 (gE t 181 p) n) A = gN t A := gN_ite rfl (gN_sE ..)
  simp only
  rw [gN_sE]
  exact gN_ite e1 (by rw [gN_sE]; exact e1)
/-- the elements' cells as rows -/
def ERm (s : vS) (els : List (List Int)) (stk : List (Int × Int × Int)) : Prop := ∀ i : Int, 0 ≤ i → i < els.length → gE s 172 i = ecl els i 1 ∧ gE s 173 i * 268435456 + gE s 175 i = ecl els i 0 ∧ 0 ≤ gE s 175 i ∧ gE s 175 i < 268435456 ∧ gZ s 174 i = ecl els i 5 ∧ gE s 176 i = ecl els i 2 ∧ ((∀ x ∈ stk, x.1 ≠ i) → gE s 177 i = ecl els i 3)
theorem shr6 {x : Int} (h : 0 ≤ x ∧ x < 256) : shr32 x 6 = x / 64 := by
  rw [shr32_div 6 ⟨by omega, by omega⟩ (by decide) (by decide)]
  rfl
theorem bz01 {x : Int} (h : x = 0 ∨ x = 1) : bz x = x := by rcases h with z | z <;> subst z <;> decide
/-- one more element -/
theorem ERm.app (h : ERm s els stk) (hn : n = els.length) (a0 : 0 ≤ a ∧ a ≤ 100000) (hca : 0 ≤ ca ∧ ca < 256) (hc : con = 0 ∨ con = 1) (hm : 0 ≤ num ∧ num < 268435456) (hb : 0 ≤ body ∧ body ≤ 100000) {to bh : Int} (hs : ∀ i : Int, i < n → (∀ x ∈ stk', x.1 ≠ i) → ∀ x ∈ stk, x.1 ≠ i) (he : (∀ x ∈ stk', x.1 ≠ n) → w32 e = to) :
    ERm (lk (w11 s n a (shr32 ca 6) con num body e op p) n p) (els ++ [[ca / 64 * 268435456 + num, a, body, to, bh, con]]) stk' := by
  subst hn
  intro i i0 i1
  simp only [List.length_append, List.length_singleton] at i1
  push_cast at i1
  rw [c172, c173, c174, c175, c176, c177, shr6 hca]
  by_cases z : i = els.length
  · subst z
    simp only [if_true, ecl_last]
    rw [w32_id (x := a) ⟨by omega, by omega⟩, w32_id (x := ca / 64) ⟨by omega, by omega⟩, w32_id (x := num) ⟨by omega, by omega⟩, w32_id (x := body) ⟨by omega, by omega⟩, bz01 hc]
    exact ⟨rfl, rfl, hm.1, hm.2, rfl, rfl, he⟩
  · simp only [z, if_false]
    rw [ecl_app i0 (by omega), ecl_app i0 (by omega), ecl_app i0 (by omega), ecl_app i0 (by omega), ecl_app i0 (by omega)]
    obtain ⟨q1, q2, q3, q4, q5, q6, q7⟩ := h i i0 (by omega)
    exact ⟨q1, q2, q3, q4, q5, q6, fun w => q7 (hs i (by omega) w)⟩
end
