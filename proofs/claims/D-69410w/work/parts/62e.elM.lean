set_option maxRecDepth 100000 set_option linter.unusedVariables false set_option linter.unusedSimpArgs false
/-! PURE 62e: the model's elements: one is written -/
section
variable {D : List Int} {s s' : vS} {a b st n ca lim p : Int}
theorem EZ.w (h : EZ D s) {A : Nat} {i v : Int} : EZ D (sE s A i v) := fun B h1 h2 => by rw [gN_sE]; exact h B h1 h2
/-- an element among the others: the one before it, its parent -/
def lk (s : vS) (n p : Int) : vS :=
  if p < 0 then s else
  let s1 := if gE s 181 p < 0 then s else sE s 182 (gE s 181 p) n
  sE (if 0 ≤ gE s1 181 p then s1 else sE s1 180 p n) 181 p n
theorem gI_ite {c : Prop} [Decidable c] {t u : vS} {o f : Nat} {v : Int} (h1 : gI t o f = v) (h2 : gI u o f = v) : gI (if c then t else u) o f = v := by split <;> assumption
theorem gE_ite {c : Prop} [Decidable c] {t u : vS} {A : Nat} {i : Int} {v : Int} (h1 : gE t A i = v) (h2 : gE u A i = v) : gE (if c then t else u) A i = v := by split <;> assumption
theorem gI_lk {o f : Nat} : gI (lk s n p) o f = gI s o f := by
  unfold lk
  refine gI_ite rfl ?_
  have e1 : gI (if gE s 181 p < 0 then s else sE s 182 (gE s 181 p) n) o f = gI s o f := gI_ite rfl (gI_sE ..)
  simp only
  rw [gI_sE]
  exact gI_ite e1 (by rw [gI_sE]; exact e1)
theorem gE_lk {A : Nat} {i : Int} (h1 : A ≠ 180) (h2 : A ≠ 181) (h3 : A ≠ 182) : gE (lk s n p) A i = gE s A i := by
  unfold lk
  refine gE_ite rfl ?_
  have e1 : gE (if gE s 181 p < 0 then s else sE s 182 (gE s 181 p) n) A i = gE s A i := gE_ite rfl (by rw [gE_sE, if_neg (fun z => h3 z.1)])
  simp only
  rw [gE_sE, if_neg (fun z => h2 z.1)]
  exact gE_ite e1 (by rw [gE_sE, if_neg (fun z => h1 z.1)]; exact e1)
theorem M_506 {x5 x10 : Int} (hz : EZ D s) (hn : 0 ≤ n ∧ 2 * n ≤ D.length + 2) (hp : gI s 87 141 = p) (p0 : p = -1 ∨ 0 ≤ p ∧ p < n) (hc : 0 ≤ p → gE s 181 p < n) :
    (if (gI s 87 141) < 0 then j_X14_element_580 n x5 x10 s else gd (inb (gI s 87 141) (gN s 181)) <| if (gE s 181 (gI s 87 141)) < 0 then j_X14_element_580 n x5 x10 s else
      gd (inb (gI s 87 141) (gN s 181)) <| gd (inb (gE s 181 (gI s 87 141)) (gN s 182)) <| stp (sE s 182 (gE s 181 (gI s 87 141)) n) fun s24 => j_X14_element_580 n x5 x10 s24) = j_X14_element_626 n x5 x10 (lk s n p) := by
  rw [hp]
  unfold lk
  by_cases c : p < 0
  · rw [if_pos c, if_pos c]
    unfold j_X14_element_580 j_X14_element_609
    rw [hp, if_pos c, if_pos c]
  · have q : 0 ≤ p ∧ p < n := p0.resolve_left (by omega)
    have ix : ∀ {t : vS} {A : Nat}, EZ D t → 172 ≤ A → A ≤ 182 → inb p (gN t A) := fun ht h1 h2 => ht.ix h1 h2 q.1 (by omega)
    have k9 : ∀ t : vS, EZ D t → gI t 87 141 = p → j_X14_element_580 n x5 x10 t = j_X14_element_626 n x5 x10 (sE (if 0 ≤ gE t 181 p then t else sE t 180 p n) 181 p n) := fun t ht hp' => by
      unfold j_X14_element_580
      rw [hp', if_neg c, gd_pos (ix ht (by decide) (by decide))]
      by_cases c2 : 0 ≤ gE t 181 p
      · rw [if_pos c2, if_pos c2]
        unfold j_X14_element_609
        rw [hp', if_neg c, gd_pos (ix ht (by decide) (by decide)), stp_eq]
      · rw [if_neg c2, if_neg c2, gd_pos (ix ht (by decide) (by decide)), stp_eq]
        unfold j_X14_element_609
        rw [gI_sE, hp', if_neg c, gd_pos (ix ht.w (by decide) (by decide)), stp_eq]
    rw [if_neg c, if_neg c, gd_pos (ix hz (by decide) (by decide))]
    by_cases c1 : gE s 181 p < 0
    · simp only [c1, if_true]
      exact k9 s hz hp
    · simp only [c1, if_false]
      rw [gd_pos (ix hz (by decide) (by decide)), gd_pos (hz.ix (by decide) (by decide) (by omega) (by have := hc q.1; omega)), stp_eq]
      exact k9 _ hz.w (by rw [gI_sE]; exact hp)
/-- an element's cells -/
def w11 (s : vS) (n a cls con num body e op p : Int) : vS :=
  sE (sE (sE (sE (sE (sE (sE (sE (sE (sE (sE s 172 n a) 173 n cls) 174 n con) 175 n num) 176 n body) 177 n e) 178 n op) 179 n p) 180 n (-1)) 181 n (-1)) 182 n (-1)
theorem M_436 {body num x8 con x11 : Int} (h0 : gI s 87 8 = 0) (hz : EZ D s) (hn : 0 ≤ n ∧ 2 * n ≤ D.length + 2) (hp : gI s 87 141 = p) (p0 : p = -1 ∨ 0 ≤ p ∧ p < n) (hc : 0 ≤ p → gE s 181 p < n) :
    j_X14_element_436 n a ca body num x8 con x11 s = j_X14_element_626 n body con (lk (w11 s n a (shr32 ca 6) con num body (if x11 = 0 then w32 (body + w32 x8) else -1) x11 p) n p) := by
  have ix : ∀ {t : vS} {A : Nat}, EZ D t → 172 ≤ A → A ≤ 182 → inb n (gN t A) := fun ht h1 h2 => ht.ix h1 h2 hn.1 hn.2
  have z1 := hz.w (A := 172) (i := n) (v := a)
  have z2 := z1.w (A := 173) (i := n) (v := shr32 ca 6)
  have z3 := z2.w (A := 174) (i := n) (v := con)
  have z4 := z3.w (A := 175) (i := n) (v := num)
  have z5 := z4.w (A := 176) (i := n) (v := body)
  have key : ∀ e : Int, j_X14_element_506 n body con x11 n e (sE (sE (sE (sE (sE s 172 n a) 173 n (shr32 ca 6)) 174 n con) 175 n num) 176 n body) = j_X14_element_626 n body con (lk (w11 s n a (shr32 ca 6) con num body e x11 p) n p) := by
    intro e
    have z6 := z5.w (A := 177) (i := n) (v := e)
    have z7 := z6.w (A := 178) (i := n) (v := x11)
    have z8 := z7.w (A := 179) (i := n) (v := p)
    have z9 := z8.w (A := 180) (i := n) (v := -1)
    have z10 := z9.w (A := 181) (i := n) (v := -1)
    have z11 := z10.w (A := 182) (i := n) (v := -1)
    unfold j_X14_element_506
    rw [gd_pos (ix z5 (by decide) (by decide)), stp_eq, gd_pos (ix z6 (by decide) (by decide)), stp_eq, gd_pos (ix z7 (by decide) (by decide)), stp_eq]
    have e141 : gI (sE (sE (sE (sE (sE (sE (sE s 172 n a) 173 n (shr32 ca 6)) 174 n con) 175 n num) 176 n body) 177 n e) 178 n x11) 87 141 = p := by simp only [gI_sE]; exact hp
    rw [e141, gd_pos (ix z8 (by decide) (by decide)), stp_eq, gd_pos (ix z9 (by decide) (by decide)), stp_eq, gd_pos (ix z10 (by decide) (by decide)), stp_eq]
    refine M_506 z11 hn (by simp only [gI_sE]; exact hp) p0 (fun q => ?_)
    have pn : ¬p = n := by rcases p0 with z | z <;> omega
    have e181 : gE (sE (sE (sE (sE (sE (sE (sE (sE (sE (sE (sE s 172 n a) 173 n (shr32 ca 6)) 174 n con) 175 n num) 176 n body) 177 n e) 178 n x11) 179 n p) 180 n (-1)) 181 n (-1)) 182 n (-1)) 181 p = gE s 181 p := by
      simp only [gE_sE, pn, and_false, if_false]
    rw [e181]; exact hc q
  unfold j_X14_element_436
  rw [if_pos (by rw [h0]; decide), gd_pos (ix hz (by decide) (by decide)), stp_eq, gd_pos (ix z1 (by decide) (by decide)), stp_eq, gd_pos (ix z2 (by decide) (by decide)), stp_eq, gd_pos (ix z3 (by decide) (by decide)), stp_eq, gd_pos (ix z4 (by decide) (by decide)), stp_eq]
  by_cases c : x11 = 0
  · rw [if_pos c, if_pos c]; exact key _
  · rw [if_neg c, if_neg c]; exact key _
end
