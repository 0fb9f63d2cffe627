set_option maxRecDepth 100000 set_option linter.unusedVariables false set_option linter.unusedSimpArgs false
/-! PURE 61f: all elements, class -/
def RL6 (els : List (List Int)) : Prop := ∀ r ∈ els, r.length = 6
theorem RL6.app {els : List (List Int)} {r : List Int} (h : RL6 els) (hr : r.length = 6) : RL6 (els ++ [r]) := by
  intro x hx; simp only [List.mem_append, List.mem_singleton] at hx
  rcases hx with hx | rfl
  · exact h x hx
  · exact hr
theorem elv_len (els : List (List Int)) (x to : Int) : (elv els x to).length = els.length := by unfold elv; simp
theorem RL6.ev {els : List (List Int)} (h : RL6 els) (x to : Int) : RL6 (elv els x to) := by
  intro r hr
  unfold elv at hr
  obtain ⟨i, hi, rfl⟩ := List.mem_iff_getElem.mp hr
  rw [List.getElem_modify]
  have hi' : i < els.length := by simpa using hi
  have := h els[i] (List.getElem_mem hi')
  split <;> simp [this]
theorem ecl_elv {els : List (List Int)} (h : RL6 els) {x to i : Int} {c : Nat} (x0 : 0 ≤ x) (x1 : x < els.length) (i0 : 0 ≤ i) (i1 : i < els.length) : ecl (elv els x to) i c = if i = x ∧ c = 3 then to else if i = x ∧ c = 4 then (els.length : Int) else ecl els i c := by
  unfold ecl elv
  have hi : i.toNat < els.length := by omega
  simp only [List.getD, List.getElem?_modify, List.getElem?_eq_getElem hi, Option.map_eq_map, Option.map_some, Option.getD_some]
  have hr := h els[i.toNat] (List.getElem_mem hi)
  by_cases e : i = x
  · subst e
    simp only [if_true, true_and]
    by_cases c3 : c = 3
    · subst c3; simp [List.getElem?_set, hr]
    · by_cases c4 : c = 4
      · subst c4; simp [List.getElem?_set, hr]
      · simp only [c3, c4, if_false, List.getElem?_set]
        rw [if_neg (by omega), if_neg (by omega)]
  · rw [if_neg (show ¬x.toNat = i.toNat by omega), if_neg (show ¬(i = x ∧ c = 3) from fun z => e z.1), if_neg (show ¬(i = x ∧ c = 4) from fun z => e z.1)]
theorem X12_leave {s : vS} {D : List Int} {B : Nat} {a : Int} {els : List (List Int)} {x : Int × Int × Int} {r : List (Int × Int × Int)} (h : EI s D B a els (x :: r)) (hr : RL6 els) : ∃ t, f_X12_leave a s = some t ∧ EI t D B a (elv els x.1 a) r := by
  obtain ⟨h1, h2, h3, h4, h5, h6, h7, h8, h9, h10, h11, h12⟩ := h
  have hD := h1.2.2.2
  have hbl := h7.le
  obtain ⟨r1, r2, r3, r4, r5⟩ := h3
  have W := h2
  obtain ⟨w1, w2, w3, w4, w5, w6, w7, w8, w9, w10, w11, w12⟩ := h2
  have hl : ((x :: r).length : Int) = r.length + 1 := by simp
  rw [hl] at r2 h9
  have h10' : r.length ≤ 1029 := by simp only [List.length_cons] at h10; omega
  clear h10
  have xr := r4 x (by simp)
  have b1 : (r.length : Int) < (gN s 51 : Int) := by omega
  have b2 : x.1 < (gN s 48 : Int) := by omega
  have b3 : x.1 < (gN s 49 : Int) := by omega
  have b0 : (0 : Int) ≤ r.length := by omega
  have b4 : r.length ≤ 1030 := by omega
  have b5 : (r.length : Int) ≤ gN s 51 := by omega
  have rr : rg (r.length : Int) := ⟨by omega, by omega⟩
  have ra : rg a := ⟨by omega, by omega⟩
  have re : rg (els.length : Int) := ⟨by omega, by omega⟩
  unfold f_X12_leave
  rw [r2, show (r.length : Int) + 1 - 1 = r.length by omega, w32_id rr, stp_eq]
  have d1 : gI (sI s 44 14 (r.length : Int)) 44 14 = r.length := by simp only [gI_sI, gI_sR, gI_sA, gI_sE, gI_sw2, gI_rs, gI_cpA, gI_gh1, gL_sI, gL_sR, gL_sA, gL_sE, gL_sw2, gL_rs, gL_cpA, gR_sI, gR_sR, gR_sA, gR_sE, gR_sw2, gR_rs, gR_cpA, gN_sI, gN_sR, gN_gh1, gN_sA, gN_sE, gN_cpA, gN_sw2, gN_rs, gE_gC, gB_gC, gZ_gC, gEL_gC, gC_sI, gC_sR, gC_gh1, gC_sA, gC_sE, gC_cpA, gC_sw2, gC_rs, Nat.reduceEqDiff, Nat.reduceAdd, Nat.reduceLT, Nat.reduceLeDiff, Nat.reduceBEq, reduceIte, and_self, and_true, true_and, and_false, false_and, if_true, if_false, Nat.reduceMul, Int.reduceEq, Int.reduceLT, Int.reduceLE, Int.reduceNeg, Int.reduceAdd, Int.reduceMul, Int.reduceSub]; exact w32_id rr
  have e51a : gE s 51 (r.length : Int) = x.1 := r3.1
  have g1 : inb (r.length : Int) (gN (sI s 44 14 (r.length : Int)) 51) := ⟨b0, b1⟩
  have g2 : inb x.1 (gN (sI s 44 14 (r.length : Int)) 48) := ⟨xr.1, b2⟩
  rw [d1, gE_sI, e51a, gd_pos g1, gd_pos g2, stp_eq, gI_sE, d1]
  have e51 : gE (sE (sI s 44 14 (r.length : Int)) 48 x.1 a) 51 (r.length : Int) = x.1 := by rw [gE_sE, if_neg (fun z => absurd z.1 (by decide)), gE_sI]; exact e51a
  have g3 : inb (r.length : Int) (gN (sE (sI s 44 14 (r.length : Int)) 48 x.1 a) 51) := ⟨b0, by rw [gN_sE]; exact b1⟩
  have g4 : inb x.1 (gN (sE (sI s 44 14 (r.length : Int)) 48 x.1 a) 49) := ⟨xr.1, by rw [gN_sE]; exact b3⟩
  rw [e51, gd_pos g3, gd_pos g4, stp_eq]
  have i10 : gI (sE (sI s 44 14 (r.length : Int)) 48 x.1 a) 44 10 = els.length := by rw [gI_sE, gI_sI, if_neg (by decide)]; exact r1
  rw [i10]
  generalize hv : sE (sE (sI s 44 14 (r.length : Int)) 48 x.1 a) 49 x.1 (els.length : Int) = v
  have vi : ∀ f, f ≠ 14 → gI v 44 f = gI s 44 f := by intro f hf; rw [← hv, gI_sE, gI_sE, gI_sI, if_neg (fun z => hf z.2)]
  have vn : ∀ b, gN v b = gN s b := by intro b; rw [← hv, gN_sE, gN_sE, gN_sI]
  have vc : ∀ b, b < 199 → b ≠ 48 → b ≠ 49 → gC v b = gC s b := by
    intro b _ b1 b2; funext i; rw [← hv, gC_sE, gC_sE, gC_sI, if_neg (fun z => b2 z.1), if_neg (fun z => b1 z.1)]
  have vE : ∀ b, b < 199 → b ≠ 48 → b ≠ 49 → gE v b = gE s b := by intro b hb b1 b2; funext i; rw [gE_gC, gE_gC, vc b hb b1 b2]
  have v48 : ∀ i, gE v 48 i = if i = x.1 then a else gE s 48 i := by
    intro i; rw [← hv, gE_sE, gE_sE, gE_sI]; simp only [Nat.reduceEqDiff, Nat.reduceAdd, Nat.reduceLT, Nat.reduceLeDiff, Nat.reduceBEq, reduceIte, and_self, and_true, true_and, and_false, false_and, if_true, if_false, Nat.reduceMul, Int.reduceEq, Int.reduceLT, Int.reduceLE, Int.reduceNeg, Int.reduceAdd, Int.reduceMul, Int.reduceSub]; rw [w32_id ra]
  have v49 : ∀ i, gE v 49 i = if i = x.1 then (els.length : Int) else gE s 49 i := by
    intro i; rw [← hv, gE_sE, gE_sE, gE_sI]; simp only [Nat.reduceEqDiff, Nat.reduceAdd, Nat.reduceLT, Nat.reduceLeDiff, Nat.reduceBEq, reduceIte, and_self, and_true, true_and, and_false, false_and, if_true, if_false, Nat.reduceMul, Int.reduceEq, Int.reduceLT, Int.reduceLE, Int.reduceNeg, Int.reduceAdd, Int.reduceMul, Int.reduceSub]; rw [w32_id re]
  refine ⟨v, rfl, ?_, ?_, ⟨?_, ?_, ?_, ?_, ?_⟩, ?_, ?_, h6, h7.2.2.2, ?_, ?_, b4, by rw [elv_len]; exact h11, h12⟩
  · exact h1.cong (by rw [← hv]; rfl) (by rw [← hv, gI_sE, gI_sE, gI_sI, if_neg (by decide)]) (vn 2) (vc 2 (by decide) (by decide) (by decide))
  · unfold EW at *; simp only [vn]; exact W
  · rw [vi 10 (by decide), elv_len]; exact r1
  · rw [← hv, gI_sE, gI_sE, d1]
  · exact SRk_eq (s := s) (fun i _ _ => by rw [vE 51 (by decide) (by decide) (by decide), vE 52 (by decide) (by decide) (by decide), vE 53 (by decide) (by decide) (by decide)]; exact ⟨rfl, rfl, rfl⟩) r3.2.2.2
  · intro y hy; rw [elv_len]; exact r4 y (by simp [hy])
  · intro i i0 i1
    rw [elv_len] at i1
    obtain ⟨p1, p2, p3, p4, p5⟩ := r5 i i0 i1
    rw [vE 45 (by decide) (by decide) (by decide), vE 46 (by decide) (by decide) (by decide), vE 47 (by decide) (by decide) (by decide), gZ_gC, vc 50 (by decide) (by decide) (by decide), ← gZ_gC, ecl_elv hr xr.1 xr.2 i0 i1, ecl_elv hr xr.1 xr.2 i0 i1, ecl_elv hr xr.1 xr.2 i0 i1, ecl_elv hr xr.1 xr.2 i0 i1, ecl_elv hr xr.1 xr.2 i0 i1, ecl_elv hr xr.1 xr.2 i0 i1, v48, v49]
    simp only [Nat.reduceEqDiff, Nat.reduceAdd, Nat.reduceLT, Nat.reduceLeDiff, Nat.reduceBEq, reduceIte, and_self, and_true, true_and, and_false, false_and, if_true, if_false, Nat.reduceMul, Int.reduceEq, Int.reduceLT, Int.reduceLE, Int.reduceNeg, Int.reduceAdd, Int.reduceMul, Int.reduceSub]
    refine ⟨p1, p2, p3, p4, fun z => ?_⟩
    by_cases e : i = x.1
    · rw [if_pos e, if_pos e, if_pos e, if_pos e]; exact ⟨rfl, rfl⟩
    · rw [if_neg e, if_neg e, if_neg e, if_neg e]
      exact p5 (fun y hy => by
        simp only [List.mem_cons] at hy
        rcases hy with rfl | hy
        · exact fun w => e w.symm
        · exact z y hy)
  · rw [vi 1 (by decide)]; exact h4
  · rw [vi 2 (by decide)]; exact h5
  · rw [vn, elv_len]; exact h8
  · rw [vn]; exact b5
theorem elm_RL {D : List Int} {lim : Int} {e e' : Es3} (h : RL6 e.2.1) (he : elm D lim e = .inr e') : RL6 e'.2.1 := by
  unfold elm at he
  by_cases c1 : eBnd D e ≤ e.1
  · rw [if_pos c1] at he; cases he
  rw [if_neg c1] at he
  by_cases c2 : lim < (e.2.2.length : Int)
  · rw [if_pos c2] at he; cases he
  rw [if_neg c2] at he
  generalize eHead D (eBnd D e) e.1 = R at he
  cases R with
  | inl c => cases he
  | inr q =>
    simp only at he
    by_cases c3 : q.2.1 = 0
    · rw [if_pos c3] at he; have := Sum.inr.inj he; subst this; exact h.app rfl
    · rw [if_neg c3] at he; have := Sum.inr.inj he; subst this; exact h.app rfl
/-- how far an element goes -/
theorem elm_go {D : List Int} {lim : Int} {e e' : Es3} (hD : ∀ i : Int, 0 ≤ i → i < D.length → 0 ≤ cha D i ∧ cha D i < 256) (hb : eBnd D e ≤ D.length) (a0 : 0 ≤ e.1) (he : elm D lim e = .inr e') : e.1 + 2 ≤ e'.1 ∧ e'.2.2.length ≤ e.2.2.length + 1 := by
  unfold elm at he
  by_cases c1 : eBnd D e ≤ e.1
  · rw [if_pos c1] at he; cases he
  rw [if_neg c1] at he
  by_cases c2 : lim < (e.2.2.length : Int)
  · rw [if_pos c2] at he; cases he
  rw [if_neg c2] at he
  generalize hR : eHead D (eBnd D e) e.1 = R at he
  cases R with
  | inl c => cases he
  | inr q =>
    have hl := eHead_le hD hb a0 (by omega) hR
    simp only at he
    by_cases c3 : q.2.1 = 0
    · rw [if_pos c3] at he; have := Sum.inr.inj he; subst this
      have := hl.2.2.2.2.1 c3
      simp only; omega
    · rw [if_neg c3] at he; have := Sum.inr.inj he; subst this
      simp only [List.length_cons]; omega
theorem X12_step {s : vS} {D : List Int} {B : Nat} {a lim : Int} {els : List (List Int)} {x : Int × Int × Int} {r : List (Int × Int × Int)} (h : EI s D B a els (x :: r)) (hr : RL6 els) (hl : 0 ≤ lim ∧ lim ≤ 1024) : ∃ q t, f_X12_step lim s = some (q, t) ∧ (match estep D lim (a, els, x :: r) with
    | .inl f => q = 0 ∧ EF t D B f
    | .inr e => q = 1 ∧ EI t D B e.1 e.2.1 e.2.2 ∧ RL6 e.2.1 ∧ 3 * (D.length - e.1) + e.2.2.length < 3 * (D.length - a) + (r.length + 1) ∧ e.1 ≤ D.length) := by
  have h' := h
  obtain ⟨h1, h2, h3, h4, h5, h6, h7, h8, h9, h10, h11, h12⟩ := h
  have hD := h1.2.2.2
  have hbl := h7.le
  have hl2 : ((x :: r).length : Int) = r.length + 1 := by simp
  have W := h2
  obtain ⟨w1, w2, w3, w4, w5, w6, w7, w8, w9, w10, w11, w12⟩ := h2
  have r2 := h3.2.1
  rw [hl2] at r2 h9
  have h10' : r.length ≤ 1029 := by simp only [List.length_cons] at h10; omega
  clear h10
  unfold f_X12_step estep
  rw [r2, show (r.length : Int) + 1 - 1 = r.length by omega, w32_id (x := (r.length : Int)) ⟨by omega, by omega⟩, gd_pos ⟨by omega, by omega⟩, vl_eq, h3.2.2.1.2.1, h4]
  simp only []
  obtain ⟨t, l1, l2⟩ := X12_leave h' hr
  have el : ∃ q t, j_X12_step_98 lim s = some (q, t) ∧ (match elm D lim (a, els, x :: r) with | .inl f => q = 0 ∧ EF t D B f | .inr e => q = 1 ∧ EI t D B e.1 e.2.1 e.2.2 ∧ RL6 e.2.1 ∧ 3 * (D.length - e.1) + e.2.2.length < 3 * (D.length - a) + (r.length + 1) ∧ e.1 ≤ D.length) := by
    obtain ⟨q, t, e1, e2⟩ := X12_element h' hl
    unfold j_X12_step_98
    rw [e1, bd_eq]
    generalize hR : elm D lim (a, els, x :: r) = R at e2 ⊢
    cases R with
    | inl f => rw [e2.1, gd_pos (Or.inl rfl)]; exact ⟨0, t, rfl, rfl, e2.2⟩
    | inr e =>
      rw [e2.1, gd_pos (Or.inr rfl)]
      have g := elm_go h1.rg (by rw [eBnd_bnd]; exact hbl.2) h6 hR
      have eb := e2.2.2.2.2.2.2.2.1.le
      simp only [List.length_cons] at g
      exact ⟨1, t, rfl, rfl, e2.2, elm_RL hr hR, by omega, by omega⟩
  by_cases c1 : x.2.1 = a
  · rw [if_pos c1, if_pos c1, l1, bdv_eq]
    exact ⟨1, t, rfl, rfl, l2, hr.ev _ _, by simp only; omega, by simp only; omega⟩
  rw [if_neg c1, if_neg c1, EI.bound (a := a) h1 W h3 (by rw [hl2]; exact h9), bd_eq, eBnd_bnd]
  simp only []
  by_cases c2 : x.2.1 = -1
  · rw [if_pos c2, w32_id (x := a + 1) ⟨by omega, by omega⟩]
    by_cases c3 : bndS D (x :: r) ≤ a + 1
    · rw [if_pos c3, if_neg (fun z => by have := z.2.1; omega)]; exact el
    · rw [if_neg c3, h1.1, gd_ok1, h4, h1.at h6 (by omega), bd_eq]
      by_cases c4 : cha D a = 0
      · rw [if_pos c4, h1.1, gd_ok1, h4, w32_id (x := a + 1) ⟨by omega, by omega⟩, h1.at (by omega) (by omega), bd_eq]
        by_cases c5 : cha D (a + 1) = 0
        · rw [if_pos c5, if_pos ⟨c2, by omega, c4, c5⟩, h4, l1, bdv_eq, stp_eq]
          have ta := l2.2.2.2.1
          rw [ta, w32_id (x := a + 2) ⟨by omega, by omega⟩]
          obtain ⟨m1, m2, m3, m4, m5, m6, m7, m8, m9, m10, m11, m12⟩ := l2
          have mb := h7.2.1
          have mb2 : bndS D (x :: r) = x.2.2 := rfl
          refine ⟨1, _, rfl, rfl, ⟨m1.fld 1 _, m2.fld 1 _, m3.fld _ (by decide) (by decide), at44 ⟨by omega, by omega⟩, by simp only [gI_sI, gI_sR, gI_sA, gI_sE, gI_sw2, gI_rs, gI_cpA, gI_gh1, gL_sI, gL_sR, gL_sA, gL_sE, gL_sw2, gL_rs, gL_cpA, gR_sI, gR_sR, gR_sA, gR_sE, gR_sw2, gR_rs, gR_cpA, gN_sI, gN_sR, gN_gh1, gN_sA, gN_sE, gN_cpA, gN_sw2, gN_rs, gE_gC, gB_gC, gZ_gC, gEL_gC, gC_sI, gC_sR, gC_gh1, gC_sA, gC_sE, gC_cpA, gC_sw2, gC_rs, Nat.reduceEqDiff, Nat.reduceAdd, Nat.reduceLT, Nat.reduceLeDiff, Nat.reduceBEq, reduceIte, and_self, and_true, true_and, and_false, false_and, if_true, if_false, Nat.reduceMul, Int.reduceEq, Int.reduceLT, Int.reduceLE, Int.reduceNeg, Int.reduceAdd, Int.reduceMul, Int.reduceSub]; exact m5, by omega, m7.mono (by omega), m8, m9, m10, by show 2 * ((elv els x.1 a).length : Int) ≤ a + 2; omega, m12⟩, hr.ev _ _, by simp only; omega, by simp only; omega⟩
        · rw [if_neg c5, if_neg (fun z => c5 z.2.2.2)]; exact el
      · rw [if_neg c4, if_neg (fun z => c4 z.2.2.1)]; exact el
  · rw [if_neg c2, if_neg (fun z => c2 z.1)]; exact el
theorem X12_run {D : List Int} {B : Nat} {lim : Int} (hl : 0 ≤ lim ∧ lim ≤ 1024) : ∀ (k n : Nat) (s : vS) (a : Int) (els : List (List Int)) (stk : List (Int × Int × Int)), EI s D B a els stk → RL6 els → a ≤ D.length → 3 * (D.length - a) + stk.length ≤ k → k < n → ∃ z, l_X12_read_40 1 n lim s = some z ∧ (match erun D lim k (a, els, stk) with
    | .inl f => ∃ t, z = .inr (0, t) ∧ EF t D B f
    | .inr e => ∃ t, z = .inl t ∧ EI t D B e.1 e.2.1 [] ∧ e.2.2 = []) := by
  intro k
  induction k with
  | zero =>
    intro n s a els stk h hr ha hk hn
    obtain ⟨n, rfl⟩ : ∃ m, n = m + 1 := ⟨n - 1, by omega⟩
    have : stk = [] := by cases stk with | nil => rfl | cons x r => simp only [List.length_cons] at hk; push_cast at hk; omega
    subst this
    unfold l_X12_read_40 erun
    rw [h.2.2.1.2.1, if_pos (by simp)]
    exact ⟨_, rfl, s, rfl, h, rfl⟩
  | succ k ih =>
    intro n s a els stk h hr ha hk hn
    obtain ⟨n, rfl⟩ : ∃ m, n = m + 1 := ⟨n - 1, by omega⟩
    unfold l_X12_read_40 erun
    rw [h.2.2.1.2.1]
    cases stk with
    | nil =>
      rw [if_pos (by simp), if_pos rfl]
      exact ⟨_, rfl, s, rfl, h, rfl⟩
    | cons x r =>
      rw [if_neg (by simp only [List.length_cons]; omega), if_neg (by simp)]
      obtain ⟨q, t, e1, e2⟩ := X12_step h hr hl
      rw [e1, bd_eq]
      generalize hR : estep D lim (a, els, x :: r) = R at e2 ⊢
      cases R with
      | inl f =>
        rw [e2.1, if_pos rfl]
        exact ⟨_, rfl, t, rfl, e2.2⟩
      | inr e =>
        obtain ⟨q1, q2, q3, q4, q5⟩ := e2
        rw [q1, if_neg (by decide)]
        simp only [List.length_cons] at hk
        push_cast at hk
        exact ih n t e.1 e.2.1 e.2.2 q2 q3 q5 (by omega) (by omega)
/-- reading all elements -/
theorem X12_read {s : vS} {D : List Int} {B : Nat} {lim : Int} (hb : BW s 1) (hD : bts s 1 = D) (hl : D.length ≤ 32768) (hW : EW s B) (hB : D.length ≤ B) (hlim : 0 ≤ lim ∧ lim ≤ 1024) : ∃ r t, f_X12_read 1 lim s = some (r, t) ∧ (match eAllD D lim with
    | .inl f => r = 0 ∧ EF t D B f
    | .inr els => r = 1 ∧ EI t D B D.length els []) ∧ Fr W_f_X12_read s t := by
  suffices key : ∃ r t, f_X12_read 1 lim s = some (r, t) ∧ (match eAllD D lim with | .inl f => r = 0 ∧ EF t D B f | .inr els => r = 1 ∧ EI t D B D.length els []) by
    obtain ⟨r, t, k1, k2⟩ := key
    exact ⟨r, t, k1, k2, fr_f_X12_read 1 lim s _ k1⟩
  unfold f_X12_read
  rw [stp_eq, stp_eq, stp_eq, stp_eq, stp_eq, stp_eq]
  generalize hs : sI (sI (sI (sI (sI (sR s 44 0 1) 44 1 0) 44 10 0) 44 14 0) 44 2 0) 44 3 0 = s0
  have w0 : w32 0 = 0 := by decide
  have T0 : ETp s0 D := by
    refine ⟨by rw [← hs]; simp only [gI_sI, gI_sR, gI_sA, gI_sE, gI_sw2, gI_rs, gI_cpA, gI_gh1, gL_sI, gL_sR, gL_sA, gL_sE, gL_sw2, gL_rs, gL_cpA, gR_sI, gR_sR, gR_sA, gR_sE, gR_sw2, gR_rs, gR_cpA, gN_sI, gN_sR, gN_gh1, gN_sA, gN_sE, gN_cpA, gN_sw2, gN_rs, gE_gC, gB_gC, gZ_gC, gEL_gC, gC_sI, gC_sR, gC_gh1, gC_sA, gC_sE, gC_cpA, gC_sw2, gC_rs, Nat.reduceEqDiff, Nat.reduceAdd, Nat.reduceLT, Nat.reduceLeDiff, Nat.reduceBEq, reduceIte, and_self, and_true, true_and, and_false, false_and, if_true, if_false, Nat.reduceMul, Int.reduceEq, Int.reduceLT, Int.reduceLE, Int.reduceNeg, Int.reduceAdd, Int.reduceMul, Int.reduceSub], ?_, ?_, hl⟩
    · unfold BW at *; rw [← hs]; simp only [gI_sI, gI_sR, gI_sA, gI_sE, gI_sw2, gI_rs, gI_cpA, gI_gh1, gL_sI, gL_sR, gL_sA, gL_sE, gL_sw2, gL_rs, gL_cpA, gR_sI, gR_sR, gR_sA, gR_sE, gR_sw2, gR_rs, gR_cpA, gN_sI, gN_sR, gN_gh1, gN_sA, gN_sE, gN_cpA, gN_sw2, gN_rs, gE_gC, gB_gC, gZ_gC, gEL_gC, gC_sI, gC_sR, gC_gh1, gC_sA, gC_sE, gC_cpA, gC_sw2, gC_rs, Nat.reduceEqDiff, Nat.reduceAdd, Nat.reduceLT, Nat.reduceLeDiff, Nat.reduceBEq, reduceIte, and_self, and_true, true_and, and_false, false_and, if_true, if_false, Nat.reduceMul, Int.reduceEq, Int.reduceLT, Int.reduceLE, Int.reduceNeg, Int.reduceAdd, Int.reduceMul, Int.reduceSub]; exact hb
    · rw [← hD, ← hs]; unfold bts; simp only [gI_sI, gI_sR, gI_sA, gI_sE, gI_sw2, gI_rs, gI_cpA, gI_gh1, gL_sI, gL_sR, gL_sA, gL_sE, gL_sw2, gL_rs, gL_cpA, gR_sI, gR_sR, gR_sA, gR_sE, gR_sw2, gR_rs, gR_cpA, gN_sI, gN_sR, gN_gh1, gN_sA, gN_sE, gN_cpA, gN_sw2, gN_rs, gE_gC, gB_gC, gZ_gC, gEL_gC, gC_sI, gC_sR, gC_gh1, gC_sA, gC_sE, gC_cpA, gC_sw2, gC_rs, Nat.reduceEqDiff, Nat.reduceAdd, Nat.reduceLT, Nat.reduceLeDiff, Nat.reduceBEq, reduceIte, and_self, and_true, true_and, and_false, false_and, if_true, if_false, Nat.reduceMul, Int.reduceEq, Int.reduceLT, Int.reduceLE, Int.reduceNeg, Int.reduceAdd, Int.reduceMul, Int.reduceSub]
  have I0 : EI s0 D B 0 [] [] := by
    refine ⟨T0, ?_, ⟨?_, ?_, trivial, fun x hx => by simp at hx, fun i a b => by simp at b; omega⟩, ?_, ?_, by decide, by show (0 : Int) ≤ D.length; omega, by simp, by simp, by decide, by decide, hB⟩
    · rw [← hs]; exact hW
    · rw [← hs]; simp only [gI_sI, gI_sR, gI_sA, gI_sE, gI_sw2, gI_rs, gI_cpA, gI_gh1, gL_sI, gL_sR, gL_sA, gL_sE, gL_sw2, gL_rs, gL_cpA, gR_sI, gR_sR, gR_sA, gR_sE, gR_sw2, gR_rs, gR_cpA, gN_sI, gN_sR, gN_gh1, gN_sA, gN_sE, gN_cpA, gN_sw2, gN_rs, gE_gC, gB_gC, gZ_gC, gEL_gC, gC_sI, gC_sR, gC_gh1, gC_sA, gC_sE, gC_cpA, gC_sw2, gC_rs, Nat.reduceEqDiff, Nat.reduceAdd, Nat.reduceLT, Nat.reduceLeDiff, Nat.reduceBEq, reduceIte, and_self, and_true, true_and, and_false, false_and, if_true, if_false, Nat.reduceMul, Int.reduceEq, Int.reduceLT, Int.reduceLE, Int.reduceNeg, Int.reduceAdd, Int.reduceMul, Int.reduceSub]; exact w0
    · rw [← hs]; simp only [gI_sI, gI_sR, gI_sA, gI_sE, gI_sw2, gI_rs, gI_cpA, gI_gh1, gL_sI, gL_sR, gL_sA, gL_sE, gL_sw2, gL_rs, gL_cpA, gR_sI, gR_sR, gR_sA, gR_sE, gR_sw2, gR_rs, gR_cpA, gN_sI, gN_sR, gN_gh1, gN_sA, gN_sE, gN_cpA, gN_sw2, gN_rs, gE_gC, gB_gC, gZ_gC, gEL_gC, gC_sI, gC_sR, gC_gh1, gC_sA, gC_sE, gC_cpA, gC_sw2, gC_rs, Nat.reduceEqDiff, Nat.reduceAdd, Nat.reduceLT, Nat.reduceLeDiff, Nat.reduceBEq, reduceIte, and_self, and_true, true_and, and_false, false_and, if_true, if_false, Nat.reduceMul, Int.reduceEq, Int.reduceLT, Int.reduceLE, Int.reduceNeg, Int.reduceAdd, Int.reduceMul, Int.reduceSub]; exact w0
    · rw [← hs]; simp only [gI_sI, gI_sR, gI_sA, gI_sE, gI_sw2, gI_rs, gI_cpA, gI_gh1, gL_sI, gL_sR, gL_sA, gL_sE, gL_sw2, gL_rs, gL_cpA, gR_sI, gR_sR, gR_sA, gR_sE, gR_sw2, gR_rs, gR_cpA, gN_sI, gN_sR, gN_gh1, gN_sA, gN_sE, gN_cpA, gN_sw2, gN_rs, gE_gC, gB_gC, gZ_gC, gEL_gC, gC_sI, gC_sR, gC_gh1, gC_sA, gC_sE, gC_cpA, gC_sw2, gC_rs, Nat.reduceEqDiff, Nat.reduceAdd, Nat.reduceLT, Nat.reduceLeDiff, Nat.reduceBEq, reduceIte, and_self, and_true, true_and, and_false, false_and, if_true, if_false, Nat.reduceMul, Int.reduceEq, Int.reduceLT, Int.reduceLE, Int.reduceNeg, Int.reduceAdd, Int.reduceMul, Int.reduceSub]; exact w0
    · rw [← hs]; simp only [gI_sI, gI_sR, gI_sA, gI_sE, gI_sw2, gI_rs, gI_cpA, gI_gh1, gL_sI, gL_sR, gL_sA, gL_sE, gL_sw2, gL_rs, gL_cpA, gR_sI, gR_sR, gR_sA, gR_sE, gR_sw2, gR_rs, gR_cpA, gN_sI, gN_sR, gN_gh1, gN_sA, gN_sE, gN_cpA, gN_sw2, gN_rs, gE_gC, gB_gC, gZ_gC, gEL_gC, gC_sI, gC_sR, gC_gh1, gC_sA, gC_sE, gC_cpA, gC_sw2, gC_rs, Nat.reduceEqDiff, Nat.reduceAdd, Nat.reduceLT, Nat.reduceLeDiff, Nat.reduceBEq, reduceIte, and_self, and_true, true_and, and_false, false_and, if_true, if_false, Nat.reduceMul, Int.reduceEq, Int.reduceLT, Int.reduceLE, Int.reduceNeg, Int.reduceAdd, Int.reduceMul, Int.reduceSub]; exact w0
  obtain ⟨q, t, e1, e2⟩ := X12_element I0 hlim
  rw [e1, bd_eq]
  unfold eAllD
  generalize hR : elm D lim (0, [], []) = R at e2 ⊢
  cases R with
  | inl f => rw [e2.1, if_pos rfl]; exact ⟨0, t, rfl, rfl, e2.2⟩
  | inr e =>
    rw [e2.1, if_neg (by decide)]
    have g := elm_go T0.rg (by rw [eBnd_bnd]; exact Int.le_refl _) (by decide) hR
    have eb := e2.2.2.2.2.2.2.2.1.le
    simp only [List.length_nil] at g
    obtain ⟨z, r1, r2⟩ := X12_run hlim (3 * D.length + 3) FU t e.1 e.2.1 e.2.2 e2.2 (elm_RL (fun r hr => by simp at hr) hR) (by omega) (by push_cast; omega) (by unfold FU; omega)
    rw [r1]
    simp only []
    generalize hQ : erun D lim (3 * D.length + 3) e = Q at r2
    have hQ' : erun D lim (3 * D.length + 3) (e.1, e.2.1, e.2.2) = Q := hQ
    cases Q with
    | inl f =>
      obtain ⟨u, u1, u2⟩ := r2
      rw [u1]
      exact ⟨0, u, rfl, rfl, u2⟩
    | inr e' =>
      obtain ⟨u, u1, u2, u3⟩ := r2
      rw [u1]
      show ∃ r t, (stp (sI u 44 3 (gI u 44 1)) fun s21 => gd (okB (gR s21 44 0) 1) <| bd (f_X2_size (gR s21 44 0) s21) fun r27 s24 => if (gI s21 44 1) = r27 then some (1, s24) else bd (f_X12_wrong 6 s24) fun r33 s30 => if r33 = 0 then some (0, s30) else some (1, s30)) = some (r, t) ∧ _
      obtain ⟨m1, m2, m3, m4, m5, m6, m7, m8, m9, m10, m11, m12⟩ := u2
      have mb := m7.le
      have mT := m1.fld 3 e'.1
      have mi : gI (sI u 44 3 e'.1) 44 1 = e'.1 := by simp only [gI_sI, gI_sR, gI_sA, gI_sE, gI_sw2, gI_rs, gI_cpA, gI_gh1, gL_sI, gL_sR, gL_sA, gL_sE, gL_sw2, gL_rs, gL_cpA, gR_sI, gR_sR, gR_sA, gR_sE, gR_sw2, gR_rs, gR_cpA, gN_sI, gN_sR, gN_gh1, gN_sA, gN_sE, gN_cpA, gN_sw2, gN_rs, gE_gC, gB_gC, gZ_gC, gEL_gC, gC_sI, gC_sR, gC_gh1, gC_sA, gC_sE, gC_cpA, gC_sw2, gC_rs, Nat.reduceEqDiff, Nat.reduceAdd, Nat.reduceLT, Nat.reduceLeDiff, Nat.reduceBEq, reduceIte, and_self, and_true, true_and, and_false, false_and, if_true, if_false, Nat.reduceMul, Int.reduceEq, Int.reduceLT, Int.reduceLE, Int.reduceNeg, Int.reduceAdd, Int.reduceMul, Int.reduceSub]; exact m4
      rw [stp_eq, m4, mT.1, gd_ok1, X2_size, bd_eq, mT.size, mi]
      by_cases c : e'.1 = D.length
      · rw [if_pos c]
        simp only [if_pos c]
        rw [c] at m7
        refine ⟨1, _, rfl, rfl, mT, m2.fld 3 _, m3.fld _ (by decide) (by decide), by rw [mi]; exact c, by simp only [gI_sI, gI_sR, gI_sA, gI_sE, gI_sw2, gI_rs, gI_cpA, gI_gh1, gL_sI, gL_sR, gL_sA, gL_sE, gL_sw2, gL_rs, gL_cpA, gR_sI, gR_sR, gR_sA, gR_sE, gR_sw2, gR_rs, gR_cpA, gN_sI, gN_sR, gN_gh1, gN_sA, gN_sE, gN_cpA, gN_sw2, gN_rs, gE_gC, gB_gC, gZ_gC, gEL_gC, gC_sI, gC_sR, gC_gh1, gC_sA, gC_sE, gC_cpA, gC_sw2, gC_rs, Nat.reduceEqDiff, Nat.reduceAdd, Nat.reduceLT, Nat.reduceLeDiff, Nat.reduceBEq, reduceIte, and_self, and_true, true_and, and_false, false_and, if_true, if_false, Nat.reduceMul, Int.reduceEq, Int.reduceLT, Int.reduceLE, Int.reduceNeg, Int.reduceAdd, Int.reduceMul, Int.reduceSub]; exact m5, by omega, m7, m8, m9, m10, by omega, m12⟩
      · rw [if_neg c, X12_wrong, bd_eq, if_pos rfl]
        simp only [if_neg c]
        refine ⟨0, _, rfl, rfl, mT.fld 2 6, (m2.fld 3 _).fld 2 _, by simp only [gI_sI, gI_sR, gI_sA, gI_sE, gI_sw2, gI_rs, gI_cpA, gI_gh1, gL_sI, gL_sR, gL_sA, gL_sE, gL_sw2, gL_rs, gL_cpA, gR_sI, gR_sR, gR_sA, gR_sE, gR_sw2, gR_rs, gR_cpA, gN_sI, gN_sR, gN_gh1, gN_sA, gN_sE, gN_cpA, gN_sw2, gN_rs, gE_gC, gB_gC, gZ_gC, gEL_gC, gC_sI, gC_sR, gC_gh1, gC_sA, gC_sE, gC_cpA, gC_sw2, gC_rs, Nat.reduceEqDiff, Nat.reduceAdd, Nat.reduceLT, Nat.reduceLeDiff, Nat.reduceBEq, reduceIte, and_self, and_true, true_and, and_false, false_and, if_true, if_false, Nat.reduceMul, Int.reduceEq, Int.reduceLT, Int.reduceLE, Int.reduceNeg, Int.reduceAdd, Int.reduceMul, Int.reduceSub]; decide, by simp only [gI_sI, gI_sR, gI_sA, gI_sE, gI_sw2, gI_rs, gI_cpA, gI_gh1, gL_sI, gL_sR, gL_sA, gL_sE, gL_sw2, gL_rs, gL_cpA, gR_sI, gR_sR, gR_sA, gR_sE, gR_sw2, gR_rs, gR_cpA, gN_sI, gN_sR, gN_gh1, gN_sA, gN_sE, gN_cpA, gN_sw2, gN_rs, gE_gC, gB_gC, gZ_gC, gEL_gC, gC_sI, gC_sR, gC_gh1, gC_sA, gC_sE, gC_cpA, gC_sw2, gC_rs, Nat.reduceEqDiff, Nat.reduceAdd, Nat.reduceLT, Nat.reduceLeDiff, Nat.reduceBEq, reduceIte, and_self, and_true, true_and, and_false, false_and, if_true, if_false, Nat.reduceMul, Int.reduceEq, Int.reduceLT, Int.reduceLE, Int.reduceNeg, Int.reduceAdd, Int.reduceMul, Int.reduceSub]; exact w32_id ⟨by omega, by omega⟩⟩
