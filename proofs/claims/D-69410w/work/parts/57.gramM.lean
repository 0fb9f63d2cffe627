set_option maxRecDepth 100000 set_option linter.unusedVariables false set_option linter.unusedSimpArgs false
/-! PURE 57: the model's grammar: ranges, limits -/
theorem okv_rg {A : Nat} {v : Int} (h : isBl A = false) (hv : rg v) : okv A v := by unfold okv; rw [h]; exact hv
theorem okv_b {A : Nat} {v : Int} (h : isBl A = true) (hv : v = 0 ∨ v = 1) : okv A v := by unfold okv; rw [h]; exact hv
section
variable {L : Lx} {X : List Int} {ln : Nat → Nat} {s s' : vS} {a : Int} {M M' : Mt} {P : List (Nat × Int)} {α : Type} {Q : α → Prop} {e : Ft}
theorem VMd.bd (h : VMd L X ln s a M P) : BD L X ln s := h.1
theorem FM.bd (h : FM L X ln e s) : BD L X ln s := h.1
/-- rows as the model has them: without what only the class has -/
def Rw (w : Nat) (l l' : List (List Int)) : Prop := l.map (List.take w) = l'.map (List.take w)
def Sm (M M' : Mt) : Prop := ∀ c, c < 10 → Rw (wd c) (M c) (M' c)
theorem Sm.rfl : Sm M M := fun _ _ => Eq.refl _
theorem Sm.node (h : Sm M M') (k : Int) (c : Nat) (v : Int) : Sm M (stN M' k c v) := fun d hd => by
  unfold stN upM; rw [if_neg (by omega)]; exact h d hd
theorem Sm.nad (h : Sm M M') (k x : Int) : Sm M (adN M' k x) := fun d hd => by
  unfold adN apM; rw [if_neg (by omega)]; exact h d hd
theorem Sm.nch (h : Sm M M') (o : Int) (c : Nat) (l k : Int) : Sm M (chN M' o c l k) := by
  unfold chN; split <;> exact h.node _ _ _
theorem Sm.ap (h : Sm M M') {c : Nat} {r r' : List Int} (hr : c < 10 → r.take (wd c) = r'.take (wd c)) : Sm (apM M c r) (apM M' c r') := fun d hd => by
  unfold apM Rw
  by_cases e : d = c
  · subst e; rw [if_pos _root_.rfl, if_pos _root_.rfl, List.map_append, List.map_append, h d hd]; simp only [List.map_cons, List.map_nil, hr hd]
  · rw [if_neg e, if_neg e]; exact h d hd
theorem Rw.mod {w : Nat} {l l' : List (List Int)} (h : Rw w l l') {i j : Nat} {v : Int} : Rw w (l.modify i (fun r => r.set j v)) (l'.modify i (fun r => r.set j v)) := by
  have hl : l.length = l'.length := by have := congrArg List.length h; simpa using this
  unfold Rw at *
  refine List.ext_getElem (by simp [hl]) fun n h1 h2 => ?_
  have hn : n < l.length := by simpa using h1
  have e := List.getElem_map (List.take w) (l := l) (i := n) (h := by simpa using hn)
  have e2 : (l[n]'hn).take w = (l'[n]'(by omega)).take w := by
    have z : (l.map (List.take w))[n]'(by simpa using hn) = (l'.map (List.take w))[n]'(by simp; omega) := by simp only [h]
    simpa using z
  simp only [List.getElem_map, List.getElem_modify]
  by_cases d : i = n
  · rw [if_pos d, if_pos d, List.take_set, List.take_set, e2]
  · rw [if_neg d, if_neg d, e2]
theorem Sm.up (h : Sm M M') {c : Nat} {i : Int} {j : Nat} {v : Int} : Sm (upM M c i j v) (upM M' c i j v) := fun d hd => by
  unfold upM
  by_cases e : d = c
  · subst e; rw [if_pos _root_.rfl, if_pos _root_.rfl]; exact (h d hd).mod
  · rw [if_neg e, if_neg e]; exact h d hd
theorem Sm.lnE (h : Sm M M') {c : Nat} (hc : c < 10) : lnM M' c = lnM M c := by
  have := congrArg List.length (h c hc)
  simp only [List.length_map] at this
  unfold lnM; omega
theorem Sm.cl (h : Sm M M') {c : Nat} (hc : c < 10) {i : Int} {j : Nat} (hj : j < wd c) : clM M' c i j = clM M c i j := by
  have z := congrArg (fun l => (l.getD i.toNat []).getD j 0) (h c hc)
  unfold clM
  have e : ∀ l : List (List Int), ((l.map (List.take (wd c))).getD i.toNat []).getD j 0 = (l.getD i.toNat []).getD j 0 := by
    intro l
    simp only [List.getD_eq_getElem?_getD, List.getElem?_map]
    cases hq : l[i.toNat]? with
    | none => simp
    | some r => simp [List.getElem?_take, hj]
  rw [← e (M' c), ← e (M c)]; exact z.symm
theorem Sm.trans {M'' : Mt} (h : Sm M M') (k : Sm M' M'') : Sm M M'' := fun c hc => (h c hc).trans (k c hc)
theorem Sm.rl0 (h : Sm M M') (hl : RL0 M) : RL0 M' := fun c hc r hr => by
  obtain ⟨i, hi, rfl⟩ := List.mem_iff_getElem.mp hr
  have z := h c hc
  have hlen : (M c).length = (M' c).length := by have := congrArg List.length z; simpa using this
  have z2 : (M c)[i].take (wd c) = (M' c)[i].take (wd c) := by
    have w : ((M c).map (List.take (wd c)))[i]'(by simp; omega) = ((M' c).map (List.take (wd c)))[i]'(by simp; omega) := by
      unfold Rw at z; simp only [z]
    simpa using w
  have q := hl c hc _ (List.getElem_mem (by omega : i < (M c).length))
  have z3 := congrArg List.length z2
  simp only [List.length_take] at z3
  omega
theorem Sm.rl (h : Sm M M') (hl : RL M) : RL M' := by
  refine ⟨h.rl0 hl.1, fun l l0 l1 => ?_, fun t t0 t1 => ?_⟩
  · rw [h.lnE (by decide)] at l1 ⊢
    rw [h.cl (by decide) (by decide)]; exact hl.2.1 l l0 l1
  · rw [h.lnE (by decide)] at t1 ⊢
    rw [h.cl (by decide) (by decide)]; exact hl.2.2 t t0 t1
theorem VMd.sm (h : VMd L X ln s a M P) (hs : Sm M M') : VMd L X ln s a M' P := by
  obtain ⟨q1, q2, q3, q4, q5, q6, q7, q8, q9, q10⟩ := h
  refine ⟨q1, q2, q3, q4, q5, q6, q7, ⟨fun c hc => by rw [hs.lnE hc]; exact q8.1 c hc, fun A hA i i0 i1 => ?_, hs.rl q8.2.2⟩, fun x hx => ?_, q10.congr (fun c hc => hs.lnE hc)⟩
  · rw [hs.lnE (cOf_lt A)] at i1
    rw [hs.cl (cOf_lt A) (jOf_lt hA)]; exact q8.2.1 A hA i i0 i1
  · rw [hs.lnE (cOf_lt _)]; exact q9 x hx
theorem m_bound (hH : LH L X) {m : Int} {k : Int → vS → Option α} (h : VMd L X ln s a M P) (h1 : (kz L a = 3 ∨ (m = 0 ∧ (kz L a = 2 ∨ kz L a = 83 ∨ kz L a = 82))) → a < L.length → ∀ s', VMd L X ln s' (a + 1) M P → wpo (k a s') Q) (h0 : ¬(kz L a = 3 ∨ (m = 0 ∧ (kz L a = 2 ∨ kz L a = 83 ∨ kz L a = 82))) → ∀ s', FM L X ln (flt L X a) s' → wpo (k 0 s') Q) : wpo (bd (f_X14_bound m s) k) Q := by
  have hl := hH.2.1
  have a0 := h.a0
  have J1 : ∀ c : Int, kz L a = c → c ≠ 0 → c ≠ 1 → ((kz L a = 3 ∨ (m = 0 ∧ (kz L a = 2 ∨ kz L a = 83 ∨ kz L a = 82)))) → wpo (bd (j_X14_bound_47 s) k) Q := by
    intro c hc c0 c1 hz
    unfold j_X14_bound_47
    have q := h.adv hH (kz_in hc c0).2 (ND_of hc c1)
    have al := (kz_in hc c0).2
    rw [stp_eq, bd_eq, q.at, show a + 1 - 1 = a by omega, w32_id ⟨by omega, by omega⟩]
    exact h1 hz (kz_in hc c0).2 _ q
  have J0 : ¬(kz L a = 3 ∨ (m = 0 ∧ (kz L a = 2 ∨ kz L a = 83 ∨ kz L a = 82))) → wpo (bd (j_X14_bound_64 s) k) Q := by
    intro hz
    unfold j_X14_bound_64
    refine wpo_bd.mpr (m_misfit hH h (fun s' q _ => wpo_some.mpr (h0 hz s' q)))
  unfold f_X14_bound
  rw [if_pos (by rw [h.f0]; decide), h.is, bd_eq]
  unfold b2i
  by_cases c3 : kz L a = 3
  · rw [if_pos c3, if_neg (by decide)]; exact J1 3 c3 (by decide) (by decide) (Or.inl c3)
  rw [if_neg c3, if_pos rfl]
  by_cases cm : m = 0
  · rw [if_pos cm, h.is, bd_eq]
    unfold b2i
    by_cases c2 : kz L a = 2
    · rw [if_pos c2, if_neg (by decide)]; exact J1 2 c2 (by decide) (by decide) (Or.inr ⟨cm, Or.inl c2⟩)
    rw [if_neg c2, if_pos rfl, h.is, bd_eq]
    unfold b2i
    by_cases c83 : kz L a = 83
    · rw [if_pos c83, if_neg (by decide)]; exact J1 83 c83 (by decide) (by decide) (Or.inr ⟨cm, Or.inr (Or.inl c83)⟩)
    rw [if_neg c83, if_pos rfl, h.is, bd_eq]
    unfold b2i
    by_cases c82 : kz L a = 82
    · rw [if_pos c82, if_neg (by decide)]; exact J1 82 c82 (by decide) (by decide) (Or.inr ⟨cm, Or.inr (Or.inr c82)⟩)
    rw [if_neg c82, if_pos rfl]
    exact J0 (fun z => z.elim c3 (fun z => z.2.elim c2 (fun z => z.elim c83 c82)))
  · rw [if_neg cm]
    exact J0 (fun z => z.elim c3 (fun z => cm z.1))
theorem mF_bound {m : Int} {k : Int → vS → Option α} (h : FM L X ln e s) (h1 : wpo (k 0 s) Q) : wpo (bd (f_X14_bound m s) k) Q := by
  unfold f_X14_bound
  rw [if_neg (by have := h.eq; omega), bd_eq]; exact h1
end
