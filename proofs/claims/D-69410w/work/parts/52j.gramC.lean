set_option maxRecDepth 100000 set_option linter.unusedVariables false set_option linter.unusedSimpArgs false
/-! PURE 52j: the class's grammar: assignments, modules -/
/-- heads of the tree: the first assignment, how many types and constants, whether tags are implicit -/
def AH (s : vS) (f t c i : Int) : Prop := gI s 10 2 = f ∧ gI s 10 3 = t ∧ gI s 10 4 = c ∧ gI s 10 5 = i
theorem AH.fr {s s' : vS} {f t c i : Int} (h : AH s f t c i) {W : List Nat} (hf : Fr W s s') (h2 : 10002 ∉ W) (h3 : 10003 ∉ W) (h4 : 10004 ∉ W) (h5 : 10005 ∉ W) : AH s' f t c i := by
  obtain ⟨q1, q2, q3, q4⟩ := h
  exact ⟨by rw [hf.rI h2]; exact q1, by rw [hf.rI h3]; exact q2, by rw [hf.rI h4]; exact q3, by rw [hf.rI h5]; exact q4⟩
section
variable {L : Lx} {X : List Int} {B BT : Nat} {s s' : vS} {a : Int} {R : List (List Int)} {α : Type} {Q : α → Prop} {e : Ft} {m F T C I : Int}
theorem CV.fr10 {f p n : Int} {T : Int → Int → Int} (h : CV L X B BT s a f p n T) (hf : Fr [10002, 10003, 10004, 10005] s s') : CV L X B BT s' a f p n T := by
  obtain ⟨h1, h2, h3, h4, h5, h6, h7, h8, h9, h10, h11, h12, h13, h14, h15, h16⟩ := h
  have n11 : gN s' 11 = gN s 11 := hf.rN (by decide) (by decide)
  refine ⟨?_, ?_, by rw [hf.rR (by decide)]; exact h3, by rw [hf.rI (by decide)]; exact h4, by rw [hf.rI (by decide)]; exact h5, by rw [hf.rI (by decide)]; exact h6, by rw [hf.rI (by decide)]; exact h7, h8, h9, h10, by rw [n11]; exact h11, by rw [n11]; exact h12, by rw [n11]; exact h13, by rw [n11]; exact h14, h15, by rw [hf.rE (a := 11) (by decide) (by decide)]; exact h16⟩
  · obtain ⟨⟨q1, q2, q3, q4⟩, q5, q6, q7⟩ := h1
    refine ⟨⟨by rw [hf.rR (by decide)]; exact q1, q2.fr hf (by decide) (by decide) (by decide), by rw [bts_fr hf (by decide) (by decide) (by decide)]; exact q3, q4⟩, ?_, by rw [hf.rN (by decide) (by decide)]; exact q6, by rw [hf.rE (by decide) (by decide)]; exact q7⟩
    unfold LxW at *
    rw [hf.rN (a := 7) (by decide) (by decide), hf.rN (a := 8) (by decide) (by decide), hf.rN (a := 9) (by decide) (by decide), hf.rI (by decide)]
    exact q5
  · rw [← h2]; unfold lexs
    rw [hf.rE (a := 7) (by decide) (by decide), hf.rE (a := 8) (by decide) (by decide), hf.rE (a := 9) (by decide) (by decide), hf.rI (by decide)]
theorem CG.fr10 (h : CG L X B BT s a R) (hf : Fr [10002, 10003, 10004, 10005] s s') : CG L X B BT s' a R := ⟨h.1.fr10 hf, h.2⟩
theorem FC.fr10 (h : FC L X B BT e m s) (hf : Fr [10002, 10003, 10004, 10005] s s') : FC L X B BT e m s' := by
  obtain ⟨a, n, T, q1, q2⟩ := h
  exact ⟨a, n, T, q1.fr10 hf, q2⟩
theorem fr10 {f : Nat} {v : Int} (h : 10000 + f ∈ [10002, 10003, 10004, 10005]) : Fr [10002, 10003, 10004, 10005] s (sI s 10 f v) := Fr.wI Fr.rfl (by simpa using h)
/-- a run that leaves the tree's heads alone -/
theorem wpA {m : Option (Int × vS)} {W : List Nat} {k : Int → vS → Option α} {P : Int × vS → Prop} (hA : AH s F T C I) (hm : PR W s (fun q => q.2) m) (hW : 10002 ∉ W ∧ 10003 ∉ W ∧ 10004 ∉ W ∧ 10005 ∉ W) (h : wpo m P) (hk : ∀ r s', P (r, s') → AH s' F T C I → wpo (k r s') Q) : wpo (bd m k) Q := by
  refine wpo_bd.mpr (wpo.mono (wpo.and h fun r hr => hm r hr) ?_)
  rintro ⟨r, s'⟩ ⟨h1, h2⟩
  exact hk r s' h1 (hA.fr h2 hW.1 hW.2.1 hW.2.2.1 hW.2.2.2)
theorem wpAv {m : Option vS} {W : List Nat} {k : vS → Option α} {P : vS → Prop} (hA : AH s F T C I) (hm : PR W s (fun q => q) m) (hW : 10002 ∉ W ∧ 10003 ∉ W ∧ 10004 ∉ W ∧ 10005 ∉ W) (h : wpo m P) (hk : ∀ s', P s' → AH s' F T C I → wpo (k s') Q) : wpo (bdv m k) Q := by
  refine wpo_bdv.mpr (wpo.mono (wpo.and h fun r hr => hm r hr) ?_)
  rintro s' ⟨h1, h2⟩
  exact hk s' h1 (hA.fr h2 hW.1 hW.2.1 hW.2.2.1 hW.2.2.2)
theorem bd_eta (m : Option (Int × vS)) : bd m (fun r s => some (r, s)) = m := by
  cases m with
  | none => rfl
  | some r => rfl
theorem bdv_eta (m : Option vS) : bdv m (fun s => some s) = m := by
  cases m with
  | none => rfl
  | some r => rfl
theorem A_take {K : Int} {k : Int → vS → Option α} (hA : AH s F T C I) (h : CG L X B BT s a R) (hG : LG L X BT) (ha : a ≤ L.length + 10) (hn : (R.length : Int) ≤ 3 * L.length + 10) (hK : K ≠ -1) (h1 : kdL L a = K → a < L.length → ∀ s', CG L X B BT s' (a + 1) R → AH s' F T C I → wpo (k 1 s') Q) (h0 : kdL L a ≠ K → ∀ s', FC L X B BT (flt L X a) R.length s' → wpo (k 0 s') Q) : wpo (bd (f_X5_take K s) k) Q := by
  refine wpA (P := fun r => (kdL L a = K ∧ a < L.length ∧ r.1 = 1 ∧ CG L X B BT r.2 (a + 1) R) ∨ (kdL L a ≠ K ∧ r.1 = 0 ∧ FC L X B BT (flt L X a) R.length r.2)) hA (fr_f_X5_take K s) (by decide) ?_ ?_
  · rw [← bd_eta (f_X5_take K s)]
    refine wp_take h hG ha hn hK (fun c1 c2 s' q => wpo_some.mpr (Or.inl ⟨c1, c2, rfl, q⟩)) (fun c s' q => wpo_some.mpr (Or.inr ⟨c, rfl, q⟩))
  · rintro r s' (⟨q1, q2, q3, q4⟩ | ⟨q1, q3, q4⟩) hA'
    · simp only at q3 q4; subst q3; exact h1 q1 q2 s' q4 hA'
    · simp only at q3 q4; subst q3; exact h0 q1 s' q4
theorem A_may {K : Int} {k : Int → vS → Option α} (hA : AH s F T C I) (h : CG L X B BT s a R) (ha : a ≤ 40000) (hK : K ≠ -1) (h1 : kdL L a = K → a < L.length → ∀ s', CG L X B BT s' (a + 1) R → AH s' F T C I → wpo (k 1 s') Q) (h0 : kdL L a ≠ K → wpo (k 0 s) Q) : wpo (bd (f_X5_may K s) k) Q := by
  by_cases c : kdL L a = K
  · refine wpA (P := fun r => (r.1 = 1 ∧ a < L.length ∧ CG L X B BT r.2 (a + 1) R)) hA (fr_f_X5_may K s) (by decide) ?_ ?_
    · rw [← bd_eta (f_X5_may K s)]
      refine wp_may h ha hK (fun c1 c2 s' q => wpo_some.mpr ⟨rfl, c2, q⟩) (fun z => absurd c z)
    · rintro r s' ⟨q1, q2, q3⟩ hA'
      simp only at q1 q3; subst q1; exact h1 c q2 s' q3 hA'
  · exact wp_may h ha hK (fun z => absurd z c) h0
theorem A_add {kind : Int} {k : Int → vS → Option α} (hA : AH s F T C I) (h : CG L X B BT s a R) (hG : LG L X BT) (ha : a ≤ L.length + 10) (hn : (R.length : Int) ≤ 3 * L.length + 10) (hk : rg kind) (h1 : ∀ s', CG L X B BT s' a (R ++ [[kind, a, -1, -1, -1, -1, 0, 0, -1]]) → AH s' F T C I → wpo (k R.length s') Q) : wpo (bd (f_X4_add kind (gI s 12 2) s) k) Q := by
  refine wpA (P := fun r => r.1 = R.length ∧ CG L X B BT r.2 a (R ++ [[kind, a, -1, -1, -1, -1, 0, 0, -1]])) hA (fr_f_X4_add kind (gI s 12 2) s) (by decide) ?_ ?_
  · rw [← bd_eta (f_X4_add kind (gI s 12 2) s)]
    exact wp_add h hG ha hn hk (fun s' q => wpo_some.mpr ⟨rfl, q⟩)
  · rintro r s' ⟨q1, q2⟩ hA'
    simp only at q1 q2; subst q1; exact h1 s' q2 hA'
theorem A_set {i c v : Int} {k : vS → Option α} (hA : AH s F T C I) (h : CG L X B BT s a R) (i0 : 0 ≤ i) (i1 : i < R.length) (c0 : 0 ≤ c) (c1 : c < 9) (hv : rg v) (hx : (c = 8 → v = -1 ∨ (i < v ∧ v < R.length)) ∧ (c = 4 → v = -1 ∨ (0 ≤ v ∧ v < R.length))) (h1 : ∀ s', CG L X B BT s' a (upR R i c.toNat v) → AH s' F T C I → wpo (k s') Q) : wpo (bdv (f_X4_set i c v s) k) Q := by
  refine wpAv (P := fun s' => CG L X B BT s' a (upR R i c.toNat v)) hA (fr_f_X4_set i c v s) (by decide) ?_ ?_
  · rw [← bdv_eta (f_X4_set i c v s)]
    exact wp_set h i0 i1 c0 c1 hv hx (fun s' q => wpo_some.mpr q)
  · exact fun s' q hA' => h1 s' q hA'
theorem A_adv {k : vS → Option α} (hA : AH s F T C I) (h : CG L X B BT s a R) (ha : a ≤ 40000) (h1 : ∀ s', CG L X B BT s' (a + 1) R → AH s' F T C I → wpo (k s') Q) : wpo (stp (sI s 12 2 (w32 (gI s 12 2 + 1))) k) Q := by
  rw [stp_eq]
  exact h1 _ ⟨h.1.next (by omega), h.2⟩ (hA.fr (W := [12002]) (Fr.wI Fr.rfl (by decide)) (by decide) (by decide) (by decide) (by decide))
end
