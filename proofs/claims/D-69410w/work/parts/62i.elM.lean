set_option maxRecDepth 100000 set_option linter.unusedVariables false set_option linter.unusedSimpArgs false
/-! PURE 62i: the model's elements: one step -/
section
variable {D : List Int} {s : vS} {a b lim to : Int} {els : List (List Int)} {x : Int × Int × Int} {r stk : List (Int × Int × Int)} {rec : Int → vS → Option vS} {x1 : Int}
/-- what a step leaves -/
def EP (D : List Int) (lim : Int) (s : vS) (rec : Int → vS → Option vS) (x1 : Int) (m : Option vS) (g : Ft ⊕ Es3) : Prop :=
  (∀ f, g = .inl f → 0 < f.1 ∧ f.1 ≤ 6 ∧ m = rec x1 (tellS s f.1 f.2)) ∧ (∀ e', g = .inr e' → ∃ t, m = rec x1 t ∧ EMv D lim t e')
theorem M_184 (h : EMv D lim s (a, els, stk)) : EP D lim s rec x1 (j_X14_cutElements_184 rec x1 (bndS D stk) s) (elm D lim (a, els, stk)) := by
  have h' := h
  obtain ⟨hd, hz, h127, hl6, h8, h143, a0, hs, h129, h142, h2, hp, hr, h181⟩ := h
  simp only at h143 h142
  unfold EP j_X14_cutElements_184
  rw [h143, h142, hl6]
  by_cases c1 : a < bndS D stk
  · rw [if_pos c1]
    by_cases c2 : (stk.length : Int) ≤ lim
    · rw [if_pos c2]
      have E := M_elm h' c1 c2
      refine ⟨fun f z => ?_, fun e' z => ?_⟩
      · obtain ⟨g1, g2, g3⟩ := E.1 f z
        rw [g3, bdv_eq]; exact ⟨g1, g2, rfl⟩
      · obtain ⟨t, g1, g2⟩ := E.2 e' z
        rw [g1, bdv_eq]; exact ⟨t, rfl, g2⟩
    · have ee : elm D lim (a, els, stk) = .inl (5, a) := by
        unfold elm
        rw [eBnd_bnd]
        simp only
        rw [if_neg (show ¬bndS D stk ≤ a by omega), if_pos (show lim < stk.length by omega)]
      rw [if_neg c2, ee, X14_tell h8, bdv_eq]
      exact ⟨fun f z => by (cases z); exact ⟨by show (0 : Int) < 5; decide, by show (5 : Int) ≤ 6; decide, rfl⟩, fun e' z => by (cases z)⟩
  · have ee : elm D lim (a, els, stk) = .inl (1, a) := by
      unfold elm
      rw [eBnd_bnd]
      simp only
      rw [if_pos (show bndS D stk ≤ a by omega)]
    rw [if_neg c1, ee, X14_tell h8, bdv_eq]
    exact ⟨fun f z => by (cases z); exact ⟨by show (0 : Int) < 1; decide, by show (1 : Int) ≤ 6; decide, rfl⟩, fun e' z => by (cases z)⟩
/-- an end without a length -/
theorem EMv.eoc (h : EMv D lim s (a, els, x :: r)) (hx : x.2.1 = -1) (hb : a + 1 < bndS D (x :: r)) : EMv D lim (sI (sE s 177 (gI s 87 141) a) 87 143 (w32 (a + 2))) (a + 2, els, x :: r) := by
  obtain ⟨hd, hz, h127, hl6, h8, h143, a0, hs, h129, h142, h2, hp, hr, h181⟩ := h
  simp only at h143 a0 hs h129 h142 h2 hp hr h181
  have hD := hd.1
  have sl := hs.le
  have hp' := hp
  obtain ⟨q1, q2, q3, q4, q5, q6⟩ := hp
  obtain ⟨T, hT⟩ : ∃ T, T = sI (sE s 177 (gI s 87 141) a) 87 143 (w32 (a + 2)) := ⟨_, rfl⟩
  rw [← hT]
  have gA : ∀ A i, (A ≠ 177 ∨ i ≠ gI s 87 141) → gE T A i = gE s A i := fun A i z => by
    rw [hT, gE_sI, gE_sE, if_neg (fun y => z.elim (fun w => w y.1) (fun w => w y.2))]
  have gB : ∀ A i, A ≠ 177 → gZ T A i = gZ s A i := fun A i z => by
    rw [hT, gZ_sI, gZ_sE, if_neg (fun y => z y.1)]
  have gM : ∀ A, gN T A = gN s A := fun A => by rw [hT, gN_sI, gN_sE]
  have gF : ∀ f : Nat, f ≠ 143 → gI T 87 f = gI s 87 f := fun f h1 => by
    rw [hT, gI_sI, if_neg (fun z => h1 z.2), gI_sE]
  have px : ∀ y ∈ r, y.1 ≠ gI s 87 141 := fun y hy => by have := (q6.lt y hy).2; omega
  refine ⟨⟨hD, by rw [gM]; exact hd.2.1, fun i i0 i1 => by rw [gA _ _ (Or.inl (by decide))]; exact hd.2.2 i i0 i1⟩, fun A h1 h2 => by rw [gM]; exact hz A h1 h2, ?_, ?_, ?_, ?_, by show 0 ≤ a + 2; omega, hs.mono (by show a + 2 ≤ _; omega), ?_, ?_, by show 2 * (els.length : Int) ≤ a + 2; omega, ?_, ?_, ?_⟩
  · rw [gF _ (by decide)]; exact h127
  · rw [gF _ (by decide)]; exact hl6
  · rw [gF _ (by decide)]; exact h8
  · rw [hT, gI_sI, if_pos ⟨rfl, rfl⟩, w32_id (x := a + 2) ⟨by omega, by omega⟩]; exact w32_id ⟨by omega, by omega⟩
  · rw [gF _ (by decide)]; exact h129
  · rw [gF _ (by decide)]; exact h142
  · rw [gF _ (by decide)]
    show SPk D T (els.length : Int) (x :: r) (gI s 87 141)
    refine ⟨q1, q2, q3, ?_, by rw [gA _ _ (Or.inl (by decide))]; exact q5, ?_⟩
    · rcases q4 with z | z
      · rw [gB _ _ (by decide)]; exact Or.inl z
      · exact absurd z.2.1 (by omega)
    · rw [gA _ _ (Or.inl (by decide))]
      refine SPk.cong (s := s) (n := els.length) (Int.le_refl _) (fun i i0 i1 => ?_) (fun y hy => ?_) q6
      · rw [gA _ _ (Or.inl (by decide)), gB _ _ (by decide)]; exact ⟨rfl, rfl⟩
      · exact gA _ _ (Or.inr (px y hy))
  · intro i i0 i1
    obtain ⟨w1, w2, w3, w4, w5, w6, w7⟩ := hr i i0 i1
    rw [gA 172 _ (Or.inl (by decide)), gA 173 _ (Or.inl (by decide)), gA 175 _ (Or.inl (by decide)), gB 174 _ (by decide), gA 176 _ (Or.inl (by decide))]
    refine ⟨w1, w2, w3, w4, w5, w6, fun w => ?_⟩
    rw [gA 177 _ (Or.inr (fun z => w x List.mem_cons_self (by rw [z]; exact q1.symm)))]
    exact w7 w
  · intro i i0 i1
    rw [gA _ _ (Or.inl (by decide))]; exact h181 i i0 i1
theorem M_99 (h : EMv D lim s (a, els, x :: r)) (h6 : RL6 els) (hn : x.2.1 ≠ a) : EP D lim s rec x1 (j_X14_cutElements_99 rec x1 (bndS D (x :: r)) s) (estep D lim (a, els, x :: r)) := by
  have h' := h
  have M := M_184 (rec := rec) (x1 := x1) h
  obtain ⟨hd, hz, h127, hl6, h8, h143, a0, hs, h129, h142, h2, hp, hr, h181⟩ := h
  simp only at h143 a0 hs h129 h142 h2 hp hr h181
  have hD := hd.1
  have sl := hs.le
  have hp' := hp
  obtain ⟨q1, q2, q3, q4, q5, q6⟩ := hp
  have es : estep D lim (a, els, x :: r) = if x.2.1 = -1 ∧ a + 1 < bndS D (x :: r) ∧ cha D a = 0 ∧ cha D (a + 1) = 0 then .inr (a + 2, elv els x.1 a, r) else elm D lim (a, els, x :: r) := by
    unfold estep
    simp only
    rw [if_neg hn]
    rfl
  unfold j_X14_cutElements_99
  rw [if_neg (show ¬gI s 87 141 < 0 by omega), gd_pos (hz.ix (by decide) (by decide) q2 (by omega))]
  rcases q4 with ⟨w1, w2, w3⟩ | ⟨w1, w2, w3, w4⟩
  · rw [w2, if_neg (show ¬(1 : Int) = 0 by decide), h143, w32_id (x := a + 1) ⟨by omega, by omega⟩]
    by_cases c1 : bndS D (x :: r) ≤ a + 1
    · rw [if_pos c1, es, if_neg (fun z => by have := z.2.1; omega)]; exact M
    rw [if_neg c1, gd_pos ⟨a0, by have := hd.2.1; omega⟩, (hd.2.2 a a0 (by omega)).1]
    by_cases c2 : cha D a = 0
    · rw [if_pos c2, gd_pos ⟨by omega, by have := hd.2.1; omega⟩, (hd.2.2 (a + 1) (by omega) (by omega)).1]
      by_cases c3 : cha D (a + 1) = 0
      · rw [if_pos c3, gd_pos (hz.ix (by decide) (by decide) q2 (by omega)), stp_eq, stp_eq, gI_sE, h143]
        have E := h'.eoc w1 (by omega)
        have g7 : gE (sI (sE s 177 (gI s 87 141) a) 87 143 (w32 (a + 2))) 177 x.1 = a := by
          rw [gE_sI, gE_sE, if_pos ⟨rfl, q1.symm⟩]; exact w32_id ⟨by omega, by omega⟩
        have C := M_close (n := els.length) (s := sI (sE s 177 (gI s 87 141) a) 87 143 (w32 (a + 2))) E.2.1 (by omega) E.2.2.2.2.2.2.2.2.2.2.2.1
        have R := E.pop h6 g7
        rw [C, bdv_eq, es, if_pos ⟨w1, by omega, c2, c3⟩]
        exact ⟨fun f z => by (cases z), fun e' z => by (cases z); exact ⟨_, rfl, R⟩⟩
      · rw [if_neg c3, es, if_neg (fun z => c3 z.2.2.2)]; exact M
    · rw [if_neg c2, es, if_neg (fun z => c2 z.2.2.1)]; exact M
  · rw [w3, if_pos rfl, es, if_neg (fun z => by have := z.1; omega)]; exact M
theorem M_57 (h : EMv D lim s (a, els, x :: r)) (h6 : RL6 els) : EP D lim s rec x1 (j_X14_cutElements_57 rec x1 (bndS D (x :: r)) s) (estep D lim (a, els, x :: r)) := by
  have h' := h
  obtain ⟨hd, hz, h127, hl6, h8, h143, a0, hs, h129, h142, h2, hp, hr, h181⟩ := h
  simp only at h143 a0 hs h129 h142 h2 hp hr h181
  have hD := hd.1
  have sl := hs.le
  have hp' := hp
  obtain ⟨q1, q2, q3, q4, q5, q6⟩ := hp
  unfold j_X14_cutElements_57
  rw [if_neg (show ¬gI s 87 141 < 0 by omega), gd_pos (hz.ix (by decide) (by decide) q2 (by omega))]
  rcases q4 with ⟨w1, w2, w3⟩ | ⟨w1, w2, w3, w4⟩
  · rw [w2, if_neg (show ¬(1 : Int) = 0 by decide)]
    exact M_99 h' h6 (by omega)
  · rw [w3, if_pos rfl, gd_pos (hz.ix (by decide) (by decide) q2 (by omega)), w4, h143]
    by_cases c : a = x.2.2
    · rw [if_pos c, M_close hz (n := els.length) (by omega) hp', bdv_eq]
      have R := h'.pop (to := a) h6 (by rw [← q1, w4]; exact c.symm)
      unfold estep
      simp only
      rw [if_pos (show x.2.1 = a by omega)]
      exact ⟨fun f z => by (cases z), fun e' z => by (cases z); exact ⟨_, rfl, R⟩⟩
    · rw [if_neg c]
      exact M_99 h' h6 (by omega)
end
