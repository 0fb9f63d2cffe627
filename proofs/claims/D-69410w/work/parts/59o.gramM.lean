set_option maxRecDepth 100000 set_option linter.unusedVariables false set_option linter.unusedSimpArgs false
/-! PURE 59o: the model's grammar: a type, read whole -/
section
variable {L : Lx} {X : List Int} {ln : Nat → Nat} {s s' : vS} {a : Int} {M M' : Mt} {P : List (Nat × Int)} {α : Type} {e : Ft} {t tn : Int} {o c0 nd : Int} {S : Int → Int × Int}
/-- what reading a type leaves -/
def PT (L : Lx) (X : List Int) (ln : Nat → Nat) (M : Mt) (g : Ft ⊕ Pg) (r : Int × vS) : Prop := match g with
  | .inl e => FD L X ln e r.2
  | .inr q => r.1 = lnM M 0 ∧ VMd L X ln r.2 q.1 q.2 []
theorem M_parseType (hH : LH L X) (hN : LN L ln) (h : VMd L X ln s a M []) (hC : CT M a) (h0 : lnM M 0 ≤ a) : wpo (f_X14_parseType s) (PT L X ln M (gType L X 100 (a, M))) := by
  have hl := hH.2.1
  have al := h.al
  have a0 := h.a0
  have l0 := lnM_nn M 0
  unfold f_X14_parseType
  rw [stp_eq, stp_eq, stp_eq]
  have hf : Fr [87079, 87082, 87083] s (sI (sI (sI s 87 79 0) 87 83 1) 87 82 (-1)) := Fr.wI (Fr.wI (Fr.wI Fr.rfl (by decide)) (by decide)) (by decide)
  have q := h.oth hf (by decide)
  have v : SV L (sI (sI (sI s 87 79 0) 87 83 1) 87 82 (-1)) 0 (-1) 1 (fun _ => (0, 0)) := by
    refine ⟨?_, ?_, ?_, by decide, by decide, fun i i0 i1 => by omega⟩
    · rw [gI_s87, if_neg (by decide), gI_s87, if_neg (by decide), gI_s87, if_pos rfl]; decide
    · rw [gI_s87, if_pos rfl]; decide
    · rw [gI_s87, if_neg (by decide), gI_s87, if_pos rfl]; decide
  generalize sI (sI (sI s 87 79 0) 87 83 1) 87 82 (-1) = s1 at q v
  have F : ∀ e s2, FD L X ln e s2 → wpo (j_X14_parseType_69 s2) (fun r => FD L X ln e r.2) := by
    intro e s2 h2
    unfold j_X14_parseType_69
    exact wpo_ite.mpr ⟨fun _ => wpo_some.mpr h2, fun _ => wpo_some.mpr h2⟩
  refine wpo_lq_0.mpr (M_TM hH hN 100 (by decide) s1 a M 0 (fun _ => (0, 0)) (-1) FU _ q v (by decide) hC h0 (by unfold FU; omega) (fun e he s2 hf => ?_) (fun b M2 hg s2 N2 S2 q2 v2 _ hn => ?_))
  · rw [he]
    refine F e s2 ?_
    rcases hf with z | z
    · exact Or.inl z
    · exact Or.inr z.1
  · rw [hg]
    have bl := q2.al
    unfold RES
    have n1 : 1 ≤ N2 := by
      have : (2000000 : Int) ≤ (FU : Nat) := by unfold FU; omega
      omega
    rw [v2.1, if_pos rfl, LP_1 q2.f0 n1]
    refine wpo_some.mpr ?_
    unfold j_X14_parseType_69
    rw [v2.2.1, if_pos l0]
    exact wpo_some.mpr ⟨rfl, q2⟩
theorem F_parseType (h : FM L X ln e s) : wpo (f_X14_parseType s) (fun r => FM L X ln e r.2) := by
  unfold f_X14_parseType
  rw [stp_eq, stp_eq, stp_eq]
  have hf : Fr [87079, 87082, 87083] s (sI (sI (sI s 87 79 0) 87 83 1) 87 82 (-1)) := Fr.wI (Fr.wI (Fr.wI Fr.rfl (by decide)) (by decide)) (by decide)
  have q := h.oth hf (by decide)
  generalize sI (sI (sI s 87 79 0) 87 83 1) 87 82 (-1) = s1 at q
  rw [LP_F q (by unfold FU; omega), lq_0_eq]
  unfold j_X14_parseType_69
  exact wpo_ite.mpr ⟨fun _ => wpo_some.mpr q, fun _ => wpo_some.mpr q⟩
theorem F_value {x : Int} (h : FM L X ln e s) : wpo (f_X14_parseValue x s) (fun r => FM L X ln e r.2) := by
  unfold f_X14_parseValue
  rw [vl_eq]
  exact mF_ifl h (wpo_some.mpr h)
/-- a fault, and counters of assignments somewhere -/
def FQ (L : Lx) (X : List Int) (ln : Nat → Nat) (e : Ft) (s : vS) : Prop := ∃ s0, FM L X ln e s0 ∧ Fr [87072, 87076] s0 s
theorem FM.fq (h : FM L X ln e s) : FQ L X ln e s := ⟨s, h, Fr.rfl⟩
theorem FQ.eq (h : FQ L X ln e s) : gI s 87 8 = e.1 ∧ gI s 87 9 = e.2 ∧ 0 < e.1 := by
  obtain ⟨s0, h0, hf⟩ := h
  exact ⟨by rw [hf.rI (by decide)]; exact h0.2.1, by rw [hf.rI (by decide)]; exact h0.2.2.1, h0.2.2.2.1⟩
theorem FQ.w (h : FQ L X ln e s) {k : Nat} (hk : k = 72 ∨ k = 76) {v : Int} : FQ L X ln e (sI s 87 k v) := by
  obtain ⟨s0, h0, hf⟩ := h
  exact ⟨s0, h0, hf.trans (Fr.wI Fr.rfl (by rcases hk with z | z <;> rw [z] <;> decide))⟩
theorem VMd.addP (h : VMd L X ln s a M P) {A : Nat} {v : Int} (hA : isT A = true) (hv : rdA s A (lnM M (cOf A)) = v) : VMd L X ln s a M ((A, v) :: P) := by
  obtain ⟨q1, q2, q3, q4, q5, q6, q7, q8, q9, q10⟩ := h
  refine ⟨q1, q2, q3, q4, q5, q6, q7, q8, fun x hx => ?_, q10⟩
  rcases List.mem_cons.mp hx with z | z
  · rw [z]; exact ⟨hA, hv⟩
  · exact q9 x z
theorem DM.inc (hH : LH L X) (h : DM L X ln e s) {c : Nat} (hc : c < 10) {v : Int} (hv : gI s 87 (cnt c) = v) (hb : wt c * v ≤ L.length + wt c) : DM L X ln e (sI s 87 (cnt c) (w32 (gI s 87 (cnt c) + 1))) := by
  have hl := hH.2.1
  have nc := cnt_ne hc
  have cb := h.1.2.2.2.2.2.2
  have cg : 0 ≤ gI s 87 (cnt c) ∧ wt c * gI s 87 (cnt c) ≤ (L.length : Int) + wt c * 2 := cb.ge hc
  have w : w32 (v + 1) = v + 1 := by
    rw [hv] at cg
    exact w32_id ⟨by rcases wt_pos hc with z | z | z <;> rw [z] at hb cg <;> omega, by rcases wt_pos hc with z | z | z <;> rw [z] at hb cg <;> omega⟩
  rw [hv, w]
  have ec : ∀ d, d < 10 → gI (sI s 87 (cnt c) (v + 1)) 87 (cnt d) = if d = c then v + 1 else gI s 87 (cnt d) := by
    intro d hd
    rw [gI_s87]
    by_cases q : d = c
    · rw [if_pos (by rw [q]), if_pos q, w]
    · rw [if_neg (fun z => q (cnt_inj hd hc z)), if_neg q]
  have hbd : BD L X ln (sI s 87 (cnt c) (v + 1)) := by
    refine h.1.ct hc ?_
    refine CB.congr (f := fun d => if d = c then v + 1 else gI s 87 (cnt d)) ?_ ec
    rw [hv] at cg
    have : c = 0 ∨ c = 1 ∨ c = 2 ∨ c = 3 ∨ c = 4 ∨ c = 5 ∨ c = 6 ∨ c = 7 ∨ c = 8 ∨ c = 9 := by omega
    unfold CB at cb ⊢
    simp only [] at cb ⊢
    rcases this with rfl | rfl | rfl | rfl | rfl | rfl | rfl | rfl | rfl | rfl <;> simp only [wt, List.getD_cons_zero, List.getD_cons_succ] at hb cg <;> simp only [Nat.reduceEqDiff, Nat.reduceAdd, Nat.reduceLT, Nat.reduceLeDiff, Nat.reduceBEq, reduceIte, and_self, and_true, true_and, and_false, false_and, if_true, if_false, Nat.reduceMul, Int.reduceEq, Int.reduceLT, Int.reduceLE, Int.reduceNeg, Int.reduceAdd, Int.reduceMul, Int.reduceSub] <;> omega
  unfold DM
  rw [gI_s87, if_neg (by omega), gI_s87, if_neg (by omega), gI_s87, if_neg (by omega)]
  exact ⟨hbd, h.2⟩
end
