set_option maxRecDepth 100000 set_option linter.unusedVariables false set_option linter.unusedSimpArgs false
/-! PURE 52l: the class's grammar: headings, modules -/
section
variable {L : Lx} {X : List Int} {B BT : Nat} {s s' : vS} {a I : Int}
def pHd (L : Lx) (i : Int) : Prop := kdL L i ≠ -1 ∧ kdL L i ≠ 15 ∧ kdL L i ≠ 16
theorem G_hd_l : ∀ (k N : Nat) (s : vS) (a : Int), CG L X B BT s a [] → AH s (-1) 0 0 0 → a ≤ L.length → L.length - a < k → k ≤ N → L.length ≤ 32768 → wpo (l_X5_heading_19 N s) (fun s' => CG L X B BT s' (scan (fun i => kdL L i ≠ -1 ∧ kdL L i ≠ 15 ∧ kdL L i ≠ 16) k a) [] ∧ AH s' (-1) 0 0 0) := by
  intro k
  induction k with
  | zero => intro N s a h hA h1 h2; omega
  | succ k ih =>
    intro N s a h hA h1 h2 h3 l0
    have a0 := h.a0
    obtain ⟨N, rfl⟩ : ∃ m, N = m + 1 := ⟨N - 1, by omega⟩
    unfold l_X5_heading_19 scan
    refine wp_kind h ?_
    refine wpo_ite.mpr ⟨fun c => ?_, fun c => wp_is h (by decide) (fun c2 _ => wp_f ?_) (fun c2 => wp_t (wp_is h (by decide) (fun c3 _ => wp_f ?_) (fun c3 => wp_t ?_)))⟩
    · rw [if_neg (fun z => z.1 c)]; exact wpo_some.mpr ⟨h, hA⟩
    · rw [if_neg (fun z => z.2.1 c2)]; exact wpo_some.mpr ⟨h, hA⟩
    · rw [if_neg (fun z => z.2.2 c3)]; exact wpo_some.mpr ⟨h, hA⟩
    · rw [if_pos ⟨c, c2, c3⟩]
      have al := (kd_in (L := L) (a := a) (K := kdL L a) rfl c).2
      exact A_adv hA h (by omega) (fun s1 q A1 => ih N s1 (a + 1) q A1 (by omega) (by omega) (by omega) l0)
def HP (L : Lx) (X : List Int) (B BT : Nat) (g : Ft ⊕ (Int × Int)) (r : Int × vS) : Prop := match g with
  | .inl e => r.1 = 0 ∧ FC L X B BT e 0 r.2
  | .inr q => r.1 = 1 ∧ CG L X B BT r.2 q.2 [] ∧ AH r.2 (-1) 0 0 q.1 ∧ q.2 ≤ L.length
theorem G_hd135 (hG : LG L X BT) (h : CG L X B BT s a []) (hA : AH s (-1) 0 0 I) (ha : a ≤ L.length) : wpo (j_X5_heading_135 s) (HP L X B BT (bE (tkE L X 10 a) fun a5 => bE (tkE L X 105 a5) fun a6 => .inr (I, a6))) := by
  have l0 := hG.1
  unfold j_X5_heading_135
  refine A_take hA h hG (by omega) (by simp; omega) (by decide) (fun c1 al s1 q1 A1 => wp_f ?_) (fun c1 s1 q1 => wp_t ?_)
  · rw [tkE_y c1, bE_r]
    refine A_take A1 q1 hG (by omega) (by simp; omega) (by decide) (fun c2 al2 s2 q2 A2 => wp_f ?_) (fun c2 s2 q2 => wp_t ?_)
    · rw [tkE_y c2, bE_r]; exact wpo_some.mpr ⟨rfl, q2, A2, by show a + 1 + 1 ≤ _; omega⟩
    · rw [tkE_n c2, bE_l]; exact wpo_some.mpr ⟨rfl, q2⟩
  · rw [tkE_n c1, bE_l]; exact wpo_some.mpr ⟨rfl, q1⟩
theorem G_hd99 (hG : LG L X BT) (h : CG L X B BT s a []) (hA : AH s (-1) 0 0 0) (ha : a ≤ L.length) (hk : kdL L a = 123 ∨ kdL L a = 134) : wpo (j_X5_heading_99 s) (HP L X B BT (bE (tkE L X 165 (a + 1)) fun a4 => bE (tkE L X 10 a4) fun a5 => bE (tkE L X 105 a5) fun a6 => .inr (b2i (kdL L a = 134), a6))) := by
  have l0 := hG.1
  have a0 := h.a0
  have al : a < L.length := by rcases hk with z | z <;> exact (kd_in z (by decide)).2
  unfold j_X5_heading_99
  rw [h.1.is, bd_eq]
  refine wpo_gd.mpr ⟨by unfold b2i; split <;> simp, ?_⟩
  rw [stp_eq]
  have q1 := h.fr10 (fr10 (f := 5) (v := b2i (kdL L a = 134)) (by decide))
  have A1 : AH (sI s 10 5 (b2i (kdL L a = 134))) (-1) 0 0 (b2i (kdL L a = 134)) := by
    obtain ⟨b1, b2, b3, b4⟩ := hA
    refine ⟨?_, ?_, ?_, ?_⟩
    · rw [gI_sI, if_neg (by decide), b1]
    · rw [gI_sI, if_neg (by decide), b2]
    · rw [gI_sI, if_neg (by decide), b3]
    · rw [gI_sI, if_pos ⟨rfl, rfl⟩, w32_id]; unfold b2i; split <;> exact rgl rfl
  refine A_adv A1 q1 (by omega) (fun s2 q2 A2 => ?_)
  refine A_take A2 q2 hG (by omega) (by simp; omega) (by decide) (fun c1 al s1 q1 A1 => wp_f ?_) (fun c1 s1 q1 => wp_t ?_)
  · rw [tkE_y c1, bE_r]
    exact G_hd135 hG q1 A1 (by omega)
  · rw [tkE_n c1, bE_l]; exact wpo_some.mpr ⟨rfl, q1⟩
theorem G_hd69 (hG : LG L X BT) (h : CG L X B BT s a []) (hA : AH s (-1) 0 0 0) (ha : a ≤ L.length) : wpo (j_X5_heading_69 s) (HP L X B BT (bE (tkE L X 118 a) fun a3 =>
  bE (if kdL L a3 = 123 ∨ kdL L a3 = 134 then tkE L X 165 (a3 + 1) else .inr a3) fun a4 =>
  bE (tkE L X 10 a4) fun a5 => bE (tkE L X 105 a5) fun a6 => .inr (b2i (kdL L a3 = 134), a6))) := by
  have l0 := hG.1
  unfold j_X5_heading_69
  refine A_take hA h hG (by omega) (by simp; omega) (by decide) (fun c1 al s1 q1 A1 => wp_f ?_) (fun c1 s1 q1 => wp_t ?_)
  · rw [tkE_y c1, bE_r]
    refine wp_is q1 (by decide) (fun c2 _ => wp_f ?_) (fun c2 => wp_t (wp_is q1 (by decide) (fun c3 _ => wp_f ?_) (fun c3 => wp_t ?_)))
    · rw [if_pos (Or.inl c2)]
      exact G_hd99 hG q1 A1 (by omega) (Or.inl c2)
    · rw [if_pos (Or.inr c3)]
      exact G_hd99 hG q1 A1 (by omega) (Or.inr c3)
    · rw [if_neg (fun z => z.elim c2 c3), bE_r]
      have e : b2i (kdL L (a + 1) = 134) = 0 := by unfold b2i; rw [if_neg c3]
      rw [e]
      exact G_hd135 hG q1 A1 (by omega)
  · rw [tkE_n c1, bE_l]; exact wpo_some.mpr ⟨rfl, q1⟩
theorem G_head (hG : LG L X BT) (h : CG L X B BT s 0 []) (hA : AH s (-1) 0 0 0) : wpo (f_X5_heading s) (HP L X B BT (gHead L X)) := by
  have l0 := hG.1
  unfold f_X5_heading gHead
  refine A_take hA h hG (by omega) (by simp; omega) (by decide) (fun c1 al s1 q1 A1 => wp_f ?_) (fun c1 s1 q1 => wp_t ?_)
  · rw [tkE_y c1, bE_r]
    refine A_may A1 q1 (by omega) (by decide) (fun c2 al2 s2 q2 A2 => wp_f ?_) (fun c2 => wp_t ?_)
    · rw [if_pos c2]
      have sc := scan_le (fun i => kdL L i ≠ -1 ∧ kdL L i ≠ 15 ∧ kdL L i ≠ 16) (n := (L.length : Int)) (fun i hi => (kd_in (L := L) (a := i) (K := kdL L i) rfl hi.1).2) (L.length + 1) (0 + 1 + 1)
      refine wpo_lq_0.mpr (wpo.mono (G_hd_l (L.length + 1) FU s2 (0 + 1 + 1) q2 A2 (by omega) (by omega) (by unfold FU; omega) l0) ?_)
      rintro s3 ⟨q3, A3⟩
      generalize scan (fun i => kdL L i ≠ -1 ∧ kdL L i ≠ 15 ∧ kdL L i ≠ 16) (L.length + 1) (0 + 1 + 1) = j at q3 sc ⊢
      unfold j_X5_heading_58
      refine A_take A3 q3 hG (by omega) (by simp; omega) (by decide) (fun c1 al s1 q1 A1 => wp_f ?_) (fun c1 s1 q1 => wp_t ?_)
      · rw [tkE_y c1, bE_r]
        exact G_hd69 hG q1 A1 (by omega)
      · rw [tkE_n c1, bE_l]; exact wpo_some.mpr ⟨rfl, q1⟩
    · rw [if_neg c2, bE_r]
      exact G_hd69 hG q1 A1 (by omega)
  · rw [tkE_n c1, bE_l]; exact wpo_some.mpr ⟨rfl, q1⟩
/-- what reading a module leaves -/
def MP (L : Lx) (X : List Int) (B BT : Nat) (g : Ft ⊕ (Int × Mt)) (r : Int × vS) : Prop := match g with
  | .inl e => r.1 = 0 ∧ FC L X B BT e 0 r.2
  | .inr q => r.1 = 1 ∧ CG L X B BT r.2 L.length (q.2 11) ∧ AH r.2 (fst8 q.2) (lnM q.2 9) (lnM q.2 8 - lnM q.2 9) q.1
/-- each lexeme has a kind -/
def LKd (L : Lx) : Prop := ∀ k : Int, 0 ≤ k → k < L.length → kdL L k ≠ -1
theorem G_read (hG : LG L X BT) (hK : LKd L) (h : LxI s X B) (hL : lexs s = L) (n1 : gN s 11 % 9 = 0) (n2 : 576 ≤ gN s 11) (n3 : gN s 11 ≤ BT) (n4 : BT ≤ 10000000) : wpo (f_X5_read s) (MP L X B BT (gModule L X)) := by
  have l0 := hG.1
  unfold f_X5_read f_X4_clear
  simp only [stp_eq, bdv_eq]
  generalize hs : sI (sI (sI (sI (sI (sI (sI (sI (sR s 12 0 5) 10 1 0) 10 2 (-1)) 10 3 0) 10 4 0) 10 5 0) 12 2 0) 12 3 0) 12 4 0 = t
  have hf : Fr [12000, 10001, 10002, 10003, 10004, 10005, 12002, 12003, 12004] s t := by
    rw [← hs]
    exact Fr.wI (Fr.wI (Fr.wI (Fr.wI (Fr.wI (Fr.wI (Fr.wI (Fr.wI (Fr.wR Fr.rfl (by decide)) (by decide)) (by decide)) (by decide)) (by decide)) (by decide)) (by decide)) (by decide)) (by decide)
  have w0 : w32 0 = 0 := by decide
  have w1 : w32 (-1) = -1 := by decide
  have hA : AH t (-1) 0 0 0 := by
    rw [← hs]; unfold AH
    simp only [gI_sI, gI_sR, gI_sA, gI_sE, gI_sw2, gI_rs, gI_cpA, gI_gh1, gL_sI, gL_sR, gL_sA, gL_sE, gL_sw2, gL_rs, gL_cpA, gR_sI, gR_sR, gR_sA, gR_sE, gR_sw2, gR_rs, gR_cpA, gN_sI, gN_sR, gN_gh1, gN_sA, gN_sE, gN_cpA, gN_sw2, gN_rs, gE_gC, gB_gC, gZ_gC, gEL_gC, gC_sI, gC_sR, gC_gh1, gC_sA, gC_sE, gC_cpA, gC_sw2, gC_rs, Nat.reduceEqDiff, Nat.reduceAdd, Nat.reduceLT, Nat.reduceLeDiff, Nat.reduceBEq, reduceIte, and_self, and_true, true_and, and_false, false_and, if_true, if_false, Nat.reduceMul, Int.reduceEq, Int.reduceLT, Int.reduceLE, Int.reduceNeg, Int.reduceAdd, Int.reduceMul, Int.reduceSub, w0, w1]
  have hC : CG L X B BT t 0 [] := by
    have n11 : gN t 11 = gN s 11 := hf.rN (by decide) (by decide)
    refine ⟨⟨?_, ?_, by rw [← hs]; rfl, by rw [← hs]; simp only [gI_sI, gI_sR, gI_sA, gI_sE, gI_sw2, gI_rs, gI_cpA, gI_gh1, gL_sI, gL_sR, gL_sA, gL_sE, gL_sw2, gL_rs, gL_cpA, gR_sI, gR_sR, gR_sA, gR_sE, gR_sw2, gR_rs, gR_cpA, gN_sI, gN_sR, gN_gh1, gN_sA, gN_sE, gN_cpA, gN_sw2, gN_rs, gE_gC, gB_gC, gZ_gC, gEL_gC, gC_sI, gC_sR, gC_gh1, gC_sA, gC_sE, gC_cpA, gC_sw2, gC_rs, Nat.reduceEqDiff, Nat.reduceAdd, Nat.reduceLT, Nat.reduceLeDiff, Nat.reduceBEq, reduceIte, and_self, and_true, true_and, and_false, false_and, if_true, if_false, Nat.reduceMul, Int.reduceEq, Int.reduceLT, Int.reduceLE, Int.reduceNeg, Int.reduceAdd, Int.reduceMul, Int.reduceSub, w0], by rw [← hs]; simp only [gI_sI, gI_sR, gI_sA, gI_sE, gI_sw2, gI_rs, gI_cpA, gI_gh1, gL_sI, gL_sR, gL_sA, gL_sE, gL_sw2, gL_rs, gL_cpA, gR_sI, gR_sR, gR_sA, gR_sE, gR_sw2, gR_rs, gR_cpA, gN_sI, gN_sR, gN_gh1, gN_sA, gN_sE, gN_cpA, gN_sw2, gN_rs, gE_gC, gB_gC, gZ_gC, gEL_gC, gC_sI, gC_sR, gC_gh1, gC_sA, gC_sE, gC_cpA, gC_sw2, gC_rs, Nat.reduceEqDiff, Nat.reduceAdd, Nat.reduceLT, Nat.reduceLeDiff, Nat.reduceBEq, reduceIte, and_self, and_true, true_and, and_false, false_and, if_true, if_false, Nat.reduceMul, Int.reduceEq, Int.reduceLT, Int.reduceLE, Int.reduceNeg, Int.reduceAdd, Int.reduceMul, Int.reduceSub, w0], by rw [← hs]; simp only [gI_sI, gI_sR, gI_sA, gI_sE, gI_sw2, gI_rs, gI_cpA, gI_gh1, gL_sI, gL_sR, gL_sA, gL_sE, gL_sw2, gL_rs, gL_cpA, gR_sI, gR_sR, gR_sA, gR_sE, gR_sw2, gR_rs, gR_cpA, gN_sI, gN_sR, gN_gh1, gN_sA, gN_sE, gN_cpA, gN_sw2, gN_rs, gE_gC, gB_gC, gZ_gC, gEL_gC, gC_sI, gC_sR, gC_gh1, gC_sA, gC_sE, gC_cpA, gC_sw2, gC_rs, Nat.reduceEqDiff, Nat.reduceAdd, Nat.reduceLT, Nat.reduceLeDiff, Nat.reduceBEq, reduceIte, and_self, and_true, true_and, and_false, false_and, if_true, if_false, Nat.reduceMul, Int.reduceEq, Int.reduceLT, Int.reduceLE, Int.reduceNeg, Int.reduceAdd, Int.reduceMul, Int.reduceSub, w0], by rw [← hs]; simp only [gI_sI, gI_sR, gI_sA, gI_sE, gI_sw2, gI_rs, gI_cpA, gI_gh1, gL_sI, gL_sR, gL_sA, gL_sE, gL_sw2, gL_rs, gL_cpA, gR_sI, gR_sR, gR_sA, gR_sE, gR_sw2, gR_rs, gR_cpA, gN_sI, gN_sR, gN_gh1, gN_sA, gN_sE, gN_cpA, gN_sw2, gN_rs, gE_gC, gB_gC, gZ_gC, gEL_gC, gC_sI, gC_sR, gC_gh1, gC_sA, gC_sE, gC_cpA, gC_sw2, gC_rs, Nat.reduceEqDiff, Nat.reduceAdd, Nat.reduceLT, Nat.reduceLeDiff, Nat.reduceBEq, reduceIte, and_self, and_true, true_and, and_false, false_and, if_true, if_false, Nat.reduceMul, Int.reduceEq, Int.reduceLT, Int.reduceLE, Int.reduceNeg, Int.reduceAdd, Int.reduceMul, Int.reduceSub, w0]; rfl, by decide, by decide, by decide, by simp, by rw [n11]; exact n1, by rw [n11]; exact n2, by rw [n11]; exact n3, n4, fun k c a b => by simp at b; omega⟩, fun r hr => absurd hr List.not_mem_nil, fun k a b => by simp at b; omega⟩
    · obtain ⟨⟨q1, q2, q3, q4⟩, q5, q6, q7⟩ := h
      refine ⟨⟨by rw [hf.rR (by decide)]; exact q1, q2.fr hf (by decide) (by decide) (by decide), by rw [bts_fr hf (by decide) (by decide) (by decide)]; exact q3, q4⟩, ?_, by rw [hf.rN (by decide) (by decide)]; exact q6, by rw [hf.rE (by decide) (by decide)]; exact q7⟩
      unfold LxW at *
      rw [hf.rN (a := 7) (by decide) (by decide), hf.rN (a := 8) (by decide) (by decide), hf.rN (a := 9) (by decide) (by decide), hf.rI (by decide)]
      exact q5
    · rw [← hL]; unfold lexs
      rw [hf.rE (a := 7) (by decide) (by decide), hf.rE (a := 8) (by decide) (by decide), hf.rE (a := 9) (by decide) (by decide), hf.rI (by decide)]
  clear hs hf
  unfold gModule
  refine wpo_bd.mpr (wpo.mono (G_head hG hC hA) ?_)
  rintro ⟨r, s1⟩ hp
  generalize gHead L X = g at hp ⊢
  cases g with
  | inl e =>
    obtain ⟨hr, q⟩ := hp
    simp only at hr; subst hr
    exact wp_t (wpo_some.mpr ⟨rfl, q⟩)
  | inr q =>
    obtain ⟨I, a⟩ := q
    obtain ⟨hr, q1, A1, ha⟩ := hp
    simp only at hr q1 A1 ha; subst hr
    refine wp_f ?_
    rw [bE_r]
    refine wpo_bd.mpr (wpo.mono (G_asg hG (M := fun _ => []) q1 ha rfl rfl rfl A1) ?_)
    rintro ⟨r, s2⟩ ⟨hp, hr⟩
    simp only
    generalize gAssigns L X (L.length + 1) (-1) (a, fun _ => []) = g at hp hr ⊢
    cases g with
    | inl e =>
      simp only [oR] at hr; subst hr
      exact wp_t (wpo_some.mpr ⟨rfl, hp⟩)
    | inr q =>
      obtain ⟨b, M⟩ := q
      obtain ⟨q2, hb, hn, A2, h8⟩ := hp
      simp only [oR] at hr q2 hb hn A2 h8; subst hr
      refine wp_f ?_
      rw [bE_r]
      refine A_take A2 q2 hG (by omega) (by omega) (by decide) (fun c1 al s1 q1 A1 => wp_f ?_) (fun c1 s1 q1 => wp_t ?_)
      · rw [tkE_y c1, bE_r]
        refine wpo_gd.mpr ⟨q1.1.2.2.1, ?_⟩
        have e : f_X3_size s1 = some ((L.length : Int), s1) := by unfold f_X3_size; rw [q1.1.len]
        rw [e, bd_eq, q1.at]
        by_cases d : b + 1 = (L.length : Int)
        · rw [if_pos d, if_pos (by unfold kdL; rw [if_neg (by omega)])]
          rw [d] at q1
          exact wpo_some.mpr ⟨rfl, q1, A1⟩
        · rw [if_neg d, if_neg (by
            have b0 := q1.a0
            have b9 := q1.1.2.2.2.2.2.2.2.2.1
            exact hK (b + 1) b0 (by omega))]
          refine wp_unfit q1 (by omega) (by omega) (fun s3 q3 => wp_t (wpo_some.mpr ⟨rfl, q3.mono (by omega)⟩))
      · rw [tkE_n c1, bE_l]; exact wpo_some.mpr ⟨rfl, q1.mono (by omega)⟩
end
