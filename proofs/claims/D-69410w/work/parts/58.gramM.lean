set_option maxRecDepth 100000 set_option linter.unusedVariables false set_option linter.unusedSimpArgs false
/-! PURE 58: the model's grammar: ranges -/
section
variable {L : Lx} {X : List Int} {ln : Nat → Nat} {s s' : vS} {a : Int} {M M' : Mt} {P : List (Nat × Int)} {α : Type} {Q : α → Prop} {e : Ft}
theorem m_wi (hH : LH L X) {c k0 : Nat} {k : vS → Option α} (h : VMd L X ln s a M P) (hc : c < 10) (e : k0 = cnt c) (r : List Int) (hr : ∀ A, isT A = true → cOf A = c → r.getD (jOf A) 0 = -7 ∨ (A, r.getD (jOf A) 0) ∈ P) (hk : CB (lnM (apM M c r)) a 1) (hl : wd c ≤ r.length ∧ (c = 4 → r.getD 4 0 = -1) ∧ (c = 0 → r.getD 10 0 = -1)) (h1 : ∀ s', VMd L X ln s' a (apM M c r) (P.filter (fun x => cOf x.1 != c)) → wpo (k s') Q) : wpo (stp (sI s 87 k0 (w32 (gI s 87 k0 + 1))) k) Q := by
  subst e
  rw [stp_eq]
  have k1 := hk.ge hc
  have hL := hH.2.1
  have al := h.al
  rw [lnM_ap, if_pos rfl] at k1
  refine h1 _ (h.wi hH hc hr hk hl ?_)
  rw [h.ct hc]
  exact w32_id ⟨by rcases wt_pos hc with z | z | z <;> rw [z] at k1 <;> omega, by rcases wt_pos hc with z | z | z <;> rw [z] at k1 <;> omega⟩
theorem m_inc {A : Nat} {i : Int} {k : vS → Option α} (h : VMd L X ln s a M P) (hA : isT A = true) (hb : isBl A = false) (hn : A ≠ 125 ∧ A ≠ 107) (i0 : 0 ≤ i) (i1 : i < lnM M (cOf A)) (c0 : 0 ≤ clM M (cOf A) i (jOf A)) (c1 : clM M (cOf A) i (jOf A) ≤ 100000) (h1 : ∀ s', VMd L X ln s' a (upM M (cOf A) i (jOf A) (clM M (cOf A) i (jOf A) + 1)) P → wpo (k s') Q) : wpo (stp (sE s A i (w32 (gE s A i + 1))) k) Q := by
  rw [stp_eq, h.rd hA hb i0 i1 (by omega), w32_id ⟨by omega, by omega⟩]
  exact h1 _ (h.wu hA (okv_rg hb ⟨by omega, by omega⟩) i0 i1 ⟨fun z => absurd z hn.1, fun z => absurd z hn.2⟩)
theorem gBound_m {L : Lx} {X : List Int} {a b m : Int} {M : Mt} (hb : (kz L a = 19 ∧ m = 1 ∧ b = a + 1) ∨ (kz L a ≠ 19 ∧ m = 0 ∧ b = a)) : ((kz L b = 3 ∨ (m = 0 ∧ (kz L b = 2 ∨ kz L b = 83 ∨ kz L b = 82))) → ∃ M', gBound L X (a, M) = .inr (b, m, b + 1, M') ∧ Sm M M') ∧ (¬(kz L b = 3 ∨ (m = 0 ∧ (kz L b = 2 ∨ kz L b = 83 ∨ kz L b = 82))) → gBound L X (a, M) = .inl (flt L X b)) := by
  unfold gBound tkE
  simp only [kd_0, kd_1, kd_2, kd_3, kd_4, kd_5, kd_10, kd_12, kd_15, kd_16, kd_17, kd_18, kd_19, kd_20, kd_21, kd_24, kd_25, kd_103, kd_105, kd_106, kd_108, kd_111, kd_116, kd_118, kd_120, kd_121, kd_123, kd_127, kd_130, kd_132, kd_133, kd_134, kd_139, kd_142, kd_143, kd_145, kd_147, kd_148, kd_149, kd_150, kd_155, kd_156, kd_159, kd_160, kd_161, kd_162, kd_165, kd_166, kd_170, kd_171, kd_172]
  rcases hb with ⟨q1, rfl, rfl⟩ | ⟨q1, rfl, rfl⟩
  · have n1 : ¬kz L a = 83 := by omega
    have n2 : ¬kz L a = 82 := by omega
    have n3 : ¬kz L a = 2 := by omega
    simp only [q1, Int.reduceEq, if_true, if_false, false_and, or_false]
    refine ⟨fun z => ?_, fun z => ?_⟩
    · rw [if_pos z]; exact ⟨_, rfl, (((Sm.rfl.nad _ _).node _ _ _).node _ _ _).node _ _ _⟩
    · rw [if_neg z]; rfl
  · simp only [q1, if_false, true_and, Int.reduceEq]
    rw [show b + 0 = b by omega]
    refine ⟨fun z => ?_, fun z => ?_⟩
    · by_cases c1 : kz L b = 83
      · rw [if_pos c1]; exact ⟨_, rfl, (Sm.rfl.nad _ _).node _ _ _⟩
      rw [if_neg c1]
      by_cases c2 : kz L b = 82
      · rw [if_pos c2]; exact ⟨_, rfl, (Sm.rfl.nad _ _).node _ _ _⟩
      rw [if_neg c2]
      by_cases c3 : kz L b = 2
      · rw [if_pos c3]; exact ⟨_, rfl, (Sm.rfl.nad _ _).node _ _ _⟩
      rw [if_neg c3, if_pos (by omega)]
      exact ⟨_, rfl, ((Sm.rfl.nad _ _).node _ _ _).node _ _ _⟩
    · rw [if_neg (by omega), if_neg (by omega), if_neg (by omega), if_neg (by omega)]; rfl
def OM (L : Lx) (X : List Int) (ln : Nat → Nat) (a : Int) (g : Ft ⊕ Pg) (s' : vS) : Prop := match g with
  | .inl e => FM L X ln e s'
  | .inr q => VMd L X ln s' q.1 q.2 [] ∧ a < q.1
theorem mF_ranges_l {l x2 : Int} {N : Nat} (h : FM L X ln e s) (hN : 1 ≤ N) : l_X14_rangesOf_2 N l x2 s = some s := by
  obtain ⟨N, rfl⟩ : ∃ m, N = m + 1 := ⟨N - 1, by omega⟩
  unfold l_X14_rangesOf_2
  rw [if_neg (by have := h.eq; omega)]
theorem mF_107 {l : Int} {N : Nat} (h : FM L X ln e s) (hN : 1 ≤ N) : j_X14_rangesOf_107 (l_X14_rangesOf_2 N) l s = some s := by
  unfold j_X14_rangesOf_107
  rw [if_neg (by have := h.eq; omega)]
  unfold j_X14_rangesOf_134
  have e1 : f_X14_eat 21 s = some (0, s) := by unfold f_X14_eat; rw [if_pos (by have := h.eq; omega)]
  rw [e1, bd_eq, mF_ranges_l h hN]
/-- behind a range -/
theorem M_107 (hH : LH L X) (hN : LN L ln) {l lnd b lo lm hi hm n : Int} {k N : Nat} {M3 : Mt} {r5 : List Int} (l0 : 0 ≤ l) (l1 : l < lnM M 4) (c0 : 0 ≤ clM M 4 l 3) (c1 : clM M 4 l 3 ≤ a) (hN1 : 1 ≤ N) (ha : 0 ≤ a)
    (ih : ∀ (s : vS) (b : Int) (M' : Mt), VMd L X ln s b M' [] → l < lnM M' 4 → 0 ≤ clM M' 4 l 3 → clM M' 4 l 3 ≤ b → a < b → 2 * lnM M' 5 ≤ b + 1 → wpo (l_X14_rangesOf_2 N l 1 s) (OM L X ln b (gRanges L X l lnd k n (b, M'))))
    (h : VMd L X ln s b M [(128, hi), (129, hm), (126, lo), (127, lm)]) (hb : a < b) (kb : 2 * lnM M 5 ≤ b) (hr5 : r5.take 4 = [lo, lm, hi, hm]) (hM3 : Sm M M3) :
    wpo (j_X14_rangesOf_107 (l_X14_rangesOf_2 N) l s) (OM L X ln a (if kdL L b = 24 then gRanges L X l lnd k n (b + 1, upM (apM M3 5 r5) 4 l 3 (clM M 4 l 3 + 1)) else .inr (b, upM (apM M3 5 r5) 4 l 3 (clM M 4 l 3 + 1)))) := by
  have hl := hH.2.1
  have al := h.al
  have kbb := h.kb
  unfold CB at kbb
  unfold j_X14_rangesOf_107
  rw [if_pos h.f0]
  refine m_wi hH h (c := 5) (by decide) rfl [lo, lm, hi, hm] ?_ ?_ ⟨Nat.le_refl 4, fun z => absurd z (by decide), fun z => absurd z (by decide)⟩ (fun s1 h1 => ?_)
  · intro A hA hc
    right
    have := isT_rg hA
    have : A = 126 ∨ A = 127 ∨ A = 128 ∨ A = 129 := by unfold cOf at hc; grind
    rcases this with rfl | rfl | rfl | rfl <;> simp [jOf, cOf, cid]
  · unfold CB; simp only [lnM_ap, Nat.reduceEqDiff, Nat.reduceAdd, Nat.reduceLT, Nat.reduceLeDiff, Nat.reduceBEq, reduceIte, and_self, and_true, true_and, and_false, false_and, if_true, if_false, Nat.reduceMul, Int.reduceEq, Int.reduceLT, Int.reduceLE, Int.reduceNeg, Int.reduceAdd, Int.reduceMul, Int.reduceSub]; omega
  · simp only [List.filter_cons, List.filter_nil, cOf, dropA, List.filter_cons, List.filter_nil, bne_iff_ne, ne_eq, Nat.reduceEqDiff, not_true_eq_false, not_false_eq_true, if_true, if_false, reduceIte, Bool.false_eq_true, Nat.reduceBNe, Nat.reduceEqDiff, Nat.reduceAdd, Nat.reduceLT, Nat.reduceLeDiff, Nat.reduceBEq, reduceIte, and_self, and_true, true_and, and_false, false_and, if_true, if_false, Nat.reduceMul, Int.reduceEq, Int.reduceLT, Int.reduceLE, Int.reduceNeg, Int.reduceAdd, Int.reduceMul, Int.reduceSub] at h1
    have e4 : lnM (apM M 5 [lo, lm, hi, hm]) 4 = lnM M 4 := by rw [lnM_ap, if_neg (by decide)]
    have ec : clM (apM M 5 [lo, lm, hi, hm]) 4 l 3 = clM M 4 l 3 := by rw [clM_ap l0, if_neg (fun z => absurd z.1 (by decide))]
    refine m_gdo hN h1 (by decide) l0 (by show l < lnM _ 4; omega) ?_
    refine m_gdo hN h1 (by decide) l0 (by show l < lnM _ 4; omega) ?_
    refine m_inc h1 (by decide) (by decide) (by decide) l0 (by show l < lnM _ 4; omega) (by show 0 ≤ clM _ 4 l 3; omega) (by show clM _ 4 l 3 ≤ _; omega) (fun s2 h2 => ?_)
    have e2 : VMd L X ln s2 b (upM (apM M3 5 r5) 4 l 3 (clM M 4 l 3 + 1)) [] := by
      have z : VMd L X ln s2 b (upM (apM M 5 [lo, lm, hi, hm]) 4 l 3 (clM (apM M 5 [lo, lm, hi, hm]) 4 l 3 + 1)) [] := h2
      rw [ec] at z
      exact z.sm ((hM3.ap (fun _ => by show [lo, lm, hi, hm] = _; exact hr5.symm)).up)
    unfold j_X14_rangesOf_134
    refine m_eat hH e2 (by decide) (by decide) (fun k1 k2 s3 h3 => ?_) (fun k1 => ?_)
    · rw [if_pos (show kdL L b = 24 by rw [kd_24]; exact k1)]
      have e5 : lnM (upM (apM M3 5 r5) 4 l 3 (clM M 4 l 3 + 1)) 4 = lnM M 4 := by rw [lnM_up, lnM_ap, if_neg (by decide), hM3.lnE (by decide)]
      have i1 : l < lnM (apM M3 5 r5) 4 := by rw [lnM_ap, if_neg (by decide), hM3.lnE (by decide)]; exact l1
      have e6 : clM (upM (apM M3 5 r5) 4 l 3 (clM M 4 l 3 + 1)) 4 l 3 = clM M 4 l 3 + 1 := by
        have rl : RL (apM M3 5 r5) := by
          have z := h1.tb.2.2
          have z2 : Sm (apM M 5 [lo, lm, hi, hm]) (apM M3 5 r5) := hM3.ap (fun _ => by show [lo, lm, hi, hm] = _; exact hr5.symm)
          exact z2.rl z
        have jl : 3 < ((apM M3 5 r5 4).getD l.toNat []).length := rl.jlt (A := 124) (by decide) l0 i1
        rw [clM_up l0 i1 jl l0, if_pos ⟨rfl, rfl, rfl⟩]
      refine wpo.mono (ih s3 (b + 1) _ h3 (by omega) (by omega) (by omega) (by omega) (by rw [lnM_up, lnM_ap, if_pos rfl, hM3.lnE (by decide)]; omega)) (fun s4 h4 => ?_)
      generalize gRanges L X l lnd k n (b + 1, upM (apM M3 5 r5) 4 l 3 (clM M 4 l 3 + 1)) = g at h4 ⊢
      cases g with
      | inl e => exact h4
      | inr q => exact ⟨h4.1, by have := h4.2; omega⟩
    · rw [if_neg (show ¬kdL L b = 24 by rw [kd_24]; exact k1)]
      obtain ⟨N, rfl⟩ : ∃ m, N = m + 1 := ⟨N - 1, by omega⟩
      unfold l_X14_rangesOf_2
      rw [if_pos e2.f0, if_pos rfl]
      exact wpo_some.mpr ⟨e2, hb⟩
theorem M_ranges_l (hH : LH L X) (hN : LN L ln) {l lnd : Int} (l0 : 0 ≤ l) : ∀ (k N : Nat) (s : vS) (a last : Int) (M : Mt), VMd L X ln s a M [] → l < lnM M 4 → 0 ≤ clM M 4 l 3 → clM M 4 l 3 ≤ a → 2 * lnM M 5 ≤ a + 1 → L.length - a < k → k < N → wpo (l_X14_rangesOf_2 N l 1 s) (OM L X ln a (gRanges L X l lnd k last (a, M))) := by
  have hl := hH.2.1
  intro k
  induction k with
  | zero => intro N s a last M h h1 h2 h3 h4 h5; have := h.al; omega
  | succ k ih =>
    intro N s a last M h h1 h2 h3 h4 h5 h6
    obtain ⟨N, rfl⟩ : ∃ m, N = m + 1 := ⟨N - 1, by omega⟩
    have a0 := h.a0
    have al := h.al
    have kb := h.kb
    unfold CB at kb
    unfold l_X14_rangesOf_2
    rw [if_pos h.f0, if_neg (by decide)]
    refine m_ct (c := 5) h (by decide) rfl ?_
    have kN : k < N := by omega
    have IHb : ∀ b : Int, a < b → (L.length : Int) - b < k := fun b hb => by omega
    -- the first bound
    have J : ∀ (s : vS) (b m : Int), VMd L X ln s b M [] → ((kz L a = 19 ∧ m = 1 ∧ b = a + 1) ∨ (kz L a ≠ 19 ∧ m = 0 ∧ b = a)) → wpo (gd (gN s 127 = gN s 127) <| gd (inb (lnM M 5) (gN s 127)) <| stp (sE s 127 (lnM M 5) m) fun s13 =>
        gd (inb (lnM M 5) (gN s13 127)) <|
        bd (f_X14_bound (gZ s13 127 (lnM M 5)) s13) fun r19 s16 =>
        gd (gN s16 126 = gN s13 126) <|
        gd (inb (lnM M 5) (gN s16 126)) <|
        stp (sE s16 126 (lnM M 5) r19) fun s23 =>
        gd (inb (lnM M 5) (gN s23 127)) <|
        gd (inb (lnM M 5) (gN s23 129)) <|
        stp (sE s23 129 (lnM M 5) (gZ s23 127 (lnM M 5))) fun s27 =>
        gd (inb (lnM M 5) (gN s27 126)) <|
        gd (inb (lnM M 5) (gN s27 128)) <|
        stp (sE s27 128 (lnM M 5) (gE s27 126 (lnM M 5))) fun s31 =>
        bd (f_X14_eat 9 s31) fun r36 s33 =>
        if r36 = 0 then
          j_X14_rangesOf_107 (l_X14_rangesOf_2 N) l s33
        else
          bd (f_X14_eat 19 s33) fun r42 s39 =>
          gd (gN s39 129 = gN s33 129) <|
          gd (inb (lnM M 5) (gN s39 129)) <|
          stp (sE s39 129 (lnM M 5) r42) fun s46 =>
          gd (inb (lnM M 5) (gN s46 129)) <|
          bd (f_X14_bound (gZ s46 129 (lnM M 5)) s46) fun r52 s49 =>
          gd (gN s49 128 = gN s46 128) <|
          gd (inb (lnM M 5) (gN s49 128)) <|
          stp (sE s49 128 (lnM M 5) r52) fun s56 =>
          j_X14_rangesOf_107 (l_X14_rangesOf_2 N) l s56) (OM L X ln a (gRanges L X l lnd (k + 1) last (a, M))) := by
      intro s b m h hb
      have hm : m = 0 ∨ m = 1 := by omega
      have gb := gBound_m (X := X) (M := chN (adN M 24 a) lnd 3 last (nN M)) hb
      have sm1 : Sm M (chN (adN M 24 a) lnd 3 last (nN M)) := (Sm.rfl.nad _ _).nch _ _ _ _
      unfold gRanges gRange
      simp only
      refine wpo_gd.mpr ⟨by trivial, m_gdn hN h (by decide) rfl (m_new hN h (by decide) rfl (okv_b (by decide) hm) ?_)⟩
      intro s1 q1
      simp only [dropA, List.filter_cons, List.filter_nil, bne_iff_ne, ne_eq, Nat.reduceEqDiff, not_true_eq_false, not_false_eq_true, if_true, if_false, reduceIte, Bool.false_eq_true, Nat.reduceBNe] at q1
      refine m_gdn hN q1 (by decide) rfl ?_
      rw [show gZ s1 127 (lnM M 5) = m from q1.rpz (A := 127) (by simp) (by decide)]
      refine m_bound hH q1 (fun cc bl s2 q2 => ?_) (fun cc s2 q2 => ?_)
      · obtain ⟨M2, e2, sm2⟩ := gb.1 cc
        rw [e2, bE_r]
        simp only
        refine m_gde q2 q1 (by decide) (m_gdn hN q2 (by decide) rfl (m_new hN q2 (by decide) rfl (okv_rg (by decide) ⟨by omega, by omega⟩) ?_))
        intro s3 q3
        simp only [dropA, List.filter_cons, List.filter_nil, bne_iff_ne, ne_eq, Nat.reduceEqDiff, not_true_eq_false, not_false_eq_true, if_true, if_false, reduceIte, Bool.false_eq_true, Nat.reduceBNe] at q3
        refine m_gdn hN q3 (by decide) rfl (m_gdn hN q3 (by decide) rfl ?_)
        rw [show gZ s3 127 (lnM M 5) = m from q3.rpz (A := 127) (by simp) (by decide)]
        refine m_new hN q3 (by decide) rfl (okv_b (by decide) hm) ?_
        intro s4 q4
        simp only [dropA, List.filter_cons, List.filter_nil, bne_iff_ne, ne_eq, Nat.reduceEqDiff, not_true_eq_false, not_false_eq_true, if_true, if_false, reduceIte, Bool.false_eq_true, Nat.reduceBNe] at q4
        refine m_gdn hN q4 (by decide) rfl (m_gdn hN q4 (by decide) rfl ?_)
        rw [show gE s4 126 (lnM M 5) = b from q4.rp (A := 126) (by simp) (by decide)]
        refine m_new hN q4 (by decide) rfl (okv_rg (by decide) ⟨by omega, by omega⟩) ?_
        intro s5 q5
        simp only [dropA, List.filter_cons, List.filter_nil, bne_iff_ne, ne_eq, Nat.reduceEqDiff, not_true_eq_false, not_false_eq_true, if_true, if_false, reduceIte, Bool.false_eq_true, Nat.reduceBNe] at q5
        have sm3 : Sm M (stN M2 (nN M) 3 (nN M + 1)) := (sm1.trans sm2).node _ _ _
        refine m_eat hH q5 (by decide) (by decide) (fun k1 k2 s6 q6 => ?_) (fun k1 => ?_)
        · refine wp_f ?_
          rw [if_pos (show kdL L (b + 1) = 12 by rw [kd_12]; exact k1)]
          -- the second bound
          have J2 : ∀ (s7 : vS) (d m2 : Int), VMd L X ln s7 d M [(128, b), (129, m), (126, b), (127, m)] → ((kz L (b + 1 + 1) = 19 ∧ m2 = 1 ∧ d = b + 1 + 1 + 1) ∨ (kz L (b + 1 + 1) ≠ 19 ∧ m2 = 0 ∧ d = b + 1 + 1)) → wpo (gd (inb (lnM M 5) (gN s7 129)) <|
              stp (sE s7 129 (lnM M 5) m2) fun s46 =>
              gd (inb (lnM M 5) (gN s46 129)) <|
              bd (f_X14_bound (gZ s46 129 (lnM M 5)) s46) fun r52 s49 =>
              gd (gN s49 128 = gN s46 128) <|
              gd (inb (lnM M 5) (gN s49 128)) <|
              stp (sE s49 128 (lnM M 5) r52) fun s56 =>
              j_X14_rangesOf_107 (l_X14_rangesOf_2 N) l s56) (OM L X ln a (bE (bE (gBound L X (b + 1 + 1, stN M2 (nN M) 3 (nN M + 1))) fun c => .inr (c.2.2.1, upM (apM (stN c.2.2.2 (nN M + 1) 8 (nN M + 1 + 1)) 5 [b, m, c.1, c.2.1, nN M, nN M + 1, nN M + 1 + 1]) 4 l 3 (clM M 4 l 3 + 1))) fun q => if kdL L q.1 = 24 then gRanges L X l lnd k (nN M) (q.1 + 1, q.2) else .inr q)) := by
            intro s7 d m2 q7 hd
            have hm2 : m2 = 0 ∨ m2 = 1 := by omega
            have gb2 := gBound_m (X := X) (M := stN M2 (nN M) 3 (nN M + 1)) hd
            refine m_gdn hN q7 (by decide) rfl (m_new hN q7 (by decide) rfl (okv_b (by decide) hm2) ?_)
            intro s8 q8
            simp only [dropA, List.filter_cons, List.filter_nil, bne_iff_ne, ne_eq, Nat.reduceEqDiff, not_true_eq_false, not_false_eq_true, if_true, if_false, reduceIte, Bool.false_eq_true, Nat.reduceBNe] at q8
            refine m_gdn hN q8 (by decide) rfl ?_
            rw [show gZ s8 129 (lnM M 5) = m2 from q8.rpz (A := 129) (by simp) (by decide)]
            refine m_bound hH q8 (fun cc2 dl s9 q9 => ?_) (fun cc2 s9 q9 => ?_)
            · obtain ⟨M4, e4, sm4⟩ := gb2.1 cc2
              rw [e4, bE_r, bE_r]
              refine m_gde q9 q8 (by decide) (m_gdn hN q9 (by decide) rfl (m_new hN q9 (by decide) rfl (okv_rg (by decide) ⟨by omega, by omega⟩) ?_))
              intro s10 q10
              simp only [dropA, List.filter_cons, List.filter_nil, bne_iff_ne, ne_eq, Nat.reduceEqDiff, not_true_eq_false, not_false_eq_true, if_true, if_false, reduceIte, Bool.false_eq_true, Nat.reduceBNe] at q10
              have q10' : VMd L X ln s10 (d + 1) M [(128, d), (129, m2), (126, b), (127, m)] := q10.weakP (by intro x hx; simp only [List.mem_cons, List.not_mem_nil, or_false] at hx ⊢; grind)
              exact M_107 hH hN (a := a) (b := d + 1) (lnd := lnd) (n := nN M) (M := M) (M3 := stN M4 (nN M + 1) 8 (nN M + 1 + 1)) (r5 := [b, m, d, m2, nN M, nN M + 1, nN M + 1 + 1]) l0 h1 h2 h3 (by omega) (by omega) (fun s b M' w1 w2 w3 w4 w5 w6 => ih N s b _ M' w1 w2 w3 w4 w6 (IHb b w5) kN) q10' (by omega) (by omega) rfl ((sm3.trans sm4).node _ _ _)
            · rw [gb2.2 cc2, bE_l, bE_l]
              repeat' (first | with_reducible refine wp_t ?_ | with_reducible refine wp_f ?_ | (with_reducible (show wpo (vl (gI _ 87 20) _) _); refine m_ct (c := 0) (by with_reducible assumption) (by decide) rfl ?_) | (with_reducible (show wpo (vl (gI _ 87 32) _) _); refine m_ct (c := 1) (by with_reducible assumption) (by decide) rfl ?_) | (with_reducible (show wpo (vl (gI _ 87 37) _) _); refine m_ct (c := 2) (by with_reducible assumption) (by decide) rfl ?_) | (with_reducible (show wpo (vl (gI _ 87 42) _) _); refine m_ct (c := 3) (by with_reducible assumption) (by decide) rfl ?_) | (with_reducible (show wpo (vl (gI _ 87 48) _) _); refine m_ct (c := 4) (by with_reducible assumption) (by decide) rfl ?_) | (with_reducible (show wpo (vl (gI _ 87 54) _) _); refine m_ct (c := 5) (by with_reducible assumption) (by decide) rfl ?_) | (with_reducible (show wpo (vl (gI _ 87 61) _) _); refine m_ct (c := 6) (by with_reducible assumption) (by decide) rfl ?_) | (with_reducible (show wpo (vl (gI _ 87 69) _) _); refine m_ct (c := 7) (by with_reducible assumption) (by decide) rfl ?_) | (with_reducible (show wpo (vl (gI _ 87 72) _) _); refine m_ct (c := 8) (by with_reducible assumption) (by decide) rfl ?_) | (with_reducible (show wpo (vl (gI _ 87 76) _) _); refine m_ct (c := 9) (by with_reducible assumption) (by decide) rfl ?_) | (with_reducible (show wpo (vl (gI _ 87 19) _) _); refine m_vat (by with_reducible assumption) ?_) | (with_reducible (show wpo (if gI _ 87 8 = 0 then _ else _) _); first | refine m_if0 (by with_reducible assumption) ?_ | refine mF_if0 (by with_reducible assumption) ?_) | (with_reducible (show wpo (if gI _ 87 8 ≤ 0 then _ else _) _); first | refine m_ifl (by with_reducible assumption) ?_ | refine mF_ifl (by with_reducible assumption) ?_) | (with_reducible (show wpo (bd (f_X14_take _ _) _) _); first | refine mF_take (by with_reducible assumption) ?_ | refine m_take hH (by with_reducible assumption) (by decide) (by decide) (fun _ _ _ _ => ?_) (fun _ _ _ _ => ?_)) | (with_reducible (show wpo (bd (f_X14_eat _ _) _) _); first | refine mF_eat (by with_reducible assumption) ?_ | refine m_eat hH (by with_reducible assumption) (by decide) (by decide) (fun _ _ _ _ => ?_) (fun _ => ?_)) | (with_reducible (show wpo (bd (f_X14_is _ _) _) _); refine m_is (by with_reducible assumption) (fun _ => ?_) (fun _ => ?_)) | (with_reducible (show wpo (bdv (f_X14_misfit _ _) _) _); refine m_misfit hH (by with_reducible assumption) (fun _ _ _ => ?_)) | (with_reducible (show wpo (gd (gN _ _ = gN _ _) _) _); first | refine m_gde (by with_reducible assumption) (by with_reducible assumption) (by decide) ?_ | refine mF_gde (by with_reducible assumption) (VMd.bd (by with_reducible assumption)) (by decide) ?_ | refine mF_gde (by with_reducible assumption) (FM.bd (by with_reducible assumption)) (by decide) ?_) | (with_reducible (show wpo (gd (inb _ (gN _ _)) _) _); first | refine m_gdn hN (by with_reducible assumption) (by decide) (by first | rfl | (simp only [lnM_up, lnM_ap, lnM_st, lnM_ad, lnM_ch, Nat.reduceEqDiff, Nat.reduceAdd, Nat.reduceLT, Nat.reduceLeDiff, Nat.reduceBEq, reduceIte, and_self, and_true, true_and, and_false, false_and, if_true, if_false, Nat.reduceMul, Int.reduceEq, Int.reduceLT, Int.reduceLE, Int.reduceNeg, Int.reduceAdd, Int.reduceMul, Int.reduceSub]; first | rfl | omega)) ?_ | refine m_gdo hN (by with_reducible assumption) (by decide) (by omega) (by (first | assumption | (simp only [cOf, lnM_up, lnM_ap, lnM_st, lnM_ad, lnM_ch, Nat.reduceEqDiff, Nat.reduceAdd, Nat.reduceLT, Nat.reduceLeDiff, Nat.reduceBEq, reduceIte, and_self, and_true, true_and, and_false, false_and, if_true, if_false, Nat.reduceMul, Int.reduceEq, Int.reduceLT, Int.reduceLE, Int.reduceNeg, Int.reduceAdd, Int.reduceMul, Int.reduceSub]; omega))) ?_ | refine mF_gd hN (by with_reducible assumption) (by decide) (by (first | omega | (simp only [cOf, wt, List.getD_cons_zero, List.getD_cons_succ, lnM_up, lnM_ap, lnM_st, lnM_ad, lnM_ch, Nat.reduceEqDiff, Nat.reduceAdd, Nat.reduceLT, Nat.reduceLeDiff, Nat.reduceBEq, reduceIte, and_self, and_true, true_and, and_false, false_and, if_true, if_false, Nat.reduceMul, Int.reduceEq, Int.reduceLT, Int.reduceLE, Int.reduceNeg, Int.reduceAdd, Int.reduceMul, Int.reduceSub]; omega))) (by (first | omega | (simp only [cOf, wt, List.getD_cons_zero, List.getD_cons_succ, lnM_up, lnM_ap, lnM_st, lnM_ad, lnM_ch, Nat.reduceEqDiff, Nat.reduceAdd, Nat.reduceLT, Nat.reduceLeDiff, Nat.reduceBEq, reduceIte, and_self, and_true, true_and, and_false, false_and, if_true, if_false, Nat.reduceMul, Int.reduceEq, Int.reduceLT, Int.reduceLE, Int.reduceNeg, Int.reduceAdd, Int.reduceMul, Int.reduceSub]; omega))) ?_) | (with_reducible (show wpo (stp (sE _ _ _ _) _) _); first | refine mF_w (by with_reducible assumption) (by decide) (fun _ _ => ?_) | (refine m_new hN (by with_reducible assumption) (by decide) (by first | rfl | (simp only [lnM_up, lnM_ap, lnM_st, lnM_ad, lnM_ch, Nat.reduceEqDiff, Nat.reduceAdd, Nat.reduceLT, Nat.reduceLeDiff, Nat.reduceBEq, reduceIte, and_self, and_true, true_and, and_false, false_and, if_true, if_false, Nat.reduceMul, Int.reduceEq, Int.reduceLT, Int.reduceLE, Int.reduceNeg, Int.reduceAdd, Int.reduceMul, Int.reduceSub]; first | rfl | omega)) (by (first | exact okv_rg (by decide) (by first | exact rgl rfl | (unfold rg; omega) | (unfold rg; simp only [lnM_up, lnM_ap, lnM_st, lnM_ad, lnM_ch, Nat.reduceEqDiff, Nat.reduceAdd, Nat.reduceLT, Nat.reduceLeDiff, Nat.reduceBEq, reduceIte, and_self, and_true, true_and, and_false, false_and, if_true, if_false, Nat.reduceMul, Int.reduceEq, Int.reduceLT, Int.reduceLE, Int.reduceNeg, Int.reduceAdd, Int.reduceMul, Int.reduceSub]; omega)) | exact okv_b (by decide) (by first | exact Or.inl rfl | exact Or.inr rfl | assumption | omega))) ?_; intro _ hv; simp only [dropA, List.filter_cons, List.filter_nil, bne_iff_ne, ne_eq, Nat.reduceEqDiff, not_true_eq_false, not_false_eq_true, if_true, if_false, reduceIte, Bool.false_eq_true, Nat.reduceBNe] at hv)) | (with_reducible (show wpo (stp (sI _ 87 19 (w32 (gI _ 87 19 + 1))) _) _); refine m_adv hH (by with_reducible assumption) (by assumption) (by decide) (by decide) (fun _ _ _ => ?_)) | ((with_reducible refine wpo_ite.mpr ⟨fun _ => ?_, fun _ => ?_⟩) <;> try (exfalso; omega)))
              rw [mF_107 (by assumption) (by omega)]
              exact wpo_some.mpr (by assumption)
          refine m_eat hH q6 (by decide) (by decide) (fun c1 c2 s7 q7 => ?_) (fun c1 => ?_)
          · exact m_gde q7 q6 (by decide) (J2 s7 _ 1 q7 (Or.inl ⟨c1, rfl, rfl⟩))
          · exact m_gde q6 q6 (by decide) (J2 s6 _ 0 q6 (Or.inr ⟨c1, rfl, rfl⟩))
        · refine wp_t ?_
          rw [if_neg (show ¬kdL L (b + 1) = 12 by rw [kd_12]; exact k1), bE_r]
          exact M_107 hH hN (a := a) (lnd := lnd) (n := nN M) (M := M) (M3 := stN M2 (nN M) 3 (nN M + 1)) (r5 := [b, m, b, m, nN M, nN M + 1, -1]) l0 h1 h2 h3 (by omega) (by omega) (fun s b M' w1 w2 w3 w4 w5 w6 => ih N s b _ M' w1 w2 w3 w4 w6 (IHb b w5) kN) q5 (by omega) (by omega) rfl sm3
      · rw [gb.2 cc, bE_l, bE_l]
        repeat' (first | with_reducible refine wp_t ?_ | with_reducible refine wp_f ?_ | (with_reducible (show wpo (vl (gI _ 87 20) _) _); refine m_ct (c := 0) (by with_reducible assumption) (by decide) rfl ?_) | (with_reducible (show wpo (vl (gI _ 87 32) _) _); refine m_ct (c := 1) (by with_reducible assumption) (by decide) rfl ?_) | (with_reducible (show wpo (vl (gI _ 87 37) _) _); refine m_ct (c := 2) (by with_reducible assumption) (by decide) rfl ?_) | (with_reducible (show wpo (vl (gI _ 87 42) _) _); refine m_ct (c := 3) (by with_reducible assumption) (by decide) rfl ?_) | (with_reducible (show wpo (vl (gI _ 87 48) _) _); refine m_ct (c := 4) (by with_reducible assumption) (by decide) rfl ?_) | (with_reducible (show wpo (vl (gI _ 87 54) _) _); refine m_ct (c := 5) (by with_reducible assumption) (by decide) rfl ?_) | (with_reducible (show wpo (vl (gI _ 87 61) _) _); refine m_ct (c := 6) (by with_reducible assumption) (by decide) rfl ?_) | (with_reducible (show wpo (vl (gI _ 87 69) _) _); refine m_ct (c := 7) (by with_reducible assumption) (by decide) rfl ?_) | (with_reducible (show wpo (vl (gI _ 87 72) _) _); refine m_ct (c := 8) (by with_reducible assumption) (by decide) rfl ?_) | (with_reducible (show wpo (vl (gI _ 87 76) _) _); refine m_ct (c := 9) (by with_reducible assumption) (by decide) rfl ?_) | (with_reducible (show wpo (vl (gI _ 87 19) _) _); refine m_vat (by with_reducible assumption) ?_) | (with_reducible (show wpo (if gI _ 87 8 = 0 then _ else _) _); first | refine m_if0 (by with_reducible assumption) ?_ | refine mF_if0 (by with_reducible assumption) ?_) | (with_reducible (show wpo (if gI _ 87 8 ≤ 0 then _ else _) _); first | refine m_ifl (by with_reducible assumption) ?_ | refine mF_ifl (by with_reducible assumption) ?_) | (with_reducible (show wpo (bd (f_X14_take _ _) _) _); first | refine mF_take (by with_reducible assumption) ?_ | refine m_take hH (by with_reducible assumption) (by decide) (by decide) (fun _ _ _ _ => ?_) (fun _ _ _ _ => ?_)) | (with_reducible (show wpo (bd (f_X14_eat _ _) _) _); first | refine mF_eat (by with_reducible assumption) ?_ | refine m_eat hH (by with_reducible assumption) (by decide) (by decide) (fun _ _ _ _ => ?_) (fun _ => ?_)) | (with_reducible (show wpo (bd (f_X14_is _ _) _) _); refine m_is (by with_reducible assumption) (fun _ => ?_) (fun _ => ?_)) | (with_reducible (show wpo (bdv (f_X14_misfit _ _) _) _); refine m_misfit hH (by with_reducible assumption) (fun _ _ _ => ?_)) | (with_reducible (show wpo (gd (gN _ _ = gN _ _) _) _); first | refine m_gde (by with_reducible assumption) (by with_reducible assumption) (by decide) ?_ | refine mF_gde (by with_reducible assumption) (VMd.bd (by with_reducible assumption)) (by decide) ?_ | refine mF_gde (by with_reducible assumption) (FM.bd (by with_reducible assumption)) (by decide) ?_) | (with_reducible (show wpo (gd (inb _ (gN _ _)) _) _); first | refine m_gdn hN (by with_reducible assumption) (by decide) (by first | rfl | (simp only [lnM_up, lnM_ap, lnM_st, lnM_ad, lnM_ch, Nat.reduceEqDiff, Nat.reduceAdd, Nat.reduceLT, Nat.reduceLeDiff, Nat.reduceBEq, reduceIte, and_self, and_true, true_and, and_false, false_and, if_true, if_false, Nat.reduceMul, Int.reduceEq, Int.reduceLT, Int.reduceLE, Int.reduceNeg, Int.reduceAdd, Int.reduceMul, Int.reduceSub]; first | rfl | omega)) ?_ | refine m_gdo hN (by with_reducible assumption) (by decide) (by omega) (by (first | assumption | (simp only [cOf, lnM_up, lnM_ap, lnM_st, lnM_ad, lnM_ch, Nat.reduceEqDiff, Nat.reduceAdd, Nat.reduceLT, Nat.reduceLeDiff, Nat.reduceBEq, reduceIte, and_self, and_true, true_and, and_false, false_and, if_true, if_false, Nat.reduceMul, Int.reduceEq, Int.reduceLT, Int.reduceLE, Int.reduceNeg, Int.reduceAdd, Int.reduceMul, Int.reduceSub]; omega))) ?_ | refine mF_gd hN (by with_reducible assumption) (by decide) (by (first | omega | (simp only [cOf, wt, List.getD_cons_zero, List.getD_cons_succ, lnM_up, lnM_ap, lnM_st, lnM_ad, lnM_ch, Nat.reduceEqDiff, Nat.reduceAdd, Nat.reduceLT, Nat.reduceLeDiff, Nat.reduceBEq, reduceIte, and_self, and_true, true_and, and_false, false_and, if_true, if_false, Nat.reduceMul, Int.reduceEq, Int.reduceLT, Int.reduceLE, Int.reduceNeg, Int.reduceAdd, Int.reduceMul, Int.reduceSub]; omega))) (by (first | omega | (simp only [cOf, wt, List.getD_cons_zero, List.getD_cons_succ, lnM_up, lnM_ap, lnM_st, lnM_ad, lnM_ch, Nat.reduceEqDiff, Nat.reduceAdd, Nat.reduceLT, Nat.reduceLeDiff, Nat.reduceBEq, reduceIte, and_self, and_true, true_and, and_false, false_and, if_true, if_false, Nat.reduceMul, Int.reduceEq, Int.reduceLT, Int.reduceLE, Int.reduceNeg, Int.reduceAdd, Int.reduceMul, Int.reduceSub]; omega))) ?_) | (with_reducible (show wpo (stp (sE _ _ _ _) _) _); first | refine mF_w (by with_reducible assumption) (by decide) (fun _ _ => ?_) | (refine m_new hN (by with_reducible assumption) (by decide) (by first | rfl | (simp only [lnM_up, lnM_ap, lnM_st, lnM_ad, lnM_ch, Nat.reduceEqDiff, Nat.reduceAdd, Nat.reduceLT, Nat.reduceLeDiff, Nat.reduceBEq, reduceIte, and_self, and_true, true_and, and_false, false_and, if_true, if_false, Nat.reduceMul, Int.reduceEq, Int.reduceLT, Int.reduceLE, Int.reduceNeg, Int.reduceAdd, Int.reduceMul, Int.reduceSub]; first | rfl | omega)) (by (first | exact okv_rg (by decide) (by first | exact rgl rfl | (unfold rg; omega) | (unfold rg; simp only [lnM_up, lnM_ap, lnM_st, lnM_ad, lnM_ch, Nat.reduceEqDiff, Nat.reduceAdd, Nat.reduceLT, Nat.reduceLeDiff, Nat.reduceBEq, reduceIte, and_self, and_true, true_and, and_false, false_and, if_true, if_false, Nat.reduceMul, Int.reduceEq, Int.reduceLT, Int.reduceLE, Int.reduceNeg, Int.reduceAdd, Int.reduceMul, Int.reduceSub]; omega)) | exact okv_b (by decide) (by first | exact Or.inl rfl | exact Or.inr rfl | assumption | omega))) ?_; intro _ hv; simp only [dropA, List.filter_cons, List.filter_nil, bne_iff_ne, ne_eq, Nat.reduceEqDiff, not_true_eq_false, not_false_eq_true, if_true, if_false, reduceIte, Bool.false_eq_true, Nat.reduceBNe] at hv)) | (with_reducible (show wpo (stp (sI _ 87 19 (w32 (gI _ 87 19 + 1))) _) _); refine m_adv hH (by with_reducible assumption) (by assumption) (by decide) (by decide) (fun _ _ _ => ?_)) | ((with_reducible refine wpo_ite.mpr ⟨fun _ => ?_, fun _ => ?_⟩) <;> try (exfalso; omega)))
        rw [mF_107 (by assumption) (by omega)]
        exact wpo_some.mpr (by assumption)
    refine m_eat hH h (by decide) (by decide) (fun c1 c2 s1 q1 => ?_) (fun c1 => ?_)
    · refine m_gde q1 h (by decide) ?_
      have := J s1 (a + 1) 1 q1 (Or.inl ⟨c1, rfl, rfl⟩)
      exact (wpo_gd.mp this).2
    · have := J s a 0 h (Or.inr ⟨c1, rfl, rfl⟩)
      exact this
end
