set_option maxRecDepth 100000 set_option linter.unusedVariables false set_option linter.unusedSimpArgs false
/-! PURE 48c: a number of the model is made out of digits -/
/-- only the contents of one array have changed -/
def Onl (a : Nat) (s t : vS) : Prop := (∀ o f, gI t o f = gI s o f) ∧ (∀ b, gN t b = gN s b) ∧ (∀ b, b < 199 → b ≠ a → gC t b = gC s b)
theorem Onl.rfl {a : Nat} {s : vS} : Onl a s s := ⟨fun _ _ => _root_.rfl, fun _ => _root_.rfl, fun _ _ _ => _root_.rfl⟩
theorem Onl.trans {a : Nat} {s t u : vS} (h : Onl a s t) (k : Onl a t u) : Onl a s u := ⟨fun o f => (k.1 o f).trans (h.1 o f), fun b => (k.2.1 b).trans (h.2.1 b), fun b hb hn => (k.2.2 b hb hn).trans (h.2.2 b hb hn)⟩
theorem Onl.sE (a : Nat) (s : vS) (j v : Int) : Onl a s (sE s a j v) := ⟨fun _ _ => _root_.rfl, fun b => gN_sE s a j v b, fun b _ hn => by funext i; rw [gC_sE, if_neg (fun z => hn z.1)]⟩
theorem Onl.E {a : Nat} {s t : vS} (h : Onl a s t) {b : Nat} (hb : b < 199) (hn : b ≠ a) : gE t b = gE s b := by funext i; rw [gE_gC, gE_gC, h.2.2 b hb hn]
theorem Onl.Z {a : Nat} {s t : vS} (h : Onl a s t) {b : Nat} (hb : b < 199) (hn : b ≠ a) : gZ t b = gZ s b := by funext i; rw [gZ_gC, gZ_gC, h.2.2 b hb hn]
abbrev dg (s : vS) (k : Int) (j : Nat) : List Int := rowL j (fun i => gE s 152 (k + i))
theorem mk65 (x1 x2 x5 : Int) : ∀ (j n : Nat) (s : vS) (c k : Int), 0 ≤ c → c ≤ 9 → 0 ≤ k → k + j ≤ gN s 152 → gN s 152 ≤ 1000000 → j < n → (∀ i : Int, k ≤ i → i < k + j → 0 ≤ gE s 152 i ∧ gE s 152 i < 256) → ∃ c' t, l_X14_makeNumber_65 n x1 x2 (k + j) x5 c k s = some (c', t) ∧ 0 ≤ c' ∧ c' ≤ 9 ∧ Onl 152 s t ∧ (∀ i : Int, i < k → gE t 152 i = gE s 152 i) ∧ (∀ i : Int, k ≤ i → i < k + j → 0 ≤ gE t 152 i ∧ gE t 152 i < 256) ∧ lev 256 (dg t k j) + 256 ^ j * c' = 10 * lev 256 (dg s k j) + c := by
  intro j
  induction j with
  | zero =>
    intro n s c k c0 c1 k0 hk hm hn hd
    obtain ⟨n, rfl⟩ : ∃ m, n = m + 1 := ⟨n - 1, by omega⟩
    unfold l_X14_makeNumber_65
    rw [if_pos (by omega)]
    exact ⟨c, s, rfl, c0, c1, Onl.rfl, fun _ _ => rfl, hd, by simp [rowL_zero, lev]⟩
  | succ j ih =>
    intro n s c k c0 c1 k0 hk hm hn hd
    obtain ⟨n, rfl⟩ : ∃ m, n = m + 1 := ⟨n - 1, by omega⟩
    push_cast at hk
    have d0 := hd k (by omega) (by push_cast; omega)
    unfold l_X14_makeNumber_65
    rw [if_neg (by push_cast; omega), gd_pos ⟨k0, by omega⟩, vl_eq, gd_pos ⟨k0, by omega⟩, stp_eq, vl_eq, vl_eq, w32_id (x := 10 * gE s 152 k) ⟨by omega, by omega⟩, w32_id (x := 10 * gE s 152 k + c) ⟨by omega, by omega⟩, and32_255, shr32_div 8 ⟨by omega, by omega⟩ (by decide) (by decide), w32_id (x := k + 1) ⟨by omega, by omega⟩, show (2 : Int) ^ (8 : Int).toNat = 256 by decide]
    generalize hv : 10 * gE s 152 k + c = v at *
    generalize hs : sE s 152 k (v % 256) = s1
    have o1 : Onl 152 s s1 := by rw [← hs]; exact Onl.sE _ _ _ _
    have e1 : ∀ i, gE s1 152 i = if i = k then v % 256 else gE s 152 i := by
      intro i; rw [← hs, gE_sE]; simp only [true_and]; rw [w32_id ⟨by omega, by omega⟩]
    obtain ⟨c', t, r1, r2, r3, r4, r5, r6, r7⟩ := ih n s1 (v / 256) (k + 1) (by omega) (by omega) (by omega) (by rw [o1.2.1]; omega) (by rw [o1.2.1]; exact hm) (by omega) (fun i hi hi2 => by rw [e1, if_neg (by omega)]; exact hd i (by omega) (by push_cast; omega))
    rw [show k + ((j + 1 : Nat) : Int) = k + 1 + j by push_cast; omega]
    refine ⟨c', t, r1, r2, r3, o1.trans r4, fun i hi => by rw [r5 i (by omega), e1, if_neg (by omega)], fun i hi hi2 => ?_, ?_⟩
    · by_cases d : i = k
      · rw [r5 i (by omega), e1, if_pos d]; omega
      · exact r6 i (by omega) (by omega)
    · have ed : ∀ u : vS, dg u k (j + 1) = gE u 152 k :: dg u (k + 1) j := by
        intro u; unfold dg; rw [rowL_cons]; congr 1
        · simp
        · apply rowL_congr; intro i _; congr 1; push_cast; omega
      rw [ed t, ed s, lev, lev, Int.pow_succ]
      have es : dg s1 (k + 1) j = dg s (k + 1) j := by unfold dg; apply rowL_congr; intro i _; rw [e1, if_neg (by omega)]
      rw [es] at r7
      have ek : gE t 152 k = v % 256 := by rw [r5 k (by omega), e1, if_pos rfl]
      rw [ek]
      have h1 : v % 256 + 256 * (v / 256) = gE s 152 k * 10 + c := by omega
      have := grow_step h1 r7
      rw [Int.mul_comm 10] at this
      rw [Int.mul_comm 10]
      exact this
theorem dg_zero {s : vS} (j : Nat) : dg s 0 j = rowL j (fun i => gE s 152 i) := by unfold dg; apply rowL_congr; intro i _; rw [Int.zero_add]
/-- digits of a lexeme, one by one -/
theorem mk39 {T : List Int} {x1 b : Int} (x2 : Int) : ∀ (k n : Nat) (s : vS) (m : Nat) (a : Int), MxT s T → inb x1 (gN s 96) → gE s 96 x1 = b → 0 ≤ a → b ≤ T.length → a ≤ b → b - a = k → k < n → 1 ≤ m → m + k + 1 ≤ gN s 152 → gN s 152 ≤ 1000000 → (∀ i : Int, a ≤ i → i < b → cDg (cha T i)) → (∀ i : Int, 0 ≤ i → i < m → 0 ≤ gE s 152 i ∧ gE s 152 i < 256) → ∃ (m' : Nat) (t : vS), l_X14_makeNumber_39 n x1 x2 m a s = some ((m' : Int), t) ∧ Onl 152 s t ∧ m ≤ m' ∧ m' ≤ m + k ∧ (∀ i : Int, 0 ≤ i → i < m' → 0 ≤ gE t 152 i ∧ gE t 152 i < 256) ∧ lev 256 (dg t 0 m') = dvA (lev 256 (dg s 0 m)) (slc T a b) := by
  intro k
  induction k with
  | zero =>
    intro n s m a h hx hb a0 hT hab hk hn hm hg hg2 hd hr
    obtain ⟨n, rfl⟩ : ∃ m, n = m + 1 := ⟨n - 1, by omega⟩
    unfold l_X14_makeNumber_39
    rw [gd_pos hx, hb, if_pos (by omega)]
    exact ⟨m, s, rfl, Onl.rfl, Nat.le_refl _, by omega, hr, by rw [slc_nil (by omega)]; rfl⟩
  | succ k ih =>
    intro n s m a h hx hb a0 hT hab hk hn hm hg hg2 hd hr
    obtain ⟨n, rfl⟩ : ∃ m, n = m + 1 := ⟨n - 1, by omega⟩
    push_cast at hk
    have hTl := h.2.1
    have dga := hd a (by omega) (by omega)
    unfold l_X14_makeNumber_39
    rw [gd_pos hx, hb, if_neg (by omega), gd_pos ⟨a0, by rw [h.2.2.1]; omega⟩, vl_eq, h.2.2.2.1 a a0 (by omega), w32_id ⟨by omega, by omega⟩]
    obtain ⟨c', t, r1, r2, r3, r4, r5, r6, r7⟩ := mk65 x1 x2 a m FU s (cha T a - 48) 0 (by omega) (by omega) (by omega) (by omega) hg2 (by unfold FU; omega) (fun i hi hi2 => hr i hi (by omega))
    rw [Int.zero_add] at r1
    rw [r1, lq_1_eq]
    have MT : ∀ u : vS, Onl 152 s u → MxT u T ∧ inb x1 (gN u 96) ∧ gE u 96 x1 = b := by
      intro u o
      refine ⟨?_, by rw [o.2.1]; exact hx, by rw [o.E (by decide) (by decide)]; exact hb⟩
      obtain ⟨q1, q2, q3, q4, q5⟩ := h
      exact ⟨by rw [o.1]; exact q1, q2, by rw [o.2.1]; exact q3, by rw [o.E (by decide) (by decide)]; exact q4, q5⟩
    rw [slc_cons a0 (by omega) hT]
    have ev : dvA (lev 256 (dg s 0 m)) (cha T a :: slc T (a + 1) b) = dvA (10 * lev 256 (dg s 0 m) + (cha T a - 48)) (slc T (a + 1) b) := rfl
    rw [ev, ← r7]
    by_cases c : c' ≤ 0
    · rw [if_pos c, vl_eq, w32_id ⟨by omega, by omega⟩]
      have c0 : c' = 0 := by omega
      obtain ⟨q1, q2, q3⟩ := MT t r4
      obtain ⟨m', u, w1, w2, w3, w4, w5, w6⟩ := ih n t m (a + 1) q1 q2 q3 (by omega) hT (by omega) (by omega) (by omega) hm (by rw [r4.2.1]; omega) (by rw [r4.2.1]; exact hg2) (fun i hi hi2 => hd i (by omega) hi2) (fun i hi hi2 => r6 i hi (by omega))
      refine ⟨m', u, w1, r4.trans w2, w3, by omega, w5, ?_⟩
      rw [w6, c0, Int.mul_zero, Int.add_zero]
    · rw [if_neg c, gd_pos ⟨by omega, by rw [r4.2.1]; omega⟩, stp_eq, vl_eq, vl_eq, w32_id (x := (m : Int) + 1) ⟨by omega, by omega⟩, w32_id (x := a + 1) ⟨by omega, by omega⟩]
      generalize hs : sE t 152 m c' = t1
      have o1 : Onl 152 t t1 := by rw [← hs]; exact Onl.sE _ _ _ _
      have e1 : ∀ i, gE t1 152 i = if i = (m : Int) then c' else gE t 152 i := by
        intro i; rw [← hs, gE_sE]; simp only [true_and]; rw [w32_id ⟨by omega, by omega⟩]
      obtain ⟨q1, q2, q3⟩ := MT t1 (r4.trans o1)
      obtain ⟨m', u, w1, w2, w3, w4, w5, w6⟩ := ih n t1 (m + 1) (a + 1) q1 q2 q3 (by omega) hT (by omega) (by omega) (by omega) (by omega) (by rw [o1.2.1, r4.2.1]; omega) (by rw [o1.2.1, r4.2.1]; exact hg2) (fun i hi hi2 => hd i (by omega) hi2) (fun i hi hi2 => by
        rw [e1]
        by_cases d : i = (m : Int)
        · rw [if_pos d]; omega
        · rw [if_neg d]; exact r6 i hi (by push_cast at hi2; omega))
      push_cast at w1
      refine ⟨m', u, w1, (r4.trans o1).trans w2, by omega, by omega, w5, ?_⟩
      rw [w6]
      congr 1
      rw [show dg t1 0 (m + 1) = dg t 0 m ++ [c'] by
        unfold dg; rw [rowL_succ]; congr 1
        · apply rowL_congr; intro i hi; rw [e1, if_neg (by omega)]
        · rw [e1, if_pos (by omega)], lev_app]
      unfold dg
      rw [rowL_len]
      simp [lev]
/-- the digits of what is below 0 -/
theorem mk157 {v : Int} {m : Nat} : ∀ (j n : Nat) (s : vS) (k : Nat), k + j = m → j < n → m ≤ gN s 152 → gN s 152 ≤ 1000000 → (∀ i : Nat, k ≤ i → i < m → gE s 152 i = byt v i) → (∀ i : Nat, i < k → gE s 152 i = byt (-v) i) → ∃ t, l_X14_makeNumber_157 n m (if v % 256 ^ k = 0 then 1 else 0) k s = some t ∧ Onl 152 s t ∧ (∀ i : Nat, i < m → gE t 152 i = byt (-v) i) := by
  intro j
  induction j with
  | zero =>
    intro n s k hk hn hm hm2 h1 h2
    obtain ⟨n, rfl⟩ : ∃ m, n = m + 1 := ⟨n - 1, by omega⟩
    unfold l_X14_makeNumber_157
    rw [if_pos (by omega)]
    exact ⟨s, rfl, Onl.rfl, fun i hi => h2 i (by omega)⟩
  | succ j ih =>
    intro n s k hk hn hm hm2 h1 h2
    obtain ⟨n, rfl⟩ : ∃ m, n = m + 1 := ⟨n - 1, by omega⟩
    have bn := byt_neg v k
    have bg := byt_rg v k
    unfold l_X14_makeNumber_157
    rw [if_neg (by omega), gd_pos ⟨by omega, by omega⟩, vl_eq, gd_pos ⟨by omega, by omega⟩, stp_eq, vl_eq, vl_eq, h1 k (by omega) (by omega)]
    have hc : (if v % 256 ^ k = 0 then (1 : Int) else 0) = 0 ∨ (if v % 256 ^ k = 0 then (1 : Int) else 0) = 1 := by split <;> simp
    generalize (if v % 256 ^ k = 0 then (1 : Int) else 0) = c at *
    rw [w32_id (x := 255 - byt v k) ⟨by omega, by omega⟩, w32_id (x := 255 - byt v k + c) ⟨by omega, by omega⟩, and32_255, shr32_div 8 ⟨by omega, by omega⟩ (by decide) (by decide), w32_id (x := (k : Int) + 1) ⟨by omega, by omega⟩, show (2 : Int) ^ (8 : Int).toNat = 256 by decide, bn.2, ← bn.1]
    generalize hs : sE s 152 k (byt (-v) k) = s1
    have o1 : Onl 152 s s1 := by rw [← hs]; exact Onl.sE _ _ _ _
    have bg2 := byt_rg (-v) k
    have e1 : ∀ i, gE s1 152 i = if i = (k : Int) then byt (-v) k else gE s 152 i := by
      intro i; rw [← hs, gE_sE]; simp only [true_and]; rw [w32_id ⟨by omega, by omega⟩]
    obtain ⟨t, r1, r2, r3⟩ := ih n s1 (k + 1) (by omega) (by omega) (by rw [o1.2.1]; exact hm) (by rw [o1.2.1]; exact hm2) (fun i hi hi2 => by rw [e1, if_neg (by omega)]; exact h1 i (by omega) hi2) (fun i hi => by
      rw [e1]
      by_cases d : i = k
      · rw [if_pos (by omega), d]
      · rw [if_neg (by omega)]; exact h2 i (by omega))
    push_cast at r1
    exact ⟨t, r1, o1.trans r2, r3⟩
/-- digits go behind the bytes, the highest first -/
theorem mk224 {z : Int} (x5 : Int) : ∀ (k n : Nat) (s : vS), k < n → k ≤ gN s 152 → gN s 152 ≤ 1000000 → 0 ≤ gI s 87 85 → gI s 87 85 + k ≤ gN s 149 → gN s 149 ≤ 8000000 → (∀ i : Nat, i < k → gE s 152 i = byt z i) → ∃ t, l_X14_makeNumber_224 n x5 ((k : Int) - 1) s = some t ∧ gI t 87 85 = gI s 87 85 + k ∧ (∀ o f, 1000 * o + f ≠ 87085 → gI t o f = gI s o f) ∧ (∀ b, gN t b = gN s b) ∧ (∀ b, b < 199 → b ≠ 149 → gC t b = gC s b) ∧ (∀ i : Int, i < gI s 87 85 → gE t 149 i = gE s 149 i) ∧ mby t (gI s 87 85) (gI s 87 85 + k) = be k z := by
  intro k
  induction k with
  | zero =>
    intro n s hn h1 h2 h3 h4 h5 hd
    obtain ⟨n, rfl⟩ : ∃ m, n = m + 1 := ⟨n - 1, by omega⟩
    unfold l_X14_makeNumber_224
    rw [if_pos (by omega)]
    exact ⟨s, rfl, by simp, fun _ _ _ => rfl, fun _ => rfl, fun _ _ _ => rfl, fun _ _ => rfl, by unfold mby be; simp [rowL]⟩
  | succ k ih =>
    intro n s hn h1 h2 h3 h4 h5 hd
    obtain ⟨n, rfl⟩ : ∃ m, n = m + 1 := ⟨n - 1, by omega⟩
    push_cast at h4
    have bg := byt_rg z k
    unfold l_X14_makeNumber_224
    rw [show ((k + 1 : Nat) : Int) - 1 = (k : Int) by omega, if_neg (by omega), gd_pos ⟨by omega, by omega⟩, gd_pos ⟨h3, by omega⟩, stp_eq, stp_eq, vl_eq, hd k (by omega), show (k : Int) + -1 = (k : Int) - 1 by omega, w32_id (x := (k : Int) - 1) ⟨by omega, by omega⟩]
    generalize hs : sI (sE s 149 (gI s 87 85) (byt z k)) 87 85 (w32 (gI (sE s 149 (gI s 87 85) (byt z k)) 87 85 + 1)) = s1
    have i5 : gI s1 87 85 = gI s 87 85 + 1 := by rw [← hs]; simp only [gI_sI, gI_sR, gI_sA, gI_sE, gI_sw2, gI_rs, gI_cpA, gI_gh1, gL_sI, gL_sR, gL_sA, gL_sE, gL_sw2, gL_rs, gL_cpA, gR_sI, gR_sR, gR_sA, gR_sE, gR_sw2, gR_rs, gR_cpA, gN_sI, gN_sR, gN_gh1, gN_sA, gN_sE, gN_cpA, gN_sw2, gN_rs, gE_gC, gB_gC, gZ_gC, gEL_gC, gC_sI, gC_sR, gC_gh1, gC_sA, gC_sE, gC_cpA, gC_sw2, gC_rs, Nat.reduceEqDiff, Nat.reduceAdd, Nat.reduceLT, Nat.reduceLeDiff, Nat.reduceBEq, reduceIte, and_self, and_true, true_and, and_false, false_and, if_true, if_false, Nat.reduceMul, Int.reduceEq, Int.reduceLT, Int.reduceLE, Int.reduceNeg, Int.reduceAdd, Int.reduceMul, Int.reduceSub, w32_w32]; exact w32_id ⟨by omega, by omega⟩
    have io : ∀ o f, 1000 * o + f ≠ 87085 → gI s1 o f = gI s o f := by
      intro o f hne; rw [← hs, gI_sI, if_neg (fun q => hne (by rw [q.1, q.2]))]; rfl
    have nn : ∀ b, gN s1 b = gN s b := by intro b; rw [← hs]; simp only [gI_sI, gI_sR, gI_sA, gI_sE, gI_sw2, gI_rs, gI_cpA, gI_gh1, gL_sI, gL_sR, gL_sA, gL_sE, gL_sw2, gL_rs, gL_cpA, gR_sI, gR_sR, gR_sA, gR_sE, gR_sw2, gR_rs, gR_cpA, gN_sI, gN_sR, gN_gh1, gN_sA, gN_sE, gN_cpA, gN_sw2, gN_rs, gE_gC, gB_gC, gZ_gC, gEL_gC, gC_sI, gC_sR, gC_gh1, gC_sA, gC_sE, gC_cpA, gC_sw2, gC_rs]
    have cc : ∀ b, b < 199 → b ≠ 149 → gC s1 b = gC s b := by intro b _ hb; funext i; rw [← hs, gC_sI, gC_sE, if_neg (fun q => hb q.1)]
    have e9 : ∀ i, gE s1 149 i = if i = gI s 87 85 then byt z k else gE s 149 i := by
      intro i; rw [← hs, gE_sI, gE_sE]; simp only [true_and]; rw [w32_id ⟨by omega, by omega⟩]
    have e2 : gE s1 152 = gE s 152 := by funext i; rw [gE_gC, gE_gC, cc 152 (by decide) (by decide)]
    obtain ⟨t, r1, r2, r3, r4, r5, r6, r7⟩ := ih n s1 (by omega) (by rw [nn]; omega) (by rw [nn]; exact h2) (by omega) (by rw [nn]; omega) (by rw [nn]; exact h5) (fun i hi => by rw [e2]; exact hd i (by omega))
    refine ⟨t, r1, by push_cast; omega, fun o f hne => by rw [r3 o f hne, io o f hne], fun b => by rw [r4, nn], fun b hb hn2 => by rw [r5 b hb hn2, cc b hb hn2], fun i hi => by rw [r6 i (by omega), e9, if_neg (by omega)], ?_⟩
    rw [mby_cons (by push_cast; omega), be_cons]
    congr 1
    · rw [r6 _ (by omega), e9, if_pos rfl]
    · rw [i5] at r7
      rw [show gI s 87 85 + ((k + 1 : Nat) : Int) = gI s 87 85 + 1 + k by push_cast; omega]
      exact r7
