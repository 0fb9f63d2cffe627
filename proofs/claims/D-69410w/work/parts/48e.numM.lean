set_option maxRecDepth 100000 set_option linter.unusedVariables false set_option linter.unusedSimpArgs false
/-! PURE 48e: small numbers; numbers of lexemes -/
theorem orshl8 {x b : Int} (h0 : 0 ≤ x) (b0 : 0 ≤ b) (b1 : b < 256) (h : x * 256 + b ≤ 2147483647) : or32 (shl32 x 8) b = x * 256 + b := by
  have e : (2 : Int) ^ 8 = 256 := by decide
  rw [shl32_mul 8 (by decide) (by decide), show (8 : Int).toNat = 8 from rfl, w32_id ⟨by omega, by omega⟩, or32_add 8 h0 b0 (by omega) (by omega), e]
theorem asInt18 {s : vS} {V : List Int} (h : MN s V) {n : Nat} (hn : n < V.length) (hz : 0 ≤ V.getD n 0) {m : Nat} (hm : m ≤ 3) (hs : isSb m (V.getD n 0)) (hb : mnum s n = be (m + 1) (V.getD n 0)) : ∀ (k N : Nat), k ≤ m + 1 → k < N → l_X14_asInt_18 N n (V.getD n 0 / 256 ^ k) ((m : Int) + 1 - k) s = some (V.getD n 0, s) := by
  have rn := mby_rg h hn
  obtain ⟨a1, a2, a3, a4, a5, a6, a7, a8, a9, a10⟩ := h
  obtain ⟨n1, n2, n3, n4⟩ := a10 n hn
  have ln := mnum_len (s := s) (n := n) n2
  rw [hb, be_len] at ln
  push_cast at ln
  intro k
  induction k with
  | zero =>
    intro N hk hN
    obtain ⟨N, rfl⟩ : ∃ q, N = q + 1 := ⟨N - 1, by omega⟩
    unfold l_X14_asInt_18
    rw [gd_pos ⟨by omega, by omega⟩, if_pos (by omega), Int.pow_zero, Int.ediv_one]
  | succ k ih =>
    intro N hk hN
    obtain ⟨N, rfl⟩ : ∃ q, N = q + 1 := ⟨N - 1, by omega⟩
    push_cast
    have hp := pow_pos' 256 (by decide) k
    have ft := hs.1
    have q0 : 0 ≤ V.getD n 0 / 256 ^ (k + 1) := Int.ediv_nonneg hz (by have := pow_pos' 256 (by decide) (k + 1); omega)
    have eb : gE s 149 (gE s 147 n + ((m : Int) + 1 - (k + 1))) = byt (V.getD n 0) k := by
      have e1 : (mnum s n).getD (m - k) 0 = gE s 149 (gE s 147 n + ((m : Int) + 1 - (k + 1))) := by
        unfold mnum mby; rw [rowL_getD _ _ (by omega)]; congr 2; omega
      rw [← e1, hb, be_get (by omega)]; congr 1; omega
    have bg := byt_rg (V.getD n 0) k
    have e2 : V.getD n 0 / 256 ^ k = V.getD n 0 / 256 ^ (k + 1) * 256 + byt (V.getD n 0) k := by
      rw [show k + 1 = k + 1 from rfl, div_pow _ k 1, Int.pow_one]
      unfold byt
      generalize V.getD n 0 / 256 ^ k = x
      omega
    have ub : V.getD n 0 / 256 ^ k ≤ 2147483647 := by
      have h1 : V.getD n 0 / 256 ^ k ≤ V.getD n 0 := Int.ediv_le_self _ hz
      have h2 : V.getD n 0 < 128 * 256 ^ 3 := (fits_mono hm ft).2
      have h3 : (128 : Int) * 256 ^ 3 = 2147483648 := by decide
      omega
    unfold l_X14_asInt_18
    rw [gd_pos ⟨by omega, by omega⟩, if_neg (by omega), gd_pos ⟨by omega, by omega⟩, w32_id (x := gE s 147 n + ((m : Int) + 1 - (k + 1))) ⟨by omega, by omega⟩, gd_pos ⟨by omega, by omega⟩, vl_eq, vl_eq, eb]
    have e3 : or32 (shl32 (V.getD n 0 / 256 ^ (k + 1)) 8) (byt (V.getD n 0) k) = V.getD n 0 / 256 ^ k := by
      rw [orshl8 q0 bg.1 bg.2 (by omega), e2]
    rw [e3, w32_id ⟨by omega, by omega⟩, show (m : Int) + 1 - (k + 1) + 1 = (m : Int) + 1 - k by omega]
    exact ih N (by omega) (by omega)
theorem X14_asInt {s : vS} {V : List Int} (h : MN s V) {n : Nat} (hn : n < V.length) (hz : 0 ≤ V.getD n 0) : f_X14_asInt n s = some (if V.getD n 0 ≤ 2147483647 then V.getD n 0 else 2147483647, s) := by
  have h' := h
  obtain ⟨a1, a2, a3, a4, a5, a6, a7, a8, a9, a10⟩ := h
  obtain ⟨n1, n2, n3, m, n4, n5⟩ := a10 n hn
  have ln := mnum_len (s := s) (n := n) n2
  rw [n5, be_len] at ln
  push_cast at ln
  have p3 : (128 : Int) * 256 ^ 3 = 2147483648 := by decide
  unfold f_X14_asInt
  rw [gd_pos ⟨by omega, by omega⟩]
  by_cases c : gE s 148 n ≤ 4
  · rw [if_pos c]
    have u := (fits_mono (show m ≤ 3 by omega) n4.1).2
    have e := asInt18 h' hn hz (show m ≤ 3 by omega) n4 n5 (m + 1) FU (Nat.le_refl _) (by unfold FU; omega)
    have z0 : V.getD n 0 / 256 ^ (m + 1) = 0 := by
      apply Int.ediv_eq_zero_of_lt hz
      have := n4.1.2
      have hp := pow_pos' 256 (by decide) m
      rw [Int.pow_succ]; generalize (256 : Int) ^ m = P at *; omega
    rw [z0, show (m : Int) + 1 - ((m + 1 : Nat) : Int) = 0 by push_cast; omega] at e
    rw [e, lq_1_eq, if_pos (by omega)]
  · rw [if_neg c]
    have nf : ¬fits 3 (V.getD n 0) := fun f => by
      rcases n4.2 with q | q
      · omega
      · exact q (fits_mono (by omega) f)
    unfold fits at nf
    rw [if_neg (by omega)]
/-- the numbers of lexemes that were made stay so -/
def CA (s : vS) (T V : List Int) (l : Nat) : Prop := l ≤ gN s 150 ∧ l ≤ gN s 151 ∧ l ≤ gN s 95 ∧ l ≤ gN s 96 ∧ ∀ x : Int, 0 ≤ x → x < l →
  (gE s 150 x < 0 ∨ (0 ≤ gE s 150 x ∧ gE s 150 x < V.length ∧ V.getD (gE s 150 x).toNat 0 = dvA 0 (slc T (gE s 95 x) (gE s 96 x)))) ∧
  (gE s 151 x < 0 ∨ (0 ≤ gE s 151 x ∧ gE s 151 x < V.length ∧ V.getD (gE s 151 x).toNat 0 = -dvA 0 (slc T (gE s 95 x) (gE s 96 x))))
theorem pgetD_app {V W : List Int} {n : Nat} (h : n < V.length) : (V ++ W).getD n 0 = V.getD n 0 := by simp [List.getD, List.getElem?_append_left h]
theorem getD_last {V : List Int} {z : Int} : (V ++ [z]).getD V.length 0 = z := by simp [List.getD]
/-- how the cache changes -/
def NCh (s t : vS) (V V' : List Int) (x1 x2 : Int) : Prop := (t = s ∧ V' = V) ∨ ((∃ z, V' = V ++ [z]) ∧ x2 = 0 ∧ gE s 150 x1 < 0 ∧ 0 ≤ gE t 150 x1 ∧ (∀ y, y ≠ x1 → gE t 150 y = gE s 150 y) ∧ gE t 151 = gE s 151) ∨ ((∃ z, V' = V ++ [z]) ∧ x2 = 1 ∧ gE s 151 x1 < 0 ∧ 0 ≤ gE t 151 x1 ∧ (∀ y, y ≠ x1 → gE t 151 y = gE s 151 y) ∧ gE t 150 = gE s 150)
theorem X14_numberOf {s : vS} {T V : List Int} {l : Nat} {x1 x2 a b : Int} (h : MxT s T) (hN : MN s V) (hC : CA s T V l) (hV : V.length < 400000) (h0 : 0 ≤ x1) (h1 : x1 < l) (ea : gE s 95 x1 = a) (eb : gE s 96 x1 = b) (a0 : 0 ≤ a) (hab : a ≤ b) (hb : b ≤ T.length) (hd : ∀ i : Int, a ≤ i → i < b → cDg (cha T i)) (hg1 : 1024 ≤ gN s 152) (hg2 : gN s 152 ≤ 1000000) (hr : gI s 87 85 + (b - a) + 2 ≤ 4000000) (hx : x2 = 0 ∨ x2 = 1) :
    wpo (f_X14_numberOf x1 x2 s) fun q => ∃ V' : List Int, (V' = V ∨ ∃ z, V' = V ++ [z]) ∧ MN q.2 V' ∧ CA q.2 T V' l ∧ 0 ≤ q.1 ∧ q.1 < V'.length ∧ V'.getD q.1.toNat 0 = (if x2 = 0 then dvA 0 (slc T a b) else -dvA 0 (slc T a b)) ∧ NB s q.2 V (b - a + 2) ∧ 1024 ≤ gN q.2 152 ∧ (gN q.2 152 = gN s 152 ∨ (gN q.2 152 : Int) = 2 * (b - a + 2)) ∧ NCh s q.2 V V' x1 x2 ∧ Fr W_f_X14_numberOf s q.2 := by
  suffices key : wpo (f_X14_numberOf x1 x2 s) (fun q => ∃ V' : List Int, (V' = V ∨ ∃ z, V' = V ++ [z]) ∧ MN q.2 V' ∧ CA q.2 T V' l ∧ 0 ≤ q.1 ∧ q.1 < V'.length ∧ V'.getD q.1.toNat 0 = (if x2 = 0 then dvA 0 (slc T a b) else -dvA 0 (slc T a b)) ∧ NB s q.2 V (b - a + 2) ∧ 1024 ≤ gN q.2 152 ∧ (gN q.2 152 = gN s 152 ∨ (gN q.2 152 : Int) = 2 * (b - a + 2)) ∧ NCh s q.2 V V' x1 x2) from
    (key.and (fun r e => fr_f_X14_numberOf x1 x2 s r e)).mono fun r h => by
      obtain ⟨⟨V', p1, p2, p3, p4, p5, p6, p7, p8, p9, p11⟩, p10⟩ := h
      exact ⟨V', p1, p2, p3, p4, p5, p6, p7, p8, p9, p11, p10⟩
  obtain ⟨c1, c2, c3, c4, c5⟩ := hC
  have cx := c5 x1 h0 h1
  have nb0 : NB s s V (b - a + 2) := ⟨by omega, by omega, Or.inl rfl, Or.inl rfl⟩
  have mk := X14_makeNumber (x2 := x2) h hN hV (x1 := x1) ⟨h0, by omega⟩ ⟨h0, by omega⟩ ea eb a0 hab hb hd hg1 hg2 hr hx
  obtain ⟨t, t1, t2, t3, t4, t5⟩ := mk
  have fr := fr_f_X14_makeNumber x1 x2 s _ t1
  simp only at fr
  have n0 : gN t 150 = gN s 150 := fr.rN (by decide) (by decide)
  have n1 : gN t 151 = gN s 151 := fr.rN (by decide) (by decide)
  have n5 : gN t 95 = gN s 95 := fr.rN (by decide) (by decide)
  have n6 : gN t 96 = gN s 96 := fr.rN (by decide) (by decide)
  have e0 : gE t 150 = gE s 150 := fr.rE (by decide) (by decide)
  have e1 : gE t 151 = gE s 151 := fr.rE (by decide) (by decide)
  have e5 : gE t 95 = gE s 95 := fr.rE (by decide) (by decide)
  have e6 : gE t 96 = gE s 96 := fr.rE (by decide) (by decide)
  unfold f_X14_numberOf
  rcases hx with hx | hx
  · subst hx
    rw [if_pos rfl, gd_pos ⟨h0, by omega⟩]
    by_cases c : 0 ≤ gE s 150 x1
    · rw [if_pos c, gd_pos ⟨h0, by omega⟩]
      rcases cx.1 with q | ⟨q1, q2, q3⟩
      · omega
      · exact wpo_some.mpr ⟨V, Or.inl rfl, hN, ⟨c1, c2, c3, c4, c5⟩, q1, q2, by rw [if_pos rfl, q3, ea, eb], nb0, hg1, Or.inl rfl, Or.inl ⟨rfl, rfl⟩⟩
    · rw [if_neg c, t1, bd_eq, gd_pos n0, gd_pos ⟨h0, by omega⟩, stp_eq]
      rw [if_pos rfl] at t2
      generalize hs : sE t 150 x1 (V.length : Int) = u
      have o : Onl 150 t u := by rw [← hs]; exact Onl.sE _ _ _ _
      have eu : ∀ i, gE u 150 i = if i = x1 then (V.length : Int) else gE s 150 i := by
        intro i; rw [← hs, gE_sE, e0]; simp only [true_and]; rw [w32_id ⟨by omega, by omega⟩]
      rw [gd_pos ⟨h0, by rw [o.2.1, n0]; omega⟩, eu, if_pos rfl]
      refine wpo_some.mpr ⟨V ++ [dvA 0 (slc T a b)], Or.inr ⟨_, rfl⟩, ?_, ⟨by rw [o.2.1, n0]; exact c1, by rw [o.2.1, n1]; exact c2, by rw [o.2.1, n5]; exact c3, by rw [o.2.1, n6]; exact c4, fun x x0 xl => ?_⟩, by omega, by simp only [List.length_append, List.length_singleton]; omega, ?_, ?_, by rw [o.2.1]; exact t4, by rw [o.2.1]; exact t5, Or.inr (Or.inl ⟨⟨_, rfl⟩, rfl, by omega, by rw [eu, if_pos rfl]; omega, fun y hy => by rw [eu, if_neg hy], by rw [o.E (by decide) (by decide), e1]⟩)⟩
      · exact MN_cong t2 (o.1 _ _) (o.1 _ _) (o.2.1 _) (o.2.1 _) (o.2.1 _) (o.E (by decide) (by decide)) (o.E (by decide) (by decide)) (fun i _ => by rw [o.E (by decide) (by decide)])
      · rw [eu, o.E (by decide) (by decide), o.E (by decide) (by decide), o.E (by decide) (by decide), e1, e5, e6]
        have cc := c5 x x0 xl
        constructor
        · by_cases d : x = x1
          · rw [if_pos d]; right; refine ⟨by omega, by simp only [List.length_append, List.length_singleton]; omega, ?_⟩
            rw [show ((V.length : Int)).toNat = V.length by omega, getD_last, d, ea, eb]
          · rw [if_neg d]
            rcases cc.1 with q | ⟨q1, q2, q3⟩
            · exact Or.inl q
            · right; exact ⟨q1, by simp only [List.length_append, List.length_singleton]; omega, by rw [pgetD_app (by omega)]; exact q3⟩
        · rcases cc.2 with q | ⟨q1, q2, q3⟩
          · exact Or.inl q
          · right; exact ⟨q1, by simp only [List.length_append, List.length_singleton]; omega, by rw [pgetD_app (by omega)]; exact q3⟩
      · simp only [Int.toNat_natCast, if_true]; exact getD_last
      · obtain ⟨b1, b2, b3, b4⟩ := t3
        exact ⟨by rw [o.1]; exact b1, by rw [o.1]; exact b2, by rw [o.2.1]; exact b3, by rw [o.2.1]; exact b4⟩
  · subst hx
    rw [if_neg (by decide), gd_pos ⟨h0, by omega⟩]
    by_cases c : 0 ≤ gE s 151 x1
    · rw [if_pos c, gd_pos ⟨h0, by omega⟩]
      rcases cx.2 with q | ⟨q1, q2, q3⟩
      · omega
      · exact wpo_some.mpr ⟨V, Or.inl rfl, hN, ⟨c1, c2, c3, c4, c5⟩, q1, q2, by rw [if_neg (by decide), q3, ea, eb], nb0, hg1, Or.inl rfl, Or.inl ⟨rfl, rfl⟩⟩
    · rw [if_neg c, t1, bd_eq, gd_pos n1, gd_pos ⟨h0, by omega⟩, stp_eq]
      rw [if_neg (by decide)] at t2
      generalize hs : sE t 151 x1 (V.length : Int) = u
      have o : Onl 151 t u := by rw [← hs]; exact Onl.sE _ _ _ _
      have eu : ∀ i, gE u 151 i = if i = x1 then (V.length : Int) else gE s 151 i := by
        intro i; rw [← hs, gE_sE, e1]; simp only [true_and]; rw [w32_id ⟨by omega, by omega⟩]
      rw [gd_pos ⟨h0, by rw [o.2.1, n1]; omega⟩, eu, if_pos rfl]
      refine wpo_some.mpr ⟨V ++ [-dvA 0 (slc T a b)], Or.inr ⟨_, rfl⟩, ?_, ⟨by rw [o.2.1, n0]; exact c1, by rw [o.2.1, n1]; exact c2, by rw [o.2.1, n5]; exact c3, by rw [o.2.1, n6]; exact c4, fun x x0 xl => ?_⟩, by omega, by simp only [List.length_append, List.length_singleton]; omega, ?_, ?_, by rw [o.2.1]; exact t4, by rw [o.2.1]; exact t5, Or.inr (Or.inr ⟨⟨_, rfl⟩, rfl, by omega, by rw [eu, if_pos rfl]; omega, fun y hy => by rw [eu, if_neg hy], by rw [o.E (by decide) (by decide), e0]⟩)⟩
      · exact MN_cong t2 (o.1 _ _) (o.1 _ _) (o.2.1 _) (o.2.1 _) (o.2.1 _) (o.E (by decide) (by decide)) (o.E (by decide) (by decide)) (fun i _ => by rw [o.E (by decide) (by decide)])
      · rw [eu, o.E (by decide) (by decide), o.E (by decide) (by decide), o.E (by decide) (by decide), e0, e5, e6]
        have cc := c5 x x0 xl
        constructor
        · rcases cc.1 with q | ⟨q1, q2, q3⟩
          · exact Or.inl q
          · right; exact ⟨q1, by simp only [List.length_append, List.length_singleton]; omega, by rw [pgetD_app (by omega)]; exact q3⟩
        · by_cases d : x = x1
          · rw [if_pos d]; right; refine ⟨by omega, by simp only [List.length_append, List.length_singleton]; omega, ?_⟩
            rw [show ((V.length : Int)).toNat = V.length by omega, getD_last, d, ea, eb]
          · rw [if_neg d]
            rcases cc.2 with q | ⟨q1, q2, q3⟩
            · exact Or.inl q
            · right; exact ⟨q1, by simp only [List.length_append, List.length_singleton]; omega, by rw [pgetD_app (by omega)]; exact q3⟩
      · simp only [Int.toNat_natCast]; rw [getD_last, if_neg (by decide)]
      · obtain ⟨b1, b2, b3, b4⟩ := t3
        exact ⟨by rw [o.1]; exact b1, by rw [o.1]; exact b2, by rw [o.2.1]; exact b3, by rw [o.2.1]; exact b4⟩
