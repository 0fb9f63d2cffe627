set_option maxRecDepth 100000 set_option linter.unusedVariables false set_option linter.unusedSimpArgs false
/-! PURE 47d: writing numbers, on; comparing -/
theorem write175 {p : Nat} (o : Nat) : ∀ (k n : Nat) (s : vS) (x5 : Int), BW s p → 0 ≤ x5 → gI s p 1 = x5 + 1 + k → k < n → ∃ s', l_X7_write_175 o p n x5 s = some s' ∧ BW s' p ∧ gI s' p 1 = gI s p 1 ∧ gN s' (p + 1) = gN s (p + 1) ∧ (∀ i : Int, i < x5 → gC s' (p + 1) i = gC s (p + 1) i) ∧ (∀ i : Int, x5 ≤ i → i < x5 + k → gC s' (p + 1) i % 256 = gC s (p + 1) (i + 1) % 256) := by
  intro k
  induction k with
  | zero =>
    intro n s x5 hb h0 hk hn
    obtain ⟨n, rfl⟩ : ∃ m, n = m + 1 := ⟨n - 1, by omega⟩
    have hb' := hb
    obtain ⟨b1, b2, b3, b4⟩ := hb
    unfold l_X7_write_175
    rw [X2_size, bd_eq, w32_id ⟨by omega, by omega⟩, if_pos (by omega)]
    exact ⟨s, rfl, hb', rfl, rfl, fun _ _ => rfl, fun i a b => by omega⟩
  | succ k ih =>
    intro n s x5 hb h0 hk hn
    obtain ⟨n, rfl⟩ : ∃ m, n = m + 1 := ⟨n - 1, by omega⟩
    have hb' := hb
    obtain ⟨b1, b2, b3, b4⟩ := hb
    push_cast at hk
    unfold l_X7_write_175
    rw [X2_size, bd_eq, w32_id ⟨by omega, by omega⟩, if_neg (by omega), X2_at (by omega) (by omega), bd_eq, X2_set (by omega) (by omega), bdv_eq, vl_eq]
    generalize hs : sE s (p + 1) x5 (n8 (gC s (p + 1) (x5 + 1) % 256)) = s1
    have e1 : gI s1 p 1 = gI s p 1 := by rw [← hs]; simp only [gI_sI, gI_sR, gI_sA, gI_sE, gI_sw2, gI_rs, gI_cpA, gI_gh1, gL_sI, gL_sR, gL_sA, gL_sE, gL_sw2, gL_rs, gL_cpA, gR_sI, gR_sR, gR_sA, gR_sE, gR_sw2, gR_rs, gR_cpA, gN_sI, gN_sR, gN_gh1, gN_sA, gN_sE, gN_cpA, gN_sw2, gN_rs, gE_gC, gB_gC, gZ_gC, gEL_gC, gC_sI, gC_sR, gC_gh1, gC_sA, gC_sE, gC_cpA, gC_sw2, gC_rs]
    have e2 : gN s1 (p + 1) = gN s (p + 1) := by rw [← hs]; simp only [gI_sI, gI_sR, gI_sA, gI_sE, gI_sw2, gI_rs, gI_cpA, gI_gh1, gL_sI, gL_sR, gL_sA, gL_sE, gL_sw2, gL_rs, gL_cpA, gR_sI, gR_sR, gR_sA, gR_sE, gR_sw2, gR_rs, gR_cpA, gN_sI, gN_sR, gN_gh1, gN_sA, gN_sE, gN_cpA, gN_sw2, gN_rs, gE_gC, gB_gC, gZ_gC, gEL_gC, gC_sI, gC_sR, gC_gh1, gC_sA, gC_sE, gC_cpA, gC_sw2, gC_rs]
    have e3 : ∀ i, gC s1 (p + 1) i = if i = x5 then n8 (gC s (p + 1) (x5 + 1) % 256) else gC s (p + 1) i := by intro i; rw [← hs, gC_sE]; simp
    obtain ⟨s', r1, r2, r3, r4, r5, r6⟩ := ih n s1 (x5 + 1) ⟨by omega, by omega, by omega, by omega⟩ (by omega) (by omega) (by omega)
    refine ⟨s', r1, r2, by omega, by omega, fun i hi => by rw [r5 i (by omega), e3, if_neg (by omega)], fun i hi hi2 => ?_⟩
    by_cases c : i = x5
    · rw [c, r5 x5 (by omega), e3, if_pos rfl, n8_mod]; omega
    · rw [r6 i (by omega) (by push_cast at hi2; omega), e3, if_neg (by omega)]
theorem bts_of {s : vS} {p : Nat} {A L : List Int} (h0 : 0 ≤ gI s p 1) (hn : gI s p 1 = A.length + L.length) (h1 : ∀ i : Nat, i < A.length → gC s (p + 1) i % 256 = A.getD i 0) (h2 : ∀ i : Nat, i < L.length → gC s (p + 1) (A.length + i) % 256 = L.getD i 0) : bts s p = A ++ L := by
  unfold bts
  rw [show (gI s p 1).toNat = A.length + L.length by omega, rowL_add]
  have e : ∀ (M : List Int) (f : Nat → Int), (∀ i : Nat, i < M.length → f i = M.getD i 0) → rowL M.length f = M := by
    intro M f hf
    apply List.ext_getElem?
    intro i
    by_cases c : i < M.length
    · rw [rowL_at _ c, hf i c]; simp [List.getD, c]
    · rw [List.getElem?_eq_none (by rw [rowL_len]; omega), List.getElem?_eq_none (by omega)]
  rw [e A _ h1, e L]
  intro i hi
  have := h2 i hi
  push_cast; exact this
theorem bts_get {s : vS} {p : Nat} {i : Nat} (h : i < (bts s p).length) : (bts s p).getD i 0 = gC s (p + 1) i % 256 := by
  rw [bts_len] at h; unfold bts; rw [rowL_getD _ _ h]
theorem be_get {m i : Nat} {z : Int} (h : i < m) : (be m z).getD i 0 = byt z (m - 1 - i) := by unfold be; rw [rowL_getD _ _ h]
theorem fits_of {m : Nat} {v : Int} (h0 : 0 ≤ v) (h : v < 256 ^ m) : fits m v ∧ fits m (-v) := by
  have hp := pow_pos' 256 (by decide) m
  unfold fits; omega
theorem isSb_of {m : Nat} {v z : Int} (hz : z = v ∨ z = -v) (h0 : 0 ≤ v) (h : v < 256 ^ (m + 1)) (hm : 256 ^ m ≤ v) : (fits m z → isSb m z) ∧ (¬fits m z → isSb (m + 1) z) := by
  have f := fits_of h0 h
  constructor
  · intro q
    refine ⟨q, ?_⟩
    by_cases c : m = 0
    · exact Or.inl c
    · right
      obtain ⟨k, rfl⟩ : ∃ k, m = k + 1 := ⟨m - 1, by omega⟩
      rw [Nat.add_sub_cancel]
      rw [Int.pow_succ] at hm
      have hp := pow_pos' 256 (by decide) k
      unfold fits
      generalize (256 : Int) ^ k = P at *
      omega
  · intro q
    refine ⟨?_, Or.inr (by rw [Nat.add_sub_cancel]; exact q)⟩
    rcases hz with hz | hz
    · rw [hz]; exact f.1
    · rw [hz]; exact f.2
/-- at last: the row is followed by the shortest bytes -/
theorem write119 {p : Nat} (o : Nat) {s : vS} {A : List Int} {m : Nat} {v z : Int} (hb : BW s p) (hz : z = v ∨ z = -v) (hA : bts s p = A ++ be (m + 1) z) (h0 : 0 ≤ v) (h1 : v < 256 ^ m) (h2 : m = 0 ∨ 256 ^ (m - 1) ≤ v) : wpo (j_X7_write_119 o p m A.length s) fun s' => BW s' p ∧ (∃ L, SB z L ∧ bts s' p = A ++ L) ∧ gN s' (p + 1) = gN s (p + 1) ∧ gI s' p 1 ≤ gI s p 1 := by
  have hb' := hb
  obtain ⟨b1, b2, b3, b4⟩ := hb
  have hl := hb'.len
  rw [hA, List.length_append, be_len] at hl
  push_cast at hl
  have ha : ∀ i : Nat, i < m + 1 → gC s (p + 1) (A.length + i) % 256 = byt z (m - i) := by
    intro i hi
    have := bts_get (s := s) (p := p) (i := A.length + i) (by rw [hA, List.length_append, be_len]; omega)
    push_cast at this
    rw [← this, hA]
    simp only [List.getD, List.getElem?_append_right (show A.length ≤ A.length + i by omega), Nat.add_sub_cancel_left]
    have := be_get (z := z) hi
    simp only [List.getD] at this
    rw [this, Nat.add_sub_cancel]
  have hA' : ∀ i : Nat, i < A.length → gC s (p + 1) i % 256 = A.getD i 0 := by
    intro i hi
    have := bts_get (s := s) (p := p) (i := i) (by rw [hA, List.length_append]; omega)
    rw [← this, hA]
    simp [List.getD, List.getElem?_append_left hi]
  unfold j_X7_write_119
  by_cases c : m = 0
  · subst c
    rw [if_pos (by decide)]
    have v0 : v = 0 := by simp at h1; omega
    have z0 : z = 0 := by omega
    refine wpo_some.mpr ⟨hb', ⟨be 1 z, ⟨0, ⟨?_, Or.inl rfl⟩, rfl⟩, hA⟩, rfl, Int.le_refl _⟩
    rw [z0]; unfold fits; simp
  obtain ⟨k, rfl⟩ : ∃ k, m = k + 1 := ⟨m - 1, by omega⟩
  rw [Nat.add_sub_cancel] at h2
  have h2 : 256 ^ k ≤ v := by rcases h2 with h2 | h2; omega; exact h2
  have sb := isSb_of hz h0 h1 h2
  have fz : fits (k + 1) z := by
    have f := fits_of h0 h1
    rcases hz with hz | hz
    · rw [hz]; exact f.1
    · rw [hz]; exact f.2
  have rd := redun fz
  have a0 := ha 0 (by omega)
  have a1 := ha 1 (by omega)
  rw [Nat.sub_zero, Int.natCast_zero, Int.add_zero] at a0
  rw [Nat.add_sub_cancel, show ((1 : Nat) : Int) = 1 from rfl] at a1
  push_cast at hl
  -- the first byte is left out
  have drop : fits k z → wpo (lq_0 (l_X7_write_175 o p FU A.length s) fun s14 => bd (f_X2_size p s14) fun r19 s16 => bdv (f_X2_cut p (w32 (r19 - 1)) s16) fun s21 => some s21) fun s' => BW s' p ∧ (∃ L, SB z L ∧ bts s' p = A ++ L) ∧ gN s' (p + 1) = gN s (p + 1) ∧ gI s' p 1 ≤ gI s p 1 := by
    intro f
    obtain ⟨s', r1, r2, r3, r4, r5, r6⟩ := write175 (p := p) o (k + 1) FU s A.length hb' (by omega) (by push_cast; omega) (by unfold FU; omega)
    rw [r1, lq_0_eq, X2_size, bd_eq, X2_cut, bdv_eq, w32_id ⟨by omega, by omega⟩]
    obtain ⟨c1, c2, c3⟩ := BW_cut r2 (n := gI s' p 1 - 1) (by omega) (by omega)
    refine wpo_some.mpr ⟨c1, ⟨be (k + 1) z, ⟨k, sb.1 f, rfl⟩, ?_⟩, by simp only [gI_sI, gI_sR, gI_sA, gI_sE, gI_sw2, gI_rs, gI_cpA, gI_gh1, gL_sI, gL_sR, gL_sA, gL_sE, gL_sw2, gL_rs, gL_cpA, gR_sI, gR_sR, gR_sA, gR_sE, gR_sw2, gR_rs, gR_cpA, gN_sI, gN_sR, gN_gh1, gN_sA, gN_sE, gN_cpA, gN_sw2, gN_rs, gE_gC, gB_gC, gZ_gC, gEL_gC, gC_sI, gC_sR, gC_gh1, gC_sA, gC_sE, gC_cpA, gC_sw2, gC_rs]; exact r4, by omega⟩
    have : gC (sI s' p 1 (gI s' p 1 - 1)) (p + 1) = gC s' (p + 1) := rfl
    apply bts_of
    · omega
    · rw [c3, be_len]; push_cast; omega
    · intro i hi; rw [this, r5 i (by omega)]; exact hA' i hi
    · intro i hi
      rw [be_len] at hi
      rw [this, r6 _ (by omega) (by push_cast; omega), be_get hi]
      have := ha (i + 1) (by omega)
      rw [show k + 1 - (i + 1) = k + 1 - 1 - i by omega] at this
      rw [← this]; push_cast; congr 2 <;> omega
  have keep : ¬fits k z → wpo (some s) fun s' => BW s' p ∧ (∃ L, SB z L ∧ bts s' p = A ++ L) ∧ gN s' (p + 1) = gN s (p + 1) ∧ gI s' p 1 ≤ gI s p 1 := fun f => wpo_some.mpr ⟨hb', ⟨_, ⟨k + 1, sb.2 f, rfl⟩, hA⟩, rfl, Int.le_refl _⟩
  rw [if_neg (by push_cast; omega), X2_at (by omega) (by omega), bd_eq, a0, w32_id (x := (A.length : Int) + 1) ⟨by omega, by omega⟩, X2_at (by omega) (by omega), bd_eq, a1]
  have rest : ¬(byt z (k + 1) = 0 ∧ byt z k < 128) → wpo (j_X7_write_146 o p A.length s) fun s' => BW s' p ∧ (∃ L, SB z L ∧ bts s' p = A ++ L) ∧ gN s' (p + 1) = gN s (p + 1) ∧ gI s' p 1 ≤ gI s p 1 := by
    intro nr
    unfold j_X7_write_146
    rw [X2_at (by omega) (by omega), bd_eq, a0, w32_id (x := (A.length : Int) + 1) ⟨by omega, by omega⟩, X2_at (by omega) (by omega), bd_eq, a1]
    by_cases d1 : byt z (k + 1) = 255
    · rw [if_pos d1]
      by_cases d2 : byt z k ≤ 127
      · rw [if_pos d2]; exact keep (fun f => by rcases rd.mpr f with q | q; exact nr q; omega)
      · rw [if_neg d2]; exact drop (rd.mp (Or.inr ⟨d1, by omega⟩))
    · rw [if_neg d1]; exact keep (fun f => by rcases rd.mpr f with q | q; exact nr q; exact d1 q.1)
  by_cases d1 : byt z (k + 1) = 0
  · rw [if_pos d1]
    by_cases d2 : byt z k < 128
    · rw [if_pos d2]; exact drop (rd.mp (Or.inl ⟨d1, d2⟩))
    · rw [if_neg d2]; exact rest (fun q => d2 q.2)
  · rw [if_neg d1]; exact rest (fun q => d1 q.1)
theorem X7_write {s : vS} {o p : Nat} (ho : o + 1 < 199) (hp : p + 1 < 199) (hop : p ≠ o) (hop2 : p ≠ o + 1) (hop3 : p + 1 ≠ o) (h : NW0 s o) (hb : BW s p) (hl : gI s p 1 + 4 * gI s o 1 < 15000000) {x1 : Int} (hx : x1 = 0 ∨ x1 = 1) : wpo (f_X7_write o x1 p s) fun s' => BW s' p ∧ (∃ L, SB (if x1 = 0 then nv s o else -nv s o) L ∧ bts s' p = bts s p ++ L) ∧ gI s' p 1 ≤ gI s p 1 + 4 * gI s o 1 + 1 ∧ gN s (p + 1) ≤ gN s' (p + 1) ∧ (gN s' (p + 1) = gN s (p + 1) ∨ gN s' (p + 1) < 2 * (gI s p 1 + 4 * gI s o 1 + 1)) ∧ Fr (W_f_X7_write p) s s' := by
  suffices key : wpo (f_X7_write o x1 p s) (fun s' => BW s' p ∧ (∃ L, SB (if x1 = 0 then nv s o else -nv s o) L ∧ bts s' p = bts s p ++ L) ∧ gI s' p 1 ≤ gI s p 1 + 4 * gI s o 1 + 1 ∧ gN s (p + 1) ≤ gN s' (p + 1) ∧ (gN s' (p + 1) = gN s (p + 1) ∨ gN s' (p + 1) < 2 * (gI s p 1 + 4 * gI s o 1 + 1))) from (key.and (fun r e => fr_f_X7_write o x1 p s r e)).mono fun r h => ⟨h.1.1, h.1.2.1, h.1.2.2.1, h.1.2.2.2.1, h.1.2.2.2.2, h.2⟩
  have h' := h
  obtain ⟨h1, h2, h3, h4⟩ := h
  have lb := hb.len
  unfold f_X7_write
  rw [vl_eq, w32_id ⟨by omega, by omega⟩]
  have hv : nv s o < 256 ^ (4 * (gI s o 1).toNat) := by
    rw [← pow_B]
    have := (lev_rg (by decide) _ (wds_rg s o)).2
    unfold wds at this; rw [rowL_len] at this; exact this
  obtain ⟨m, m1, m2, m3, m4⟩ := write7 (p := p) h' x1 (4 * (gI s o 1).toNat) FU (by omega) (by unfold FU; omega) hv
  rw [show 4 * gI s o 1 = ((4 * (gI s o 1).toNat : Nat) : Int) by omega, m1, lq_1_eq]
  unfold j_X7_write_27
  rw [X2_size, bd_eq]
  have nn := nv_nn s o
  refine wpo_lq_0.mpr ?_
  have w36 := write36 ho hp hop hop2 hop3 x1 m (gI s p 1) (m + 1) FU s h' hb (by omega) (by omega) (by unfold FU; omega)
  rw [show ((m + 1 : Nat) : Int) - 1 = m by omega] at w36
  refine w36.mono ?_
  rintro s1 ⟨c1, c2, c3, c4, c5, c6, c7⟩
  push_cast at c5 c7
  have fin : ∀ (s2 : vS) (z : Int), (z = nv s o ∨ z = -nv s o) → BW s2 p → bts s2 p = bts s p ++ be (m + 1) z → gI s2 p 1 = gI s1 p 1 → gN s2 (p + 1) = gN s1 (p + 1) → wpo (j_X7_write_119 o p m (gI s p 1) s2) fun s' => BW s' p ∧ (∃ L, SB z L ∧ bts s' p = bts s p ++ L) ∧ gI s' p 1 ≤ gI s p 1 + ((4 * (gI s o 1).toNat : Nat) : Int) + 1 ∧ gN s (p + 1) ≤ gN s' (p + 1) ∧ (gN s' (p + 1) = gN s (p + 1) ∨ gN s' (p + 1) < 2 * (gI s p 1 + ((4 * (gI s o 1).toNat : Nat) : Int) + 1)) := by
    intro s2 z hz q1 q2 q3 q4
    rw [← lb]
    refine (write119 o q1 hz q2 nn m3 m4).mono ?_
    rintro s' ⟨r1, r2, r3, r4⟩
    exact ⟨r1, r2, by omega, by omega, by omega⟩
  rcases hx with hx | hx
  · subst hx
    simp only [if_true]
    exact fin s1 (nv s o) (Or.inl rfl) c2 c3 rfl rfl
  · subst hx
    rw [if_neg (by decide), if_neg (by decide)]
    have lc := c2.len
    rw [X2_size, bd_eq, vl_eq, w32_id ⟨by have := c2.1; omega, by have := c2.2.1; have := c2.2.2.2; omega⟩]
    have g1 : ∀ i : Int, gI s p 1 ≤ i → i < gI s p 1 + ((m + 1 : Nat) : Int) → gC s1 (p + 1) i % 256 = byt (nv s o) (gI s p 1 + ((m + 1 : Nat) : Int) - 1 - i).toNat := by
      intro i hi hi2
      have hb0 := hb.1
      have := bts_get (s := s1) (p := p) (i := i.toNat) (by push_cast at hi2; omega)
      rw [Int.toNat_of_nonneg (by omega)] at this
      rw [← this, c3]
      simp only [List.getD]
      rw [List.getElem?_append_right (by omega)]
      have e := be_get (m := m + 1) (z := nv s o) (i := i.toNat - (bts s p).length) (by push_cast at hi2; omega)
      simp only [List.getD] at e
      rw [e]; congr 1; push_cast; omega
    obtain ⟨s2, r1, r2, r3, r4, r5, r6⟩ := write72 (p := p) o m (gI s p 1) hb.1 (nv s o) (m + 1) (m + 1) FU s1 (Nat.le_refl _) (by unfold FU; omega) c2 (by rw [c5]; push_cast; omega) g1 (fun i a b => by omega)
    rw [Nat.sub_self, Int.pow_zero, Int.emod_one, if_pos rfl, show gI s p 1 + ((m + 1 : Nat) : Int) - 1 = gI s1 p 1 - 1 by rw [c5]; push_cast; omega] at r1
    rw [r1, lq_0_eq]
    refine fin s2 (-nv s o) (Or.inr rfl) r2 ?_ r3 r4
    apply bts_of
    · omega
    · rw [r3, c5, be_len]; push_cast; omega
    · intro i hi
      rw [r5 i (by omega)]
      have := bts_get (s := s1) (p := p) (i := i) (by omega)
      rw [← this, c3]; simp [List.getD, List.getElem?_append_left hi]
    · intro i hi
      rw [be_len] at hi
      rw [lb, r6 _ (by omega) (by push_cast; omega), be_get hi]
      congr 1; push_cast; omega
theorem X7_set {s : vS} {o : Nat} (ho : o + 1 < 199) (h : NW0 s o) {v : Int} (hv : 0 ≤ v ∧ v ≤ 2147483647) : wpo (f_X7_set o v s) fun s' => NWf s' o ∧ nv s' o = v ∧ gI s' o 1 ≤ 1 ∧ gN s' (o + 1) = gN s (o + 1) ∧ Fr (W_f_X7_set o) s s' := by
  suffices key : wpo (f_X7_set o v s) (fun s' => NWf s' o ∧ nv s' o = v ∧ gI s' o 1 ≤ 1 ∧ gN s' (o + 1) = gN s (o + 1)) from (key.and (fun r e => fr_f_X7_set o v s r e)).mono fun r h => ⟨h.1.1, h.1.2.1, h.1.2.2.1, h.1.2.2.2, h.2⟩
  obtain ⟨h1, h2, h3, h4⟩ := h
  unfold f_X7_set
  rw [stp_eq]
  generalize hs : sI s o 1 0 = s1
  have e1 : gI s1 o 1 = 0 := by rw [← hs]; simp only [gI_sI, gI_sR, gI_sA, gI_sE, gI_sw2, gI_rs, gI_cpA, gI_gh1, gL_sI, gL_sR, gL_sA, gL_sE, gL_sw2, gL_rs, gL_cpA, gR_sI, gR_sR, gR_sA, gR_sE, gR_sw2, gR_rs, gR_cpA, gN_sI, gN_sR, gN_gh1, gN_sA, gN_sE, gN_cpA, gN_sw2, gN_rs, gE_gC, gB_gC, gZ_gC, gEL_gC, gC_sI, gC_sR, gC_gh1, gC_sA, gC_sE, gC_cpA, gC_sw2, gC_rs, Nat.reduceEqDiff, Nat.reduceAdd, Nat.reduceLT, Nat.reduceLeDiff, Nat.reduceBEq, reduceIte, and_self, and_true, true_and, and_false, false_and, if_true, if_false, Nat.reduceMul, Int.reduceEq, Int.reduceLT, Int.reduceLE, Int.reduceNeg, Int.reduceAdd, Int.reduceMul, Int.reduceSub]; decide
  have e2 : gN s1 (o + 1) = gN s (o + 1) := by rw [← hs]; rfl
  have n1 : NW0 s1 o := ⟨by omega, by omega, by omega, by omega⟩
  have w1 : wds s1 o = [] := by unfold wds; rw [e1]; rfl
  refine wpo_ite.mpr ⟨fun c => wpo_some.mpr ⟨⟨n1, Or.inl e1⟩, by unfold nv; rw [w1]; exact c.symm, by omega, e2⟩, fun c => ?_⟩
  have := X7_add (v := v) n1 ho (by omega) ⟨hv.1, by omega⟩
  rw [w32_id ⟨by omega, by omega⟩] at this
  refine wpo_bdv.mpr (this.mono ?_)
  rintro s2 ⟨a1, a2, a3, a4, a5⟩
  have en : nv s2 o = v := by unfold nv; rw [a2, w1]; simp [lev]
  refine wpo_some.mpr ⟨⟨a1, Or.inr ?_⟩, en, by omega, by omega⟩
  rw [a3, e1, en]; simp; omega
theorem X7_small {s : vS} {o : Nat} (h : NWf s o) {m : Int} (hm : m ≤ 1000) (hm0 : 0 ≤ m) : f_X7_small o m s = some (if nv s o ≤ m then nv s o else -1, s) := by
  obtain ⟨⟨h1, h2, h3, h4⟩, hn⟩ := h
  have nn := nv_nn s o
  unfold f_X7_small
  by_cases c : gI s o 1 = 0
  · have e : nv s o = 0 := by unfold nv wds; rw [c]; rfl
    rw [if_pos c, e, if_pos hm0]
  rw [if_neg c]
  have hn : 4294967296 ^ ((gI s o 1).toNat - 1) ≤ nv s o := by rcases hn with q | q; exact absurd q c; exact q
  by_cases d : gI s o 1 = 1
  · have e : nv s o = gE s (o + 1) 0 % 4294967296 := by unfold nv wds; rw [d]; simp [rowL, lev]
    have g := gE_rg s (o + 1) 0
    unfold rg at g
    rw [if_pos d, gd_pos ⟨by omega, by omega⟩, gd_pos ⟨by omega, by omega⟩, e]
    generalize gE s (o + 1) 0 = x at *
    by_cases c1 : x < 0
    · rw [if_pos c1, if_neg (by omega)]
    · rw [if_neg c1]
      by_cases c2 : m < x
      · rw [if_pos c2, if_neg (by omega)]
      · rw [if_neg c2, if_pos (by omega), show x % 4294967296 = x by omega, gd_pos ⟨by omega, by omega⟩]
  · rw [if_neg d, if_neg]
    obtain ⟨k, hk⟩ : ∃ k, (gI s o 1).toNat - 1 = k + 1 := ⟨(gI s o 1).toNat - 2, by omega⟩
    rw [hk, Int.pow_succ] at hn
    have := pow_pos' 4294967296 (by decide) k
    omega
/-- whether bytes are as few as can be -/
theorem X7_isShort {s : vS} {p : Nat} {a b : Int} (h0 : 0 ≤ a) (h1 : a ≤ b) (h2 : b ≤ gN s (p + 1)) (h3 : gN s (p + 1) ≤ 33554432) : wpo (f_X7_isShort p a b s) fun q => q.2 = s ∧ (q.1 = 0 ∨ q.1 = 1) ∧ (q.1 = 1 ↔ shortB (bsl s p a b)) := by
  unfold f_X7_isShort
  rw [w32_id ⟨by omega, by omega⟩]
  by_cases c : 2 ≤ b - a
  · rw [if_pos c, X2_at h0 (by omega), bd_eq, w32_id ⟨by omega, by omega⟩, X2_at (by omega) (by omega), bd_eq, vl_eq]
    have sh : shortB (bsl s p a b) ↔ ¬((gC s (p + 1) a % 256 = 0 ∧ gC s (p + 1) (a + 1) % 256 < 128) ∨ (gC s (p + 1) a % 256 = 255 ∧ 127 < gC s (p + 1) (a + 1) % 256)) := by
      unfold shortB
      rw [bsl_cons (by omega), bsl_cons (by omega)]
      constructor
      · intro q; exact q.2 (by simp)
      · intro q; exact ⟨by simp, fun _ => q⟩
    have x0 : 0 ≤ gC s (p + 1) a % 256 ∧ gC s (p + 1) a % 256 < 256 := by omega
    have y0 : 0 ≤ gC s (p + 1) (a + 1) % 256 ∧ gC s (p + 1) (a + 1) % 256 < 256 := by omega
    generalize gC s (p + 1) a % 256 = x at *
    generalize gC s (p + 1) (a + 1) % 256 = y at *
    rw [shl32_mul 1 (by decide) (by decide), shr32_div 7 ⟨by omega, by omega⟩ (by decide) (by decide), w32_id ⟨by simp; omega, by simp; omega⟩]
    rw [show (1 : Int).toNat = 1 from rfl, show (7 : Int).toNat = 7 from rfl, or32_add 1 (by omega) (by omega) (by simp; omega) (by simp; omega)]
    rw [show (2 : Int) ^ 1 = 2 by decide, show (2 : Int) ^ 7 = 128 by decide]
    refine wpo_ite.mpr ⟨fun d => wpo_some.mpr ⟨rfl, Or.inl rfl, ?_⟩, fun d => wpo_ite.mpr ⟨fun e => wpo_some.mpr ⟨rfl, Or.inl rfl, ?_⟩, fun e => wpo_some.mpr ⟨rfl, Or.inr rfl, ?_⟩⟩⟩
    · rw [sh]; constructor
      · intro q; simp only at q; exact absurd q (by decide)
      · intro q; exfalso; apply q; left; omega
    · rw [sh]; constructor
      · intro q; simp only at q; exact absurd q (by decide)
      · intro q; exfalso; apply q; right; omega
    · rw [sh]; constructor
      · intro _; omega
      · intro _; rfl
  · rw [if_neg c]
    refine wpo_ite.mpr ⟨fun d => wpo_some.mpr ⟨rfl, Or.inl rfl, ?_⟩, fun d => wpo_some.mpr ⟨rfl, Or.inr rfl, ?_⟩⟩
    · rw [bsl_nil d]; unfold shortB; simp
    · unfold shortB; rw [bsl_cons (by omega), bsl_nil (by omega)]; simp
theorem X7_compare {s : vS} {p q : Nat} {a b c d : Int} (a0 : 0 ≤ a) (a1 : a < b) (a2 : b ≤ gN s (p + 1)) (c0 : 0 ≤ c) (c1 : c < d) (c2 : d ≤ gN s (q + 1)) (hp : gN s (p + 1) ≤ 33554432) (hq : gN s (q + 1) ≤ 33554432) : f_X7_compare p a b q c d s = some (cmpN (bsl s p a b) (bsl s q c d), s) := by
  have e1 : (bsl s p a b).getD 0 0 = gC s (p + 1) a % 256 := by rw [bsl_cons a1]; rfl
  have e2 : (bsl s q c d).getD 0 0 = gC s (q + 1) c % 256 := by rw [bsl_cons c1]; rfl
  unfold f_X7_compare
  simp only [j_X7_compare_15, j_X7_compare_35, j_X7_compare_76]
  rw [X2_at a0 (by omega), bd_eq, X2_at c0 (by omega)]
  simp only [bd_eq]
  rw [w32_id (x := b - a) ⟨by omega, by omega⟩, w32_id (x := d - c) ⟨by omega, by omega⟩, X2_compare a0 a2 c0 c2 hp hq ⟨by omega, by omega⟩ ⟨by omega, by omega⟩, bd_eq]
  unfold cmpN
  rw [e1, e2, bsl_len, bsl_len]
  generalize gC s (p + 1) a % 256 = x at *
  generalize gC s (q + 1) c % 256 = y at *
  generalize cmpL (bsl s p a b) (bsl s q c d) = r
  have l1 : (b - a).toNat < (d - c).toNat ↔ ¬(d - c ≤ b - a) := by omega
  have l2 : (b - a).toNat ≠ (d - c).toNat ↔ ¬(b - a = d - c) := by omega
  by_cases k1 : x ≤ 127 <;> by_cases k2 : y ≤ 127
  · have n1 : ¬(127 < x) := by omega
    have n2 : ¬(127 < y) := by omega
    simp only [k1, k2, n1, n2, if_true, if_false, Nat.reduceEqDiff, Nat.reduceAdd, Nat.reduceLT, Nat.reduceLeDiff, Nat.reduceBEq, reduceIte, and_self, and_true, true_and, and_false, false_and, if_true, if_false, Nat.reduceMul, Int.reduceEq, Int.reduceLT, Int.reduceLE, Int.reduceNeg, Int.reduceAdd, Int.reduceMul, Int.reduceSub, ne_eq, not_true_eq_false]
    by_cases k3 : b - a = d - c
    · simp [k3]
    · by_cases k4 : d - c ≤ b - a
      · simp [k3, k4, l2.mpr k3, show ¬((b - a).toNat < (d - c).toNat) from fun z => l1.mp z k4]
      · simp [k3, k4, l2.mpr k3, l1.mpr k4]
  · have n1 : ¬(127 < x) := by omega
    have n2 : 127 < y := by omega
    simp [k1, k2, n1, n2]
  · have n1 : 127 < x := by omega
    have n2 : ¬(127 < y) := by omega
    simp [k1, k2, n1, n2]
  · have n1 : 127 < x := by omega
    have n2 : 127 < y := by omega
    simp only [k1, k2, n1, n2, if_true, if_false, Nat.reduceEqDiff, Nat.reduceAdd, Nat.reduceLT, Nat.reduceLeDiff, Nat.reduceBEq, reduceIte, and_self, and_true, true_and, and_false, false_and, if_true, if_false, Nat.reduceMul, Int.reduceEq, Int.reduceLT, Int.reduceLE, Int.reduceNeg, Int.reduceAdd, Int.reduceMul, Int.reduceSub, ne_eq, not_true_eq_false]
    by_cases k3 : b - a = d - c
    · simp [k3]
    · by_cases k4 : d - c ≤ b - a
      · simp [k3, k4, l2.mpr k3, show ¬((b - a).toNat < (d - c).toNat) from fun z => l1.mp z k4]
      · simp [k3, k4, l2.mpr k3, l1.mpr k4]
