set_option maxRecDepth 100000 set_option linter.unusedVariables false set_option linter.unusedSimpArgs false
/-! PURE 47c: writing numbers -/
theorem getD_out {l : List Int} {k : Nat} {d : Int} (h : l.length ≤ k) : l.getD k d = d := by simp [List.getD, List.getElem?_eq_none h]
theorem pow_B (q : Nat) : (4294967296 : Int) ^ q = 256 ^ (4 * q) := by
  rw [Int.pow_mul]; rfl
theorem X7_byteOf {s : vS} {o : Nat} (h : NW0 s o) {k : Int} (k0 : 0 ≤ k) (k1 : k ≤ 100000000) : f_X7_byteOf o k s = some (byt (nv s o) k.toNat, s) := by
  obtain ⟨h1, h2, h3, h4⟩ := h
  obtain ⟨k, rfl⟩ := Int.eq_ofNat_of_zero_le k0
  unfold f_X7_byteOf
  rw [d32_div k0 (by omega) (by decide) (by decide), m32_mod k0 (by omega) (by decide) (by decide), w32_id (x := 8 * ((k : Int) % 4)) ⟨by omega, by omega⟩, and32_255]
  have L := lev_at (B := 4294967296) (by decide) (wds s o) (k / 4) (wds_rg s o)
  have eb : byt (nv s o) k = (nv s o / 4294967296 ^ (k / 4)) / 256 ^ (k % 4) % 256 := by
    unfold byt
    rw [pow_B, ← div_pow]
    congr 3; omega
  rw [show ((k : Int).toNat) = k from rfl, eb]
  change nv s o / 4294967296 ^ (k / 4) % 4294967296 = _ at L
  generalize nv s o / 4294967296 ^ (k / 4) = x at *
  have r4 : k % 4 = 0 ∨ k % 4 = 1 ∨ k % 4 = 2 ∨ k % 4 = 3 := by omega
  by_cases c : gI s o 1 ≤ (k : Int) / 4
  · rw [if_pos c]
    have : (wds s o).getD (k / 4) 0 = 0 := by
      unfold wds
      exact getD_out (by rw [rowL_len]; omega)
    rw [this] at L
    congr 2
    rcases r4 with r | r | r | r <;> rw [r] <;> omega
  · rw [if_neg c, gd_pos ⟨by omega, by omega⟩]
    have e : (wds s o).getD (k / 4) 0 = gE s (o + 1) ((k : Int) / 4) % 4294967296 := by
      unfold wds
      rw [rowL_getD _ _ (by omega)]
      congr 2
    rw [e] at L
    rw [shr32_div _ (gE_rg _ _ _) (by omega) (by omega)]
    congr 2
    generalize gE s (o + 1) ((k : Int) / 4) = g at *
    have r5 : (8 * ((k : Int) % 4)).toNat = 8 * (k % 4) := by omega
    rw [r5]
    rcases r4 with r | r | r | r <;> rw [r] <;> omega
theorem write7 {s : vS} {o p : Nat} (h : NW0 s o) (x1 : Int) : ∀ (k n : Nat), k ≤ 50000000 → k < n → nv s o < 256 ^ k → ∃ m : Nat, l_X7_write_7 o p n x1 k s = some ((m : Int), s) ∧ m ≤ k ∧ nv s o < 256 ^ m ∧ (m = 0 ∨ 256 ^ (m - 1) ≤ nv s o) := by
  intro k
  induction k with
  | zero =>
    intro n hk hn hv
    obtain ⟨n, rfl⟩ : ∃ m, n = m + 1 := ⟨n - 1, by omega⟩
    unfold l_X7_write_7
    rw [if_pos (by omega)]
    exact ⟨0, rfl, by omega, hv, Or.inl rfl⟩
  | succ k ih =>
    intro n hk hn hv
    obtain ⟨n, rfl⟩ : ∃ m, n = m + 1 := ⟨n - 1, by omega⟩
    have nn := nv_nn s o
    have hp := pow_pos' 256 (by decide) k
    unfold l_X7_write_7
    rw [if_neg (by omega), w32_id (x := ((k + 1 : Nat) : Int) - 1) ⟨by omega, by omega⟩, w32_id (x := ((k + 1 : Nat) : Int) + -1) ⟨by omega, by omega⟩, X7_byteOf h (by omega) (by omega), bd_eq, vl_eq]
    rw [show (((k + 1 : Nat) : Int) - 1).toNat = k by omega, show ((k + 1 : Nat) : Int) + -1 = (k : Int) by omega]
    have q1 : nv s o / 256 ^ k < 256 := by rw [Int.ediv_lt_iff_lt_mul hp, Int.mul_comm, ← Int.pow_succ]; exact hv
    have q2 : 0 ≤ nv s o / 256 ^ k := Int.ediv_nonneg nn (by omega)
    by_cases c : byt (nv s o) k = 0
    · rw [if_pos c]
      unfold byt at c
      have q3 : nv s o < 256 ^ k := by
        have : nv s o / 256 ^ k < 1 := by omega
        rw [Int.ediv_lt_iff_lt_mul hp] at this; omega
      obtain ⟨m, m1, m2, m3, m4⟩ := ih n (by omega) (by omega) q3
      exact ⟨m, m1, by omega, m3, m4⟩
    · rw [if_neg c]
      refine ⟨k + 1, rfl, by omega, hv, Or.inr ?_⟩
      unfold byt at c
      have : 1 ≤ nv s o / 256 ^ k := by omega
      rw [Int.le_ediv_iff_mul_le hp] at this
      rw [Nat.add_sub_cancel]; omega
theorem write36 {o p : Nat} (ho : o + 1 < 199) (hp : p + 1 < 199) (hop : p ≠ o) (hop2 : p ≠ o + 1) (hop3 : p + 1 ≠ o) (x1 x3 x4 : Int) : ∀ (k n : Nat) (s : vS), NW0 s o → BW s p → gI s p 1 + k < 16000000 → k ≤ 50000000 → k < n → wpo (l_X7_write_36 o p n x1 x3 x4 ((k : Int) - 1) s) fun s' => NW0 s' o ∧ BW s' p ∧ bts s' p = bts s p ++ be k (nv s o) ∧ nv s' o = nv s o ∧ gI s' p 1 = gI s p 1 + k ∧ gN s (p + 1) ≤ gN s' (p + 1) ∧ (gN s' (p + 1) = gN s (p + 1) ∨ gN s' (p + 1) < 2 * (gI s p 1 + k)) := by
  intro k
  induction k with
  | zero =>
    intro n s h hb hl hk hn
    obtain ⟨n, rfl⟩ : ∃ m, n = m + 1 := ⟨n - 1, by omega⟩
    unfold l_X7_write_36
    rw [if_pos (by omega)]
    exact wpo_some.mpr ⟨h, hb, by simp [be, rowL], rfl, by simp, Nat.le_refl _, Or.inl rfl⟩
  | succ k ih =>
    intro n s h hb hl hk hn
    obtain ⟨n, rfl⟩ : ∃ m, n = m + 1 := ⟨n - 1, by omega⟩
    unfold l_X7_write_36
    rw [if_neg (by omega), X7_byteOf h (by omega) (by omega), bd_eq, show (((k + 1 : Nat) : Int) - 1).toNat = k by omega]
    refine wpo_bdv.mpr ((X2_add hb (by omega) hp).mono ?_)
    rintro s1 ⟨fr, b1, b2, b3, b4, b5⟩
    have f1 : gI s1 o 1 = gI s o 1 := fr.rI (by simp [W_f_X2_add]; omega)
    have f2 : gN s1 (o + 1) = gN s (o + 1) := fr.rN ho (by simp [W_f_X2_add]; omega)
    have f3 : gE s1 (o + 1) = gE s (o + 1) := fr.rE ho (by simp [W_f_X2_add]; omega)
    have e1 : nv s1 o = nv s o := by unfold nv wds; rw [f1, f3]
    have n1 : NW0 s1 o := by unfold NW0 at *; rw [f1, f2]; exact h
    rw [vl_eq, w32_id ⟨by omega, by omega⟩, show ((k + 1 : Nat) : Int) - 1 + -1 = (k : Int) - 1 by omega]
    refine (ih n s1 n1 b1 (by omega) (by omega) (by omega)).mono ?_
    rintro s2 ⟨c1, c2, c3, c4, c5, c6, c7⟩
    refine ⟨c1, c2, ?_, by rw [c4, e1], by push_cast; omega, by omega, by push_cast; omega⟩
    rw [c3, b2, e1, be_cons, Int.emod_eq_of_lt (byt_rg _ _).1 (byt_rg _ _).2]
    simp
/-- bytes of what is below 0 -/
theorem byt_neg (v : Int) (k : Nat) : byt (-v) k = (255 - byt v k + (if v % 256 ^ k = 0 then 1 else 0)) % 256 ∧ (255 - byt v k + (if v % 256 ^ k = 0 then 1 else 0)) / 256 = (if v % 256 ^ (k + 1) = 0 then 1 else 0) := by
  have hp := pow_pos' 256 (by decide) k
  have e : (-v) / 256 ^ k = -(v / 256 ^ k) - (if v % 256 ^ k = 0 then 0 else 1) := by
    have q := Int.emod_add_mul_ediv v (256 ^ k)
    have n1 := Int.emod_nonneg v (show (256 : Int) ^ k ≠ 0 by omega)
    have n2 := Int.emod_lt_of_pos v hp
    by_cases c : v % 256 ^ k = 0
    · rw [if_pos c]
      rw [c, Int.zero_add] at q
      conv => lhs; rw [← q]
      rw [← Int.mul_neg, Int.mul_ediv_cancel_left _ (by omega)]; omega
    · rw [if_neg c]
      have : -v = (256 ^ k - v % 256 ^ k) + 256 ^ k * (-(v / 256 ^ k) - 1) := by
        rw [Int.mul_sub, Int.mul_neg, Int.mul_one]; omega
      rw [this, Int.add_mul_ediv_left _ _ (by omega), Int.ediv_eq_zero_of_lt (by omega) (by omega)]; omega
  have m := mod_step k v
  have b := byt_rg v k
  constructor
  · unfold byt
    rw [e]
    generalize v / 256 ^ k = x
    by_cases c : v % 256 ^ k = 0
    · rw [if_pos c, if_pos c]; omega
    · rw [if_neg c, if_neg c]; omega
  · have n1 := Int.emod_nonneg v (show (256 : Int) ^ k ≠ 0 by omega)
    by_cases c : v % 256 ^ k = 0
    · rw [if_pos c]
      rw [c, Int.add_zero] at m
      by_cases d : byt v k = 0
      · rw [d, Int.zero_mul] at m; rw [if_pos m, d]; decide
      · have : byt v k * 256 ^ k ≠ 0 := Int.mul_ne_zero d (by omega)
        rw [if_neg (by omega)]; omega
    · rw [if_neg c, if_neg (by have := Int.mul_nonneg b.1 (Int.le_of_lt hp); omega)]; omega
theorem write72 {p : Nat} (o : Nat) (x3 x4 : Int) (h4 : 0 ≤ x4) (v : Int) (m : Nat) : ∀ (k n : Nat) (s : vS), k ≤ m → k < n → BW s p → gI s p 1 = x4 + m → (∀ i : Int, x4 ≤ i → i < x4 + k → gC s (p + 1) i % 256 = byt v (x4 + m - 1 - i).toNat) → (∀ i : Int, x4 + k ≤ i → i < x4 + m → gC s (p + 1) i % 256 = byt (-v) (x4 + m - 1 - i).toNat) → ∃ s', l_X7_write_72 o p n x3 x4 (if v % 256 ^ (m - k) = 0 then 1 else 0) (x4 + k - 1) s = some s' ∧ BW s' p ∧ gI s' p 1 = gI s p 1 ∧ gN s' (p + 1) = gN s (p + 1) ∧ (∀ i : Int, i < x4 → gC s' (p + 1) i = gC s (p + 1) i) ∧ (∀ i : Int, x4 ≤ i → i < x4 + m → gC s' (p + 1) i % 256 = byt (-v) (x4 + m - 1 - i).toNat) := by
  intro k
  induction k with
  | zero =>
    intro n s hk hn hb hsz h1 h2
    obtain ⟨n, rfl⟩ : ∃ m, n = m + 1 := ⟨n - 1, by omega⟩
    unfold l_X7_write_72
    rw [if_pos (by omega)]
    exact ⟨s, rfl, hb, rfl, rfl, fun _ _ => rfl, fun i a b => h2 i (by omega) b⟩
  | succ k ih =>
    intro n s hk hn hb hsz h1 h2
    obtain ⟨n, rfl⟩ : ∃ m, n = m + 1 := ⟨n - 1, by omega⟩
    have hb' := hb
    obtain ⟨b1, b2, b3, b4⟩ := hb
    have ex : x4 + ((k + 1 : Nat) : Int) - 1 = x4 + k := by push_cast; omega
    unfold l_X7_write_72
    rw [ex, if_neg (by omega), X2_at (by omega) (by omega), bd_eq, vl_eq, h1 (x4 + k) (by omega) (by push_cast; omega), show (x4 + m - 1 - (x4 + k)).toNat = m - 1 - k by omega]
    have bn := byt_neg v (m - 1 - k)
    have bg := byt_rg v (m - 1 - k)
    rw [show m - 1 - k + 1 = m - k by omega] at bn
    rw [show m - (k + 1) = m - 1 - k by omega]
    have hc : (if v % 256 ^ (m - 1 - k) = 0 then (1 : Int) else 0) = 0 ∨ (if v % 256 ^ (m - 1 - k) = 0 then (1 : Int) else 0) = 1 := by split <;> simp
    generalize (if v % 256 ^ (m - 1 - k) = 0 then (1 : Int) else 0) = c at *
    rw [w32_id (x := 255 - byt v (m - 1 - k)) ⟨by omega, by omega⟩, w32_id (x := 255 - byt v (m - 1 - k) + c) ⟨by omega, by omega⟩, and32_255, X2_set (by omega) (by omega), bdv_eq, vl_eq, vl_eq, shr32_div 8 ⟨by omega, by omega⟩ (by decide) (by decide), w32_id (x := x4 + (k : Int) + -1) ⟨by omega, by omega⟩]
    rw [show (2 : Int) ^ (8 : Int).toNat = 256 by decide, bn.2, ← bn.1, show x4 + (k : Int) + -1 = x4 + (k : Int) - 1 by omega]
    generalize hs : sE s (p + 1) (x4 + (k : Int)) (n8 (byt (-v) (m - 1 - k))) = s1
    have e1 : gI s1 p 1 = gI s p 1 := by rw [← hs]; simp only [gI_sI, gI_sR, gI_sA, gI_sE, gI_sw2, gI_rs, gI_cpA, gI_gh1, gL_sI, gL_sR, gL_sA, gL_sE, gL_sw2, gL_rs, gL_cpA, gR_sI, gR_sR, gR_sA, gR_sE, gR_sw2, gR_rs, gR_cpA, gN_sI, gN_sR, gN_gh1, gN_sA, gN_sE, gN_cpA, gN_sw2, gN_rs, gE_gC, gB_gC, gZ_gC, gEL_gC, gC_sI, gC_sR, gC_gh1, gC_sA, gC_sE, gC_cpA, gC_sw2, gC_rs]
    have e2 : gN s1 (p + 1) = gN s (p + 1) := by rw [← hs]; simp only [gI_sI, gI_sR, gI_sA, gI_sE, gI_sw2, gI_rs, gI_cpA, gI_gh1, gL_sI, gL_sR, gL_sA, gL_sE, gL_sw2, gL_rs, gL_cpA, gR_sI, gR_sR, gR_sA, gR_sE, gR_sw2, gR_rs, gR_cpA, gN_sI, gN_sR, gN_gh1, gN_sA, gN_sE, gN_cpA, gN_sw2, gN_rs, gE_gC, gB_gC, gZ_gC, gEL_gC, gC_sI, gC_sR, gC_gh1, gC_sA, gC_sE, gC_cpA, gC_sw2, gC_rs]
    have e3 : ∀ i, gC s1 (p + 1) i = if i = x4 + (k : Int) then n8 (byt (-v) (m - 1 - k)) else gC s (p + 1) i := by intro i; rw [← hs, gC_sE]; simp
    obtain ⟨s', r1, r2, r3, r4, r5, r6⟩ := ih n s1 (by omega) (by omega) ⟨by omega, by omega, by omega, by omega⟩ (by omega) (fun i a b => by rw [e3, if_neg (by omega)]; exact h1 i a (by push_cast; omega)) (fun i a b => by
      rw [e3]
      by_cases d : i = x4 + (k : Int)
      · rw [if_pos d, n8_mod, Int.emod_eq_of_lt (byt_rg _ _).1 (byt_rg _ _).2]; congr 1; omega
      · rw [if_neg d]; exact h2 i (by push_cast; omega) b)
    exact ⟨s', r1, r2, by omega, by omega, fun i hi => by rw [r5 i hi, e3, if_neg (by omega)], r6⟩
