set_option maxRecDepth 100000
/-! V-LAYER 13: rows as the extractor writes them: temporaries at the numbers 199, 200 .., states by name -/
section
variable {cc : ByteArray} {own : String} {rv : Option vA} {σo : vS} {ret : Option FieldType} {F Lc nL : Nat} {tko tk tk1 : List (Nat × Nat)} {P : vP} {σ τ : vS} {pc : Nat} {L L1 : List (Nat × vA)} {st st1 : List vA} {o ci f i j N t t0 K : Nat} {C : String} {T : u_T} {ty : Nat → FieldType} {et : FieldType}
theorem v_na24 {n : Int} (hK : KF + tk.length = K) (ht : tk ++ [(24, 1)] = tk1) (htk : ∀ x ∈ tk, 14 ≤ x.1) (hn : rg n) (g : 0 ≤ n ∧ n ≤ 60000000) (hL : LT K (L.map (fun q => q.2))) (hs : LT K st) (harr : Cond.arrayClass .int ∈ lw_all) (hd : decode cc pc = .ok (.newarray .int, 2))
    (k : VW cc (own, rv, σo, ret, F, Lc, nL, tko) (P0 tk1) (sA σ K (n.toNat, fun _ => 0)) (pc + 2) L (vO K :: st)) (h9 : K < 900 := by decide) : VW cc (own, rv, σo, ret, F, Lc, nL, tko) (P0 tk) σ pc L (vI n :: st) := by
  subst hK
  subst ht
  exact v_newa24 (by unfold KF at h9; omega) htk hn g.1 g.2 hL hs harr hd k
theorem v_na25 {n : Int} (hK : KF + tk.length = K) (ht : tk ++ [(25, 1)] = tk1) (htk : ∀ x ∈ tk, 14 ≤ x.1) (hn : rg n) (g : 0 ≤ n ∧ n ≤ 60000000) (hL : LT K (L.map (fun q => q.2))) (hs : LT K st) (harr : Cond.arrayClass .byte ∈ lw_all) (hd : decode cc pc = .ok (.newarray .byte, 2))
    (k : VW cc (own, rv, σo, ret, F, Lc, nL, tko) (P0 tk1) (sA σ K (n.toNat, fun _ => 0)) (pc + 2) L (vO K :: st)) (h9 : K < 900 := by decide) : VW cc (own, rv, σo, ret, F, Lc, nL, tko) (P0 tk) σ pc L (vI n :: st) := by
  subst hK
  subst ht
  exact v_newa25 (by unfold KF at h9; omega) htk hn g.1 g.2 hL hs harr hd k
theorem v_na26 {n : Int} (hK : KF + tk.length = K) (ht : tk ++ [(26, 1)] = tk1) (htk : ∀ x ∈ tk, 14 ≤ x.1) (hn : rg n) (g : 0 ≤ n ∧ n ≤ 60000000) (hL : LT K (L.map (fun q => q.2))) (hs : LT K st) (harr : Cond.arrayClass .boolean ∈ lw_all) (hd : decode cc pc = .ok (.newarray .boolean, 2))
    (k : VW cc (own, rv, σo, ret, F, Lc, nL, tko) (P0 tk1) (sA σ K (n.toNat, fun _ => 0)) (pc + 2) L (vO K :: st)) (h9 : K < 900 := by decide) : VW cc (own, rv, σo, ret, F, Lc, nL, tko) (P0 tk) σ pc L (vI n :: st) := by
  subst hK
  subst ht
  exact v_newa26 (by unfold KF at h9; omega) htk hn g.1 g.2 hL hs harr hd k
theorem v_na27 {n : Int} (hK : KF + tk.length = K) (ht : tk ++ [(27, 1)] = tk1) (htk : ∀ x ∈ tk, 14 ≤ x.1) (hn : rg n) (g : 0 ≤ n ∧ n ≤ 60000000) (hL : LT K (L.map (fun q => q.2))) (hs : LT K st) (harr : Cond.arrayClass .long ∈ lw_all) (hd : decode cc pc = .ok (.newarray .long, 2))
    (k : VW cc (own, rv, σo, ret, F, Lc, nL, tko) (P0 tk1) (sA σ K (n.toNat, fun _ => 0)) (pc + 2) L (vO K :: st)) (h9 : K < 900 := by decide) : VW cc (own, rv, σo, ret, F, Lc, nL, tko) (P0 tk) σ pc L (vI n :: st) := by
  subst hK
  subst ht
  exact v_newa27 (by unfold KF at h9; omega) htk hn g.1 g.2 hL hs harr hd k
theorem v_pa (hK : KF + i = K) (ht1 : tk.set i (t, 0) = tk1) (htk : ∀ x ∈ tk, 14 ≤ x.1) (cf : CF ci C T N ty) (ho : okB o ci) (hf : fk ci f = 2) (hN : f < N) (ht0 : ft ci f o = t0) (hk0 : kd t0 = t) (h14 : 14 ≤ t) (h : tk[i]? = some (t, 1)) (g : 2 * gN σ t0 ≤ gN σ K ∧ 2 ≤ gN σ K) (hl : Cond.fieldLink own j (T f).1 (T f).2.1 (T f).2.2.1 ∈ lw_all) (hd : decode cc pc = .ok (.putfield j, 3)) (hfin : (T f).2.2.2 = false) (ht : ty f = .array et) (hL : rnL t0 K L = L1) (hs : st.map (rnA t0 K) = st1)
    (k : VW cc (own, rv, σo, ret, F, Lc, nL, tko) (P0 tk1) (sw2 σ t0 K) (pc + 3) L1 st1) (h9 : K < 900 := by decide) : VW cc (own, rv, σo, ret, F, Lc, nL, tko) (P0 tk) σ pc L (vO K :: vO o :: st) := by
  subst hK
  subst ht1
  exact v_putA (by unfold KF at h9; omega) htk cf ho.1 ho.2 hf hN ht0 hk0 h14 h g.1 g.2 hl hd hfin ht hL hs k
/-- what is left behind is forgotten -/
def rs (σ : vS) : vS := (σ.1, (fun k => if k < KF then σ.2.1 k else (0, fun _ => 0)), σ.2.2)
theorem v_dr (h0 : ∀ x ∈ tk, x.2 = 0) (htk : ∀ x ∈ tk, 14 ≤ x.1) (hL : LT KF (L.map (fun q => q.2))) (hs : LT KF st) (k : VW cc (own, rv, σo, ret, F, Lc, nL, tko) (P0 []) (rs σ) pc L st) : VW cc (own, rv, σo, ret, F, Lc, nL, tko) (P0 tk) σ pc L st :=
  v_drop (τ := rs σ) h0 htk hL hs rfl rfl (fun k hk => if_pos hk) k
def cpA (σ : vS) (s0 d0 : Nat) (sp dp n : Int) : vS := sA σ d0 ((σ.2.1 d0).1, cpE (σ.2.1 s0).2 (σ.2.1 d0).2 sp dp n)
theorem v_cp {s0 d0 : Nat} {sp dp n : Int} (h1 : 24 ≤ t) (h2 : t ≤ 26) (hso : ok P s0 t) (hdo : ok P d0 t) (rs : rg sp) (rd : rg dp) (rn : rg n) (g : 0 ≤ sp ∧ 0 ≤ dp ∧ 0 ≤ n ∧ sp + n ≤ gN σ s0 ∧ dp + n ≤ gN σ d0) (hF : 1 ≤ F) (hLc : vc8 st + 18 ≤ Lc) (hl : Cond.methodLink own i arraycopyName ∈ lw_all) (hd : decode cc pc = .ok (.invokestatic i, 3))
    (k : VW cc (own, rv, σo, ret, F, Lc, nL, tko) P (cpA σ s0 d0 sp dp n) (pc + 3) L st) : VW cc (own, rv, σo, ret, F, Lc, nL, tko) P σ pc L (vI n :: vI dp :: vO d0 :: vI sp :: vO s0 :: st) :=
  v_copy h1 h2 hso hdo rs rd rn g.1 g.2.1 g.2.2.1 g.2.2.2.1 g.2.2.2.2 hF hLc hl hd k
/-- the array that is there already is put again -/
theorem v_ps (cf : CF ci C T N ty) (ho : ok P o ci) (hf : fk ci f = 2) (hE : P.2.1 o f = true) (ht0 : ft ci f o = t0) (hN : f < N) (hl : Cond.fieldLink own j (T f).1 (T f).2.1 (T f).2.2.1 ∈ lw_all) (hd : decode cc pc = .ok (.putfield j, 3)) (hfin : (T f).2.2.2 = false) (ht : ty f = .array et) (k : VW cc (own, rv, σo, ret, F, Lc, nL, tko) P σ (pc + 3) L st) : VW cc (own, rv, σo, ret, F, Lc, nL, tko) P σ pc L (vO t0 :: vO o :: st) :=
  v_putw (x := vO t0) (τ := σ) cf ho hN hl hd hfin ht (fun _ => rfl) (fun _ => rfl) ⟨rfl, rfl⟩ (fun _ _ => ht0 ▸ vfv_S ho hf hE) (fun _ _ _ _ => rfl) (fun _ _ _ _ => rfl) k
theorem v_max {x y : Int} (hx : rg x) (hy : rg y) (hF : 1 ≤ F) (hLc : vc8 st + 13 ≤ Lc) (hl : Cond.methodLink own i Lib.Math.max.name ∈ lw_all) (hd : decode cc pc = .ok (.invokestatic i, 3)) (k : VW cc (own, rv, σo, ret, F, Lc, nL, tko) P σ (pc + 3) L (vI (max x y) :: st)) : VW cc (own, rv, σo, ret, F, Lc, nL, tko) P σ pc L (vI y :: vI x :: st) := by
  obtain ⟨k0, k⟩ := k
  refine And.intro k0 (fun M hX hR hM hN => ?_)
  have k := k M hX hR hM hN
  obtain ⟨⟨p, l, e, R, s, m, args, below, meth, c⟩, G, A, Q, b, o, nL0, l0, a0⟩ := M
  intro H locs a ls hP hD hS hl1 hj b1 b2
  have k := k H locs a ls hP hD hS hl1 hj b1 b2
  obtain ⟨hx1, hb, hml, hown, hts, hK, hlk, hA, hRc, hRs, hNw⟩ := hX
  obtain ⟨σ0, hq1, hq2, ho, hq3, hq4⟩ := hR
  have ho1 : o.1 = Pc (P0 tko) σo := by rw [ho]
  have ho2 : o.2 = Ps (P0 tko) σo := by rw [ho]
  refine va_mmax hx1 hb (hml.trans hl1.1.symm) hown (hts _ hl) (hts _ q1201) (hts _ q322) (hts _ q1202) (by rw [hM.1]; exact hF) (by rw [vc8_dv, hM.2]; exact hLc) (by rw [ho1] at hRc; omega) (by rw [ho2] at hRs; omega) hd ?_
  have ev : (if Int32.ofInt x < Int32.ofInt y then Int32.ofInt y else Int32.ofInt x) = Int32.ofInt (max x y) := by
    rw [show max x y = if x ≤ y then y else x from rfl]
    simp only [i32_lt hx hy]
    by_cases z : x < y
    · rw [if_pos z, if_pos (by omega)]
    · rw [if_neg z]
      by_cases z2 : x ≤ y
      · rw [if_pos z2, show x = y by omega]
      · rw [if_neg z2]
  rw [ev]
  exact k
theorem v_min {x y : Int} (hx : rg x) (hy : rg y) (hF : 1 ≤ F) (hLc : vc8 st + 13 ≤ Lc) (hl : Cond.methodLink own i Lib.Math.min.name ∈ lw_all) (hd : decode cc pc = .ok (.invokestatic i, 3)) (k : VW cc (own, rv, σo, ret, F, Lc, nL, tko) P σ (pc + 3) L (vI (min x y) :: st)) : VW cc (own, rv, σo, ret, F, Lc, nL, tko) P σ pc L (vI y :: vI x :: st) := by
  obtain ⟨k0, k⟩ := k
  refine And.intro k0 (fun M hX hR hM hN => ?_)
  have k := k M hX hR hM hN
  obtain ⟨⟨p, l, e, R, s, m, args, below, meth, c⟩, G, A, Q, b, o, nL0, l0, a0⟩ := M
  intro H locs a ls hP hD hS hl1 hj b1 b2
  have k := k H locs a ls hP hD hS hl1 hj b1 b2
  obtain ⟨hx1, hb, hml, hown, hts, hK, hlk, hA, hRc, hRs, hNw⟩ := hX
  obtain ⟨σ0, hq1, hq2, ho, hq3, hq4⟩ := hR
  have ho1 : o.1 = Pc (P0 tko) σo := by rw [ho]
  have ho2 : o.2 = Ps (P0 tko) σo := by rw [ho]
  refine va_mmin hx1 hb (hml.trans hl1.1.symm) hown (hts _ hl) (hts _ q1204) (hts _ q322) (hts _ q1205) (by rw [hM.1]; exact hF) (by rw [vc8_dv, hM.2]; exact hLc) (by rw [ho1] at hRc; omega) (by rw [ho2] at hRs; omega) hd ?_
  have ev : (if Int32.ofInt y < Int32.ofInt x then Int32.ofInt y else Int32.ofInt x) = Int32.ofInt (min x y) := by
    rw [show min x y = if x ≤ y then x else y from rfl]
    simp only [i32_lt hy hx]
    by_cases z : y < x
    · rw [if_pos z, if_neg (by omega)]
    · rw [if_neg z, if_pos (by omega)]
  rw [ev]
  exact k
end
theorem max_rg {x y : Int} (hx : rg x) (hy : rg y) : rg (max x y) := by unfold rg at *; omega
theorem min_rg {x y : Int} (hx : rg x) (hy : rg y) : rg (min x y) := by unfold rg at *; omega
/-- static children of objects of classes with several objects -/
def chOk (c f k : Nat) : Bool := (List.range KF).all fun o => decide (kd o ≠ c) || (decide (ft c f o < KF) && decide (kd (ft c f o) = k))
theorem ch_of {c f k o : Nat} (hc : chOk c f k = true) (h : okB o c) : okB (ft c f o) k := by
  have h1 := List.all_eq_true.mp hc o (List.mem_range.mpr h.1)
  simp only [Bool.or_eq_true, Bool.and_eq_true, decide_eq_true_eq] at h1
  rcases h1 with h1 | h1
  · exact absurd h.2 h1
  · exact h1
theorem ch_1_0 {o : Nat} (h : okB o 1) : okB (o + 1) 25 := ch_of (c := 1) (f := 0) (k := 25) (by decide +kernel) h
theorem ch_6_0 {o : Nat} (h : okB o 6) : okB (o + 1) 24 := ch_of (c := 6) (f := 0) (k := 24) (by decide +kernel) h
theorem ch_8_1 {o : Nat} (h : okB o 8) : okB (o + 1) 24 := ch_of (c := 8) (f := 1) (k := 24) (by decide +kernel) h
theorem ch_8_2 {o : Nat} (h : okB o 8) : okB (o + 2) 24 := ch_of (c := 8) (f := 2) (k := 24) (by decide +kernel) h
theorem ch_10_0 {o : Nat} (h : okB o 10) : okB (ft 10 0 o) 6 := ch_of (c := 10) (f := 0) (k := 6) (by decide +kernel) h
theorem ch_7_9 {o : Nat} (h : okB o 7) : okB (o + 1) 1 := ch_of (c := 7) (f := 9) (k := 1) (by decide +kernel) h
theorem one_0 {k : Nat} (h : okB k 0) : k = 0 := by
  have h1 := List.all_eq_true.mp (show ((List.range KF).all fun q => decide (kd q ≠ 0) || decide (q = 0)) = true by decide +kernel) k (List.mem_range.mpr h.1)
  simp only [Bool.or_eq_true, decide_eq_true_eq] at h1
  rcases h1 with h1 | h1
  · exact absurd h.2 h1
  · exact h1
theorem one_2 {k : Nat} (h : okB k 2) : k = 5 := by
  have h1 := List.all_eq_true.mp (show ((List.range KF).all fun q => decide (kd q ≠ 2) || decide (q = 5)) = true by decide +kernel) k (List.mem_range.mpr h.1)
  simp only [Bool.or_eq_true, decide_eq_true_eq] at h1
  rcases h1 with h1 | h1
  · exact absurd h.2 h1
  · exact h1
theorem one_3 {k : Nat} (h : okB k 3) : k = 10 := by
  have h1 := List.all_eq_true.mp (show ((List.range KF).all fun q => decide (kd q ≠ 3) || decide (q = 10)) = true by decide +kernel) k (List.mem_range.mpr h.1)
  simp only [Bool.or_eq_true, decide_eq_true_eq] at h1
  rcases h1 with h1 | h1
  · exact absurd h.2 h1
  · exact h1
theorem one_4 {k : Nat} (h : okB k 4) : k = 12 := by
  have h1 := List.all_eq_true.mp (show ((List.range KF).all fun q => decide (kd q ≠ 4) || decide (q = 12)) = true by decide +kernel) k (List.mem_range.mpr h.1)
  simp only [Bool.or_eq_true, decide_eq_true_eq] at h1
  rcases h1 with h1 | h1
  · exact absurd h.2 h1
  · exact h1
theorem one_5 {k : Nat} (h : okB k 5) : k = 13 := by
  have h1 := List.all_eq_true.mp (show ((List.range KF).all fun q => decide (kd q ≠ 5) || decide (q = 13)) = true by decide +kernel) k (List.mem_range.mpr h.1)
  simp only [Bool.or_eq_true, decide_eq_true_eq] at h1
  rcases h1 with h1 | h1
  · exact absurd h.2 h1
  · exact h1
theorem one_9 {k : Nat} (h : okB k 9) : k = 28 := by
  have h1 := List.all_eq_true.mp (show ((List.range KF).all fun q => decide (kd q ≠ 9) || decide (q = 28)) = true by decide +kernel) k (List.mem_range.mpr h.1)
  simp only [Bool.or_eq_true, decide_eq_true_eq] at h1
  rcases h1 with h1 | h1
  · exact absurd h.2 h1
  · exact h1
theorem one_11 {k : Nat} (h : okB k 11) : k = 44 := by
  have h1 := List.all_eq_true.mp (show ((List.range KF).all fun q => decide (kd q ≠ 11) || decide (q = 44)) = true by decide +kernel) k (List.mem_range.mpr h.1)
  simp only [Bool.or_eq_true, decide_eq_true_eq] at h1
  rcases h1 with h1 | h1
  · exact absurd h.2 h1
  · exact h1
theorem one_12 {k : Nat} (h : okB k 12) : k = 54 := by
  have h1 := List.all_eq_true.mp (show ((List.range KF).all fun q => decide (kd q ≠ 12) || decide (q = 54)) = true by decide +kernel) k (List.mem_range.mpr h.1)
  simp only [Bool.or_eq_true, decide_eq_true_eq] at h1
  rcases h1 with h1 | h1
  · exact absurd h.2 h1
  · exact h1
theorem one_13 {k : Nat} (h : okB k 13) : k = 87 := by
  have h1 := List.all_eq_true.mp (show ((List.range KF).all fun q => decide (kd q ≠ 13) || decide (q = 87)) = true by decide +kernel) k (List.mem_range.mpr h.1)
  simp only [Bool.or_eq_true, decide_eq_true_eq] at h1
  rcases h1 with h1 | h1
  · exact absurd h.2 h1
  · exact h1
