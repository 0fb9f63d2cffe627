set_option maxRecDepth 100000 set_option linter.unusedVariables false set_option linter.unusedSimpArgs false
/-! PURE 54: the model's grammar: its lexemes, its numbers -/
/-- the model's kinds of lexemes; K_END behind the last one -/
def kz (L : Lx) (a : Int) : Int := if 0 ≤ a ∧ a < L.length then km (kdL L a) else 0
/-- lexemes of a text that is not long -/
def wL (L : Lx) (k : Nat) : Nat := (enL L k - (L.getD k (0, 0, 0)).2.1 + 2).toNat
def LH (L : Lx) (X : List Int) : Prop := X.length ≤ 2000 ∧ L.length ≤ 2000 ∧ sumTo L.length (wL L) ≤ 6000 ∧ (∀ k : Int, 0 ≤ k → k < L.length → 0 ≤ (L.getD k.toNat (0, 0, 0)).2.1 ∧ (L.getD k.toNat (0, 0, 0)).2.1 < enL L k ∧ enL L k ≤ X.length ∧ (kdL L k = 2 → ∀ i : Int, (L.getD k.toNat (0, 0, 0)).2.1 ≤ i → i < enL L k → cDg (cha X i))) ∧ (∀ k : Int, 0 ≤ k → k < L.length → 0 ≤ kdL L k)
def LXM (L : Lx) (X : List Int) (s : vS) : Prop := MxT s X ∧ gI s 87 15 = L.length ∧ L.length + 4 ≤ gN s 94 ∧ gN s 95 = gN s 94 ∧ gN s 96 = gN s 94 ∧ (∀ i : Int, 0 ≤ i → i ≤ L.length → gE s 94 i = kz L i ∧ gE s 95 i = stL' L X i ∧ (i < L.length → gE s 96 i = enL L i))
def strT : List Int := [44, 64, 76, 97, 42, 52, 66, 59, 50, 78, 98, 54, 116, 77, 62, 80, 108, 41, 68, 91, 47, 69, 71, 81, 86, 104, 107, 113, 114, 115]
def STR (s : vS) : Prop := gN s 89 = 30 ∧ ∀ i : Int, 0 ≤ i → i < 30 → gE s 89 i = strT.getD i.toNat 0
/-- how many bytes the numbers of lexemes have, how many numbers -/
def nBy (L : Lx) (s : vS) (k : Nat) : Nat := (if 0 ≤ gE s 150 k then wL L k else 0) + (if 0 ≤ gE s 151 k then wL L k else 0)
def nCt (s : vS) (k : Nat) : Nat := (if 0 ≤ gE s 150 k then 1 else 0) + (if 0 ≤ gE s 151 k then 1 else 0)
def NV (L : Lx) (X : List Int) (E : Nat) (V : List Int) (s : vS) : Prop := MN s V ∧ CA s X V L.length ∧ 1024 ≤ gN s 152 ∧ gN s 152 ≤ 8200 ∧ gI s 87 85 ≤ (sumTo L.length (nBy L s) + 4 * E : Nat) ∧ V.length ≤ sumTo L.length (nCt s) + E ∧ gN s 149 ≤ 200000 ∧ gN s 147 ≤ 50000
theorem sumTo_mul2 {n : Nat} {f : Nat → Nat} : sumTo n (fun k => f k + f k) = 2 * sumTo n f := by
  induction n with
  | zero => rfl
  | succ n ih => rw [sumTo_succ, sumTo_succ, ih]; omega
theorem sumTo_c {n c : Nat} : sumTo n (fun _ => c) = n * c := by
  induction n with
  | zero => simp [sumTo]
  | succ n ih => rw [sumTo_succ, ih, Nat.succ_mul]
theorem nBy_le {L : Lx} {X : List Int} (h : LH L X) (s : vS) : sumTo L.length (nBy L s) ≤ 12000 := by
  have h1 : sumTo L.length (nBy L s) ≤ sumTo L.length (fun k => wL L k + wL L k) := sumTo_le (fun k _ => by unfold nBy; split <;> split <;> omega)
  rw [sumTo_mul2] at h1
  have := h.2.2.1
  omega
theorem nCt_le {L : Lx} {X : List Int} (h : LH L X) (s : vS) : sumTo L.length (nCt s) ≤ 4000 := by
  have h1 : sumTo L.length (nCt s) ≤ sumTo L.length (fun _ => 2) := sumTo_le (fun k _ => by unfold nCt; split <;> split <;> omega)
  rw [sumTo_c] at h1
  have := h.2.1
  omega
theorem NV.fr {L : Lx} {X V : List Int} {E : Nat} {s t : vS} (h : NV L X E V s) {W : List Nat} (hf : Fr W s t) (hW : ∀ c ∈ [87084, 87085, 95998, 95999, 96998, 96999, 147998, 147999, 148998, 148999, 149998, 149999, 150998, 150999, 151998, 151999, 152998], c ∉ W) : NV L X E V t := by
  have q := fun c (z : c ∈ [87084, 87085, 95998, 95999, 96998, 96999, 147998, 147999, 148998, 148999, 149998, 149999, 150998, 150999, 151998, 151999, 152998]) => hW c z
  simp only [List.mem_cons, List.not_mem_nil, or_false] at q
  obtain ⟨h1, h2, h3, h4, h5, h6, h7, h8⟩ := h
  have i4 : gI t 87 84 = gI s 87 84 := hf.rI (q _ (by omega))
  have i5 : gI t 87 85 = gI s 87 85 := hf.rI (q _ (by omega))
  have n5 : gN t 95 = gN s 95 := hf.rN (by decide) (q _ (by omega))
  have n6 : gN t 96 = gN s 96 := hf.rN (by decide) (q _ (by omega))
  have n7 : gN t 147 = gN s 147 := hf.rN (by decide) (q _ (by omega))
  have n8 : gN t 148 = gN s 148 := hf.rN (by decide) (q _ (by omega))
  have n9 : gN t 149 = gN s 149 := hf.rN (by decide) (q _ (by omega))
  have n50 : gN t 150 = gN s 150 := hf.rN (by decide) (q _ (by omega))
  have n51 : gN t 151 = gN s 151 := hf.rN (by decide) (q _ (by omega))
  have n52 : gN t 152 = gN s 152 := hf.rN (by decide) (q _ (by omega))
  have e5 : gE t 95 = gE s 95 := hf.rE (by decide) (q _ (by omega))
  have e6 : gE t 96 = gE s 96 := hf.rE (by decide) (q _ (by omega))
  have e7 : gE t 147 = gE s 147 := hf.rE (by decide) (q _ (by omega))
  have e8 : gE t 148 = gE s 148 := hf.rE (by decide) (q _ (by omega))
  have e9 : gE t 149 = gE s 149 := hf.rE (by decide) (q _ (by omega))
  have e50 : gE t 150 = gE s 150 := hf.rE (by decide) (q _ (by omega))
  have e51 : gE t 151 = gE s 151 := hf.rE (by decide) (q _ (by omega))
  refine ⟨MN_cong h1 i4 i5 n7 n8 n9 e7 e8 (fun i _ => by rw [e9]), ?_, by rw [n52]; exact h3, by rw [n52]; exact h4, ?_, ?_, by rw [n9]; exact h7, by rw [n7]; exact h8⟩
  · unfold CA; rw [n50, n51, n5, n6, e50, e51, e5, e6]; exact h2
  · rw [i5]
    have : nBy L t = nBy L s := by unfold nBy; rw [e50, e51]
    rw [this]; exact h5
  · have : nCt t = nCt s := by unfold nCt; rw [e50, e51]
    rw [this]; exact h6
theorem LXM.fr {L : Lx} {X : List Int} {s t : vS} (h : LXM L X s) {W : List Nat} (hf : Fr W s t) (hW : ∀ c ∈ [87013, 87015, 93998, 93999, 94998, 94999, 95998, 95999, 96998, 96999], c ∉ W) : LXM L X t := by
  have q := fun c (z : c ∈ [87013, 87015, 93998, 93999, 94998, 94999, 95998, 95999, 96998, 96999]) => hW c z
  simp only [List.mem_cons, List.not_mem_nil, or_false] at q
  obtain ⟨⟨a1, a2, a3, a4, a5⟩, h2, h3, h4, h5, h6⟩ := h
  have i3 : gI t 87 13 = gI s 87 13 := hf.rI (q _ (by omega))
  have i5 : gI t 87 15 = gI s 87 15 := hf.rI (q _ (by omega))
  have n3 : gN t 93 = gN s 93 := hf.rN (by decide) (q _ (by omega))
  have n4 : gN t 94 = gN s 94 := hf.rN (by decide) (q _ (by omega))
  have n5 : gN t 95 = gN s 95 := hf.rN (by decide) (q _ (by omega))
  have n6 : gN t 96 = gN s 96 := hf.rN (by decide) (q _ (by omega))
  have e3 : gE t 93 = gE s 93 := hf.rE (by decide) (q _ (by omega))
  have e4 : gE t 94 = gE s 94 := hf.rE (by decide) (q _ (by omega))
  have e5 : gE t 95 = gE s 95 := hf.rE (by decide) (q _ (by omega))
  have e6 : gE t 96 = gE s 96 := hf.rE (by decide) (q _ (by omega))
  exact ⟨⟨by rw [i3]; exact a1, a2, by rw [n3]; exact a3, by rw [e3]; exact a4, a5⟩, by rw [i5]; exact h2, by rw [n4]; exact h3, by rw [n5, n4]; exact h4, by rw [n6, n4]; exact h5, by rw [e4, e5, e6]; exact h6⟩
theorem STR.fr {s t : vS} (h : STR s) {W : List Nat} (hf : Fr W s t) (h1 : 89998 ∉ W) (h2 : 89999 ∉ W) : STR t := by
  unfold STR; rw [hf.rN (by decide) h1, hf.rE (by decide) h2]; exact h
/-- a lexeme's number -/
theorem NV.numberOf {L : Lx} {X V : List Int} {E : Nat} {s : vS} (hH : LH L X) (hE : E ≤ 8000) (hL : LXM L X s) (h : NV L X E V s) {x m : Int} (hx : 0 ≤ x) (hk : kdL L x = 2) (hm : m = 0 ∨ m = 1) : wpo (f_X14_numberOf x m s) (fun q => ∃ V', (V' = V ∨ ∃ z, V' = V ++ [z]) ∧ NV L X E V' q.2 ∧ 0 ≤ q.1 ∧ q.1 < V'.length ∧ V'.getD q.1.toNat 0 = (if m = 0 then dvL L X x else -dvL L X x) ∧ Fr W_f_X14_numberOf s q.2) := by
  obtain ⟨h1, h2, h3, h4, h5, h6, h7, h8⟩ := h
  obtain ⟨g1, g2, g3, g4, g5⟩ := hH
  have hH : LH L X := ⟨g1, g2, g3, g4, g5⟩
  have xl : x < L.length := by
    unfold kdL at hk
    by_cases c : 0 ≤ x ∧ x < L.length
    · exact c.2
    · rw [if_neg c] at hk; omega
  obtain ⟨k1, k2, k3, k4⟩ := g4 x hx xl
  have k4 := k4 hk
  obtain ⟨e1, e2, e3⟩ := hL.2.2.2.2.2 x hx (by omega)
  have e3 := e3 xl
  have es : stL' L X x = (L.getD x.toNat (0, 0, 0)).2.1 := by unfold stL'; rw [if_pos ⟨hx, xl⟩]
  rw [es] at e2
  have b1 := nBy_le hH s
  have b2 := nCt_le hH s
  have wx : wL L x.toNat = (enL L x - (L.getD x.toNat (0, 0, 0)).2.1 + 2).toNat := by
    unfold wL; rw [Int.toNat_of_nonneg hx]
  refine wpo.mono (X14_numberOf (V := V) hL.1 h1 h2 (by omega) hx xl e2 e3 k1 (by omega) k3 k4 h3 (by omega) (by omega) hm) ?_
  rintro ⟨r, t⟩ ⟨V', p1, p2, p3, p4, p5, p6, p7, p8, p9, p10, p11⟩
  simp only at p2 p3 p4 p5 p6 p7 p8 p9 p10 p11
  refine ⟨V', p1, (?_ : NV L X E V' t), p4, p5, p6, p11⟩
  rcases p10 with ⟨q1, q2⟩ | ⟨⟨z, q1⟩, q2, q3, q4, q5, q6⟩ | ⟨⟨z, q1⟩, q2, q3, q4, q5, q6⟩
  · rw [q1, q2]; exact ⟨h1, h2, h3, h4, h5, h6, h7, h8⟩
  · have s1 := sumTo_one (n := L.length) (f := nBy L t) (g := nBy L s) (j := x.toNat) (by omega) (fun k hk => by unfold nBy; rw [q5 k (by omega), q6])
    have s2 := sumTo_one (n := L.length) (f := nCt t) (g := nCt s) (j := x.toNat) (by omega) (fun k hk => by unfold nCt; rw [q5 k (by omega), q6])
    have c1 : nBy L t x.toNat = nBy L s x.toNat + wL L x.toNat := by
      unfold nBy; rw [Int.toNat_of_nonneg hx, q6, if_pos q4, if_neg (show ¬(0 ≤ gE s 150 x) by omega)]; try omega
    have c2 : nCt t x.toNat = nCt s x.toNat + 1 := by
      unfold nCt; rw [Int.toNat_of_nonneg hx, q6, if_pos q4, if_neg (show ¬(0 ≤ gE s 150 x) by omega)]; try omega
    have lv : V'.length = V.length + 1 := by rw [q1, List.length_append]; rfl
    obtain ⟨nb1, nb2, nb3, nb4⟩ := p7
    exact ⟨p2, p3, p8, by omega, by omega, by omega, by omega, by omega⟩
  · have s1 := sumTo_one (n := L.length) (f := nBy L t) (g := nBy L s) (j := x.toNat) (by omega) (fun k hk => by unfold nBy; rw [q5 k (by omega), q6])
    have s2 := sumTo_one (n := L.length) (f := nCt t) (g := nCt s) (j := x.toNat) (by omega) (fun k hk => by unfold nCt; rw [q5 k (by omega), q6])
    have c1 : nBy L t x.toNat = nBy L s x.toNat + wL L x.toNat := by
      unfold nBy; rw [Int.toNat_of_nonneg hx, q6, if_pos q4, if_neg (show ¬(0 ≤ gE s 151 x) by omega)]; try omega
    have c2 : nCt t x.toNat = nCt s x.toNat + 1 := by
      unfold nCt; rw [Int.toNat_of_nonneg hx, q6, if_pos q4, if_neg (show ¬(0 ≤ gE s 151 x) by omega)]; try omega
    have lv : V'.length = V.length + 1 := by rw [q1, List.length_append]; rfl
    obtain ⟨nb1, nb2, nb3, nb4⟩ := p7
    exact ⟨p2, p3, p8, by omega, by omega, by omega, by omega, by omega⟩
/-- kinds of both -/
def kmi (c : Int) : Int := if 40 ≤ c then c + 60 else if c = 2 then 0 else if c = 1 then 1 else if c = 3 then 2 else if c = 4 then 3 else if c = 5 then 4 else if c = 6 then 5 else if c = 7 then 10 else if c = 8 then 11 else if c = 9 then 12 else if c = 10 then 13 else if c = 11 then 14 else if c = 12 then 15 else if c = 13 then 16 else if c = 14 then 17 else if c = 15 then 18 else if c = 16 then 19 else if c = 17 then 20 else if c = 18 then 21 else if c = 21 then 24 else if c = 19 then 25 else if c = 20 then 26 else -5
theorem kmi_km (k : Int) (h : km k ≠ 22) : kmi (km k) = k := by
  by_cases c0 : k = 0
  · rw [c0]; decide
  by_cases c1 : k = 1
  · rw [c1]; decide
  by_cases c2 : k = 2
  · rw [c2]; decide
  by_cases c3 : k = 3
  · rw [c3]; decide
  by_cases c4 : k = 4
  · rw [c4]; decide
  by_cases c5 : k = 5
  · rw [c5]; decide
  by_cases c10 : k = 10
  · rw [c10]; decide
  by_cases c11 : k = 11
  · rw [c11]; decide
  by_cases c12 : k = 12
  · rw [c12]; decide
  by_cases c13 : k = 13
  · rw [c13]; decide
  by_cases c14 : k = 14
  · rw [c14]; decide
  by_cases c15 : k = 15
  · rw [c15]; decide
  by_cases c16 : k = 16
  · rw [c16]; decide
  by_cases c17 : k = 17
  · rw [c17]; decide
  by_cases c18 : k = 18
  · rw [c18]; decide
  by_cases c19 : k = 19
  · rw [c19]; decide
  by_cases c20 : k = 20
  · rw [c20]; decide
  by_cases c21 : k = 21
  · rw [c21]; decide
  by_cases c24 : k = 24
  · rw [c24]; decide
  by_cases c25 : k = 25
  · rw [c25]; decide
  by_cases c26 : k = 26
  · rw [c26]; decide
  by_cases z : 100 ≤ k
  · have e : km k = k - 60 := by unfold km; simp only [c0, c1, c2, c3, c4, c5, c10, c11, c12, c13, c14, c15, c16, c17, c18, c19, c20, c21, c24, c25, c26, z, if_false, if_true]
    rw [e]; unfold kmi; rw [if_pos (by omega)]; omega
  · exact absurd (by unfold km; simp only [c0, c1, c2, c3, c4, c5, c10, c11, c12, c13, c14, c15, c16, c17, c18, c19, c20, c21, c24, c25, c26, z, if_false]) h
theorem km_pos (k : Int) : km k ≠ 0 := by
  by_cases c0 : k = 0
  · rw [c0]; decide
  by_cases c1 : k = 1
  · rw [c1]; decide
  by_cases c2 : k = 2
  · rw [c2]; decide
  by_cases c3 : k = 3
  · rw [c3]; decide
  by_cases c4 : k = 4
  · rw [c4]; decide
  by_cases c5 : k = 5
  · rw [c5]; decide
  by_cases c10 : k = 10
  · rw [c10]; decide
  by_cases c11 : k = 11
  · rw [c11]; decide
  by_cases c12 : k = 12
  · rw [c12]; decide
  by_cases c13 : k = 13
  · rw [c13]; decide
  by_cases c14 : k = 14
  · rw [c14]; decide
  by_cases c15 : k = 15
  · rw [c15]; decide
  by_cases c16 : k = 16
  · rw [c16]; decide
  by_cases c17 : k = 17
  · rw [c17]; decide
  by_cases c18 : k = 18
  · rw [c18]; decide
  by_cases c19 : k = 19
  · rw [c19]; decide
  by_cases c20 : k = 20
  · rw [c20]; decide
  by_cases c21 : k = 21
  · rw [c21]; decide
  by_cases c24 : k = 24
  · rw [c24]; decide
  by_cases c25 : k = 25
  · rw [c25]; decide
  by_cases c26 : k = 26
  · rw [c26]; decide
  by_cases z : 100 ≤ k
  · have e : km k = k - 60 := by unfold km; simp only [c0, c1, c2, c3, c4, c5, c10, c11, c12, c13, c14, c15, c16, c17, c18, c19, c20, c21, c24, c25, c26, z, if_false, if_true]
    omega
  · have e : km k = 22 := by unfold km; simp only [c0, c1, c2, c3, c4, c5, c10, c11, c12, c13, c14, c15, c16, c17, c18, c19, c20, c21, c24, c25, c26, z, if_false]
    omega
theorem kd_iff {L : Lx} {a K c : Int} (hc : km K = c) (h22 : c ≠ 22) (hK : K ≠ -1) : (kdL L a = K) = (kz L a = c) := by
  refine propext ⟨fun h => ?_, fun h => ?_⟩
  · have q : 0 ≤ a ∧ a < L.length := by
      unfold kdL at h
      by_cases z : 0 ≤ a ∧ a < L.length
      · exact z
      · rw [if_neg z] at h; exact absurd h.symm hK
    unfold kz
    rw [if_pos q, h, hc]
  · unfold kz at h
    by_cases z : 0 ≤ a ∧ a < L.length
    · rw [if_pos z] at h
      have e1 := kmi_km (kdL L a) (by omega)
      have e2 := kmi_km K (by omega)
      rw [← e1, h, ← hc, e2]
    · rw [if_neg z] at h
      exact absurd (hc.trans h.symm) (km_pos K)
theorem kz_in {L : Lx} {a c : Int} (h : kz L a = c) (h0 : c ≠ 0) : 0 ≤ a ∧ a < L.length := by
  unfold kz at h
  by_cases z : 0 ≤ a ∧ a < L.length
  · exact z
  · rw [if_neg z] at h; exact absurd h.symm h0
theorem kd_end {L : Lx} {X : List Int} (h : LH L X) {a : Int} : (kdL L a = -1) = (kz L a = 0) := by
  refine propext ⟨fun q => ?_, fun q => ?_⟩
  · unfold kz
    by_cases z : 0 ≤ a ∧ a < L.length
    · have := h.2.2.2.2 a z.1 z.2; omega
    · rw [if_neg z]
  · unfold kdL
    by_cases z : 0 ≤ a ∧ a < L.length
    · exfalso; unfold kz at q; rw [if_pos z] at q; exact km_pos _ q
    · rw [if_neg z]
theorem kd_0 {L : Lx} {a : Int} : (kdL L a = 0) = (kz L a = 2) := kd_iff (by decide) (by decide) (by decide)
theorem kd_1 {L : Lx} {a : Int} : (kdL L a = 1) = (kz L a = 1) := kd_iff (by decide) (by decide) (by decide)
theorem kd_2 {L : Lx} {a : Int} : (kdL L a = 2) = (kz L a = 3) := kd_iff (by decide) (by decide) (by decide)
theorem kd_3 {L : Lx} {a : Int} : (kdL L a = 3) = (kz L a = 4) := kd_iff (by decide) (by decide) (by decide)
theorem kd_4 {L : Lx} {a : Int} : (kdL L a = 4) = (kz L a = 5) := kd_iff (by decide) (by decide) (by decide)
theorem kd_5 {L : Lx} {a : Int} : (kdL L a = 5) = (kz L a = 6) := kd_iff (by decide) (by decide) (by decide)
theorem kd_10 {L : Lx} {a : Int} : (kdL L a = 10) = (kz L a = 7) := kd_iff (by decide) (by decide) (by decide)
theorem kd_12 {L : Lx} {a : Int} : (kdL L a = 12) = (kz L a = 9) := kd_iff (by decide) (by decide) (by decide)
theorem kd_15 {L : Lx} {a : Int} : (kdL L a = 15) = (kz L a = 12) := kd_iff (by decide) (by decide) (by decide)
theorem kd_16 {L : Lx} {a : Int} : (kdL L a = 16) = (kz L a = 13) := kd_iff (by decide) (by decide) (by decide)
theorem kd_17 {L : Lx} {a : Int} : (kdL L a = 17) = (kz L a = 14) := kd_iff (by decide) (by decide) (by decide)
theorem kd_18 {L : Lx} {a : Int} : (kdL L a = 18) = (kz L a = 15) := kd_iff (by decide) (by decide) (by decide)
theorem kd_19 {L : Lx} {a : Int} : (kdL L a = 19) = (kz L a = 16) := kd_iff (by decide) (by decide) (by decide)
theorem kd_20 {L : Lx} {a : Int} : (kdL L a = 20) = (kz L a = 17) := kd_iff (by decide) (by decide) (by decide)
theorem kd_21 {L : Lx} {a : Int} : (kdL L a = 21) = (kz L a = 18) := kd_iff (by decide) (by decide) (by decide)
theorem kd_24 {L : Lx} {a : Int} : (kdL L a = 24) = (kz L a = 21) := kd_iff (by decide) (by decide) (by decide)
theorem kd_25 {L : Lx} {a : Int} : (kdL L a = 25) = (kz L a = 19) := kd_iff (by decide) (by decide) (by decide)
theorem kd_103 {L : Lx} {a : Int} : (kdL L a = 103) = (kz L a = 43) := kd_iff (by decide) (by decide) (by decide)
theorem kd_105 {L : Lx} {a : Int} : (kdL L a = 105) = (kz L a = 45) := kd_iff (by decide) (by decide) (by decide)
theorem kd_106 {L : Lx} {a : Int} : (kdL L a = 106) = (kz L a = 46) := kd_iff (by decide) (by decide) (by decide)
theorem kd_108 {L : Lx} {a : Int} : (kdL L a = 108) = (kz L a = 48) := kd_iff (by decide) (by decide) (by decide)
theorem kd_111 {L : Lx} {a : Int} : (kdL L a = 111) = (kz L a = 51) := kd_iff (by decide) (by decide) (by decide)
theorem kd_116 {L : Lx} {a : Int} : (kdL L a = 116) = (kz L a = 56) := kd_iff (by decide) (by decide) (by decide)
theorem kd_118 {L : Lx} {a : Int} : (kdL L a = 118) = (kz L a = 58) := kd_iff (by decide) (by decide) (by decide)
theorem kd_120 {L : Lx} {a : Int} : (kdL L a = 120) = (kz L a = 60) := kd_iff (by decide) (by decide) (by decide)
theorem kd_121 {L : Lx} {a : Int} : (kdL L a = 121) = (kz L a = 61) := kd_iff (by decide) (by decide) (by decide)
theorem kd_123 {L : Lx} {a : Int} : (kdL L a = 123) = (kz L a = 63) := kd_iff (by decide) (by decide) (by decide)
theorem kd_127 {L : Lx} {a : Int} : (kdL L a = 127) = (kz L a = 67) := kd_iff (by decide) (by decide) (by decide)
theorem kd_130 {L : Lx} {a : Int} : (kdL L a = 130) = (kz L a = 70) := kd_iff (by decide) (by decide) (by decide)
theorem kd_132 {L : Lx} {a : Int} : (kdL L a = 132) = (kz L a = 72) := kd_iff (by decide) (by decide) (by decide)
theorem kd_133 {L : Lx} {a : Int} : (kdL L a = 133) = (kz L a = 73) := kd_iff (by decide) (by decide) (by decide)
theorem kd_134 {L : Lx} {a : Int} : (kdL L a = 134) = (kz L a = 74) := kd_iff (by decide) (by decide) (by decide)
theorem kd_139 {L : Lx} {a : Int} : (kdL L a = 139) = (kz L a = 79) := kd_iff (by decide) (by decide) (by decide)
theorem kd_142 {L : Lx} {a : Int} : (kdL L a = 142) = (kz L a = 82) := kd_iff (by decide) (by decide) (by decide)
theorem kd_143 {L : Lx} {a : Int} : (kdL L a = 143) = (kz L a = 83) := kd_iff (by decide) (by decide) (by decide)
theorem kd_145 {L : Lx} {a : Int} : (kdL L a = 145) = (kz L a = 85) := kd_iff (by decide) (by decide) (by decide)
theorem kd_147 {L : Lx} {a : Int} : (kdL L a = 147) = (kz L a = 87) := kd_iff (by decide) (by decide) (by decide)
theorem kd_148 {L : Lx} {a : Int} : (kdL L a = 148) = (kz L a = 88) := kd_iff (by decide) (by decide) (by decide)
theorem kd_149 {L : Lx} {a : Int} : (kdL L a = 149) = (kz L a = 89) := kd_iff (by decide) (by decide) (by decide)
theorem kd_150 {L : Lx} {a : Int} : (kdL L a = 150) = (kz L a = 90) := kd_iff (by decide) (by decide) (by decide)
theorem kd_155 {L : Lx} {a : Int} : (kdL L a = 155) = (kz L a = 95) := kd_iff (by decide) (by decide) (by decide)
theorem kd_156 {L : Lx} {a : Int} : (kdL L a = 156) = (kz L a = 96) := kd_iff (by decide) (by decide) (by decide)
theorem kd_159 {L : Lx} {a : Int} : (kdL L a = 159) = (kz L a = 99) := kd_iff (by decide) (by decide) (by decide)
theorem kd_160 {L : Lx} {a : Int} : (kdL L a = 160) = (kz L a = 100) := kd_iff (by decide) (by decide) (by decide)
theorem kd_161 {L : Lx} {a : Int} : (kdL L a = 161) = (kz L a = 101) := kd_iff (by decide) (by decide) (by decide)
theorem kd_162 {L : Lx} {a : Int} : (kdL L a = 162) = (kz L a = 102) := kd_iff (by decide) (by decide) (by decide)
theorem kd_165 {L : Lx} {a : Int} : (kdL L a = 165) = (kz L a = 105) := kd_iff (by decide) (by decide) (by decide)
theorem kd_166 {L : Lx} {a : Int} : (kdL L a = 166) = (kz L a = 106) := kd_iff (by decide) (by decide) (by decide)
theorem kd_170 {L : Lx} {a : Int} : (kdL L a = 170) = (kz L a = 110) := kd_iff (by decide) (by decide) (by decide)
theorem kd_171 {L : Lx} {a : Int} : (kdL L a = 171) = (kz L a = 111) := kd_iff (by decide) (by decide) (by decide)
theorem kd_172 {L : Lx} {a : Int} : (kdL L a = 172) = (kz L a = 112) := kd_iff (by decide) (by decide) (by decide)
