set_option maxRecDepth 100000 set_option linter.unusedVariables false set_option linter.unusedSimpArgs false
/-! PURE 61d: all elements of the class -/
def bndS (D : List Int) : List (Int × Int × Int) → Int
  | [] => D.length
  | x :: _ => x.2.2
/-- open elements lie in each other, behind where it is -/
def SIk (D : List Int) (a : Int) : List (Int × Int × Int) → Prop
  | [] => a ≤ D.length
  | x :: r => a ≤ x.2.2 ∧ x.2.2 ≤ bndS D r ∧ (x.2.1 = -1 ∨ x.2.1 = x.2.2) ∧ SIk D a r
theorem SIk.le {D : List Int} {a : Int} : ∀ {l : List (Int × Int × Int)}, SIk D a l → a ≤ bndS D l ∧ bndS D l ≤ D.length
  | [], h => ⟨h, Int.le_refl _⟩
  | x :: r, h => ⟨h.1, by have := h.2.2.2.le; have := h.2.1; show x.2.2 ≤ _; omega⟩
theorem SIk.mono {D : List Int} {a b : Int} : ∀ {l : List (Int × Int × Int)}, SIk D a l → b ≤ bndS D l → SIk D b l
  | [], _, hb => hb
  | x :: r, h, hb => by
    have hb : b ≤ x.2.2 := hb
    exact ⟨hb, h.2.1, h.2.2.1, h.2.2.2.mono (by have := h.2.1; omega)⟩
/-- the class reads elements of D: where it is, what it has, what is open -/
def EI (s : vS) (D : List Int) (B : Nat) (a : Int) (els : List (List Int)) (stk : List (Int × Int × Int)) : Prop := ETp s D ∧ EW s B ∧ ER s els stk ∧ gI s 44 1 = a ∧ gI s 44 2 = 0 ∧ 0 ≤ a ∧ SIk D a stk ∧ (els.length : Int) ≤ gN s 45 ∧ (stk.length : Int) ≤ gN s 51 ∧ stk.length ≤ 1030 ∧ 2 * els.length ≤ a ∧ D.length ≤ B
theorem eBnd_bnd (D : List Int) (e : Es3) : eBnd D e = bndS D e.2.2 := by unfold eBnd bndS; cases e.2.2 <;> rfl
theorem EI.bound {s : vS} {D : List Int} {B : Nat} {a : Int} {els : List (List Int)} {stk : List (Int × Int × Int)} (h1 : ETp s D) (h2 : EW s B) (h3 : ER s els stk) (hl : (stk.length : Int) ≤ gN s 51) : f_X12_bound s = some (bndS D stk, s) := by
  obtain ⟨r1, r2, r3, r4, r5⟩ := h3
  unfold f_X12_bound
  rw [r2]
  cases stk with
  | nil =>
    rw [if_pos (by simp), h1.1, gd_ok1, X2_size, bd_eq, h1.size]; rfl
  | cons x r =>
    obtain ⟨_, _, _, _, _, _, _, _, w1, w2, w3, w4⟩ := h2
    have hl2 : ((x :: r).length : Int) = r.length + 1 := by simp
    rw [hl2] at hl ⊢
    rw [if_neg (by omega), show (r.length : Int) + 1 - 1 = r.length by omega, w32_id ⟨by omega, by omega⟩, gd_pos ⟨by omega, by omega⟩, r3.2.2.1]; rfl
/-- a fault was told -/
def EF (s : vS) (D : List Int) (B : Nat) (f : Ft) : Prop := ETp s D ∧ EW s B ∧ gI s 44 2 = f.1 ∧ gI s 44 3 = f.2
theorem ETp.cong {s t : vS} {D : List Int} (h : ETp s D) (hr : gR t 44 0 = gR s 44 0) (i : gI t 1 1 = gI s 1 1) (n : gN t 2 = gN s 2) (c : gC t 2 = gC s 2) : ETp t D := by
  obtain ⟨h1, h2, h3, h4⟩ := h
  refine ⟨by rw [hr]; exact h1, ?_, ?_, h4⟩
  · unfold BW at *; rw [i, n]; exact h2
  · rw [← h3]; unfold bts; rw [i, c]
theorem and223 : ∀ x : Fin 256, (and32 (x.val : Int) 223 = 0 ↔ (x.val = 0 ∨ x.val = 32)) := by decide +kernel
theorem and32_b : ∀ x : Fin 256, (and32 (x.val : Int) 32 = 0 ↔ (x.val : Int) / 32 % 2 = 0) := by decide +kernel
theorem tagw : ∀ x : Fin 256, shl32 (shr32 (x.val : Int) 6) 28 = (x.val : Int) / 64 * 268435456 := by decide +kernel
theorem by223 {x : Int} (h0 : 0 ≤ x) (h1 : x < 256) : and32 x 223 = 0 ↔ (x = 0 ∨ x = 32) := by
  obtain ⟨n, rfl⟩ := Int.eq_ofNat_of_zero_le h0
  have := and223 ⟨n, by omega⟩
  simp only at this; rw [this]; omega
theorem by32 {x : Int} (h0 : 0 ≤ x) (h1 : x < 256) : and32 x 32 = 0 ↔ x / 32 % 2 = 0 := by
  obtain ⟨n, rfl⟩ := Int.eq_ofNat_of_zero_le h0
  exact and32_b ⟨n, by omega⟩
theorem bytag {x q : Int} (h0 : 0 ≤ x) (h1 : x < 256) (q0 : 0 ≤ q) (q1 : q ≤ 268435455) : or32 (shl32 (shr32 x 6) 28) q = x / 64 * 268435456 + q := by
  obtain ⟨n, rfl⟩ := Int.eq_ofNat_of_zero_le h0
  have e : (2 : Int) ^ 28 = 268435456 := by decide
  rw [tagw ⟨n, by omega⟩, ← e, or32_add 28 (by omega) q0 (by omega) (by omega)]
theorem ER_app {s v : vS} {els : List (List Int)} {stk : List (Int × Int × Int)} {r : List Int} (h : ER s els stk) (i10 : gI v 44 10 = els.length + 1) (i14 : gI v 44 14 = gI s 44 14) (old : ∀ i : Int, 0 ≤ i → i < els.length → gE v 45 i = gE s 45 i ∧ gE v 46 i = gE s 46 i ∧ gE v 47 i = gE s 47 i ∧ gE v 48 i = gE s 48 i ∧ gE v 49 i = gE s 49 i ∧ gZ v 50 i = gZ s 50 i) (st : ∀ i : Int, 0 ≤ i → i < stk.length → gE v 51 i = gE s 51 i ∧ gE v 52 i = gE s 52 i ∧ gE v 53 i = gE s 53 i) (g0 : gE v 45 els.length = r.getD 0 0) (g1 : gE v 46 els.length = r.getD 1 0) (g2 : gE v 47 els.length = r.getD 2 0) (g5 : gZ v 50 els.length = r.getD 5 0) (g3 : gE v 48 els.length = r.getD 3 0) (g4 : gE v 49 els.length = r.getD 4 0) : ER v (els ++ [r]) stk := by
  obtain ⟨r1, r2, r3, r4, r5⟩ := h
  refine ⟨by rw [i10]; simp, by rw [i14]; exact r2, SRk_eq st r3, fun x hx => by have := r4 x hx; simp; omega, fun i h0 hi => ?_⟩
  simp only [List.length_append, List.length_singleton] at hi
  push_cast at hi
  by_cases c : i = (els.length : Int)
  · subst c
    rw [ecl_last, ecl_last, ecl_last, ecl_last, ecl_last, ecl_last]
    exact ⟨g0, g1, g2, g5, fun _ => ⟨g3, g4⟩⟩
  · obtain ⟨q1, q2, q3, q4, q5, q6⟩ := old i h0 (by omega)
    obtain ⟨p1, p2, p3, p4, p5⟩ := r5 i h0 (by omega)
    rw [ecl_app h0 (by omega), ecl_app h0 (by omega), ecl_app h0 (by omega), ecl_app h0 (by omega), ecl_app h0 (by omega), ecl_app h0 (by omega), q1, q2, q3, q4, q5, q6]
    exact ⟨p1, p2, p3, p4, p5⟩
theorem ER_push {s v : vS} {els : List (List Int)} {stk : List (Int × Int × Int)} {r : List Int} {x : Int × Int × Int} (h : ER s els stk) (hx : x.1 = els.length) (i10 : gI v 44 10 = els.length + 1) (i14 : gI v 44 14 = gI s 44 14 + 1) (old : ∀ i : Int, 0 ≤ i → i < els.length → gE v 45 i = gE s 45 i ∧ gE v 46 i = gE s 46 i ∧ gE v 47 i = gE s 47 i ∧ gE v 48 i = gE s 48 i ∧ gE v 49 i = gE s 49 i ∧ gZ v 50 i = gZ s 50 i) (st : ∀ i : Int, 0 ≤ i → i < stk.length → gE v 51 i = gE s 51 i ∧ gE v 52 i = gE s 52 i ∧ gE v 53 i = gE s 53 i) (s1 : gE v 51 stk.length = x.1) (s2 : gE v 52 stk.length = x.2.1) (s3 : gE v 53 stk.length = x.2.2) (g0 : gE v 45 els.length = r.getD 0 0) (g1 : gE v 46 els.length = r.getD 1 0) (g2 : gE v 47 els.length = r.getD 2 0) (g5 : gZ v 50 els.length = r.getD 5 0) : ER v (els ++ [r]) (x :: stk) := by
  obtain ⟨r1, r2, r3, r4, r5⟩ := h
  refine ⟨by rw [i10]; simp, by rw [i14, r2]; simp, ⟨s1, s2, s3, SRk_eq st r3⟩, fun y hy => ?_, fun i h0 hi => ?_⟩
  · simp only [List.mem_cons] at hy
    rcases hy with rfl | hy
    · rw [hx]; simp; omega
    · have := r4 y hy; simp; omega
  simp only [List.length_append, List.length_singleton] at hi
  push_cast at hi
  by_cases c : i = (els.length : Int)
  · subst c
    rw [ecl_last, ecl_last, ecl_last, ecl_last]
    exact ⟨g0, g1, g2, g5, fun z => absurd hx (z x (by simp))⟩
  · obtain ⟨q1, q2, q3, q4, q5, q6⟩ := old i h0 (by omega)
    obtain ⟨p1, p2, p3, p4, p5⟩ := r5 i h0 (by omega)
    rw [ecl_app h0 (by omega), ecl_app h0 (by omega), ecl_app h0 (by omega), ecl_app h0 (by omega), ecl_app h0 (by omega), ecl_app h0 (by omega), q1, q2, q3, q4, q5, q6]
    exact ⟨p1, p2, p3, p4, fun z => p5 (fun y hy => z y (by simp [hy]))⟩
/-- the element at hand is kept -/
theorem el160 {s : vS} {D : List Int} {B : Nat} {a pl : Int} {els : List (List Int)} {stk : List (Int × Int × Int)} (h1 : ETp s D) (h2 : EW s B) (h3 : ER s els stk) (hp : gI s 44 3 = pl) (hf : gI s 44 2 = 0) (ha : gI s 44 1 = a) (a0 : 0 ≤ a) (hal : a ≤ D.length) (hs : SIk D pl stk) (hab : a ≤ bndS D stk) (n1 : (els.length : Int) ≤ gN s 45) (n2 : (stk.length : Int) ≤ gN s 51) (n3 : stk.length ≤ 1029) (n4 : 2 * els.length + 2 ≤ a) (hB : D.length ≤ B) {x3 num con len : Int} (hx : 0 ≤ x3 ∧ x3 < 256) (hq : 0 ≤ num ∧ num ≤ 268435455) (hc : con = 0 ∨ con = 1) (hl : len = -1 ∨ (0 ≤ len ∧ a + len ≤ bndS D stk)) (hcl : con = 0 → len ≠ -1) (hpa : pl ≤ a) (rp : rg pl) :
    ∃ t, j_X12_element_160 (bndS D stk) x3 num con len s = some (1, t) ∧ (if con = 0 then EI t D B (a + len) (els ++ [[x3 / 64 * 268435456 + num, pl, a, a + len, els.length + 1, 0]]) stk else EI t D B a (els ++ [[x3 / 64 * 268435456 + num, pl, a, 0, 0, 1]]) (((els.length : Int), (if len = -1 then -1 else a + len), (if len = -1 then bndS D stk else a + len)) :: stk)) := by
  have hD := h1.2.2.2
  have hbl := hs.le.2
  obtain ⟨r1, r2, r3, r4, r5⟩ := h3
  unfold j_X12_element_160
  rw [bytag hx.1 hx.2 hq.1 hq.2]
  generalize htg : x3 / 64 * 268435456 + num = tg
  have rtg : rg tg := ⟨by omega, by omega⟩
  obtain ⟨t, e1, W, wl, i10, io, rows, g45, g46, z50, stks⟩ := X12_add (x := tg) (y := con) h2 r1 (by omega) n1 (by omega) rtg hc
  have fr := fr_f_X12_add tg con s t e1
  have W' := W
  obtain ⟨w1, w2, w3, w4, w5, w6, w7, w8, w9, w10, w11, w12⟩ := W
  rw [e1, bdv_eq, i10, show (els.length : Int) + 1 - 1 = els.length by omega, w32_id (x := (els.length : Int)) ⟨by omega, by omega⟩, gd_pos ⟨by omega, by omega⟩, stp_eq]
  have ta : gI t 44 1 = a := by rw [io 1 (by decide)]; exact ha
  have T0 : ETp t D := h1.cong (fr.rR (by decide)) (fr.rI (by decide)) (fr.rN (by decide) (by decide)) (fr.rC (by decide) (by decide))
  rw [ta]
  generalize hu : sE t 47 (els.length : Int) a = u
  have uo : Onl 47 t u := by rw [← hu]; exact Onl.sE _ _ _ _
  have u47 : ∀ i, gE u 47 i = if i = (els.length : Int) then a else gE t 47 i := by
    intro i; rw [← hu, gE_sE]; simp only [true_and]; rw [w32_id ⟨by omega, by omega⟩]
  have h3' : ER s els stk := ⟨r1, r2, r3, r4, r5⟩
  have t2 : gI t 44 2 = 0 := by rw [io 2 (by decide)]; exact hf
  have t14 : gI t 44 14 = gI s 44 14 := io 14 (by decide)
  have u14 : gI u 44 14 = stk.length := by rw [uo.1, t14, r2]
  have uT : ETp u D := T0.cong (by rw [← hu]; rfl) (uo.1 _ _) (uo.2.1 _) (uo.2.2 2 (by decide) (by decide))
  have uW : EW u B := by unfold EW at *; simp only [uo.2.1]; exact W'
  have oldu : ∀ i : Int, 0 ≤ i → i < els.length → gE u 45 i = gE s 45 i ∧ gE u 46 i = gE s 46 i ∧ gE u 47 i = gE s 47 i ∧ gE u 48 i = gE s 48 i ∧ gE u 49 i = gE s 49 i ∧ gZ u 50 i = gZ s 50 i := by
    intro i i0 i1
    obtain ⟨q1, q2, q3, q4, q5, q6⟩ := rows i i0 i1
    rw [uo.E (by decide) (by decide), uo.E (by decide) (by decide), u47, if_neg (by omega), uo.E (by decide) (by decide), uo.E (by decide) (by decide), uo.Z (by decide) (by decide)]
    exact ⟨q1, q2, q3, q4, q5, q6⟩
  have stu : ∀ b, b = 51 ∨ b = 52 ∨ b = 53 → gE u b = gE s b := fun b hb => by rw [uo.E (by omega) (by omega)]; exact (stks b hb).1
  rcases hc with rfl | rfl
  · rw [if_pos rfl]
    have lnn := hcl rfl
    have hl2 : 0 ≤ len ∧ a + len ≤ bndS D stk := by rcases hl with q | q; exact absurd q lnn; exact q
    simp only [if_true]
    rw [stp_eq, uo.1, ta, w32_id (x := a + len) ⟨by omega, by omega⟩]
    have f10 : gI (sI u 44 1 (a + len)) 44 10 = els.length + 1 := by simp only [gI_sI, gI_sR, gI_sA, gI_sE, gI_sw2, gI_rs, gI_cpA, gI_gh1, gL_sI, gL_sR, gL_sA, gL_sE, gL_sw2, gL_rs, gL_cpA, gR_sI, gR_sR, gR_sA, gR_sE, gR_sw2, gR_rs, gR_cpA, gN_sI, gN_sR, gN_gh1, gN_sA, gN_sE, gN_cpA, gN_sw2, gN_rs, gE_gC, gB_gC, gZ_gC, gEL_gC, gC_sI, gC_sR, gC_gh1, gC_sA, gC_sE, gC_cpA, gC_sw2, gC_rs, Nat.reduceEqDiff, Nat.reduceAdd, Nat.reduceLT, Nat.reduceLeDiff, Nat.reduceBEq, reduceIte, and_self, and_true, true_and, and_false, false_and, if_true, if_false, Nat.reduceMul, Int.reduceEq, Int.reduceLT, Int.reduceLE, Int.reduceNeg, Int.reduceAdd, Int.reduceMul, Int.reduceSub]; rw [uo.1]; exact i10
    rw [f10, show (els.length : Int) + 1 - 1 = els.length by omega, w32_id (x := (els.length : Int)) ⟨by omega, by omega⟩, gd_pos ⟨by omega, by rw [gN_sI, uo.2.1]; omega⟩, stp_eq]
    have f1 : gI (sI u 44 1 (a + len)) 44 1 = a + len := by simp only [gI_sI, gI_sR, gI_sA, gI_sE, gI_sw2, gI_rs, gI_cpA, gI_gh1, gL_sI, gL_sR, gL_sA, gL_sE, gL_sw2, gL_rs, gL_cpA, gR_sI, gR_sR, gR_sA, gR_sE, gR_sw2, gR_rs, gR_cpA, gN_sI, gN_sR, gN_gh1, gN_sA, gN_sE, gN_cpA, gN_sw2, gN_rs, gE_gC, gB_gC, gZ_gC, gEL_gC, gC_sI, gC_sR, gC_gh1, gC_sA, gC_sE, gC_cpA, gC_sw2, gC_rs, Nat.reduceEqDiff, Nat.reduceAdd, Nat.reduceLT, Nat.reduceLeDiff, Nat.reduceBEq, reduceIte, and_self, and_true, true_and, and_false, false_and, if_true, if_false, Nat.reduceMul, Int.reduceEq, Int.reduceLT, Int.reduceLE, Int.reduceNeg, Int.reduceAdd, Int.reduceMul, Int.reduceSub]; exact w32_id ⟨by omega, by omega⟩
    rw [f1]
    have f10' : gI (sE (sI u 44 1 (a + len)) 48 (els.length : Int) (a + len)) 44 10 = els.length + 1 := by rw [gI_sE]; exact f10
    rw [f10', show (els.length : Int) + 1 - 1 = els.length by omega, w32_id (x := (els.length : Int)) ⟨by omega, by omega⟩, gd_pos ⟨by omega, by rw [gN_sE, gN_sI, uo.2.1]; omega⟩, stp_eq]
    generalize hv : sE (sE (sI u 44 1 (a + len)) 48 (els.length : Int) (a + len)) 49 (els.length : Int) ((els.length : Int) + 1) = v
    have vi : ∀ f, f ≠ 1 → gI v 44 f = gI u 44 f := by intro f hf2; rw [← hv, gI_sE, gI_sE, gI_sI, if_neg (by omega)]
    have vn : ∀ b, gN v b = gN t b := by intro b; rw [← hv, gN_sE, gN_sE, gN_sI, uo.2.1]
    have vc : ∀ b, b < 199 → b ≠ 48 → b ≠ 49 → gC v b = gC u b := by
      intro b _ b1 b2; funext i; rw [← hv, gC_sE, gC_sE, gC_sI, if_neg (fun z => b2 z.1), if_neg (fun z => b1 z.1)]
    have vE : ∀ b, b < 199 → b ≠ 48 → b ≠ 49 → gE v b = gE u b := by intro b hb b1 b2; funext i; rw [gE_gC, gE_gC, vc b hb b1 b2]
    have v48 : ∀ i, gE v 48 i = if i = (els.length : Int) then a + len else gE u 48 i := by
      intro i; rw [← hv, gE_sE, gE_sE, gE_sI]; simp only [Nat.reduceEqDiff, Nat.reduceAdd, Nat.reduceLT, Nat.reduceLeDiff, Nat.reduceBEq, reduceIte, and_self, and_true, true_and, and_false, false_and, if_true, if_false, Nat.reduceMul, Int.reduceEq, Int.reduceLT, Int.reduceLE, Int.reduceNeg, Int.reduceAdd, Int.reduceMul, Int.reduceSub]; rw [w32_id ⟨by omega, by omega⟩]
    have v49 : ∀ i, gE v 49 i = if i = (els.length : Int) then (els.length : Int) + 1 else gE u 49 i := by
      intro i; rw [← hv, gE_sE, gE_sE, gE_sI]; simp only [Nat.reduceEqDiff, Nat.reduceAdd, Nat.reduceLT, Nat.reduceLeDiff, Nat.reduceBEq, reduceIte, and_self, and_true, true_and, and_false, false_and, if_true, if_false, Nat.reduceMul, Int.reduceEq, Int.reduceLT, Int.reduceLE, Int.reduceNeg, Int.reduceAdd, Int.reduceMul, Int.reduceSub]; rw [w32_id ⟨by omega, by omega⟩]
    refine ⟨v, rfl, ?_, ?_, ?_, ?_, ?_, by omega, hs.mono (by omega), ?_, ?_, by omega, ?_, hB⟩
    · exact uT.cong (by rw [← hv]; rfl) (by rw [← hv, gI_sE, gI_sE, gI_sI, if_neg (by decide)]) (by rw [vn, uo.2.1]) (vc 2 (by decide) (by decide) (by decide))
    · unfold EW at *; simp only [vn]; exact W'
    · refine ER_app h3' (by rw [vi 10 (by decide), uo.1]; exact i10) (by rw [vi 14 (by decide), uo.1, t14]) (fun i i0 i1 => ?_) (fun i _ _ => ?_) ?_ ?_ ?_ ?_ ?_ ?_
      · obtain ⟨q1, q2, q3, q4, q5, q6⟩ := oldu i i0 i1
        rw [vE 45 (by decide) (by decide) (by decide), vE 46 (by decide) (by decide) (by decide), vE 47 (by decide) (by decide) (by decide), v48, if_neg (by omega), v49, if_neg (by omega), gZ_gC, vc 50 (by decide) (by decide) (by decide), ← gZ_gC]
        exact ⟨q1, q2, q3, q4, q5, q6⟩
      · rw [vE 51 (by decide) (by decide) (by decide), vE 52 (by decide) (by decide) (by decide), vE 53 (by decide) (by decide) (by decide), stu 51 (by decide), stu 52 (by decide), stu 53 (by decide)]
        exact ⟨rfl, rfl, rfl⟩
      · rw [vE 45 (by decide) (by decide) (by decide), uo.E (by decide) (by decide)]; exact g45
      · rw [vE 46 (by decide) (by decide) (by decide), uo.E (by decide) (by decide), g46, hp]; rfl
      · rw [vE 47 (by decide) (by decide) (by decide), u47, if_pos rfl]; rfl
      · rw [gZ_gC, vc 50 (by decide) (by decide) (by decide), ← gZ_gC, uo.Z (by decide) (by decide)]; exact z50
      · rw [v48, if_pos rfl]; rfl
      · rw [v49, if_pos rfl]; rfl
    · rw [← hv, gI_sE, gI_sE, f1]
    · rw [vi 2 (by decide), uo.1, t2]
    · rw [vn]; simp only [List.length_append, List.length_singleton]; push_cast; omega
    · rw [vn, (stks 51 (by decide)).2]; exact n2
    · simp only [List.length_append, List.length_singleton]; push_cast; omega
  · rw [if_neg (by decide)]
    simp only [show ¬(1 : Int) = 0 by decide, if_false]
    have sn : (stk.length : Int) ≤ gN u 51 := by rw [uo.2.1, (stks 51 (by decide)).2]; exact n2
    have fin : ∀ en bd : Int, rg en → rg bd → (en = if len = -1 then -1 else a + len) → (bd = if len = -1 then bndS D stk else a + len) → ∃ v, j_X12_element_231 en bd u = some (1, v) ∧ EI v D B a (els ++ [[tg, pl, a, 0, 0, 1]]) (((els.length : Int), (if len = -1 then -1 else a + len), (if len = -1 then bndS D stk else a + len)) :: stk) := by
      intro en bd ren rbd een ebd
      unfold j_X12_element_231
      obtain ⟨v, y1, y2, y3, y4, y5, y6, y7, y8, y9, y10⟩ := X12_enter (x := en) (y := bd) (d := stk.length) (n := els.length + 1) uW u14 (by rw [uo.1]; exact i10) (by omega) sn (by omega) (by omega) (by omega) ren rbd
      have fr2 := fr_f_X12_enter en bd u v y1
      rw [y1, bdv_eq]
      have vE : ∀ b, b < 199 → b ≠ 51 → b ≠ 52 → b ≠ 53 → gE v b = gE u b := by intro b hb b1 b2 b3; funext i; rw [gE_gC, gE_gC, (y10 b hb b1 b2 b3).1]
      refine ⟨v, rfl, ?_, y2, ?_, ?_, ?_, a0, ?_, ?_, ?_, ?_, ?_, hB⟩
      · exact uT.cong (fr2.rR (by decide)) (fr2.rI (by decide)) (fr2.rN (by decide) (by decide)) (fr2.rC (by decide) (by decide))
      · refine ER_push h3' rfl (by rw [y5 10 (by decide), uo.1]; exact i10) (by rw [y4, r2]) (fun i i0 i1 => ?_) (fun i i0 i1 => ?_) ?_ ?_ ?_ ?_ ?_ ?_ ?_
        · obtain ⟨q1, q2, q3, q4, q5, q6⟩ := oldu i i0 i1
          rw [vE 45 (by decide) (by decide) (by decide) (by decide), vE 46 (by decide) (by decide) (by decide) (by decide), vE 47 (by decide) (by decide) (by decide) (by decide), vE 48 (by decide) (by decide) (by decide) (by decide), vE 49 (by decide) (by decide) (by decide) (by decide), gZ_gC, (y10 50 (by decide) (by decide) (by decide) (by decide)).1, ← gZ_gC]
          exact ⟨q1, q2, q3, q4, q5, q6⟩
        · obtain ⟨q1, q2, q3⟩ := y6 i i0 i1
          rw [q1, q2, q3, stu 51 (by decide), stu 52 (by decide), stu 53 (by decide)]
          exact ⟨rfl, rfl, rfl⟩
        · rw [y7]; simp only; omega
        · rw [y8]; exact een
        · rw [y9]; exact ebd
        · rw [vE 45 (by decide) (by decide) (by decide) (by decide), uo.E (by decide) (by decide)]; exact g45
        · rw [vE 46 (by decide) (by decide) (by decide) (by decide), uo.E (by decide) (by decide), g46, hp]; rfl
        · rw [vE 47 (by decide) (by decide) (by decide) (by decide), u47, if_pos rfl]; rfl
        · rw [gZ_gC, (y10 50 (by decide) (by decide) (by decide) (by decide)).1, ← gZ_gC, uo.Z (by decide) (by decide)]; exact z50
      · rw [y5 1 (by decide), uo.1, ta]
      · rw [y5 2 (by decide), uo.1, t2]
      · refine ⟨?_, ?_, ?_, hs.mono hab⟩
        · simp only; split <;> omega
        · simp only; split <;> omega
        · simp only
          by_cases z : len = -1
          · left; rw [if_pos z]
          · right; rw [if_neg z, if_neg z]
      · rw [(y10 45 (by decide) (by decide) (by decide) (by decide)).2, uo.2.1]; simp only [List.length_append, List.length_singleton]; push_cast; omega
      · simp only [List.length_cons]; push_cast; omega
      · simp only [List.length_cons]; omega
      · simp only [List.length_append, List.length_singleton]; push_cast; omega
    have ua : gI u 44 1 = a := by rw [uo.1, ta]
    unfold j_X12_element_214
    rw [ua]
    by_cases z : len = -1
    · rw [if_pos z, if_pos z]
      exact fin (-1) (bndS D stk) (rgl rfl) ⟨by omega, by omega⟩ (by rw [if_pos z]) (by rw [if_pos z])
    · have hl2 : 0 ≤ len ∧ a + len ≤ bndS D stk := by rcases hl with q | q; exact absurd q z; exact q
      rw [if_neg z, if_neg z, w32_id ⟨by omega, by omega⟩]
      exact fin (a + len) (a + len) ⟨by omega, by omega⟩ ⟨by omega, by omega⟩ (by rw [if_neg z]) (by rw [if_neg z])
