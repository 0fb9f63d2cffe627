set_option maxRecDepth 100000 set_option linter.unusedVariables false set_option linter.unusedSimpArgs false
/-! PURE 55: the model's grammar: tables as columns, the view -/
def cid (c : Nat) : Nat := [97, 108, 112, 116, 121, 126, 132, 139, 141, 144].getD c 0
def wd (c : Nat) : Nat := [11, 4, 4, 5, 5, 4, 7, 2, 3, 1].getD c 0
def cnt (c : Nat) : Nat := [20, 32, 37, 42, 48, 54, 61, 69, 72, 76].getD c 0
def cOf (A : Nat) : Nat := if A < 108 then 0 else if A < 112 then 1 else if A < 116 then 2 else if A < 121 then 3 else if A < 126 then 4 else if A < 132 then 5 else if A < 139 then 6 else if A < 141 then 7 else if A < 144 then 8 else 9
def jOf (A : Nat) : Nat := A - cid (cOf A)
def isT (A : Nat) : Bool := 97 ≤ A && A ≤ 144 && A != 130 && A != 131
def isBl (A : Nat) : Bool := A == 114 || A == 122 || A == 127 || A == 129 || A == 135
def rdA (s : vS) (A : Nat) (i : Int) : Int := if isBl A = true then gZ s A i else gE s A i
/-- how many rows there may be, by where it is -/
def CB (f : Nat → Int) (a z : Int) : Prop := (0 ≤ f 0 ∧ f 0 ≤ a + z) ∧ (0 ≤ f 1 ∧ 3 * f 1 ≤ a + 3 * z) ∧ (0 ≤ f 2 ∧ 2 * f 2 ≤ a + 2 * z) ∧ (0 ≤ f 3 ∧ 2 * f 3 ≤ a + 2 * z) ∧ (0 ≤ f 4 ∧ 3 * f 4 ≤ a + 3 * z) ∧ (0 ≤ f 5 ∧ 2 * f 5 ≤ a + 2 * z) ∧ (0 ≤ f 6 ∧ 2 * f 6 ≤ a + 2 * z) ∧ (0 ≤ f 7 ∧ f 7 ≤ a + z) ∧ (0 ≤ f 8 ∧ 3 * f 8 ≤ a + 3 * z) ∧ (0 ≤ f 9 ∧ 3 * f 9 ≤ a + 3 * z)
def wt (c : Nat) : Int := [1, 3, 2, 2, 3, 2, 2, 1, 3, 3].getD c 0
/-- lengths of the arrays suffice -/
def LN (L : Lx) (ln : Nat → Nat) : Prop := ∀ A, isT A = true → (L.length : Int) + 3 * wt (cOf A) ≤ wt (cOf A) * (ln A : Int)
def BD (L : Lx) (X : List Int) (ln : Nat → Nat) (s : vS) : Prop := LXM L X s ∧ STR s ∧ (∃ V, NV L X 0 V s) ∧ (∀ A, isT A = true → gN s A = ln A) ∧ gN s 145 = 104 ∧ gN s 146 = 104 ∧ CB (fun c => gI s 87 (cnt c)) L.length 2
/-- rows are whole -/
def RL0 (M : Mt) : Prop := ∀ c, c < 10 → ∀ r ∈ M c, wd c ≤ r.length
/-- limits lie behind each other -/
def WFL (M : Mt) : Prop := (∀ l : Int, 0 ≤ l → l < lnM M 4 → clM M 4 l 4 = -1 ∨ (l < clM M 4 l 4 ∧ clM M 4 l 4 < lnM M 4)) ∧ (∀ t : Int, 0 ≤ t → t < lnM M 0 → clM M 0 t 10 = -1 ∨ (0 ≤ clM M 0 t 10 ∧ clM M 0 t 10 < lnM M 4))
def RL (M : Mt) : Prop := RL0 M ∧ WFL M
def TB (s : vS) (M : Mt) : Prop := (∀ c, c < 10 → gI s 87 (cnt c) = lnM M c) ∧ (∀ A, isT A = true → ∀ i : Int, 0 ≤ i → i < lnM M (cOf A) → clM M (cOf A) i (jOf A) = -7 ∨ rdA s A i = clM M (cOf A) i (jOf A)) ∧ RL M
/-- cells of the rows that are under way -/
def PD (s : vS) (M : Mt) (P : List (Nat × Int)) : Prop := ∀ x ∈ P, isT x.1 = true ∧ rdA s x.1 (lnM M (cOf x.1)) = x.2
def ND (L : Lx) (a : Int) : Prop := ¬(kz L a = 12 ∧ kz L (a - 1) = 1)
def VMd (L : Lx) (X : List Int) (ln : Nat → Nat) (s : vS) (a : Int) (M : Mt) (P : List (Nat × Int)) : Prop := BD L X ln s ∧ gI s 87 8 = 0 ∧ gI s 87 9 = 0 ∧ gI s 87 19 = a ∧ 0 ≤ a ∧ a ≤ L.length ∧ ND L a ∧ TB s M ∧ PD s M P ∧ CB (lnM M) a 1
/-- a fault was told -/
def FM (L : Lx) (X : List Int) (ln : Nat → Nat) (e : Ft) (s : vS) : Prop := BD L X ln s ∧ gI s 87 8 = e.1 ∧ gI s 87 9 = e.2 ∧ 0 < e.1 ∧ 0 ≤ gI s 87 19 ∧ gI s 87 19 ≤ L.length
def sup : List Nat := [87013, 87015, 87084, 87085, 89998, 89999, 93998, 93999, 94998, 94999, 95998, 95999, 96998, 96999, 147998, 147999, 148998, 148999, 149998, 149999, 150998, 150999, 151998, 151999, 152998, 145998, 146998]
theorem isT_rg {A : Nat} (h : isT A = true) : 97 ≤ A ∧ A ≤ 144 ∧ A ≠ 130 ∧ A ≠ 131 := by
  unfold isT at h; simp at h; omega
theorem cOf_lt (A : Nat) : cOf A < 10 := by unfold cOf; grind
section
variable {L : Lx} {X : List Int} {ln : Nat → Nat} {s s' : vS} {a : Int} {M M' : Mt} {P : List (Nat × Int)} {α : Type} {Q : α → Prop} {e : Ft}
/-- what does not touch lengths, lexemes, numbers and counters keeps the bounds -/
theorem BD.fr (h : BD L X ln s) {W : List Nat} (hf : Fr W s s') (h1 : ∀ c ∈ sup, c ∉ W) (h2 : ∀ A, isT A = true → 1000 * A + 998 ∉ W) (hc : CB (fun c => gI s' 87 (cnt c)) L.length 2) : BD L X ln s' := by
  obtain ⟨q1, q2, ⟨V, q3⟩, q4, q5, q6, q7⟩ := h
  refine ⟨q1.fr hf (fun c hc => h1 c ?_), q2.fr hf (h1 _ (by decide)) (h1 _ (by decide)), ⟨V, q3.fr hf (fun c hc => h1 c ?_)⟩, fun A hA => ?_, by rw [hf.rN (by decide) (h1 145998 (by decide))]; exact q5, by rw [hf.rN (by decide) (h1 146998 (by decide))]; exact q6, hc⟩
  · unfold sup; simp only [List.mem_cons, List.not_mem_nil, or_false] at hc ⊢; omega
  · unfold sup; simp only [List.mem_cons, List.not_mem_nil, or_false] at hc ⊢; omega
  · rw [hf.rN (by have := isT_rg hA; omega) (h2 A hA)]; exact q4 A hA
theorem CB.congr {f g : Nat → Int} {a z : Int} (h : CB f a z) (e : ∀ c, c < 10 → g c = f c) : CB g a z := by
  unfold CB
  rw [e 0 (by decide), e 1 (by decide), e 2 (by decide), e 3 (by decide), e 4 (by decide), e 5 (by decide), e 6 (by decide), e 7 (by decide), e 8 (by decide), e 9 (by decide)]
  exact h
theorem CB.mono {f : Nat → Int} {a a' z z' : Int} (h : CB f a z) (h1 : a ≤ a') (h2 : z ≤ z') : CB f a' z' := by
  unfold CB at *; omega
theorem cnt_ne {c : Nat} (h : c < 10) : cnt c ≠ 8 ∧ cnt c ≠ 9 ∧ cnt c ≠ 19 ∧ cnt c ≠ 13 ∧ cnt c ≠ 15 ∧ cnt c ≠ 84 ∧ cnt c ≠ 85 ∧ cnt c ≠ 78 ∧ cnt c ≠ 79 ∧ cnt c ≠ 82 ∧ cnt c ≠ 83 ∧ cnt c < 100 := by
  have : c = 0 ∨ c = 1 ∨ c = 2 ∨ c = 3 ∨ c = 4 ∨ c = 5 ∨ c = 6 ∨ c = 7 ∨ c = 8 ∨ c = 9 := by omega
  rcases this with rfl | rfl | rfl | rfl | rfl | rfl | rfl | rfl | rfl | rfl <;> decide
theorem cnt_inj {c d : Nat} (h : c < 10) (hd : d < 10) (e : cnt c = cnt d) : c = d := by
  have : c = 0 ∨ c = 1 ∨ c = 2 ∨ c = 3 ∨ c = 4 ∨ c = 5 ∨ c = 6 ∨ c = 7 ∨ c = 8 ∨ c = 9 := by omega
  have : d = 0 ∨ d = 1 ∨ d = 2 ∨ d = 3 ∨ d = 4 ∨ d = 5 ∨ d = 6 ∨ d = 7 ∨ d = 8 ∨ d = 9 := by omega
  rcases this with rfl | rfl | rfl | rfl | rfl | rfl | rfl | rfl | rfl | rfl <;> (rcases ‹c = 0 ∨ _› with rfl | rfl | rfl | rfl | rfl | rfl | rfl | rfl | rfl | rfl <;> first | rfl | exact absurd e (by decide))
theorem CB.ge {f : Nat → Int} {a z : Int} (h : CB f a z) {c : Nat} (hc : c < 10) : 0 ≤ f c ∧ wt c * f c ≤ a + wt c * z := by
  have : c = 0 ∨ c = 1 ∨ c = 2 ∨ c = 3 ∨ c = 4 ∨ c = 5 ∨ c = 6 ∨ c = 7 ∨ c = 8 ∨ c = 9 := by omega
  unfold CB at h
  rcases this with rfl | rfl | rfl | rfl | rfl | rfl | rfl | rfl | rfl | rfl <;> simp only [wt, List.getD_cons_zero, List.getD_cons_succ] <;> omega
theorem wt_pos {c : Nat} (hc : c < 10) : wt c = 1 ∨ wt c = 2 ∨ wt c = 3 := by
  have : c = 0 ∨ c = 1 ∨ c = 2 ∨ c = 3 ∨ c = 4 ∨ c = 5 ∨ c = 6 ∨ c = 7 ∨ c = 8 ∨ c = 9 := by omega
  rcases this with rfl | rfl | rfl | rfl | rfl | rfl | rfl | rfl | rfl | rfl <;> decide
theorem VMd.at (h : VMd L X ln s a M P) : gI s 87 19 = a := h.2.2.2.1
theorem VMd.f0 (h : VMd L X ln s a M P) : gI s 87 8 = 0 := h.2.1
theorem VMd.a0 (h : VMd L X ln s a M P) : 0 ≤ a := h.2.2.2.2.1
theorem VMd.al (h : VMd L X ln s a M P) : a ≤ L.length := h.2.2.2.2.2.1
theorem VMd.tb (h : VMd L X ln s a M P) : TB s M := h.2.2.2.2.2.2.2.1
theorem VMd.pd (h : VMd L X ln s a M P) : PD s M P := h.2.2.2.2.2.2.2.2.1
theorem VMd.kb (h : VMd L X ln s a M P) : CB (lnM M) a 1 := h.2.2.2.2.2.2.2.2.2
theorem VMd.ct (h : VMd L X ln s a M P) {c : Nat} (hc : c < 10) : gI s 87 (cnt c) = lnM M c := h.tb.1 c hc
/-- index bounds -/
theorem ixA (hN : LN L ln) {A : Nat} (hA : isT A = true) {i : Int} (h : wt (cOf A) * i ≤ L.length + wt (cOf A) * 2) : i < ln A := by
  have q := hN A hA
  rcases wt_pos (cOf_lt A) with z | z | z <;> rw [z] at q h <;> omega
theorem VMd.ixn (h : VMd L X ln s a M P) (hN : LN L ln) {A : Nat} (hA : isT A = true) : inb (lnM M (cOf A)) (gN s A) := by
  have q := h.kb.ge (cOf_lt A)
  have q2 := h.al
  refine ⟨q.1, ?_⟩
  rw [h.1.2.2.2.1 A hA]
  exact ixA hN hA (by rcases wt_pos (cOf_lt A) with z | z | z <;> rw [z] at q ⊢ <;> omega)
theorem VMd.ixo (h : VMd L X ln s a M P) (hN : LN L ln) {A : Nat} (hA : isT A = true) {i : Int} (i0 : 0 ≤ i) (i1 : i < lnM M (cOf A)) : inb i (gN s A) := by
  have := (h.ixn hN hA).2
  exact ⟨i0, by omega⟩
/-- rows of tables that are read -/
theorem VMd.rd (h : VMd L X ln s a M P) {A : Nat} (hA : isT A = true) (hb : isBl A = false) {i : Int} (i0 : 0 ≤ i) (i1 : i < lnM M (cOf A)) (h7 : clM M (cOf A) i (jOf A) ≠ -7) : gE s A i = clM M (cOf A) i (jOf A) := by
  rcases h.tb.2.1 A hA i i0 i1 with z | z
  · exact absurd z h7
  · unfold rdA at z; rw [hb] at z; exact z
theorem VMd.rp (h : VMd L X ln s a M P) {A : Nat} {v : Int} (hm : (A, v) ∈ P) (hb : isBl A = false) : gE s A (lnM M (cOf A)) = v := by
  have q := (h.pd _ hm).2
  unfold rdA at q; rw [hb] at q; exact q
theorem VMd.rpz (h : VMd L X ln s a M P) {A : Nat} {v : Int} (hm : (A, v) ∈ P) (hb : isBl A = true) : gZ s A (lnM M (cOf A)) = v := by
  have q := (h.pd _ hm).2
  unfold rdA at q; rw [hb] at q; exact q
theorem rdA_fr {W : List Nat} (hf : Fr W s s') {A : Nat} (hA : isT A = true) (hW : 1000 * A + 999 ∉ W) (i : Int) : rdA s' A i = rdA s A i := by
  have := isT_rg hA
  unfold rdA
  rw [hf.rE (by omega) hW, hf.rZ (by omega) hW]
/-- a run that leaves tables alone -/
theorem VMd.fr (h : VMd L X ln s a M P) {W : List Nat} (hf : Fr W s s') {b : Int} (hb : gI s' 87 19 = b) (b0 : a ≤ b) (b1 : b ≤ L.length) (hn : ND L b) (h8 : 87008 ∉ W) (h9 : 87009 ∉ W) (h1 : ∀ c ∈ sup, c ∉ W) (h2 : ∀ A, isT A = true → 1000 * A + 998 ∉ W ∧ 1000 * A + 999 ∉ W) (hc : ∀ c, c < 10 → 87000 + cnt c ∉ W) : VMd L X ln s' b M P := by
  obtain ⟨q1, q2, q3, q4, q5, q6, q7, q8, q9, q10⟩ := h
  have ec : ∀ c, c < 10 → gI s' 87 (cnt c) = gI s 87 (cnt c) := fun c hc' => hf.rI (hc c hc')
  refine ⟨q1.fr hf h1 (fun A hA => (h2 A hA).1) (q1.2.2.2.2.2.2.congr (fun c hc' => ec c hc')), by rw [hf.rI h8]; exact q2, by rw [hf.rI h9]; exact q3, hb, by omega, b1, hn, ⟨fun c hc' => by rw [ec c hc']; exact q8.1 c hc', fun A hA i i0 i1 => ?_, q8.2.2⟩, fun x hx => ⟨(q9 x hx).1, ?_⟩, q10.mono b0 (Int.le_refl _)⟩
  · rw [rdA_fr hf hA (h2 A hA).2]; exact q8.2.1 A hA i i0 i1
  · rw [rdA_fr hf (q9 x hx).1 (h2 _ (q9 x hx).1).2]; exact (q9 x hx).2
theorem VMd.weakP (h : VMd L X ln s a M P) {P' : List (Nat × Int)} (hp : ∀ x ∈ P', x ∈ P) : VMd L X ln s a M P' := by
  obtain ⟨q1, q2, q3, q4, q5, q6, q7, q8, q9, q10⟩ := h
  exact ⟨q1, q2, q3, q4, q5, q6, q7, q8, fun x hx => q9 x (hp x hx), q10⟩
/-- where it is moves on -/
theorem VMd.adv (hH : LH L X) (h : VMd L X ln s a M P) (al : a < L.length) (hn : ND L (a + 1)) : VMd L X ln (sI s 87 19 (w32 (gI s 87 19 + 1))) (a + 1) M P := by
  have a0 := h.a0
  refine h.fr (W := [87019]) (Fr.wI Fr.rfl (by decide)) ?_ (by omega) (by omega) hn (by decide) (by decide) (by decide) (fun A hA => ?_) (fun c hc => ?_)
  · rw [gI_sI, if_pos ⟨rfl, rfl⟩, h.at]
    have := hH.2.1
    rw [w32_id (x := a + 1) ⟨by omega, by omega⟩, w32_id ⟨by omega, by omega⟩]
  · have := isT_rg hA
    simp only [List.mem_cons, List.not_mem_nil, or_false]; omega
  · have := cnt_ne hc
    simp only [List.mem_cons, List.not_mem_nil, or_false]; omega
theorem nT {A : Nat} (hA : isT A = true) : (∀ c ∈ sup, c ≠ 1000 * A + 999) ∧ 97 ≤ A ∧ A ≤ 144 := by
  have := isT_rg hA
  refine ⟨fun c hc => ?_, this.1, this.2.1⟩
  unfold sup at hc
  simp only [List.mem_cons, List.not_mem_nil, or_false] at hc
  omega
theorem BD.w (h : BD L X ln s) {A : Nat} (hA : isT A = true) {i v : Int} : BD L X ln (sE s A i v) := by
  have n := nT hA
  refine h.fr (W := [1000 * A + 999]) (Fr.wE Fr.rfl (List.mem_singleton.mpr rfl)) (fun c hc z => n.1 c hc (List.mem_singleton.mp z)) (fun B hB z => ?_) (h.2.2.2.2.2.2.congr (fun c _ => by rw [gI_sE]))
  have := List.mem_singleton.mp z; omega
theorem rdA_sE {A B : Nat} {i j v : Int} : rdA (sE s A i v) B j = if B = A ∧ j = i then (if isBl A = true then bz v else w32 v) else rdA s B j := by
  unfold rdA
  rw [gZ_sE, gE_sE]
  by_cases c : B = A ∧ j = i
  · rw [if_pos c, if_pos c, if_pos c, c.1]
  · rw [if_neg c, if_neg c, if_neg c]
/-- values that fit in -/
def okv (A : Nat) (v : Int) : Prop := if isBl A = true then v = 0 ∨ v = 1 else rg v
theorem okv_id {A : Nat} {v : Int} (h : okv A v) : (if isBl A = true then bz v else w32 v) = v := by
  unfold okv at h
  by_cases c : isBl A = true
  · rw [if_pos c] at h ⊢
    rcases h with rfl | rfl <;> decide
  · rw [if_neg c] at h ⊢; exact w32_id h
def dropA (A : Nat) (P : List (Nat × Int)) : List (Nat × Int) := P.filter (fun x => x.1 != A)
theorem VMd.wn (h : VMd L X ln s a M P) {A : Nat} (hA : isT A = true) {v : Int} (hv : okv A v) : VMd L X ln (sE s A (lnM M (cOf A)) v) a M ((A, v) :: dropA A P) := by
  obtain ⟨q1, q2, q3, q4, q5, q6, q7, q8, q9, q10⟩ := h
  refine ⟨q1.w hA, by rw [gI_sE]; exact q2, by rw [gI_sE]; exact q3, by rw [gI_sE]; exact q4, q5, q6, q7, ⟨fun c hc => by rw [gI_sE]; exact q8.1 c hc, fun B hB i i0 i1 => ?_, q8.2.2⟩, fun x hx => ?_, q10⟩
  · rw [rdA_sE, if_neg (fun z => by rw [z.1] at i1; omega)]; exact q8.2.1 B hB i i0 i1
  · rcases List.mem_cons.mp hx with z | z
    · subst z
      exact ⟨hA, by rw [rdA_sE, if_pos ⟨rfl, rfl⟩]; exact okv_id hv⟩
    · unfold dropA at z
      obtain ⟨z1, z2⟩ := List.mem_filter.mp z
      have z3 : x.1 ≠ A := by simpa using z2
      exact ⟨(q9 x z1).1, by rw [rdA_sE, if_neg (fun w => z3 w.1)]; exact (q9 x z1).2⟩
theorem clM_up {M : Mt} {c : Nat} {i : Int} {j : Nat} {v : Int} (i0 : 0 ≤ i) (i1 : i < lnM M c) (hj : j < ((M c).getD i.toNat []).length) {d : Nat} {k : Int} (k0 : 0 ≤ k) {l : Nat} : clM (upM M c i j v) d k l = if d = c ∧ k = i ∧ l = j then v else clM M d k l := by
  unfold lnM at i1
  unfold clM upM
  by_cases e : d = c
  · subst e
    simp only [if_true, true_and, List.getD_eq_getElem?_getD, List.getElem?_modify]
    by_cases e2 : k = i
    · subst e2
      have hk : (M d)[k.toNat]? = some ((M d)[k.toNat]'(by omega)) := List.getElem?_eq_getElem _
      rw [hk]
      simp only [List.getD_eq_getElem?_getD, hk, Option.getD_some] at hj
      simp only [if_true, true_and, Option.map_eq_map, Option.map_some, Option.getD_some, List.getElem?_set]
      by_cases e3 : l = j
      · subst e3; simp [hj]
      · rw [if_neg (fun z => e3 z.symm), if_neg e3]
    · have e4 : ¬(i.toNat = k.toNat) := by omega
      simp [e2, e4]
  · simp only [e, if_false, false_and]
theorem clM_ap {M : Mt} {c : Nat} {r : List Int} {d : Nat} {k : Int} (k0 : 0 ≤ k) {l : Nat} : clM (apM M c r) d k l = if d = c ∧ k = lnM M c then r.getD l 0 else clM M d k l := by
  unfold clM apM lnM
  by_cases e : d = c
  · subst e
    simp only [if_true, true_and, List.getD_eq_getElem?_getD]
    by_cases e2 : k = (M d).length
    · subst e2; simp
    · rw [if_neg e2]
      by_cases e3 : k < (M d).length
      · rw [List.getElem?_append_left (by omega)]
      · have n1 : (M d ++ [r])[k.toNat]? = none := List.getElem?_eq_none (by rw [List.length_append, List.length_singleton]; omega)
        have n2 : (M d)[k.toNat]? = none := List.getElem?_eq_none (by omega)
        rw [n1, n2]
  · simp only [e, if_false, false_and]
theorem jOf_lt {A : Nat} (h : isT A = true) : jOf A < wd (cOf A) := by
  have := isT_rg h
  have q : ∀ k : Fin 48, k.1 ≠ 33 → k.1 ≠ 34 → jOf (97 + k.1) < wd (cOf (97 + k.1)) := by decide
  have z := q ⟨A - 97, by omega⟩ (by show A - 97 ≠ 33; omega) (by show A - 97 ≠ 34; omega)
  simp only [show 97 + (A - 97) = A by omega] at z
  exact z
theorem jOf_inj {A B : Nat} (hA : isT A = true) (hB : isT B = true) (h1 : cOf B = cOf A) (h2 : jOf B = jOf A) : B = A := by
  have a := isT_rg hA
  have b := isT_rg hB
  have q : ∀ k : Fin 48, cid (cOf (97 + k.1)) ≤ 97 + k.1 := by decide
  have z1 := q ⟨A - 97, by omega⟩
  have z2 := q ⟨B - 97, by omega⟩
  simp only [show 97 + (A - 97) = A by omega, show 97 + (B - 97) = B by omega] at z1 z2
  unfold jOf at h2
  rw [h1] at h2 z2
  omega
theorem RL.jlt (h : RL M) {A : Nat} (hA : isT A = true) {i : Int} (i0 : 0 ≤ i) (i1 : i < lnM M (cOf A)) : jOf A < ((M (cOf A)).getD i.toNat []).length := by
  have j := jOf_lt hA
  unfold lnM at i1
  have hi : i.toNat < (M (cOf A)).length := by omega
  have q := h.1 (cOf A) (cOf_lt A) _ (List.getElem_mem hi)
  rw [List.getD_eq_getElem?_getD, List.getElem?_eq_getElem hi]
  show jOf A < ((M (cOf A))[i.toNat]).length
  omega
theorem RL0.up (h : RL0 M) {c : Nat} {i : Int} {j : Nat} {v : Int} : RL0 (upM M c i j v) := fun d hd r hr => by
  unfold upM at hr
  by_cases e : d = c
  · subst e
    rw [if_pos rfl] at hr
    obtain ⟨n, hn, rfl⟩ := List.mem_iff_getElem.mp hr
    rw [List.getElem_modify]
    split
    · rw [List.length_set]; exact h d hd _ (List.getElem_mem _)
    · exact h d hd _ (List.getElem_mem _)
  · rw [if_neg e] at hr; exact h d hd r hr
theorem RL0.ap (h : RL0 M) {c : Nat} {r : List Int} (hr : c < 10 → wd c ≤ r.length) : RL0 (apM M c r) := fun d hd x hx => by
  unfold apM at hx
  by_cases e : d = c
  · subst e
    rw [if_pos rfl] at hx
    rcases List.mem_append.mp hx with z | z
    · exact h d hd x z
    · rw [List.mem_singleton.mp z]; exact hr hd
  · rw [if_neg e] at hx; exact h d hd x hx
theorem RL.up (h : RL M) {A : Nat} (hA : isT A = true) {i v : Int} (i0 : 0 ≤ i) (i1 : i < lnM M (cOf A)) (hx : (A = 125 → v = -1 ∨ (i < v ∧ v < lnM M 4)) ∧ (A = 107 → v = -1 ∨ (0 ≤ v ∧ v < lnM M 4))) : RL (upM M (cOf A) i (jOf A) v) := by
  refine ⟨h.1.up, fun l l0 l1 => ?_, fun t t0 t1 => ?_⟩
  · rw [lnM_up] at l1 ⊢
    rw [clM_up i0 i1 (h.jlt hA i0 i1) l0]
    by_cases e : 4 = cOf A ∧ l = i ∧ 4 = jOf A
    · rw [if_pos e, e.2.1]
      exact hx.1 (jOf_inj (A := 125) (B := A) (by decide) hA e.1.symm e.2.2.symm)
    · rw [if_neg e]; exact h.2.1 l l0 l1
  · rw [lnM_up] at t1 ⊢
    rw [clM_up i0 i1 (h.jlt hA i0 i1) t0]
    by_cases e : 0 = cOf A ∧ t = i ∧ 10 = jOf A
    · rw [if_pos e]
      exact hx.2 (jOf_inj (A := 107) (B := A) (by decide) hA e.1.symm e.2.2.symm)
    · rw [if_neg e]; exact h.2.2 t t0 t1
theorem RL.ap (h : RL M) {c : Nat} {r : List Int} (hr : c < 10 → wd c ≤ r.length) (h4 : c = 4 → r.getD 4 0 = -1) (h0 : c = 0 → r.getD 10 0 = -1) : RL (apM M c r) := by
  refine ⟨h.1.ap hr, fun l l0 l1 => ?_, fun t t0 t1 => ?_⟩
  · rw [lnM_ap] at l1 ⊢
    rw [clM_ap l0]
    by_cases e : 4 = c
    · subst e
      rw [if_pos rfl] at l1 ⊢
      by_cases e2 : l = lnM M 4
      · rw [if_pos ⟨rfl, e2⟩]; exact Or.inl (h4 rfl)
      · rw [if_neg (fun z => e2 z.2)]
        rcases h.2.1 l l0 (by omega) with z | z
        · exact Or.inl z
        · right; omega
    · rw [if_neg e] at l1 ⊢
      rw [if_neg (fun z => e z.1)]; exact h.2.1 l l0 l1
  · rw [lnM_ap] at t1
    rw [clM_ap t0, lnM_ap]
    have p4 : lnM M 4 ≤ (if 4 = c then lnM M c + 1 else lnM M 4) := by split; rename_i z; rw [← z]; omega; omega
    by_cases e : 0 = c ∧ t = lnM M c
    · rw [if_pos e]; exact Or.inl (h0 e.1.symm)
    · rw [if_neg e]
      have t2 : t < lnM M 0 := by
        by_cases e2 : 0 = c
        · rw [if_pos e2] at t1; rw [← e2] at t1 e; have : t ≠ lnM M 0 := fun z => e ⟨rfl, z⟩; omega
        · rw [if_neg e2] at t1; exact t1
      rcases h.2.2 t t0 t2 with z | z
      · exact Or.inl z
      · right; omega
/-- a row's cell is changed -/
theorem VMd.wu (h : VMd L X ln s a M P) {A : Nat} (hA : isT A = true) {i v : Int} (hv : okv A v) (i0 : 0 ≤ i) (i1 : i < lnM M (cOf A)) (hx : (A = 125 → v = -1 ∨ (i < v ∧ v < lnM M 4)) ∧ (A = 107 → v = -1 ∨ (0 ≤ v ∧ v < lnM M 4))) : VMd L X ln (sE s A i v) a (upM M (cOf A) i (jOf A) v) P := by
  obtain ⟨q1, q2, q3, q4, q5, q6, q7, q8, q9, q10⟩ := h
  refine ⟨q1.w hA, by rw [gI_sE]; exact q2, by rw [gI_sE]; exact q3, by rw [gI_sE]; exact q4, q5, q6, q7, ⟨fun c hc => by rw [gI_sE, lnM_up]; exact q8.1 c hc, fun B hB k k0 k1 => ?_, q8.2.2.up hA i0 i1 hx⟩, fun x hx => ?_, q10.congr (fun c _ => by rw [lnM_up])⟩
  · rw [lnM_up] at k1
    rw [clM_up i0 i1 (q8.2.2.jlt hA i0 i1) k0, rdA_sE]
    by_cases e : cOf B = cOf A ∧ k = i ∧ jOf B = jOf A
    · have eB := jOf_inj hA hB e.1 e.2.2
      rw [if_pos e, if_pos ⟨eB, e.2.1⟩]; exact Or.inr (okv_id hv)
    · rw [if_neg e, if_neg (fun z => e ⟨by rw [z.1], z.2, by rw [z.1]⟩)]; exact q8.2.1 B hB k k0 k1
  · obtain ⟨w1, w2⟩ := q9 x hx
    refine ⟨w1, ?_⟩
    rw [lnM_up, rdA_sE, if_neg (fun z => by rw [z.1] at z; omega)]; exact w2
theorem gI_s87 {o f : Nat} {v : Int} : gI (sI s 87 o v) 87 f = if f = o then w32 v else gI s 87 f := by
  rw [gI_sI]; simp
/-- a row more -/
theorem VMd.wi (hH : LH L X) (h : VMd L X ln s a M P) {c : Nat} (hc : c < 10) {r : List Int} (hr : ∀ A, isT A = true → cOf A = c → r.getD (jOf A) 0 = -7 ∨ (A, r.getD (jOf A) 0) ∈ P) (hk : CB (lnM (apM M c r)) a 1) (hl : wd c ≤ r.length ∧ (c = 4 → r.getD 4 0 = -1) ∧ (c = 0 → r.getD 10 0 = -1)) {v : Int} (hv : v = lnM M c + 1) : VMd L X ln (sI s 87 (cnt c) v) a (apM M c r) (P.filter (fun x => cOf x.1 != c)) := by
  subst hv
  obtain ⟨q1, q2, q3, q4, q5, q6, q7, q8, q9, q10⟩ := h
  have hL := hH.2.1
  have nc := cnt_ne hc
  have k1 := hk.ge hc
  rw [lnM_ap, if_pos rfl] at k1
  have k2 : lnM M c + 1 ≤ 3000 := by rcases wt_pos hc with z | z | z <;> rw [z] at k1 <;> omega
  have hf : Fr [87000 + cnt c] s (sI s 87 (cnt c) (lnM M c + 1)) := Fr.wI Fr.rfl (List.mem_singleton.mpr rfl)
  have ec : ∀ d, d < 10 → gI (sI s 87 (cnt c) (lnM M c + 1)) 87 (cnt d) = lnM (apM M c r) d := by
    intro d hd
    rw [gI_s87, lnM_ap]
    by_cases e : d = c
    · rw [if_pos (by rw [e]), if_pos e, w32_id ⟨by omega, by omega⟩]
    · rw [if_neg (fun z => e (cnt_inj hd hc z)), if_neg e]; exact q8.1 d hd
  refine ⟨q1.fr hf (fun d hd => ?_) (fun A hA => ?_) ((hk.congr (fun d hd => ec d hd)).mono q6 (by decide)), by rw [gI_s87, if_neg (by omega)]; exact q2, by rw [gI_s87, if_neg (by omega)]; exact q3, by rw [gI_s87, if_neg (by omega)]; exact q4, q5, q6, q7, ⟨ec, fun A hA i i0 i1 => ?_, q8.2.2.ap (fun _ => hl.1) hl.2.1 hl.2.2⟩, fun x hx => ?_, hk⟩
  · unfold sup at hd
    simp only [List.mem_cons, List.not_mem_nil, or_false] at hd ⊢
    omega
  · have := isT_rg hA
    simp only [List.mem_cons, List.not_mem_nil, or_false]; omega
  · rw [lnM_ap] at i1
    rw [clM_ap i0]
    show _ ∨ rdA s A i = _
    by_cases e : cOf A = c ∧ i = lnM M c
    · rw [if_pos e]
      rcases hr A hA e.1 with z | z
      · exact Or.inl z
      · have w := (q9 _ z).2
        simp only at w
        rw [e.1, ← e.2] at w
        exact Or.inr w
    · rw [if_neg e]
      refine q8.2.1 A hA i i0 ?_
      by_cases e2 : cOf A = c
      · rw [if_pos e2] at i1
        rw [e2]
        have : i ≠ lnM M c := fun z => e ⟨e2, z⟩
        omega
      · rw [if_neg e2] at i1; exact i1
  · obtain ⟨z1, z2⟩ := List.mem_filter.mp hx
    have z3 : cOf x.1 ≠ c := by simpa using z2
    refine ⟨(q9 x z1).1, ?_⟩
    rw [lnM_ap, if_neg z3]
    exact (q9 x z1).2
end
