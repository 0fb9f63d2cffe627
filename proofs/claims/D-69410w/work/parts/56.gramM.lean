set_option maxRecDepth 100000 set_option linter.unusedVariables false set_option linter.unusedSimpArgs false
/-! PURE 56: the model's grammar: its small steps -/
theorem uns_kz {L : Lx} {a : Int} : (kdL L a ∈ unsK) ↔ (kz L a = 8 ∨ kz L a = 10 ∨ kz L a = 11 ∨ kz L a = 20 ∨ kz L a ∈ strT) := by
  have e : ∀ K c : Int, km K = c → c ≠ 22 → K ≠ -1 → ((kdL L a = K) = (kz L a = c)) := fun K c h1 h2 h3 => kd_iff h1 h2 h3
  unfold unsK strT
  simp only [List.mem_cons, List.not_mem_nil, or_false]
  rw [e 11 8 (by decide) (by decide) (by decide), e 13 10 (by decide) (by decide) (by decide), e 14 11 (by decide) (by decide) (by decide), e 26 20 (by decide) (by decide) (by decide)]
  rw [e 101 41 (by decide) (by decide) (by decide), e 102 42 (by decide) (by decide) (by decide), e 104 44 (by decide) (by decide) (by decide), e 107 47 (by decide) (by decide) (by decide), e 110 50 (by decide) (by decide) (by decide), e 112 52 (by decide) (by decide) (by decide), e 114 54 (by decide) (by decide) (by decide), e 119 59 (by decide) (by decide) (by decide), e 122 62 (by decide) (by decide) (by decide), e 124 64 (by decide) (by decide) (by decide), e 126 66 (by decide) (by decide) (by decide), e 128 68 (by decide) (by decide) (by decide), e 129 69 (by decide) (by decide) (by decide), e 131 71 (by decide) (by decide) (by decide), e 136 76 (by decide) (by decide) (by decide), e 137 77 (by decide) (by decide) (by decide), e 138 78 (by decide) (by decide) (by decide), e 140 80 (by decide) (by decide) (by decide), e 141 81 (by decide) (by decide) (by decide), e 146 86 (by decide) (by decide) (by decide), e 151 91 (by decide) (by decide) (by decide), e 157 97 (by decide) (by decide) (by decide), e 158 98 (by decide) (by decide) (by decide), e 164 104 (by decide) (by decide) (by decide), e 167 107 (by decide) (by decide) (by decide), e 168 108 (by decide) (by decide) (by decide), e 173 113 (by decide) (by decide) (by decide), e 174 114 (by decide) (by decide) (by decide), e 175 115 (by decide) (by decide) (by decide), e 176 116 (by decide) (by decide) (by decide)]
  generalize kz L a = x
  constructor <;> (intro h; omega)
theorem misfit_l {s : vS} (h : STR s) {x1 k : Int} : ∀ (m N : Nat) (i o : Int), (o = 0 ∨ o = 1) → 0 ≤ i → i ≤ 30 → 30 - i ≤ m → m < N → ∃ r : Int, l_X14_misfit_43 N x1 k o i s = some (r, s) ∧ (r = 0 ∨ r = 1) ∧ (r = 1 ↔ (o = 1 ∨ ∃ j : Int, i ≤ j ∧ j < 30 ∧ strT.getD j.toNat 0 = k)) := by
  intro m
  induction m with
  | zero =>
    intro N i o ho i0 i1 hm hN
    obtain ⟨N, rfl⟩ : ∃ m, N = m + 1 := ⟨N - 1, by omega⟩
    unfold l_X14_misfit_43
    rw [if_pos (by omega)]
    exact ⟨o, rfl, ho, fun z => Or.inl z, fun z => z.elim id (fun ⟨j, j1, j2, _⟩ => by omega)⟩
  | succ m ih =>
    intro N i o ho i0 i1 hm hN
    obtain ⟨N, rfl⟩ : ∃ m, N = m + 1 := ⟨N - 1, by omega⟩
    unfold l_X14_misfit_43
    by_cases c : 30 ≤ i
    · rw [if_pos c]
      exact ⟨o, rfl, ho, fun z => Or.inl z, fun z => z.elim id (fun ⟨j, j1, j2, _⟩ => by omega)⟩
    · rw [if_neg c]
      have w : w32 (i + 1) = i + 1 := w32_id ⟨by omega, by omega⟩
      rcases ho with rfl | rfl
      · rw [if_pos rfl, gd_pos ⟨i0, by rw [h.1]; omega⟩, h.2 i i0 (by omega)]
        by_cases d : strT.getD i.toNat 0 = k
        · rw [if_pos d, vl_eq, w]
          obtain ⟨r, r1, r2, r3⟩ := ih N (i + 1) 1 (Or.inr rfl) (by omega) (by omega) (by omega) (by omega)
          exact ⟨r, r1, r2, fun _ => Or.inr ⟨i, by omega, by omega, d⟩, fun _ => r3.mpr (Or.inl rfl)⟩
        · rw [if_neg d, vl_eq, w]
          obtain ⟨r, r1, r2, r3⟩ := ih N (i + 1) 0 (Or.inl rfl) (by omega) (by omega) (by omega) (by omega)
          refine ⟨r, r1, r2, fun z => ?_, fun z => r3.mpr ?_⟩
          · rcases r3.mp z with q | ⟨j, j1, j2, j3⟩
            · exact Or.inl q
            · exact Or.inr ⟨j, by omega, j2, j3⟩
          · rcases z with q | ⟨j, j1, j2, j3⟩
            · exact Or.inl q
            · have : j ≠ i := fun z => d (by rw [← z]; exact j3)
              exact Or.inr ⟨j, by omega, j2, j3⟩
      · rw [if_neg (by decide), vl_eq, w]
        obtain ⟨r, r1, r2, r3⟩ := ih N (i + 1) 1 (Or.inr rfl) (by omega) (by omega) (by omega) (by omega)
        exact ⟨r, r1, r2, fun _ => Or.inl rfl, fun _ => r3.mpr (Or.inl rfl)⟩
theorem str_mem {k : Int} : (∃ j : Int, 0 ≤ j ∧ j < 30 ∧ strT.getD j.toNat 0 = k) ↔ k ∈ strT := by
  constructor
  · rintro ⟨j, j0, j1, rfl⟩
    have e : j.toNat < strT.length := by show j.toNat < 30; omega
    rw [List.getD_eq_getElem?_getD, List.getElem?_eq_getElem e]
    exact List.getElem_mem e
  · intro h
    obtain ⟨i, hi, rfl⟩ := List.mem_iff_getElem.mp h
    have hi' : i < 30 := hi
    refine ⟨i, by omega, by omega, ?_⟩
    rw [Int.toNat_natCast, List.getD_eq_getElem?_getD, List.getElem?_eq_getElem hi]; rfl
section
variable {L : Lx} {X : List Int} {ln : Nat → Nat} {s s' : vS} {a : Int} {M M' : Mt} {P : List (Nat × Int)} {α : Type} {Q : α → Prop} {e : Ft}
theorem VMd.lex (h : VMd L X ln s a M P) : inb (gI s 87 19) (gN s 94) ∧ inb (gI s 87 19) (gN s 95) ∧ gE s 94 (gI s 87 19) = kz L a ∧ gE s 95 (gI s 87 19) = stL' L X a := by
  obtain ⟨q1, q2, q3, q4, q5, q6⟩ := h.1.1
  have a0 := h.a0
  have al := h.al
  obtain ⟨w1, w2, w3⟩ := q6 a a0 al
  rw [h.at]
  exact ⟨⟨a0, by omega⟩, ⟨a0, by rw [q4]; omega⟩, w1, w2⟩
theorem VMd.is (h : VMd L X ln s a M P) (c : Int) : f_X14_is c s = some (b2i (kz L a = c), s) := by
  unfold f_X14_is b2i
  obtain ⟨w1, w2, w3, w4⟩ := h.lex
  rw [gd_pos w1, w3]
  split <;> rfl
theorem stL_rg {L : Lx} {X : List Int} {s : vS} (h : LXM L X s) {a : Int} (a0 : 0 ≤ a) (al : a ≤ L.length) : rg (stL' L X a) := by
  rw [← (h.2.2.2.2.2 a a0 al).2.1]; exact gE_rg _ _ _
theorem tell_fr {n p : Int} : Fr [87008, 87009] s (tellS s n p) := by
  unfold tellS
  exact Fr.wI (Fr.wI Fr.rfl (by decide)) (by decide)
/-- a fault is told here -/
theorem VMd.tellF (h : VMd L X ln s a M P) {c p : Int} (hc : rg c) (hp : rg p) (c0 : 0 < c) : FM L X ln (c, p) (tellS s c p) ∧ TB (tellS s c p) M := by
  obtain ⟨q1, q2, q3, q4, q5, q6, q7, q8, q9, q10⟩ := h
  have hf : Fr [87008, 87009] s (tellS s c p) := tell_fr
  have ec : ∀ d, d < 10 → gI (tellS s c p) 87 (cnt d) = gI s 87 (cnt d) := fun d hd => hf.rI (by have := cnt_ne hd; simp only [List.mem_cons, List.not_mem_nil, or_false]; omega)
  have nA : ∀ A, isT A = true → 1000 * A + 998 ∉ [87008, 87009] ∧ 1000 * A + 999 ∉ [87008, 87009] := fun A hA => by
    have := isT_rg hA; simp only [List.mem_cons, List.not_mem_nil, or_false]; omega
  refine ⟨⟨q1.fr hf (by decide) (fun A hA => (nA A hA).1) (q1.2.2.2.2.2.2.congr (fun d hd => ec d hd)), ?_, ?_, c0, by rw [hf.rI (by decide)]; omega, by rw [hf.rI (by decide)]; omega⟩, fun d hd => by rw [ec d hd]; exact q8.1 d hd, fun A hA i i0 i1 => by rw [rdA_fr hf hA (nA A hA).2]; exact q8.2.1 A hA i i0 i1, q8.2.2⟩
  · unfold tellS; rw [gI_s87, if_neg (by decide), gI_s87, if_pos rfl, w32_id hc]
  · unfold tellS; rw [gI_s87, if_pos rfl, w32_id hp]
theorem VMd.misfit (hH : LH L X) (h : VMd L X ln s a M P) {x1 : Int} : f_X14_misfit x1 s = some (tellS s (flt L X a).1 (flt L X a).2) := by
  have hS := h.1.2.1
  obtain ⟨w1, w2, w3, w4⟩ := h.lex
  have nd := h.2.2.2.2.2.2.1
  have J : ∀ z : Int, z = (if kdL L a ∈ unsK then 3 else 2) → j_X14_misfit_129 z s = some (tellS s (flt L X a).1 (flt L X a).2) := by
    intro z hz
    unfold j_X14_misfit_129 flt
    rw [gd_pos w2, w4, X14_tell h.f0, bdv_eq, hz]
  have J1 : kdL L a ∈ unsK → j_X14_misfit_118 1 s = some (tellS s (flt L X a).1 (flt L X a).2) := fun hu => by
    unfold j_X14_misfit_118
    rw [if_neg (by decide)]; exact J 3 (by rw [if_pos hu])
  have J0 : kdL L a ∉ unsK → j_X14_misfit_118 0 s = some (tellS s (flt L X a).1 (flt L X a).2) := fun hu => by
    unfold j_X14_misfit_118
    rw [if_pos rfl]; exact J 2 (by rw [if_neg hu])
  have hu := uns_kz (L := L) (a := a)
  have lp : ∀ o : Int, (o = 0 ∨ o = 1) → l_X14_misfit_43 FU x1 (kz L a) o 0 s = some (if o = 1 ∨ kz L a ∈ strT then 1 else 0, s) := by
    intro o ho
    obtain ⟨r, r1, r2, r3⟩ := misfit_l hS (x1 := x1) (k := kz L a) 30 FU 0 o ho (by decide) (by decide) (by decide) (by unfold FU; omega)
    rw [r1]
    rw [str_mem] at r3
    by_cases c : o = 1 ∨ kz L a ∈ strT
    · rw [if_pos c, r3.mpr c]
    · rw [if_neg c]
      rcases r2 with z | z
      · rw [z]
      · exact absurd (r3.mp z) c
  unfold f_X14_misfit
  rw [gd_pos w1, vl_eq, w3]
  rw [lp 1 (Or.inr rfl), lp 0 (Or.inl rfl)]
  simp only [lq_1_eq, true_or, if_true]
  by_cases c1 : kz L a = 8
  · rw [if_pos c1]; simp only [Int.reduceEq, if_false]; exact J1 (hu.mpr (Or.inl c1))
  rw [if_neg c1]
  by_cases c2 : kz L a = 10
  · rw [if_pos c2]; simp only [Int.reduceEq, if_false]; exact J1 (hu.mpr (Or.inr (Or.inl c2)))
  rw [if_neg c2]
  by_cases c3 : kz L a = 11
  · rw [if_pos c3]; simp only [Int.reduceEq, if_false]; exact J1 (hu.mpr (Or.inr (Or.inr (Or.inl c3))))
  rw [if_neg c3]
  by_cases c4 : kz L a = 20
  · rw [if_pos c4]; simp only [Int.reduceEq, if_false]; exact J1 (hu.mpr (Or.inr (Or.inr (Or.inr (Or.inl c4)))))
  rw [if_neg c4]
  by_cases c5 : kz L a ∈ strT
  · rw [if_pos (Or.inr c5)]; simp only [Int.reduceEq, if_false]; exact J1 (hu.mpr (Or.inr (Or.inr (Or.inr (Or.inr c5)))))
  · have nu : kdL L a ∉ unsK := fun z => by
      rcases hu.mp z with z | z | z | z | z
      · exact c1 z
      · exact c2 z
      · exact c3 z
      · exact c4 z
      · exact c5 z
    have ef : (if (0 : Int) = 1 ∨ kz L a ∈ strT then (1 : Int) else 0) = 0 := if_neg (fun z => z.elim (fun z => absurd z (by decide)) c5)
    rw [ef, if_pos rfl]
    by_cases x0 : x1 = 0
    · rw [if_pos x0]; exact J0 nu
    rw [if_neg x0]
    by_cases c12 : kz L a = 12
    · rw [if_pos c12]
      by_cases p0 : gI s 87 19 ≤ 0
      · rw [if_pos p0]; exact J0 nu
      · rw [if_neg p0]
        rw [h.at] at p0 ⊢
        have al := h.al
        obtain ⟨q1, q2, q3, q4, q5, q6⟩ := h.1.1
        have q1' := q1.2.1
        have wz : w32 (a - 1) = a - 1 := by
          have hl : inb (gI s 87 19) (gN s 94) := w1
          rw [h.at] at hl
          have := hH.2.1
          exact w32_id ⟨by omega, by omega⟩
        rw [wz, gd_pos ⟨by omega, by omega⟩, (q6 (a - 1) (by omega) (by omega)).1, if_neg (fun z => nd ⟨c12, z⟩)]
        exact J0 nu
    · rw [if_neg c12]; exact J0 nu
theorem flt_pos (L : Lx) (X : List Int) (a : Int) : 0 < (flt L X a).1 ∧ rg (flt L X a).1 := by unfold flt; simp only; split <;> exact ⟨by decide, rgl rfl⟩
theorem m_misfit (hH : LH L X) {x1 : Int} {k : vS → Option α} (h : VMd L X ln s a M P) (h1 : ∀ s', FM L X ln (flt L X a) s' → TB s' M → wpo (k s') Q) : wpo (bdv (f_X14_misfit x1 s) k) Q := by
  rw [h.misfit hH, bdv_eq]
  obtain ⟨q1, q2⟩ := flt_pos L X a
  obtain ⟨w1, w2⟩ := h.tellF (c := (flt L X a).1) (p := (flt L X a).2) q2 (stL_rg h.1.1 h.a0 h.al) q1
  exact h1 _ w1 w2
theorem m_is {c : Int} {k : Int → vS → Option α} (h : VMd L X ln s a M P) (h1 : kz L a = c → wpo (k 1 s) Q) (h0 : kz L a ≠ c → wpo (k 0 s) Q) : wpo (bd (f_X14_is c s) k) Q := by
  rw [h.is, bd_eq]
  unfold b2i
  by_cases d : kz L a = c
  · rw [if_pos d]; exact h1 d
  · rw [if_neg d]; exact h0 d
theorem ND_of {a c : Int} (h : kz L a = c) (hc : c ≠ 1) : ND L (a + 1) := fun z => hc (by rw [← h, show a = a + 1 - 1 by omega]; exact z.2)
theorem m_take (hH : LH L X) {c : Int} {k : Int → vS → Option α} (h : VMd L X ln s a M P) (c0 : c ≠ 0) (c1 : c ≠ 1) (h1 : kz L a = c → a < L.length → ∀ s', VMd L X ln s' (a + 1) M P → wpo (k a s') Q) (h0 : kz L a ≠ c → ∀ s', FM L X ln (flt L X a) s' → TB s' M → wpo (k 0 s') Q) : wpo (bd (f_X14_take c s) k) Q := by
  have hl := hH.2.1
  have a0 := h.a0
  unfold f_X14_take
  rw [h.f0, if_pos (by decide), h.is, bd_eq]
  unfold b2i
  by_cases d : kz L a = c
  · have al := (kz_in d c0).2
    have q := h.adv hH al (ND_of d c1)
    rw [if_pos d, if_neg (by decide), stp_eq, bd_eq, q.at, show a + 1 - 1 = a by omega, w32_id ⟨by omega, by omega⟩]
    exact h1 d al _ q
  · rw [if_neg d, if_pos rfl, h.misfit hH, bdv_eq, bd_eq]
    obtain ⟨q1, q2⟩ := flt_pos L X a
    obtain ⟨w1, w2⟩ := h.tellF (c := (flt L X a).1) (p := (flt L X a).2) q2 (stL_rg h.1.1 h.a0 h.al) q1
    exact h0 d _ w1 w2
theorem m_eat (hH : LH L X) {c : Int} {k : Int → vS → Option α} (h : VMd L X ln s a M P) (c0 : c ≠ 0) (c1 : c ≠ 1) (h1 : kz L a = c → a < L.length → ∀ s', VMd L X ln s' (a + 1) M P → wpo (k 1 s') Q) (h0 : kz L a ≠ c → wpo (k 0 s) Q) : wpo (bd (f_X14_eat c s) k) Q := by
  unfold f_X14_eat
  rw [h.f0, if_neg (by decide), h.is, bd_eq]
  unfold b2i
  by_cases d : kz L a = c
  · have al := (kz_in d c0).2
    have q := h.adv hH al (ND_of d c1)
    rw [if_pos d, if_neg (by decide), stp_eq, bd_eq]
    exact h1 d al _ q
  · rw [if_neg d, if_pos rfl, bd_eq]
    exact h0 d
theorem m_adv (hH : LH L X) {k : vS → Option α} (h : VMd L X ln s a M P) {c : Int} (hk : kz L a = c) (c0 : c ≠ 0) (c1 : c ≠ 1) (h1 : a < L.length → ∀ s', VMd L X ln s' (a + 1) M P → wpo (k s') Q) : wpo (stp (sI s 87 19 (w32 (gI s 87 19 + 1))) k) Q := by
  rw [stp_eq]
  exact h1 (kz_in hk c0).2 _ (h.adv hH (kz_in hk c0).2 (ND_of hk c1))
theorem m_new (hN : LN L ln) {A : Nat} {i v : Int} {k : vS → Option α} (h : VMd L X ln s a M P) (hA : isT A = true) (hi : i = lnM M (cOf A)) (hv : okv A v) (h1 : ∀ s', VMd L X ln s' a M ((A, v) :: dropA A P) → wpo (k s') Q) : wpo (stp (sE s A i v) k) Q := by
  subst hi
  rw [stp_eq]; exact h1 _ (h.wn hA hv)
theorem m_gdn (hN : LN L ln) {A : Nat} {i : Int} {k : Option α} (h : VMd L X ln s a M P) (hA : isT A = true) (hi : i = lnM M (cOf A)) (h1 : wpo k Q) : wpo (gd (inb i (gN s A)) k) Q := by
  subst hi
  exact wpo_gd.mpr ⟨h.ixn hN hA, h1⟩
theorem m_gdo (hN : LN L ln) {A : Nat} {i : Int} {k : Option α} (h : VMd L X ln s a M P) (hA : isT A = true) (i0 : 0 ≤ i) (i1 : i < lnM M (cOf A)) (h1 : wpo k Q) : wpo (gd (inb i (gN s A)) k) Q := wpo_gd.mpr ⟨h.ixo hN hA i0 i1, h1⟩
theorem m_gde {A : Nat} {t : vS} {b : Int} {M' : Mt} {P' : List (Nat × Int)} {k : Option α} (h : VMd L X ln s a M P) (h' : VMd L X ln t b M' P') (hA : isT A = true) (h1 : wpo k Q) : wpo (gd (gN s A = gN t A) k) Q := wpo_gd.mpr ⟨by rw [h.1.2.2.2.1 A hA, h'.1.2.2.2.1 A hA], h1⟩
theorem m_ct {c k0 : Nat} {k : Int → Option α} (h : VMd L X ln s a M P) (hc : c < 10) (e : k0 = cnt c) (h1 : wpo (k (lnM M c)) Q) : wpo (vl (gI s 87 k0) k) Q := by
  subst e; rw [vl_eq, h.ct hc]; exact h1
theorem m_vat {k : Int → Option α} (h : VMd L X ln s a M P) (h1 : wpo (k a) Q) : wpo (vl (gI s 87 19) k) Q := by
  rw [vl_eq, h.at]; exact h1
theorem m_if0 {x y : Option α} (h : VMd L X ln s a M P) (h1 : wpo x Q) : wpo (if gI s 87 8 = 0 then x else y) Q := by rw [if_pos h.f0]; exact h1
theorem m_ifl {x y : Option α} (h : VMd L X ln s a M P) (h1 : wpo x Q) : wpo (if gI s 87 8 ≤ 0 then x else y) Q := by rw [if_pos (by rw [h.f0]; decide)]; exact h1
/-! in a fault -/
theorem FM.eq (h : FM L X ln e s) : 0 < gI s 87 8 := by rw [h.2.1]; exact h.2.2.2.1
theorem mF_if0 {x y : Option α} (h : FM L X ln e s) (h1 : wpo y Q) : wpo (if gI s 87 8 = 0 then x else y) Q := by rw [if_neg (by have := h.eq; omega)]; exact h1
theorem mF_ifl {x y : Option α} (h : FM L X ln e s) (h1 : wpo y Q) : wpo (if gI s 87 8 ≤ 0 then x else y) Q := by rw [if_neg (by have := h.eq; omega)]; exact h1
theorem mF_take {c : Int} {k : Int → vS → Option α} (h : FM L X ln e s) (h1 : wpo (k 0 s) Q) : wpo (bd (f_X14_take c s) k) Q := by
  unfold f_X14_take
  rw [if_neg (by have := h.eq; omega), bd_eq]; exact h1
theorem mF_eat {c : Int} {k : Int → vS → Option α} (h : FM L X ln e s) (h1 : wpo (k 0 s) Q) : wpo (bd (f_X14_eat c s) k) Q := by
  unfold f_X14_eat
  rw [if_pos (by have := h.eq; omega), bd_eq]; exact h1
theorem mF_w {A : Nat} {i v : Int} {k : vS → Option α} (h : FM L X ln e s) (hA : isT A = true) (h1 : ∀ s', FM L X ln e s' → wpo (k s') Q) : wpo (stp (sE s A i v) k) Q := by
  rw [stp_eq]
  exact h1 _ ⟨h.1.w hA, by rw [gI_sE]; exact h.2.1, by rw [gI_sE]; exact h.2.2.1, h.2.2.2.1, by rw [gI_sE]; exact h.2.2.2.2.1, by rw [gI_sE]; exact h.2.2.2.2.2⟩
theorem mF_gd (hN : LN L ln) {A : Nat} {i : Int} {k : Option α} (h : FM L X ln e s) (hA : isT A = true) (i0 : 0 ≤ i) (i1 : wt (cOf A) * i ≤ L.length + wt (cOf A) * 2) (h1 : wpo k Q) : wpo (gd (inb i (gN s A)) k) Q := by
  refine wpo_gd.mpr ⟨⟨i0, ?_⟩, h1⟩
  rw [h.1.2.2.2.1 A hA]; exact ixA hN hA i1
theorem mF_gde {A : Nat} {t : vS} {k : Option α} (h : FM L X ln e s) (h' : BD L X ln t) (hA : isT A = true) (h1 : wpo k Q) : wpo (gd (gN s A = gN t A) k) Q := wpo_gd.mpr ⟨by rw [h.1.2.2.2.1 A hA, h'.2.2.2.1 A hA], h1⟩
end
