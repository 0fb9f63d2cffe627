set_option maxRecDepth 100000 set_option linter.unusedVariables false set_option linter.unusedSimpArgs false
/-! PURE 59: the model's grammar: limits -/
theorem cOf_0 {A : Nat} (h : isT A = true) (hc : cOf A = 0) : A = 97 ∨ A = 98 ∨ A = 99 ∨ A = 100 ∨ A = 101 ∨ A = 102 ∨ A = 103 ∨ A = 104 ∨ A = 105 ∨ A = 106 ∨ A = 107 := by
  have := isT_rg h
  unfold cOf at hc
  grind
theorem cOf_1 {A : Nat} (h : isT A = true) (hc : cOf A = 1) : A = 108 ∨ A = 109 ∨ A = 110 ∨ A = 111 := by
  have := isT_rg h
  unfold cOf at hc
  grind
theorem cOf_2 {A : Nat} (h : isT A = true) (hc : cOf A = 2) : A = 112 ∨ A = 113 ∨ A = 114 ∨ A = 115 := by
  have := isT_rg h
  unfold cOf at hc
  grind
theorem cOf_3 {A : Nat} (h : isT A = true) (hc : cOf A = 3) : A = 116 ∨ A = 117 ∨ A = 118 ∨ A = 119 ∨ A = 120 := by
  have := isT_rg h
  unfold cOf at hc
  grind
theorem cOf_4 {A : Nat} (h : isT A = true) (hc : cOf A = 4) : A = 121 ∨ A = 122 ∨ A = 123 ∨ A = 124 ∨ A = 125 := by
  have := isT_rg h
  unfold cOf at hc
  grind
theorem cOf_5 {A : Nat} (h : isT A = true) (hc : cOf A = 5) : A = 126 ∨ A = 127 ∨ A = 128 ∨ A = 129 := by
  have := isT_rg h
  unfold cOf at hc
  grind
theorem cOf_6 {A : Nat} (h : isT A = true) (hc : cOf A = 6) : A = 132 ∨ A = 133 ∨ A = 134 ∨ A = 135 ∨ A = 136 ∨ A = 137 ∨ A = 138 := by
  have := isT_rg h
  unfold cOf at hc
  grind
theorem cOf_7 {A : Nat} (h : isT A = true) (hc : cOf A = 7) : A = 139 ∨ A = 140 := by
  have := isT_rg h
  unfold cOf at hc
  grind
theorem cOf_8 {A : Nat} (h : isT A = true) (hc : cOf A = 8) : A = 141 ∨ A = 142 ∨ A = 143 := by
  have := isT_rg h
  unfold cOf at hc
  grind
theorem cOf_9 {A : Nat} (h : isT A = true) (hc : cOf A = 9) : A = 144 := by
  have := isT_rg h
  unfold cOf at hc
  grind
section
variable {L : Lx} {X : List Int} {ln : Nat → Nat} {s s' : vS} {a : Int} {M M' : Mt} {P : List (Nat × Int)} {α : Type} {Q : α → Prop} {e : Ft}
theorem sE_sI {o f A : Nat} {v i x : Int} : sE (sI s o f v) A i x = sI (sE s A i x) o f v := rfl
theorem lastL_l {n : Int} (hn : lnM M 4 = n) (hw : WFL M) {s : vS} (hlen : ∀ i : Int, 0 ≤ i → i < n → inb i (gN s 125)) (hv : ∀ i : Int, 0 ≤ i → i < n → gE s 125 i = clM M 4 i 4) {y : Int} : ∀ (k N : Nat) (v : Int), 0 ≤ v → v < n → n - v ≤ k → k < N → l_X14_addLimit_87 N y v s = some (lastL M k v, s) ∧ 0 ≤ lastL M k v ∧ lastL M k v < n := by
  intro k
  induction k with
  | zero => intro N v v0 v1 hk; omega
  | succ k ih =>
    intro N v v0 v1 hk hN
    obtain ⟨N, rfl⟩ : ∃ m, N = m + 1 := ⟨N - 1, by omega⟩
    unfold l_X14_addLimit_87 lastL
    rw [gd_pos (hlen v v0 v1), hv v v0 v1]
    rcases hw.1 v v0 (by omega) with z | z
    · rw [z, if_pos (by decide), if_neg (by decide)]; exact ⟨rfl, v0, v1⟩
    · rw [if_neg (by omega), if_pos (by omega), gd_pos (hlen v v0 v1), vl_eq]
      exact ih N _ (by omega) (by omega) (by omega) (by omega)
/-- the row, and where it hangs -/
def alS (s : vS) (n b z : Int) : vS := sE (sE (sE (sE (sE (sI s 87 48 (n + 1)) 121 n b) 122 n z) 123 n (gI s 87 54)) 124 n 0) 125 n (-1)
theorem addLimit_eq (hN : LN L ln) {n t b z : Int} (hB : ∀ A, isT A = true → gN s A = ln A) (hc : gI s 87 48 = n) (n0 : 0 ≤ n) (n1 : 3 * n ≤ L.length + 6) (hl : L.length ≤ 2000) (t0 : 0 ≤ t) (t1 : t < lnM M 0) (t2 : t < ln 107) (hn : lnM M 4 = n) (hw : WFL M) (hv : ∀ i : Int, 0 ≤ i → i < n → gE s 125 i = clM M 4 i 4) (ht : gE s 107 t = clM M 0 t 10) : f_X14_addLimit t b z s = some (n, if clM M 0 t 10 < 0 then sE (alS s n b z) 107 t n else sE (alS s n b z) 125 (lastL M (lnM M 4).toNat (clM M 0 t 10)) n) ∧ (0 ≤ clM M 0 t 10 → 0 ≤ lastL M (lnM M 4).toNat (clM M 0 t 10) ∧ lastL M (lnM M 4).toNat (clM M 0 t 10) < n) := by
  have q := fun A (hA : isT A = true) (h : wt (cOf A) * n ≤ L.length + wt (cOf A) * 2) => ixA hN hA h
  have g1 := q 121 (by decide) (by show 3 * n ≤ _ + 3 * 2; omega)
  have g2 := q 122 (by decide) (by show 3 * n ≤ _ + 3 * 2; omega)
  have g3 := q 123 (by decide) (by show 3 * n ≤ _ + 3 * 2; omega)
  have g4 := q 124 (by decide) (by show 3 * n ≤ _ + 3 * 2; omega)
  have g5 := q 125 (by decide) (by show 3 * n ≤ _ + 3 * 2; omega)
  rw [← hB 121 (by decide)] at g1
  rw [← hB 122 (by decide)] at g2
  rw [← hB 123 (by decide)] at g3
  rw [← hB 124 (by decide)] at g4
  rw [← hB 125 (by decide)] at g5
  rw [← hB 107 (by decide)] at t2
  have w : w32 (n + 1) = n + 1 := w32_id ⟨by omega, by omega⟩
  have e1 : gE (alS s n b z) 107 t = clM M 0 t 10 := by
    unfold alS; simp only [gE_sE, gE_sI, Nat.reduceEqDiff, Nat.reduceAdd, Nat.reduceLT, Nat.reduceLeDiff, Nat.reduceBEq, reduceIte, and_self, and_true, true_and, and_false, false_and, if_true, if_false, Nat.reduceMul, Int.reduceEq, Int.reduceLT, Int.reduceLE, Int.reduceNeg, Int.reduceAdd, Int.reduceMul, Int.reduceSub]; exact ht
  have e2 : ∀ i : Int, 0 ≤ i → i < n → gE (alS s n b z) 125 i = clM M 4 i 4 := by
    intro i i0 i1
    unfold alS; simp only [gE_sE, gE_sI, Nat.reduceEqDiff, Nat.reduceAdd, Nat.reduceLT, Nat.reduceLeDiff, Nat.reduceBEq, reduceIte, and_self, and_true, true_and, and_false, false_and, if_true, if_false, Nat.reduceMul, Int.reduceEq, Int.reduceLT, Int.reduceLE, Int.reduceNeg, Int.reduceAdd, Int.reduceMul, Int.reduceSub]
    rw [if_neg (by omega)]; exact hv i i0 i1
  have hnn : ∀ A, gN (alS s n b z) A = gN s A := fun A => by unfold alS; simp only [gI_sI, gI_sR, gI_sA, gI_sE, gI_sw2, gI_rs, gI_cpA, gI_gh1, gL_sI, gL_sR, gL_sA, gL_sE, gL_sw2, gL_rs, gL_cpA, gR_sI, gR_sR, gR_sA, gR_sE, gR_sw2, gR_rs, gR_cpA, gN_sI, gN_sR, gN_gh1, gN_sA, gN_sE, gN_cpA, gN_sw2, gN_rs, gE_gC, gB_gC, gZ_gC, gEL_gC, gC_sI, gC_sR, gC_gh1, gC_sA, gC_sE, gC_cpA, gC_sw2, gC_rs]
  unfold f_X14_addLimit
  rw [vl_eq, hc, w]
  simp only [stp_eq]
  rw [gd_pos ⟨n0, g1⟩, gd_pos ⟨n0, by simp only [gI_sI, gI_sR, gI_sA, gI_sE, gI_sw2, gI_rs, gI_cpA, gI_gh1, gL_sI, gL_sR, gL_sA, gL_sE, gL_sw2, gL_rs, gL_cpA, gR_sI, gR_sR, gR_sA, gR_sE, gR_sw2, gR_rs, gR_cpA, gN_sI, gN_sR, gN_gh1, gN_sA, gN_sE, gN_cpA, gN_sw2, gN_rs, gE_gC, gB_gC, gZ_gC, gEL_gC, gC_sI, gC_sR, gC_gh1, gC_sA, gC_sE, gC_cpA, gC_sw2, gC_rs]; exact g2⟩, gd_pos ⟨n0, by simp only [gI_sI, gI_sR, gI_sA, gI_sE, gI_sw2, gI_rs, gI_cpA, gI_gh1, gL_sI, gL_sR, gL_sA, gL_sE, gL_sw2, gL_rs, gL_cpA, gR_sI, gR_sR, gR_sA, gR_sE, gR_sw2, gR_rs, gR_cpA, gN_sI, gN_sR, gN_gh1, gN_sA, gN_sE, gN_cpA, gN_sw2, gN_rs, gE_gC, gB_gC, gZ_gC, gEL_gC, gC_sI, gC_sR, gC_gh1, gC_sA, gC_sE, gC_cpA, gC_sw2, gC_rs]; exact g3⟩, gd_pos ⟨n0, by simp only [gI_sI, gI_sR, gI_sA, gI_sE, gI_sw2, gI_rs, gI_cpA, gI_gh1, gL_sI, gL_sR, gL_sA, gL_sE, gL_sw2, gL_rs, gL_cpA, gR_sI, gR_sR, gR_sA, gR_sE, gR_sw2, gR_rs, gR_cpA, gN_sI, gN_sR, gN_gh1, gN_sA, gN_sE, gN_cpA, gN_sw2, gN_rs, gE_gC, gB_gC, gZ_gC, gEL_gC, gC_sI, gC_sR, gC_gh1, gC_sA, gC_sE, gC_cpA, gC_sw2, gC_rs]; exact g4⟩, gd_pos ⟨n0, by simp only [gI_sI, gI_sR, gI_sA, gI_sE, gI_sw2, gI_rs, gI_cpA, gI_gh1, gL_sI, gL_sR, gL_sA, gL_sE, gL_sw2, gL_rs, gL_cpA, gR_sI, gR_sR, gR_sA, gR_sE, gR_sw2, gR_rs, gR_cpA, gN_sI, gN_sR, gN_gh1, gN_sA, gN_sE, gN_cpA, gN_sw2, gN_rs, gE_gC, gB_gC, gZ_gC, gEL_gC, gC_sI, gC_sR, gC_gh1, gC_sA, gC_sE, gC_cpA, gC_sw2, gC_rs]; exact g5⟩]
  have eS : sE (sE (sE (sE (sE (sI s 87 48 (n + 1)) 121 n b) 122 n z) 123 n (gI (sE (sE (sI s 87 48 (n + 1)) 121 n b) 122 n z) 87 54)) 124 n 0) 125 n (-1) = alS s n b z := by
    unfold alS; simp only [gI_sI, gI_sR, gI_sA, gI_sE, gI_sw2, gI_rs, gI_cpA, gI_gh1, gL_sI, gL_sR, gL_sA, gL_sE, gL_sw2, gL_rs, gL_cpA, gR_sI, gR_sR, gR_sA, gR_sE, gR_sw2, gR_rs, gR_cpA, gN_sI, gN_sR, gN_gh1, gN_sA, gN_sE, gN_cpA, gN_sw2, gN_rs, gE_gC, gB_gC, gZ_gC, gEL_gC, gC_sI, gC_sR, gC_gh1, gC_sA, gC_sE, gC_cpA, gC_sw2, gC_rs, Nat.reduceEqDiff, Nat.reduceAdd, Nat.reduceLT, Nat.reduceLeDiff, Nat.reduceBEq, reduceIte, and_self, and_true, true_and, and_false, false_and, if_true, if_false, Nat.reduceMul, Int.reduceEq, Int.reduceLT, Int.reduceLE, Int.reduceNeg, Int.reduceAdd, Int.reduceMul, Int.reduceSub]
  rw [eS, gd_pos ⟨t0, by rw [hnn]; exact t2⟩, e1]
  rcases hw.2 t t0 t1 with c | c
  · rw [c, if_neg (by decide), gd_pos ⟨t0, by rw [hnn]; exact t2⟩, if_pos (by decide)]
    exact ⟨rfl, fun z => absurd z (by decide)⟩
  · have lp := lastL_l (s := alS s n b z) hn hw (fun i i0 i1 => ⟨i0, by rw [hnn]; omega⟩) e2 (y := n) (lnM M 4).toNat FU (clM M 0 t 10) c.1 (by omega) (by omega) (by unfold FU; omega)
    rw [if_pos c.1, gd_pos ⟨t0, by rw [hnn]; exact t2⟩, vl_eq, lp.1, lq_1_eq, gd_pos ⟨lp.2.1, by rw [hnn]; omega⟩, if_neg (by omega)]
    exact ⟨rfl, fun _ => lp.2⟩
theorem BD.ct (h : BD L X ln s) {c : Nat} (hc : c < 10) {v : Int} (hk : CB (fun d => gI (sI s 87 (cnt c) v) 87 (cnt d)) L.length 2) : BD L X ln (sI s 87 (cnt c) v) := by
  have nc := cnt_ne hc
  have hf : Fr [87000 + cnt c] s (sI s 87 (cnt c) v) := Fr.wI Fr.rfl (List.mem_singleton.mpr rfl)
  refine h.fr hf (fun d hd => ?_) (fun A hA => ?_) hk
  · unfold sup at hd
    simp only [List.mem_cons, List.not_mem_nil, or_false] at hd ⊢
    omega
  · have := isT_rg hA
    simp only [List.mem_cons, List.not_mem_nil, or_false]; omega
theorem mF_addLimit (hH : LH L X) (hN : LN L ln) {t b z : Int} {k : Int → vS → Option α} (h : FM L X ln e s) (hT : TB s M) (hk : CB (lnM M) L.length 1) (t0 : 0 ≤ t) (t1 : t < lnM M 0) (h1 : ∀ s', FM L X ln e s' → wpo (k (lnM M 4) s') Q) : wpo (bd (f_X14_addLimit t b z s) k) Q := by
  have hl := hH.2.1
  have kk := hk
  unfold CB at kk
  have rd : ∀ A, isT A = true → isBl A = false → ∀ i : Int, 0 ≤ i → i < lnM M (cOf A) → clM M (cOf A) i (jOf A) ≠ -7 → gE s A i = clM M (cOf A) i (jOf A) := by
    intro A hA hb i i0 i1 h7
    rcases hT.2.1 A hA i i0 i1 with w | w
    · exact absurd w h7
    · unfold rdA at w; rw [hb] at w; exact w
  have n107 := hT.2.2.2.2 t t0 t1
  have l107 : t < ln 107 := ixA hN (A := 107) (by decide) (by show 1 * t ≤ (L.length : Int) + 1 * 2; omega)
  obtain ⟨e1, e2⟩ := addLimit_eq (M := M) (n := lnM M 4) (t := t) (b := b) (z := z) (s := s) hN h.1.2.2.2.1 (hT.1 4 (by decide)) (by omega) (by omega) hl t0 t1 l107 rfl hT.2.2.2 (fun i i0 i1 => rd 125 (by decide) (by decide) i i0 i1 (by have := hT.2.2.2.1 i i0 i1; show clM M 4 i 4 ≠ -7; omega)) (rd 107 (by decide) (by decide) t t0 t1 (by show clM M 0 t 10 ≠ -7; omega))
  rw [e1, bd_eq]
  refine h1 _ ?_
  have b1 : BD L X ln (sI s 87 48 (lnM M 4 + 1)) := by
    refine h.1.ct (c := 4) (by decide) ?_
    refine CB.congr (f := fun d => if d = 4 then lnM M 4 + 1 else lnM M d) ?_ (fun d hd => ?_)
    · unfold CB; simp only [Nat.reduceEqDiff, Nat.reduceAdd, Nat.reduceLT, Nat.reduceLeDiff, Nat.reduceBEq, reduceIte, and_self, and_true, true_and, and_false, false_and, if_true, if_false, Nat.reduceMul, Int.reduceEq, Int.reduceLT, Int.reduceLE, Int.reduceNeg, Int.reduceAdd, Int.reduceMul, Int.reduceSub]; omega
    · rw [gI_s87]
      by_cases q : d = 4
      · rw [if_pos (by rw [q]), if_pos q, w32_id ⟨by omega, by omega⟩]
      · rw [if_neg (fun z => q (cnt_inj hd (by decide) z)), if_neg q]; exact hT.1 d hd
  have b2 : BD L X ln (alS s (lnM M 4) b z) := ((((b1.w (by decide)).w (by decide)).w (by decide)).w (by decide)).w (by decide)
  have ei : ∀ f, f ≠ 48 → gI (alS s (lnM M 4) b z) 87 f = gI s 87 f := fun f hf => by
    unfold alS; simp only [gI_sE, gI_s87]; rw [if_neg hf]
  split
  · exact ⟨b2.w (by decide), by rw [gI_sE, ei 8 (by decide)]; exact h.2.1, by rw [gI_sE, ei 9 (by decide)]; exact h.2.2.1, h.2.2.2.1, by rw [gI_sE, ei 19 (by decide)]; exact h.2.2.2.2.1, by rw [gI_sE, ei 19 (by decide)]; exact h.2.2.2.2.2⟩
  · exact ⟨b2.w (by decide), by rw [gI_sE, ei 8 (by decide)]; exact h.2.1, by rw [gI_sE, ei 9 (by decide)]; exact h.2.2.1, h.2.2.2.1, by rw [gI_sE, ei 19 (by decide)]; exact h.2.2.2.2.1, by rw [gI_sE, ei 19 (by decide)]; exact h.2.2.2.2.2⟩
theorem m_addLimit (hH : LH L X) (hN : LN L ln) {t b z node : Int} {k : Int → vS → Option α} (h : VMd L X ln s a M []) (hb : rg b) (hz : z = 0 ∨ z = 1) (t0 : 0 ≤ t) (t1 : t < lnM M 0) (hk : 3 * lnM M 4 ≤ a) (h1 : ∀ s', VMd L X ln s' a (addL M t b z node) [] → wpo (k (lnM M 4) s') Q) : wpo (bd (f_X14_addLimit t b z s) k) Q := by
  have hl := hH.2.1
  have al := h.al
  have hT := h.tb
  have kk := h.kb
  unfold CB at kk
  have n107 := hT.2.2.2.2 t t0 t1
  have l107 : t < ln 107 := ixA hN (A := 107) (by decide) (by show 1 * t ≤ (L.length : Int) + 1 * 2; omega)
  obtain ⟨e1, e2⟩ := addLimit_eq (M := M) (n := lnM M 4) (t := t) (b := b) (z := z) (s := s) hN h.1.2.2.2.1 (hT.1 4 (by decide)) (by omega) (by omega) hl t0 t1 l107 rfl hT.2.2.2 (fun i i0 i1 => h.rd (A := 125) (by decide) (by decide) i0 i1 (by have := hT.2.2.2.1 i i0 i1; show clM M 4 i 4 ≠ -7; omega)) (h.rd (A := 107) (by decide) (by decide) t0 t1 (by show clM M 0 t 10 ≠ -7; omega))
  rw [e1, bd_eq]
  refine h1 _ ?_
  have c5 : gI s 87 54 = lnM M 5 := hT.1 5 (by decide)
  have q1 : VMd L X ln (sE s 121 (lnM M 4) b) a M _ := h.wn (A := 121) (by decide) (okv_rg (by decide) hb)
  have q2 : VMd L X ln (sE (sE s 121 (lnM M 4) b) 122 (lnM M 4) z) a M _ := q1.wn (A := 122) (by decide) (okv_b (by decide) hz)
  have q3 : VMd L X ln (sE (sE (sE s 121 (lnM M 4) b) 122 (lnM M 4) z) 123 (lnM M 4) (lnM M 5)) a M _ := q2.wn (A := 123) (by decide) (okv_rg (by decide) ⟨by omega, by omega⟩)
  have q4 : VMd L X ln (sE (sE (sE (sE s 121 (lnM M 4) b) 122 (lnM M 4) z) 123 (lnM M 4) (lnM M 5)) 124 (lnM M 4) 0) a M _ := q3.wn (A := 124) (by decide) (okv_rg (by decide) (rgl rfl))
  have q5 : VMd L X ln (sE (sE (sE (sE (sE s 121 (lnM M 4) b) 122 (lnM M 4) z) 123 (lnM M 4) (lnM M 5)) 124 (lnM M 4) 0) 125 (lnM M 4) (-1)) a M _ := q4.wn (A := 125) (by decide) (okv_rg (by decide) (rgl rfl))
  simp only [dropA, List.filter_cons, List.filter_nil, bne_iff_ne, ne_eq, Nat.reduceEqDiff, not_true_eq_false, not_false_eq_true, if_true, if_false, reduceIte, Bool.false_eq_true, Nat.reduceBNe] at q5
  have q6 := q5.wi hH (c := 4) (by decide) (r := [b, z, lnM M 5, 0, -1, node]) (v := lnM M 4 + 1) (by
    intro A hA hc
    right
    rcases cOf_4 hA hc with rfl | rfl | rfl | rfl | rfl <;> simp [jOf, cOf, cid]) (by unfold CB; simp only [lnM_ap, Nat.reduceEqDiff, Nat.reduceAdd, Nat.reduceLT, Nat.reduceLeDiff, Nat.reduceBEq, reduceIte, and_self, and_true, true_and, and_false, false_and, if_true, if_false, Nat.reduceMul, Int.reduceEq, Int.reduceLT, Int.reduceLE, Int.reduceNeg, Int.reduceAdd, Int.reduceMul, Int.reduceSub]; omega) ⟨by show 5 ≤ 6; decide, fun _ => rfl, fun z => absurd z (by decide)⟩ rfl
  simp only [List.filter_cons, List.filter_nil, cOf, dropA, List.filter_cons, List.filter_nil, bne_iff_ne, ne_eq, Nat.reduceEqDiff, not_true_eq_false, not_false_eq_true, if_true, if_false, reduceIte, Bool.false_eq_true, Nat.reduceBNe, Nat.reduceEqDiff, Nat.reduceAdd, Nat.reduceLT, Nat.reduceLeDiff, Nat.reduceBEq, reduceIte, and_self, and_true, true_and, and_false, false_and, if_true, if_false, Nat.reduceMul, Int.reduceEq, Int.reduceLT, Int.reduceLE, Int.reduceNeg, Int.reduceAdd, Int.reduceMul, Int.reduceSub] at q6
  have eS : alS s (lnM M 4) b z = sI (sE (sE (sE (sE (sE s 121 (lnM M 4) b) 122 (lnM M 4) z) 123 (lnM M 4) (lnM M 5)) 124 (lnM M 4) 0) 125 (lnM M 4) (-1)) 87 (cnt 4) (lnM M 4 + 1) := by
    unfold alS; rw [c5]; rfl
  rw [← eS] at q6
  have l4 : lnM (apM M 4 [b, z, lnM M 5, 0, -1, node]) 4 = lnM M 4 + 1 := by rw [lnM_ap, if_pos rfl]
  have l0 : lnM (apM M 4 [b, z, lnM M 5, 0, -1, node]) 0 = lnM M 0 := by rw [lnM_ap, if_neg (by decide)]
  unfold addL
  simp only
  by_cases c : clM M 0 t 10 < 0
  · rw [if_pos c, if_pos c]
    exact q6.wu (A := 107) (by decide) (okv_rg (by decide) ⟨by omega, by omega⟩) t0 (by show t < lnM _ 0; omega) ⟨fun z => absurd z (by decide), fun _ => by rw [l4]; omega⟩
  · rw [if_neg c, if_neg c]
    have e2 := e2 (by omega)
    exact q6.wu (A := 125) (by decide) (okv_rg (by decide) ⟨by omega, by omega⟩) e2.1 (by show _ < lnM _ 4; omega) ⟨fun _ => by rw [l4]; omega, fun z => absurd z (by decide)⟩
end
