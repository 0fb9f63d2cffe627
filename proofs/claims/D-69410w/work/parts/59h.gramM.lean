set_option maxRecDepth 100000 set_option linter.unusedVariables false set_option linter.unusedSimpArgs false
/-! PURE 59h: the model's grammar: what is open; a reference before a brace -/
section
variable {L : Lx} {X : List Int} {ln : Nat → Nat} {s s' : vS} {a : Int} {M M' : Mt} {P : List (Nat × Int)} {α : Type} {Q : α → Prop} {e : Ft}
/-- open types: how many, the type at hand, whether one is due -/
def SV (L : Lx) (s : vS) (o c nd : Int) (S : Int → Int × Int) : Prop := gI s 87 79 = o ∧ gI s 87 82 = c ∧ gI s 87 83 = nd ∧ 0 ≤ o ∧ o ≤ 101 ∧ ∀ i : Int, 0 ≤ i → i < o → gE s 145 i = (S i).1 ∧ gE s 146 i = (S i).2 ∧ 0 ≤ (S i).1 ∧ (S i).1 ≤ L.length + 1 ∧ -1 ≤ (S i).2 ∧ 2 * (S i).2 ≤ L.length + 2
theorem SV.fr {o c nd : Int} {S : Int → Int × Int} (h : SV L s o c nd S) {W : List Nat} (hf : Fr W s s') (h1 : 87079 ∉ W) (h2 : 87082 ∉ W) (h3 : 87083 ∉ W) (h4 : 145999 ∉ W) (h5 : 146999 ∉ W) : SV L s' o c nd S := by
  obtain ⟨q1, q2, q3, q4, q5, q6⟩ := h
  refine ⟨by rw [hf.rI h1]; exact q1, by rw [hf.rI h2]; exact q2, by rw [hf.rI h3]; exact q3, q4, q5, ?_⟩
  rw [hf.rE (a := 145) (by decide) h4, hf.rE (a := 146) (by decide) h5]; exact q6
/-- fields and arrays beside the tables -/
theorem VMd.oth (h : VMd L X ln s a M P) {W : List Nat} (hf : Fr W s s') (hW : ∀ c ∈ W, c ∈ [87079, 87082, 87083, 145999, 146999, 87078]) : VMd L X ln s' a M P := by
  have q : ∀ c, c ∉ [87079, 87082, 87083, 145999, 146999, 87078] → c ∉ W := fun c h1 h2 => h1 (hW c h2)
  have z : gI s' 87 19 = a := by rw [hf.rI (q _ (by decide))]; exact h.at
  refine h.fr hf z (Int.le_refl _) h.al h.2.2.2.2.2.2.1 (q _ (by decide)) (q _ (by decide)) (fun c hc => q c ?_) (fun A hA => ⟨q _ ?_, q _ ?_⟩) (fun c hc => q _ ?_)
  · unfold sup at hc
    simp only [List.mem_cons, List.not_mem_nil, or_false] at hc ⊢
    omega
  · have := isT_rg hA
    simp only [List.mem_cons, List.not_mem_nil, or_false]; omega
  · have := isT_rg hA
    simp only [List.mem_cons, List.not_mem_nil, or_false]; omega
  · have := cnt_ne hc
    simp only [List.mem_cons, List.not_mem_nil, or_false]; omega
theorem BD.oth (h : BD L X ln s) {W : List Nat} (hf : Fr W s s') (hW : ∀ c ∈ W, c ∈ [87079, 87082, 87083, 145999, 146999, 87078]) : BD L X ln s' := by
  have q : ∀ c, c ∉ [87079, 87082, 87083, 145999, 146999, 87078] → c ∉ W := fun c h1 h2 => h1 (hW c h2)
  refine h.fr hf (fun c hc => q c ?_) (fun A hA => q _ ?_) (h.2.2.2.2.2.2.congr (fun c hc => hf.rI (q _ ?_)))
  · unfold sup at hc
    simp only [List.mem_cons, List.not_mem_nil, or_false] at hc ⊢
    omega
  · have := isT_rg hA
    simp only [List.mem_cons, List.not_mem_nil, or_false]; omega
  · have := cnt_ne hc
    simp only [List.mem_cons, List.not_mem_nil, or_false]; omega
theorem FM.oth (h : FM L X ln e s) {W : List Nat} (hf : Fr W s s') (hW : ∀ c ∈ W, c ∈ [87079, 87082, 87083, 145999, 146999, 87078]) : FM L X ln e s' := by
  have q : ∀ c, c ∉ [87079, 87082, 87083, 145999, 146999, 87078] → c ∉ W := fun c h1 h2 => h1 (hW c h2)
  have i8 : gI s' 87 8 = gI s 87 8 := hf.rI (q _ (by decide))
  have i9 : gI s' 87 9 = gI s 87 9 := hf.rI (q _ (by decide))
  have i19 : gI s' 87 19 = gI s 87 19 := hf.rI (q _ (by decide))
  exact ⟨h.1.oth hf hW, by rw [i8]; exact h.2.1, by rw [i9]; exact h.2.2.1, h.2.2.2.1, by rw [i19]; exact h.2.2.2.2.1, by rw [i19]; exact h.2.2.2.2.2⟩
/-- a reference before a brace: the next that is taken is the fault -/
def DM (L : Lx) (X : List Int) (ln : Nat → Nat) (e : Ft) (s : vS) : Prop := BD L X ln s ∧ gI s 87 8 = 0 ∧ gI s 87 9 = 0 ∧ 0 ≤ gI s 87 19 ∧ gI s 87 19 ≤ L.length ∧ kz L (gI s 87 19) = 12 ∧ kz L (gI s 87 19 - 1) = 1 ∧ e = (3, stL' L X (gI s 87 19))
theorem DM.oth (h : DM L X ln e s) {W : List Nat} (hf : Fr W s s') (hW : ∀ c ∈ W, c ∈ [87079, 87082, 87083, 145999, 146999, 87078]) : DM L X ln e s' := by
  have q : ∀ c, c ∉ [87079, 87082, 87083, 145999, 146999, 87078] → c ∉ W := fun c h1 h2 => h1 (hW c h2)
  have i8 : gI s' 87 8 = gI s 87 8 := hf.rI (q _ (by decide))
  have i9 : gI s' 87 9 = gI s 87 9 := hf.rI (q _ (by decide))
  have i19 : gI s' 87 19 = gI s 87 19 := hf.rI (q _ (by decide))
  unfold DM
  rw [i8, i9, i19]
  exact ⟨h.1.oth hf hW, h.2⟩
theorem DM.w (h : DM L X ln e s) {A : Nat} (hA : isT A = true) {i v : Int} : DM L X ln e (sE s A i v) := by
  unfold DM
  simp only [gI_sE]
  exact ⟨h.1.w hA, h.2⟩
theorem DM.lex (h : DM L X ln e s) : inb (gI s 87 19) (gN s 94) ∧ inb (gI s 87 19) (gN s 95) ∧ gE s 94 (gI s 87 19) = 12 ∧ gE s 95 (gI s 87 19) = stL' L X (gI s 87 19) := by
  obtain ⟨q1, q2, q3, q4, q5, q6⟩ := h.1.1
  obtain ⟨_, _, _, a0, al, k12, _, _⟩ := h
  obtain ⟨w1, w2, w3⟩ := q6 _ a0 al
  exact ⟨⟨a0, by omega⟩, ⟨a0, by rw [q4]; omega⟩, by rw [w1]; exact k12, w2⟩
theorem DM.is (h : DM L X ln e s) {c : Int} (hc : c ≠ 12) : f_X14_is c s = some (0, s) := by
  unfold f_X14_is
  obtain ⟨w1, w2, w3, w4⟩ := h.lex
  rw [gd_pos w1, w3, if_neg (Ne.symm hc)]
theorem DM.eat (h : DM L X ln e s) {c : Int} (hc : c ≠ 12) : f_X14_eat c s = some (0, s) := by
  unfold f_X14_eat
  rw [if_neg (by rw [h.2.1]; decide), h.is hc, bd_eq, if_pos rfl]
theorem DM.take (hH : LH L X) (h : DM L X ln e s) {c : Int} (hc : c ≠ 12) : ∃ s', f_X14_take c s = some (0, s') ∧ FM L X ln e s' ∧ Fr [87008, 87009] s s' := by
  have hl := hH.2.1
  obtain ⟨w1, w2, w3, w4⟩ := h.lex
  have h' := h
  obtain ⟨b, f0, f9, a0, al, k12, k1, he⟩ := h
  obtain ⟨q1, q2, q3, q4, q5, q6⟩ := b.1
  have hS := b.2.1
  have a1 : 0 < gI s 87 19 := by
    have := kz_in k1 (by decide); omega
  have pv := (q6 (gI s 87 19 - 1) (by omega) (by omega)).1
  have hm : f_X14_misfit 1 s = some (tellS s 3 (stL' L X (gI s 87 19))) := by
    have lp : ∃ r, l_X14_misfit_43 FU 1 12 0 0 s = some (r, s) ∧ r = 0 := by
      obtain ⟨r, r1, r2, r3⟩ := misfit_l hS (x1 := 1) (k := 12) 30 FU 0 0 (Or.inl rfl) (by decide) (by decide) (by decide) (by unfold FU; omega)
      refine ⟨r, r1, ?_⟩
      rw [str_mem] at r3
      rcases r2 with z | z
      · exact z
      · rcases r3.mp z with w | w
        · exact absurd w (by decide)
        · exact absurd w (by decide)
    obtain ⟨r, r1, r2⟩ := lp
    unfold f_X14_misfit
    rw [gd_pos w1, vl_eq, w3]
    simp only [Int.reduceEq, if_false]
    rw [r1, lq_1_eq, r2, if_pos rfl]
    simp only [if_true]
    rw [if_neg (by omega), w32_id ⟨by omega, by omega⟩, gd_pos ⟨by omega, by omega⟩, pv, k1, if_pos rfl]
    unfold j_X14_misfit_118
    rw [if_neg (by decide)]
    unfold j_X14_misfit_129
    rw [gd_pos w2, w4, X14_tell f0, bdv_eq]
  have hf : Fr [87008, 87009] s (tellS s 3 (stL' L X (gI s 87 19))) := tell_fr
  refine ⟨tellS s 3 (stL' L X (gI s 87 19)), ?_, ?_, hf⟩
  · unfold f_X14_take
    rw [f0, if_pos (by decide), h'.is hc, bd_eq, if_pos rfl, hm, bdv_eq]
  · have ec : ∀ d, d < 10 → gI (tellS s 3 (stL' L X (gI s 87 19))) 87 (cnt d) = gI s 87 (cnt d) := fun d hd => hf.rI (by have := cnt_ne hd; simp only [List.mem_cons, List.not_mem_nil, or_false]; omega)
    refine ⟨b.fr hf (by decide) (fun A hA => ?_) (b.2.2.2.2.2.2.congr (fun d hd => ec d hd)), ?_, ?_, by rw [he]; show (0 : Int) < 3; decide, by rw [hf.rI (by decide)]; exact a0, by rw [hf.rI (by decide)]; exact al⟩
    · have := isT_rg hA; simp only [List.mem_cons, List.not_mem_nil, or_false]; omega
    · unfold tellS; rw [gI_s87, if_neg (by decide), gI_s87, if_pos rfl, he]; rfl
    · unfold tellS; rw [gI_s87, if_pos rfl, he]; exact w32_id (stL_rg b.1 a0 al)
/-- the end of reading a type that has a fault -/
def FD (L : Lx) (X : List Int) (ln : Nat → Nat) (e : Ft) (s : vS) : Prop := FM L X ln e s ∨ DM L X ln e s
/-- behind limits: over, or the type around goes on -/
def RES (N : Nat) (s : vS) : Option vS := if gI s 87 79 = 0 then l_X14_parseType_17 N 1 s else bdv (f_X14_resume s) fun s8 => l_X14_parseType_17 N 0 s8
theorem LP_F (h : FM L X ln e s) {N : Nat} {x : Int} (hN : 1 ≤ N) : l_X14_parseType_17 N x s = some s := by
  obtain ⟨N, rfl⟩ : ∃ m, N = m + 1 := ⟨N - 1, by omega⟩
  unfold l_X14_parseType_17
  rw [if_neg (by have := h.eq; omega)]
theorem LP_1 (h : gI s 87 8 = 0) {N : Nat} (hN : 1 ≤ N) : l_X14_parseType_17 N 1 s = some s := by
  obtain ⟨N, rfl⟩ : ∃ m, N = m + 1 := ⟨N - 1, by omega⟩
  unfold l_X14_parseType_17
  rw [if_pos h, if_neg (by decide)]
theorem LP_n {N : Nat} (h0 : gI s 87 8 = 0) (h1 : gI s 87 83 = 0) : l_X14_parseType_17 (N + 1) 0 s = bdv (f_X14_limitsOf (gI s 87 82) s) (fun s4 => RES N s4) := by
  rw [l_X14_parseType_17.eq_2, if_pos h0, if_pos rfl, if_pos h1]
  rfl
theorem LP_b {N : Nat} (h0 : gI s 87 8 = 0) (h1 : gI s 87 83 ≠ 0) : l_X14_parseType_17 (N + 1) 0 s = bdv (f_X14_begin s) (fun s11 => l_X14_parseType_17 N 0 s11) := by
  rw [l_X14_parseType_17.eq_2, if_pos h0, if_pos rfl, if_neg h1]
theorem f145_fr {x : Int} : ∃ s', j_X14_resume_145 x s = some s' ∧ Fr [87079, 87082, 87083] s s' ∧ s' = sI (sI (sI s 87 79 (w32 (gI s 87 79 - 1))) 87 82 x) 87 83 0 := by
  unfold j_X14_resume_145
  simp only [stp_eq]
  exact ⟨_, rfl, Fr.wI (Fr.wI (Fr.wI Fr.rfl (by decide)) (by decide)) (by decide), rfl⟩
theorem SV.pop {o c nd x : Int} {S : Int → Int × Int} (h : SV L s (o + 1) c nd S) (o0 : 0 ≤ o) (hx : rg x) : SV L (sI (sI (sI s 87 79 (w32 (gI s 87 79 - 1))) 87 82 x) 87 83 0) o x 0 S := by
  obtain ⟨q1, q2, q3, q4, q5, q6⟩ := h
  refine ⟨?_, ?_, ?_, o0, by omega, fun i i0 i1 => ?_⟩
  · rw [gI_s87, if_neg (by decide), gI_s87, if_neg (by decide), gI_s87, if_pos rfl, q1, show o + 1 - 1 = o by omega, w32_id (x := o) ⟨by omega, by omega⟩, w32_id ⟨by omega, by omega⟩]
  · rw [gI_s87, if_neg (by decide), gI_s87, if_pos rfl]; exact w32_id hx
  · rw [gI_s87, if_pos rfl]; decide
  · exact q6 i i0 (by omega)
theorem D_pop (hH : LH L X) (hN : LN L ln) : ∀ (o N : Nat) (s : vS) (c nd : Int) (S : Int → Int × Int), DM L X ln e s → SV L s o c nd S → 0 ≤ c → c ≤ L.length + 1 → o + 2 ≤ N → wpo (RES N s) (fun s' => FM L X ln e s' ∨ (DM L X ln e s' ∧ 0 ≤ gI s' 87 82)) := by
  have hl := hH.2.1
  intro o
  induction o with
  | zero =>
    intro N s c nd S h hs c0 c1 hn
    unfold RES
    rw [hs.1, if_pos (show ((0 : Nat) : Int) = 0 from rfl), LP_1 h.2.1 (by omega)]
    exact wpo_some.mpr (Or.inr ⟨h, by rw [hs.2.1]; exact c0⟩)
  | succ o ih =>
    intro N s c nd S h hs c0 c1 hn
    have hs' := hs
    have hs1 : SV L s ((o : Int) + 1) c nd S := by have := hs; push_cast at this; exact this
    obtain ⟨q1, q2, q3, q4, q5, q6⟩ := hs
    push_cast at q1 q5
    obtain ⟨y1, y2, y3, y4, y5, y6⟩ := q6 o (by omega) (by push_cast; omega)
    have b := h.1
    have g97 := b.2.2.2.1
    have i2 : ∀ A, isT A = true → cOf A = 0 → inb (S o).1 (gN s A) := fun A hA hc => ⟨y3, by rw [g97 A hA]; exact ixA hN hA (by rw [hc]; show 1 * (S o).1 ≤ (L.length : Int) + 1 * 2; omega)⟩
    have wo : w32 ((o : Int) + 1 - 1) = o := by rw [show (o : Int) + 1 - 1 = o by omega]; exact w32_id ⟨by omega, by omega⟩
    have hw1 : rg (S o).1 := ⟨by omega, by omega⟩
    unfold RES
    rw [q1, if_neg (by omega)]
    unfold f_X14_resume
    rw [q1, wo, gd_pos ⟨by omega, by rw [b.2.2.2.2.1]; omega⟩, vl_eq, gd_pos ⟨by omega, by rw [b.2.2.2.2.2.1]; omega⟩, vl_eq, y1, y2]
    by_cases c6 : 0 ≤ (S o).2
    · have i3 : ∀ A, isT A = true → cOf A = 3 → inb (S o).2 (gN s A) := fun A hA hc => ⟨c6, by rw [g97 A hA]; exact ixA hN hA (by rw [hc]; show 2 * (S o).2 ≤ (L.length : Int) + 2 * 2; omega)⟩
      rw [if_pos c6, gd_pos (i3 117 (by decide) rfl), stp_eq]
      have h1 := h.w (A := 117) (by decide) (i := (S o).2) (v := gI s 87 82)
      generalize sE s 117 (S o).2 (gI s 87 82) = s1 at h1
      have i21 : inb (S o).1 (gN s1 97) := ⟨y3, by rw [h1.1.2.2.2.1 97 (by decide)]; exact ixA hN (A := 97) (by decide) (by show 1 * (S o).1 ≤ (L.length : Int) + 1 * 2; omega)⟩
      have J122 : wpo (bdv (j_X14_resume_122 (S o).1 (S o).2 s1) fun s8 => l_X14_parseType_17 N 0 s8) (fun s' => FM L X ln e s' ∨ (DM L X ln e s' ∧ 0 ≤ gI s' 87 82)) := by
        unfold j_X14_resume_122
        obtain ⟨s2, e2, f2, fr2⟩ := h1.take hH (c := 13) (by decide)
        rw [h1.eat (by decide), bd_eq, if_pos rfl, e2, bd_eq]
        obtain ⟨s3, e3, f3, _⟩ := f145_fr (s := s2) (x := (S o).1)
        rw [e3, bdv_eq]
        have f4 := f2.oth f3 (by decide)
        rw [LP_F f4 (by omega)]
        exact wpo_some.mpr (Or.inl f4)
      have J81 : wpo (bdv (j_X14_resume_81 (S o).1 (S o).2 s1) fun s8 => l_X14_parseType_17 N 0 s8) (fun s' => FM L X ln e s' ∨ (DM L X ln e s' ∧ 0 ≤ gI s' 87 82)) := by
        unfold j_X14_resume_81
        rw [gd_pos i21]
        by_cases z : gE s1 97 (S o).1 = 16
        · rw [if_pos z]; exact J122
        · rw [if_neg z, h1.eat (by decide), bd_eq, if_pos rfl]; exact J122
      rw [gd_pos i21]
      by_cases z : gE s1 97 (S o).1 = 16
      · rw [if_pos z]; exact J81
      · rw [if_neg z, h1.eat (by decide), bd_eq, if_pos rfl]; exact J81
    · rw [if_neg c6, gd_pos (i2 106 (by decide) rfl), stp_eq]
      have h1 := h.w (A := 106) (by decide) (i := (S o).1) (v := gI s 87 82)
      have s1v : SV L (sE s 106 (S o).1 (gI s 87 82)) ((o : Int) + 1) c nd S := hs1.fr (W := [106999]) (Fr.wE Fr.rfl (by decide)) (by decide) (by decide) (by decide) (by decide) (by decide)
      generalize sE s 106 (S o).1 (gI s 87 82) = s1 at h1 s1v
      obtain ⟨s3, e3, f3, e4⟩ := f145_fr (s := s1) (x := (S o).1)
      rw [e3, bdv_eq]
      have h2 := h1.oth f3 (by decide)
      have sv := s1v.pop (x := (S o).1) (by omega) hw1
      rw [← e4] at sv
      obtain ⟨N, rfl⟩ : ∃ m, N = m + 1 := ⟨N - 1, by omega⟩
      rw [LP_n h2.2.1 sv.2.2.1]
      have el : f_X14_limitsOf (gI s3 87 82) s3 = some s3 := by
        unfold f_X14_limitsOf
        have z : l_X14_limitsOf_0 FU (gI s3 87 82) s3 = some s3 := by
          obtain ⟨F, hF⟩ : ∃ F, FU = F + 1 := ⟨FU - 1, by unfold FU; omega⟩
          rw [hF]
          unfold l_X14_limitsOf_0
          rw [if_pos h2.2.1, h2.is (by decide), bd_eq, if_pos rfl]
        rw [z, lq_0_eq]
      rw [el, bdv_eq]
      exact ih N s3 (S o).1 0 S h2 sv y3 y4 (by omega)
end
