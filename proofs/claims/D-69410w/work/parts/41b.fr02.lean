set_option maxRecDepth 100000
set_option maxHeartbeats 1000000
set_option linter.unusedVariables false
def W_j_X6_wordNumber_43 : List Nat := [34999, 35999]
theorem fr_j_X6_wordNumber_43 (x1 : Int) (x4 : Int) (s : vS) : PR (W_j_X6_wordNumber_43) s (fun q => q.2) (j_X6_wordNumber_43 x1 x4 s) := by
  unfold j_X6_wordNumber_43
  have Hs : Fr (W_j_X6_wordNumber_43) s s := Fr.rfl
  refine PR.ite (fun _ => ?_) (fun _ => ?_)
  · exact PR.some Hs
  · refine PR.gd ?_
    refine PR.gd ?_
    refine PR.stp (Fr.wE Hs (by decide +kernel)) (fun s4 Hs4 => ?_)
    refine PR.gd ?_
    refine PR.gd ?_
    refine PR.stp (Fr.wE Hs4 (by decide +kernel)) (fun s8 Hs8 => ?_)
    exact PR.some Hs8
def W_f_X6_wordNumber : List Nat := [14001, 15998, 15999, 30001, 31998, 31999, 34999, 35999, 38999, 39999, 41998, 41999]
theorem fr_f_X6_wordNumber (x1 : Int) (x2 : Int) (x3 : Int) (s : vS) : PR (W_f_X6_wordNumber) s (fun q => q.2) (f_X6_wordNumber x1 x2 x3 s) := by
  unfold f_X6_wordNumber
  have Hs : Fr (W_f_X6_wordNumber) s s := Fr.rfl
  refine PR.bd (PR.call Hs (fr_f_X6_itemOf x2 x3 0 s) (by decide +kernel)) (fun r4 s1 Hs1 => ?_)
  refine PR.ite (fun _ => ?_) (fun _ => ?_)
  · refine PR.bd (PR.pure Hs1 (fr_f_X9_find 22 x3 s1)) (fun r10 s7 Hs7 => ?_)
    refine PR.ite (fun _ => ?_) (fun _ => ?_)
    · exact PR.call Hs7 (fr_j_X6_wordNumber_43 x1 (-1) s7) (by decide +kernel)
    · refine PR.bd (PR.call Hs7 (fr_f_X6_meant r10 s7) (by decide +kernel)) (fun r16 s13 Hs13 => ?_)
      exact PR.call Hs13 (fr_j_X6_wordNumber_43 x1 r16 s13) (by decide +kernel)
  · exact PR.call Hs1 (fr_j_X6_wordNumber_43 x1 r4 s1) (by decide +kernel)
def W_j_X6_isBound_86 : List Nat := []
theorem fr_j_X6_isBound_86 (x1 : Int) (x3 : Int) (s : vS) : PR (W_j_X6_isBound_86) s (fun q => q.2) (j_X6_isBound_86 x1 x3 s) := by
  unfold j_X6_isBound_86
  have Hs : Fr (W_j_X6_isBound_86) s s := Fr.rfl
  refine PR.ite (fun _ => ?_) (fun _ => ?_)
  · exact PR.some Hs
  · refine PR.gd ?_
    refine PR.bd (PR.pure Hs (fr_f_X2_at 30 (gE s 34 x1) s)) (fun r6 s3 Hs3 => ?_)
    refine PR.ite (fun _ => ?_) (fun _ => ?_)
    · exact PR.some Hs3
    · exact PR.some Hs3
def W_j_X6_isBound_61 : List Nat := [14001, 15998, 15999, 30001, 31998, 31999, 34999, 35999]
theorem fr_j_X6_isBound_61 (x1 : Int) (x3 : Int) (z1 : Int) (z2 : Int) (z3 : Int) (s : vS) : PR (W_j_X6_isBound_61) s (fun q => q.2) (j_X6_isBound_61 x1 x3 z1 z2 z3 s) := by
  unfold j_X6_isBound_61
  have Hs : Fr (W_j_X6_isBound_61) s s := Fr.rfl
  refine PR.bdv (PR.call Hs (fr_f_X6_number z1 z2 z3 s) (by decide +kernel)) (fun s1 Hs1 => ?_)
  exact PR.pure Hs1 (fr_j_X6_isBound_86 x1 x3 s1)
def W_f_X6_isBound : List Nat := [14001, 15998, 15999, 30001, 31998, 31999, 34999, 35999, 38999, 39999, 41998, 41999]
theorem fr_f_X6_isBound (x1 : Int) (x2 : Int) (x3 : Int) (s : vS) : PR (W_f_X6_isBound) s (fun q => q.2) (f_X6_isBound x1 x2 x3 s) := by
  unfold f_X6_isBound
  have Hs : Fr (W_f_X6_isBound) s s := Fr.rfl
  refine PR.bd (PR.pure Hs (fr_f_X4_at x1 5 s)) (fun r4 s1 Hs1 => ?_)
  refine PR.ite (fun _ => ?_) (fun _ => ?_)
  · exact PR.some Hs1
  · refine PR.ite (fun _ => ?_) (fun _ => ?_)
    · exact PR.some Hs1
    · refine PR.ite (fun _ => ?_) (fun _ => ?_)
      · refine PR.bd (PR.pure Hs1 (fr_f_X4_at x1 7 s1)) (fun r23 s20 Hs20 => ?_)
        refine PR.bd (PR.pure Hs20 (fr_f_X4_at x1 6 s20)) (fun r28 s25 Hs25 => ?_)
        refine PR.ite (fun _ => ?_) (fun _ => ?_)
        · exact PR.call Hs25 (fr_j_X6_isBound_61 x1 x3 x1 r23 1 s25) (by decide +kernel)
        · exact PR.call Hs25 (fr_j_X6_isBound_61 x1 x3 x1 r23 0 s25) (by decide +kernel)
      · refine PR.bd (PR.pure Hs1 (fr_f_X4_lexeme x1 s1)) (fun r12 s9 Hs9 => ?_)
        refine PR.bd (PR.call Hs9 (fr_f_X6_wordNumber x1 x2 r12 s9) (by decide +kernel)) (fun r17 s14 Hs14 => ?_)
        refine PR.ite (fun _ => ?_) (fun _ => ?_)
        · exact PR.some Hs14
        · exact PR.pure Hs14 (fr_j_X6_isBound_86 x1 x3 s14)
def W_j_X7_compare_76 : List Nat := []
theorem fr_j_X7_compare_76 (p0 : Nat) (p3 : Nat) (x6 : Int) (z0 : Int) (s : vS) : PR (W_j_X7_compare_76) s (fun q => q.2) (j_X7_compare_76 p0 p3 x6 z0 s) := by
  unfold j_X7_compare_76
  have Hs : Fr (W_j_X7_compare_76) s s := Fr.rfl
  refine PR.ite (fun _ => ?_) (fun _ => ?_)
  · exact PR.some Hs
  · exact PR.some Hs
def W_j_X7_compare_35 : List Nat := []
theorem fr_j_X7_compare_35 (p0 : Nat) (p3 : Nat) (x1 : Int) (x2 : Int) (x4 : Int) (x5 : Int) (x6 : Int) (z0 : Int) (z1 : Int) (s : vS) : PR (W_j_X7_compare_35) s (fun q => q.2) (j_X7_compare_35 p0 p3 x1 x2 x4 x5 x6 z0 z1 s) := by
  unfold j_X7_compare_35
  have Hs : Fr (W_j_X7_compare_35) s s := Fr.rfl
  refine PR.ite (fun _ => ?_) (fun _ => ?_)
  · refine PR.ite (fun _ => ?_) (fun _ => ?_)
    · refine PR.bd (PR.pure Hs (fr_f_X2_compare p0 x1 x2 p3 x4 x5 s)) (fun r6 s3 Hs3 => ?_)
      exact PR.some Hs3
    · refine PR.ite (fun _ => ?_) (fun _ => ?_)
      · exact PR.pure Hs (fr_j_X7_compare_76 p0 p3 x6 0 s)
      · exact PR.pure Hs (fr_j_X7_compare_76 p0 p3 x6 1 s)
  · refine PR.ite (fun _ => ?_) (fun _ => ?_)
    · exact PR.some Hs
    · exact PR.some Hs
def W_j_X7_compare_15 : List Nat := []
theorem fr_j_X7_compare_15 (p0 : Nat) (p3 : Nat) (x1 : Int) (x2 : Int) (x4 : Int) (x5 : Int) (z0 : Int) (s : vS) : PR (W_j_X7_compare_15) s (fun q => q.2) (j_X7_compare_15 p0 p3 x1 x2 x4 x5 z0 s) := by
  unfold j_X7_compare_15
  have Hs : Fr (W_j_X7_compare_15) s s := Fr.rfl
  refine PR.bd (PR.pure Hs (fr_f_X2_at p3 x4 s)) (fun r4 s1 Hs1 => ?_)
  refine PR.ite (fun _ => ?_) (fun _ => ?_)
  · exact PR.pure Hs1 (fr_j_X7_compare_35 p0 p3 x1 x2 x4 x5 z0 z0 0 s1)
  · exact PR.pure Hs1 (fr_j_X7_compare_35 p0 p3 x1 x2 x4 x5 z0 z0 1 s1)
def W_f_X7_compare : List Nat := []
theorem fr_f_X7_compare (p0 : Nat) (x1 : Int) (x2 : Int) (p3 : Nat) (x4 : Int) (x5 : Int) (s : vS) : PR (W_f_X7_compare) s (fun q => q.2) (f_X7_compare p0 x1 x2 p3 x4 x5 s) := by
  unfold f_X7_compare
  have Hs : Fr (W_f_X7_compare) s s := Fr.rfl
  refine PR.bd (PR.pure Hs (fr_f_X2_at p0 x1 s)) (fun r4 s1 Hs1 => ?_)
  refine PR.ite (fun _ => ?_) (fun _ => ?_)
  · exact PR.pure Hs1 (fr_j_X7_compare_15 p0 p3 x1 x2 x4 x5 0 s1)
  · exact PR.pure Hs1 (fr_j_X7_compare_15 p0 p3 x1 x2 x4 x5 1 s1)
def W_f_X6_isAbove : List Nat := []
theorem fr_f_X6_isAbove (x1 : Int) (x2 : Int) (x3 : Int) (s : vS) : PR (W_f_X6_isAbove) s (fun q => q.2) (f_X6_isAbove x1 x2 x3 s) := by
  unfold f_X6_isAbove
  have Hs : Fr (W_f_X6_isAbove) s s := Fr.rfl
  refine PR.bd (PR.pure Hs (fr_f_X4_at x1 5 s)) (fun r4 s1 Hs1 => ?_)
  refine PR.bd (PR.pure Hs1 (fr_f_X4_at x2 5 s1)) (fun r9 s6 Hs6 => ?_)
  refine PR.ite (fun _ => ?_) (fun _ => ?_)
  · exact PR.some Hs6
  · refine PR.ite (fun _ => ?_) (fun _ => ?_)
    · exact PR.some Hs6
    · refine PR.ite (fun _ => ?_) (fun _ => ?_)
      · exact PR.some Hs6
      · refine PR.ite (fun _ => ?_) (fun _ => ?_)
        · exact PR.some Hs6
        · refine PR.ite (fun _ => ?_) (fun _ => ?_)
          · refine PR.ite (fun _ => ?_) (fun _ => ?_)
            · exact PR.some Hs6
            · refine PR.gd ?_
              refine PR.bd (PR.pure Hs6 (fr_f_X2_at 30 (gE s6 34 x1) s6)) (fun r31 s28 Hs28 => ?_)
              refine PR.ite (fun _ => ?_) (fun _ => ?_)
              · refine PR.gd ?_
                refine PR.gd ?_
                refine PR.ite (fun _ => ?_) (fun _ => ?_)
                · exact PR.some Hs28
                · exact PR.some Hs28
              · exact PR.some Hs28
          · refine PR.gd ?_
            refine PR.gd ?_
            refine PR.gd ?_
            refine PR.gd ?_
            refine PR.bd (PR.pure Hs6 (fr_f_X7_compare 30 (gE s6 34 x1) (gE s6 35 x1) 30 (gE s6 34 x2) (gE s6 35 x2) s6)) (fun r23 s20 Hs20 => ?_)
            refine PR.ite (fun _ => ?_) (fun _ => ?_)
            · exact PR.some Hs20
            · exact PR.some Hs20
def W_l_X6_bounded_2_139 : List Nat := [13020, 13021, 14001, 15998, 15999, 30001, 31998, 31999, 34999, 35999, 38999, 39999, 41998, 41999]
theorem fr_j_X6_bounded_2_175 (rec : Int → Int → Int → Int → Int → Int → Int → vS → Option (Int × vS)) (hrec : ∀ (y0 : Int) (y1 : Int) (y2 : Int) (y3 : Int) (y4 : Int) (y5 : Int) (y6 : Int) (s : vS), PR (W_l_X6_bounded_2_139) s (fun q => q.2) (rec y0 y1 y2 y3 y4 y5 y6 s)) (x1 : Int) (x4 : Int) (x5 : Int) (x6 : Int) (x7 : Int) (x8 : Int) (x9 : Int) (s : vS) : PR (W_l_X6_bounded_2_139) s (fun q => q.2) (j_X6_bounded_2_175 rec x1 x4 x5 x6 x7 x8 x9 s) := by
  unfold j_X6_bounded_2_175
  have Hs : Fr (W_l_X6_bounded_2_139) s s := Fr.rfl
  refine PR.bd (PR.pure Hs (fr_f_X4_next x9 s)) (fun r4 s1 Hs1 => ?_)
  exact PR.tail Hs1 (hrec x1 x4 x5 x6 x7 x8 r4 s1)
theorem fr_l_X6_bounded_2_139 : ∀ (n : Nat) (x1 : Int) (x4 : Int) (x5 : Int) (x6 : Int) (x7 : Int) (x8 : Int) (x9 : Int) (s : vS), PR (W_l_X6_bounded_2_139) s (fun q => q.2) (l_X6_bounded_2_139 n x1 x4 x5 x6 x7 x8 x9 s)
  := by
  intro n
  induction n with
  | zero => intro x1 x4 x5 x6 x7 x8 x9 s; exact PR.none
  | succ n ih =>
    intro x1 x4 x5 x6 x7 x8 x9 s
    unfold l_X6_bounded_2_139
    have Hs : Fr (W_l_X6_bounded_2_139) s s := Fr.rfl
    refine PR.ite (fun _ => ?_) (fun _ => ?_)
    · exact PR.some Hs
    · refine PR.bd (PR.call Hs (fr_f_X6_isBound x9 x1 x4 s) (by decide +kernel)) (fun r5 s2 Hs2 => ?_)
      refine PR.ite (fun _ => ?_) (fun _ => ?_)
      · refine PR.bd (PR.pure Hs2 (fr_f_X4_lexeme x9 s2)) (fun r11 s8 Hs8 => ?_)
        refine PR.bdv (PR.call Hs8 (fr_f_X6_blame 11 r11 s8) (by decide +kernel)) (fun s13 Hs13 => ?_)
        exact PR.tail Hs13 (fr_j_X6_bounded_2_175 (l_X6_bounded_2_139 n) ih x1 x4 x5 x6 x7 0 x9 s13)
      · exact PR.tail Hs2 (fr_j_X6_bounded_2_175 (l_X6_bounded_2_139 n) ih x1 x4 x5 x6 x7 x8 x9 s2)
def W_l_X6_bounded_2_86 : List Nat := [13020, 13021, 14001, 15998, 15999, 30001, 31998, 31999, 34999, 35999, 38999, 39999, 41998, 41999]
theorem fr_j_X6_bounded_2_222 (rec : Int → Int → Int → vS → Option (vS)) (hrec : ∀ (y0 : Int) (y1 : Int) (y2 : Int) (s : vS), PR (W_l_X6_bounded_2_86) s (fun q => q) (rec y0 y1 y2 s)) (x1 : Int) (x4 : Int) (x5 : Int) (s : vS) : PR (W_l_X6_bounded_2_86) s (fun q => q) (j_X6_bounded_2_222 rec x1 x4 x5 s) := by
  unfold j_X6_bounded_2_222
  have Hs : Fr (W_l_X6_bounded_2_86) s s := Fr.rfl
  refine PR.bd (PR.pure Hs (fr_f_X4_next x5 s)) (fun r4 s1 Hs1 => ?_)
  exact PR.tail Hs1 (hrec x1 x4 r4 s1)
theorem fr_l_X6_bounded_2_86 : ∀ (n : Nat) (x1 : Int) (x4 : Int) (x5 : Int) (s : vS), PR (W_l_X6_bounded_2_86) s (fun q => q) (l_X6_bounded_2_86 n x1 x4 x5 s)
  := by
  intro n
  induction n with
  | zero => intro x1 x4 x5 s; exact PR.none
  | succ n ih =>
    intro x1 x4 x5 s
    unfold l_X6_bounded_2_86
    have Hs : Fr (W_l_X6_bounded_2_86) s s := Fr.rfl
    refine PR.ite (fun _ => ?_) (fun _ => ?_)
    · exact PR.some Hs
    · refine PR.bd (PR.pure Hs (fr_f_X4_parts x5 s)) (fun r5 s2 Hs2 => ?_)
      refine PR.bd (PR.pure Hs2 (fr_f_X4_next r5 s2)) (fun r10 s7 Hs7 => ?_)
      refine PR.ite (fun _ => ?_) (fun _ => ?_)
      · refine PR.lq_1 (PR.call Hs7 (fr_l_X6_bounded_2_139 FU x1 x4 x5 r5 r5 1 r5 s7) (by decide +kernel)) (fun y37 s38 Hs38 => ?_)
        refine PR.ite (fun _ => ?_) (fun _ => ?_)
        · exact PR.tail Hs38 (fr_j_X6_bounded_2_222 (l_X6_bounded_2_86 n) ih x1 x4 x5 s38)
        · refine PR.bd (PR.pure Hs38 (fr_f_X6_isAbove r5 r5 x4 s38)) (fun r45 s42 Hs42 => ?_)
          refine PR.ite (fun _ => ?_) (fun _ => ?_)
          · exact PR.tail Hs42 (fr_j_X6_bounded_2_222 (l_X6_bounded_2_86 n) ih x1 x4 x5 s42)
          · refine PR.bd (PR.pure Hs42 (fr_f_X4_lexeme x5 s42)) (fun r51 s48 Hs48 => ?_)
            refine PR.bdv (PR.call Hs48 (fr_f_X6_blame 11 r51 s48) (by decide +kernel)) (fun s53 Hs53 => ?_)
            exact PR.tail Hs53 (fr_j_X6_bounded_2_222 (l_X6_bounded_2_86 n) ih x1 x4 x5 s53)
      · refine PR.bd (PR.pure Hs7 (fr_f_X4_next r5 s7)) (fun r16 s13 Hs13 => ?_)
        refine PR.lq_1 (PR.call Hs13 (fr_l_X6_bounded_2_139 FU x1 x4 x5 r5 r16 1 r5 s13) (by decide +kernel)) (fun y18 s19 Hs19 => ?_)
        refine PR.ite (fun _ => ?_) (fun _ => ?_)
        · exact PR.tail Hs19 (fr_j_X6_bounded_2_222 (l_X6_bounded_2_86 n) ih x1 x4 x5 s19)
        · refine PR.bd (PR.pure Hs19 (fr_f_X6_isAbove r5 r16 x4 s19)) (fun r26 s23 Hs23 => ?_)
          refine PR.ite (fun _ => ?_) (fun _ => ?_)
          · exact PR.tail Hs23 (fr_j_X6_bounded_2_222 (l_X6_bounded_2_86 n) ih x1 x4 x5 s23)
          · refine PR.bd (PR.pure Hs23 (fr_f_X4_lexeme x5 s23)) (fun r32 s29 Hs29 => ?_)
            refine PR.bdv (PR.call Hs29 (fr_f_X6_blame 11 r32 s29) (by decide +kernel)) (fun s34 Hs34 => ?_)
            exact PR.tail Hs34 (fr_j_X6_bounded_2_222 (l_X6_bounded_2_86 n) ih x1 x4 x5 s34)
def W_j_X6_bounded_2_76 : List Nat := [13020, 13021, 14001, 15998, 15999, 30001, 31998, 31999, 34999, 35999, 38999, 39999, 41998, 41999]
theorem fr_j_X6_bounded_2_76 (x1 : Int) (x2 : Int) (x4 : Int) (s : vS) : PR (W_j_X6_bounded_2_76) s (fun q => q) (j_X6_bounded_2_76 x1 x2 x4 s) := by
  unfold j_X6_bounded_2_76
  have Hs : Fr (W_j_X6_bounded_2_76) s s := Fr.rfl
  refine PR.bd (PR.pure Hs (fr_f_X4_parts x2 s)) (fun r4 s1 Hs1 => ?_)
  refine PR.lq_0 (PR.call Hs1 (fr_l_X6_bounded_2_86 FU x1 x4 r4 s1) (by decide +kernel)) (fun s6 Hs6 => ?_)
  exact PR.some Hs6
def W_j_X6_bounded_2_61 : List Nat := [13020, 13021]
theorem fr_j_X6_bounded_2_61 (x2 : Int) (s : vS) : PR (W_j_X6_bounded_2_61) s (fun q => q) (j_X6_bounded_2_61 x2 s) := by
  unfold j_X6_bounded_2_61
  have Hs : Fr (W_j_X6_bounded_2_61) s s := Fr.rfl
  refine PR.bd (PR.pure Hs (fr_f_X4_lexeme x2 s)) (fun r4 s1 Hs1 => ?_)
  refine PR.bdv (PR.call Hs1 (fr_f_X6_blame 11 r4 s1) (by decide +kernel)) (fun s6 Hs6 => ?_)
  exact PR.some Hs6
def W_j_X6_bounded_2_24 : List Nat := [13020, 13021, 14001, 15998, 15999, 30001, 31998, 31999, 34999, 35999, 38999, 39999, 41998, 41999]
theorem fr_j_X6_bounded_2_24 (x1 : Int) (x2 : Int) (x3 : Int) (z0 : Int) (s : vS) : PR (W_j_X6_bounded_2_24) s (fun q => q) (j_X6_bounded_2_24 x1 x2 x3 z0 s) := by
  unfold j_X6_bounded_2_24
  have Hs : Fr (W_j_X6_bounded_2_24) s s := Fr.rfl
  refine PR.ite (fun _ => ?_) (fun _ => ?_)
  · refine PR.bd (PR.pure Hs (fr_f_X4_kind x3 s)) (fun r5 s2 Hs2 => ?_)
    refine PR.ite (fun _ => ?_) (fun _ => ?_)
    · exact PR.call Hs2 (fr_j_X6_bounded_2_76 x1 x2 z0 s2) (by decide +kernel)
    · exact PR.call Hs2 (fr_j_X6_bounded_2_61 x2 s2) (by decide +kernel)
  · refine PR.bd (PR.pure Hs (fr_f_X4_kind x3 s)) (fun r11 s8 Hs8 => ?_)
    refine PR.bd (PR.pure Hs8 (fr_f_X6_hasSizes r11 s8)) (fun r16 s13 Hs13 => ?_)
    refine PR.ite (fun _ => ?_) (fun _ => ?_)
    · exact PR.call Hs13 (fr_j_X6_bounded_2_61 x2 s13) (by decide +kernel)
    · exact PR.call Hs13 (fr_j_X6_bounded_2_76 x1 x2 z0 s13) (by decide +kernel)
def W_f_X6_bounded_2 : List Nat := [13020, 13021, 14001, 15998, 15999, 30001, 31998, 31999, 34999, 35999, 38999, 39999, 41998, 41999]
theorem fr_f_X6_bounded_2 (x1 : Int) (x2 : Int) (s : vS) : PR (W_f_X6_bounded_2) s (fun q => q) (f_X6_bounded_2 x1 x2 s) := by
  unfold f_X6_bounded_2
  have Hs : Fr (W_f_X6_bounded_2) s s := Fr.rfl
  refine PR.bd (PR.call Hs (fr_f_X6_base x1 s) (by decide +kernel)) (fun r4 s1 Hs1 => ?_)
  refine PR.bd (PR.pure Hs1 (fr_f_X4_at x2 5 s1)) (fun r9 s6 Hs6 => ?_)
  refine PR.ite (fun _ => ?_) (fun _ => ?_)
  · exact PR.call Hs6 (fr_j_X6_bounded_2_24 x1 x2 r4 1 s6) (by decide +kernel)
  · exact PR.call Hs6 (fr_j_X6_bounded_2_24 x1 x2 r4 0 s6) (by decide +kernel)
def W_l_X6_bounded_2 : List Nat := [38999]
theorem fr_l_X6_bounded_2 : ∀ (n : Nat) (x1 : Int) (s : vS), PR (W_l_X6_bounded_2) s (fun q => q) (l_X6_bounded_2 n x1 s)
  := by
  intro n
  induction n with
  | zero => intro x1 s; exact PR.none
  | succ n ih =>
    intro x1 s
    unfold l_X6_bounded_2
    have Hs : Fr (W_l_X6_bounded_2) s s := Fr.rfl
    refine PR.bd (PR.pure Hs (fr_f_X4_size s)) (fun r4 s1 Hs1 => ?_)
    refine PR.ite (fun _ => ?_) (fun _ => ?_)
    · exact PR.some Hs1
    · refine PR.gd ?_
      refine PR.stp (Fr.wE Hs1 (by decide +kernel)) (fun s8 Hs8 => ?_)
      refine PR.vl (fun y10 => ?_)
      exact PR.tail Hs8 (ih y10 s8)
def W_l_X6_bounded_56 : List Nat := [13020, 13021, 14001, 15998, 15999, 30001, 31998, 31999, 34999, 35999, 38999, 39999, 41998, 41999]
theorem fr_l_X6_bounded_56 : ∀ (n : Nat) (x1 : Int) (x2 : Int) (s : vS), PR (W_l_X6_bounded_56) s (fun q => q) (l_X6_bounded_56 n x1 x2 s)
  := by
  intro n
  induction n with
  | zero => intro x1 x2 s; exact PR.none
  | succ n ih =>
    intro x1 x2 s
    unfold l_X6_bounded_56
    have Hs : Fr (W_l_X6_bounded_56) s s := Fr.rfl
    refine PR.ite (fun _ => ?_) (fun _ => ?_)
    · exact PR.some Hs
    · refine PR.bdv (PR.call Hs (fr_f_X6_bounded_2 x1 x2 s) (by decide +kernel)) (fun s2 Hs2 => ?_)
      refine PR.bd (PR.pure Hs2 (fr_f_X4_next x2 s2)) (fun r8 s5 Hs5 => ?_)
      exact PR.tail Hs5 (ih x1 r8 s5)
def W_l_X6_bounded_28 : List Nat := [13020, 13021, 14001, 15998, 15999, 30001, 31998, 31999, 34999, 35999, 38999, 39999, 41998, 41999]
theorem fr_l_X6_bounded_28 : ∀ (n : Nat) (x1 : Int) (s : vS), PR (W_l_X6_bounded_28) s (fun q => q) (l_X6_bounded_28 n x1 s)
  := by
  intro n
  induction n with
  | zero => intro x1 s; exact PR.none
  | succ n ih =>
    intro x1 s
    unfold l_X6_bounded_28
    have Hs : Fr (W_l_X6_bounded_28) s s := Fr.rfl
    refine PR.bd (PR.pure Hs (fr_f_X4_size s)) (fun r4 s1 Hs1 => ?_)
    refine PR.ite (fun _ => ?_) (fun _ => ?_)
    · exact PR.some Hs1
    · refine PR.bd (PR.pure Hs1 (fr_f_X6_isType x1 s1)) (fun r10 s7 Hs7 => ?_)
      refine PR.ite (fun _ => ?_) (fun _ => ?_)
      · refine PR.vl (fun y13 => ?_)
        exact PR.tail Hs7 (ih y13 s7)
      · refine PR.bd (PR.pure Hs7 (fr_f_X4_limits x1 s7)) (fun r19 s16 Hs16 => ?_)
        refine PR.lq_0 (PR.call Hs16 (fr_l_X6_bounded_56 FU x1 r19 s16) (by decide +kernel)) (fun s21 Hs21 => ?_)
        refine PR.vl (fun y23 => ?_)
        exact PR.tail Hs21 (ih y23 s21)
def W_f_X6_bounded : List Nat := [13020, 13021, 14001, 15998, 15999, 30001, 31998, 31999, 34999, 35999, 38999, 39999, 41998, 41999]
theorem fr_f_X6_bounded (s : vS) : PR (W_f_X6_bounded) s (fun q => q.2) (f_X6_bounded s) := by
  unfold f_X6_bounded
  have Hs : Fr (W_f_X6_bounded) s s := Fr.rfl
  refine PR.lq_0 (PR.call Hs (fr_l_X6_bounded_2 FU 0 s) (by decide +kernel)) (fun s1 Hs1 => ?_)
  refine PR.lq_0 (PR.call Hs1 (fr_l_X6_bounded_28 FU 0 s1) (by decide +kernel)) (fun s3 Hs3 => ?_)
  refine PR.ite (fun _ => ?_) (fun _ => ?_)
  · exact PR.some Hs3
  · exact PR.some Hs3
def W_f_X6_copy : List Nat := [34999, 35999]
theorem fr_f_X6_copy (x1 : Int) (x2 : Int) (s : vS) : PR (W_f_X6_copy) s (fun q => q.2) (f_X6_copy x1 x2 s) := by
  unfold f_X6_copy
  have Hs : Fr (W_f_X6_copy) s s := Fr.rfl
  refine PR.gd ?_
  refine PR.gd ?_
  refine PR.stp (Fr.wE Hs (by decide +kernel)) (fun s3 Hs3 => ?_)
  refine PR.gd ?_
  refine PR.gd ?_
  refine PR.stp (Fr.wE Hs3 (by decide +kernel)) (fun s7 Hs7 => ?_)
  exact PR.some Hs7
def W_f_X6_single : List Nat := []
theorem fr_f_X6_single (x1 : Int) (x2 : Int) (x3 : Int) (s : vS) : PR (W_f_X6_single) s (fun q => q.2) (f_X6_single x1 x2 x3 s) := by
  unfold f_X6_single
  have Hs : Fr (W_f_X6_single) s s := Fr.rfl
  refine PR.ite (fun _ => ?_) (fun _ => ?_)
  · refine PR.ite (fun _ => ?_) (fun _ => ?_)
    · exact PR.some Hs
    · exact PR.some Hs
  · refine PR.ite (fun _ => ?_) (fun _ => ?_)
    · exact PR.some Hs
    · exact PR.some Hs
def W_j_X6_isBelow_23 : List Nat := []
theorem fr_j_X6_isBelow_23 (p1 : Nat) (x4 : Int) (x5 : Int) (x6 : Int) (s : vS) : PR (W_j_X6_isBelow_23) s (fun q => q.2) (j_X6_isBelow_23 p1 x4 x5 x6 s) := by
  unfold j_X6_isBelow_23
  have Hs : Fr (W_j_X6_isBelow_23) s s := Fr.rfl
  refine PR.bd (PR.pure Hs (fr_f_X6_single x4 x5 x6 s)) (fun r4 s1 Hs1 => ?_)
  refine PR.gd ?_
  exact PR.some Hs1
def W_f_X6_isBelow : List Nat := []
theorem fr_f_X6_isBelow (p1 : Nat) (x2 : Int) (x3 : Int) (x4 : Int) (x5 : Int) (s : vS) : PR (W_f_X6_isBelow) s (fun q => q.2) (f_X6_isBelow p1 x2 x3 x4 x5 s) := by
  unfold f_X6_isBelow
  have Hs : Fr (W_f_X6_isBelow) s s := Fr.rfl
  refine PR.bd (PR.pure Hs (fr_f_X4_at x4 5 s)) (fun r4 s1 Hs1 => ?_)
  refine PR.ite (fun _ => ?_) (fun _ => ?_)
  · exact PR.pure Hs1 (fr_j_X6_isBelow_23 p1 x4 x5 r4 s1)
  · refine PR.ite (fun _ => ?_) (fun _ => ?_)
    · exact PR.pure Hs1 (fr_j_X6_isBelow_23 p1 x4 x5 r4 s1)
    · refine PR.gd ?_
      refine PR.gd ?_
      refine PR.bd (PR.pure Hs1 (fr_f_X7_compare p1 x2 x3 30 (gE s1 34 x4) (gE s1 35 x4) s1)) (fun r13 s10 Hs10 => ?_)
      refine PR.ite (fun _ => ?_) (fun _ => ?_)
      · exact PR.some Hs10
      · exact PR.some Hs10
def W_l_X6_isIn_10 : List Nat := []
theorem fr_j_X6_isIn_86 (p2 : Nat) (rec : Int → Int → Int → vS → Option ((vS) ⊕ (Int × vS))) (hrec : ∀ (y0 : Int) (y1 : Int) (y2 : Int) (s : vS), PR (W_l_X6_isIn_10) s (Sum.elim (fun q => q) (fun q => q.2)) (rec y0 y1 y2 s)) (x3 : Int) (x4 : Int) (x5 : Int) (s : vS) : PR (W_l_X6_isIn_10) s (Sum.elim (fun q => q) (fun q => q.2)) (j_X6_isIn_86 p2 rec x3 x4 x5 s) := by
  unfold j_X6_isIn_86
  have Hs : Fr (W_l_X6_isIn_10) s s := Fr.rfl
  refine PR.bd (PR.pure Hs (fr_f_X4_next x5 s)) (fun r4 s1 Hs1 => ?_)
  exact PR.tail Hs1 (hrec x3 x4 r4 s1)
theorem fr_j_X6_isIn_54 (p2 : Nat) (rec : Int → Int → Int → vS → Option ((vS) ⊕ (Int × vS))) (hrec : ∀ (y0 : Int) (y1 : Int) (y2 : Int) (s : vS), PR (W_l_X6_isIn_10) s (Sum.elim (fun q => q) (fun q => q.2)) (rec y0 y1 y2 s)) (x3 : Int) (x4 : Int) (x5 : Int) (x6 : Int) (z0 : Int) (s : vS) : PR (W_l_X6_isIn_10) s (Sum.elim (fun q => q) (fun q => q.2)) (j_X6_isIn_54 p2 rec x3 x4 x5 x6 z0 s) := by
  unfold j_X6_isIn_54
  have Hs : Fr (W_l_X6_isIn_10) s s := Fr.rfl
  refine PR.bd (PR.pure Hs (fr_f_X6_isBelow p2 x3 x4 x6 (-1) s)) (fun r4 s1 Hs1 => ?_)
  refine PR.ite (fun _ => ?_) (fun _ => ?_)
  · refine PR.bd (PR.pure Hs1 (fr_f_X6_isBelow p2 x3 x4 z0 1 s1)) (fun r10 s7 Hs7 => ?_)
    refine PR.ite (fun _ => ?_) (fun _ => ?_)
    · exact PR.some Hs7
    · exact PR.tail Hs7 (fr_j_X6_isIn_86 p2 rec hrec x3 x4 x5 s7)
  · exact PR.tail Hs1 (fr_j_X6_isIn_86 p2 rec hrec x3 x4 x5 s1)
theorem fr_l_X6_isIn_10 (p2 : Nat) : ∀ (n : Nat) (x3 : Int) (x4 : Int) (x5 : Int) (s : vS), PR (W_l_X6_isIn_10) s (Sum.elim (fun q => q) (fun q => q.2)) (l_X6_isIn_10 p2 n x3 x4 x5 s)
  := by
  intro n
  induction n with
  | zero => intro x3 x4 x5 s; exact PR.none
  | succ n ih =>
    intro x3 x4 x5 s
    unfold l_X6_isIn_10
    have Hs : Fr (W_l_X6_isIn_10) s s := Fr.rfl
    refine PR.ite (fun _ => ?_) (fun _ => ?_)
    · exact PR.some Hs
    · refine PR.bd (PR.pure Hs (fr_f_X4_parts x5 s)) (fun r5 s2 Hs2 => ?_)
      refine PR.bd (PR.pure Hs2 (fr_f_X4_next r5 s2)) (fun r10 s7 Hs7 => ?_)
      refine PR.ite (fun _ => ?_) (fun _ => ?_)
      · exact PR.tail Hs7 (fr_j_X6_isIn_54 p2 (l_X6_isIn_10 p2 n) ih x3 x4 x5 r5 r5 s7)
      · refine PR.bd (PR.pure Hs7 (fr_f_X4_next r5 s7)) (fun r16 s13 Hs13 => ?_)
        exact PR.tail Hs13 (fr_j_X6_isIn_54 p2 (l_X6_isIn_10 p2 n) ih x3 x4 x5 r5 r16 s13)
def W_f_X6_isIn : List Nat := []
theorem fr_f_X6_isIn (x1 : Int) (p2 : Nat) (x3 : Int) (x4 : Int) (s : vS) : PR (W_f_X6_isIn) s (fun q => q.2) (f_X6_isIn x1 p2 x3 x4 s) := by
  unfold f_X6_isIn
  have Hs : Fr (W_f_X6_isIn) s s := Fr.rfl
  refine PR.bd (PR.pure Hs (fr_f_X4_parts x1 s)) (fun r4 s1 Hs1 => ?_)
  refine PR.lqs_0 (PR.pure Hs1 (fr_l_X6_isIn_10 p2 FU x3 x4 r4 s1)) (fun s6 Hs6 => ?_) (fun q Hq => PR.some Hq)
  exact PR.some Hs6
def W_l_X6_isInRange_14 : List Nat := []
theorem fr_l_X6_isInRange_14 (p2 : Nat) : ∀ (n : Nat) (x3 : Int) (x4 : Int) (x5 : Int) (x6 : Int) (s : vS), PR (W_l_X6_isInRange_14) s (Sum.elim (fun q => q) (fun q => q.2)) (l_X6_isInRange_14 p2 n x3 x4 x5 x6 s)
  := by
  intro n
  induction n with
  | zero => intro x3 x4 x5 x6 s; exact PR.none
  | succ n ih =>
    intro x3 x4 x5 x6 s
    unfold l_X6_isInRange_14
    have Hs : Fr (W_l_X6_isInRange_14) s s := Fr.rfl
    refine PR.ite (fun _ => ?_) (fun _ => ?_)
    · exact PR.some Hs
    · refine PR.bd (PR.pure Hs (fr_f_X6_isIn x6 p2 x3 x4 s)) (fun r5 s2 Hs2 => ?_)
      refine PR.ite (fun _ => ?_) (fun _ => ?_)
      · exact PR.some Hs2
      · refine PR.bd (PR.pure Hs2 (fr_f_X4_next x6 s2)) (fun r11 s8 Hs8 => ?_)
        exact PR.tail Hs8 (ih x3 x4 x5 r11 s8)
def W_l_X6_isInRange_3 : List Nat := []
theorem fr_l_X6_isInRange_3 (p2 : Nat) : ∀ (n : Nat) (x3 : Int) (x4 : Int) (x5 : Int) (s : vS), PR (W_l_X6_isInRange_3) s (Sum.elim (fun q => q) (fun q => q.2)) (l_X6_isInRange_3 p2 n x3 x4 x5 s)
  := by
  intro n
  induction n with
  | zero => intro x3 x4 x5 s; exact PR.none
  | succ n ih =>
    intro x3 x4 x5 s
    unfold l_X6_isInRange_3
    have Hs : Fr (W_l_X6_isInRange_3) s s := Fr.rfl
    refine PR.bd (PR.pure Hs (fr_f_X4_limits x5 s)) (fun r4 s1 Hs1 => ?_)
    refine PR.lqs_0 (PR.pure Hs1 (fr_l_X6_isInRange_14 p2 FU x3 x4 x5 r4 s1)) (fun s6 Hs6 => ?_) (fun q Hq => PR.some Hq)
    refine PR.bd (PR.pure Hs6 (fr_f_X4_kind x5 s6)) (fun r11 s8 Hs8 => ?_)
    refine PR.ite (fun _ => ?_) (fun _ => ?_)
    · refine PR.bd (PR.pure Hs8 (fr_f_X6_assignedType x5 s8)) (fun r17 s14 Hs14 => ?_)
      exact PR.tail Hs14 (ih x3 x4 r17 s14)
    · exact PR.some Hs8
def W_f_X6_isInRange : List Nat := []
theorem fr_f_X6_isInRange (x1 : Int) (p2 : Nat) (x3 : Int) (x4 : Int) (s : vS) : PR (W_f_X6_isInRange) s (fun q => q.2) (f_X6_isInRange x1 p2 x3 x4 s) := by
  unfold f_X6_isInRange
  have Hs : Fr (W_f_X6_isInRange) s s := Fr.rfl
  refine PR.lqs_0 (PR.pure Hs (fr_l_X6_isInRange_3 p2 FU x3 x4 x1 s)) (fun s1 Hs1 => ?_) (fun q Hq => PR.some Hq)
  exact PR.some Hs1
def W_l_X6_isItem_10 : List Nat := []
theorem fr_l_X6_isItem_10 (p2 : Nat) : ∀ (n : Nat) (x3 : Int) (x4 : Int) (x5 : Int) (s : vS), PR (W_l_X6_isItem_10) s (Sum.elim (fun q => q) (fun q => q.2)) (l_X6_isItem_10 p2 n x3 x4 x5 s)
  := by
  intro n
  induction n with
  | zero => intro x3 x4 x5 s; exact PR.none
  | succ n ih =>
    intro x3 x4 x5 s
    unfold l_X6_isItem_10
    have Hs : Fr (W_l_X6_isItem_10) s s := Fr.rfl
    refine PR.ite (fun _ => ?_) (fun _ => ?_)
    · exact PR.some Hs
    · refine PR.gd ?_
      refine PR.gd ?_
      refine PR.bd (PR.pure Hs (fr_f_X2_compare p2 x3 x4 30 (gE s 34 x5) (gE s 35 x5) s)) (fun r7 s4 Hs4 => ?_)
      refine PR.ite (fun _ => ?_) (fun _ => ?_)
      · exact PR.some Hs4
      · refine PR.bd (PR.pure Hs4 (fr_f_X4_next x5 s4)) (fun r13 s10 Hs10 => ?_)
        exact PR.tail Hs10 (ih x3 x4 r13 s10)
def W_f_X6_isItem : List Nat := []
theorem fr_f_X6_isItem (x1 : Int) (p2 : Nat) (x3 : Int) (x4 : Int) (s : vS) : PR (W_f_X6_isItem) s (fun q => q.2) (f_X6_isItem x1 p2 x3 x4 s) := by
  unfold f_X6_isItem
  have Hs : Fr (W_f_X6_isItem) s s := Fr.rfl
  refine PR.bd (PR.pure Hs (fr_f_X4_parts x1 s)) (fun r4 s1 Hs1 => ?_)
  refine PR.lqs_0 (PR.pure Hs1 (fr_l_X6_isItem_10 p2 FU x3 x4 r4 s1)) (fun s6 Hs6 => ?_) (fun q Hq => PR.some Hq)
  exact PR.some Hs6
def W_f_X6_hasItems : List Nat := []
theorem fr_f_X6_hasItems (x1 : Int) (s : vS) : PR (W_f_X6_hasItems) s (fun q => q.2) (f_X6_hasItems x1 s) := by
  unfold f_X6_hasItems
  have Hs : Fr (W_f_X6_hasItems) s s := Fr.rfl
  refine PR.bd (PR.pure Hs (fr_f_X4_parts x1 s)) (fun r4 s1 Hs1 => ?_)
  refine PR.ite (fun _ => ?_) (fun _ => ?_)
  · exact PR.some Hs1
  · exact PR.some Hs1
def W_f_X11_bits : List Nat := []
theorem fr_f_X11_bits (p0 : Nat) (x1 : Int) (x2 : Int) (s : vS) : PR (W_f_X11_bits) s (fun q => q.2) (f_X11_bits p0 x1 x2 s) := by
  unfold f_X11_bits
  have Hs : Fr (W_f_X11_bits) s s := Fr.rfl
  refine PR.bd (PR.pure Hs (fr_f_X2_at p0 x1 s)) (fun r4 s1 Hs1 => ?_)
  exact PR.some Hs1
def W_l_X6_sizeOf_35 : List Nat := []
theorem fr_l_X6_sizeOf_35 : ∀ (n : Nat) (x1 : Int) (x3 : Int) (x4 : Int) (s : vS), PR (W_l_X6_sizeOf_35) s (Sum.elim (fun q => q.2) (fun q => q.2)) (l_X6_sizeOf_35 n x1 x3 x4 s)
  := by
  intro n
  induction n with
  | zero => intro x1 x3 x4 s; exact PR.none
  | succ n ih =>
    intro x1 x3 x4 s
    unfold l_X6_sizeOf_35
    have Hs : Fr (W_l_X6_sizeOf_35) s s := Fr.rfl
    refine PR.gd ?_
    refine PR.ite (fun _ => ?_) (fun _ => ?_)
    · exact PR.some Hs
    · refine PR.ite (fun _ => ?_) (fun _ => ?_)
      · refine PR.bd (PR.pure Hs (fr_f_X2_at 30 x4 s)) (fun r7 s4 Hs4 => ?_)
        refine PR.vl (fun y9 => ?_)
        refine PR.vl (fun y12 => ?_)
        exact PR.tail Hs4 (ih x1 y9 y12 s4)
      · exact PR.some Hs
def W_f_X6_sizeOf : List Nat := []
theorem fr_f_X6_sizeOf (x1 : Int) (s : vS) : PR (W_f_X6_sizeOf) s (fun q => q.2) (f_X6_sizeOf x1 s) := by
  unfold f_X6_sizeOf
  have Hs : Fr (W_f_X6_sizeOf) s s := Fr.rfl
  refine PR.bd (PR.pure Hs (fr_f_X4_at x1 5 s)) (fun r4 s1 Hs1 => ?_)
  refine PR.ite (fun _ => ?_) (fun _ => ?_)
  · exact PR.some Hs1
  · refine PR.ite (fun _ => ?_) (fun _ => ?_)
    · exact PR.some Hs1
    · refine PR.gd ?_
      refine PR.vl (fun y9 => ?_)
      refine PR.lqs_1 (PR.pure Hs1 (fr_l_X6_sizeOf_35 FU x1 0 y9 s1)) (fun y12 s13 Hs13 => ?_) (fun q Hq => PR.some Hq)
      exact PR.some Hs13
def W_l_X6_leastSize_12 : List Nat := []
theorem fr_j_X6_leastSize_95 (rec : Int → Int → Int → vS → Option (Int × vS)) (hrec : ∀ (y0 : Int) (y1 : Int) (y2 : Int) (s : vS), PR (W_l_X6_leastSize_12) s (fun q => q.2) (rec y0 y1 y2 s)) (x2 : Int) (x3 : Int) (x4 : Int) (s : vS) : PR (W_l_X6_leastSize_12) s (fun q => q.2) (j_X6_leastSize_95 rec x2 x3 x4 s) := by
  unfold j_X6_leastSize_95
  have Hs : Fr (W_l_X6_leastSize_12) s s := Fr.rfl
  refine PR.bd (PR.pure Hs (fr_f_X4_next x4 s)) (fun r4 s1 Hs1 => ?_)
  exact PR.tail Hs1 (hrec x2 x3 r4 s1)
theorem fr_j_X6_leastSize_56 (rec : Int → Int → Int → vS → Option (Int × vS)) (hrec : ∀ (y0 : Int) (y1 : Int) (y2 : Int) (s : vS), PR (W_l_X6_leastSize_12) s (fun q => q.2) (rec y0 y1 y2 s)) (x2 : Int) (x3 : Int) (x4 : Int) (x5 : Int) (z0 : Int) (s : vS) : PR (W_l_X6_leastSize_12) s (fun q => q.2) (j_X6_leastSize_56 rec x2 x3 x4 x5 z0 s) := by
  unfold j_X6_leastSize_56
  have Hs : Fr (W_l_X6_leastSize_12) s s := Fr.rfl
  refine PR.bd (PR.pure Hs (fr_f_X6_sizeOf x5 s)) (fun r4 s1 Hs1 => ?_)
  refine PR.vl (fun y6 => ?_)
  refine PR.bd (PR.pure Hs1 (fr_f_X6_sizeOf z0 s1)) (fun r12 s9 Hs9 => ?_)
  refine PR.ite (fun _ => ?_) (fun _ => ?_)
  · exact PR.tail Hs9 (fr_j_X6_leastSize_95 rec hrec x2 x3 x4 s9)
  · refine PR.ite (fun _ => ?_) (fun _ => ?_)
    · exact PR.tail Hs9 (fr_j_X6_leastSize_95 rec hrec x2 y6 x4 s9)
    · refine PR.ite (fun _ => ?_) (fun _ => ?_)
      · exact PR.tail Hs9 (fr_j_X6_leastSize_95 rec hrec x2 x3 x4 s9)
      · exact PR.tail Hs9 (fr_j_X6_leastSize_95 rec hrec x2 y6 x4 s9)
theorem fr_l_X6_leastSize_12 : ∀ (n : Nat) (x2 : Int) (x3 : Int) (x4 : Int) (s : vS), PR (W_l_X6_leastSize_12) s (fun q => q.2) (l_X6_leastSize_12 n x2 x3 x4 s)
  := by
  intro n
  induction n with
  | zero => intro x2 x3 x4 s; exact PR.none
  | succ n ih =>
    intro x2 x3 x4 s
    unfold l_X6_leastSize_12
    have Hs : Fr (W_l_X6_leastSize_12) s s := Fr.rfl
    refine PR.ite (fun _ => ?_) (fun _ => ?_)
    · exact PR.some Hs
    · refine PR.bd (PR.pure Hs (fr_f_X4_parts x4 s)) (fun r5 s2 Hs2 => ?_)
      refine PR.bd (PR.pure Hs2 (fr_f_X4_next r5 s2)) (fun r10 s7 Hs7 => ?_)
      refine PR.ite (fun _ => ?_) (fun _ => ?_)
      · exact PR.tail Hs7 (fr_j_X6_leastSize_56 (l_X6_leastSize_12 n) ih x2 x3 x4 r5 r5 s7)
      · refine PR.bd (PR.pure Hs7 (fr_f_X4_next r5 s7)) (fun r16 s13 Hs13 => ?_)
        exact PR.tail Hs13 (fr_j_X6_leastSize_56 (l_X6_leastSize_12 n) ih x2 x3 x4 r5 r16 s13)
def W_f_X6_leastSize : List Nat := []
theorem fr_f_X6_leastSize (x1 : Int) (x2 : Int) (s : vS) : PR (W_f_X6_leastSize) s (fun q => q.2) (f_X6_leastSize x1 x2 s) := by
  unfold f_X6_leastSize
  have Hs : Fr (W_f_X6_leastSize) s s := Fr.rfl
  refine PR.bd (PR.pure Hs (fr_f_X4_parts x1 s)) (fun r4 s1 Hs1 => ?_)
  refine PR.lq_1 (PR.pure Hs1 (fr_l_X6_leastSize_12 FU x2 (-1) r4 s1)) (fun y6 s7 Hs7 => ?_)
  exact PR.some Hs7
def W_l_X6_isSize_12 : List Nat := []
theorem fr_l_X6_isSize_12 : ∀ (n : Nat) (x2 : Int) (x3 : Int) (x4 : Int) (s : vS), PR (W_l_X6_isSize_12) s (Sum.elim (fun q => q) (fun q => q.2)) (l_X6_isSize_12 n x2 x3 x4 s)
  := by
  intro n
  induction n with
  | zero => intro x2 x3 x4 s; exact PR.none
  | succ n ih =>
    intro x2 x3 x4 s
    unfold l_X6_isSize_12
    have Hs : Fr (W_l_X6_isSize_12) s s := Fr.rfl
    refine PR.ite (fun _ => ?_) (fun _ => ?_)
    · exact PR.some Hs
    · refine PR.bd (PR.pure Hs (fr_f_X6_leastSize x4 x2 s)) (fun r5 s2 Hs2 => ?_)
      refine PR.ite (fun _ => ?_) (fun _ => ?_)
      · refine PR.bd (PR.pure Hs2 (fr_f_X4_next x4 s2)) (fun r11 s8 Hs8 => ?_)
        exact PR.tail Hs8 (ih x2 x3 r11 s8)
      · exact PR.some Hs2
def W_l_X6_isSize_2 : List Nat := []
theorem fr_l_X6_isSize_2 : ∀ (n : Nat) (x2 : Int) (x3 : Int) (s : vS), PR (W_l_X6_isSize_2) s (Sum.elim (fun q => q) (fun q => q.2)) (l_X6_isSize_2 n x2 x3 s)
  := by
  intro n
  induction n with
  | zero => intro x2 x3 s; exact PR.none
  | succ n ih =>
    intro x2 x3 s
    unfold l_X6_isSize_2
    have Hs : Fr (W_l_X6_isSize_2) s s := Fr.rfl
    refine PR.bd (PR.pure Hs (fr_f_X4_limits x3 s)) (fun r4 s1 Hs1 => ?_)
    refine PR.lqs_0 (PR.pure Hs1 (fr_l_X6_isSize_12 FU x2 x3 r4 s1)) (fun s6 Hs6 => ?_) (fun q Hq => PR.some Hq)
    refine PR.bd (PR.pure Hs6 (fr_f_X4_kind x3 s6)) (fun r11 s8 Hs8 => ?_)
    refine PR.ite (fun _ => ?_) (fun _ => ?_)
    · refine PR.bd (PR.pure Hs8 (fr_f_X6_assignedType x3 s8)) (fun r17 s14 Hs14 => ?_)
      exact PR.tail Hs14 (ih x2 r17 s14)
    · exact PR.some Hs8
def W_f_X6_isSize : List Nat := []
theorem fr_f_X6_isSize (x1 : Int) (x2 : Int) (s : vS) : PR (W_f_X6_isSize) s (fun q => q.2) (f_X6_isSize x1 x2 s) := by
  unfold f_X6_isSize
  have Hs : Fr (W_f_X6_isSize) s s := Fr.rfl
  refine PR.lqs_0 (PR.pure Hs (fr_l_X6_isSize_2 FU x2 x1 s)) (fun s1 Hs1 => ?_) (fun q Hq => PR.some Hq)
  exact PR.some Hs1
def W_f_X11_bit : List Nat := []
theorem fr_f_X11_bit (p0 : Nat) (x1 : Int) (x2 : Int) (s : vS) : PR (W_f_X11_bit) s (fun q => q.2) (f_X11_bit p0 x1 x2 s) := by
  unfold f_X11_bit
  have Hs : Fr (W_f_X11_bit) s s := Fr.rfl
  refine PR.bd (PR.pure Hs (fr_f_X2_at p0 (w32 ((w32 (x1 + 1)) + (d32 x2 8))) s)) (fun r4 s1 Hs1 => ?_)
  refine PR.ite (fun _ => ?_) (fun _ => ?_)
  · exact PR.some Hs1
  · exact PR.some Hs1
def W_l_X11_needed_7 : List Nat := []
theorem fr_l_X11_needed_7 (p0 : Nat) : ∀ (n : Nat) (x1 : Int) (x3 : Int) (s : vS), PR (W_l_X11_needed_7) s (fun q => q.2) (l_X11_needed_7 p0 n x1 x3 s)
  := by
  intro n
  induction n with
  | zero => intro x1 x3 s; exact PR.none
  | succ n ih =>
    intro x1 x3 s
    unfold l_X11_needed_7
    have Hs : Fr (W_l_X11_needed_7) s s := Fr.rfl
    refine PR.ite (fun _ => ?_) (fun _ => ?_)
    · exact PR.some Hs
    · refine PR.bd (PR.pure Hs (fr_f_X11_bit p0 x1 (w32 (x3 - 1)) s)) (fun r5 s2 Hs2 => ?_)
      refine PR.ite (fun _ => ?_) (fun _ => ?_)
      · refine PR.vl (fun y8 => ?_)
        exact PR.tail Hs2 (ih x1 y8 s2)
      · exact PR.some Hs2
def W_f_X11_needed : List Nat := []
theorem fr_f_X11_needed (p0 : Nat) (x1 : Int) (x2 : Int) (s : vS) : PR (W_f_X11_needed) s (fun q => q.2) (f_X11_needed p0 x1 x2 s) := by
  unfold f_X11_needed
  have Hs : Fr (W_f_X11_needed) s s := Fr.rfl
  refine PR.bd (PR.pure Hs (fr_f_X11_bits p0 x1 x2 s)) (fun r4 s1 Hs1 => ?_)
  refine PR.lq_1 (PR.pure Hs1 (fr_l_X11_needed_7 p0 FU x1 r4 s1)) (fun y6 s7 Hs7 => ?_)
  exact PR.some Hs7
def W_l_X6_sizeFrom_36 : List Nat := []
theorem fr_l_X6_sizeFrom_36 : ∀ (n : Nat) (x1 : Int) (x3 : Int) (x4 : Int) (x5 : Int) (x7 : Int) (s : vS), PR (W_l_X6_sizeFrom_36) s (Sum.elim (fun q => q.2) (fun q => q.2)) (l_X6_sizeFrom_36 n x1 x3 x4 x5 x7 s)
  := by
  intro n
  induction n with
  | zero => intro x1 x3 x4 x5 x7 s; exact PR.none
  | succ n ih =>
    intro x1 x3 x4 x5 x7 s
    unfold l_X6_sizeFrom_36
    have Hs : Fr (W_l_X6_sizeFrom_36) s s := Fr.rfl
    refine PR.ite (fun _ => ?_) (fun _ => ?_)
    · exact PR.some Hs
    · refine PR.bd (PR.pure Hs (fr_f_X6_leastSize x7 x3 s)) (fun r5 s2 Hs2 => ?_)
      refine PR.ite (fun _ => ?_) (fun _ => ?_)
      · exact PR.some Hs2
      · refine PR.ite (fun _ => ?_) (fun _ => ?_)
        · refine PR.bd (PR.pure Hs2 (fr_f_X4_next x7 s2)) (fun r12 s9 Hs9 => ?_)
          exact PR.tail Hs9 (ih x1 r5 x4 x5 r12 s9)
        · exact PR.some Hs2
def W_l_X6_sizeFrom_20 : List Nat := []
theorem fr_j_X6_sizeFrom_96 (rec : Int → Int → Int → Int → Int → vS → Option ((Int × vS) ⊕ (Int × vS))) (hrec : ∀ (y0 : Int) (y1 : Int) (y2 : Int) (y3 : Int) (y4 : Int) (s : vS), PR (W_l_X6_sizeFrom_20) s (Sum.elim (fun q => q.2) (fun q => q.2)) (rec y0 y1 y2 y3 y4 s)) (x1 : Int) (x3 : Int) (x4 : Int) (x5 : Int) (z0 : Int) (s : vS) : PR (W_l_X6_sizeFrom_20) s (Sum.elim (fun q => q.2) (fun q => q.2)) (j_X6_sizeFrom_96 rec x1 x3 x4 x5 z0 s) := by
  unfold j_X6_sizeFrom_96
  have Hs : Fr (W_l_X6_sizeFrom_20) s s := Fr.rfl
  refine PR.ite (fun _ => ?_) (fun _ => ?_)
  · exact PR.tail Hs (hrec x1 x3 x4 x5 z0 s)
  · refine PR.bd (PR.pure Hs (fr_f_X6_assignedType x5 s)) (fun r5 s2 Hs2 => ?_)
    exact PR.tail Hs2 (hrec x1 x3 x4 r5 z0 s2)
theorem fr_l_X6_sizeFrom_20 : ∀ (n : Nat) (x1 : Int) (x3 : Int) (x4 : Int) (x5 : Int) (x6 : Int) (s : vS), PR (W_l_X6_sizeFrom_20) s (Sum.elim (fun q => q.2) (fun q => q.2)) (l_X6_sizeFrom_20 n x1 x3 x4 x5 x6 s)
  := by
  intro n
  induction n with
  | zero => intro x1 x3 x4 x5 x6 s; exact PR.none
  | succ n ih =>
    intro x1 x3 x4 x5 x6 s
    unfold l_X6_sizeFrom_20
    have Hs : Fr (W_l_X6_sizeFrom_20) s s := Fr.rfl
    refine PR.ite (fun _ => ?_) (fun _ => ?_)
    · exact PR.some Hs
    · refine PR.bd (PR.pure Hs (fr_f_X4_limits x5 s)) (fun r5 s2 Hs2 => ?_)
      refine PR.lqs_1 (PR.pure Hs2 (fr_l_X6_sizeFrom_36 FU x1 x3 x4 x5 r5 s2)) (fun y7 s8 Hs8 => ?_) (fun q Hq => PR.some Hq)
      refine PR.bd (PR.pure Hs8 (fr_f_X4_kind x5 s8)) (fun r14 s11 Hs11 => ?_)
      refine PR.ite (fun _ => ?_) (fun _ => ?_)
      · exact PR.tail Hs11 (fr_j_X6_sizeFrom_96 (l_X6_sizeFrom_20 n) ih x1 y7 x4 x5 1 s11)
      · exact PR.tail Hs11 (fr_j_X6_sizeFrom_96 (l_X6_sizeFrom_20 n) ih x1 y7 x4 x5 0 s11)
def W_l_X6_sizeFrom_5 : List Nat := []
theorem fr_l_X6_sizeFrom_5 : ∀ (n : Nat) (x1 : Int) (x3 : Int) (x4 : Int) (s : vS), PR (W_l_X6_sizeFrom_5) s (Sum.elim (fun q => q.2) (fun q => q.2)) (l_X6_sizeFrom_5 n x1 x3 x4 s)
  := by
  intro n
  induction n with
  | zero => intro x1 x3 x4 s; exact PR.none
  | succ n ih =>
    intro x1 x3 x4 s
    unfold l_X6_sizeFrom_5
    have Hs : Fr (W_l_X6_sizeFrom_5) s s := Fr.rfl
    refine PR.ite (fun _ => ?_) (fun _ => ?_)
    · exact PR.some Hs
    · refine PR.lqs_1 (PR.pure Hs (fr_l_X6_sizeFrom_20 FU x1 x3 x3 x1 1 s)) (fun y2 s3 Hs3 => ?_) (fun q Hq => PR.some Hq)
      exact PR.tail Hs3 (ih x1 y2 x3 s3)
def W_f_X6_sizeFrom : List Nat := []
theorem fr_f_X6_sizeFrom (x1 : Int) (x2 : Int) (s : vS) : PR (W_f_X6_sizeFrom) s (fun q => q.2) (f_X6_sizeFrom x1 x2 s) := by
  unfold f_X6_sizeFrom
  have Hs : Fr (W_f_X6_sizeFrom) s s := Fr.rfl
  refine PR.lqs_1 (PR.pure Hs (fr_l_X6_sizeFrom_5 FU x1 x2 (-1) s)) (fun y1 s2 Hs2 => ?_) (fun q Hq => PR.some Hq)
  exact PR.some Hs2
def W_l_X6_hasLimits_2 : List Nat := []
theorem fr_l_X6_hasLimits_2 : ∀ (n : Nat) (x2 : Int) (s : vS), PR (W_l_X6_hasLimits_2) s (fun q => q.2) (l_X6_hasLimits_2 n x2 s)
  := by
  intro n
  induction n with
  | zero => intro x2 s; exact PR.none
  | succ n ih =>
    intro x2 s
    unfold l_X6_hasLimits_2
    have Hs : Fr (W_l_X6_hasLimits_2) s s := Fr.rfl
    refine PR.bd (PR.pure Hs (fr_f_X4_limits x2 s)) (fun r4 s1 Hs1 => ?_)
    refine PR.ite (fun _ => ?_) (fun _ => ?_)
    · refine PR.bd (PR.pure Hs1 (fr_f_X4_kind x2 s1)) (fun r10 s7 Hs7 => ?_)
      refine PR.ite (fun _ => ?_) (fun _ => ?_)
      · refine PR.bd (PR.pure Hs7 (fr_f_X6_assignedType x2 s7)) (fun r16 s13 Hs13 => ?_)
        exact PR.tail Hs13 (ih r16 s13)
      · exact PR.some Hs7
    · exact PR.some Hs1
def W_j_X6_hasLimits_36 : List Nat := []
theorem fr_j_X6_hasLimits_36 (x2 : Int) (s : vS) : PR (W_j_X6_hasLimits_36) s (fun q => q.2) (j_X6_hasLimits_36 x2 s) := by
  unfold j_X6_hasLimits_36
  have Hs : Fr (W_j_X6_hasLimits_36) s s := Fr.rfl
  refine PR.bd (PR.pure Hs (fr_f_X4_limits x2 s)) (fun r4 s1 Hs1 => ?_)
  refine PR.ite (fun _ => ?_) (fun _ => ?_)
  · exact PR.some Hs1
  · exact PR.some Hs1
def W_f_X6_hasLimits : List Nat := []
theorem fr_f_X6_hasLimits (x1 : Int) (s : vS) : PR (W_f_X6_hasLimits) s (fun q => q.2) (f_X6_hasLimits x1 s) := by
  unfold f_X6_hasLimits
  have Hs : Fr (W_f_X6_hasLimits) s s := Fr.rfl
  refine PR.lq_1 (PR.pure Hs (fr_l_X6_hasLimits_2 FU x1 s)) (fun y1 s2 Hs2 => ?_)
  exact PR.pure Hs2 (fr_j_X6_hasLimits_36 y1 s2)
def W_f_X6_bitsOf : List Nat := []
theorem fr_f_X6_bitsOf (x1 : Int) (x2 : Int) (p3 : Nat) (x4 : Int) (x5 : Int) (s : vS) : PR (W_f_X6_bitsOf) s (fun q => q.2) (f_X6_bitsOf x1 x2 p3 x4 x5 s) := by
  unfold f_X6_bitsOf
  have Hs : Fr (W_f_X6_bitsOf) s s := Fr.rfl
  refine PR.bd (PR.pure Hs (fr_f_X6_hasItems x2 s)) (fun r4 s1 Hs1 => ?_)
  refine PR.ite (fun _ => ?_) (fun _ => ?_)
  · refine PR.bd (PR.pure Hs1 (fr_f_X11_bits p3 x4 x5 s1)) (fun r27 s24 Hs24 => ?_)
    refine PR.bd (PR.pure Hs24 (fr_f_X6_isSize x1 r27 s24)) (fun r32 s29 Hs29 => ?_)
    refine PR.ite (fun _ => ?_) (fun _ => ?_)
    · exact PR.some Hs29
    · exact PR.some Hs29
  · refine PR.bd (PR.pure Hs1 (fr_f_X11_needed p3 x4 x5 s1)) (fun r10 s7 Hs7 => ?_)
    refine PR.bd (PR.pure Hs7 (fr_f_X6_sizeFrom x1 r10 s7)) (fun r15 s12 Hs12 => ?_)
    refine PR.ite (fun _ => ?_) (fun _ => ?_)
    · exact PR.some Hs12
    · refine PR.bd (PR.pure Hs12 (fr_f_X6_hasLimits x1 s12)) (fun r21 s18 Hs18 => ?_)
      refine PR.ite (fun _ => ?_) (fun _ => ?_)
      · exact PR.some Hs18
      · exact PR.some Hs18
def W_l_X11_write_38 : List Nat := []
theorem fr_l_X11_write_38 (p0 : Nat) (p4 : Nat) : ∀ (n : Nat) (x1 : Int) (x3 : Int) (x5 : Int) (x6 : Int) (x7 : Int) (x8 : Int) (s : vS), PR (W_l_X11_write_38) s (fun q => q.2) (l_X11_write_38 p0 p4 n x1 x3 x5 x6 x7 x8 s)
  := by
  intro n
  induction n with
  | zero => intro x1 x3 x5 x6 x7 x8 s; exact PR.none
  | succ n ih =>
    intro x1 x3 x5 x6 x7 x8 s
    unfold l_X11_write_38
    have Hs : Fr (W_l_X11_write_38) s s := Fr.rfl
    refine PR.ite (fun _ => ?_) (fun _ => ?_)
    · exact PR.some Hs
    · refine PR.ite (fun _ => ?_) (fun _ => ?_)
      · refine PR.vl (fun y3 => ?_)
        refine PR.vl (fun y6 => ?_)
        exact PR.tail Hs (ih x1 x3 x5 x6 y3 y6 s)
      · refine PR.ite (fun _ => ?_) (fun _ => ?_)
        · refine PR.vl (fun y10 => ?_)
          refine PR.vl (fun y13 => ?_)
          exact PR.tail Hs (ih x1 x3 x5 x6 y10 y13 s)
        · refine PR.bd (PR.pure Hs (fr_f_X11_bit p0 x1 (w32 (x6 + x8)) s)) (fun r19 s16 Hs16 => ?_)
          refine PR.ite (fun _ => ?_) (fun _ => ?_)
          · refine PR.vl (fun y22 => ?_)
            refine PR.vl (fun y25 => ?_)
            exact PR.tail Hs16 (ih x1 x3 x5 x6 y22 y25 s16)
          · refine PR.vl (fun y28 => ?_)
            refine PR.vl (fun y31 => ?_)
            exact PR.tail Hs16 (ih x1 x3 x5 x6 y28 y31 s16)
def W_l_X11_write_26 (p4 : Nat) : List Nat := [1000 * (p4 + 1) + 998, 1000 * (p4 + 1) + 999, 1000 * p4 + 1]
theorem fr_l_X11_write_26 (p0 : Nat) (p4 : Nat) : ∀ (n : Nat) (x1 : Int) (x3 : Int) (x5 : Int) (x6 : Int) (s : vS), PR (W_l_X11_write_26 p4) s (fun q => q) (l_X11_write_26 p0 p4 n x1 x3 x5 x6 s)
  := by
  intro n
  induction n with
  | zero => intro x1 x3 x5 x6 s; exact PR.none
  | succ n ih =>
    intro x1 x3 x5 x6 s
    unfold l_X11_write_26
    have Hs : Fr (W_l_X11_write_26 p4) s s := Fr.rfl
    refine PR.ite (fun _ => ?_) (fun _ => ?_)
    · exact PR.some Hs
    · refine PR.lq_1 (PR.pure Hs (fr_l_X11_write_38 p0 p4 FU x1 x3 x5 x6 0 0 s)) (fun y2 s3 Hs3 => ?_)
      refine PR.bdv (PR.call Hs3 (fr_f_X2_add p4 y2 s3) (by intro c hc; simp only [W_f_X2_add, W_l_X11_write_26, List.mem_cons, List.not_mem_nil, or_false] at hc ⊢; omega)) (fun s6 Hs6 => ?_)
      refine PR.vl (fun y9 => ?_)
      exact PR.tail Hs6 (ih x1 x3 x5 y9 s6)
def W_f_X11_write (p4 : Nat) : List Nat := [1000 * (p4 + 1) + 998, 1000 * (p4 + 1) + 999, 1000 * p4 + 1]
theorem fr_f_X11_write (p0 : Nat) (x1 : Int) (x2 : Int) (x3 : Int) (p4 : Nat) (s : vS) : PR (W_f_X11_write p4) s (fun q => q) (f_X11_write p0 x1 x2 x3 p4 s) := by
  unfold f_X11_write
  have Hs : Fr (W_f_X11_write p4) s s := Fr.rfl
  refine PR.bd (PR.pure Hs (fr_f_X11_bits p0 x1 x2 s)) (fun r4 s1 Hs1 => ?_)
  refine PR.bdv (PR.call Hs1 (fr_f_X2_add p4 (m32 (w32 (8 - (m32 x3 8))) 8) s1) (by intro c hc; simp only [W_f_X2_add, W_f_X11_write, List.mem_cons, List.not_mem_nil, or_false] at hc ⊢; omega)) (fun s6 Hs6 => ?_)
  refine PR.lq_0 (PR.call Hs6 (fr_l_X11_write_26 p0 p4 FU x1 x3 r4 0 s6) (by intro c hc; simp only [W_l_X11_write_26, W_f_X11_write, List.mem_cons, List.not_mem_nil, or_false] at hc ⊢; omega)) (fun s9 Hs9 => ?_)
  exact PR.some Hs9
def W_f_X6_bits : List Nat := [30001, 31998, 31999, 32001, 33998, 33999, 34999, 35999]
theorem fr_f_X6_bits (x1 : Int) (x2 : Int) (x3 : Int) (s : vS) : PR (W_f_X6_bits) s (fun q => q.2) (f_X6_bits x1 x2 x3 s) := by
  unfold f_X6_bits
  have Hs : Fr (W_f_X6_bits) s s := Fr.rfl
  refine PR.gd ?_
  refine PR.gd ?_
  refine PR.bd (PR.pure Hs (fr_f_X6_bitsOf x2 x3 30 (gE s 34 x1) (gE s 35 x1) s)) (fun r6 s3 Hs3 => ?_)
  refine PR.ite (fun _ => ?_) (fun _ => ?_)
  · exact PR.some Hs3
  · refine PR.bd (PR.pure Hs3 (fr_f_X6_hasItems x3 s3)) (fun r12 s9 Hs9 => ?_)
    refine PR.ite (fun _ => ?_) (fun _ => ?_)
    · exact PR.some Hs9
    · refine PR.gd ?_
      refine PR.gd ?_
      refine PR.bd (PR.pure Hs9 (fr_f_X11_needed 30 (gE s9 34 x1) (gE s9 35 x1) s9)) (fun r20 s17 Hs17 => ?_)
      refine PR.ite (fun _ => ?_) (fun _ => ?_)
      · refine PR.bdv (PR.call Hs17 (fr_f_X2_clear 32 s17) (by decide +kernel)) (fun s23 Hs23 => ?_)
        refine PR.gd ?_
        refine PR.gd ?_
        refine PR.bdv (PR.call Hs23 (fr_f_X11_write 30 (gE s23 34 x1) (gE s23 35 x1) r6 32 s23) (by decide +kernel)) (fun s28 Hs28 => ?_)
        refine PR.bd (PR.pure Hs28 (fr_f_X2_size 30 s28)) (fun r34 s31 Hs31 => ?_)
        refine PR.gd ?_
        refine PR.gd ?_
        refine PR.stp (Fr.wE Hs31 (by decide +kernel)) (fun s38 Hs38 => ?_)
        refine PR.bd (PR.pure Hs38 (fr_f_X2_size 32 s38)) (fun r43 s40 Hs40 => ?_)
        refine PR.bdv (PR.call Hs40 (fr_f_X2_all 30 32 0 r43 s40) (by decide +kernel)) (fun s45 Hs45 => ?_)
        refine PR.bd (PR.pure Hs45 (fr_f_X2_size 30 s45)) (fun r51 s48 Hs48 => ?_)
        refine PR.gd ?_
        refine PR.gd ?_
        refine PR.stp (Fr.wE Hs48 (by decide +kernel)) (fun s55 Hs55 => ?_)
        exact PR.some Hs55
      · exact PR.some Hs17
def W_l_X6_mayBeEmpty_37 : List Nat := []
theorem fr_l_X6_mayBeEmpty_37 : ∀ (n : Nat) (x2 : Int) (s : vS), PR (W_l_X6_mayBeEmpty_37) s (Sum.elim (fun q => q) (fun q => q.2)) (l_X6_mayBeEmpty_37 n x2 s)
  := by
  intro n
  induction n with
  | zero => intro x2 s; exact PR.none
  | succ n ih =>
    intro x2 s
    unfold l_X6_mayBeEmpty_37
    have Hs : Fr (W_l_X6_mayBeEmpty_37) s s := Fr.rfl
    refine PR.ite (fun _ => ?_) (fun _ => ?_)
    · exact PR.some Hs
    · refine PR.bd (PR.pure Hs (fr_f_X4_at x2 5 s)) (fun r5 s2 Hs2 => ?_)
      refine PR.ite (fun _ => ?_) (fun _ => ?_)
      · exact PR.some Hs2
      · refine PR.bd (PR.pure Hs2 (fr_f_X4_next x2 s2)) (fun r11 s8 Hs8 => ?_)
        exact PR.tail Hs8 (ih r11 s8)
def W_f_X6_mayBeEmpty : List Nat := []
theorem fr_f_X6_mayBeEmpty (x1 : Int) (s : vS) : PR (W_f_X6_mayBeEmpty) s (fun q => q.2) (f_X6_mayBeEmpty x1 s) := by
  unfold f_X6_mayBeEmpty
  have Hs : Fr (W_f_X6_mayBeEmpty) s s := Fr.rfl
  refine PR.bd (PR.pure Hs (fr_f_X4_kind x1 s)) (fun r4 s1 Hs1 => ?_)
  refine PR.ite (fun _ => ?_) (fun _ => ?_)
  · exact PR.some Hs1
  · refine PR.bd (PR.pure Hs1 (fr_f_X4_kind x1 s1)) (fun r10 s7 Hs7 => ?_)
    refine PR.ite (fun _ => ?_) (fun _ => ?_)
    · exact PR.some Hs7
    · refine PR.bd (PR.pure Hs7 (fr_f_X4_parts x1 s7)) (fun r16 s13 Hs13 => ?_)
      refine PR.lqs_0 (PR.pure Hs13 (fr_l_X6_mayBeEmpty_37 FU r16 s13)) (fun s18 Hs18 => ?_) (fun q Hq => PR.some Hq)
      exact PR.some Hs18
def W_j_X6_holds_94 : List Nat := []
theorem fr_j_X6_holds_94 (x2 : Int) (s : vS) : PR (W_j_X6_holds_94) s (fun q => q.2) (j_X6_holds_94 x2 s) := by
  unfold j_X6_holds_94
  have Hs : Fr (W_j_X6_holds_94) s s := Fr.rfl
  refine PR.bd (PR.pure Hs (fr_f_X6_isSize x2 0 s)) (fun r4 s1 Hs1 => ?_)
  refine PR.gd ?_
  exact PR.some Hs1
def W_j_X6_holds_115 : List Nat := []
theorem fr_j_X6_holds_115 (x3 : Int) (s : vS) : PR (W_j_X6_holds_115) s (fun q => q.2) (j_X6_holds_115 x3 s) := by
  unfold j_X6_holds_115
  have Hs : Fr (W_j_X6_holds_115) s s := Fr.rfl
  refine PR.bd (PR.pure Hs (fr_f_X6_mayBeEmpty x3 s)) (fun r4 s1 Hs1 => ?_)
  refine PR.gd ?_
  exact PR.some Hs1
def W_j_X6_holds_148 : List Nat := []
theorem fr_j_X6_holds_148 (x1 : Int) (x2 : Int) (s : vS) : PR (W_j_X6_holds_148) s (fun q => q.2) (j_X6_holds_148 x1 x2 s) := by
  unfold j_X6_holds_148
  have Hs : Fr (W_j_X6_holds_148) s s := Fr.rfl
  refine PR.gd ?_
  refine PR.gd ?_
  refine PR.bd (PR.pure Hs (fr_f_X6_isSize x2 (w32 ((gE s 35 x1) - (gE s 34 x1))) s)) (fun r6 s3 Hs3 => ?_)
  refine PR.gd ?_
  exact PR.some Hs3
def W_f_X6_holds : List Nat := [30001, 31998, 31999, 32001, 33998, 33999, 34999, 35999]
theorem fr_f_X6_holds (x1 : Int) (x2 : Int) (x3 : Int) (s : vS) : PR (W_f_X6_holds) s (fun q => q.2) (f_X6_holds x1 x2 x3 s) := by
  unfold f_X6_holds
  have Hs : Fr (W_f_X6_holds) s s := Fr.rfl
  refine PR.bd (PR.pure Hs (fr_f_X4_kind x3 s)) (fun r4 s1 Hs1 => ?_)
  refine PR.ite (fun _ => ?_) (fun _ => ?_)
  · refine PR.gd ?_
    refine PR.gd ?_
    refine PR.bd (PR.pure Hs1 (fr_f_X6_isInRange x2 30 (gE s1 34 x1) (gE s1 35 x1) s1)) (fun r36 s33 Hs33 => ?_)
    refine PR.gd ?_
    exact PR.some Hs33
  · refine PR.ite (fun _ => ?_) (fun _ => ?_)
    · refine PR.gd ?_
      refine PR.gd ?_
      refine PR.bd (PR.pure Hs1 (fr_f_X6_isItem x3 30 (gE s1 34 x1) (gE s1 35 x1) s1)) (fun r28 s25 Hs25 => ?_)
      refine PR.gd ?_
      exact PR.some Hs25
    · refine PR.ite (fun _ => ?_) (fun _ => ?_)
      · refine PR.bd (PR.call Hs1 (fr_f_X6_bits x1 x2 x3 s1) (by decide +kernel)) (fun r20 s17 Hs17 => ?_)
        refine PR.gd ?_
        exact PR.some Hs17
      · refine PR.ite (fun _ => ?_) (fun _ => ?_)
        · exact PR.pure Hs1 (fr_j_X6_holds_94 x2 s1)
        · refine PR.ite (fun _ => ?_) (fun _ => ?_)
          · exact PR.pure Hs1 (fr_j_X6_holds_94 x2 s1)
          · refine PR.ite (fun _ => ?_) (fun _ => ?_)
            · exact PR.pure Hs1 (fr_j_X6_holds_115 x3 s1)
            · refine PR.ite (fun _ => ?_) (fun _ => ?_)
              · exact PR.pure Hs1 (fr_j_X6_holds_115 x3 s1)
              · refine PR.ite (fun _ => ?_) (fun _ => ?_)
                · exact PR.pure Hs1 (fr_j_X6_holds_148 x1 x2 s1)
                · refine PR.ite (fun _ => ?_) (fun _ => ?_)
                  · exact PR.pure Hs1 (fr_j_X6_holds_148 x1 x2 s1)
                  · refine PR.ite (fun _ => ?_) (fun _ => ?_)
                    · exact PR.pure Hs1 (fr_j_X6_holds_148 x1 x2 s1)
                    · refine PR.ite (fun _ => ?_) (fun _ => ?_)
                      · exact PR.pure Hs1 (fr_j_X6_holds_148 x1 x2 s1)
                      · exact PR.some Hs1
def W_l_X6_digits_30 : List Nat := [30001, 31998, 31999]
theorem fr_j_X6_digits_122 (rec : Int → Int → Int → Int → Int → Int → vS → Option (Int × Int × vS)) (hrec : ∀ (y0 : Int) (y1 : Int) (y2 : Int) (y3 : Int) (y4 : Int) (y5 : Int) (s : vS), PR (W_l_X6_digits_30) s (fun q => q.2.2) (rec y0 y1 y2 y3 y4 y5 s)) (x1 : Int) (x2 : Int) (x3 : Int) (x5 : Int) (x6 : Int) (z0 : Int) (z1 : Int) (s : vS) : PR (W_l_X6_digits_30) s (fun q => q.2.2) (j_X6_digits_122 rec x1 x2 x3 x5 x6 z0 z1 s) := by
  unfold j_X6_digits_122
  have Hs : Fr (W_l_X6_digits_30) s s := Fr.rfl
  refine PR.vl (fun y1 => ?_)
  refine PR.ite (fun _ => ?_) (fun _ => ?_)
  · refine PR.bdv (PR.call Hs (fr_f_X2_add 30 (and32 x5 255) s) (by decide +kernel)) (fun s8 Hs8 => ?_)
    refine PR.vl (fun y11 => ?_)
    exact PR.tail Hs8 (hrec x1 x2 x3 y1 0 y11 s8)
  · refine PR.vl (fun y5 => ?_)
    exact PR.tail Hs (hrec x1 x2 x3 y1 x5 y5 s)
theorem fr_j_X6_digits_109 (rec : Int → Int → Int → Int → Int → Int → vS → Option (Int × Int × vS)) (hrec : ∀ (y0 : Int) (y1 : Int) (y2 : Int) (y3 : Int) (y4 : Int) (y5 : Int) (s : vS), PR (W_l_X6_digits_30) s (fun q => q.2.2) (rec y0 y1 y2 y3 y4 y5 s)) (x1 : Int) (x2 : Int) (x3 : Int) (x4 : Int) (x6 : Int) (z0 : Int) (s : vS) : PR (W_l_X6_digits_30) s (fun q => q.2.2) (j_X6_digits_109 rec x1 x2 x3 x4 x6 z0 s) := by
  unfold j_X6_digits_109
  have Hs : Fr (W_l_X6_digits_30) s s := Fr.rfl
  refine PR.ite (fun _ => ?_) (fun _ => ?_)
  · exact PR.tail Hs (fr_j_X6_digits_122 rec hrec x1 x2 x3 z0 x6 x4 1 s)
  · exact PR.tail Hs (fr_j_X6_digits_122 rec hrec x1 x2 x3 z0 x6 x4 4 s)
theorem fr_j_X6_digits_86 (rec : Int → Int → Int → Int → Int → Int → vS → Option (Int × Int × vS)) (hrec : ∀ (y0 : Int) (y1 : Int) (y2 : Int) (y3 : Int) (y4 : Int) (y5 : Int) (s : vS), PR (W_l_X6_digits_30) s (fun q => q.2.2) (rec y0 y1 y2 y3 y4 y5 s)) (x1 : Int) (x2 : Int) (x3 : Int) (x4 : Int) (x5 : Int) (x6 : Int) (z0 : Int) (s : vS) : PR (W_l_X6_digits_30) s (fun q => q.2.2) (j_X6_digits_86 rec x1 x2 x3 x4 x5 x6 z0 s) := by
  unfold j_X6_digits_86
  have Hs : Fr (W_l_X6_digits_30) s s := Fr.rfl
  refine PR.ite (fun _ => ?_) (fun _ => ?_)
  · exact PR.tail Hs (fr_j_X6_digits_109 rec hrec x1 x2 x3 x4 x6 (or32 (shl32 x5 1) z0) s)
  · exact PR.tail Hs (fr_j_X6_digits_109 rec hrec x1 x2 x3 x4 x6 (or32 (shl32 x5 4) z0) s)
theorem fr_l_X6_digits_30 : ∀ (n : Nat) (x1 : Int) (x2 : Int) (x3 : Int) (x4 : Int) (x5 : Int) (x6 : Int) (s : vS), PR (W_l_X6_digits_30) s (fun q => q.2.2) (l_X6_digits_30 n x1 x2 x3 x4 x5 x6 s)
  := by
  intro n
  induction n with
  | zero => intro x1 x2 x3 x4 x5 x6 s; exact PR.none
  | succ n ih =>
    intro x1 x2 x3 x4 x5 x6 s
    unfold l_X6_digits_30
    have Hs : Fr (W_l_X6_digits_30) s s := Fr.rfl
    refine PR.gd ?_
    refine PR.bd (PR.pure Hs (fr_f_X3_end x1 s)) (fun r5 s2 Hs2 => ?_)
    refine PR.ite (fun _ => ?_) (fun _ => ?_)
    · exact PR.some Hs2
    · refine PR.gd ?_
      refine PR.bdo (PR.pure Hs2 (fr_f_X3_text s2)) (fun r12 s9 Hs9 => ?_)
      refine PR.gd ?_
      refine PR.bd (PR.pure Hs9 (fr_f_X2_at r12 x6 s9)) (fun r17 s14 Hs14 => ?_)
      refine PR.ite (fun _ => ?_) (fun _ => ?_)
      · refine PR.vl (fun y20 => ?_)
        exact PR.tail Hs14 (ih x1 x2 x3 x4 x5 y20 s14)
      · refine PR.ite (fun _ => ?_) (fun _ => ?_)
        · exact PR.tail Hs14 (fr_j_X6_digits_86 (l_X6_digits_30 n) ih x1 x2 x3 x4 x5 x6 (w32 (r17 - 48)) s14)
        · exact PR.tail Hs14 (fr_j_X6_digits_86 (l_X6_digits_30 n) ih x1 x2 x3 x4 x5 x6 (w32 (r17 - 55)) s14)
def W_j_X6_digits_189 : List Nat := [31999]
theorem fr_j_X6_digits_189 (x3 : Int) (x4 : Int) (x6 : Int) (s : vS) : PR (W_j_X6_digits_189) s (fun q => q.2) (j_X6_digits_189 x3 x4 x6 s) := by
  unfold j_X6_digits_189
  have Hs : Fr (W_j_X6_digits_189) s s := Fr.rfl
  refine PR.ite (fun _ => ?_) (fun _ => ?_)
  · exact PR.some Hs
  · refine PR.bd (PR.pure Hs (fr_f_X2_size 30 s)) (fun r5 s2 Hs2 => ?_)
    refine PR.bdv (PR.call Hs2 (fr_f_X2_set 30 (w32 ((w32 (r5 - 1)) - (d32 (w32 (x4 + 7)) 8))) x6 s2) (by decide +kernel)) (fun s7 Hs7 => ?_)
    exact PR.some Hs7
def W_j_X6_digits_18 : List Nat := [30001, 31998, 31999]
theorem fr_j_X6_digits_18 (x1 : Int) (x2 : Int) (x3 : Int) (x4 : Int) (x5 : Int) (s : vS) : PR (W_j_X6_digits_18) s (fun q => q.2) (j_X6_digits_18 x1 x2 x3 x4 x5 s) := by
  unfold j_X6_digits_18
  have Hs : Fr (W_j_X6_digits_18) s s := Fr.rfl
  refine PR.gd ?_
  refine PR.bd (PR.pure Hs (fr_f_X3_start x1 s)) (fun r5 s2 Hs2 => ?_)
  refine PR.vl (fun y7 => ?_)
  refine PR.lq_2 (PR.call Hs2 (fr_l_X6_digits_30 FU x1 x2 x3 x4 x5 y7 s2) (by decide +kernel)) (fun y10 y11 s12 Hs12 => ?_)
  refine PR.vl (fun y16 => ?_)
  refine PR.ite (fun _ => ?_) (fun _ => ?_)
  · exact PR.call Hs12 (fr_j_X6_digits_189 x3 y10 y16 s12) (by decide +kernel)
  · refine PR.bdv (PR.call Hs12 (fr_f_X2_add 30 (and32 (shl32 y11 y16) 255) s12) (by decide +kernel)) (fun s20 Hs20 => ?_)
    exact PR.call Hs20 (fr_j_X6_digits_189 x3 y10 y16 s20) (by decide +kernel)
def W_f_X6_digits : List Nat := [30001, 31998, 31999]
theorem fr_f_X6_digits (x1 : Int) (x2 : Int) (x3 : Int) (s : vS) : PR (W_f_X6_digits) s (fun q => q.2) (f_X6_digits x1 x2 x3 s) := by
  unfold f_X6_digits
  have Hs : Fr (W_f_X6_digits) s s := Fr.rfl
  refine PR.ite (fun _ => ?_) (fun _ => ?_)
  · exact PR.call Hs (fr_j_X6_digits_18 x1 x2 x3 0 0 s) (by decide +kernel)
  · refine PR.bdv (PR.call Hs (fr_f_X2_add 30 0 s) (by decide +kernel)) (fun s2 Hs2 => ?_)
    exact PR.call Hs2 (fr_j_X6_digits_18 x1 x2 x3 0 0 s2) (by decide +kernel)
def W_l_X6_bitList_12 : List Nat := []
theorem fr_j_X6_bitList_50 (rec : Int → Int → Int → Int → vS → Option ((Int × vS) ⊕ (Int × vS))) (hrec : ∀ (y0 : Int) (y1 : Int) (y2 : Int) (y3 : Int) (s : vS), PR (W_l_X6_bitList_12) s (Sum.elim (fun q => q.2) (fun q => q.2)) (rec y0 y1 y2 y3 s)) (x1 : Int) (x2 : Int) (x3 : Int) (x4 : Int) (z0 : Int) (s : vS) : PR (W_l_X6_bitList_12) s (Sum.elim (fun q => q.2) (fun q => q.2)) (j_X6_bitList_50 rec x1 x2 x3 x4 z0 s) := by
  unfold j_X6_bitList_50
  have Hs : Fr (W_l_X6_bitList_12) s s := Fr.rfl
  refine PR.ite (fun _ => ?_) (fun _ => ?_)
  · exact PR.some Hs
  · refine PR.bd (PR.pure Hs (fr_f_X6_small z0 s)) (fun r5 s2 Hs2 => ?_)
    refine PR.vl (fun y7 => ?_)
    refine PR.bd (PR.pure Hs2 (fr_f_X4_next x4 s2)) (fun r13 s10 Hs10 => ?_)
    exact PR.tail Hs10 (hrec x1 x2 y7 r13 s10)
theorem fr_l_X6_bitList_12 : ∀ (n : Nat) (x1 : Int) (x2 : Int) (x3 : Int) (x4 : Int) (s : vS), PR (W_l_X6_bitList_12) s (Sum.elim (fun q => q.2) (fun q => q.2)) (l_X6_bitList_12 n x1 x2 x3 x4 s)
  := by
  intro n
  induction n with
  | zero => intro x1 x2 x3 x4 s; exact PR.none
  | succ n ih =>
    intro x1 x2 x3 x4 s
    unfold l_X6_bitList_12
    have Hs : Fr (W_l_X6_bitList_12) s s := Fr.rfl
    refine PR.ite (fun _ => ?_) (fun _ => ?_)
    · exact PR.some Hs
    · refine PR.bd (PR.pure Hs (fr_f_X4_at x4 5 s)) (fun r5 s2 Hs2 => ?_)
      refine PR.ite (fun _ => ?_) (fun _ => ?_)
      · refine PR.bd (PR.pure Hs2 (fr_f_X4_lexeme x4 s2)) (fun r11 s8 Hs8 => ?_)
        refine PR.bd (PR.pure Hs8 (fr_f_X6_item x2 r11 s8)) (fun r16 s13 Hs13 => ?_)
        exact PR.tail Hs13 (fr_j_X6_bitList_50 (l_X6_bitList_12 n) ih x1 x2 x3 x4 r16 s13)
      · exact PR.tail Hs2 (fr_j_X6_bitList_50 (l_X6_bitList_12 n) ih x1 x2 x3 x4 (-1) s2)
def W_l_X6_bitList_116 : List Nat := [30001, 31998, 31999]
theorem fr_l_X6_bitList_116 : ∀ (n : Nat) (x1 : Int) (x2 : Int) (x3 : Int) (x4 : Int) (x5 : Int) (s : vS), PR (W_l_X6_bitList_116) s (fun q => q) (l_X6_bitList_116 n x1 x2 x3 x4 x5 s)
  := by
  intro n
  induction n with
  | zero => intro x1 x2 x3 x4 x5 s; exact PR.none
  | succ n ih =>
    intro x1 x2 x3 x4 x5 s
    unfold l_X6_bitList_116
    have Hs : Fr (W_l_X6_bitList_116) s s := Fr.rfl
    refine PR.ite (fun _ => ?_) (fun _ => ?_)
    · exact PR.some Hs
    · refine PR.bdv (PR.call Hs (fr_f_X2_add 30 0 s) (by decide +kernel)) (fun s2 Hs2 => ?_)
      refine PR.vl (fun y5 => ?_)
      exact PR.tail Hs2 (ih x1 x2 x3 x4 y5 s2)
def W_l_X6_bitList_146 : List Nat := [31999]
theorem fr_l_X6_bitList_146 : ∀ (n : Nat) (x2 : Int) (x4 : Int) (x5 : Int) (s : vS), PR (W_l_X6_bitList_146) s (fun q => q) (l_X6_bitList_146 n x2 x4 x5 s)
  := by
  intro n
  induction n with
  | zero => intro x2 x4 x5 s; exact PR.none
  | succ n ih =>
    intro x2 x4 x5 s
    unfold l_X6_bitList_146
    have Hs : Fr (W_l_X6_bitList_146) s s := Fr.rfl
    refine PR.ite (fun _ => ?_) (fun _ => ?_)
    · exact PR.some Hs
    · refine PR.bd (PR.pure Hs (fr_f_X4_lexeme x5 s)) (fun r5 s2 Hs2 => ?_)
      refine PR.bd (PR.pure Hs2 (fr_f_X6_item x2 r5 s2)) (fun r10 s7 Hs7 => ?_)
      refine PR.bd (PR.pure Hs7 (fr_f_X6_small r10 s7)) (fun r15 s12 Hs12 => ?_)
      refine PR.bd (PR.pure Hs12 (fr_f_X2_at 30 (w32 ((w32 (x4 + 1)) + (d32 r15 8))) s12)) (fun r20 s17 Hs17 => ?_)
      refine PR.bdv (PR.call Hs17 (fr_f_X2_set 30 (w32 ((w32 (x4 + 1)) + (d32 r15 8))) (or32 r20 (shr32 128 (m32 r15 8))) s17) (by decide +kernel)) (fun s22 Hs22 => ?_)
      refine PR.bd (PR.pure Hs22 (fr_f_X4_next x5 s22)) (fun r28 s25 Hs25 => ?_)
      exact PR.tail Hs25 (ih x2 x4 r28 s25)
def W_f_X6_bitList : List Nat := [30001, 31998, 31999]
theorem fr_f_X6_bitList (x1 : Int) (x2 : Int) (s : vS) : PR (W_f_X6_bitList) s (fun q => q.2) (f_X6_bitList x1 x2 s) := by
  unfold f_X6_bitList
  have Hs : Fr (W_f_X6_bitList) s s := Fr.rfl
  refine PR.bd (PR.pure Hs (fr_f_X4_parts x1 s)) (fun r4 s1 Hs1 => ?_)
  refine PR.lqs_1 (PR.pure Hs1 (fr_l_X6_bitList_12 FU x1 x2 0 r4 s1)) (fun y6 s7 Hs7 => ?_) (fun q Hq => PR.some Hq)
  refine PR.bd (PR.pure Hs7 (fr_f_X2_size 30 s7)) (fun r13 s10 Hs10 => ?_)
  refine PR.bdv (PR.call Hs10 (fr_f_X2_add 30 (m32 (w32 (8 - (m32 y6 8))) 8) s10) (by decide +kernel)) (fun s15 Hs15 => ?_)
  refine PR.lq_0 (PR.call Hs15 (fr_l_X6_bitList_116 FU x1 x2 y6 r13 0 s15) (by decide +kernel)) (fun s18 Hs18 => ?_)
  refine PR.bd (PR.pure Hs18 (fr_f_X4_parts x1 s18)) (fun r23 s20 Hs20 => ?_)
  refine PR.lq_0 (PR.call Hs20 (fr_l_X6_bitList_146 FU x2 r13 r23 s20) (by decide +kernel)) (fun s25 Hs25 => ?_)
  exact PR.some Hs25
def W_f_X11_beginOid (o : Nat) : List Nat := [1000 * o + 2]
theorem fr_f_X11_beginOid (o : Nat) (s : vS) : PR (W_f_X11_beginOid o) s (fun q => q) (f_X11_beginOid o s) := by
  unfold f_X11_beginOid
  have Hs : Fr (W_f_X11_beginOid o) s s := Fr.rfl
  refine PR.stp (Fr.wI Hs (by simp [W_f_X11_beginOid])) (fun s1 Hs1 => ?_)
  exact PR.some Hs1
def W_l_X6_isWord_28 : List Nat := []
theorem fr_l_X6_isWord_28 (p2 : Nat) : ∀ (n : Nat) (x1 : Int) (x3 : Int) (s : vS), PR (W_l_X6_isWord_28) s (Sum.elim (fun q => q) (fun q => q.2)) (l_X6_isWord_28 p2 n x1 x3 s)
  := by
  intro n
  induction n with
  | zero => intro x1 x3 s; exact PR.none
  | succ n ih =>
    intro x1 x3 s
    unfold l_X6_isWord_28
    have Hs : Fr (W_l_X6_isWord_28) s s := Fr.rfl
    refine PR.ite (fun _ => ?_) (fun _ => ?_)
    · exact PR.some Hs
    · refine PR.gd ?_
      refine PR.bdo (PR.pure Hs (fr_f_X3_text s)) (fun r6 s3 Hs3 => ?_)
      refine PR.gd ?_
      refine PR.gd ?_
      refine PR.bd (PR.pure Hs3 (fr_f_X3_start x1 s3)) (fun r12 s9 Hs9 => ?_)
      refine PR.bd (PR.pure Hs9 (fr_f_X2_at r6 (w32 (r12 + x3)) s9)) (fun r17 s14 Hs14 => ?_)
      refine PR.gd ?_
      refine PR.ite (fun _ => ?_) (fun _ => ?_)
      · refine PR.vl (fun y21 => ?_)
        exact PR.tail Hs14 (ih x1 y21 s14)
      · exact PR.some Hs14
def W_f_X6_isWord : List Nat := []
theorem fr_f_X6_isWord (x1 : Int) (p2 : Nat) (s : vS) : PR (W_f_X6_isWord) s (fun q => q.2) (f_X6_isWord x1 p2 s) := by
  unfold f_X6_isWord
  have Hs : Fr (W_f_X6_isWord) s s := Fr.rfl
  refine PR.gd ?_
  refine PR.bd (PR.pure Hs (fr_f_X3_end x1 s)) (fun r5 s2 Hs2 => ?_)
  refine PR.gd ?_
  refine PR.bd (PR.pure Hs2 (fr_f_X3_start x1 s2)) (fun r11 s8 Hs8 => ?_)
  refine PR.ite (fun _ => ?_) (fun _ => ?_)
  · refine PR.lqs_0 (PR.pure Hs8 (fr_l_X6_isWord_28 p2 FU x1 0 s8)) (fun s14 Hs14 => ?_) (fun q Hq => PR.some Hq)
    exact PR.some Hs14
  · exact PR.some Hs8
def W_f_X6_firstPart : List Nat := []
theorem fr_f_X6_firstPart (x1 : Int) (s : vS) : PR (W_f_X6_firstPart) s (fun q => q.2) (f_X6_firstPart x1 s) := by
  unfold f_X6_firstPart
  have Hs : Fr (W_f_X6_firstPart) s s := Fr.rfl
  refine PR.bd (PR.pure Hs (fr_f_X6_isWord x1 1078 s)) (fun r4 s1 Hs1 => ?_)
  refine PR.ite (fun _ => ?_) (fun _ => ?_)
  · refine PR.bd (PR.pure Hs1 (fr_f_X6_isWord x1 1079 s1)) (fun r10 s7 Hs7 => ?_)
    refine PR.ite (fun _ => ?_) (fun _ => ?_)
    · refine PR.bd (PR.pure Hs7 (fr_f_X6_isWord x1 1080 s7)) (fun r16 s13 Hs13 => ?_)
      refine PR.ite (fun _ => ?_) (fun _ => ?_)
      · refine PR.bd (PR.pure Hs13 (fr_f_X6_isWord x1 1081 s13)) (fun r22 s19 Hs19 => ?_)
        refine PR.ite (fun _ => ?_) (fun _ => ?_)
        · refine PR.bd (PR.pure Hs19 (fr_f_X6_isWord x1 1082 s19)) (fun r28 s25 Hs25 => ?_)
          refine PR.ite (fun _ => ?_) (fun _ => ?_)
          · exact PR.some Hs25
          · exact PR.some Hs25
        · exact PR.some Hs19
      · exact PR.some Hs13
    · exact PR.some Hs7
  · exact PR.some Hs1
def W_f_X7_small : List Nat := []
theorem fr_f_X7_small (o : Nat) (x1 : Int) (s : vS) : PR (W_f_X7_small) s (fun q => q.2) (f_X7_small o x1 s) := by
  unfold f_X7_small
  have Hs : Fr (W_f_X7_small) s s := Fr.rfl
  refine PR.ite (fun _ => ?_) (fun _ => ?_)
  · exact PR.some Hs
  · refine PR.ite (fun _ => ?_) (fun _ => ?_)
    · refine PR.gd ?_
      refine PR.ite (fun _ => ?_) (fun _ => ?_)
      · exact PR.some Hs
      · refine PR.gd ?_
        refine PR.ite (fun _ => ?_) (fun _ => ?_)
        · exact PR.some Hs
        · refine PR.gd ?_
          exact PR.some Hs
    · exact PR.some Hs
def W_f_X7_groupOf : List Nat := []
theorem fr_f_X7_groupOf (o : Nat) (x1 : Int) (s : vS) : PR (W_f_X7_groupOf) s (fun q => q.2) (f_X7_groupOf o x1 s) := by
  unfold f_X7_groupOf
  have Hs : Fr (W_f_X7_groupOf) s s := Fr.rfl
  refine PR.vl (fun y1 => ?_)
  refine PR.bd (PR.pure Hs (fr_f_X7_byteOf o (d32 y1 8) s)) (fun r7 s4 Hs4 => ?_)
  refine PR.bd (PR.pure Hs4 (fr_f_X7_byteOf o (w32 ((d32 y1 8) + 1)) s4)) (fun r12 s9 Hs9 => ?_)
  exact PR.some Hs9
def W_l_X7_groups_21 : List Nat := []
theorem fr_l_X7_groups_21 (o : Nat) (p2 : Nat) : ∀ (n : Nat) (x3 : Int) (s : vS), PR (W_l_X7_groups_21) s (fun q => q.2) (l_X7_groups_21 o p2 n x3 s)
  := by
  intro n
  induction n with
  | zero => intro x3 s; exact PR.none
  | succ n ih =>
    intro x3 s
    unfold l_X7_groups_21
    have Hs : Fr (W_l_X7_groups_21) s s := Fr.rfl
    refine PR.ite (fun _ => ?_) (fun _ => ?_)
    · exact PR.some Hs
    · refine PR.bd (PR.pure Hs (fr_f_X7_groupOf o (w32 (x3 - 1)) s)) (fun r5 s2 Hs2 => ?_)
      refine PR.ite (fun _ => ?_) (fun _ => ?_)
      · refine PR.vl (fun y8 => ?_)
        exact PR.tail Hs2 (ih y8 s2)
      · exact PR.some Hs2
def W_l_X7_groups_51 (p2 : Nat) : List Nat := [1000 * (p2 + 1) + 998, 1000 * (p2 + 1) + 999, 1000 * p2 + 1]
theorem fr_j_X7_groups_75 (o : Nat) (p2 : Nat) (rec : Int → vS → Option (vS)) (hrec : ∀ (y0 : Int) (s : vS), PR (W_l_X7_groups_51 p2) s (fun q => q) (rec y0 s)) (x4 : Int) (z1 : Int) (z2 : Int) (s : vS) : PR (W_l_X7_groups_51 p2) s (fun q => q) (j_X7_groups_75 o p2 rec x4 z1 z2 s) := by
  unfold j_X7_groups_75
  have Hs : Fr (W_l_X7_groups_51 p2) s s := Fr.rfl
  refine PR.bdv (PR.call Hs (fr_f_X2_add p2 (or32 z1 z2) s) (by intro c hc; simp only [W_f_X2_add, W_l_X7_groups_51, List.mem_cons, List.not_mem_nil, or_false] at hc ⊢; omega)) (fun s1 Hs1 => ?_)
  refine PR.vl (fun y4 => ?_)
  exact PR.tail Hs1 (hrec y4 s1)
theorem fr_l_X7_groups_51 (o : Nat) (p2 : Nat) : ∀ (n : Nat) (x4 : Int) (s : vS), PR (W_l_X7_groups_51 p2) s (fun q => q) (l_X7_groups_51 o p2 n x4 s)
  := by
  intro n
  induction n with
  | zero => intro x4 s; exact PR.none
  | succ n ih =>
    intro x4 s
    unfold l_X7_groups_51
    have Hs : Fr (W_l_X7_groups_51 p2) s s := Fr.rfl
    refine PR.ite (fun _ => ?_) (fun _ => ?_)
    · exact PR.some Hs
    · refine PR.bd (PR.pure Hs (fr_f_X7_groupOf o x4 s)) (fun r5 s2 Hs2 => ?_)
      refine PR.ite (fun _ => ?_) (fun _ => ?_)
      · exact PR.tail Hs2 (fr_j_X7_groups_75 o p2 (l_X7_groups_51 o p2 n) ih x4 r5 0 s2)
      · exact PR.tail Hs2 (fr_j_X7_groups_75 o p2 (l_X7_groups_51 o p2 n) ih x4 r5 128 s2)
def W_j_X7_groups_42 (p2 : Nat) : List Nat := [1000 * (p2 + 1) + 998, 1000 * (p2 + 1) + 999, 1000 * p2 + 1]
theorem fr_j_X7_groups_42 (o : Nat) (p2 : Nat) (x3 : Int) (s : vS) : PR (W_j_X7_groups_42 p2) s (fun q => q) (j_X7_groups_42 o p2 x3 s) := by
  unfold j_X7_groups_42
  have Hs : Fr (W_j_X7_groups_42 p2) s s := Fr.rfl
  refine PR.vl (fun y1 => ?_)
  refine PR.lq_0 (PR.call Hs (fr_l_X7_groups_51 o p2 FU y1 s) (by intro c hc; simp only [W_l_X7_groups_51, W_j_X7_groups_42, List.mem_cons, List.not_mem_nil, or_false] at hc ⊢; omega)) (fun s4 Hs4 => ?_)
  exact PR.some Hs4
def W_f_X7_groups (o : Nat) (p2 : Nat) : List Nat := [1000 * (o + 1) + 998, 1000 * (o + 1) + 999, 1000 * (p2 + 1) + 998, 1000 * (p2 + 1) + 999, 1000 * o + 1, 1000 * p2 + 1]
theorem fr_f_X7_groups (o : Nat) (x1 : Int) (p2 : Nat) (s : vS) : PR (W_f_X7_groups o p2) s (fun q => q) (f_X7_groups o x1 p2 s) := by
  unfold f_X7_groups
  have Hs : Fr (W_f_X7_groups o p2) s s := Fr.rfl
  refine PR.bdv (PR.call Hs (fr_f_X7_grow o 1 x1 s) (by intro c hc; simp only [W_f_X7_grow, W_f_X7_groups, List.mem_cons, List.not_mem_nil, or_false] at hc ⊢; omega)) (fun s1 Hs1 => ?_)
  refine PR.vl (fun y4 => ?_)
  refine PR.lq_1 (PR.pure Hs1 (fr_l_X7_groups_21 o p2 FU y4 s1)) (fun y7 s8 Hs8 => ?_)
  exact PR.call Hs8 (fr_j_X7_groups_42 o p2 y7 s8) (by intro c hc; simp only [W_j_X7_groups_42, W_f_X7_groups, List.mem_cons, List.not_mem_nil, or_false] at hc ⊢; omega)
def W_j_X11_addOid_2_96 (o : Nat) (p1 : Nat) : List Nat := [1000 * ((ft 10 0 o) + 1) + 998, 1000 * ((ft 10 0 o) + 1) + 999, 1000 * (ft 10 0 o) + 1, 1000 * (p1 + 1) + 998, 1000 * (p1 + 1) + 999, 1000 * p1 + 1]
theorem fr_j_X11_addOid_2_96 (o : Nat) (p1 : Nat) (z1 : Int) (s : vS) : PR (W_j_X11_addOid_2_96 o p1) s (fun q => q.2) (j_X11_addOid_2_96 o p1 z1 s) := by
  unfold j_X11_addOid_2_96
  have Hs : Fr (W_j_X11_addOid_2_96 o p1) s s := Fr.rfl
  refine PR.bdv (PR.call Hs (fr_f_X7_groups (ft 10 0 o) z1 p1 s) (by intro c hc; simp only [W_f_X7_groups, W_j_X11_addOid_2_96, List.mem_cons, List.not_mem_nil, or_false] at hc ⊢; omega)) (fun s1 Hs1 => ?_)
  exact PR.some Hs1
def W_j_X11_addOid_2_73 (o : Nat) (p1 : Nat) : List Nat := [1000 * ((ft 10 0 o) + 1) + 998, 1000 * ((ft 10 0 o) + 1) + 999, 1000 * (ft 10 0 o) + 1, 1000 * (p1 + 1) + 998, 1000 * (p1 + 1) + 999, 1000 * p1 + 1]
theorem fr_j_X11_addOid_2_73 (o : Nat) (p1 : Nat) (s : vS) : PR (W_j_X11_addOid_2_73 o p1) s (fun q => q.2) (j_X11_addOid_2_73 o p1 s) := by
  unfold j_X11_addOid_2_73
  have Hs : Fr (W_j_X11_addOid_2_73 o p1) s s := Fr.rfl
  refine PR.ite (fun _ => ?_) (fun _ => ?_)
  · exact PR.call Hs (fr_j_X11_addOid_2_96 o p1 (w32 (40 * (gI s o 3))) s) (by intro c hc; simp only [W_j_X11_addOid_2_96, W_j_X11_addOid_2_73, List.mem_cons, List.not_mem_nil, or_false] at hc ⊢; omega)
  · exact PR.call Hs (fr_j_X11_addOid_2_96 o p1 0 s) (by intro c hc; simp only [W_j_X11_addOid_2_96, W_j_X11_addOid_2_73, List.mem_cons, List.not_mem_nil, or_false] at hc ⊢; omega)
def W_f_X11_addOid_2 (o : Nat) (p1 : Nat) : List Nat := [1000 * ((ft 10 0 o) + 1) + 998, 1000 * ((ft 10 0 o) + 1) + 999, 1000 * (ft 10 0 o) + 1, 1000 * (p1 + 1) + 998, 1000 * (p1 + 1) + 999, 1000 * o + 2, 1000 * o + 3, 1000 * p1 + 1]
theorem fr_f_X11_addOid_2 (o : Nat) (p1 : Nat) (s : vS) : PR (W_f_X11_addOid_2 o p1) s (fun q => q.2) (f_X11_addOid_2 o p1 s) := by
  unfold f_X11_addOid_2
  have Hs : Fr (W_f_X11_addOid_2 o p1) s s := Fr.rfl
  refine PR.stp (Fr.wI Hs (by simp [W_f_X11_addOid_2])) (fun s1 Hs1 => ?_)
  refine PR.ite (fun _ => ?_) (fun _ => ?_)
  · refine PR.bd (PR.pure Hs1 (fr_f_X7_small (ft 10 0 o) 2 s1)) (fun r15 s12 Hs12 => ?_)
    refine PR.stp (Fr.wI Hs12 (by simp [W_f_X11_addOid_2])) (fun s17 Hs17 => ?_)
    refine PR.ite (fun _ => ?_) (fun _ => ?_)
    · exact PR.some Hs17
    · exact PR.some Hs17
  · refine PR.ite (fun _ => ?_) (fun _ => ?_)
    · refine PR.ite (fun _ => ?_) (fun _ => ?_)
      · exact PR.call Hs1 (fr_j_X11_addOid_2_73 o p1 s1) (by intro c hc; simp only [W_j_X11_addOid_2_73, W_f_X11_addOid_2, List.mem_cons, List.not_mem_nil, or_false] at hc ⊢; omega)
      · refine PR.bd (PR.pure Hs1 (fr_f_X7_small (ft 10 0 o) 39 s1)) (fun r9 s6 Hs6 => ?_)
        refine PR.ite (fun _ => ?_) (fun _ => ?_)
        · exact PR.call Hs6 (fr_j_X11_addOid_2_73 o p1 s6) (by intro c hc; simp only [W_j_X11_addOid_2_73, W_f_X11_addOid_2, List.mem_cons, List.not_mem_nil, or_false] at hc ⊢; omega)
        · exact PR.some Hs6
    · exact PR.call Hs1 (fr_j_X11_addOid_2_73 o p1 s1) (by intro c hc; simp only [W_j_X11_addOid_2_73, W_f_X11_addOid_2, List.mem_cons, List.not_mem_nil, or_false] at hc ⊢; omega)
def W_f_X11_addOid (o : Nat) (p2 : Nat) : List Nat := [1000 * ((ft 10 0 o) + 1) + 998, 1000 * ((ft 10 0 o) + 1) + 999, 1000 * (ft 10 0 o) + 1, 1000 * (p2 + 1) + 998, 1000 * (p2 + 1) + 999, 1000 * o + 2, 1000 * o + 3, 1000 * p2 + 1]
theorem fr_f_X11_addOid (o : Nat) (x1 : Int) (p2 : Nat) (s : vS) : PR (W_f_X11_addOid o p2) s (fun q => q.2) (f_X11_addOid o x1 p2 s) := by
  unfold f_X11_addOid
  have Hs : Fr (W_f_X11_addOid o p2) s s := Fr.rfl
  refine PR.bdv (PR.call Hs (fr_f_X7_set (ft 10 0 o) x1 s) (by intro c hc; simp only [W_f_X7_set, W_f_X11_addOid, List.mem_cons, List.not_mem_nil, or_false] at hc ⊢; omega)) (fun s1 Hs1 => ?_)
  refine PR.bd (PR.call Hs1 (fr_f_X11_addOid_2 o p2 s1) (by intro c hc; simp only [W_f_X11_addOid_2, W_f_X11_addOid, List.mem_cons, List.not_mem_nil, or_false] at hc ⊢; omega)) (fun r7 s4 Hs4 => ?_)
  refine PR.gd ?_
  exact PR.some Hs4
def W_f_X11_addOid_3 (o : Nat) (p4 : Nat) : List Nat := [1000 * ((ft 10 0 o) + 1) + 998, 1000 * ((ft 10 0 o) + 1) + 999, 1000 * (ft 10 0 o) + 1, 1000 * (p4 + 1) + 998, 1000 * (p4 + 1) + 999, 1000 * o + 2, 1000 * o + 3, 1000 * p4 + 1]
theorem fr_f_X11_addOid_3 (o : Nat) (p1 : Nat) (x2 : Int) (x3 : Int) (p4 : Nat) (s : vS) : PR (W_f_X11_addOid_3 o p4) s (fun q => q.2) (f_X11_addOid_3 o p1 x2 x3 p4 s) := by
  unfold f_X11_addOid_3
  have Hs : Fr (W_f_X11_addOid_3 o p4) s s := Fr.rfl
  refine PR.bdv (PR.call Hs (fr_f_X7_read (ft 10 0 o) p1 x2 x3 s) (by intro c hc; simp only [W_f_X7_read, W_f_X11_addOid_3, List.mem_cons, List.not_mem_nil, or_false] at hc ⊢; omega)) (fun s1 Hs1 => ?_)
  refine PR.bd (PR.call Hs1 (fr_f_X11_addOid_2 o p4 s1) (by intro c hc; simp only [W_f_X11_addOid_2, W_f_X11_addOid_3, List.mem_cons, List.not_mem_nil, or_false] at hc ⊢; omega)) (fun r7 s4 Hs4 => ?_)
  refine PR.gd ?_
  exact PR.some Hs4
def W_f_X11_endsOid : List Nat := []
theorem fr_f_X11_endsOid (o : Nat) (s : vS) : PR (W_f_X11_endsOid) s (fun q => q.2) (f_X11_endsOid o s) := by
  unfold f_X11_endsOid
  have Hs : Fr (W_f_X11_endsOid) s s := Fr.rfl
  refine PR.ite (fun _ => ?_) (fun _ => ?_)
  · exact PR.some Hs
  · exact PR.some Hs
def W_l_X6_oid_16 : List Nat := [14001, 15998, 15999, 30001, 31998, 31999, 43002, 43003]
theorem fr_j_X6_oid_135 (rec : Int → Int → vS → Option ((vS) ⊕ (Int × vS))) (hrec : ∀ (y0 : Int) (y1 : Int) (s : vS), PR (W_l_X6_oid_16) s (Sum.elim (fun q => q) (fun q => q.2)) (rec y0 y1 s)) (x1 : Int) (x2 : Int) (s : vS) : PR (W_l_X6_oid_16) s (Sum.elim (fun q => q) (fun q => q.2)) (j_X6_oid_135 rec x1 x2 s) := by
  unfold j_X6_oid_135
  have Hs : Fr (W_l_X6_oid_16) s s := Fr.rfl
  refine PR.bd (PR.pure Hs (fr_f_X4_next x2 s)) (fun r4 s1 Hs1 => ?_)
  exact PR.tail Hs1 (hrec x1 r4 s1)
theorem fr_j_X6_oid_64 (rec : Int → Int → vS → Option ((vS) ⊕ (Int × vS))) (hrec : ∀ (y0 : Int) (y1 : Int) (s : vS), PR (W_l_X6_oid_16) s (Sum.elim (fun q => q) (fun q => q.2)) (rec y0 y1 s)) (x1 : Int) (x2 : Int) (x3 : Int) (z0 : Int) (s : vS) : PR (W_l_X6_oid_16) s (Sum.elim (fun q => q) (fun q => q.2)) (j_X6_oid_64 rec x1 x2 x3 z0 s) := by
  unfold j_X6_oid_64
  have Hs : Fr (W_l_X6_oid_16) s s := Fr.rfl
  refine PR.ite (fun _ => ?_) (fun _ => ?_)
  · refine PR.ite (fun _ => ?_) (fun _ => ?_)
    · exact PR.some Hs
    · refine PR.bd (PR.call Hs (fr_f_X11_addOid 43 z0 30 s) (by decide +kernel)) (fun r30 s27 Hs27 => ?_)
      refine PR.ite (fun _ => ?_) (fun _ => ?_)
      · exact PR.some Hs27
      · exact PR.tail Hs27 (fr_j_X6_oid_135 rec hrec x1 x2 s27)
  · refine PR.gd ?_
    refine PR.bdo (PR.pure Hs (fr_f_X3_text s)) (fun r6 s3 Hs3 => ?_)
    refine PR.gd ?_
    refine PR.gd ?_
    refine PR.bd (PR.pure Hs3 (fr_f_X3_start x3 s3)) (fun r12 s9 Hs9 => ?_)
    refine PR.gd ?_
    refine PR.bd (PR.pure Hs9 (fr_f_X3_end x3 s9)) (fun r18 s15 Hs15 => ?_)
    refine PR.bd (PR.call Hs15 (fr_f_X11_addOid_3 43 r6 r12 r18 30 s15) (by decide +kernel)) (fun r23 s20 Hs20 => ?_)
    refine PR.ite (fun _ => ?_) (fun _ => ?_)
    · exact PR.some Hs20
    · exact PR.tail Hs20 (fr_j_X6_oid_135 rec hrec x1 x2 s20)
theorem fr_l_X6_oid_16 : ∀ (n : Nat) (x1 : Int) (x2 : Int) (s : vS), PR (W_l_X6_oid_16) s (Sum.elim (fun q => q) (fun q => q.2)) (l_X6_oid_16 n x1 x2 s)
  := by
  intro n
  induction n with
  | zero => intro x1 x2 s; exact PR.none
  | succ n ih =>
    intro x1 x2 s
    unfold l_X6_oid_16
    have Hs : Fr (W_l_X6_oid_16) s s := Fr.rfl
    refine PR.ite (fun _ => ?_) (fun _ => ?_)
    · exact PR.some Hs
    · refine PR.bd (PR.pure Hs (fr_f_X4_at x2 5 s)) (fun r5 s2 Hs2 => ?_)
      refine PR.ite (fun _ => ?_) (fun _ => ?_)
      · refine PR.bd (PR.pure Hs2 (fr_f_X4_parts x1 s2)) (fun r11 s8 Hs8 => ?_)
        refine PR.ite (fun _ => ?_) (fun _ => ?_)
        · refine PR.bd (PR.pure Hs8 (fr_f_X4_lexeme x2 s8)) (fun r17 s14 Hs14 => ?_)
          refine PR.bd (PR.pure Hs14 (fr_f_X6_firstPart r17 s14)) (fun r22 s19 Hs19 => ?_)
          exact PR.tail Hs19 (fr_j_X6_oid_64 (l_X6_oid_16 n) ih x1 x2 r5 r22 s19)
        · exact PR.tail Hs8 (fr_j_X6_oid_64 (l_X6_oid_16 n) ih x1 x2 r5 (-1) s8)
      · exact PR.tail Hs2 (fr_j_X6_oid_64 (l_X6_oid_16 n) ih x1 x2 r5 (-1) s2)
def W_f_X6_oid : List Nat := [14001, 15998, 15999, 30001, 31998, 31999, 43002, 43003]
theorem fr_f_X6_oid (x1 : Int) (s : vS) : PR (W_f_X6_oid) s (fun q => q.2) (f_X6_oid x1 s) := by
  unfold f_X6_oid
  have Hs : Fr (W_f_X6_oid) s s := Fr.rfl
  refine PR.bdv (PR.call Hs (fr_f_X11_beginOid 43 s) (by decide +kernel)) (fun s1 Hs1 => ?_)
  refine PR.bd (PR.pure Hs1 (fr_f_X4_parts x1 s1)) (fun r7 s4 Hs4 => ?_)
  refine PR.lqs_0 (PR.call Hs4 (fr_l_X6_oid_16 FU x1 r7 s4) (by decide +kernel)) (fun s9 Hs9 => ?_) (fun q Hq => PR.some Hq)
  refine PR.bd (PR.pure Hs9 (fr_f_X11_endsOid 43 s9)) (fun r14 s11 Hs11 => ?_)
  refine PR.gd ?_
  exact PR.some Hs11
def W_l_X8_digits_4 : List Nat := []
theorem fr_j_X8_digits_39 (o : Nat) (rec : Int → Int → Int → vS → Option ((Int × vS) ⊕ (Int × vS))) (hrec : ∀ (y0 : Int) (y1 : Int) (y2 : Int) (s : vS), PR (W_l_X8_digits_4) s (Sum.elim (fun q => q.2) (fun q => q.2)) (rec y0 y1 y2 s)) (x1 : Int) (x2 : Int) (x3 : Int) (z0 : Int) (s : vS) : PR (W_l_X8_digits_4) s (Sum.elim (fun q => q.2) (fun q => q.2)) (j_X8_digits_39 o rec x1 x2 x3 z0 s) := by
  unfold j_X8_digits_39
  have Hs : Fr (W_l_X8_digits_4) s s := Fr.rfl
  refine PR.ite (fun _ => ?_) (fun _ => ?_)
  · exact PR.some Hs
  · refine PR.ite (fun _ => ?_) (fun _ => ?_)
    · refine PR.vl (fun y3 => ?_)
      refine PR.vl (fun y6 => ?_)
      exact PR.tail Hs (hrec x1 y3 y6 s)
    · exact PR.some Hs
theorem fr_l_X8_digits_4 (o : Nat) : ∀ (n : Nat) (x1 : Int) (x2 : Int) (x3 : Int) (s : vS), PR (W_l_X8_digits_4) s (Sum.elim (fun q => q.2) (fun q => q.2)) (l_X8_digits_4 o n x1 x2 x3 s)
  := by
  intro n
  induction n with
  | zero => intro x1 x2 x3 s; exact PR.none
  | succ n ih =>
    intro x1 x2 x3 s
    unfold l_X8_digits_4
    have Hs : Fr (W_l_X8_digits_4) s s := Fr.rfl
    refine PR.ite (fun _ => ?_) (fun _ => ?_)
    · exact PR.some Hs
    · refine PR.ite (fun _ => ?_) (fun _ => ?_)
      · exact PR.tail Hs (fr_j_X8_digits_39 o (l_X8_digits_4 o n) ih x1 x2 x3 0 s)
      · refine PR.gd ?_
        refine PR.bd (PR.pure Hs (fr_f_X2_at (gR s o 0) (w32 ((gI s o 1) + x3)) s)) (fun r7 s4 Hs4 => ?_)
        exact PR.tail Hs4 (fr_j_X8_digits_39 o (l_X8_digits_4 o n) ih x1 x2 x3 r7 s4)
def W_f_X8_digits (o : Nat) : List Nat := [1000 * o + 1]
theorem fr_f_X8_digits (o : Nat) (x1 : Int) (s : vS) : PR (W_f_X8_digits o) s (fun q => q.2) (f_X8_digits o x1 s) := by
  unfold f_X8_digits
  have Hs : Fr (W_f_X8_digits o) s s := Fr.rfl
  refine PR.lqs_1 (PR.pure Hs (fr_l_X8_digits_4 o FU x1 0 0 s)) (fun y1 s2 Hs2 => ?_) (fun q Hq => PR.some Hq)
  refine PR.stp (Fr.wI Hs2 (by simp [W_f_X8_digits])) (fun s5 Hs5 => ?_)
  exact PR.some Hs5
def W_f_X8_days : List Nat := []
theorem fr_f_X8_days (x0 : Int) (x1 : Int) (s : vS) : PR (W_f_X8_days) s (fun q => q.2) (f_X8_days x0 x1 s) := by
  unfold f_X8_days
  have Hs : Fr (W_f_X8_days) s s := Fr.rfl
  refine PR.ite (fun _ => ?_) (fun _ => ?_)
  · refine PR.ite (fun _ => ?_) (fun _ => ?_)
    · refine PR.ite (fun _ => ?_) (fun _ => ?_)
      · refine PR.ite (fun _ => ?_) (fun _ => ?_)
        · exact PR.some Hs
        · exact PR.some Hs
      · exact PR.some Hs
    · exact PR.some Hs
  · refine PR.ite (fun _ => ?_) (fun _ => ?_)
    · exact PR.some Hs
    · refine PR.ite (fun _ => ?_) (fun _ => ?_)
      · exact PR.some Hs
      · refine PR.ite (fun _ => ?_) (fun _ => ?_)
        · exact PR.some Hs
        · refine PR.ite (fun _ => ?_) (fun _ => ?_)
          · exact PR.some Hs
          · exact PR.some Hs
def W_f_X8_within : List Nat := []
theorem fr_f_X8_within (x0 : Int) (x1 : Int) (s : vS) : PR (W_f_X8_within) s (fun q => q.2) (f_X8_within x0 x1 s) := by
  unfold f_X8_within
  have Hs : Fr (W_f_X8_within) s s := Fr.rfl
  refine PR.ite (fun _ => ?_) (fun _ => ?_)
  · exact PR.some Hs
  · refine PR.ite (fun _ => ?_) (fun _ => ?_)
    · exact PR.some Hs
    · exact PR.some Hs
def W_j_X8_date_57 (o : Nat) : List Nat := [1000 * o + 1, 1000 * o + 4, 1000 * o + 5, 1000 * o + 6]
theorem fr_j_X8_date_57 (o : Nat) (s : vS) : PR (W_j_X8_date_57 o) s (fun q => q.2) (j_X8_date_57 o s) := by
  unfold j_X8_date_57
  have Hs : Fr (W_j_X8_date_57 o) s s := Fr.rfl
  refine PR.bd (PR.call Hs (fr_f_X8_digits o 2 s) (by intro c hc; simp only [W_f_X8_digits, W_j_X8_date_57, List.mem_cons, List.not_mem_nil, or_false] at hc ⊢; omega)) (fun r4 s1 Hs1 => ?_)
  refine PR.stp (Fr.wI Hs1 (by simp [W_j_X8_date_57])) (fun s6 Hs6 => ?_)
  refine PR.ite (fun _ => ?_) (fun _ => ?_)
  · exact PR.some Hs6
  · refine PR.ite (fun _ => ?_) (fun _ => ?_)
    · refine PR.bd (PR.call Hs6 (fr_f_X8_digits o 2 s6) (by intro c hc; simp only [W_f_X8_digits, W_j_X8_date_57, List.mem_cons, List.not_mem_nil, or_false] at hc ⊢; omega)) (fun r13 s10 Hs10 => ?_)
      refine PR.stp (Fr.wI Hs10 (by simp [W_j_X8_date_57])) (fun s15 Hs15 => ?_)
      refine PR.ite (fun _ => ?_) (fun _ => ?_)
      · exact PR.some Hs15
      · refine PR.bd (PR.pure Hs15 (fr_f_X8_days (gI s15 o 3) (gI s15 o 4) s15)) (fun r21 s18 Hs18 => ?_)
        refine PR.ite (fun _ => ?_) (fun _ => ?_)
        · refine PR.bd (PR.call Hs18 (fr_f_X8_digits o 2 s18) (by intro c hc; simp only [W_f_X8_digits, W_j_X8_date_57, List.mem_cons, List.not_mem_nil, or_false] at hc ⊢; omega)) (fun r27 s24 Hs24 => ?_)
          refine PR.stp (Fr.wI Hs24 (by simp [W_j_X8_date_57])) (fun s29 Hs29 => ?_)
          refine PR.bd (PR.pure Hs29 (fr_f_X8_within (gI s29 o 6) 23 s29)) (fun r34 s31 Hs31 => ?_)
          refine PR.gd ?_
          exact PR.some Hs31
        · exact PR.some Hs18
    · exact PR.some Hs6
def W_j_X8_date_11 (o : Nat) : List Nat := [1000 * o + 1, 1000 * o + 3, 1000 * o + 4, 1000 * o + 5, 1000 * o + 6]
theorem fr_j_X8_date_11 (o : Nat) (x1 : Int) (z2 : Int) (s : vS) : PR (W_j_X8_date_11 o) s (fun q => q.2) (j_X8_date_11 o x1 z2 s) := by
  unfold j_X8_date_11
  have Hs : Fr (W_j_X8_date_11 o) s s := Fr.rfl
  refine PR.bd (PR.call Hs (fr_f_X8_digits o z2 s) (by intro c hc; simp only [W_f_X8_digits, W_j_X8_date_11, List.mem_cons, List.not_mem_nil, or_false] at hc ⊢; omega)) (fun r4 s1 Hs1 => ?_)
  refine PR.stp (Fr.wI Hs1 (by simp [W_j_X8_date_11])) (fun s6 Hs6 => ?_)
  refine PR.ite (fun _ => ?_) (fun _ => ?_)
  · refine PR.ite (fun _ => ?_) (fun _ => ?_)
    · refine PR.ite (fun _ => ?_) (fun _ => ?_)
      · refine PR.stp (Fr.wI Hs6 (by simp [W_j_X8_date_11])) (fun s11 Hs11 => ?_)
        exact PR.call Hs11 (fr_j_X8_date_57 o s11) (by intro c hc; simp only [W_j_X8_date_57, W_j_X8_date_11, List.mem_cons, List.not_mem_nil, or_false] at hc ⊢; omega)
      · refine PR.stp (Fr.wI Hs6 (by simp [W_j_X8_date_11])) (fun s13 Hs13 => ?_)
        exact PR.call Hs13 (fr_j_X8_date_57 o s13) (by intro c hc; simp only [W_j_X8_date_57, W_j_X8_date_11, List.mem_cons, List.not_mem_nil, or_false] at hc ⊢; omega)
    · exact PR.call Hs6 (fr_j_X8_date_57 o s6) (by intro c hc; simp only [W_j_X8_date_57, W_j_X8_date_11, List.mem_cons, List.not_mem_nil, or_false] at hc ⊢; omega)
  · exact PR.some Hs6
def W_f_X8_date (o : Nat) : List Nat := [1000 * o + 1, 1000 * o + 3, 1000 * o + 4, 1000 * o + 5, 1000 * o + 6]
theorem fr_f_X8_date (o : Nat) (x1 : Int) (s : vS) : PR (W_f_X8_date o) s (fun q => q.2) (f_X8_date o x1 s) := by
  unfold f_X8_date
  have Hs : Fr (W_f_X8_date o) s s := Fr.rfl
  refine PR.ite (fun _ => ?_) (fun _ => ?_)
  · exact PR.call Hs (fr_j_X8_date_11 o x1 2 s) (by intro c hc; simp only [W_j_X8_date_11, W_f_X8_date, List.mem_cons, List.not_mem_nil, or_false] at hc ⊢; omega)
  · exact PR.call Hs (fr_j_X8_date_11 o x1 4 s) (by intro c hc; simp only [W_j_X8_date_11, W_f_X8_date, List.mem_cons, List.not_mem_nil, or_false] at hc ⊢; omega)
def W_f_X8_here : List Nat := []
theorem fr_f_X8_here (o : Nat) (s : vS) : PR (W_f_X8_here) s (fun q => q.2) (f_X8_here o s) := by
  unfold f_X8_here
  have Hs : Fr (W_f_X8_here) s s := Fr.rfl
  refine PR.ite (fun _ => ?_) (fun _ => ?_)
  · exact PR.some Hs
  · refine PR.gd ?_
    refine PR.bd (PR.pure Hs (fr_f_X2_at (gR s o 0) (gI s o 1) s)) (fun r6 s3 Hs3 => ?_)
    exact PR.some Hs3
def W_f_X8_isDigit : List Nat := []
theorem fr_f_X8_isDigit (o : Nat) (s : vS) : PR (W_f_X8_isDigit) s (fun q => q.2) (f_X8_isDigit o s) := by
  unfold f_X8_isDigit
  have Hs : Fr (W_f_X8_isDigit) s s := Fr.rfl
  refine PR.bd (PR.pure Hs (fr_f_X8_here o s)) (fun r4 s1 Hs1 => ?_)
  refine PR.ite (fun _ => ?_) (fun _ => ?_)
  · exact PR.some Hs1
  · refine PR.bd (PR.pure Hs1 (fr_f_X8_here o s1)) (fun r10 s7 Hs7 => ?_)
    refine PR.ite (fun _ => ?_) (fun _ => ?_)
    · exact PR.some Hs7
    · exact PR.some Hs7
def W_l_X8_spread_12 (o : Nat) : List Nat := [1000 * ((o + 1) + 1) + 999]
theorem fr_l_X8_spread_12 (o : Nat) : ∀ (n : Nat) (x1 : Int) (x2 : Int) (x3 : Int) (s : vS), PR (W_l_X8_spread_12 o) s (fun q => q.2) (l_X8_spread_12 o n x1 x2 x3 s)
  := by
  intro n
  induction n with
  | zero => intro x1 x2 x3 s; exact PR.none
  | succ n ih =>
    intro x1 x2 x3 s
    unfold l_X8_spread_12
    have Hs : Fr (W_l_X8_spread_12 o) s s := Fr.rfl
    refine PR.ite (fun _ => ?_) (fun _ => ?_)
    · exact PR.some Hs
    · refine PR.bd (PR.pure Hs (fr_f_X2_at (o + 1) x3 s)) (fun r5 s2 Hs2 => ?_)
      refine PR.vl (fun y7 => ?_)
      refine PR.bdv (PR.call Hs2 (fr_f_X2_set (o + 1) x3 (m32 y7 10) s2) (by intro c hc; simp only [W_f_X2_set, W_l_X8_spread_12, List.mem_cons, List.not_mem_nil, or_false] at hc ⊢; omega)) (fun s10 Hs10 => ?_)
      refine PR.vl (fun y13 => ?_)
      refine PR.vl (fun y16 => ?_)
      exact PR.tail Hs10 (ih x1 y13 y16 s10)
def W_l_X8_spread_91 : List Nat := []
theorem fr_l_X8_spread_91 (o : Nat) : ∀ (n : Nat) (x3 : Int) (s : vS), PR (W_l_X8_spread_91) s (fun q => q.2) (l_X8_spread_91 o n x3 s)
  := by
  intro n
  induction n with
  | zero => intro x3 s; exact PR.none
  | succ n ih =>
    intro x3 s
    unfold l_X8_spread_91
    have Hs : Fr (W_l_X8_spread_91) s s := Fr.rfl
    refine PR.ite (fun _ => ?_) (fun _ => ?_)
    · exact PR.some Hs
    · refine PR.bd (PR.pure Hs (fr_f_X2_at (o + 1) (w32 (x3 - 1)) s)) (fun r5 s2 Hs2 => ?_)
      refine PR.ite (fun _ => ?_) (fun _ => ?_)
      · refine PR.vl (fun y8 => ?_)
        exact PR.tail Hs2 (ih y8 s2)
      · exact PR.some Hs2
def W_j_X8_spread_114 (o : Nat) : List Nat := [1000 * (o + 1) + 1]
theorem fr_j_X8_spread_114 (o : Nat) (x3 : Int) (s : vS) : PR (W_j_X8_spread_114 o) s (fun q => q) (j_X8_spread_114 o x3 s) := by
  unfold j_X8_spread_114
  have Hs : Fr (W_j_X8_spread_114 o) s s := Fr.rfl
  refine PR.bdv (PR.call Hs (fr_f_X2_cut (o + 1) x3 s) (by intro c hc; simp only [W_f_X2_cut, W_j_X8_spread_114, List.mem_cons, List.not_mem_nil, or_false] at hc ⊢; omega)) (fun s1 Hs1 => ?_)
  exact PR.some Hs1
def W_j_X8_spread_83 (o : Nat) : List Nat := [1000 * (o + 1) + 1]
theorem fr_j_X8_spread_83 (o : Nat) (s : vS) : PR (W_j_X8_spread_83 o) s (fun q => q) (j_X8_spread_83 o s) := by
  unfold j_X8_spread_83
  have Hs : Fr (W_j_X8_spread_83 o) s s := Fr.rfl
  refine PR.bd (PR.pure Hs (fr_f_X2_size (o + 1) s)) (fun r4 s1 Hs1 => ?_)
  refine PR.lq_1 (PR.pure Hs1 (fr_l_X8_spread_91 o FU r4 s1)) (fun y6 s7 Hs7 => ?_)
  exact PR.call Hs7 (fr_j_X8_spread_114 o y6 s7) (by intro c hc; simp only [W_j_X8_spread_114, W_j_X8_spread_83, List.mem_cons, List.not_mem_nil, or_false] at hc ⊢; omega)
def W_j_X8_spread_70 (o : Nat) : List Nat := [1000 * (o + 1) + 1, 1000 * o + 8]
theorem fr_j_X8_spread_70 (o : Nat) (x1 : Int) (x2 : Int) (s : vS) : PR (W_j_X8_spread_70 o) s (fun q => q) (j_X8_spread_70 o x1 x2 s) := by
  unfold j_X8_spread_70
  have Hs : Fr (W_j_X8_spread_70 o) s s := Fr.rfl
  refine PR.ite (fun _ => ?_) (fun _ => ?_)
  · exact PR.call Hs (fr_j_X8_spread_83 o s) (by intro c hc; simp only [W_j_X8_spread_83, W_j_X8_spread_70, List.mem_cons, List.not_mem_nil, or_false] at hc ⊢; omega)
  · refine PR.stp (Fr.wI Hs (by simp [W_j_X8_spread_70])) (fun s2 Hs2 => ?_)
    exact PR.call Hs2 (fr_j_X8_spread_83 o s2) (by intro c hc; simp only [W_j_X8_spread_83, W_j_X8_spread_70, List.mem_cons, List.not_mem_nil, or_false] at hc ⊢; omega)
def W_f_X8_spread (o : Nat) : List Nat := [1000 * ((o + 1) + 1) + 999, 1000 * (o + 1) + 1, 1000 * o + 7, 1000 * o + 8]
theorem fr_f_X8_spread (o : Nat) (x1 : Int) (s : vS) : PR (W_f_X8_spread o) s (fun q => q) (f_X8_spread o x1 s) := by
  unfold f_X8_spread
  have Hs : Fr (W_f_X8_spread o) s s := Fr.rfl
  refine PR.bd (PR.pure Hs (fr_f_X2_size (o + 1) s)) (fun r4 s1 Hs1 => ?_)
  refine PR.vl (fun y6 => ?_)
  refine PR.lq_1 (PR.call Hs1 (fr_l_X8_spread_12 o FU x1 0 y6 s1) (by intro c hc; simp only [W_l_X8_spread_12, W_f_X8_spread, List.mem_cons, List.not_mem_nil, or_false] at hc ⊢; omega)) (fun y9 s10 Hs10 => ?_)
  refine PR.ite (fun _ => ?_) (fun _ => ?_)
  · refine PR.stp (Fr.wI Hs10 (by simp [W_f_X8_spread])) (fun s14 Hs14 => ?_)
    exact PR.call Hs14 (fr_j_X8_spread_70 o x1 y9 s14) (by intro c hc; simp only [W_j_X8_spread_70, W_f_X8_spread, List.mem_cons, List.not_mem_nil, or_false] at hc ⊢; omega)
  · exact PR.call Hs10 (fr_j_X8_spread_70 o x1 y9 s10) (by intro c hc; simp only [W_j_X8_spread_70, W_f_X8_spread, List.mem_cons, List.not_mem_nil, or_false] at hc ⊢; omega)
def W_l_X8_clock_131 (o : Nat) : List Nat := [1000 * ((o + 1) + 1) + 998, 1000 * ((o + 1) + 1) + 999, 1000 * (o + 1) + 1, 1000 * o + 1]
theorem fr_l_X8_clock_131 (o : Nat) : ∀ (n : Nat) (x2 : Int) (s : vS), PR (W_l_X8_clock_131 o) s (fun q => q) (l_X8_clock_131 o n x2 s)
  := by
  intro n
  induction n with
  | zero => intro x2 s; exact PR.none
  | succ n ih =>
    intro x2 s
    unfold l_X8_clock_131
    have Hs : Fr (W_l_X8_clock_131 o) s s := Fr.rfl
    refine PR.bd (PR.pure Hs (fr_f_X8_isDigit o s)) (fun r4 s1 Hs1 => ?_)
    refine PR.ite (fun _ => ?_) (fun _ => ?_)
    · exact PR.some Hs1
    · refine PR.bd (PR.pure Hs1 (fr_f_X8_here o s1)) (fun r10 s7 Hs7 => ?_)
      refine PR.bdv (PR.call Hs7 (fr_f_X2_add (o + 1) (w32 (r10 - 48)) s7) (by intro c hc; simp only [W_f_X2_add, W_l_X8_clock_131, List.mem_cons, List.not_mem_nil, or_false] at hc ⊢; omega)) (fun s12 Hs12 => ?_)
      refine PR.stp (Fr.wI Hs12 (by simp [W_l_X8_clock_131])) (fun s15 Hs15 => ?_)
      exact PR.tail Hs15 (ih x2 s15)
def W_j_X8_clock_112 (o : Nat) : List Nat := [1000 * ((o + 1) + 1) + 998, 1000 * ((o + 1) + 1) + 999, 1000 * (o + 1) + 1, 1000 * o + 1, 1000 * o + 7, 1000 * o + 8]
theorem fr_j_X8_clock_112 (o : Nat) (x2 : Int) (s : vS) : PR (W_j_X8_clock_112 o) s (fun q => q.2) (j_X8_clock_112 o x2 s) := by
  unfold j_X8_clock_112
  have Hs : Fr (W_j_X8_clock_112 o) s s := Fr.rfl
  refine PR.stp (Fr.wI Hs (by simp [W_j_X8_clock_112])) (fun s1 Hs1 => ?_)
  refine PR.bd (PR.pure Hs1 (fr_f_X8_isDigit o s1)) (fun r6 s3 Hs3 => ?_)
  refine PR.ite (fun _ => ?_) (fun _ => ?_)
  · exact PR.some Hs3
  · refine PR.lq_0 (PR.call Hs3 (fr_l_X8_clock_131 o FU x2 s3) (by intro c hc; simp only [W_l_X8_clock_131, W_j_X8_clock_112, List.mem_cons, List.not_mem_nil, or_false] at hc ⊢; omega)) (fun s9 Hs9 => ?_)
    refine PR.bdv (PR.call Hs9 (fr_f_X8_spread o x2 s9) (by intro c hc; simp only [W_f_X8_spread, W_j_X8_clock_112, List.mem_cons, List.not_mem_nil, or_false] at hc ⊢; omega)) (fun s11 Hs11 => ?_)
    exact PR.some Hs11
def W_j_X8_clock_90 (o : Nat) : List Nat := [1000 * ((o + 1) + 1) + 998, 1000 * ((o + 1) + 1) + 999, 1000 * (o + 1) + 1, 1000 * o + 1, 1000 * o + 7, 1000 * o + 8]
theorem fr_j_X8_clock_90 (o : Nat) (x1 : Int) (x2 : Int) (s : vS) : PR (W_j_X8_clock_90 o) s (fun q => q.2) (j_X8_clock_90 o x1 x2 s) := by
  unfold j_X8_clock_90
  have Hs : Fr (W_j_X8_clock_90 o) s s := Fr.rfl
  refine PR.ite (fun _ => ?_) (fun _ => ?_)
  · exact PR.some Hs
  · refine PR.bd (PR.pure Hs (fr_f_X8_here o s)) (fun r5 s2 Hs2 => ?_)
    refine PR.ite (fun _ => ?_) (fun _ => ?_)
    · exact PR.call Hs2 (fr_j_X8_clock_112 o x2 s2) (by intro c hc; simp only [W_j_X8_clock_112, W_j_X8_clock_90, List.mem_cons, List.not_mem_nil, or_false] at hc ⊢; omega)
    · refine PR.bd (PR.pure Hs2 (fr_f_X8_here o s2)) (fun r11 s8 Hs8 => ?_)
      refine PR.ite (fun _ => ?_) (fun _ => ?_)
      · exact PR.call Hs8 (fr_j_X8_clock_112 o x2 s8) (by intro c hc; simp only [W_j_X8_clock_112, W_j_X8_clock_90, List.mem_cons, List.not_mem_nil, or_false] at hc ⊢; omega)
      · exact PR.some Hs8
def W_j_X8_clock_32 (o : Nat) : List Nat := [1000 * ((o + 1) + 1) + 998, 1000 * ((o + 1) + 1) + 999, 1000 * (o + 1) + 1, 1000 * o + 1, 1000 * o + 7, 1000 * o + 8]
theorem fr_j_X8_clock_32 (o : Nat) (x1 : Int) (s : vS) : PR (W_j_X8_clock_32 o) s (fun q => q.2) (j_X8_clock_32 o x1 s) := by
  unfold j_X8_clock_32
  have Hs : Fr (W_j_X8_clock_32 o) s s := Fr.rfl
  refine PR.bd (PR.call Hs (fr_f_X8_digits o 2 s) (by intro c hc; simp only [W_f_X8_digits, W_j_X8_clock_32, List.mem_cons, List.not_mem_nil, or_false] at hc ⊢; omega)) (fun r4 s1 Hs1 => ?_)
  refine PR.stp (Fr.wI Hs1 (by simp [W_j_X8_clock_32])) (fun s6 Hs6 => ?_)
  refine PR.bd (PR.pure Hs6 (fr_f_X8_within (gI s6 o 7) 59 s6)) (fun r11 s8 Hs8 => ?_)
  refine PR.ite (fun _ => ?_) (fun _ => ?_)
  · exact PR.some Hs8
  · refine PR.bd (PR.pure Hs8 (fr_f_X8_isDigit o s8)) (fun r17 s14 Hs14 => ?_)
    refine PR.ite (fun _ => ?_) (fun _ => ?_)
    · exact PR.call Hs14 (fr_j_X8_clock_90 o x1 60 s14) (by intro c hc; simp only [W_j_X8_clock_90, W_j_X8_clock_32, List.mem_cons, List.not_mem_nil, or_false] at hc ⊢; omega)
    · refine PR.bd (PR.call Hs14 (fr_f_X8_digits o 2 s14) (by intro c hc; simp only [W_f_X8_digits, W_j_X8_clock_32, List.mem_cons, List.not_mem_nil, or_false] at hc ⊢; omega)) (fun r23 s20 Hs20 => ?_)
      refine PR.stp (Fr.wI Hs20 (by simp [W_j_X8_clock_32])) (fun s25 Hs25 => ?_)
      refine PR.bd (PR.pure Hs25 (fr_f_X8_within (gI s25 o 8) 59 s25)) (fun r30 s27 Hs27 => ?_)
      refine PR.ite (fun _ => ?_) (fun _ => ?_)
      · exact PR.some Hs27
      · exact PR.call Hs27 (fr_j_X8_clock_90 o x1 1 s27) (by intro c hc; simp only [W_j_X8_clock_90, W_j_X8_clock_32, List.mem_cons, List.not_mem_nil, or_false] at hc ⊢; omega)
def W_f_X8_clock (o : Nat) : List Nat := [1000 * ((o + 1) + 1) + 998, 1000 * ((o + 1) + 1) + 999, 1000 * (o + 1) + 1, 1000 * o + 1, 1000 * o + 7, 1000 * o + 8]
theorem fr_f_X8_clock (o : Nat) (x1 : Int) (s : vS) : PR (W_f_X8_clock o) s (fun q => q.2) (f_X8_clock o x1 s) := by
  unfold f_X8_clock
  have Hs : Fr (W_f_X8_clock o) s s := Fr.rfl
  refine PR.stp (Fr.wI Hs (by simp [W_f_X8_clock])) (fun s1 Hs1 => ?_)
  refine PR.stp (Fr.wI Hs1 (by simp [W_f_X8_clock])) (fun s3 Hs3 => ?_)
  refine PR.bdv (PR.call Hs3 (fr_f_X2_clear (o + 1) s3) (by intro c hc; simp only [W_f_X2_clear, W_f_X8_clock, List.mem_cons, List.not_mem_nil, or_false] at hc ⊢; omega)) (fun s5 Hs5 => ?_)
  refine PR.ite (fun _ => ?_) (fun _ => ?_)
  · exact PR.call Hs5 (fr_j_X8_clock_32 o x1 s5) (by intro c hc; simp only [W_j_X8_clock_32, W_f_X8_clock, List.mem_cons, List.not_mem_nil, or_false] at hc ⊢; omega)
  · refine PR.bd (PR.pure Hs5 (fr_f_X8_isDigit o s5)) (fun r12 s9 Hs9 => ?_)
    refine PR.ite (fun _ => ?_) (fun _ => ?_)
    · exact PR.call Hs9 (fr_j_X8_clock_90 o x1 3600 s9) (by intro c hc; simp only [W_j_X8_clock_90, W_f_X8_clock, List.mem_cons, List.not_mem_nil, or_false] at hc ⊢; omega)
    · exact PR.call Hs9 (fr_j_X8_clock_32 o x1 s9) (by intro c hc; simp only [W_j_X8_clock_32, W_f_X8_clock, List.mem_cons, List.not_mem_nil, or_false] at hc ⊢; omega)
def W_j_X8_shift_184 (o : Nat) : List Nat := [1000 * o + 3, 1000 * o + 4]
theorem fr_j_X8_shift_184 (o : Nat) (z1 : Int) (s : vS) : PR (W_j_X8_shift_184 o) s (fun q => q) (j_X8_shift_184 o z1 s) := by
  unfold j_X8_shift_184
  have Hs : Fr (W_j_X8_shift_184 o) s s := Fr.rfl
  refine PR.stp (Fr.wI Hs (by simp [W_j_X8_shift_184])) (fun s1 Hs1 => ?_)
  refine PR.ite (fun _ => ?_) (fun _ => ?_)
  · refine PR.stp (Fr.wI Hs1 (by simp [W_j_X8_shift_184])) (fun s6 Hs6 => ?_)
    exact PR.some Hs6
  · refine PR.stp (Fr.wI Hs1 (by simp [W_j_X8_shift_184])) (fun s4 Hs4 => ?_)
    exact PR.some Hs4
def W_j_X8_shift_119 (o : Nat) : List Nat := [1000 * o + 3, 1000 * o + 5]
theorem fr_j_X8_shift_119 (o : Nat) (z1 : Int) (z2 : Int) (s : vS) : PR (W_j_X8_shift_119 o) s (fun q => q) (j_X8_shift_119 o z1 z2 s) := by
  unfold j_X8_shift_119
  have Hs : Fr (W_j_X8_shift_119 o) s s := Fr.rfl
  refine PR.stp (Fr.wI Hs (by simp [W_j_X8_shift_119])) (fun s1 Hs1 => ?_)
  refine PR.bd (PR.pure Hs1 (fr_f_X8_days (gI s1 o 3) (gI s1 o 4) s1)) (fun r6 s3 Hs3 => ?_)
  refine PR.stp (Fr.wI Hs3 (by simp [W_j_X8_shift_119])) (fun s8 Hs8 => ?_)
  exact PR.some Hs8
def W_j_X8_shift_97 (o : Nat) : List Nat := [1000 * o + 3, 1000 * o + 4, 1000 * o + 5]
theorem fr_j_X8_shift_97 (o : Nat) (z1 : Int) (s : vS) : PR (W_j_X8_shift_97 o) s (fun q => q) (j_X8_shift_97 o z1 s) := by
  unfold j_X8_shift_97
  have Hs : Fr (W_j_X8_shift_97 o) s s := Fr.rfl
  refine PR.stp (Fr.wI Hs (by simp [W_j_X8_shift_97])) (fun s1 Hs1 => ?_)
  refine PR.ite (fun _ => ?_) (fun _ => ?_)
  · exact PR.call Hs1 (fr_j_X8_shift_119 o (gI s1 o 3) 1 s1) (by intro c hc; simp only [W_j_X8_shift_119, W_j_X8_shift_97, List.mem_cons, List.not_mem_nil, or_false] at hc ⊢; omega)
  · exact PR.call Hs1 (fr_j_X8_shift_119 o (gI s1 o 3) 0 s1) (by intro c hc; simp only [W_j_X8_shift_119, W_j_X8_shift_97, List.mem_cons, List.not_mem_nil, or_false] at hc ⊢; omega)
def W_j_X8_shift_35 (o : Nat) : List Nat := [1000 * o + 3, 1000 * o + 4, 1000 * o + 5, 1000 * o + 6, 1000 * o + 7]
theorem fr_j_X8_shift_35 (o : Nat) (x2 : Int) (z0 : Int) (s : vS) : PR (W_j_X8_shift_35 o) s (fun q => q) (j_X8_shift_35 o x2 z0 s) := by
  unfold j_X8_shift_35
  have Hs : Fr (W_j_X8_shift_35 o) s s := Fr.rfl
  refine PR.vl (fun y1 => ?_)
  refine PR.stp (Fr.wI Hs (by simp [W_j_X8_shift_35])) (fun s4 Hs4 => ?_)
  refine PR.stp (Fr.wI Hs4 (by simp [W_j_X8_shift_35])) (fun s6 Hs6 => ?_)
  refine PR.stp (Fr.wI Hs6 (by simp [W_j_X8_shift_35])) (fun s8 Hs8 => ?_)
  refine PR.ite (fun _ => ?_) (fun _ => ?_)
  · refine PR.ite (fun _ => ?_) (fun _ => ?_)
    · exact PR.call Hs8 (fr_j_X8_shift_97 o 12 s8) (by intro c hc; simp only [W_j_X8_shift_97, W_j_X8_shift_35, List.mem_cons, List.not_mem_nil, or_false] at hc ⊢; omega)
    · exact PR.call Hs8 (fr_j_X8_shift_97 o (w32 ((gI s8 o 4) - 1)) s8) (by intro c hc; simp only [W_j_X8_shift_97, W_j_X8_shift_35, List.mem_cons, List.not_mem_nil, or_false] at hc ⊢; omega)
  · refine PR.bd (PR.pure Hs8 (fr_f_X8_days (gI s8 o 3) (gI s8 o 4) s8)) (fun r14 s11 Hs11 => ?_)
    refine PR.ite (fun _ => ?_) (fun _ => ?_)
    · exact PR.some Hs11
    · refine PR.stp (Fr.wI Hs11 (by simp [W_j_X8_shift_35])) (fun s17 Hs17 => ?_)
      refine PR.ite (fun _ => ?_) (fun _ => ?_)
      · exact PR.call Hs17 (fr_j_X8_shift_184 o 1 s17) (by intro c hc; simp only [W_j_X8_shift_184, W_j_X8_shift_35, List.mem_cons, List.not_mem_nil, or_false] at hc ⊢; omega)
      · exact PR.call Hs17 (fr_j_X8_shift_184 o (w32 ((gI s17 o 4) + 1)) s17) (by intro c hc; simp only [W_j_X8_shift_184, W_j_X8_shift_35, List.mem_cons, List.not_mem_nil, or_false] at hc ⊢; omega)
def W_f_X8_shift (o : Nat) : List Nat := [1000 * o + 3, 1000 * o + 4, 1000 * o + 5, 1000 * o + 6, 1000 * o + 7]
theorem fr_f_X8_shift (o : Nat) (x1 : Int) (s : vS) : PR (W_f_X8_shift o) s (fun q => q) (f_X8_shift o x1 s) := by
  unfold f_X8_shift
  have Hs : Fr (W_f_X8_shift o) s s := Fr.rfl
  refine PR.vl (fun y1 => ?_)
  refine PR.ite (fun _ => ?_) (fun _ => ?_)
  · refine PR.ite (fun _ => ?_) (fun _ => ?_)
    · exact PR.call Hs (fr_j_X8_shift_35 o y1 0 s) (by intro c hc; simp only [W_j_X8_shift_35, W_f_X8_shift, List.mem_cons, List.not_mem_nil, or_false] at hc ⊢; omega)
    · exact PR.call Hs (fr_j_X8_shift_35 o y1 1 s) (by intro c hc; simp only [W_j_X8_shift_35, W_f_X8_shift, List.mem_cons, List.not_mem_nil, or_false] at hc ⊢; omega)
  · exact PR.call Hs (fr_j_X8_shift_35 o y1 (-1) s) (by intro c hc; simp only [W_j_X8_shift_35, W_f_X8_shift, List.mem_cons, List.not_mem_nil, or_false] at hc ⊢; omega)
def W_j_X8_zone_158 (o : Nat) : List Nat := [1000 * o + 3, 1000 * o + 4, 1000 * o + 5, 1000 * o + 6, 1000 * o + 7]
theorem fr_j_X8_zone_158 (o : Nat) (z1 : Int) (s : vS) : PR (W_j_X8_zone_158 o) s (fun q => q.2) (j_X8_zone_158 o z1 s) := by
  unfold j_X8_zone_158
  have Hs : Fr (W_j_X8_zone_158 o) s s := Fr.rfl
  refine PR.bdv (PR.call Hs (fr_f_X8_shift o z1 s) (by intro c hc; simp only [W_f_X8_shift, W_j_X8_zone_158, List.mem_cons, List.not_mem_nil, or_false] at hc ⊢; omega)) (fun s1 Hs1 => ?_)
  exact PR.some Hs1
def W_j_X8_zone_108 (o : Nat) : List Nat := [1000 * o + 3, 1000 * o + 4, 1000 * o + 5, 1000 * o + 6, 1000 * o + 7]
theorem fr_j_X8_zone_108 (o : Nat) (x2 : Int) (x3 : Int) (z0 : Int) (s : vS) : PR (W_j_X8_zone_108 o) s (fun q => q.2) (j_X8_zone_108 o x2 x3 z0 s) := by
  unfold j_X8_zone_108
  have Hs : Fr (W_j_X8_zone_108 o) s s := Fr.rfl
  refine PR.bd (PR.pure Hs (fr_f_X8_within z0 59 s)) (fun r4 s1 Hs1 => ?_)
  refine PR.ite (fun _ => ?_) (fun _ => ?_)
  · exact PR.some Hs1
  · refine PR.ite (fun _ => ?_) (fun _ => ?_)
    · refine PR.vl (fun y8 => ?_)
      refine PR.ite (fun _ => ?_) (fun _ => ?_)
      · exact PR.call Hs1 (fr_j_X8_zone_158 o (w32 (-y8)) s1) (by intro c hc; simp only [W_j_X8_zone_158, W_j_X8_zone_108, List.mem_cons, List.not_mem_nil, or_false] at hc ⊢; omega)
      · exact PR.call Hs1 (fr_j_X8_zone_158 o y8 s1) (by intro c hc; simp only [W_j_X8_zone_158, W_j_X8_zone_108, List.mem_cons, List.not_mem_nil, or_false] at hc ⊢; omega)
    · exact PR.some Hs1
def W_j_X8_zone_103 (o : Nat) : List Nat := [1000 * o + 1, 1000 * o + 3, 1000 * o + 4, 1000 * o + 5, 1000 * o + 6, 1000 * o + 7]
theorem fr_j_X8_zone_103 (o : Nat) (x2 : Int) (x3 : Int) (s : vS) : PR (W_j_X8_zone_103 o) s (fun q => q.2) (j_X8_zone_103 o x2 x3 s) := by
  unfold j_X8_zone_103
  have Hs : Fr (W_j_X8_zone_103 o) s s := Fr.rfl
  refine PR.bd (PR.call Hs (fr_f_X8_digits o 2 s) (by intro c hc; simp only [W_f_X8_digits, W_j_X8_zone_103, List.mem_cons, List.not_mem_nil, or_false] at hc ⊢; omega)) (fun r4 s1 Hs1 => ?_)
  exact PR.call Hs1 (fr_j_X8_zone_108 o x2 x3 r4 s1) (by intro c hc; simp only [W_j_X8_zone_108, W_j_X8_zone_103, List.mem_cons, List.not_mem_nil, or_false] at hc ⊢; omega)
def W_j_X8_zone_66 (o : Nat) : List Nat := [1000 * o + 1, 1000 * o + 3, 1000 * o + 4, 1000 * o + 5, 1000 * o + 6, 1000 * o + 7]
theorem fr_j_X8_zone_66 (o : Nat) (x1 : Int) (x2 : Int) (s : vS) : PR (W_j_X8_zone_66 o) s (fun q => q.2) (j_X8_zone_66 o x1 x2 s) := by
  unfold j_X8_zone_66
  have Hs : Fr (W_j_X8_zone_66 o) s s := Fr.rfl
  refine PR.bd (PR.call Hs (fr_f_X8_digits o 2 s) (by intro c hc; simp only [W_f_X8_digits, W_j_X8_zone_66, List.mem_cons, List.not_mem_nil, or_false] at hc ⊢; omega)) (fun r4 s1 Hs1 => ?_)
  refine PR.bd (PR.pure Hs1 (fr_f_X8_within r4 23 s1)) (fun r9 s6 Hs6 => ?_)
  refine PR.ite (fun _ => ?_) (fun _ => ?_)
  · exact PR.some Hs6
  · refine PR.ite (fun _ => ?_) (fun _ => ?_)
    · exact PR.call Hs6 (fr_j_X8_zone_103 o x2 r4 s6) (by intro c hc; simp only [W_j_X8_zone_103, W_j_X8_zone_66, List.mem_cons, List.not_mem_nil, or_false] at hc ⊢; omega)
    · refine PR.ite (fun _ => ?_) (fun _ => ?_)
      · exact PR.call Hs6 (fr_j_X8_zone_108 o x2 r4 0 s6) (by intro c hc; simp only [W_j_X8_zone_108, W_j_X8_zone_66, List.mem_cons, List.not_mem_nil, or_false] at hc ⊢; omega)
      · exact PR.call Hs6 (fr_j_X8_zone_103 o x2 r4 s6) (by intro c hc; simp only [W_j_X8_zone_103, W_j_X8_zone_66, List.mem_cons, List.not_mem_nil, or_false] at hc ⊢; omega)
def W_j_X8_zone_17 (o : Nat) : List Nat := [1000 * o + 1, 1000 * o + 3, 1000 * o + 4, 1000 * o + 5, 1000 * o + 6, 1000 * o + 7]
theorem fr_j_X8_zone_17 (o : Nat) (x1 : Int) (x2 : Int) (s : vS) : PR (W_j_X8_zone_17 o) s (fun q => q.2) (j_X8_zone_17 o x1 x2 s) := by
  unfold j_X8_zone_17
  have Hs : Fr (W_j_X8_zone_17 o) s s := Fr.rfl
  refine PR.stp (Fr.wI Hs (by simp [W_j_X8_zone_17])) (fun s1 Hs1 => ?_)
  refine PR.ite (fun _ => ?_) (fun _ => ?_)
  · refine PR.ite (fun _ => ?_) (fun _ => ?_)
    · exact PR.some Hs1
    · exact PR.some Hs1
  · refine PR.ite (fun _ => ?_) (fun _ => ?_)
    · exact PR.call Hs1 (fr_j_X8_zone_66 o x1 x2 s1) (by intro c hc; simp only [W_j_X8_zone_66, W_j_X8_zone_17, List.mem_cons, List.not_mem_nil, or_false] at hc ⊢; omega)
    · refine PR.ite (fun _ => ?_) (fun _ => ?_)
      · exact PR.call Hs1 (fr_j_X8_zone_66 o x1 x2 s1) (by intro c hc; simp only [W_j_X8_zone_66, W_j_X8_zone_17, List.mem_cons, List.not_mem_nil, or_false] at hc ⊢; omega)
      · exact PR.some Hs1
def W_f_X8_zone (o : Nat) : List Nat := [1000 * o + 1, 1000 * o + 3, 1000 * o + 4, 1000 * o + 5, 1000 * o + 6, 1000 * o + 7]
theorem fr_f_X8_zone (o : Nat) (x1 : Int) (s : vS) : PR (W_f_X8_zone o) s (fun q => q.2) (f_X8_zone o x1 s) := by
  unfold f_X8_zone
  have Hs : Fr (W_f_X8_zone o) s s := Fr.rfl
  refine PR.bd (PR.pure Hs (fr_f_X8_here o s)) (fun r4 s1 Hs1 => ?_)
  refine PR.ite (fun _ => ?_) (fun _ => ?_)
  · refine PR.ite (fun _ => ?_) (fun _ => ?_)
    · exact PR.call Hs1 (fr_j_X8_zone_17 o x1 r4 s1) (by intro c hc; simp only [W_j_X8_zone_17, W_f_X8_zone, List.mem_cons, List.not_mem_nil, or_false] at hc ⊢; omega)
    · exact PR.some Hs1
  · exact PR.call Hs1 (fr_j_X8_zone_17 o x1 r4 s1) (by intro c hc; simp only [W_j_X8_zone_17, W_f_X8_zone, List.mem_cons, List.not_mem_nil, or_false] at hc ⊢; omega)
def W_f_X8_two (p0 : Nat) : List Nat := [1000 * (p0 + 1) + 998, 1000 * (p0 + 1) + 999, 1000 * p0 + 1]
theorem fr_f_X8_two (p0 : Nat) (x1 : Int) (s : vS) : PR (W_f_X8_two p0) s (fun q => q) (f_X8_two p0 x1 s) := by
  unfold f_X8_two
  have Hs : Fr (W_f_X8_two p0) s s := Fr.rfl
  refine PR.bdv (PR.call Hs (fr_f_X2_add p0 (w32 (48 + (d32 x1 10))) s) (by intro c hc; simp only [W_f_X2_add, W_f_X8_two, List.mem_cons, List.not_mem_nil, or_false] at hc ⊢; omega)) (fun s1 Hs1 => ?_)
  refine PR.bdv (PR.call Hs1 (fr_f_X2_add p0 (w32 (48 + (m32 x1 10))) s1) (by intro c hc; simp only [W_f_X2_add, W_f_X8_two, List.mem_cons, List.not_mem_nil, or_false] at hc ⊢; omega)) (fun s4 Hs4 => ?_)
  exact PR.some Hs4
def W_j_X8_read_229 (p5 : Nat) : List Nat := [1000 * (p5 + 1) + 998, 1000 * (p5 + 1) + 999, 1000 * p5 + 1]
theorem fr_j_X8_read_229 (o : Nat) (p1 : Nat) (p5 : Nat) (s : vS) : PR (W_j_X8_read_229 p5) s (fun q => q.2) (j_X8_read_229 o p1 p5 s) := by
  unfold j_X8_read_229
  have Hs : Fr (W_j_X8_read_229 p5) s s := Fr.rfl
  refine PR.bdv (PR.call Hs (fr_f_X2_add p5 90 s) (by intro c hc; simp only [W_f_X2_add, W_j_X8_read_229, List.mem_cons, List.not_mem_nil, or_false] at hc ⊢; omega)) (fun s1 Hs1 => ?_)
  exact PR.some Hs1
def W_l_X8_read_194 (p5 : Nat) : List Nat := [1000 * (p5 + 1) + 998, 1000 * (p5 + 1) + 999, 1000 * p5 + 1]
theorem fr_l_X8_read_194 (o : Nat) (p1 : Nat) (p5 : Nat) : ∀ (n : Nat) (x7 : Int) (s : vS), PR (W_l_X8_read_194 p5) s (fun q => q) (l_X8_read_194 o p1 p5 n x7 s)
  := by
  intro n
  induction n with
  | zero => intro x7 s; exact PR.none
  | succ n ih =>
    intro x7 s
    unfold l_X8_read_194
    have Hs : Fr (W_l_X8_read_194 p5) s s := Fr.rfl
    refine PR.bd (PR.pure Hs (fr_f_X2_size (o + 1) s)) (fun r4 s1 Hs1 => ?_)
    refine PR.ite (fun _ => ?_) (fun _ => ?_)
    · exact PR.some Hs1
    · refine PR.bd (PR.pure Hs1 (fr_f_X2_at (o + 1) x7 s1)) (fun r10 s7 Hs7 => ?_)
      refine PR.bdv (PR.call Hs7 (fr_f_X2_add p5 (w32 (48 + r10)) s7) (by intro c hc; simp only [W_f_X2_add, W_l_X8_read_194, List.mem_cons, List.not_mem_nil, or_false] at hc ⊢; omega)) (fun s12 Hs12 => ?_)
      refine PR.vl (fun y15 => ?_)
      exact PR.tail Hs12 (ih y15 s12)
def W_j_X8_read_117 (p5 : Nat) : List Nat := [1000 * (p5 + 1) + 998, 1000 * (p5 + 1) + 999, 1000 * p5 + 1]
theorem fr_j_X8_read_117 (o : Nat) (p1 : Nat) (p5 : Nat) (s : vS) : PR (W_j_X8_read_117 p5) s (fun q => q.2) (j_X8_read_117 o p1 p5 s) := by
  unfold j_X8_read_117
  have Hs : Fr (W_j_X8_read_117 p5) s s := Fr.rfl
  refine PR.bdv (PR.call Hs (fr_f_X8_two p5 (m32 (gI s o 3) 100) s) (by intro c hc; simp only [W_f_X8_two, W_j_X8_read_117, List.mem_cons, List.not_mem_nil, or_false] at hc ⊢; omega)) (fun s1 Hs1 => ?_)
  refine PR.bdv (PR.call Hs1 (fr_f_X8_two p5 (gI s1 o 4) s1) (by intro c hc; simp only [W_f_X8_two, W_j_X8_read_117, List.mem_cons, List.not_mem_nil, or_false] at hc ⊢; omega)) (fun s4 Hs4 => ?_)
  refine PR.bdv (PR.call Hs4 (fr_f_X8_two p5 (gI s4 o 5) s4) (by intro c hc; simp only [W_f_X8_two, W_j_X8_read_117, List.mem_cons, List.not_mem_nil, or_false] at hc ⊢; omega)) (fun s7 Hs7 => ?_)
  refine PR.bdv (PR.call Hs7 (fr_f_X8_two p5 (gI s7 o 6) s7) (by intro c hc; simp only [W_f_X8_two, W_j_X8_read_117, List.mem_cons, List.not_mem_nil, or_false] at hc ⊢; omega)) (fun s10 Hs10 => ?_)
  refine PR.bdv (PR.call Hs10 (fr_f_X8_two p5 (gI s10 o 7) s10) (by intro c hc; simp only [W_f_X8_two, W_j_X8_read_117, List.mem_cons, List.not_mem_nil, or_false] at hc ⊢; omega)) (fun s13 Hs13 => ?_)
  refine PR.bdv (PR.call Hs13 (fr_f_X8_two p5 (gI s13 o 8) s13) (by intro c hc; simp only [W_f_X8_two, W_j_X8_read_117, List.mem_cons, List.not_mem_nil, or_false] at hc ⊢; omega)) (fun s16 Hs16 => ?_)
  refine PR.bd (PR.pure Hs16 (fr_f_X2_size (o + 1) s16)) (fun r22 s19 Hs19 => ?_)
  refine PR.ite (fun _ => ?_) (fun _ => ?_)
  · exact PR.call Hs19 (fr_j_X8_read_229 o p1 p5 s19) (by intro c hc; simp only [W_j_X8_read_229, W_j_X8_read_117, List.mem_cons, List.not_mem_nil, or_false] at hc ⊢; omega)
  · refine PR.bdv (PR.call Hs19 (fr_f_X2_add p5 46 s19) (by intro c hc; simp only [W_f_X2_add, W_j_X8_read_117, List.mem_cons, List.not_mem_nil, or_false] at hc ⊢; omega)) (fun s25 Hs25 => ?_)
    refine PR.lq_0 (PR.call Hs25 (fr_l_X8_read_194 o p1 p5 FU 0 s25) (by intro c hc; simp only [W_l_X8_read_194, W_j_X8_read_117, List.mem_cons, List.not_mem_nil, or_false] at hc ⊢; omega)) (fun s28 Hs28 => ?_)
    exact PR.call Hs28 (fr_j_X8_read_229 o p1 p5 s28) (by intro c hc; simp only [W_j_X8_read_229, W_j_X8_read_117, List.mem_cons, List.not_mem_nil, or_false] at hc ⊢; omega)
def W_j_X8_read_100 (p5 : Nat) : List Nat := [1000 * (p5 + 1) + 998, 1000 * (p5 + 1) + 999, 1000 * p5 + 1]
theorem fr_j_X8_read_100 (o : Nat) (p1 : Nat) (p5 : Nat) (x4 : Int) (s : vS) : PR (W_j_X8_read_100 p5) s (fun q => q.2) (j_X8_read_100 o p1 p5 x4 s) := by
  unfold j_X8_read_100
  have Hs : Fr (W_j_X8_read_100 p5) s s := Fr.rfl
  refine PR.ite (fun _ => ?_) (fun _ => ?_)
  · exact PR.call Hs (fr_j_X8_read_117 o p1 p5 s) (by intro c hc; simp only [W_j_X8_read_117, W_j_X8_read_100, List.mem_cons, List.not_mem_nil, or_false] at hc ⊢; omega)
  · refine PR.bdv (PR.call Hs (fr_f_X8_two p5 (d32 (gI s o 3) 100) s) (by intro c hc; simp only [W_f_X8_two, W_j_X8_read_100, List.mem_cons, List.not_mem_nil, or_false] at hc ⊢; omega)) (fun s2 Hs2 => ?_)
    exact PR.call Hs2 (fr_j_X8_read_117 o p1 p5 s2) (by intro c hc; simp only [W_j_X8_read_117, W_j_X8_read_100, List.mem_cons, List.not_mem_nil, or_false] at hc ⊢; omega)
def W_f_X8_read (o : Nat) (p5 : Nat) : List Nat := [1000 * ((o + 1) + 1) + 998, 1000 * ((o + 1) + 1) + 999, 1000 * (o + 1) + 1, 1000 * (p5 + 1) + 998, 1000 * (p5 + 1) + 999, 1000 * o + 0, 1000 * o + 1, 1000 * o + 2, 1000 * o + 3, 1000 * o + 4, 1000 * o + 5, 1000 * o + 6, 1000 * o + 7, 1000 * o + 8, 1000 * p5 + 1]
theorem fr_f_X8_read (o : Nat) (p1 : Nat) (x2 : Int) (x3 : Int) (x4 : Int) (p5 : Nat) (s : vS) : PR (W_f_X8_read o p5) s (fun q => q.2) (f_X8_read o p1 x2 x3 x4 p5 s) := by
  unfold f_X8_read
  have Hs : Fr (W_f_X8_read o p5) s s := Fr.rfl
  refine PR.stp (Fr.wR Hs (by simp [W_f_X8_read])) (fun s1 Hs1 => ?_)
  refine PR.stp (Fr.wI Hs1 (by simp [W_f_X8_read])) (fun s3 Hs3 => ?_)
  refine PR.stp (Fr.wI Hs3 (by simp [W_f_X8_read])) (fun s5 Hs5 => ?_)
  refine PR.bd (PR.call Hs5 (fr_f_X8_date o x4 s5) (by intro c hc; simp only [W_f_X8_date, W_f_X8_read, List.mem_cons, List.not_mem_nil, or_false] at hc ⊢; omega)) (fun r10 s7 Hs7 => ?_)
  refine PR.ite (fun _ => ?_) (fun _ => ?_)
  · exact PR.some Hs7
  · refine PR.bd (PR.call Hs7 (fr_f_X8_clock o x4 s7) (by intro c hc; simp only [W_f_X8_clock, W_f_X8_read, List.mem_cons, List.not_mem_nil, or_false] at hc ⊢; omega)) (fun r16 s13 Hs13 => ?_)
    refine PR.ite (fun _ => ?_) (fun _ => ?_)
    · exact PR.some Hs13
    · refine PR.bd (PR.call Hs13 (fr_f_X8_zone o x4 s13) (by intro c hc; simp only [W_f_X8_zone, W_f_X8_read, List.mem_cons, List.not_mem_nil, or_false] at hc ⊢; omega)) (fun r22 s19 Hs19 => ?_)
      refine PR.ite (fun _ => ?_) (fun _ => ?_)
      · refine PR.ite (fun _ => ?_) (fun _ => ?_)
        · refine PR.ite (fun _ => ?_) (fun _ => ?_)
          · exact PR.some Hs19
          · refine PR.ite (fun _ => ?_) (fun _ => ?_)
            · exact PR.call Hs19 (fr_j_X8_read_100 o p1 p5 x4 s19) (by intro c hc; simp only [W_j_X8_read_100, W_f_X8_read, List.mem_cons, List.not_mem_nil, or_false] at hc ⊢; omega)
            · exact PR.some Hs19
        · refine PR.ite (fun _ => ?_) (fun _ => ?_)
          · exact PR.some Hs19
          · refine PR.ite (fun _ => ?_) (fun _ => ?_)
            · exact PR.call Hs19 (fr_j_X8_read_100 o p1 p5 x4 s19) (by intro c hc; simp only [W_j_X8_read_100, W_f_X8_read, List.mem_cons, List.not_mem_nil, or_false] at hc ⊢; omega)
            · exact PR.some Hs19
      · exact PR.some Hs19
def W_l_X11_bytesAt_76 : List Nat := []
theorem fr_l_X11_bytesAt_76 (p0 : Nat) : ∀ (n : Nat) (x1 : Int) (x4 : Int) (x5 : Int) (x6 : Int) (s : vS), PR (W_l_X11_bytesAt_76) s (Sum.elim (fun q => q.2) (fun q => q.2)) (l_X11_bytesAt_76 p0 n x1 x4 x5 x6 s)
  := by
  intro n
  induction n with
  | zero => intro x1 x4 x5 x6 s; exact PR.none
  | succ n ih =>
    intro x1 x4 x5 x6 s
    unfold l_X11_bytesAt_76
    have Hs : Fr (W_l_X11_bytesAt_76) s s := Fr.rfl
    refine PR.ite (fun _ => ?_) (fun _ => ?_)
    · exact PR.some Hs
    · refine PR.bd (PR.pure Hs (fr_f_X2_at p0 (w32 (x1 + x6)) s)) (fun r5 s2 Hs2 => ?_)
      refine PR.ite (fun _ => ?_) (fun _ => ?_)
      · refine PR.bd (PR.pure Hs2 (fr_f_X2_at p0 (w32 (x1 + x6)) s2)) (fun r11 s8 Hs8 => ?_)
        refine PR.vl (fun y13 => ?_)
        refine PR.vl (fun y16 => ?_)
        exact PR.tail Hs8 (ih x1 x4 y13 y16 s8)
      · exact PR.some Hs2
def W_j_X11_bytesAt_184 : List Nat := []
theorem fr_j_X11_bytesAt_184 (p0 : Nat) (x4 : Int) (z0 : Int) (s : vS) : PR (W_j_X11_bytesAt_184) s (fun q => q.2) (j_X11_bytesAt_184 p0 x4 z0 s) := by
  unfold j_X11_bytesAt_184
  have Hs : Fr (W_j_X11_bytesAt_184) s s := Fr.rfl
  refine PR.ite (fun _ => ?_) (fun _ => ?_)
  · exact PR.some Hs
  · exact PR.some Hs
def W_j_X11_bytesAt_159 : List Nat := []
theorem fr_j_X11_bytesAt_159 (p0 : Nat) (x4 : Int) (x5 : Int) (s : vS) : PR (W_j_X11_bytesAt_159) s (fun q => q.2) (j_X11_bytesAt_159 p0 x4 x5 s) := by
  unfold j_X11_bytesAt_159
  have Hs : Fr (W_j_X11_bytesAt_159) s s := Fr.rfl
  refine PR.ite (fun _ => ?_) (fun _ => ?_)
  · refine PR.ite (fun _ => ?_) (fun _ => ?_)
    · exact PR.pure Hs (fr_j_X11_bytesAt_184 p0 x4 0 s)
    · refine PR.ite (fun _ => ?_) (fun _ => ?_)
      · exact PR.pure Hs (fr_j_X11_bytesAt_184 p0 x4 0 s)
      · exact PR.pure Hs (fr_j_X11_bytesAt_184 p0 x4 1 s)
  · exact PR.pure Hs (fr_j_X11_bytesAt_184 p0 x4 0 s)
def W_j_X11_bytesAt_38 : List Nat := []
theorem fr_j_X11_bytesAt_38 (p0 : Nat) (x1 : Int) (x2 : Int) (x3 : Int) (z0 : Int) (s : vS) : PR (W_j_X11_bytesAt_38) s (fun q => q.2) (j_X11_bytesAt_38 p0 x1 x2 x3 z0 s) := by
  unfold j_X11_bytesAt_38
  have Hs : Fr (W_j_X11_bytesAt_38) s s := Fr.rfl
  refine PR.ite (fun _ => ?_) (fun _ => ?_)
  · exact PR.some Hs
  · refine PR.ite (fun _ => ?_) (fun _ => ?_)
    · exact PR.some Hs
    · refine PR.ite (fun _ => ?_) (fun _ => ?_)
      · refine PR.vl (fun y4 => ?_)
        refine PR.lqs_1 (PR.pure Hs (fr_l_X11_bytesAt_76 p0 FU x1 z0 y4 1 s)) (fun y7 s8 Hs8 => ?_) (fun q Hq => PR.some Hq)
        refine PR.ite (fun _ => ?_) (fun _ => ?_)
        · exact PR.pure Hs8 (fr_j_X11_bytesAt_184 p0 z0 1 s8)
        · refine PR.ite (fun _ => ?_) (fun _ => ?_)
          · refine PR.ite (fun _ => ?_) (fun _ => ?_)
            · exact PR.pure Hs8 (fr_j_X11_bytesAt_159 p0 z0 y7 s8)
            · refine PR.ite (fun _ => ?_) (fun _ => ?_)
              · exact PR.pure Hs8 (fr_j_X11_bytesAt_184 p0 z0 1 s8)
              · refine PR.ite (fun _ => ?_) (fun _ => ?_)
                · exact PR.pure Hs8 (fr_j_X11_bytesAt_184 p0 z0 1 s8)
                · exact PR.pure Hs8 (fr_j_X11_bytesAt_159 p0 z0 y7 s8)
          · exact PR.pure Hs8 (fr_j_X11_bytesAt_159 p0 z0 y7 s8)
      · exact PR.some Hs
def W_f_X11_bytesAt : List Nat := []
theorem fr_f_X11_bytesAt (p0 : Nat) (x1 : Int) (x2 : Int) (s : vS) : PR (W_f_X11_bytesAt) s (fun q => q.2) (f_X11_bytesAt p0 x1 x2 s) := by
  unfold f_X11_bytesAt
  have Hs : Fr (W_f_X11_bytesAt) s s := Fr.rfl
  refine PR.bd (PR.pure Hs (fr_f_X2_at p0 x1 s)) (fun r4 s1 Hs1 => ?_)
  refine PR.ite (fun _ => ?_) (fun _ => ?_)
  · refine PR.ite (fun _ => ?_) (fun _ => ?_)
    · refine PR.ite (fun _ => ?_) (fun _ => ?_)
      · exact PR.pure Hs1 (fr_j_X11_bytesAt_38 p0 x1 x2 r4 2 s1)
      · exact PR.pure Hs1 (fr_j_X11_bytesAt_38 p0 x1 x2 r4 3 s1)
    · exact PR.pure Hs1 (fr_j_X11_bytesAt_38 p0 x1 x2 r4 4 s1)
  · exact PR.some Hs1
def W_l_X11_isUtf8_8 (o : Nat) : List Nat := [1000 * o + 1]
theorem fr_l_X11_isUtf8_8 (o : Nat) (p1 : Nat) : ∀ (n : Nat) (x3 : Int) (x4 : Int) (s : vS), PR (W_l_X11_isUtf8_8 o) s (Sum.elim (fun q => q) (fun q => q.2)) (l_X11_isUtf8_8 o p1 n x3 x4 s)
  := by
  intro n
  induction n with
  | zero => intro x3 x4 s; exact PR.none
  | succ n ih =>
    intro x3 x4 s
    unfold l_X11_isUtf8_8
    have Hs : Fr (W_l_X11_isUtf8_8 o) s s := Fr.rfl
    refine PR.ite (fun _ => ?_) (fun _ => ?_)
    · exact PR.some Hs
    · refine PR.bd (PR.pure Hs (fr_f_X11_bytesAt p1 x4 x3 s)) (fun r5 s2 Hs2 => ?_)
      refine PR.ite (fun _ => ?_) (fun _ => ?_)
      · exact PR.some Hs2
      · refine PR.vl (fun y8 => ?_)
        refine PR.stp (Fr.wI Hs2 (by simp [W_l_X11_isUtf8_8])) (fun s11 Hs11 => ?_)
        exact PR.tail Hs11 (ih x3 y8 s11)
def W_f_X11_isUtf8 (o : Nat) : List Nat := [1000 * o + 1]
theorem fr_f_X11_isUtf8 (o : Nat) (p1 : Nat) (x2 : Int) (x3 : Int) (s : vS) : PR (W_f_X11_isUtf8 o) s (fun q => q.2) (f_X11_isUtf8 o p1 x2 x3 s) := by
  unfold f_X11_isUtf8
  have Hs : Fr (W_f_X11_isUtf8 o) s s := Fr.rfl
  refine PR.stp (Fr.wI Hs (by simp [W_f_X11_isUtf8])) (fun s1 Hs1 => ?_)
  refine PR.lqs_0 (PR.call Hs1 (fr_l_X11_isUtf8_8 o p1 FU x3 x2 s1) (by intro c hc; simp only [W_l_X11_isUtf8_8, W_f_X11_isUtf8, List.mem_cons, List.not_mem_nil, or_false] at hc ⊢; omega)) (fun s3 Hs3 => ?_) (fun q Hq => PR.some Hq)
  exact PR.some Hs3
def W_j_X11_isLetter_12 : List Nat := []
theorem fr_j_X11_isLetter_12 (x0 : Int) (s : vS) : PR (W_j_X11_isLetter_12) s (fun q => q.2) (j_X11_isLetter_12 x0 s) := by
  unfold j_X11_isLetter_12
  have Hs : Fr (W_j_X11_isLetter_12) s s := Fr.rfl
  refine PR.ite (fun _ => ?_) (fun _ => ?_)
  · exact PR.some Hs
  · refine PR.ite (fun _ => ?_) (fun _ => ?_)
    · exact PR.some Hs
    · exact PR.some Hs
def W_f_X11_isLetter : List Nat := []
theorem fr_f_X11_isLetter (x0 : Int) (s : vS) : PR (W_f_X11_isLetter) s (fun q => q.2) (f_X11_isLetter x0 s) := by
  unfold f_X11_isLetter
  have Hs : Fr (W_f_X11_isLetter) s s := Fr.rfl
  refine PR.ite (fun _ => ?_) (fun _ => ?_)
  · exact PR.pure Hs (fr_j_X11_isLetter_12 x0 s)
  · refine PR.ite (fun _ => ?_) (fun _ => ?_)
    · exact PR.some Hs
    · exact PR.pure Hs (fr_j_X11_isLetter_12 x0 s)
def W_j_X11_isPrintable_43 : List Nat := []
theorem fr_j_X11_isPrintable_43 (x0 : Int) (s : vS) : PR (W_j_X11_isPrintable_43) s (fun q => q.2) (j_X11_isPrintable_43 x0 s) := by
  unfold j_X11_isPrintable_43
  have Hs : Fr (W_j_X11_isPrintable_43) s s := Fr.rfl
  refine PR.ite (fun _ => ?_) (fun _ => ?_)
  · exact PR.some Hs
  · refine PR.ite (fun _ => ?_) (fun _ => ?_)
    · exact PR.some Hs
    · refine PR.ite (fun _ => ?_) (fun _ => ?_)
      · exact PR.some Hs
      · refine PR.ite (fun _ => ?_) (fun _ => ?_)
        · exact PR.some Hs
        · exact PR.some Hs
def W_j_X11_isPrintable_31 : List Nat := []
theorem fr_j_X11_isPrintable_31 (x0 : Int) (s : vS) : PR (W_j_X11_isPrintable_31) s (fun q => q.2) (j_X11_isPrintable_31 x0 s) := by
  unfold j_X11_isPrintable_31
  have Hs : Fr (W_j_X11_isPrintable_31) s s := Fr.rfl
  refine PR.ite (fun _ => ?_) (fun _ => ?_)
  · exact PR.pure Hs (fr_j_X11_isPrintable_43 x0 s)
  · refine PR.ite (fun _ => ?_) (fun _ => ?_)
    · exact PR.some Hs
    · exact PR.pure Hs (fr_j_X11_isPrintable_43 x0 s)
def W_j_X11_isPrintable_19 : List Nat := []
theorem fr_j_X11_isPrintable_19 (x0 : Int) (s : vS) : PR (W_j_X11_isPrintable_19) s (fun q => q.2) (j_X11_isPrintable_19 x0 s) := by
  unfold j_X11_isPrintable_19
  have Hs : Fr (W_j_X11_isPrintable_19) s s := Fr.rfl
  refine PR.ite (fun _ => ?_) (fun _ => ?_)
  · exact PR.pure Hs (fr_j_X11_isPrintable_31 x0 s)
  · refine PR.ite (fun _ => ?_) (fun _ => ?_)
    · exact PR.some Hs
    · exact PR.pure Hs (fr_j_X11_isPrintable_31 x0 s)
def W_f_X11_isPrintable : List Nat := []
theorem fr_f_X11_isPrintable (x0 : Int) (s : vS) : PR (W_f_X11_isPrintable) s (fun q => q.2) (f_X11_isPrintable x0 s) := by
  unfold f_X11_isPrintable
  have Hs : Fr (W_f_X11_isPrintable) s s := Fr.rfl
  refine PR.bd (PR.pure Hs (fr_f_X11_isLetter x0 s)) (fun r4 s1 Hs1 => ?_)
  refine PR.ite (fun _ => ?_) (fun _ => ?_)
  · refine PR.ite (fun _ => ?_) (fun _ => ?_)
    · exact PR.pure Hs1 (fr_j_X11_isPrintable_19 x0 s1)
    · refine PR.ite (fun _ => ?_) (fun _ => ?_)
      · exact PR.some Hs1
      · exact PR.pure Hs1 (fr_j_X11_isPrintable_19 x0 s1)
  · exact PR.some Hs1
def W_l_X11_isString_26 : List Nat := []
theorem fr_l_X11_isString_26 (o : Nat) (p2 : Nat) : ∀ (n : Nat) (x1 : Int) (x4 : Int) (x5 : Int) (s : vS), PR (W_l_X11_isString_26) s (Sum.elim (fun q => q) (fun q => q.2)) (l_X11_isString_26 o p2 n x1 x4 x5 s)
  := by
  intro n
  induction n with
  | zero => intro x1 x4 x5 s; exact PR.none
  | succ n ih =>
    intro x1 x4 x5 s
    unfold l_X11_isString_26
    have Hs : Fr (W_l_X11_isString_26) s s := Fr.rfl
    refine PR.ite (fun _ => ?_) (fun _ => ?_)
    · exact PR.some Hs
    · refine PR.ite (fun _ => ?_) (fun _ => ?_)
      · refine PR.bd (PR.pure Hs (fr_f_X2_at p2 x5 s)) (fun r19 s16 Hs16 => ?_)
        refine PR.bd (PR.pure Hs16 (fr_f_X11_isPrintable r19 s16)) (fun r24 s21 Hs21 => ?_)
        refine PR.ite (fun _ => ?_) (fun _ => ?_)
        · exact PR.some Hs21
        · refine PR.vl (fun y27 => ?_)
          exact PR.tail Hs21 (ih x1 x4 y27 s21)
      · refine PR.ite (fun _ => ?_) (fun _ => ?_)
        · refine PR.bd (PR.pure Hs (fr_f_X2_at p2 x5 s)) (fun r10 s7 Hs7 => ?_)
          refine PR.ite (fun _ => ?_) (fun _ => ?_)
          · refine PR.vl (fun y13 => ?_)
            exact PR.tail Hs7 (ih x1 x4 y13 s7)
          · exact PR.some Hs7
        · refine PR.vl (fun y4 => ?_)
          exact PR.tail Hs (ih x1 x4 y4 s)
def W_f_X11_isString (o : Nat) : List Nat := [1000 * o + 1]
theorem fr_f_X11_isString (o : Nat) (x1 : Int) (p2 : Nat) (x3 : Int) (x4 : Int) (s : vS) : PR (W_f_X11_isString o) s (fun q => q.2) (f_X11_isString o x1 p2 x3 x4 s) := by
  unfold f_X11_isString
  have Hs : Fr (W_f_X11_isString o) s s := Fr.rfl
  refine PR.ite (fun _ => ?_) (fun _ => ?_)
  · refine PR.bd (PR.call Hs (fr_f_X11_isUtf8 o p2 x3 x4 s) (by intro c hc; simp only [W_f_X11_isUtf8, W_f_X11_isString, List.mem_cons, List.not_mem_nil, or_false] at hc ⊢; omega)) (fun r9 s6 Hs6 => ?_)
    refine PR.gd ?_
    exact PR.some Hs6
  · refine PR.stp (Fr.wI Hs (by simp [W_f_X11_isString])) (fun s2 Hs2 => ?_)
    refine PR.lqs_0 (PR.pure Hs2 (fr_l_X11_isString_26 o p2 FU x1 x4 x3 s2)) (fun s4 Hs4 => ?_) (fun q Hq => PR.some Hq)
    exact PR.some Hs4
def W_l_X6_text_18 : List Nat := [32001, 33998, 33999]
theorem fr_l_X6_text_18 : ∀ (n : Nat) (x1 : Int) (x2 : Int) (x3 : Int) (s : vS), PR (W_l_X6_text_18) s (fun q => q) (l_X6_text_18 n x1 x2 x3 s)
  := by
  intro n
  induction n with
  | zero => intro x1 x2 x3 s; exact PR.none
  | succ n ih =>
    intro x1 x2 x3 s
    unfold l_X6_text_18
    have Hs : Fr (W_l_X6_text_18) s s := Fr.rfl
    refine PR.gd ?_
    refine PR.bd (PR.pure Hs (fr_f_X3_end x1 s)) (fun r5 s2 Hs2 => ?_)
    refine PR.ite (fun _ => ?_) (fun _ => ?_)
    · exact PR.some Hs2
    · refine PR.gd ?_
      refine PR.bdo (PR.pure Hs2 (fr_f_X3_text s2)) (fun r12 s9 Hs9 => ?_)
      refine PR.gd ?_
      refine PR.bd (PR.pure Hs9 (fr_f_X2_at r12 x3 s9)) (fun r17 s14 Hs14 => ?_)
      refine PR.bdv (PR.call Hs14 (fr_f_X2_add 32 r17 s14) (by decide +kernel)) (fun s19 Hs19 => ?_)
      refine PR.gd ?_
      refine PR.bdo (PR.pure Hs19 (fr_f_X3_text s19)) (fun r26 s23 Hs23 => ?_)
      refine PR.gd ?_
      refine PR.bd (PR.pure Hs23 (fr_f_X2_at r26 x3 s23)) (fun r31 s28 Hs28 => ?_)
      refine PR.ite (fun _ => ?_) (fun _ => ?_)
      · refine PR.vl (fun y37 => ?_)
        refine PR.vl (fun y40 => ?_)
        exact PR.tail Hs28 (ih x1 x2 y40 s28)
      · refine PR.vl (fun y34 => ?_)
        exact PR.tail Hs28 (ih x1 x2 y34 s28)
def W_j_X6_text_114 : List Nat := [16000, 16001, 16002, 16003, 16004, 16005, 16006, 16007, 16008, 17001, 18998, 18999, 30001, 31998, 31999]
theorem fr_j_X6_text_114 (z2 : Int) (z3 : Int) (z4 : Int) (s : vS) : PR (W_j_X6_text_114) s (fun q => q.2) (j_X6_text_114 z2 z3 z4 s) := by
  unfold j_X6_text_114
  have Hs : Fr (W_j_X6_text_114) s s := Fr.rfl
  refine PR.bd (PR.call Hs (fr_f_X8_read 16 32 z2 z3 z4 30 s) (by decide +kernel)) (fun r4 s1 Hs1 => ?_)
  refine PR.ite (fun _ => ?_) (fun _ => ?_)
  · exact PR.some Hs1
  · exact PR.some Hs1
def W_j_X6_text_87 : List Nat := [16000, 16001, 16002, 16003, 16004, 16005, 16006, 16007, 16008, 17001, 18998, 18999, 30001, 31998, 31999]
theorem fr_j_X6_text_87 (x2 : Int) (s : vS) : PR (W_j_X6_text_87) s (fun q => q.2) (j_X6_text_87 x2 s) := by
  unfold j_X6_text_87
  have Hs : Fr (W_j_X6_text_87) s s := Fr.rfl
  refine PR.bd (PR.pure Hs (fr_f_X2_size 32 s)) (fun r4 s1 Hs1 => ?_)
  refine PR.ite (fun _ => ?_) (fun _ => ?_)
  · exact PR.call Hs1 (fr_j_X6_text_114 0 r4 1 s1) (by decide +kernel)
  · exact PR.call Hs1 (fr_j_X6_text_114 0 r4 0 s1) (by decide +kernel)
def W_f_X6_text : List Nat := [16000, 16001, 16002, 16003, 16004, 16005, 16006, 16007, 16008, 17001, 18998, 18999, 30001, 31998, 31999, 32001, 33998, 33999, 43001]
theorem fr_f_X6_text (x1 : Int) (x2 : Int) (s : vS) : PR (W_f_X6_text) s (fun q => q.2) (f_X6_text x1 x2 s) := by
  unfold f_X6_text
  have Hs : Fr (W_f_X6_text) s s := Fr.rfl
  refine PR.bdv (PR.call Hs (fr_f_X2_clear 32 s) (by decide +kernel)) (fun s1 Hs1 => ?_)
  refine PR.gd ?_
  refine PR.bd (PR.pure Hs1 (fr_f_X3_start x1 s1)) (fun r8 s5 Hs5 => ?_)
  refine PR.vl (fun y10 => ?_)
  refine PR.lq_0 (PR.call Hs5 (fr_l_X6_text_18 FU x1 x2 y10 s5) (by decide +kernel)) (fun s13 Hs13 => ?_)
  refine PR.ite (fun _ => ?_) (fun _ => ?_)
  · exact PR.call Hs13 (fr_j_X6_text_87 x2 s13) (by decide +kernel)
  · refine PR.ite (fun _ => ?_) (fun _ => ?_)
    · exact PR.call Hs13 (fr_j_X6_text_87 x2 s13) (by decide +kernel)
    · refine PR.bd (PR.pure Hs13 (fr_f_X2_size 32 s13)) (fun r20 s17 Hs17 => ?_)
      refine PR.bdv (PR.call Hs17 (fr_f_X2_all 30 32 0 r20 s17) (by decide +kernel)) (fun s22 Hs22 => ?_)
      refine PR.bd (PR.pure Hs22 (fr_f_X2_size 32 s22)) (fun r28 s25 Hs25 => ?_)
      refine PR.bd (PR.call Hs25 (fr_f_X11_isString 43 x2 32 0 r28 s25) (by decide +kernel)) (fun r33 s30 Hs30 => ?_)
      refine PR.gd ?_
      exact PR.some Hs30
def W_j_X6_write_120 : List Nat := [30001, 31998, 31999]
theorem fr_j_X6_write_120 (x4 : Int) (z1 : Int) (s : vS) : PR (W_j_X6_write_120) s (fun q => q.2) (j_X6_write_120 x4 z1 s) := by
  unfold j_X6_write_120
  have Hs : Fr (W_j_X6_write_120) s s := Fr.rfl
  refine PR.bdv (PR.call Hs (fr_f_X2_add 30 z1 s) (by decide +kernel)) (fun s1 Hs1 => ?_)
  refine PR.ite (fun _ => ?_) (fun _ => ?_)
  · exact PR.some Hs1
  · refine PR.ite (fun _ => ?_) (fun _ => ?_)
    · exact PR.some Hs1
    · exact PR.some Hs1
def W_j_X6_write_231 : List Nat := [30001, 31998, 31999]
theorem fr_j_X6_write_231 (z1 : Int) (s : vS) : PR (W_j_X6_write_231) s (fun q => q.2) (j_X6_write_231 z1 s) := by
  unfold j_X6_write_231
  have Hs : Fr (W_j_X6_write_231) s s := Fr.rfl
  refine PR.bdv (PR.call Hs (fr_f_X7_write 14 z1 30 s) (by decide +kernel)) (fun s1 Hs1 => ?_)
  exact PR.some Hs1
def W_j_X6_write_268 : List Nat := [30001, 31998, 31999]
theorem fr_j_X6_write_268 (z1 : Int) (z2 : Int) (s : vS) : PR (W_j_X6_write_268) s (fun q => q.2) (j_X6_write_268 z1 z2 s) := by
  unfold j_X6_write_268
  have Hs : Fr (W_j_X6_write_268) s s := Fr.rfl
  refine PR.bd (PR.call Hs (fr_f_X6_digits z1 z2 1 s) (by decide +kernel)) (fun r4 s1 Hs1 => ?_)
  refine PR.gd ?_
  exact PR.some Hs1
def W_j_X6_write_253 : List Nat := [30001, 31998, 31999]
theorem fr_j_X6_write_253 (x4 : Int) (x5 : Int) (s : vS) : PR (W_j_X6_write_253) s (fun q => q.2) (j_X6_write_253 x4 x5 s) := by
  unfold j_X6_write_253
  have Hs : Fr (W_j_X6_write_253) s s := Fr.rfl
  refine PR.ite (fun _ => ?_) (fun _ => ?_)
  · exact PR.call Hs (fr_j_X6_write_268 x5 1 s) (by decide +kernel)
  · exact PR.call Hs (fr_j_X6_write_268 x5 0 s) (by decide +kernel)
def W_j_X6_write_325 : List Nat := [30001, 31998, 31999]
theorem fr_j_X6_write_325 (z1 : Int) (z2 : Int) (s : vS) : PR (W_j_X6_write_325) s (fun q => q.2) (j_X6_write_325 z1 z2 s) := by
  unfold j_X6_write_325
  have Hs : Fr (W_j_X6_write_325) s s := Fr.rfl
  refine PR.bd (PR.call Hs (fr_f_X6_digits z1 z2 0 s) (by decide +kernel)) (fun r4 s1 Hs1 => ?_)
  refine PR.ite (fun _ => ?_) (fun _ => ?_)
  · exact PR.some Hs1
  · exact PR.some Hs1
def W_j_X6_write_310 : List Nat := [30001, 31998, 31999]
theorem fr_j_X6_write_310 (x4 : Int) (x5 : Int) (s : vS) : PR (W_j_X6_write_310) s (fun q => q.2) (j_X6_write_310 x4 x5 s) := by
  unfold j_X6_write_310
  have Hs : Fr (W_j_X6_write_310) s s := Fr.rfl
  refine PR.ite (fun _ => ?_) (fun _ => ?_)
  · exact PR.call Hs (fr_j_X6_write_325 x5 1 s) (by decide +kernel)
  · exact PR.call Hs (fr_j_X6_write_325 x5 0 s) (by decide +kernel)
def W_f_X6_write : List Nat := [14001, 15998, 15999, 16000, 16001, 16002, 16003, 16004, 16005, 16006, 16007, 16008, 17001, 18998, 18999, 30001, 31998, 31999, 32001, 33998, 33999, 43001, 43002, 43003]
theorem fr_f_X6_write (x1 : Int) (x2 : Int) (x3 : Int) (s : vS) : PR (W_f_X6_write) s (fun q => q.2) (f_X6_write x1 x2 x3 s) := by
  unfold f_X6_write
  have Hs : Fr (W_f_X6_write) s s := Fr.rfl
  refine PR.bd (PR.pure Hs (fr_f_X4_at x1 5 s)) (fun r4 s1 Hs1 => ?_)
  refine PR.bd (PR.pure Hs1 (fr_f_X4_lexeme x1 s1)) (fun r9 s6 Hs6 => ?_)
  refine PR.ite (fun _ => ?_) (fun _ => ?_)
  · refine PR.ite (fun _ => ?_) (fun _ => ?_)
    · exact PR.call Hs6 (fr_j_X6_write_120 r4 255 s6) (by decide +kernel)
    · exact PR.call Hs6 (fr_j_X6_write_120 r4 0 s6) (by decide +kernel)
  · refine PR.ite (fun _ => ?_) (fun _ => ?_)
    · refine PR.ite (fun _ => ?_) (fun _ => ?_)
      · exact PR.some Hs6
      · exact PR.some Hs6
    · refine PR.ite (fun _ => ?_) (fun _ => ?_)
      · refine PR.ite (fun _ => ?_) (fun _ => ?_)
        · refine PR.gd ?_
          refine PR.bdo (PR.pure Hs6 (fr_f_X3_text s6)) (fun r21 s18 Hs18 => ?_)
          refine PR.gd ?_
          refine PR.gd ?_
          refine PR.bd (PR.pure Hs18 (fr_f_X4_at x1 7 s18)) (fun r27 s24 Hs24 => ?_)
          refine PR.bd (PR.pure Hs24 (fr_f_X3_start r27 s24)) (fun r32 s29 Hs29 => ?_)
          refine PR.gd ?_
          refine PR.bd (PR.pure Hs29 (fr_f_X4_at x1 7 s29)) (fun r38 s35 Hs35 => ?_)
          refine PR.bd (PR.pure Hs35 (fr_f_X3_end r38 s35)) (fun r43 s40 Hs40 => ?_)
          refine PR.bdv (PR.call Hs40 (fr_f_X7_read 14 r21 r32 r43 s40) (by decide +kernel)) (fun s45 Hs45 => ?_)
          refine PR.bd (PR.pure Hs45 (fr_f_X4_at x1 6 s45)) (fun r51 s48 Hs48 => ?_)
          refine PR.ite (fun _ => ?_) (fun _ => ?_)
          · exact PR.call Hs48 (fr_j_X6_write_231 1 s48) (by decide +kernel)
          · exact PR.call Hs48 (fr_j_X6_write_231 0 s48) (by decide +kernel)
        · exact PR.some Hs6
      · refine PR.ite (fun _ => ?_) (fun _ => ?_)
        · exact PR.some Hs6
        · refine PR.ite (fun _ => ?_) (fun _ => ?_)
          · refine PR.ite (fun _ => ?_) (fun _ => ?_)
            · exact PR.call Hs6 (fr_j_X6_write_253 r4 r9 s6) (by decide +kernel)
            · refine PR.ite (fun _ => ?_) (fun _ => ?_)
              · exact PR.call Hs6 (fr_j_X6_write_253 r4 r9 s6) (by decide +kernel)
              · refine PR.ite (fun _ => ?_) (fun _ => ?_)
                · refine PR.bd (PR.call Hs6 (fr_f_X6_bitList x1 x2 s6) (by decide +kernel)) (fun r62 s59 Hs59 => ?_)
                  refine PR.ite (fun _ => ?_) (fun _ => ?_)
                  · exact PR.some Hs59
                  · exact PR.some Hs59
                · exact PR.some Hs6
          · refine PR.ite (fun _ => ?_) (fun _ => ?_)
            · refine PR.ite (fun _ => ?_) (fun _ => ?_)
              · exact PR.call Hs6 (fr_j_X6_write_310 r4 r9 s6) (by decide +kernel)
              · refine PR.ite (fun _ => ?_) (fun _ => ?_)
                · exact PR.call Hs6 (fr_j_X6_write_310 r4 r9 s6) (by decide +kernel)
                · exact PR.some Hs6
            · refine PR.ite (fun _ => ?_) (fun _ => ?_)
              · refine PR.ite (fun _ => ?_) (fun _ => ?_)
                · refine PR.bd (PR.call Hs6 (fr_f_X6_oid x1 s6) (by decide +kernel)) (fun r73 s70 Hs70 => ?_)
                  refine PR.ite (fun _ => ?_) (fun _ => ?_)
                  · exact PR.some Hs70
                  · exact PR.some Hs70
                · exact PR.some Hs6
              · refine PR.ite (fun _ => ?_) (fun _ => ?_)
                · refine PR.ite (fun _ => ?_) (fun _ => ?_)
                  · refine PR.bd (PR.call Hs6 (fr_f_X6_text r9 x3 s6) (by decide +kernel)) (fun r81 s78 Hs78 => ?_)
                    refine PR.ite (fun _ => ?_) (fun _ => ?_)
                    · exact PR.some Hs78
                    · exact PR.some Hs78
                  · exact PR.some Hs6
                · refine PR.ite (fun _ => ?_) (fun _ => ?_)
                  · refine PR.ite (fun _ => ?_) (fun _ => ?_)
                    · refine PR.bd (PR.call Hs6 (fr_f_X6_text r9 x3 s6) (by decide +kernel)) (fun r89 s86 Hs86 => ?_)
                      refine PR.ite (fun _ => ?_) (fun _ => ?_)
                      · exact PR.some Hs86
                      · exact PR.some Hs86
                    · exact PR.some Hs6
                  · refine PR.ite (fun _ => ?_) (fun _ => ?_)
                    · refine PR.ite (fun _ => ?_) (fun _ => ?_)
                      · refine PR.bd (PR.call Hs6 (fr_f_X6_text r9 x3 s6) (by decide +kernel)) (fun r97 s94 Hs94 => ?_)
                        refine PR.ite (fun _ => ?_) (fun _ => ?_)
                        · exact PR.some Hs94
                        · exact PR.some Hs94
                      · exact PR.some Hs6
                    · refine PR.ite (fun _ => ?_) (fun _ => ?_)
                      · refine PR.ite (fun _ => ?_) (fun _ => ?_)
                        · refine PR.bd (PR.call Hs6 (fr_f_X6_text r9 x3 s6) (by decide +kernel)) (fun r105 s102 Hs102 => ?_)
                          refine PR.ite (fun _ => ?_) (fun _ => ?_)
                          · exact PR.some Hs102
                          · exact PR.some Hs102
                        · exact PR.some Hs6
                      · refine PR.ite (fun _ => ?_) (fun _ => ?_)
                        · refine PR.ite (fun _ => ?_) (fun _ => ?_)
                          · refine PR.bd (PR.call Hs6 (fr_f_X6_text r9 x3 s6) (by decide +kernel)) (fun r113 s110 Hs110 => ?_)
                            refine PR.ite (fun _ => ?_) (fun _ => ?_)
                            · exact PR.some Hs110
                            · exact PR.some Hs110
                          · exact PR.some Hs6
                        · refine PR.ite (fun _ => ?_) (fun _ => ?_)
                          · refine PR.ite (fun _ => ?_) (fun _ => ?_)
                            · refine PR.bd (PR.pure Hs6 (fr_f_X4_parts x1 s6)) (fun r121 s118 Hs118 => ?_)
                              refine PR.ite (fun _ => ?_) (fun _ => ?_)
                              · refine PR.bd (PR.pure Hs118 (fr_f_X6_mayBeEmpty x2 s118)) (fun r127 s124 Hs124 => ?_)
                                refine PR.ite (fun _ => ?_) (fun _ => ?_)
                                · exact PR.some Hs124
                                · exact PR.some Hs124
                              · exact PR.some Hs118
                            · exact PR.some Hs6
                          · refine PR.ite (fun _ => ?_) (fun _ => ?_)
                            · refine PR.ite (fun _ => ?_) (fun _ => ?_)
                              · refine PR.bd (PR.pure Hs6 (fr_f_X4_parts x1 s6)) (fun r135 s132 Hs132 => ?_)
                                refine PR.ite (fun _ => ?_) (fun _ => ?_)
                                · refine PR.bd (PR.pure Hs132 (fr_f_X6_mayBeEmpty x2 s132)) (fun r141 s138 Hs138 => ?_)
                                  refine PR.ite (fun _ => ?_) (fun _ => ?_)
                                  · exact PR.some Hs138
                                  · exact PR.some Hs138
                                · exact PR.some Hs132
                              · exact PR.some Hs6
                            · refine PR.ite (fun _ => ?_) (fun _ => ?_)
                              · refine PR.ite (fun _ => ?_) (fun _ => ?_)
                                · refine PR.bd (PR.pure Hs6 (fr_f_X4_parts x1 s6)) (fun r149 s146 Hs146 => ?_)
                                  refine PR.ite (fun _ => ?_) (fun _ => ?_)
                                  · refine PR.bd (PR.pure Hs146 (fr_f_X6_mayBeEmpty x2 s146)) (fun r155 s152 Hs152 => ?_)
                                    refine PR.ite (fun _ => ?_) (fun _ => ?_)
                                    · exact PR.some Hs152
                                    · exact PR.some Hs152
                                  · exact PR.some Hs146
                                · exact PR.some Hs6
                              · refine PR.ite (fun _ => ?_) (fun _ => ?_)
                                · refine PR.ite (fun _ => ?_) (fun _ => ?_)
                                  · refine PR.bd (PR.pure Hs6 (fr_f_X4_parts x1 s6)) (fun r163 s160 Hs160 => ?_)
                                    refine PR.ite (fun _ => ?_) (fun _ => ?_)
                                    · refine PR.bd (PR.pure Hs160 (fr_f_X6_mayBeEmpty x2 s160)) (fun r169 s166 Hs166 => ?_)
                                      refine PR.ite (fun _ => ?_) (fun _ => ?_)
                                      · exact PR.some Hs166
                                      · exact PR.some Hs166
                                    · exact PR.some Hs160
                                  · exact PR.some Hs6
                                · refine PR.ite (fun _ => ?_) (fun _ => ?_)
                                  · exact PR.some Hs6
                                  · refine PR.ite (fun _ => ?_) (fun _ => ?_)
                                    · refine PR.bd (PR.pure Hs6 (fr_f_X4_parts x1 s6)) (fun r177 s174 Hs174 => ?_)
                                      refine PR.ite (fun _ => ?_) (fun _ => ?_)
                                      · refine PR.bd (PR.pure Hs174 (fr_f_X6_mayBeEmpty x2 s174)) (fun r183 s180 Hs180 => ?_)
                                        refine PR.ite (fun _ => ?_) (fun _ => ?_)
                                        · exact PR.some Hs180
                                        · exact PR.some Hs180
                                      · exact PR.some Hs174
                                    · exact PR.some Hs6
def W_f_X6_constant : List Nat := [14001, 15998, 15999, 16000, 16001, 16002, 16003, 16004, 16005, 16006, 16007, 16008, 17001, 18998, 18999, 30001, 31998, 31999, 32001, 33998, 33999, 34999, 35999, 38999, 39999, 41998, 41999, 43001, 43002, 43003]
def W_f_X6_evaluate : List Nat := [14001, 15998, 15999, 16000, 16001, 16002, 16003, 16004, 16005, 16006, 16007, 16008, 17001, 18998, 18999, 30001, 31998, 31999, 32001, 33998, 33999, 34999, 35999, 38999, 39999, 41998, 41999, 43001, 43002, 43003]
theorem fr_f_X6_evaluate (fr : Nat) (lr : Nat) (rcf : RT_X6_constant) (hrcf : ∀ (y0 : Int) (s : vS), PR W_f_X6_constant s (fun q => q.2) (rcf y0 s)) (x1 : Int) (x2 : Int) (s : vS) : PR (W_f_X6_evaluate) s (fun q => q.2) (f_X6_evaluate fr lr rcf x1 x2 s) := by
  unfold f_X6_evaluate
  have Hs : Fr (W_f_X6_evaluate) s s := Fr.rfl
  refine PR.bd (PR.call Hs (fr_f_X6_base x2 s) (by decide +kernel)) (fun r4 s1 Hs1 => ?_)
  refine PR.bd (PR.pure Hs1 (fr_f_X4_kind r4 s1)) (fun r9 s6 Hs6 => ?_)
  refine PR.bd (PR.pure Hs6 (fr_f_X4_at x1 5 s6)) (fun r14 s11 Hs11 => ?_)
  refine PR.ite (fun _ => ?_) (fun _ => ?_)
  · refine PR.bd (PR.pure Hs11 (fr_f_X4_lexeme x1 s11)) (fun r50 s47 Hs47 => ?_)
    refine PR.bd (PR.call Hs47 (fr_f_X6_itemOf x2 r50 1 s47) (by decide +kernel)) (fun r55 s52 Hs52 => ?_)
    refine PR.ite (fun _ => ?_) (fun _ => ?_)
    · refine PR.bd (PR.pure Hs52 (fr_f_X4_lexeme x1 s52)) (fun r61 s58 Hs58 => ?_)
      refine PR.bd (PR.pure Hs58 (fr_f_X9_find 22 r61 s58)) (fun r66 s63 Hs63 => ?_)
      refine PR.bd (PR.pure Hs63 (fr_f_X4_parts r66 s63)) (fun r71 s68 Hs68 => ?_)
      refine PR.bd (PR.call Hs68 (fr_f_X6_base r71 s68) (by decide +kernel)) (fun r76 s73 Hs73 => ?_)
      refine PR.bd (PR.pure Hs73 (fr_f_X4_kind r76 s73)) (fun r81 s78 Hs78 => ?_)
      refine PR.ite (fun _ => ?_) (fun _ => ?_)
      · refine PR.bd (PR.call Hs78 (hrcf r66 s78) (by decide +kernel)) (fun r87 s84 Hs84 => ?_)
        refine PR.ite (fun _ => ?_) (fun _ => ?_)
        · exact PR.some Hs84
        · refine PR.bd (PR.pure Hs84 (fr_f_X4_limits r66 s84)) (fun r93 s90 Hs90 => ?_)
          refine PR.bd (PR.call Hs90 (fr_f_X6_copy x1 r93 s90) (by decide +kernel)) (fun r98 s95 Hs95 => ?_)
          refine PR.ite (fun _ => ?_) (fun _ => ?_)
          · exact PR.some Hs95
          · refine PR.bd (PR.call Hs95 (fr_f_X6_holds x1 x2 r4 s95) (by decide +kernel)) (fun r104 s101 Hs101 => ?_)
            refine PR.ite (fun _ => ?_) (fun _ => ?_)
            · exact PR.some Hs101
            · exact PR.some Hs101
      · exact PR.some Hs78
    · refine PR.bd (PR.call Hs52 (fr_f_X6_copy x1 r55 s52) (by decide +kernel)) (fun r110 s107 Hs107 => ?_)
      refine PR.ite (fun _ => ?_) (fun _ => ?_)
      · exact PR.some Hs107
      · refine PR.bd (PR.call Hs107 (fr_f_X6_holds x1 x2 r4 s107) (by decide +kernel)) (fun r116 s113 Hs113 => ?_)
        refine PR.ite (fun _ => ?_) (fun _ => ?_)
        · exact PR.some Hs113
        · exact PR.some Hs113
  · refine PR.bd (PR.pure Hs11 (fr_f_X2_size 30 s11)) (fun r20 s17 Hs17 => ?_)
    refine PR.gd ?_
    refine PR.gd ?_
    refine PR.stp (Fr.wE Hs17 (by decide +kernel)) (fun s24 Hs24 => ?_)
    refine PR.bd (PR.call Hs24 (fr_f_X6_write x1 r4 r9 s24) (by decide +kernel)) (fun r29 s26 Hs26 => ?_)
    refine PR.bd (PR.pure Hs26 (fr_f_X2_size 30 s26)) (fun r34 s31 Hs31 => ?_)
    refine PR.gd ?_
    refine PR.gd ?_
    refine PR.stp (Fr.wE Hs31 (by decide +kernel)) (fun s38 Hs38 => ?_)
    refine PR.ite (fun _ => ?_) (fun _ => ?_)
    · exact PR.some Hs38
    · refine PR.bd (PR.call Hs38 (fr_f_X6_holds x1 x2 r4 s38) (by decide +kernel)) (fun r44 s41 Hs41 => ?_)
      refine PR.ite (fun _ => ?_) (fun _ => ?_)
      · exact PR.some Hs41
      · exact PR.some Hs41
def W_l_X6_constant_4 : List Nat := [39999, 41998, 41999]
theorem fr_l_X6_constant_4 (fr : Nat) (lr : Nat) (rcf : RT_X6_constant) (hrcf : ∀ (y0 : Int) (s : vS), PR W_f_X6_constant s (fun q => q.2) (rcf y0 s)) : ∀ (n : Nat) (x1 : Int) (x2 : Int) (x3 : Int) (s : vS), PR (W_l_X6_constant_4) s (fun q => q.2) (l_X6_constant_4 fr lr rcf n x1 x2 x3 s)
  := by
  intro n
  induction n with
  | zero => intro x1 x2 x3 s; exact PR.none
  | succ n ih =>
    intro x1 x2 x3 s
    unfold l_X6_constant_4
    have Hs : Fr (W_l_X6_constant_4) s s := Fr.rfl
    refine PR.ite (fun _ => ?_) (fun _ => ?_)
    · exact PR.some Hs
    · refine PR.gd ?_
      refine PR.ite (fun _ => ?_) (fun _ => ?_)
      · refine PR.bd (PR.pure Hs (fr_f_X6_grown 41 (w32 (x2 + 1)) s)) (fun r7 s8 Hs8 => ?_)
        refine PR.gd ?_
        refine PR.stp (Fr.wgrw Hs8 (by decide +kernel) (by decide +kernel)) (fun s12 Hs12 => ?_)
        refine PR.gd ?_
        refine PR.stp (Fr.wE Hs12 (by decide +kernel)) (fun s15 Hs15 => ?_)
        refine PR.vl (fun y17 => ?_)
        refine PR.bd (PR.call Hs15 (fr_f_X6_follow x3 s15) (by decide +kernel)) (fun r23 s20 Hs20 => ?_)
        exact PR.tail Hs20 (ih x1 y17 r23 s20)
      · exact PR.some Hs
def W_l_X6_constant_51 : List Nat := [14001, 15998, 15999, 16000, 16001, 16002, 16003, 16004, 16005, 16006, 16007, 16008, 17001, 18998, 18999, 30001, 31998, 31999, 32001, 33998, 33999, 34999, 35999, 38999, 39999, 41998, 41999, 43001, 43002, 43003]
theorem fr_l_X6_constant_51 (fr : Nat) (lr : Nat) (rcf : RT_X6_constant) (hrcf : ∀ (y0 : Int) (s : vS), PR W_f_X6_constant s (fun q => q.2) (rcf y0 s)) : ∀ (n : Nat) (x1 : Int) (x2 : Int) (s : vS), PR (W_l_X6_constant_51) s (fun q => q) (l_X6_constant_51 fr lr rcf n x1 x2 s)
  := by
  intro n
  induction n with
  | zero => intro x1 x2 s; exact PR.none
  | succ n ih =>
    intro x1 x2 s
    unfold l_X6_constant_51
    have Hs : Fr (W_l_X6_constant_51) s s := Fr.rfl
    refine PR.ite (fun _ => ?_) (fun _ => ?_)
    · exact PR.some Hs
    · refine PR.vl (fun y2 => ?_)
      refine PR.gd ?_
      refine PR.vl (fun y6 => ?_)
      refine PR.bd (PR.pure Hs (fr_f_X4_limits y6 s)) (fun r12 s9 Hs9 => ?_)
      refine PR.gd ?_
      refine PR.bd (PR.pure Hs9 (fr_f_X4_parts y6 s9)) (fun r18 s15 Hs15 => ?_)
      refine PR.gd ?_
      refine PR.bd (PR.call Hs15 (fr_f_X6_evaluate fr lr rcf hrcf r12 r18 s15) (by decide +kernel)) (fun r24 s21 Hs21 => ?_)
      refine PR.gd ?_
      refine PR.ite (fun _ => ?_) (fun _ => ?_)
      · refine PR.gd ?_
        refine PR.stp (Fr.wE Hs21 (by decide +kernel)) (fun s29 Hs29 => ?_)
        exact PR.tail Hs29 (ih x1 y2 s29)
      · refine PR.gd ?_
        refine PR.stp (Fr.wE Hs21 (by decide +kernel)) (fun s32 Hs32 => ?_)
        exact PR.tail Hs32 (ih x1 y2 s32)
theorem fr_f_X6_constant (fr : Nat) (lr : Nat) (rcf : RT_X6_constant) (hrcf : ∀ (y0 : Int) (s : vS), PR W_f_X6_constant s (fun q => q.2) (rcf y0 s)) (x1 : Int) (s : vS) : PR (W_f_X6_constant) s (fun q => q.2) (f_X6_constant fr lr rcf x1 s) := by
  unfold f_X6_constant
  have Hs : Fr (W_f_X6_constant) s s := Fr.rfl
  refine PR.lq_1 (PR.call Hs (fr_l_X6_constant_4 fr lr rcf hrcf FU x1 0 x1 s) (by decide +kernel)) (fun y1 s2 Hs2 => ?_)
  refine PR.lq_0 (PR.call Hs2 (fr_l_X6_constant_51 fr lr rcf hrcf FU x1 y1 s2) (by decide +kernel)) (fun s5 Hs5 => ?_)
  refine PR.gd ?_
  refine PR.ite (fun _ => ?_) (fun _ => ?_)
  · exact PR.some Hs5
  · exact PR.some Hs5
theorem fr_d_X6_constant : ∀ (d : Nat) (x1 : Int) (s : vS), PR W_f_X6_constant s (fun q => q.2) (d_X6_constant d x1 s)
  | 0, _, _ => PR.none
  | d + 1, x1, s => fr_f_X6_constant _ _ _ (fr_d_X6_constant d) x1 s
def W_l_X6_valued_2 : List Nat := [38999]
theorem fr_l_X6_valued_2 : ∀ (n : Nat) (x1 : Int) (s : vS), PR (W_l_X6_valued_2) s (fun q => q) (l_X6_valued_2 n x1 s)
  := by
  intro n
  induction n with
  | zero => intro x1 s; exact PR.none
  | succ n ih =>
    intro x1 s
    unfold l_X6_valued_2
    have Hs : Fr (W_l_X6_valued_2) s s := Fr.rfl
    refine PR.bd (PR.pure Hs (fr_f_X4_size s)) (fun r4 s1 Hs1 => ?_)
    refine PR.ite (fun _ => ?_) (fun _ => ?_)
    · exact PR.some Hs1
    · refine PR.gd ?_
      refine PR.stp (Fr.wE Hs1 (by decide +kernel)) (fun s8 Hs8 => ?_)
      refine PR.vl (fun y10 => ?_)
      exact PR.tail Hs8 (ih y10 s8)
def W_l_X6_valued_28 : List Nat := [13020, 13021, 14001, 15998, 15999, 16000, 16001, 16002, 16003, 16004, 16005, 16006, 16007, 16008, 17001, 18998, 18999, 30001, 31998, 31999, 32001, 33998, 33999, 34999, 35999, 38999, 39999, 41998, 41999, 43001, 43002, 43003]
theorem fr_j_X6_valued_111 (rec : Int → vS → Option (vS)) (hrec : ∀ (y0 : Int) (s : vS), PR (W_l_X6_valued_28) s (fun q => q) (rec y0 s)) (x1 : Int) (x3 : Int) (s : vS) : PR (W_l_X6_valued_28) s (fun q => q) (j_X6_valued_111 rec x1 x3 s) := by
  unfold j_X6_valued_111
  have Hs : Fr (W_l_X6_valued_28) s s := Fr.rfl
  refine PR.bd (PR.pure Hs (fr_f_X4_lexeme x3 s)) (fun r4 s1 Hs1 => ?_)
  refine PR.bdv (PR.call Hs1 (fr_f_X6_blame 12 r4 s1) (by decide +kernel)) (fun s6 Hs6 => ?_)
  refine PR.vl (fun y9 => ?_)
  exact PR.tail Hs6 (hrec y9 s6)
theorem fr_j_X6_valued_72 (rec : Int → vS → Option (vS)) (hrec : ∀ (y0 : Int) (s : vS), PR (W_l_X6_valued_28) s (fun q => q) (rec y0 s)) (x1 : Int) (x2 : Int) (z0 : Int) (s : vS) : PR (W_l_X6_valued_28) s (fun q => q) (j_X6_valued_72 rec x1 x2 z0 s) := by
  unfold j_X6_valued_72
  have Hs : Fr (W_l_X6_valued_28) s s := Fr.rfl
  refine PR.ite (fun _ => ?_) (fun _ => ?_)
  · refine PR.vl (fun y2 => ?_)
    exact PR.tail Hs (hrec y2 s)
  · refine PR.ite (fun _ => ?_) (fun _ => ?_)
    · refine PR.bd (PR.call Hs (fr_d_X6_constant 8 x1 s) (by decide +kernel)) (fun r23 s20 Hs20 => ?_)
      refine PR.ite (fun _ => ?_) (fun _ => ?_)
      · exact PR.tail Hs20 (fr_j_X6_valued_111 rec hrec x1 z0 s20)
      · refine PR.vl (fun y26 => ?_)
        exact PR.tail Hs20 (hrec y26 s20)
    · refine PR.bd (PR.pure Hs (fr_f_X4_parts x1 s)) (fun r9 s6 Hs6 => ?_)
      refine PR.bd (PR.call Hs6 (fr_f_X6_evaluate 88 2120 (d_X6_constant 8) (fr_d_X6_constant 8) z0 r9 s6) (by decide +kernel)) (fun r14 s11 Hs11 => ?_)
      refine PR.ite (fun _ => ?_) (fun _ => ?_)
      · exact PR.tail Hs11 (fr_j_X6_valued_111 rec hrec x1 z0 s11)
      · refine PR.vl (fun y17 => ?_)
        exact PR.tail Hs11 (hrec y17 s11)
theorem fr_j_X6_valued_60 (rec : Int → vS → Option (vS)) (hrec : ∀ (y0 : Int) (s : vS), PR (W_l_X6_valued_28) s (fun q => q) (rec y0 s)) (x1 : Int) (x2 : Int) (s : vS) : PR (W_l_X6_valued_28) s (fun q => q) (j_X6_valued_60 rec x1 x2 s) := by
  unfold j_X6_valued_60
  have Hs : Fr (W_l_X6_valued_28) s s := Fr.rfl
  refine PR.bd (PR.pure Hs (fr_f_X4_limits x1 s)) (fun r4 s1 Hs1 => ?_)
  exact PR.tail Hs1 (fr_j_X6_valued_72 rec hrec x1 x2 r4 s1)
theorem fr_l_X6_valued_28 : ∀ (n : Nat) (x1 : Int) (s : vS), PR (W_l_X6_valued_28) s (fun q => q) (l_X6_valued_28 n x1 s)
  := by
  intro n
  induction n with
  | zero => intro x1 s; exact PR.none
  | succ n ih =>
    intro x1 s
    unfold l_X6_valued_28
    have Hs : Fr (W_l_X6_valued_28) s s := Fr.rfl
    refine PR.bd (PR.pure Hs (fr_f_X4_size s)) (fun r4 s1 Hs1 => ?_)
    refine PR.ite (fun _ => ?_) (fun _ => ?_)
    · exact PR.some Hs1
    · refine PR.bd (PR.pure Hs1 (fr_f_X4_kind x1 s1)) (fun r10 s7 Hs7 => ?_)
      refine PR.ite (fun _ => ?_) (fun _ => ?_)
      · exact PR.tail Hs7 (fr_j_X6_valued_60 (l_X6_valued_28 n) ih x1 r10 s7)
      · refine PR.ite (fun _ => ?_) (fun _ => ?_)
        · exact PR.tail Hs7 (fr_j_X6_valued_60 (l_X6_valued_28 n) ih x1 r10 s7)
        · exact PR.tail Hs7 (fr_j_X6_valued_72 (l_X6_valued_28 n) ih x1 r10 (-1) s7)
def W_f_X6_valued : List Nat := [13020, 13021, 14001, 15998, 15999, 16000, 16001, 16002, 16003, 16004, 16005, 16006, 16007, 16008, 17001, 18998, 18999, 30001, 31998, 31999, 32001, 33998, 33999, 34999, 35999, 38999, 39999, 41998, 41999, 43001, 43002, 43003]
theorem fr_f_X6_valued (s : vS) : PR (W_f_X6_valued) s (fun q => q.2) (f_X6_valued s) := by
  unfold f_X6_valued
  have Hs : Fr (W_f_X6_valued) s s := Fr.rfl
  refine PR.lq_0 (PR.call Hs (fr_l_X6_valued_2 FU 0 s) (by decide +kernel)) (fun s1 Hs1 => ?_)
  refine PR.lq_0 (PR.call Hs1 (fr_l_X6_valued_28 FU 0 s1) (by decide +kernel)) (fun s3 Hs3 => ?_)
  refine PR.ite (fun _ => ?_) (fun _ => ?_)
  · exact PR.some Hs3
  · exact PR.some Hs3
def W_l_X6_check_101 : List Nat := [34999, 36999, 38999, 39999]
theorem fr_l_X6_check_101 : ∀ (n : Nat) (x2 : Int) (x3 : Int) (s : vS), PR (W_l_X6_check_101) s (fun q => q) (l_X6_check_101 n x2 x3 s)
  := by
  intro n
  induction n with
  | zero => intro x2 x3 s; exact PR.none
  | succ n ih =>
    intro x2 x3 s
    unfold l_X6_check_101
    have Hs : Fr (W_l_X6_check_101) s s := Fr.rfl
    refine PR.ite (fun _ => ?_) (fun _ => ?_)
    · exact PR.some Hs
    · refine PR.gd ?_
      refine PR.stp (Fr.wE Hs (by decide +kernel)) (fun s3 Hs3 => ?_)
      refine PR.gd ?_
      refine PR.stp (Fr.wE Hs3 (by decide +kernel)) (fun s6 Hs6 => ?_)
      refine PR.gd ?_
      refine PR.stp (Fr.wE Hs6 (by decide +kernel)) (fun s9 Hs9 => ?_)
      refine PR.gd ?_
      refine PR.stp (Fr.wE Hs9 (by decide +kernel)) (fun s12 Hs12 => ?_)
      refine PR.vl (fun y14 => ?_)
      exact PR.tail Hs12 (ih x2 y14 s12)
def W_f_X6_check : List Nat := [13000, 13018, 13020, 13021, 13023, 13024, 14001, 15998, 15999, 16000, 16001, 16002, 16003, 16004, 16005, 16006, 16007, 16008, 17001, 18998, 18999, 19000, 19003, 20998, 20999, 21998, 21999, 22000, 22003, 23998, 23999, 24998, 24999, 25000, 25003, 26998, 26999, 27998, 27999, 28001, 29998, 29999, 30001, 31998, 31999, 32001, 33998, 33999, 34998, 34999, 35998, 35999, 36998, 36999, 37998, 37999, 38998, 38999, 39998, 39999, 40998, 40999, 41998, 41999, 42998, 42999, 43001, 43002, 43003]
theorem fr_f_X6_check (s : vS) : PR (W_f_X6_check) s (fun q => q.2) (f_X6_check s) := by
  unfold f_X6_check
  have Hs : Fr (W_f_X6_check) s s := Fr.rfl
  refine PR.stp (Fr.wR Hs (by decide +kernel)) (fun s1 Hs1 => ?_)
  refine PR.bd (PR.pure Hs1 (fr_f_X4_size s1)) (fun r6 s3 Hs3 => ?_)
  refine PR.bd (PR.pure Hs3 (fr_f_X6_grown 34 r6 s3)) (fun r11 s12 Hs12 => ?_)
  refine PR.gd ?_
  refine PR.stp (Fr.wgrw Hs12 (by decide +kernel) (by decide +kernel)) (fun s16 Hs16 => ?_)
  refine PR.bd (PR.pure Hs16 (fr_f_X6_grown 35 r6 s16)) (fun r21 s22 Hs22 => ?_)
  refine PR.gd ?_
  refine PR.stp (Fr.wgrw Hs22 (by decide +kernel) (by decide +kernel)) (fun s26 Hs26 => ?_)
  refine PR.bd (PR.pure Hs26 (fr_f_X6_grown 36 r6 s26)) (fun r31 s32 Hs32 => ?_)
  refine PR.gd ?_
  refine PR.stp (Fr.wgrw Hs32 (by decide +kernel) (by decide +kernel)) (fun s36 Hs36 => ?_)
  refine PR.bd (PR.pure Hs36 (fr_f_X6_grown 37 r6 s36)) (fun r41 s42 Hs42 => ?_)
  refine PR.gd ?_
  refine PR.stp (Fr.wgrw Hs42 (by decide +kernel) (by decide +kernel)) (fun s46 Hs46 => ?_)
  refine PR.bd (PR.pure Hs46 (fr_f_X6_grown 38 r6 s46)) (fun r51 s52 Hs52 => ?_)
  refine PR.gd ?_
  refine PR.stp (Fr.wgrw Hs52 (by decide +kernel) (by decide +kernel)) (fun s56 Hs56 => ?_)
  refine PR.bd (PR.pure Hs56 (fr_f_X6_grown 39 r6 s56)) (fun r61 s62 Hs62 => ?_)
  refine PR.gd ?_
  refine PR.stp (Fr.wgrw Hs62 (by decide +kernel) (by decide +kernel)) (fun s66 Hs66 => ?_)
  refine PR.bd (PR.pure Hs66 (fr_f_X6_grown 41 (w32 (r6 + 1)) s66)) (fun r71 s72 Hs72 => ?_)
  refine PR.gd ?_
  refine PR.stp (Fr.wgrw Hs72 (by decide +kernel) (by decide +kernel)) (fun s76 Hs76 => ?_)
  refine PR.lq_0 (PR.call Hs76 (fr_l_X6_check_101 FU r6 0 s76) (by decide +kernel)) (fun s78 Hs78 => ?_)
  refine PR.bdv (PR.call Hs78 (fr_f_X2_clear 30 s78) (by decide +kernel)) (fun s80 Hs80 => ?_)
  refine PR.stp (Fr.wI Hs80 (by decide +kernel)) (fun s83 Hs83 => ?_)
  refine PR.stp (Fr.wI Hs83 (by decide +kernel)) (fun s85 Hs85 => ?_)
  refine PR.stp (Fr.wI Hs85 (by decide +kernel)) (fun s87 Hs87 => ?_)
  refine PR.gd ?_
  refine PR.bdv (PR.call Hs87 (fr_f_X9_clear 19 s87) (by decide +kernel)) (fun s90 Hs90 => ?_)
  refine PR.gd ?_
  refine PR.bdv (PR.call Hs90 (fr_f_X9_clear 22 s90) (by decide +kernel)) (fun s94 Hs94 => ?_)
  refine PR.bd (PR.call Hs94 (fr_f_X6_assigned s94) (by decide +kernel)) (fun r100 s97 Hs97 => ?_)
  refine PR.ite (fun _ => ?_) (fun _ => ?_)
  · exact PR.some Hs97
  · refine PR.bd (PR.call Hs97 (fr_f_X6_lists s97) (by decide +kernel)) (fun r106 s103 Hs103 => ?_)
    refine PR.ite (fun _ => ?_) (fun _ => ?_)
    · exact PR.some Hs103
    · refine PR.bd (PR.call Hs103 (fr_f_X6_known s103) (by decide +kernel)) (fun r112 s109 Hs109 => ?_)
      refine PR.ite (fun _ => ?_) (fun _ => ?_)
      · exact PR.some Hs109
      · refine PR.bd (PR.call Hs109 (fr_f_X6_finite s109) (by decide +kernel)) (fun r118 s115 Hs115 => ?_)
        refine PR.ite (fun _ => ?_) (fun _ => ?_)
        · exact PR.some Hs115
        · refine PR.bd (PR.call Hs115 (fr_f_X6_tagged s115) (by decide +kernel)) (fun r124 s121 Hs121 => ?_)
          refine PR.ite (fun _ => ?_) (fun _ => ?_)
          · exact PR.some Hs121
          · refine PR.bd (PR.call Hs121 (fr_f_X6_distinct s121) (by decide +kernel)) (fun r130 s127 Hs127 => ?_)
            refine PR.ite (fun _ => ?_) (fun _ => ?_)
            · exact PR.some Hs127
            · refine PR.bd (PR.call Hs127 (fr_f_X6_straight s127) (by decide +kernel)) (fun r136 s133 Hs133 => ?_)
              refine PR.ite (fun _ => ?_) (fun _ => ?_)
              · exact PR.some Hs133
              · refine PR.bd (PR.call Hs133 (fr_f_X6_bounded s133) (by decide +kernel)) (fun r142 s139 Hs139 => ?_)
                refine PR.ite (fun _ => ?_) (fun _ => ?_)
                · exact PR.some Hs139
                · refine PR.bd (PR.call Hs139 (fr_f_X6_valued s139) (by decide +kernel)) (fun r148 s145 Hs145 => ?_)
                  refine PR.ite (fun _ => ?_) (fun _ => ?_)
                  · exact PR.some Hs145
                  · exact PR.some Hs145
def W_f_X6_fault : List Nat := []
theorem fr_f_X6_fault (s : vS) : PR (W_f_X6_fault) s (fun q => q.2) (f_X6_fault s) := by
  unfold f_X6_fault
  have Hs : Fr (W_f_X6_fault) s s := Fr.rfl
  exact PR.some Hs
def W_f_X6_place : List Nat := []
theorem fr_f_X6_place (s : vS) : PR (W_f_X6_place) s (fun q => q.2) (f_X6_place s) := by
  unfold f_X6_place
  have Hs : Fr (W_f_X6_place) s s := Fr.rfl
  exact PR.some Hs
def W_j_X1_assign_40 : List Nat := [10, 86999]
theorem fr_j_X1_assign_40 (x1 : Int) (s : vS) : PR (W_j_X1_assign_40) s (fun q => q) (j_X1_assign_40 x1 s) := by
  unfold j_X1_assign_40
  have Hs : Fr (W_j_X1_assign_40) s s := Fr.rfl
  refine PR.gd ?_
  refine PR.stp (Fr.wE Hs (by decide +kernel)) (fun s2 Hs2 => ?_)
  refine PR.stp (Fr.wI Hs2 (by decide +kernel)) (fun s4 Hs4 => ?_)
  exact PR.some Hs4
def W_f_X1_assign : List Nat := [10, 86998, 86999]
theorem fr_f_X1_assign (x1 : Int) (s : vS) : PR (W_f_X1_assign) s (fun q => q) (f_X1_assign x1 s) := by
  unfold f_X1_assign
  have Hs : Fr (W_f_X1_assign) s s := Fr.rfl
  refine PR.ite (fun _ => ?_) (fun _ => ?_)
  · refine PR.gd ?_
    refine PR.stp (Fr.wAT Hs (by decide)) (fun s3 Hs3 => ?_)
    refine PR.gd ?_
    refine PR.stp (Fr.wcpT Hs3 (by decide)) (fun s6 Hs6 => ?_)
    refine PR.gd ?_
    refine PR.stp (Fr.wswT Hs6 (by decide) (by decide +kernel) (by decide +kernel)) (fun s9 Hs9 => ?_)
    refine PR.stp (Fr.wrs Hs9) (fun s11 Hs11 => ?_)
    exact PR.call Hs11 (fr_j_X1_assign_40 x1 s11) (by decide +kernel)
  · exact PR.call Hs (fr_j_X1_assign_40 x1 s) (by decide +kernel)
def W_l_X1_compile_138 : List Nat := [10, 86998, 86999]
theorem fr_j_X1_compile_161 (rec : Int → vS → Option (vS)) (hrec : ∀ (y0 : Int) (s : vS), PR (W_l_X1_compile_138) s (fun q => q) (rec y0 s)) (x2 : Int) (s : vS) : PR (W_l_X1_compile_138) s (fun q => q) (j_X1_compile_161 rec x2 s) := by
  unfold j_X1_compile_161
  have Hs : Fr (W_l_X1_compile_138) s s := Fr.rfl
  refine PR.bd (PR.pure Hs (fr_f_X4_next x2 s)) (fun r4 s1 Hs1 => ?_)
  exact PR.tail Hs1 (hrec r4 s1)
theorem fr_l_X1_compile_138 : ∀ (n : Nat) (x2 : Int) (s : vS), PR (W_l_X1_compile_138) s (fun q => q) (l_X1_compile_138 n x2 s)
  := by
  intro n
  induction n with
  | zero => intro x2 s; exact PR.none
  | succ n ih =>
    intro x2 s
    unfold l_X1_compile_138
    have Hs : Fr (W_l_X1_compile_138) s s := Fr.rfl
    refine PR.ite (fun _ => ?_) (fun _ => ?_)
    · exact PR.some Hs
    · refine PR.bd (PR.pure Hs (fr_f_X4_kind x2 s)) (fun r5 s2 Hs2 => ?_)
      refine PR.ite (fun _ => ?_) (fun _ => ?_)
      · refine PR.bdv (PR.call Hs2 (fr_f_X1_assign x2 s2) (by decide +kernel)) (fun s8 Hs8 => ?_)
        exact PR.tail Hs8 (fr_j_X1_compile_161 (l_X1_compile_138 n) ih x2 s8)
      · exact PR.tail Hs2 (fr_j_X1_compile_161 (l_X1_compile_138 n) ih x2 s2)
def W_f_X1_typeOf : List Nat := []
theorem fr_f_X1_typeOf (x1 : Int) (s : vS) : PR (W_f_X1_typeOf) s (fun q => q.2) (f_X1_typeOf x1 s) := by
  unfold f_X1_typeOf
  have Hs : Fr (W_f_X1_typeOf) s s := Fr.rfl
  refine PR.gd ?_
  refine PR.bd (PR.pure Hs (fr_f_X4_parts (gE s 86 x1) s)) (fun r5 s2 Hs2 => ?_)
  exact PR.some Hs2
def W_f_X1_nameFrom : List Nat := []
theorem fr_f_X1_nameFrom (x1 : Int) (s : vS) : PR (W_f_X1_nameFrom) s (fun q => q.2) (f_X1_nameFrom x1 s) := by
  unfold f_X1_nameFrom
  have Hs : Fr (W_f_X1_nameFrom) s s := Fr.rfl
  refine PR.gd ?_
  refine PR.bd (PR.pure Hs (fr_f_X4_lexeme (gE s 86 x1) s)) (fun r5 s2 Hs2 => ?_)
  refine PR.bd (PR.pure Hs2 (fr_f_X3_start r5 s2)) (fun r10 s7 Hs7 => ?_)
  exact PR.some Hs7
def W_f_X1_nameLength : List Nat := []
theorem fr_f_X1_nameLength (x1 : Int) (s : vS) : PR (W_f_X1_nameLength) s (fun q => q.2) (f_X1_nameLength x1 s) := by
  unfold f_X1_nameLength
  have Hs : Fr (W_f_X1_nameLength) s s := Fr.rfl
  refine PR.gd ?_
  refine PR.bd (PR.pure Hs (fr_f_X4_lexeme (gE s 86 x1) s)) (fun r5 s2 Hs2 => ?_)
  refine PR.bd (PR.pure Hs2 (fr_f_X3_end r5 s2)) (fun r10 s7 Hs7 => ?_)
  refine PR.bd (PR.pure Hs7 (fr_f_X1_nameFrom x1 s7)) (fun r15 s12 Hs12 => ?_)
  exact PR.some Hs12
def W_l_X1_parts_37 : List Nat := []
theorem fr_l_X1_parts_37 : ∀ (n : Nat) (x2 : Int) (x3 : Int) (s : vS), PR (W_l_X1_parts_37) s (fun q => q.2) (l_X1_parts_37 n x2 x3 s)
  := by
  intro n
  induction n with
  | zero => intro x2 x3 s; exact PR.none
  | succ n ih =>
    intro x2 x3 s
    unfold l_X1_parts_37
    have Hs : Fr (W_l_X1_parts_37) s s := Fr.rfl
    refine PR.ite (fun _ => ?_) (fun _ => ?_)
    · exact PR.some Hs
    · refine PR.vl (fun y2 => ?_)
      refine PR.bd (PR.pure Hs (fr_f_X4_next x3 s)) (fun r8 s5 Hs5 => ?_)
      exact PR.tail Hs5 (ih y2 r8 s5)
def W_f_X1_parts : List Nat := []
theorem fr_f_X1_parts (x1 : Int) (s : vS) : PR (W_f_X1_parts) s (fun q => q.2) (f_X1_parts x1 s) := by
  unfold f_X1_parts
  have Hs : Fr (W_f_X1_parts) s s := Fr.rfl
  refine PR.bd (PR.pure Hs (fr_f_X4_kind x1 s)) (fun r4 s1 Hs1 => ?_)
  refine PR.ite (fun _ => ?_) (fun _ => ?_)
  · exact PR.some Hs1
  · refine PR.bd (PR.pure Hs1 (fr_f_X4_kind x1 s1)) (fun r10 s7 Hs7 => ?_)
    refine PR.ite (fun _ => ?_) (fun _ => ?_)
    · exact PR.some Hs7
    · refine PR.bd (PR.pure Hs7 (fr_f_X4_parts x1 s7)) (fun r16 s13 Hs13 => ?_)
      refine PR.lq_1 (PR.pure Hs13 (fr_l_X1_parts_37 FU 0 r16 s13)) (fun y18 s19 Hs19 => ?_)
      exact PR.some Hs19
def W_f_X6_tagCount : List Nat := []
theorem fr_f_X6_tagCount (x1 : Int) (s : vS) : PR (W_f_X6_tagCount) s (fun q => q.2) (f_X6_tagCount x1 s) := by
  unfold f_X6_tagCount
  have Hs : Fr (W_f_X6_tagCount) s s := Fr.rfl
  refine PR.gd ?_
  exact PR.some Hs
def W_f_X6_valueTo : List Nat := []
theorem fr_f_X6_valueTo (x1 : Int) (s : vS) : PR (W_f_X6_valueTo) s (fun q => q.2) (f_X6_valueTo x1 s) := by
  unfold f_X6_valueTo
  have Hs : Fr (W_f_X6_valueTo) s s := Fr.rfl
  refine PR.bd (PR.pure Hs (fr_f_X4_limits x1 s)) (fun r4 s1 Hs1 => ?_)
  refine PR.gd ?_
  refine PR.gd ?_
  exact PR.some Hs1
def W_f_X6_valueFrom : List Nat := []
theorem fr_f_X6_valueFrom (x1 : Int) (s : vS) : PR (W_f_X6_valueFrom) s (fun q => q.2) (f_X6_valueFrom x1 s) := by
  unfold f_X6_valueFrom
  have Hs : Fr (W_f_X6_valueFrom) s s := Fr.rfl
  refine PR.bd (PR.pure Hs (fr_f_X4_limits x1 s)) (fun r4 s1 Hs1 => ?_)
  refine PR.gd ?_
  refine PR.gd ?_
  exact PR.some Hs1
def W_l_X1_defaultSize_73 : List Nat := []
theorem fr_l_X1_defaultSize_73 : ∀ (n : Nat) (x2 : Int) (x4 : Int) (x5 : Int) (s : vS), PR (W_l_X1_defaultSize_73) s (fun q => q.2) (l_X1_defaultSize_73 n x2 x4 x5 s)
  := by
  intro n
  induction n with
  | zero => intro x2 x4 x5 s; exact PR.none
  | succ n ih =>
    intro x2 x4 x5 s
    unfold l_X1_defaultSize_73
    have Hs : Fr (W_l_X1_defaultSize_73) s s := Fr.rfl
    refine PR.ite (fun _ => ?_) (fun _ => ?_)
    · exact PR.some Hs
    · refine PR.bd (PR.pure Hs (fr_f_X4_next x4 s)) (fun r5 s2 Hs2 => ?_)
      refine PR.vl (fun y7 => ?_)
      exact PR.tail Hs2 (ih x2 r5 y7 s2)
def W_f_X12_bound : List Nat := []
theorem fr_f_X12_bound (s : vS) : PR (W_f_X12_bound) s (fun q => q.2) (f_X12_bound s) := by
  unfold f_X12_bound
  have Hs : Fr (W_f_X12_bound) s s := Fr.rfl
  refine PR.ite (fun _ => ?_) (fun _ => ?_)
  · refine PR.gd ?_
    refine PR.bd (PR.pure Hs (fr_f_X2_size (gR s 44 0) s)) (fun r7 s4 Hs4 => ?_)
    exact PR.some Hs4
  · refine PR.gd ?_
    exact PR.some Hs
def W_f_X12_wrong : List Nat := [44002]
theorem fr_f_X12_wrong (x1 : Int) (s : vS) : PR (W_f_X12_wrong) s (fun q => q.2) (f_X12_wrong x1 s) := by
  unfold f_X12_wrong
  have Hs : Fr (W_f_X12_wrong) s s := Fr.rfl
  refine PR.stp (Fr.wI Hs (by decide +kernel)) (fun s1 Hs1 => ?_)
  exact PR.some Hs1
def W_l_X12_tagNumber_7 : List Nat := [44001, 44002]
theorem fr_j_X12_tagNumber_63 (rec : Int → Int → Int → Int → vS → Option ((Int × vS) ⊕ (Int × vS))) (hrec : ∀ (y0 : Int) (y1 : Int) (y2 : Int) (y3 : Int) (s : vS), PR (W_l_X12_tagNumber_7) s (Sum.elim (fun q => q.2) (fun q => q.2)) (rec y0 y1 y2 y3 s)) (x1 : Int) (x2 : Int) (x4 : Int) (x5 : Int) (s : vS) : PR (W_l_X12_tagNumber_7) s (Sum.elim (fun q => q.2) (fun q => q.2)) (j_X12_tagNumber_63 rec x1 x2 x4 x5 s) := by
  unfold j_X12_tagNumber_63
  have Hs : Fr (W_l_X12_tagNumber_7) s s := Fr.rfl
  refine PR.ite (fun _ => ?_) (fun _ => ?_)
  · refine PR.vl (fun y2 => ?_)
    refine PR.ite (fun _ => ?_) (fun _ => ?_)
    · refine PR.vl (fun y6 => ?_)
      exact PR.tail Hs (hrec x1 y2 0 y6 s)
    · refine PR.vl (fun y9 => ?_)
      exact PR.tail Hs (hrec x1 y2 1 y9 s)
  · refine PR.bd (PR.call Hs (fr_f_X12_wrong 2 s) (by decide +kernel)) (fun r15 s12 Hs12 => ?_)
    exact PR.some Hs12
theorem fr_l_X12_tagNumber_7 : ∀ (n : Nat) (x1 : Int) (x2 : Int) (x3 : Int) (x4 : Int) (s : vS), PR (W_l_X12_tagNumber_7) s (Sum.elim (fun q => q.2) (fun q => q.2)) (l_X12_tagNumber_7 n x1 x2 x3 x4 s)
  := by
  intro n
  induction n with
  | zero => intro x1 x2 x3 x4 s; exact PR.none
  | succ n ih =>
    intro x1 x2 x3 x4 s
    unfold l_X12_tagNumber_7
    have Hs : Fr (W_l_X12_tagNumber_7) s s := Fr.rfl
    refine PR.ite (fun _ => ?_) (fun _ => ?_)
    · exact PR.some Hs
    · refine PR.ite (fun _ => ?_) (fun _ => ?_)
      · refine PR.gd ?_
        refine PR.bd (PR.pure Hs (fr_f_X2_at (gR s 44 0) (gI s 44 1) s)) (fun r7 s4 Hs4 => ?_)
        refine PR.stp (Fr.wI Hs4 (by decide +kernel)) (fun s9 Hs9 => ?_)
        refine PR.ite (fun _ => ?_) (fun _ => ?_)
        · refine PR.ite (fun _ => ?_) (fun _ => ?_)
          · refine PR.bd (PR.call Hs9 (fr_f_X12_wrong 2 s9) (by decide +kernel)) (fun r16 s13 Hs13 => ?_)
            exact PR.some Hs13
          · exact PR.tail Hs9 (fr_j_X12_tagNumber_63 (l_X12_tagNumber_7 n) ih x1 x2 x4 r7 s9)
        · exact PR.tail Hs9 (fr_j_X12_tagNumber_63 (l_X12_tagNumber_7 n) ih x1 x2 x4 r7 s9)
      · refine PR.bd (PR.call Hs (fr_f_X12_wrong 1 s) (by decide +kernel)) (fun r21 s18 Hs18 => ?_)
        exact PR.some Hs18
def W_f_X12_tagNumber : List Nat := [44001, 44002]
theorem fr_f_X12_tagNumber (x1 : Int) (s : vS) : PR (W_f_X12_tagNumber) s (fun q => q.2) (f_X12_tagNumber x1 s) := by
  unfold f_X12_tagNumber
  have Hs : Fr (W_f_X12_tagNumber) s s := Fr.rfl
  refine PR.lqs_1 (PR.call Hs (fr_l_X12_tagNumber_7 FU x1 0 1 0 s) (by decide +kernel)) (fun y1 s2 Hs2 => ?_) (fun q Hq => PR.some Hq)
  refine PR.ite (fun _ => ?_) (fun _ => ?_)
  · exact PR.some Hs2
  · refine PR.bd (PR.call Hs2 (fr_f_X12_wrong 2 s2) (by decide +kernel)) (fun r9 s6 Hs6 => ?_)
    exact PR.some Hs6
def W_j_X12_length_65 : List Nat := [44002]
theorem fr_j_X12_length_65 (s : vS) : PR (W_j_X12_length_65) s (fun q => q.2) (j_X12_length_65 s) := by
  unfold j_X12_length_65
  have Hs : Fr (W_j_X12_length_65) s s := Fr.rfl
  refine PR.bd (PR.call Hs (fr_f_X12_wrong 3 s) (by decide +kernel)) (fun r4 s1 Hs1 => ?_)
  exact PR.some Hs1
def W_l_X12_length_88 : List Nat := [44001, 44002]
theorem fr_l_X12_length_88 : ∀ (n : Nat) (x1 : Int) (x3 : Int) (x4 : Int) (x6 : Int) (s : vS), PR (W_l_X12_length_88) s (Sum.elim (fun q => q.2) (fun q => q.2)) (l_X12_length_88 n x1 x3 x4 x6 s)
  := by
  intro n
  induction n with
  | zero => intro x1 x3 x4 x6 s; exact PR.none
  | succ n ih =>
    intro x1 x3 x4 x6 s
    unfold l_X12_length_88
    have Hs : Fr (W_l_X12_length_88) s s := Fr.rfl
    refine PR.ite (fun _ => ?_) (fun _ => ?_)
    · exact PR.some Hs
    · refine PR.ite (fun _ => ?_) (fun _ => ?_)
      · refine PR.gd ?_
        refine PR.bd (PR.pure Hs (fr_f_X2_at (gR s 44 0) (gI s 44 1) s)) (fun r7 s4 Hs4 => ?_)
        refine PR.vl (fun y9 => ?_)
        refine PR.stp (Fr.wI Hs4 (by decide +kernel)) (fun s12 Hs12 => ?_)
        refine PR.ite (fun _ => ?_) (fun _ => ?_)
        · refine PR.vl (fun y15 => ?_)
          exact PR.tail Hs12 (ih x1 x3 y9 y15 s12)
        · refine PR.bd (PR.call Hs12 (fr_f_X12_wrong 3 s12) (by decide +kernel)) (fun r21 s18 Hs18 => ?_)
          exact PR.some Hs18
      · refine PR.bd (PR.call Hs (fr_f_X12_wrong 1 s) (by decide +kernel)) (fun r26 s23 Hs23 => ?_)
        exact PR.some Hs23
def W_j_X12_length_73 : List Nat := [44001, 44002]
theorem fr_j_X12_length_73 (x1 : Int) (x3 : Int) (s : vS) : PR (W_j_X12_length_73) s (fun q => q.2) (j_X12_length_73 x1 x3 s) := by
  unfold j_X12_length_73
  have Hs : Fr (W_j_X12_length_73) s s := Fr.rfl
  refine PR.ite (fun _ => ?_) (fun _ => ?_)
  · exact PR.some Hs
  · refine PR.lqs_1 (PR.call Hs (fr_l_X12_length_88 FU x1 x3 0 0 s) (by decide +kernel)) (fun y2 s3 Hs3 => ?_) (fun q Hq => PR.some Hq)
    exact PR.some Hs3
def W_f_X12_length : List Nat := [44001, 44002]
theorem fr_f_X12_length (x1 : Int) (x2 : Int) (s : vS) : PR (W_f_X12_length) s (fun q => q.2) (f_X12_length x1 x2 s) := by
  unfold f_X12_length
  have Hs : Fr (W_f_X12_length) s s := Fr.rfl
  refine PR.ite (fun _ => ?_) (fun _ => ?_)
  · refine PR.gd ?_
    refine PR.bd (PR.pure Hs (fr_f_X2_at (gR s 44 0) (gI s 44 1) s)) (fun r6 s3 Hs3 => ?_)
    refine PR.stp (Fr.wI Hs3 (by decide +kernel)) (fun s8 Hs8 => ?_)
    refine PR.ite (fun _ => ?_) (fun _ => ?_)
    · refine PR.ite (fun _ => ?_) (fun _ => ?_)
      · exact PR.call Hs8 (fr_j_X12_length_65 s8) (by decide +kernel)
      · refine PR.ite (fun _ => ?_) (fun _ => ?_)
        · refine PR.ite (fun _ => ?_) (fun _ => ?_)
          · exact PR.call Hs8 (fr_j_X12_length_65 s8) (by decide +kernel)
          · exact PR.call Hs8 (fr_j_X12_length_73 x1 r6 s8) (by decide +kernel)
        · exact PR.call Hs8 (fr_j_X12_length_73 x1 r6 s8) (by decide +kernel)
    · exact PR.some Hs8
  · refine PR.bd (PR.call Hs (fr_f_X12_wrong 1 s) (by decide +kernel)) (fun r17 s14 Hs14 => ?_)
    exact PR.some Hs14
def W_f_X12_grown : List Nat := []
theorem fr_f_X12_grown (p0 : Nat) (s : vS) : PR (W_f_X12_grown) s (fun q => q) (f_X12_grown p0 s) := by
  unfold f_X12_grown
  have Hs : Fr (W_f_X12_grown) s s := Fr.rfl
  refine PR.gd ?_
  refine PR.stp (Fr.wAT Hs (by decide)) (fun s2 Hs2 => ?_)
  refine PR.gd ?_
  refine PR.stp (Fr.wcpT Hs2 (by decide)) (fun s5 Hs5 => ?_)
  exact PR.some Hs5
def W_j_X12_add_95 : List Nat := [44010, 45999, 46999, 50999]
theorem fr_j_X12_add_95 (x1 : Int) (x2 : Int) (s : vS) : PR (W_j_X12_add_95) s (fun q => q) (j_X12_add_95 x1 x2 s) := by
  unfold j_X12_add_95
  have Hs : Fr (W_j_X12_add_95) s s := Fr.rfl
  refine PR.gd ?_
  refine PR.stp (Fr.wE Hs (by decide +kernel)) (fun s2 Hs2 => ?_)
  refine PR.gd ?_
  refine PR.stp (Fr.wE Hs2 (by decide +kernel)) (fun s5 Hs5 => ?_)
  refine PR.gd ?_
  refine PR.stp (Fr.wE Hs5 (by decide +kernel)) (fun s8 Hs8 => ?_)
  refine PR.stp (Fr.wI Hs8 (by decide +kernel)) (fun s10 Hs10 => ?_)
  exact PR.some Hs10
def W_f_X12_add : List Nat := [44010, 45998, 45999, 46998, 46999, 47998, 47999, 48998, 48999, 49998, 49999, 50998, 50999]
theorem fr_f_X12_add (x1 : Int) (x2 : Int) (s : vS) : PR (W_f_X12_add) s (fun q => q) (f_X12_add x1 x2 s) := by
  unfold f_X12_add
  have Hs : Fr (W_f_X12_add) s s := Fr.rfl
  refine PR.ite (fun _ => ?_) (fun _ => ?_)
  · refine PR.bdv (PR.pure Hs (fr_f_X12_grown 45 s)) (fun s2 Hs2 => ?_)
    refine PR.gd ?_
    refine PR.stp (Fr.wswT Hs2 (by decide) (by decide +kernel) (by decide +kernel)) (fun s6 Hs6 => ?_)
    refine PR.stp (Fr.wrs Hs6) (fun s8 Hs8 => ?_)
    refine PR.bdv (PR.pure Hs8 (fr_f_X12_grown 46 s8)) (fun s10 Hs10 => ?_)
    refine PR.gd ?_
    refine PR.stp (Fr.wswT Hs10 (by decide) (by decide +kernel) (by decide +kernel)) (fun s14 Hs14 => ?_)
    refine PR.stp (Fr.wrs Hs14) (fun s16 Hs16 => ?_)
    refine PR.bdv (PR.pure Hs16 (fr_f_X12_grown 47 s16)) (fun s18 Hs18 => ?_)
    refine PR.gd ?_
    refine PR.stp (Fr.wswT Hs18 (by decide) (by decide +kernel) (by decide +kernel)) (fun s22 Hs22 => ?_)
    refine PR.stp (Fr.wrs Hs22) (fun s24 Hs24 => ?_)
    refine PR.bdv (PR.pure Hs24 (fr_f_X12_grown 48 s24)) (fun s26 Hs26 => ?_)
    refine PR.gd ?_
    refine PR.stp (Fr.wswT Hs26 (by decide) (by decide +kernel) (by decide +kernel)) (fun s30 Hs30 => ?_)
    refine PR.stp (Fr.wrs Hs30) (fun s32 Hs32 => ?_)
    refine PR.bdv (PR.pure Hs32 (fr_f_X12_grown 49 s32)) (fun s34 Hs34 => ?_)
    refine PR.gd ?_
    refine PR.stp (Fr.wswT Hs34 (by decide) (by decide +kernel) (by decide +kernel)) (fun s38 Hs38 => ?_)
    refine PR.stp (Fr.wrs Hs38) (fun s40 Hs40 => ?_)
    refine PR.gd ?_
    refine PR.stp (Fr.wAT Hs40 (by decide)) (fun s43 Hs43 => ?_)
    refine PR.gd ?_
    refine PR.stp (Fr.wcpT Hs43 (by decide)) (fun s46 Hs46 => ?_)
    refine PR.gd ?_
    refine PR.stp (Fr.wswT Hs46 (by decide) (by decide +kernel) (by decide +kernel)) (fun s49 Hs49 => ?_)
    refine PR.stp (Fr.wrs Hs49) (fun s51 Hs51 => ?_)
    exact PR.call Hs51 (fr_j_X12_add_95 x1 x2 s51) (by decide +kernel)
  · exact PR.call Hs (fr_j_X12_add_95 x1 x2 s) (by decide +kernel)
def W_j_X12_enter_45 : List Nat := [44014, 51999, 52999, 53999]
theorem fr_j_X12_enter_45 (x1 : Int) (x2 : Int) (s : vS) : PR (W_j_X12_enter_45) s (fun q => q) (j_X12_enter_45 x1 x2 s) := by
  unfold j_X12_enter_45
  have Hs : Fr (W_j_X12_enter_45) s s := Fr.rfl
  refine PR.gd ?_
  refine PR.stp (Fr.wE Hs (by decide +kernel)) (fun s2 Hs2 => ?_)
  refine PR.gd ?_
  refine PR.stp (Fr.wE Hs2 (by decide +kernel)) (fun s5 Hs5 => ?_)
  refine PR.gd ?_
  refine PR.stp (Fr.wE Hs5 (by decide +kernel)) (fun s8 Hs8 => ?_)
  refine PR.stp (Fr.wI Hs8 (by decide +kernel)) (fun s10 Hs10 => ?_)
  exact PR.some Hs10
def W_f_X12_enter : List Nat := [44014, 51998, 51999, 52998, 52999, 53998, 53999]
theorem fr_f_X12_enter (x1 : Int) (x2 : Int) (s : vS) : PR (W_f_X12_enter) s (fun q => q) (f_X12_enter x1 x2 s) := by
  unfold f_X12_enter
  have Hs : Fr (W_f_X12_enter) s s := Fr.rfl
  refine PR.ite (fun _ => ?_) (fun _ => ?_)
  · refine PR.bdv (PR.pure Hs (fr_f_X12_grown 51 s)) (fun s2 Hs2 => ?_)
    refine PR.gd ?_
    refine PR.stp (Fr.wswT Hs2 (by decide) (by decide +kernel) (by decide +kernel)) (fun s6 Hs6 => ?_)
    refine PR.stp (Fr.wrs Hs6) (fun s8 Hs8 => ?_)
    refine PR.bdv (PR.pure Hs8 (fr_f_X12_grown 52 s8)) (fun s10 Hs10 => ?_)
    refine PR.gd ?_
    refine PR.stp (Fr.wswT Hs10 (by decide) (by decide +kernel) (by decide +kernel)) (fun s14 Hs14 => ?_)
    refine PR.stp (Fr.wrs Hs14) (fun s16 Hs16 => ?_)
    refine PR.bdv (PR.pure Hs16 (fr_f_X12_grown 53 s16)) (fun s18 Hs18 => ?_)
    refine PR.gd ?_
    refine PR.stp (Fr.wswT Hs18 (by decide) (by decide +kernel) (by decide +kernel)) (fun s22 Hs22 => ?_)
    refine PR.stp (Fr.wrs Hs22) (fun s24 Hs24 => ?_)
    exact PR.call Hs24 (fr_j_X12_enter_45 x1 x2 s24) (by decide +kernel)
  · exact PR.call Hs (fr_j_X12_enter_45 x1 x2 s) (by decide +kernel)
def W_j_X12_element_231 : List Nat := [44014, 51998, 51999, 52998, 52999, 53998, 53999]
theorem fr_j_X12_element_231 (z1 : Int) (z2 : Int) (s : vS) : PR (W_j_X12_element_231) s (fun q => q.2) (j_X12_element_231 z1 z2 s) := by
  unfold j_X12_element_231
  have Hs : Fr (W_j_X12_element_231) s s := Fr.rfl
  refine PR.bdv (PR.call Hs (fr_f_X12_enter z1 z2 s) (by decide +kernel)) (fun s1 Hs1 => ?_)
  exact PR.some Hs1
def W_j_X12_element_214 : List Nat := [44014, 51998, 51999, 52998, 52999, 53998, 53999]
theorem fr_j_X12_element_214 (x2 : Int) (x6 : Int) (z1 : Int) (s : vS) : PR (W_j_X12_element_214) s (fun q => q.2) (j_X12_element_214 x2 x6 z1 s) := by
  unfold j_X12_element_214
  have Hs : Fr (W_j_X12_element_214) s s := Fr.rfl
  refine PR.ite (fun _ => ?_) (fun _ => ?_)
  · exact PR.call Hs (fr_j_X12_element_231 z1 x2 s) (by decide +kernel)
  · exact PR.call Hs (fr_j_X12_element_231 z1 (w32 ((gI s 44 1) + x6)) s) (by decide +kernel)
def W_j_X12_element_160 : List Nat := [44001, 44010, 44014, 45998, 45999, 46998, 46999, 47998, 47999, 48998, 48999, 49998, 49999, 50998, 50999, 51998, 51999, 52998, 52999, 53998, 53999]
theorem fr_j_X12_element_160 (x2 : Int) (x3 : Int) (x4 : Int) (x5 : Int) (x6 : Int) (s : vS) : PR (W_j_X12_element_160) s (fun q => q.2) (j_X12_element_160 x2 x3 x4 x5 x6 s) := by
  unfold j_X12_element_160
  have Hs : Fr (W_j_X12_element_160) s s := Fr.rfl
  refine PR.bdv (PR.call Hs (fr_f_X12_add (or32 (shl32 (shr32 x3 6) 28) x4) x5 s) (by decide +kernel)) (fun s1 Hs1 => ?_)
  refine PR.gd ?_
  refine PR.stp (Fr.wE Hs1 (by decide +kernel)) (fun s5 Hs5 => ?_)
  refine PR.ite (fun _ => ?_) (fun _ => ?_)
  · refine PR.stp (Fr.wI Hs5 (by decide +kernel)) (fun s8 Hs8 => ?_)
    refine PR.gd ?_
    refine PR.stp (Fr.wE Hs8 (by decide +kernel)) (fun s11 Hs11 => ?_)
    refine PR.gd ?_
    refine PR.stp (Fr.wE Hs11 (by decide +kernel)) (fun s14 Hs14 => ?_)
    exact PR.some Hs14
  · refine PR.ite (fun _ => ?_) (fun _ => ?_)
    · exact PR.call Hs5 (fr_j_X12_element_214 x2 x6 (-1) s5) (by decide +kernel)
    · exact PR.call Hs5 (fr_j_X12_element_214 x2 x6 (w32 ((gI s5 44 1) + x6)) s5) (by decide +kernel)
def W_j_X12_element_117 : List Nat := [44001, 44002, 44010, 44014, 45998, 45999, 46998, 46999, 47998, 47999, 48998, 48999, 49998, 49999, 50998, 50999, 51998, 51999, 52998, 52999, 53998, 53999]
theorem fr_j_X12_element_117 (x2 : Int) (x3 : Int) (x4 : Int) (z0 : Int) (s : vS) : PR (W_j_X12_element_117) s (fun q => q.2) (j_X12_element_117 x2 x3 x4 z0 s) := by
  unfold j_X12_element_117
  have Hs : Fr (W_j_X12_element_117) s s := Fr.rfl
  refine PR.bd (PR.call Hs (fr_f_X12_length x2 z0 s) (by decide +kernel)) (fun r4 s1 Hs1 => ?_)
  refine PR.ite (fun _ => ?_) (fun _ => ?_)
  · refine PR.ite (fun _ => ?_) (fun _ => ?_)
    · exact PR.call Hs1 (fr_j_X12_element_160 x2 x3 x4 z0 r4 s1) (by decide +kernel)
    · refine PR.ite (fun _ => ?_) (fun _ => ?_)
      · exact PR.call Hs1 (fr_j_X12_element_160 x2 x3 x4 z0 r4 s1) (by decide +kernel)
      · refine PR.bd (PR.call Hs1 (fr_f_X12_wrong 1 s1) (by decide +kernel)) (fun r12 s9 Hs9 => ?_)
        refine PR.gd ?_
        exact PR.some Hs9
  · exact PR.some Hs1
def W_j_X12_element_105 : List Nat := [44001, 44002, 44010, 44014, 45998, 45999, 46998, 46999, 47998, 47999, 48998, 48999, 49998, 49999, 50998, 50999, 51998, 51999, 52998, 52999, 53998, 53999]
theorem fr_j_X12_element_105 (x2 : Int) (x3 : Int) (x4 : Int) (s : vS) : PR (W_j_X12_element_105) s (fun q => q.2) (j_X12_element_105 x2 x3 x4 s) := by
  unfold j_X12_element_105
  have Hs : Fr (W_j_X12_element_105) s s := Fr.rfl
  refine PR.ite (fun _ => ?_) (fun _ => ?_)
  · exact PR.call Hs (fr_j_X12_element_117 x2 x3 x4 0 s) (by decide +kernel)
  · exact PR.call Hs (fr_j_X12_element_117 x2 x3 x4 1 s) (by decide +kernel)
def W_f_X12_element : List Nat := [44001, 44002, 44003, 44010, 44014, 45998, 45999, 46998, 46999, 47998, 47999, 48998, 48999, 49998, 49999, 50998, 50999, 51998, 51999, 52998, 52999, 53998, 53999]
theorem fr_f_X12_element (x1 : Int) (s : vS) : PR (W_f_X12_element) s (fun q => q.2) (f_X12_element x1 s) := by
  unfold f_X12_element
  have Hs : Fr (W_f_X12_element) s s := Fr.rfl
  refine PR.stp (Fr.wI Hs (by decide +kernel)) (fun s1 Hs1 => ?_)
  refine PR.bd (PR.pure Hs1 (fr_f_X12_bound s1)) (fun r6 s3 Hs3 => ?_)
  refine PR.ite (fun _ => ?_) (fun _ => ?_)
  · refine PR.ite (fun _ => ?_) (fun _ => ?_)
    · refine PR.gd ?_
      refine PR.bd (PR.pure Hs3 (fr_f_X2_at (gR s3 44 0) (gI s3 44 1) s3)) (fun r14 s11 Hs11 => ?_)
      refine PR.stp (Fr.wI Hs11 (by decide +kernel)) (fun s16 Hs16 => ?_)
      refine PR.ite (fun _ => ?_) (fun _ => ?_)
      · refine PR.bd (PR.call Hs16 (fr_f_X12_wrong 4 s16) (by decide +kernel)) (fun r32 s29 Hs29 => ?_)
        refine PR.gd ?_
        exact PR.some Hs29
      · refine PR.vl (fun y19 => ?_)
        refine PR.ite (fun _ => ?_) (fun _ => ?_)
        · refine PR.bd (PR.call Hs16 (fr_f_X12_tagNumber r6 s16) (by decide +kernel)) (fun r26 s23 Hs23 => ?_)
          refine PR.ite (fun _ => ?_) (fun _ => ?_)
          · exact PR.some Hs23
          · exact PR.call Hs23 (fr_j_X12_element_105 r6 r14 r26 s23) (by decide +kernel)
        · exact PR.call Hs16 (fr_j_X12_element_105 r6 r14 y19 s16) (by decide +kernel)
    · refine PR.bd (PR.call Hs3 (fr_f_X12_wrong 5 s3) (by decide +kernel)) (fun r38 s35 Hs35 => ?_)
      refine PR.gd ?_
      exact PR.some Hs35
  · refine PR.bd (PR.call Hs3 (fr_f_X12_wrong 1 s3) (by decide +kernel)) (fun r44 s41 Hs41 => ?_)
    refine PR.gd ?_
    exact PR.some Hs41
def W_f_X12_leave : List Nat := [44014, 48999, 49999]
theorem fr_f_X12_leave (x1 : Int) (s : vS) : PR (W_f_X12_leave) s (fun q => q) (f_X12_leave x1 s) := by
  unfold f_X12_leave
  have Hs : Fr (W_f_X12_leave) s s := Fr.rfl
  refine PR.stp (Fr.wI Hs (by decide +kernel)) (fun s1 Hs1 => ?_)
  refine PR.gd ?_
  refine PR.gd ?_
  refine PR.stp (Fr.wE Hs1 (by decide +kernel)) (fun s5 Hs5 => ?_)
  refine PR.gd ?_
  refine PR.gd ?_
  refine PR.stp (Fr.wE Hs5 (by decide +kernel)) (fun s9 Hs9 => ?_)
  exact PR.some Hs9
def W_j_X12_step_98 : List Nat := [44001, 44002, 44003, 44010, 44014, 45998, 45999, 46998, 46999, 47998, 47999, 48998, 48999, 49998, 49999, 50998, 50999, 51998, 51999, 52998, 52999, 53998, 53999]
theorem fr_j_X12_step_98 (x1 : Int) (s : vS) : PR (W_j_X12_step_98) s (fun q => q.2) (j_X12_step_98 x1 s) := by
  unfold j_X12_step_98
  have Hs : Fr (W_j_X12_step_98) s s := Fr.rfl
  refine PR.bd (PR.call Hs (fr_f_X12_element x1 s) (by decide +kernel)) (fun r4 s1 Hs1 => ?_)
  refine PR.gd ?_
  exact PR.some Hs1
def W_f_X12_step : List Nat := [44001, 44002, 44003, 44010, 44014, 45998, 45999, 46998, 46999, 47998, 47999, 48998, 48999, 49998, 49999, 50998, 50999, 51998, 51999, 52998, 52999, 53998, 53999]
theorem fr_f_X12_step (x1 : Int) (s : vS) : PR (W_f_X12_step) s (fun q => q.2) (f_X12_step x1 s) := by
  unfold f_X12_step
  have Hs : Fr (W_f_X12_step) s s := Fr.rfl
  refine PR.gd ?_
  refine PR.vl (fun y2 => ?_)
  refine PR.ite (fun _ => ?_) (fun _ => ?_)
  · refine PR.bdv (PR.call Hs (fr_f_X12_leave (gI s 44 1) s) (by decide +kernel)) (fun s32 Hs32 => ?_)
    exact PR.some Hs32
  · refine PR.ite (fun _ => ?_) (fun _ => ?_)
    · refine PR.bd (PR.pure Hs (fr_f_X12_bound s)) (fun r10 s7 Hs7 => ?_)
      refine PR.ite (fun _ => ?_) (fun _ => ?_)
      · exact PR.call Hs7 (fr_j_X12_step_98 x1 s7) (by decide +kernel)
      · refine PR.gd ?_
        refine PR.bd (PR.pure Hs7 (fr_f_X2_at (gR s7 44 0) (gI s7 44 1) s7)) (fun r17 s14 Hs14 => ?_)
        refine PR.ite (fun _ => ?_) (fun _ => ?_)
        · refine PR.gd ?_
          refine PR.bd (PR.pure Hs14 (fr_f_X2_at (gR s14 44 0) (w32 ((gI s14 44 1) + 1)) s14)) (fun r24 s21 Hs21 => ?_)
          refine PR.ite (fun _ => ?_) (fun _ => ?_)
          · refine PR.bdv (PR.call Hs21 (fr_f_X12_leave (gI s21 44 1) s21) (by decide +kernel)) (fun s27 Hs27 => ?_)
            refine PR.stp (Fr.wI Hs27 (by decide +kernel)) (fun s30 Hs30 => ?_)
            exact PR.some Hs30
          · exact PR.call Hs21 (fr_j_X12_step_98 x1 s21) (by decide +kernel)
        · exact PR.call Hs14 (fr_j_X12_step_98 x1 s14) (by decide +kernel)
    · exact PR.call Hs (fr_j_X12_step_98 x1 s) (by decide +kernel)
def W_l_X12_read_40 : List Nat := [44001, 44002, 44003, 44010, 44014, 45998, 45999, 46998, 46999, 47998, 47999, 48998, 48999, 49998, 49999, 50998, 50999, 51998, 51999, 52998, 52999, 53998, 53999]
theorem fr_l_X12_read_40 (p1 : Nat) : ∀ (n : Nat) (x2 : Int) (s : vS), PR (W_l_X12_read_40) s (Sum.elim (fun q => q) (fun q => q.2)) (l_X12_read_40 p1 n x2 s)
  := by
  intro n
  induction n with
  | zero => intro x2 s; exact PR.none
  | succ n ih =>
    intro x2 s
    unfold l_X12_read_40
    have Hs : Fr (W_l_X12_read_40) s s := Fr.rfl
    refine PR.ite (fun _ => ?_) (fun _ => ?_)
    · exact PR.some Hs
    · refine PR.bd (PR.call Hs (fr_f_X12_step x2 s) (by decide +kernel)) (fun r5 s2 Hs2 => ?_)
      refine PR.ite (fun _ => ?_) (fun _ => ?_)
      · exact PR.some Hs2
      · exact PR.tail Hs2 (ih x2 s2)
def W_f_X12_read : List Nat := [44000, 44001, 44002, 44003, 44010, 44014, 45998, 45999, 46998, 46999, 47998, 47999, 48998, 48999, 49998, 49999, 50998, 50999, 51998, 51999, 52998, 52999, 53998, 53999]
theorem fr_f_X12_read (p1 : Nat) (x2 : Int) (s : vS) : PR (W_f_X12_read) s (fun q => q.2) (f_X12_read p1 x2 s) := by
  unfold f_X12_read
  have Hs : Fr (W_f_X12_read) s s := Fr.rfl
  refine PR.stp (Fr.wR Hs (by decide +kernel)) (fun s1 Hs1 => ?_)
  refine PR.stp (Fr.wI Hs1 (by decide +kernel)) (fun s3 Hs3 => ?_)
  refine PR.stp (Fr.wI Hs3 (by decide +kernel)) (fun s5 Hs5 => ?_)
  refine PR.stp (Fr.wI Hs5 (by decide +kernel)) (fun s7 Hs7 => ?_)
  refine PR.stp (Fr.wI Hs7 (by decide +kernel)) (fun s9 Hs9 => ?_)
  refine PR.stp (Fr.wI Hs9 (by decide +kernel)) (fun s11 Hs11 => ?_)
  refine PR.bd (PR.call Hs11 (fr_f_X12_element x2 s11) (by decide +kernel)) (fun r16 s13 Hs13 => ?_)
  refine PR.ite (fun _ => ?_) (fun _ => ?_)
  · exact PR.some Hs13
  · refine PR.lqs_0 (PR.call Hs13 (fr_l_X12_read_40 p1 FU x2 s13) (by decide +kernel)) (fun s19 Hs19 => ?_) (fun q Hq => PR.some Hq)
    refine PR.stp (Fr.wI Hs19 (by decide +kernel)) (fun s21 Hs21 => ?_)
    refine PR.gd ?_
    refine PR.bd (PR.pure Hs21 (fr_f_X2_size (gR s21 44 0) s21)) (fun r27 s24 Hs24 => ?_)
    refine PR.ite (fun _ => ?_) (fun _ => ?_)
    · exact PR.some Hs24
    · refine PR.bd (PR.call Hs24 (fr_f_X12_wrong 6 s24) (by decide +kernel)) (fun r33 s30 Hs30 => ?_)
      refine PR.ite (fun _ => ?_) (fun _ => ?_)
      · exact PR.some Hs30
      · exact PR.some Hs30
def W_f_X12_fault : List Nat := []
theorem fr_f_X12_fault (s : vS) : PR (W_f_X12_fault) s (fun q => q.2) (f_X12_fault s) := by
  unfold f_X12_fault
  have Hs : Fr (W_f_X12_fault) s s := Fr.rfl
  exact PR.some Hs
def W_f_X12_place : List Nat := []
theorem fr_f_X12_place (s : vS) : PR (W_f_X12_place) s (fun q => q.2) (f_X12_place s) := by
  unfold f_X12_place
  have Hs : Fr (W_f_X12_place) s s := Fr.rfl
  exact PR.some Hs
def W_f_X12_size : List Nat := []
theorem fr_f_X12_size (s : vS) : PR (W_f_X12_size) s (fun q => q.2) (f_X12_size s) := by
  unfold f_X12_size
  have Hs : Fr (W_f_X12_size) s s := Fr.rfl
  exact PR.some Hs
def W_f_X13_grown : List Nat := []
theorem fr_f_X13_grown (p0 : Nat) (x1 : Int) (s : vS) : PR (W_f_X13_grown) s (fun q => q.2) (f_X13_grown p0 x1 s) := by
  unfold f_X13_grown
  have Hs : Fr (W_f_X13_grown) s s := Fr.rfl
  refine PR.ite (fun _ => ?_) (fun _ => ?_)
  · refine PR.gd ?_
    refine PR.stp (Fr.wAT Hs (by decide)) (fun s3 Hs3 => ?_)
    refine PR.gd ?_
    refine PR.stp (Fr.wcpT Hs3 (by decide)) (fun s6 Hs6 => ?_)
    exact PR.some Hs6
  · exact PR.some Hs
def W_f_X12_tag : List Nat := []
theorem fr_f_X12_tag (x1 : Int) (s : vS) : PR (W_f_X12_tag) s (fun q => q.2) (f_X12_tag x1 s) := by
  unfold f_X12_tag
  have Hs : Fr (W_f_X12_tag) s s := Fr.rfl
  refine PR.gd ?_
  exact PR.some Hs
def W_l_X13_find_71 : List Nat := [72998, 72999]
theorem fr_l_X13_find_71 : ∀ (n : Nat) (x2 : Int) (x3 : Int) (x5 : Int) (s : vS), PR (W_l_X13_find_71) s (fun q => q.2) (l_X13_find_71 n x2 x3 x5 s)
  := by
  intro n
  induction n with
  | zero => intro x2 x3 x5 s; exact PR.none
  | succ n ih =>
    intro x2 x3 x5 s
    unfold l_X13_find_71
    have Hs : Fr (W_l_X13_find_71) s s := Fr.rfl
    refine PR.ite (fun _ => ?_) (fun _ => ?_)
    · exact PR.some Hs
    · refine PR.bd (PR.pure Hs (fr_f_X13_grown 72 (w32 (x3 + 1)) s)) (fun r5 s6 Hs6 => ?_)
      refine PR.gd ?_
      refine PR.stp (Fr.wgrw Hs6 (by decide +kernel) (by decide +kernel)) (fun s10 Hs10 => ?_)
      refine PR.bd (PR.pure Hs10 (fr_f_X4_parts x5 s10)) (fun r15 s12 Hs12 => ?_)
      refine PR.gd ?_
      refine PR.gd ?_
      refine PR.stp (Fr.wE Hs12 (by decide +kernel)) (fun s19 Hs19 => ?_)
      refine PR.vl (fun y21 => ?_)
      refine PR.bd (PR.pure Hs19 (fr_f_X4_next x5 s19)) (fun r27 s24 Hs24 => ?_)
      exact PR.tail Hs24 (ih x2 y21 r27 s24)
def W_l_X13_find_9 : List Nat := [39999, 72998, 72999]
theorem fr_l_X13_find_9 : ∀ (n : Nat) (x2 : Int) (x3 : Int) (s : vS), PR (W_l_X13_find_9) s (Sum.elim (fun q => q) (fun q => q.2)) (l_X13_find_9 n x2 x3 s)
  := by
  intro n
  induction n with
  | zero => intro x2 x3 s; exact PR.none
  | succ n ih =>
    intro x2 x3 s
    unfold l_X13_find_9
    have Hs : Fr (W_l_X13_find_9) s s := Fr.rfl
    refine PR.ite (fun _ => ?_) (fun _ => ?_)
    · exact PR.some Hs
    · refine PR.vl (fun y2 => ?_)
      refine PR.gd ?_
      refine PR.vl (fun y6 => ?_)
      refine PR.bd (PR.pure Hs (fr_f_X6_tagCount y6 s)) (fun r12 s9 Hs9 => ?_)
      refine PR.ite (fun _ => ?_) (fun _ => ?_)
      · refine PR.bd (PR.call Hs9 (fr_f_X6_base y6 s9) (by decide +kernel)) (fun r18 s15 Hs15 => ?_)
        refine PR.bd (PR.pure Hs15 (fr_f_X4_parts r18 s15)) (fun r23 s20 Hs20 => ?_)
        refine PR.lq_1 (PR.call Hs20 (fr_l_X13_find_71 FU x2 y2 r23 s20) (by decide +kernel)) (fun y25 s26 Hs26 => ?_)
        exact PR.tail Hs26 (ih x2 y25 s26)
      · refine PR.bd (PR.pure Hs9 (fr_f_X6_tag y6 0 s9)) (fun r32 s29 Hs29 => ?_)
        refine PR.ite (fun _ => ?_) (fun _ => ?_)
        · exact PR.some Hs29
        · exact PR.tail Hs29 (ih x2 y2 s29)
def W_f_X13_find : List Nat := [39999, 72998, 72999]
theorem fr_f_X13_find (x1 : Int) (x2 : Int) (s : vS) : PR (W_f_X13_find) s (fun q => q.2) (f_X13_find x1 x2 s) := by
  unfold f_X13_find
  have Hs : Fr (W_f_X13_find) s s := Fr.rfl
  refine PR.gd ?_
  refine PR.stp (Fr.wE Hs (by decide +kernel)) (fun s2 Hs2 => ?_)
  refine PR.lqs_0 (PR.call Hs2 (fr_l_X13_find_9 FU x2 1 s2) (by decide +kernel)) (fun s4 Hs4 => ?_) (fun q Hq => PR.some Hq)
  exact PR.some Hs4
def W_f_X12_start : List Nat := []
theorem fr_f_X12_start (x1 : Int) (s : vS) : PR (W_f_X12_start) s (fun q => q.2) (f_X12_start x1 s) := by
  unfold f_X12_start
  have Hs : Fr (W_f_X12_start) s s := Fr.rfl
  refine PR.gd ?_
  exact PR.some Hs
def W_f_X13_wrong : List Nat := [54006, 54007]
theorem fr_f_X13_wrong (x1 : Int) (x2 : Int) (s : vS) : PR (W_f_X13_wrong) s (fun q => q.2) (f_X13_wrong x1 x2 s) := by
  unfold f_X13_wrong
  have Hs : Fr (W_f_X13_wrong) s s := Fr.rfl
  refine PR.stp (Fr.wI Hs (by decide +kernel)) (fun s1 Hs1 => ?_)
  refine PR.gd ?_
  refine PR.bd (PR.pure Hs1 (fr_f_X12_start x2 s1)) (fun r7 s4 Hs4 => ?_)
  refine PR.stp (Fr.wI Hs4 (by decide +kernel)) (fun s9 Hs9 => ?_)
  exact PR.some Hs9
def W_f_X13_kind : List Nat := [39999]
theorem fr_f_X13_kind (x1 : Int) (s : vS) : PR (W_f_X13_kind) s (fun q => q.2) (f_X13_kind x1 s) := by
  unfold f_X13_kind
  have Hs : Fr (W_f_X13_kind) s s := Fr.rfl
  refine PR.gd ?_
  refine PR.bd (PR.call Hs (fr_f_X6_base (gE s 61 x1) s) (by decide +kernel)) (fun r5 s2 Hs2 => ?_)
  refine PR.bd (PR.pure Hs2 (fr_f_X4_kind r5 s2)) (fun r10 s7 Hs7 => ?_)
  exact PR.some Hs7
def W_f_X13_isAround : List Nat := [39999]
theorem fr_f_X13_isAround (x1 : Int) (s : vS) : PR (W_f_X13_isAround) s (fun q => q.2) (f_X13_isAround x1 s) := by
  unfold f_X13_isAround
  have Hs : Fr (W_f_X13_isAround) s s := Fr.rfl
  refine PR.gd ?_
  refine PR.gd ?_
  refine PR.bd (PR.pure Hs (fr_f_X6_tagCount (gE s 61 x1) s)) (fun r6 s3 Hs3 => ?_)
  refine PR.ite (fun _ => ?_) (fun _ => ?_)
  · exact PR.some Hs3
  · refine PR.bd (PR.call Hs3 (fr_f_X13_kind x1 s3) (by decide +kernel)) (fun r12 s9 Hs9 => ?_)
    refine PR.ite (fun _ => ?_) (fun _ => ?_)
    · exact PR.some Hs9
    · exact PR.some Hs9
def W_f_X13_isMany : List Nat := []
theorem fr_f_X13_isMany (x1 : Int) (s : vS) : PR (W_f_X13_isMany) s (fun q => q.2) (f_X13_isMany x1 s) := by
  unfold f_X13_isMany
  have Hs : Fr (W_f_X13_isMany) s s := Fr.rfl
  refine PR.ite (fun _ => ?_) (fun _ => ?_)
  · exact PR.some Hs
  · refine PR.ite (fun _ => ?_) (fun _ => ?_)
    · exact PR.some Hs
    · exact PR.some Hs
def W_f_X12_hasParts : List Nat := []
theorem fr_f_X12_hasParts (x1 : Int) (s : vS) : PR (W_f_X12_hasParts) s (fun q => q.2) (f_X12_hasParts x1 s) := by
  unfold f_X12_hasParts
  have Hs : Fr (W_f_X12_hasParts) s s := Fr.rfl
  refine PR.gd ?_
  refine PR.gd ?_
  exact PR.some Hs
def W_f_X12_from : List Nat := []
theorem fr_f_X12_from (x1 : Int) (s : vS) : PR (W_f_X12_from) s (fun q => q.2) (f_X12_from x1 s) := by
  unfold f_X12_from
  have Hs : Fr (W_f_X12_from) s s := Fr.rfl
  refine PR.gd ?_
  exact PR.some Hs
def W_f_X12_to : List Nat := []
theorem fr_f_X12_to (x1 : Int) (s : vS) : PR (W_f_X12_to) s (fun q => q.2) (f_X12_to x1 s) := by
  unfold f_X12_to
  have Hs : Fr (W_f_X12_to) s s := Fr.rfl
  refine PR.gd ?_
  exact PR.some Hs
def W_f_X7_isShort : List Nat := []
theorem fr_f_X7_isShort (p0 : Nat) (x1 : Int) (x2 : Int) (s : vS) : PR (W_f_X7_isShort) s (fun q => q.2) (f_X7_isShort p0 x1 x2 s) := by
  unfold f_X7_isShort
  have Hs : Fr (W_f_X7_isShort) s s := Fr.rfl
  refine PR.ite (fun _ => ?_) (fun _ => ?_)
  · refine PR.bd (PR.pure Hs (fr_f_X2_at p0 x1 s)) (fun r5 s2 Hs2 => ?_)
    refine PR.bd (PR.pure Hs2 (fr_f_X2_at p0 (w32 (x1 + 1)) s2)) (fun r10 s7 Hs7 => ?_)
    refine PR.vl (fun y12 => ?_)
    refine PR.ite (fun _ => ?_) (fun _ => ?_)
    · exact PR.some Hs7
    · refine PR.ite (fun _ => ?_) (fun _ => ?_)
      · exact PR.some Hs7
      · exact PR.some Hs7
  · refine PR.ite (fun _ => ?_) (fun _ => ?_)
    · exact PR.some Hs
    · exact PR.some Hs
def W_l_X11_isOid_5 : List Nat := []
theorem fr_j_X11_isOid_29 (p0 : Nat) (rec : Int → Int → Int → Int → vS → Option ((Int × vS) ⊕ (Int × vS))) (hrec : ∀ (y0 : Int) (y1 : Int) (y2 : Int) (y3 : Int) (s : vS), PR (W_l_X11_isOid_5) s (Sum.elim (fun q => q.2) (fun q => q.2)) (rec y0 y1 y2 y3 s)) (x1 : Int) (x2 : Int) (x4 : Int) (s : vS) : PR (W_l_X11_isOid_5) s (Sum.elim (fun q => q.2) (fun q => q.2)) (j_X11_isOid_29 p0 rec x1 x2 x4 s) := by
  unfold j_X11_isOid_29
  have Hs : Fr (W_l_X11_isOid_5) s s := Fr.rfl
  refine PR.bd (PR.pure Hs (fr_f_X2_at p0 x4 s)) (fun r4 s1 Hs1 => ?_)
  refine PR.ite (fun _ => ?_) (fun _ => ?_)
  · refine PR.vl (fun y7 => ?_)
    exact PR.tail Hs1 (hrec x1 x2 0 y7 s1)
  · refine PR.vl (fun y10 => ?_)
    exact PR.tail Hs1 (hrec x1 x2 1 y10 s1)
theorem fr_l_X11_isOid_5 (p0 : Nat) : ∀ (n : Nat) (x1 : Int) (x2 : Int) (x3 : Int) (x4 : Int) (s : vS), PR (W_l_X11_isOid_5) s (Sum.elim (fun q => q.2) (fun q => q.2)) (l_X11_isOid_5 p0 n x1 x2 x3 x4 s)
  := by
  intro n
  induction n with
  | zero => intro x1 x2 x3 x4 s; exact PR.none
  | succ n ih =>
    intro x1 x2 x3 x4 s
    unfold l_X11_isOid_5
    have Hs : Fr (W_l_X11_isOid_5) s s := Fr.rfl
    refine PR.ite (fun _ => ?_) (fun _ => ?_)
    · exact PR.some Hs
    · refine PR.ite (fun _ => ?_) (fun _ => ?_)
      · exact PR.tail Hs (fr_j_X11_isOid_29 p0 (l_X11_isOid_5 p0 n) ih x1 x2 x4 s)
      · refine PR.bd (PR.pure Hs (fr_f_X2_at p0 x4 s)) (fun r6 s3 Hs3 => ?_)
        refine PR.ite (fun _ => ?_) (fun _ => ?_)
        · exact PR.some Hs3
        · exact PR.tail Hs3 (fr_j_X11_isOid_29 p0 (l_X11_isOid_5 p0 n) ih x1 x2 x4 s3)
def W_f_X11_isOid : List Nat := []
theorem fr_f_X11_isOid (p0 : Nat) (x1 : Int) (x2 : Int) (s : vS) : PR (W_f_X11_isOid) s (fun q => q.2) (f_X11_isOid p0 x1 x2 s) := by
  unfold f_X11_isOid
  have Hs : Fr (W_f_X11_isOid) s s := Fr.rfl
  refine PR.lqs_1 (PR.pure Hs (fr_l_X11_isOid_5 p0 FU x1 x2 1 x1 s)) (fun y1 s2 Hs2 => ?_) (fun q Hq => PR.some Hq)
  refine PR.ite (fun _ => ?_) (fun _ => ?_)
  · exact PR.some Hs2
  · refine PR.ite (fun _ => ?_) (fun _ => ?_)
    · exact PR.some Hs2
    · exact PR.some Hs2
def W_j_X11_fault_79 : List Nat := []
theorem fr_j_X11_fault_79 (p1 : Nat) (x4 : Int) (s : vS) : PR (W_j_X11_fault_79) s (fun q => q.2) (j_X11_fault_79 p1 x4 s) := by
  unfold j_X11_fault_79
  have Hs : Fr (W_j_X11_fault_79) s s := Fr.rfl
  refine PR.ite (fun _ => ?_) (fun _ => ?_)
  · exact PR.some Hs
  · exact PR.some Hs
def W_j_X11_fault_54 : List Nat := []
theorem fr_j_X11_fault_54 (p1 : Nat) (x2 : Int) (x3 : Int) (s : vS) : PR (W_j_X11_fault_54) s (fun q => q.2) (j_X11_fault_54 p1 x2 x3 s) := by
  unfold j_X11_fault_54
  have Hs : Fr (W_j_X11_fault_54) s s := Fr.rfl
  refine PR.bd (PR.pure Hs (fr_f_X7_isShort p1 x2 x3 s)) (fun r4 s1 Hs1 => ?_)
  exact PR.pure Hs1 (fr_j_X11_fault_79 p1 r4 s1)
def W_f_X11_fault : List Nat := []
theorem fr_f_X11_fault (x0 : Int) (p1 : Nat) (x2 : Int) (x3 : Int) (s : vS) : PR (W_f_X11_fault) s (fun q => q.2) (f_X11_fault x0 p1 x2 x3 s) := by
  unfold f_X11_fault
  have Hs : Fr (W_f_X11_fault) s s := Fr.rfl
  refine PR.ite (fun _ => ?_) (fun _ => ?_)
  · refine PR.ite (fun _ => ?_) (fun _ => ?_)
    · exact PR.pure Hs (fr_j_X11_fault_79 p1 1 s)
    · exact PR.pure Hs (fr_j_X11_fault_79 p1 0 s)
  · refine PR.ite (fun _ => ?_) (fun _ => ?_)
    · refine PR.ite (fun _ => ?_) (fun _ => ?_)
      · exact PR.pure Hs (fr_j_X11_fault_79 p1 1 s)
      · exact PR.pure Hs (fr_j_X11_fault_79 p1 0 s)
    · refine PR.ite (fun _ => ?_) (fun _ => ?_)
      · exact PR.pure Hs (fr_j_X11_fault_54 p1 x2 x3 s)
      · refine PR.ite (fun _ => ?_) (fun _ => ?_)
        · exact PR.pure Hs (fr_j_X11_fault_54 p1 x2 x3 s)
        · refine PR.ite (fun _ => ?_) (fun _ => ?_)
          · refine PR.bd (PR.pure Hs (fr_f_X11_isOid p1 x2 x3 s)) (fun r9 s6 Hs6 => ?_)
            exact PR.pure Hs6 (fr_j_X11_fault_79 p1 r9 s6)
          · exact PR.pure Hs (fr_j_X11_fault_79 p1 1 s)
def W_j_X13_plain_154 : List Nat := [73001, 74998, 74999]
theorem fr_j_X13_plain_154 (z1 : Int) (s : vS) : PR (W_j_X13_plain_154) s (fun q => q) (j_X13_plain_154 z1 s) := by
  unfold j_X13_plain_154
  have Hs : Fr (W_j_X13_plain_154) s s := Fr.rfl
  refine PR.bdv (PR.call Hs (fr_f_X2_add 73 z1 s) (by decide +kernel)) (fun s1 Hs1 => ?_)
  exact PR.some Hs1
def W_j_X13_plain_127 : List Nat := [73001, 74998, 74999]
theorem fr_j_X13_plain_127 (x2 : Int) (x4 : Int) (x5 : Int) (s : vS) : PR (W_j_X13_plain_127) s (fun q => q) (j_X13_plain_127 x2 x4 x5 s) := by
  unfold j_X13_plain_127
  have Hs : Fr (W_j_X13_plain_127) s s := Fr.rfl
  refine PR.ite (fun _ => ?_) (fun _ => ?_)
  · refine PR.gd ?_
    refine PR.bd (PR.pure Hs (fr_f_X2_at (gR s 54 4) x4 s)) (fun r10 s7 Hs7 => ?_)
    refine PR.ite (fun _ => ?_) (fun _ => ?_)
    · exact PR.call Hs7 (fr_j_X13_plain_154 0 s7) (by decide +kernel)
    · exact PR.call Hs7 (fr_j_X13_plain_154 255 s7) (by decide +kernel)
  · refine PR.gd ?_
    refine PR.bdv (PR.call Hs (fr_f_X2_all 73 (gR s 54 4) x4 x5 s) (by decide +kernel)) (fun s3 Hs3 => ?_)
    exact PR.some Hs3
def W_j_X13_plain_92 : List Nat := [54006, 54007, 73001, 74998, 74999]
theorem fr_j_X13_plain_92 (x1 : Int) (x2 : Int) (x3 : Int) (x4 : Int) (x5 : Int) (s : vS) : PR (W_j_X13_plain_92) s (fun q => q) (j_X13_plain_92 x1 x2 x3 x4 x5 s) := by
  unfold j_X13_plain_92
  have Hs : Fr (W_j_X13_plain_92) s s := Fr.rfl
  refine PR.ite (fun _ => ?_) (fun _ => ?_)
  · refine PR.gd ?_
    refine PR.bd (PR.pure Hs (fr_f_X6_isInRange x3 (gR s 54 4) x4 x5 s)) (fun r6 s3 Hs3 => ?_)
    refine PR.ite (fun _ => ?_) (fun _ => ?_)
    · refine PR.bd (PR.call Hs3 (fr_f_X13_wrong 21 x1 s3) (by decide +kernel)) (fun r12 s9 Hs9 => ?_)
      exact PR.some Hs9
    · exact PR.call Hs3 (fr_j_X13_plain_127 x2 x4 x5 s3) (by decide +kernel)
  · exact PR.call Hs (fr_j_X13_plain_127 x2 x4 x5 s) (by decide +kernel)
def W_f_X13_plain : List Nat := [39999, 54006, 54007, 73001, 74998, 74999]
theorem fr_f_X13_plain (x1 : Int) (x2 : Int) (x3 : Int) (s : vS) : PR (W_f_X13_plain) s (fun q => q) (f_X13_plain x1 x2 x3 s) := by
  unfold f_X13_plain
  have Hs : Fr (W_f_X13_plain) s s := Fr.rfl
  refine PR.gd ?_
  refine PR.bd (PR.pure Hs (fr_f_X12_from x1 s)) (fun r5 s2 Hs2 => ?_)
  refine PR.gd ?_
  refine PR.bd (PR.pure Hs2 (fr_f_X12_to x1 s2)) (fun r11 s8 Hs8 => ?_)
  refine PR.gd ?_
  refine PR.bd (PR.pure Hs8 (fr_f_X11_fault x2 (gR s8 54 4) r5 r11 s8)) (fun r17 s14 Hs14 => ?_)
  refine PR.ite (fun _ => ?_) (fun _ => ?_)
  · refine PR.ite (fun _ => ?_) (fun _ => ?_)
    · refine PR.bd (PR.call Hs14 (fr_f_X6_base x3 s14) (by decide +kernel)) (fun r24 s21 Hs21 => ?_)
      refine PR.gd ?_
      refine PR.bd (PR.pure Hs21 (fr_f_X6_isItem r24 (gR s21 54 4) r5 r11 s21)) (fun r30 s27 Hs27 => ?_)
      refine PR.ite (fun _ => ?_) (fun _ => ?_)
      · refine PR.bd (PR.call Hs27 (fr_f_X13_wrong 23 x1 s27) (by decide +kernel)) (fun r36 s33 Hs33 => ?_)
        exact PR.some Hs33
      · exact PR.call Hs27 (fr_j_X13_plain_92 x1 x2 x3 r5 r11 s27) (by decide +kernel)
    · exact PR.call Hs14 (fr_j_X13_plain_92 x1 x2 x3 r5 r11 s14) (by decide +kernel)
  · refine PR.bd (PR.call Hs14 (fr_f_X13_wrong r17 x1 s14) (by decide +kernel)) (fun r41 s38 Hs38 => ?_)
    exact PR.some Hs38
def W_f_X12_behind : List Nat := []
theorem fr_f_X12_behind (x1 : Int) (s : vS) : PR (W_f_X12_behind) s (fun q => q.2) (f_X12_behind x1 s) := by
  unfold f_X12_behind
  have Hs : Fr (W_f_X12_behind) s s := Fr.rfl
  refine PR.gd ?_
  exact PR.some Hs
def W_j_X13_addBits_56 : List Nat := [75001, 76998, 76999]
theorem fr_j_X13_addBits_56 (x2 : Int) (x3 : Int) (s : vS) : PR (W_j_X13_addBits_56) s (fun q => q.2) (j_X13_addBits_56 x2 x3 s) := by
  unfold j_X13_addBits_56
  have Hs : Fr (W_j_X13_addBits_56) s s := Fr.rfl
  refine PR.gd ?_
  refine PR.bd (PR.pure Hs (fr_f_X2_at (gR s 54 4) x2 s)) (fun r5 s2 Hs2 => ?_)
  refine PR.bdv (PR.call Hs2 (fr_f_X2_set 75 0 r5 s2) (by decide +kernel)) (fun s7 Hs7 => ?_)
  refine PR.gd ?_
  refine PR.bdv (PR.call Hs7 (fr_f_X2_all 75 (gR s7 54 4) (w32 (x2 + 1)) x3 s7) (by decide +kernel)) (fun s11 Hs11 => ?_)
  exact PR.some Hs11
def W_f_X13_addBits : List Nat := [75001, 76998, 76999]
theorem fr_f_X13_addBits (x1 : Int) (s : vS) : PR (W_f_X13_addBits) s (fun q => q.2) (f_X13_addBits x1 s) := by
  unfold f_X13_addBits
  have Hs : Fr (W_f_X13_addBits) s s := Fr.rfl
  refine PR.gd ?_
  refine PR.bd (PR.pure Hs (fr_f_X12_from x1 s)) (fun r5 s2 Hs2 => ?_)
  refine PR.gd ?_
  refine PR.bd (PR.pure Hs2 (fr_f_X12_to x1 s2)) (fun r11 s8 Hs8 => ?_)
  refine PR.ite (fun _ => ?_) (fun _ => ?_)
  · exact PR.some Hs8
  · refine PR.gd ?_
    refine PR.bd (PR.pure Hs8 (fr_f_X2_at (gR s8 54 4) r5 s8)) (fun r18 s15 Hs15 => ?_)
    refine PR.ite (fun _ => ?_) (fun _ => ?_)
    · exact PR.some Hs15
    · refine PR.gd ?_
      refine PR.bd (PR.pure Hs15 (fr_f_X2_at (gR s15 54 4) r5 s15)) (fun r25 s22 Hs22 => ?_)
      refine PR.ite (fun _ => ?_) (fun _ => ?_)
      · exact PR.call Hs22 (fr_j_X13_addBits_56 r5 r11 s22) (by decide +kernel)
      · refine PR.ite (fun _ => ?_) (fun _ => ?_)
        · exact PR.some Hs22
        · exact PR.call Hs22 (fr_j_X13_addBits_56 r5 r11 s22) (by decide +kernel)
def W_l_X13_bits_64 : List Nat := [54006, 54007, 75001, 76998, 76999]
theorem fr_j_X13_bits_145 (rec : Int → Int → Int → Int → Int → vS → Option (vS)) (hrec : ∀ (y0 : Int) (y1 : Int) (y2 : Int) (y3 : Int) (y4 : Int) (s : vS), PR (W_l_X13_bits_64) s (fun q => q) (rec y0 y1 y2 y3 y4 s)) (x1 : Int) (x2 : Int) (x4 : Int) (x5 : Int) (s : vS) : PR (W_l_X13_bits_64) s (fun q => q) (j_X13_bits_145 rec x1 x2 x4 x5 s) := by
  unfold j_X13_bits_145
  have Hs : Fr (W_l_X13_bits_64) s s := Fr.rfl
  refine PR.bd (PR.call Hs (fr_f_X13_wrong 16 x1 s) (by decide +kernel)) (fun r4 s1 Hs1 => ?_)
  refine PR.vl (fun y6 => ?_)
  exact PR.tail Hs1 (hrec x1 x2 x5 x4 y6 s1)
theorem fr_j_X13_bits_136 (rec : Int → Int → Int → Int → Int → vS → Option (vS)) (hrec : ∀ (y0 : Int) (y1 : Int) (y2 : Int) (y3 : Int) (y4 : Int) (s : vS), PR (W_l_X13_bits_64) s (fun q => q) (rec y0 y1 y2 y3 y4 s)) (x1 : Int) (x2 : Int) (x4 : Int) (x5 : Int) (s : vS) : PR (W_l_X13_bits_64) s (fun q => q) (j_X13_bits_136 rec x1 x2 x4 x5 s) := by
  unfold j_X13_bits_136
  have Hs : Fr (W_l_X13_bits_64) s s := Fr.rfl
  refine PR.bd (PR.call Hs (fr_f_X13_addBits x5 s) (by decide +kernel)) (fun r4 s1 Hs1 => ?_)
  refine PR.ite (fun _ => ?_) (fun _ => ?_)
  · exact PR.tail Hs1 (fr_j_X13_bits_145 rec hrec x1 x2 x4 x5 s1)
  · refine PR.vl (fun y7 => ?_)
    exact PR.tail Hs1 (hrec x1 x2 x5 x4 y7 s1)
theorem fr_j_X13_bits_108 (rec : Int → Int → Int → Int → Int → vS → Option (vS)) (hrec : ∀ (y0 : Int) (y1 : Int) (y2 : Int) (y3 : Int) (y4 : Int) (s : vS), PR (W_l_X13_bits_64) s (fun q => q) (rec y0 y1 y2 y3 y4 s)) (x1 : Int) (x2 : Int) (x3 : Int) (x4 : Int) (x5 : Int) (s : vS) : PR (W_l_X13_bits_64) s (fun q => q) (j_X13_bits_108 rec x1 x2 x3 x4 x5 s) := by
  unfold j_X13_bits_108
  have Hs : Fr (W_l_X13_bits_64) s s := Fr.rfl
  refine PR.gd ?_
  refine PR.bd (PR.pure Hs (fr_f_X12_hasParts x5 s)) (fun r5 s2 Hs2 => ?_)
  refine PR.ite (fun _ => ?_) (fun _ => ?_)
  · refine PR.ite (fun _ => ?_) (fun _ => ?_)
    · exact PR.tail Hs2 (fr_j_X13_bits_136 rec hrec x1 x2 x4 x5 s2)
    · refine PR.bd (PR.pure Hs2 (fr_f_X2_at 75 0 s2)) (fun r15 s12 Hs12 => ?_)
      refine PR.ite (fun _ => ?_) (fun _ => ?_)
      · exact PR.tail Hs12 (fr_j_X13_bits_145 rec hrec x1 x2 x4 x5 s12)
      · exact PR.tail Hs12 (fr_j_X13_bits_136 rec hrec x1 x2 x4 x5 s12)
  · refine PR.vl (fun y8 => ?_)
    exact PR.tail Hs2 (hrec x1 x2 x3 x4 y8 s2)
theorem fr_l_X13_bits_64 : ∀ (n : Nat) (x1 : Int) (x2 : Int) (x3 : Int) (x4 : Int) (x5 : Int) (s : vS), PR (W_l_X13_bits_64) s (fun q => q) (l_X13_bits_64 n x1 x2 x3 x4 x5 s)
  := by
  intro n
  induction n with
  | zero => intro x1 x2 x3 x4 x5 s; exact PR.none
  | succ n ih =>
    intro x1 x2 x3 x4 x5 s
    unfold l_X13_bits_64
    have Hs : Fr (W_l_X13_bits_64) s s := Fr.rfl
    refine PR.ite (fun _ => ?_) (fun _ => ?_)
    · exact PR.some Hs
    · refine PR.ite (fun _ => ?_) (fun _ => ?_)
      · refine PR.ite (fun _ => ?_) (fun _ => ?_)
        · exact PR.tail Hs (fr_j_X13_bits_108 (l_X13_bits_64 n) ih x1 x2 x3 x4 x5 s)
        · refine PR.gd ?_
          refine PR.bd (PR.pure Hs (fr_f_X12_tag x5 s)) (fun r8 s5 Hs5 => ?_)
          refine PR.ite (fun _ => ?_) (fun _ => ?_)
          · exact PR.tail Hs5 (fr_j_X13_bits_108 (l_X13_bits_64 n) ih x1 x2 x3 x4 x5 s5)
          · refine PR.bd (PR.call Hs5 (fr_f_X13_wrong 16 x1 s5) (by decide +kernel)) (fun r14 s11 Hs11 => ?_)
            refine PR.vl (fun y16 => ?_)
            exact PR.tail Hs11 (ih x1 x2 x3 x4 y16 s11)
      · exact PR.some Hs
def W_j_X13_bits_162 : List Nat := [39999, 54006, 54007, 73001, 74998, 74999]
theorem fr_j_X13_bits_162 (x1 : Int) (x2 : Int) (s : vS) : PR (W_j_X13_bits_162) s (fun q => q) (j_X13_bits_162 x1 x2 s) := by
  unfold j_X13_bits_162
  have Hs : Fr (W_j_X13_bits_162) s s := Fr.rfl
  refine PR.ite (fun _ => ?_) (fun _ => ?_)
  · refine PR.bd (PR.call Hs (fr_f_X6_base x2 s) (by decide +kernel)) (fun r5 s2 Hs2 => ?_)
    refine PR.bd (PR.pure Hs2 (fr_f_X2_size 75 s2)) (fun r10 s7 Hs7 => ?_)
    refine PR.bd (PR.pure Hs7 (fr_f_X6_bitsOf x2 r5 75 0 r10 s7)) (fun r15 s12 Hs12 => ?_)
    refine PR.ite (fun _ => ?_) (fun _ => ?_)
    · refine PR.bd (PR.call Hs12 (fr_f_X13_wrong 22 x1 s12) (by decide +kernel)) (fun r29 s26 Hs26 => ?_)
      exact PR.some Hs26
    · refine PR.bd (PR.pure Hs12 (fr_f_X2_size 75 s12)) (fun r21 s18 Hs18 => ?_)
      refine PR.bdv (PR.call Hs18 (fr_f_X11_write 75 0 r21 r15 73 s18) (by decide +kernel)) (fun s23 Hs23 => ?_)
      exact PR.some Hs23
  · exact PR.some Hs
def W_j_X13_bits_42 : List Nat := [39999, 54006, 54007, 73001, 74998, 74999, 75001, 76998, 76999]
theorem fr_j_X13_bits_42 (x1 : Int) (x2 : Int) (x3 : Int) (z0 : Int) (s : vS) : PR (W_j_X13_bits_42) s (fun q => q) (j_X13_bits_42 x1 x2 x3 z0 s) := by
  unfold j_X13_bits_42
  have Hs : Fr (W_j_X13_bits_42) s s := Fr.rfl
  refine PR.gd ?_
  refine PR.bd (PR.pure Hs (fr_f_X12_hasParts x1 s)) (fun r5 s2 Hs2 => ?_)
  refine PR.ite (fun _ => ?_) (fun _ => ?_)
  · refine PR.lq_0 (PR.call Hs2 (fr_l_X13_bits_64 FU x1 x2 x3 z0 x1 s2) (by decide +kernel)) (fun s8 Hs8 => ?_)
    exact PR.call Hs8 (fr_j_X13_bits_162 x1 x2 s8) (by decide +kernel)
  · refine PR.vl (fun y10 => ?_)
    refine PR.lq_0 (PR.call Hs2 (fr_l_X13_bits_64 FU x1 x2 x3 z0 y10 s2) (by decide +kernel)) (fun s13 Hs13 => ?_)
    exact PR.call Hs13 (fr_j_X13_bits_162 x1 x2 s13) (by decide +kernel)
def W_f_X13_bits : List Nat := [39999, 54006, 54007, 73001, 74998, 74999, 75001, 76998, 76999]
theorem fr_f_X13_bits (x1 : Int) (x2 : Int) (s : vS) : PR (W_f_X13_bits) s (fun q => q) (f_X13_bits x1 x2 s) := by
  unfold f_X13_bits
  have Hs : Fr (W_f_X13_bits) s s := Fr.rfl
  refine PR.bdv (PR.call Hs (fr_f_X2_clear 75 s) (by decide +kernel)) (fun s1 Hs1 => ?_)
  refine PR.bdv (PR.call Hs1 (fr_f_X2_add 75 0 s1) (by decide +kernel)) (fun s4 Hs4 => ?_)
  refine PR.gd ?_
  refine PR.bd (PR.pure Hs4 (fr_f_X12_hasParts x1 s4)) (fun r11 s8 Hs8 => ?_)
  refine PR.ite (fun _ => ?_) (fun _ => ?_)
  · exact PR.call Hs8 (fr_j_X13_bits_42 x1 x2 (-1) (w32 (x1 + 1)) s8) (by decide +kernel)
  · refine PR.gd ?_
    refine PR.bd (PR.pure Hs8 (fr_f_X12_behind x1 s8)) (fun r18 s15 Hs15 => ?_)
    exact PR.call Hs15 (fr_j_X13_bits_42 x1 x2 (-1) r18 s15) (by decide +kernel)
def W_f_X11_characters : List Nat := []
theorem fr_f_X11_characters (o : Nat) (s : vS) : PR (W_f_X11_characters) s (fun q => q.2) (f_X11_characters o s) := by
  unfold f_X11_characters
  have Hs : Fr (W_f_X11_characters) s s := Fr.rfl
  exact PR.some Hs
def W_j_X13_string_182 : List Nat := [54006, 54007, 58000, 58001, 58002, 58003, 58004, 58005, 58006, 58007, 58008, 59001, 60998, 60999, 73001, 74998, 74999]
theorem fr_j_X13_string_182 (x1 : Int) (zo1 : Nat) (z2 : Int) (z3 : Int) (z4 : Int) (s : vS) : PR (W_j_X13_string_182) s (fun q => q) (j_X13_string_182 x1 zo1 z2 z3 z4 s) := by
  unfold j_X13_string_182
  have Hs : Fr (W_j_X13_string_182) s s := Fr.rfl
  refine PR.bd (PR.call Hs (fr_f_X8_read 58 zo1 z2 z3 z4 73 s) (by decide +kernel)) (fun r4 s1 Hs1 => ?_)
  refine PR.ite (fun _ => ?_) (fun _ => ?_)
  · exact PR.some Hs1
  · refine PR.bd (PR.call Hs1 (fr_f_X13_wrong r4 x1 s1) (by decide +kernel)) (fun r10 s7 Hs7 => ?_)
    exact PR.some Hs7
def W_j_X13_string_161 : List Nat := [54006, 54007, 58000, 58001, 58002, 58003, 58004, 58005, 58006, 58007, 58008, 59001, 60998, 60999, 73001, 74998, 74999]
theorem fr_j_X13_string_161 (x1 : Int) (x2 : Int) (u4 : Nat) (x5 : Int) (x6 : Int) (s : vS) : PR (W_j_X13_string_161) s (fun q => q) (j_X13_string_161 x1 x2 u4 x5 x6 s) := by
  unfold j_X13_string_161
  have Hs : Fr (W_j_X13_string_161) s s := Fr.rfl
  refine PR.ite (fun _ => ?_) (fun _ => ?_)
  · exact PR.call Hs (fr_j_X13_string_182 x1 u4 x5 x6 1 s) (by decide +kernel)
  · exact PR.call Hs (fr_j_X13_string_182 x1 u4 x5 x6 0 s) (by decide +kernel)
def W_j_X13_string_149 : List Nat := [54006, 54007, 55001, 58000, 58001, 58002, 58003, 58004, 58005, 58006, 58007, 58008, 59001, 60998, 60999, 73001, 74998, 74999]
theorem fr_j_X13_string_149 (x1 : Int) (x2 : Int) (x3 : Int) (u4 : Nat) (x5 : Int) (x6 : Int) (s : vS) : PR (W_j_X13_string_149) s (fun q => q) (j_X13_string_149 x1 x2 x3 u4 x5 x6 s) := by
  unfold j_X13_string_149
  have Hs : Fr (W_j_X13_string_149) s s := Fr.rfl
  refine PR.ite (fun _ => ?_) (fun _ => ?_)
  · exact PR.call Hs (fr_j_X13_string_161 x1 x2 u4 x5 x6 s) (by decide +kernel)
  · refine PR.ite (fun _ => ?_) (fun _ => ?_)
    · exact PR.call Hs (fr_j_X13_string_161 x1 x2 u4 x5 x6 s) (by decide +kernel)
    · refine PR.bd (PR.call Hs (fr_f_X11_isString 55 x2 u4 x5 x6 s) (by decide +kernel)) (fun r6 s3 Hs3 => ?_)
      refine PR.ite (fun _ => ?_) (fun _ => ?_)
      · refine PR.bd (PR.call Hs3 (fr_f_X13_wrong 17 x1 s3) (by decide +kernel)) (fun r31 s28 Hs28 => ?_)
        exact PR.some Hs28
      · refine PR.bd (PR.pure Hs3 (fr_f_X11_characters 55 s3)) (fun r12 s9 Hs9 => ?_)
        refine PR.bd (PR.pure Hs9 (fr_f_X6_isSize x3 r12 s9)) (fun r17 s14 Hs14 => ?_)
        refine PR.ite (fun _ => ?_) (fun _ => ?_)
        · refine PR.bd (PR.call Hs14 (fr_f_X13_wrong 22 x1 s14) (by decide +kernel)) (fun r26 s23 Hs23 => ?_)
          exact PR.some Hs23
        · refine PR.bdv (PR.call Hs14 (fr_f_X2_all 73 u4 x5 x6 s14) (by decide +kernel)) (fun s20 Hs20 => ?_)
          exact PR.some Hs20
def W_l_X13_string_49 : List Nat := [54006, 54007, 75001, 76998, 76999]
theorem fr_l_X13_string_49 : ∀ (n : Nat) (x1 : Int) (x2 : Int) (x3 : Int) (x7 : Int) (s : vS), PR (W_l_X13_string_49) s (Sum.elim (fun q => q) (fun q => q)) (l_X13_string_49 n x1 x2 x3 x7 s)
  := by
  intro n
  induction n with
  | zero => intro x1 x2 x3 x7 s; exact PR.none
  | succ n ih =>
    intro x1 x2 x3 x7 s
    unfold l_X13_string_49
    have Hs : Fr (W_l_X13_string_49) s s := Fr.rfl
    refine PR.gd ?_
    refine PR.bd (PR.pure Hs (fr_f_X12_behind x1 s)) (fun r5 s2 Hs2 => ?_)
    refine PR.ite (fun _ => ?_) (fun _ => ?_)
    · exact PR.some Hs2
    · refine PR.gd ?_
      refine PR.bd (PR.pure Hs2 (fr_f_X12_tag x7 s2)) (fun r12 s9 Hs9 => ?_)
      refine PR.ite (fun _ => ?_) (fun _ => ?_)
      · refine PR.gd ?_
        refine PR.bd (PR.pure Hs9 (fr_f_X12_hasParts x7 s9)) (fun r19 s16 Hs16 => ?_)
        refine PR.ite (fun _ => ?_) (fun _ => ?_)
        · refine PR.gd ?_
          refine PR.gd ?_
          refine PR.bd (PR.pure Hs16 (fr_f_X12_from x7 s16)) (fun r30 s27 Hs27 => ?_)
          refine PR.gd ?_
          refine PR.bd (PR.pure Hs27 (fr_f_X12_to x7 s27)) (fun r36 s33 Hs33 => ?_)
          refine PR.bdv (PR.call Hs33 (fr_f_X2_all 75 (gR s16 54 4) r30 r36 s33) (by decide +kernel)) (fun s38 Hs38 => ?_)
          refine PR.vl (fun y41 => ?_)
          exact PR.tail Hs38 (ih x1 x2 x3 y41 s38)
        · refine PR.vl (fun y22 => ?_)
          exact PR.tail Hs16 (ih x1 x2 x3 y22 s16)
      · refine PR.bd (PR.call Hs9 (fr_f_X13_wrong 16 x1 s9) (by decide +kernel)) (fun r47 s44 Hs44 => ?_)
        exact PR.some Hs44
def W_f_X13_string : List Nat := [54006, 54007, 55001, 58000, 58001, 58002, 58003, 58004, 58005, 58006, 58007, 58008, 59001, 60998, 60999, 73001, 74998, 74999, 75001, 76998, 76999]
theorem fr_f_X13_string (x1 : Int) (x2 : Int) (x3 : Int) (s : vS) : PR (W_f_X13_string) s (fun q => q) (f_X13_string x1 x2 x3 s) := by
  unfold f_X13_string
  have Hs : Fr (W_f_X13_string) s s := Fr.rfl
  refine PR.gd ?_
  refine PR.gd ?_
  refine PR.bd (PR.pure Hs (fr_f_X12_from x1 s)) (fun r6 s3 Hs3 => ?_)
  refine PR.gd ?_
  refine PR.bd (PR.pure Hs3 (fr_f_X12_to x1 s3)) (fun r12 s9 Hs9 => ?_)
  refine PR.gd ?_
  refine PR.bd (PR.pure Hs9 (fr_f_X12_hasParts x1 s9)) (fun r18 s15 Hs15 => ?_)
  refine PR.ite (fun _ => ?_) (fun _ => ?_)
  · exact PR.call Hs15 (fr_j_X13_string_149 x1 x2 x3 (gR s 54 4) r6 r12 s15) (by decide +kernel)
  · refine PR.bdv (PR.call Hs15 (fr_f_X2_clear 75 s15) (by decide +kernel)) (fun s21 Hs21 => ?_)
    refine PR.vl (fun y24 => ?_)
    refine PR.lqs_0 (PR.call Hs21 (fr_l_X13_string_49 FU x1 x2 x3 y24 s21) (by decide +kernel)) (fun s27 Hs27 => ?_) (fun q Hq => PR.some Hq)
    refine PR.bd (PR.pure Hs27 (fr_f_X2_size 75 s27)) (fun r32 s29 Hs29 => ?_)
    exact PR.call Hs29 (fr_j_X13_string_149 x1 x2 x3 75 0 r32 s29) (by decide +kernel)
def W_j_X13_leaf_100 : List Nat := [66999]
theorem fr_j_X13_leaf_100 (x1 : Int) (s : vS) : PR (W_j_X13_leaf_100) s (fun q => q) (j_X13_leaf_100 x1 s) := by
  unfold j_X13_leaf_100
  have Hs : Fr (W_j_X13_leaf_100) s s := Fr.rfl
  refine PR.bd (PR.pure Hs (fr_f_X2_size 73 s)) (fun r4 s1 Hs1 => ?_)
  refine PR.gd ?_
  refine PR.gd ?_
  refine PR.gd ?_
  refine PR.stp (Fr.wE Hs1 (by decide +kernel)) (fun s9 Hs9 => ?_)
  exact PR.some Hs9
def W_j_X13_leaf_41 : List Nat := [39999, 54006, 54007, 55001, 58000, 58001, 58002, 58003, 58004, 58005, 58006, 58007, 58008, 59001, 60998, 60999, 65999, 66999, 73001, 74998, 74999, 75001, 76998, 76999]
theorem fr_j_X13_leaf_41 (x1 : Int) (x2 : Int) (x3 : Int) (s : vS) : PR (W_j_X13_leaf_41) s (fun q => q) (j_X13_leaf_41 x1 x2 x3 s) := by
  unfold j_X13_leaf_41
  have Hs : Fr (W_j_X13_leaf_41) s s := Fr.rfl
  refine PR.bd (PR.pure Hs (fr_f_X2_size 73 s)) (fun r4 s1 Hs1 => ?_)
  refine PR.gd ?_
  refine PR.gd ?_
  refine PR.stp (Fr.wE Hs1 (by decide +kernel)) (fun s8 Hs8 => ?_)
  refine PR.gd ?_
  refine PR.vl (fun y11 => ?_)
  refine PR.ite (fun _ => ?_) (fun _ => ?_)
  · refine PR.ite (fun _ => ?_) (fun _ => ?_)
    · refine PR.bdv (PR.call Hs8 (fr_f_X13_bits x1 y11 s8) (by decide +kernel)) (fun s19 Hs19 => ?_)
      exact PR.call Hs19 (fr_j_X13_leaf_100 x1 s19) (by decide +kernel)
    · refine PR.bdv (PR.call Hs8 (fr_f_X13_string x1 x2 y11 s8) (by decide +kernel)) (fun s16 Hs16 => ?_)
      exact PR.call Hs16 (fr_j_X13_leaf_100 x1 s16) (by decide +kernel)
  · refine PR.bdv (PR.call Hs8 (fr_f_X13_plain x1 x2 y11 s8) (by decide +kernel)) (fun s22 Hs22 => ?_)
    exact PR.call Hs22 (fr_j_X13_leaf_100 x1 s22) (by decide +kernel)
def W_j_X13_leaf_16 : List Nat := [39999, 54006, 54007, 55001, 58000, 58001, 58002, 58003, 58004, 58005, 58006, 58007, 58008, 59001, 60998, 60999, 65999, 66999, 73001, 74998, 74999, 75001, 76998, 76999]
theorem fr_j_X13_leaf_16 (x1 : Int) (x2 : Int) (z0 : Int) (s : vS) : PR (W_j_X13_leaf_16) s (fun q => q) (j_X13_leaf_16 x1 x2 z0 s) := by
  unfold j_X13_leaf_16
  have Hs : Fr (W_j_X13_leaf_16) s s := Fr.rfl
  refine PR.ite (fun _ => ?_) (fun _ => ?_)
  · exact PR.call Hs (fr_j_X13_leaf_41 x1 x2 z0 s) (by decide +kernel)
  · refine PR.gd ?_
    refine PR.bd (PR.pure Hs (fr_f_X12_hasParts x1 s)) (fun r6 s3 Hs3 => ?_)
    refine PR.ite (fun _ => ?_) (fun _ => ?_)
    · exact PR.call Hs3 (fr_j_X13_leaf_41 x1 x2 z0 s3) (by decide +kernel)
    · refine PR.bd (PR.call Hs3 (fr_f_X13_wrong 14 x1 s3) (by decide +kernel)) (fun r12 s9 Hs9 => ?_)
      exact PR.some Hs9
def W_f_X13_leaf : List Nat := [39999, 54006, 54007, 55001, 58000, 58001, 58002, 58003, 58004, 58005, 58006, 58007, 58008, 59001, 60998, 60999, 65999, 66999, 73001, 74998, 74999, 75001, 76998, 76999]
theorem fr_f_X13_leaf (x1 : Int) (x2 : Int) (s : vS) : PR (W_f_X13_leaf) s (fun q => q) (f_X13_leaf x1 x2 s) := by
  unfold f_X13_leaf
  have Hs : Fr (W_f_X13_leaf) s s := Fr.rfl
  refine PR.ite (fun _ => ?_) (fun _ => ?_)
  · exact PR.call Hs (fr_j_X13_leaf_16 x1 x2 1 s) (by decide +kernel)
  · refine PR.ite (fun _ => ?_) (fun _ => ?_)
    · exact PR.call Hs (fr_j_X13_leaf_16 x1 x2 1 s) (by decide +kernel)
    · exact PR.call Hs (fr_j_X13_leaf_16 x1 x2 0 s) (by decide +kernel)
def W_l_X13_enter_104 : List Nat := []
theorem fr_l_X13_enter_104 : ∀ (n : Nat) (x1 : Int) (x2 : Int) (x4 : Int) (x5 : Int) (x6 : Int) (s : vS), PR (W_l_X13_enter_104) s (fun q => q.2) (l_X13_enter_104 n x1 x2 x4 x5 x6 s)
  := by
  intro n
  induction n with
  | zero => intro x1 x2 x4 x5 x6 s; exact PR.none
  | succ n ih =>
    intro x1 x2 x4 x5 x6 s
    unfold l_X13_enter_104
    have Hs : Fr (W_l_X13_enter_104) s s := Fr.rfl
    refine PR.ite (fun _ => ?_) (fun _ => ?_)
    · exact PR.some Hs
    · refine PR.vl (fun y2 => ?_)
      refine PR.bd (PR.pure Hs (fr_f_X4_next x6 s)) (fun r8 s5 Hs5 => ?_)
      exact PR.tail Hs5 (ih x1 x2 x4 y2 r8 s5)
def W_l_X13_enter_157 : List Nat := [71999]
theorem fr_l_X13_enter_157 : ∀ (n : Nat) (x1 : Int) (x2 : Int) (x4 : Int) (x6 : Int) (x7 : Int) (s : vS), PR (W_l_X13_enter_157) s (fun q => q) (l_X13_enter_157 n x1 x2 x4 x6 x7 s)
  := by
  intro n
  induction n with
  | zero => intro x1 x2 x4 x6 x7 s; exact PR.none
  | succ n ih =>
    intro x1 x2 x4 x6 x7 s
    unfold l_X13_enter_157
    have Hs : Fr (W_l_X13_enter_157) s s := Fr.rfl
    refine PR.ite (fun _ => ?_) (fun _ => ?_)
    · exact PR.some Hs
    · refine PR.gd ?_
      refine PR.stp (Fr.wE Hs (by decide +kernel)) (fun s3 Hs3 => ?_)
      refine PR.vl (fun y5 => ?_)
      exact PR.tail Hs3 (ih x1 x2 x4 x6 y5 s3)
def W_j_X13_enter_88 : List Nat := [54018, 67999, 68999, 69999, 70999, 71998, 71999]
theorem fr_j_X13_enter_88 (x1 : Int) (x2 : Int) (x3 : Int) (z0 : Int) (s : vS) : PR (W_j_X13_enter_88) s (fun q => q) (j_X13_enter_88 x1 x2 x3 z0 s) := by
  unfold j_X13_enter_88
  have Hs : Fr (W_j_X13_enter_88) s s := Fr.rfl
  refine PR.ite (fun _ => ?_) (fun _ => ?_)
  · refine PR.lq_1 (PR.pure Hs (fr_l_X13_enter_104 FU x1 x2 z0 0 (-1) s)) (fun y2 s3 Hs3 => ?_)
    refine PR.vl (fun y6 => ?_)
    refine PR.bd (PR.pure Hs3 (fr_f_X13_grown 71 y6 s3)) (fun r12 s13 Hs13 => ?_)
    refine PR.gd ?_
    refine PR.stp (Fr.wgrw Hs13 (by decide +kernel) (by decide +kernel)) (fun s17 Hs17 => ?_)
    refine PR.lq_0 (PR.call Hs17 (fr_l_X13_enter_157 FU x1 x2 z0 y6 z0 s17) (by decide +kernel)) (fun s19 Hs19 => ?_)
    refine PR.gd ?_
    refine PR.stp (Fr.wE Hs19 (by decide +kernel)) (fun s22 Hs22 => ?_)
    refine PR.gd ?_
    refine PR.stp (Fr.wE Hs22 (by decide +kernel)) (fun s25 Hs25 => ?_)
    refine PR.gd ?_
    refine PR.stp (Fr.wE Hs25 (by decide +kernel)) (fun s28 Hs28 => ?_)
    refine PR.gd ?_
    refine PR.stp (Fr.wE Hs28 (by decide +kernel)) (fun s31 Hs31 => ?_)
    refine PR.stp (Fr.wI Hs31 (by decide +kernel)) (fun s33 Hs33 => ?_)
    refine PR.gd ?_
    refine PR.stp (Fr.wE Hs33 (by decide +kernel)) (fun s36 Hs36 => ?_)
    exact PR.some Hs36
  · refine PR.lq_1 (PR.pure Hs (fr_l_X13_enter_104 FU x1 x2 z0 0 x2 s)) (fun y38 s39 Hs39 => ?_)
    refine PR.vl (fun y42 => ?_)
    refine PR.bd (PR.pure Hs39 (fr_f_X13_grown 71 y42 s39)) (fun r48 s49 Hs49 => ?_)
    refine PR.gd ?_
    refine PR.stp (Fr.wgrw Hs49 (by decide +kernel) (by decide +kernel)) (fun s53 Hs53 => ?_)
    refine PR.lq_0 (PR.call Hs53 (fr_l_X13_enter_157 FU x1 x2 z0 y42 z0 s53) (by decide +kernel)) (fun s55 Hs55 => ?_)
    refine PR.gd ?_
    refine PR.stp (Fr.wE Hs55 (by decide +kernel)) (fun s58 Hs58 => ?_)
    refine PR.gd ?_
    refine PR.stp (Fr.wE Hs58 (by decide +kernel)) (fun s61 Hs61 => ?_)
    refine PR.gd ?_
    refine PR.stp (Fr.wE Hs61 (by decide +kernel)) (fun s64 Hs64 => ?_)
    refine PR.gd ?_
    refine PR.stp (Fr.wE Hs64 (by decide +kernel)) (fun s67 Hs67 => ?_)
    refine PR.stp (Fr.wI Hs67 (by decide +kernel)) (fun s69 Hs69 => ?_)
    refine PR.gd ?_
    refine PR.stp (Fr.wE Hs69 (by decide +kernel)) (fun s72 Hs72 => ?_)
    exact PR.some Hs72
def W_f_X13_enter : List Nat := [54018, 67998, 67999, 68998, 68999, 69998, 69999, 70998, 70999, 71998, 71999]
theorem fr_f_X13_enter (x1 : Int) (x2 : Int) (x3 : Int) (s : vS) : PR (W_f_X13_enter) s (fun q => q) (f_X13_enter x1 x2 x3 s) := by
  unfold f_X13_enter
  have Hs : Fr (W_f_X13_enter) s s := Fr.rfl
  refine PR.bd (PR.pure Hs (fr_f_X13_grown 67 (w32 ((gI s 54 18) + 1)) s)) (fun r4 s5 Hs5 => ?_)
  refine PR.gd ?_
  refine PR.stp (Fr.wgrw Hs5 (by decide +kernel) (by decide +kernel)) (fun s9 Hs9 => ?_)
  refine PR.bd (PR.pure Hs9 (fr_f_X13_grown 68 (w32 ((gI s9 54 18) + 1)) s9)) (fun r14 s15 Hs15 => ?_)
  refine PR.gd ?_
  refine PR.stp (Fr.wgrw Hs15 (by decide +kernel) (by decide +kernel)) (fun s19 Hs19 => ?_)
  refine PR.bd (PR.pure Hs19 (fr_f_X13_grown 69 (w32 ((gI s19 54 18) + 1)) s19)) (fun r24 s25 Hs25 => ?_)
  refine PR.gd ?_
  refine PR.stp (Fr.wgrw Hs25 (by decide +kernel) (by decide +kernel)) (fun s29 Hs29 => ?_)
  refine PR.bd (PR.pure Hs29 (fr_f_X13_grown 70 (w32 ((gI s29 54 18) + 2)) s29)) (fun r34 s35 Hs35 => ?_)
  refine PR.gd ?_
  refine PR.stp (Fr.wgrw Hs35 (by decide +kernel) (by decide +kernel)) (fun s39 Hs39 => ?_)
  refine PR.ite (fun _ => ?_) (fun _ => ?_)
  · exact PR.call Hs39 (fr_j_X13_enter_88 x1 x2 x3 0 s39) (by decide +kernel)
  · refine PR.gd ?_
    exact PR.call Hs39 (fr_j_X13_enter_88 x1 x2 x3 (gE s39 70 (gI s39 54 18)) s39) (by decide +kernel)
def W_j_X13_begin_145 : List Nat := [54018, 67998, 67999, 68998, 68999, 69998, 69999, 70998, 70999, 71998, 71999]
theorem fr_j_X13_begin_145 (x1 : Int) (z1 : Int) (z2 : Int) (z3 : Int) (s : vS) : PR (W_j_X13_begin_145) s (fun q => q.2) (j_X13_begin_145 x1 z1 z2 z3 s) := by
  unfold j_X13_begin_145
  have Hs : Fr (W_j_X13_begin_145) s s := Fr.rfl
  refine PR.bdv (PR.call Hs (fr_f_X13_enter z1 z2 z3 s) (by decide +kernel)) (fun s1 Hs1 => ?_)
  exact PR.some Hs1
def W_j_X13_begin_128 : List Nat := [54018, 67998, 67999, 68998, 68999, 69998, 69999, 70998, 70999, 71998, 71999]
theorem fr_j_X13_begin_128 (x1 : Int) (x6 : Int) (x7 : Int) (z1 : Int) (z2 : Int) (s : vS) : PR (W_j_X13_begin_128) s (fun q => q.2) (j_X13_begin_128 x1 x6 x7 z1 z2 s) := by
  unfold j_X13_begin_128
  have Hs : Fr (W_j_X13_begin_128) s s := Fr.rfl
  refine PR.ite (fun _ => ?_) (fun _ => ?_)
  · refine PR.ite (fun _ => ?_) (fun _ => ?_)
    · exact PR.call Hs (fr_j_X13_begin_145 x1 z1 z2 1 s) (by decide +kernel)
    · exact PR.call Hs (fr_j_X13_begin_145 x1 z1 z2 0 s) (by decide +kernel)
  · exact PR.call Hs (fr_j_X13_begin_145 x1 z1 z2 0 s) (by decide +kernel)
def W_j_X13_begin_81 : List Nat := [39999, 54006, 54007, 54018, 67998, 67999, 68998, 68999, 69998, 69999, 70998, 70999, 71998, 71999]
theorem fr_j_X13_begin_81 (x1 : Int) (x2 : Int) (x6 : Int) (x7 : Int) (s : vS) : PR (W_j_X13_begin_81) s (fun q => q.2) (j_X13_begin_81 x1 x2 x6 x7 s) := by
  unfold j_X13_begin_81
  have Hs : Fr (W_j_X13_begin_81) s s := Fr.rfl
  refine PR.gd ?_
  refine PR.bd (PR.pure Hs (fr_f_X12_hasParts x1 s)) (fun r5 s2 Hs2 => ?_)
  refine PR.ite (fun _ => ?_) (fun _ => ?_)
  · refine PR.bd (PR.call Hs2 (fr_f_X13_wrong 14 x1 s2) (by decide +kernel)) (fun r22 s19 Hs19 => ?_)
    exact PR.some Hs19
  · refine PR.ite (fun _ => ?_) (fun _ => ?_)
    · refine PR.bd (PR.call Hs2 (fr_f_X6_base x2 s2) (by decide +kernel)) (fun r12 s9 Hs9 => ?_)
      refine PR.bd (PR.pure Hs9 (fr_f_X4_parts r12 s9)) (fun r17 s14 Hs14 => ?_)
      exact PR.call Hs14 (fr_j_X13_begin_128 x1 x6 x7 x1 r17 s14) (by decide +kernel)
    · exact PR.call Hs2 (fr_j_X13_begin_128 x1 x6 x7 x1 (-1) s2) (by decide +kernel)
def W_f_X13_begin : List Nat := [39999, 54006, 54007, 54018, 55001, 58000, 58001, 58002, 58003, 58004, 58005, 58006, 58007, 58008, 59001, 60998, 60999, 61999, 62999, 63999, 64999, 65999, 66999, 67998, 67999, 68998, 68999, 69998, 69999, 70998, 70999, 71998, 71999, 73001, 74998, 74999, 75001, 76998, 76999]
theorem fr_f_X13_begin (x1 : Int) (x2 : Int) (x3 : Int) (x4 : Int) (x5 : Int) (s : vS) : PR (W_f_X13_begin) s (fun q => q.2) (f_X13_begin x1 x2 x3 x4 x5 s) := by
  unfold f_X13_begin
  have Hs : Fr (W_f_X13_begin) s s := Fr.rfl
  refine PR.gd ?_
  refine PR.stp (Fr.wE Hs (by decide +kernel)) (fun s2 Hs2 => ?_)
  refine PR.gd ?_
  refine PR.stp (Fr.wE Hs2 (by decide +kernel)) (fun s5 Hs5 => ?_)
  refine PR.gd ?_
  refine PR.stp (Fr.wE Hs5 (by decide +kernel)) (fun s8 Hs8 => ?_)
  refine PR.gd ?_
  refine PR.stp (Fr.wE Hs8 (by decide +kernel)) (fun s11 Hs11 => ?_)
  refine PR.gd ?_
  refine PR.stp (Fr.wE Hs11 (by decide +kernel)) (fun s14 Hs14 => ?_)
  refine PR.bd (PR.call Hs14 (fr_f_X13_kind x1 s14) (by decide +kernel)) (fun r19 s16 Hs16 => ?_)
  refine PR.bd (PR.call Hs16 (fr_f_X13_isAround x1 s16) (by decide +kernel)) (fun r24 s21 Hs21 => ?_)
  refine PR.ite (fun _ => ?_) (fun _ => ?_)
  · refine PR.bd (PR.pure Hs21 (fr_f_X13_isMany r19 s21)) (fun r30 s27 Hs27 => ?_)
    refine PR.ite (fun _ => ?_) (fun _ => ?_)
    · refine PR.bdv (PR.call Hs27 (fr_f_X13_leaf x1 r19 s27) (by decide +kernel)) (fun s33 Hs33 => ?_)
      refine PR.gd ?_
      refine PR.bd (PR.pure Hs33 (fr_f_X12_behind x1 s33)) (fun r40 s37 Hs37 => ?_)
      exact PR.some Hs37
    · exact PR.call Hs27 (fr_j_X13_begin_81 x1 x2 r19 r24 s27) (by decide +kernel)
  · exact PR.call Hs21 (fr_j_X13_begin_81 x1 x2 r19 r24 s21) (by decide +kernel)
def W_l_X13_missing_23 : List Nat := [54006, 54007]
theorem fr_j_X13_missing_79 (rec : Int → Int → Int → vS → Option (vS)) (hrec : ∀ (y0 : Int) (y1 : Int) (y2 : Int) (s : vS), PR (W_l_X13_missing_23) s (fun q => q) (rec y0 y1 y2 s)) (x1 : Int) (x2 : Int) (x3 : Int) (s : vS) : PR (W_l_X13_missing_23) s (fun q => q) (j_X13_missing_79 rec x1 x2 x3 s) := by
  unfold j_X13_missing_79
  have Hs : Fr (W_l_X13_missing_23) s s := Fr.rfl
  refine PR.vl (fun y1 => ?_)
  refine PR.bd (PR.pure Hs (fr_f_X4_next x3 s)) (fun r7 s4 Hs4 => ?_)
  exact PR.tail Hs4 (hrec x1 y1 r7 s4)
theorem fr_l_X13_missing_23 : ∀ (n : Nat) (x1 : Int) (x2 : Int) (x3 : Int) (s : vS), PR (W_l_X13_missing_23) s (fun q => q) (l_X13_missing_23 n x1 x2 x3 s)
  := by
  intro n
  induction n with
  | zero => intro x1 x2 x3 s; exact PR.none
  | succ n ih =>
    intro x1 x2 x3 s
    unfold l_X13_missing_23
    have Hs : Fr (W_l_X13_missing_23) s s := Fr.rfl
    refine PR.ite (fun _ => ?_) (fun _ => ?_)
    · exact PR.some Hs
    · refine PR.bd (PR.pure Hs (fr_f_X4_at x3 5 s)) (fun r5 s2 Hs2 => ?_)
      refine PR.ite (fun _ => ?_) (fun _ => ?_)
      · refine PR.gd ?_
        refine PR.gd ?_
        refine PR.ite (fun _ => ?_) (fun _ => ?_)
        · refine PR.bd (PR.call Hs2 (fr_f_X13_wrong 12 x1 s2) (by decide +kernel)) (fun r14 s11 Hs11 => ?_)
          exact PR.tail Hs11 (fr_j_X13_missing_79 (l_X13_missing_23 n) ih x1 x2 x3 s11)
        · exact PR.tail Hs2 (fr_j_X13_missing_79 (l_X13_missing_23 n) ih x1 x2 x3 s2)
      · exact PR.tail Hs2 (fr_j_X13_missing_79 (l_X13_missing_23 n) ih x1 x2 x3 s2)
def W_f_X13_missing : List Nat := [39999, 54006, 54007]
theorem fr_f_X13_missing (x1 : Int) (s : vS) : PR (W_f_X13_missing) s (fun q => q) (f_X13_missing x1 s) := by
  unfold f_X13_missing
  have Hs : Fr (W_f_X13_missing) s s := Fr.rfl
  refine PR.gd ?_
  refine PR.bd (PR.call Hs (fr_f_X6_base (gE s 61 x1) s) (by decide +kernel)) (fun r5 s2 Hs2 => ?_)
  refine PR.bd (PR.pure Hs2 (fr_f_X4_parts r5 s2)) (fun r10 s7 Hs7 => ?_)
  refine PR.lq_0 (PR.call Hs7 (fr_l_X13_missing_23 FU x1 0 r10 s7) (by decide +kernel)) (fun s12 Hs12 => ?_)
  exact PR.some Hs12
def W_l_X13_close_62 : List Nat := [54006, 54007]
theorem fr_j_X13_close_89 (rec : Int → Int → vS → Option (vS)) (hrec : ∀ (y0 : Int) (y1 : Int) (s : vS), PR (W_l_X13_close_62) s (fun q => q) (rec y0 y1 s)) (x2 : Int) (x4 : Int) (s : vS) : PR (W_l_X13_close_62) s (fun q => q) (j_X13_close_89 rec x2 x4 s) := by
  unfold j_X13_close_89
  have Hs : Fr (W_l_X13_close_62) s s := Fr.rfl
  refine PR.bd (PR.pure Hs (fr_f_X4_next x4 s)) (fun r4 s1 Hs1 => ?_)
  exact PR.tail Hs1 (hrec x2 r4 s1)
theorem fr_l_X13_close_62 : ∀ (n : Nat) (x2 : Int) (x4 : Int) (s : vS), PR (W_l_X13_close_62) s (fun q => q) (l_X13_close_62 n x2 x4 s)
  := by
  intro n
  induction n with
  | zero => intro x2 x4 s; exact PR.none
  | succ n ih =>
    intro x2 x4 s
    unfold l_X13_close_62
    have Hs : Fr (W_l_X13_close_62) s s := Fr.rfl
    refine PR.ite (fun _ => ?_) (fun _ => ?_)
    · exact PR.some Hs
    · refine PR.bd (PR.pure Hs (fr_f_X4_at x4 5 s)) (fun r5 s2 Hs2 => ?_)
      refine PR.ite (fun _ => ?_) (fun _ => ?_)
      · refine PR.bd (PR.call Hs2 (fr_f_X13_wrong 12 x2 s2) (by decide +kernel)) (fun r11 s8 Hs8 => ?_)
        exact PR.tail Hs8 (fr_j_X13_close_89 (l_X13_close_62 n) ih x2 x4 s8)
      · exact PR.tail Hs2 (fr_j_X13_close_89 (l_X13_close_62 n) ih x2 x4 s2)
def W_f_X13_close : List Nat := [39999, 54006, 54007, 54018]
theorem fr_f_X13_close (s : vS) : PR (W_f_X13_close) s (fun q => q) (f_X13_close s) := by
  unfold f_X13_close
  have Hs : Fr (W_f_X13_close) s s := Fr.rfl
  refine PR.vl (fun y1 => ?_)
  refine PR.gd ?_
  refine PR.vl (fun y5 => ?_)
  refine PR.bd (PR.call Hs (fr_f_X13_kind y5 s) (by decide +kernel)) (fun r11 s8 Hs8 => ?_)
  refine PR.bd (PR.call Hs8 (fr_f_X13_isAround y5 s8) (by decide +kernel)) (fun r16 s13 Hs13 => ?_)
  refine PR.ite (fun _ => ?_) (fun _ => ?_)
  · refine PR.ite (fun _ => ?_) (fun _ => ?_)
    · refine PR.gd ?_
      refine PR.vl (fun y44 => ?_)
      refine PR.lq_0 (PR.call Hs13 (fr_l_X13_close_62 FU y5 y44 s13) (by decide +kernel)) (fun s47 Hs47 => ?_)
      refine PR.stp (Fr.wI Hs47 (by decide +kernel)) (fun s49 Hs49 => ?_)
      exact PR.some Hs49
    · refine PR.ite (fun _ => ?_) (fun _ => ?_)
      · refine PR.bdv (PR.call Hs13 (fr_f_X13_missing y5 s13) (by decide +kernel)) (fun s38 Hs38 => ?_)
        refine PR.stp (Fr.wI Hs38 (by decide +kernel)) (fun s41 Hs41 => ?_)
        exact PR.some Hs41
      · refine PR.gd ?_
        refine PR.gd ?_
        refine PR.bd (PR.pure Hs13 (fr_f_X6_isSize (gE s13 61 y5) (gE s13 69 y1) s13)) (fun r26 s23 Hs23 => ?_)
        refine PR.ite (fun _ => ?_) (fun _ => ?_)
        · refine PR.bd (PR.call Hs23 (fr_f_X13_wrong 22 y5 s23) (by decide +kernel)) (fun r34 s31 Hs31 => ?_)
          refine PR.stp (Fr.wI Hs31 (by decide +kernel)) (fun s36 Hs36 => ?_)
          exact PR.some Hs36
        · refine PR.stp (Fr.wI Hs23 (by decide +kernel)) (fun s29 Hs29 => ?_)
          exact PR.some Hs29
  · refine PR.gd ?_
    refine PR.ite (fun _ => ?_) (fun _ => ?_)
    · refine PR.bd (PR.call Hs13 (fr_f_X13_wrong 15 y5 s13) (by decide +kernel)) (fun r58 s55 Hs55 => ?_)
      refine PR.stp (Fr.wI Hs55 (by decide +kernel)) (fun s60 Hs60 => ?_)
      exact PR.some Hs60
    · refine PR.stp (Fr.wI Hs13 (by decide +kernel)) (fun s53 Hs53 => ?_)
      exact PR.some Hs53
def W_f_X13_unexpected : List Nat := [54006, 54007]
theorem fr_f_X13_unexpected (x1 : Int) (s : vS) : PR (W_f_X13_unexpected) s (fun q => q.2) (f_X13_unexpected x1 s) := by
  unfold f_X13_unexpected
  have Hs : Fr (W_f_X13_unexpected) s s := Fr.rfl
  refine PR.bd (PR.call Hs (fr_f_X13_wrong 11 x1 s) (by decide +kernel)) (fun r4 s1 Hs1 => ?_)
  exact PR.some Hs1
def W_l_X13_inner_116 : List Nat := [39999, 54006, 54007, 54018, 55001, 58000, 58001, 58002, 58003, 58004, 58005, 58006, 58007, 58008, 59001, 60998, 60999, 61999, 62999, 63999, 64999, 65999, 66999, 67998, 67999, 68998, 68999, 69998, 69999, 70998, 70999, 71998, 71999, 72998, 72999, 73001, 74998, 74999, 75001, 76998, 76999]
theorem fr_l_X13_inner_116 : ∀ (n : Nat) (x1 : Int) (x2 : Int) (x6 : Int) (s : vS), PR (W_l_X13_inner_116) s (Sum.elim (fun q => q) (fun q => q.2)) (l_X13_inner_116 n x1 x2 x6 s)
  := by
  intro n
  induction n with
  | zero => intro x1 x2 x6 s; exact PR.none
  | succ n ih =>
    intro x1 x2 x6 s
    unfold l_X13_inner_116
    have Hs : Fr (W_l_X13_inner_116) s s := Fr.rfl
    refine PR.ite (fun _ => ?_) (fun _ => ?_)
    · exact PR.some Hs
    · refine PR.bd (PR.pure Hs (fr_f_X4_parts x6 s)) (fun r5 s2 Hs2 => ?_)
      refine PR.gd ?_
      refine PR.bd (PR.pure Hs2 (fr_f_X12_tag x2 s2)) (fun r11 s8 Hs8 => ?_)
      refine PR.bd (PR.call Hs8 (fr_f_X13_find r5 r11 s8) (by decide +kernel)) (fun r16 s13 Hs13 => ?_)
      refine PR.ite (fun _ => ?_) (fun _ => ?_)
      · refine PR.bd (PR.pure Hs13 (fr_f_X4_next x6 s13)) (fun r22 s19 Hs19 => ?_)
        exact PR.tail Hs19 (ih x1 x2 r22 s19)
      · refine PR.bd (PR.call Hs13 (fr_f_X13_begin x2 r16 0 (-1) x1 s13) (by decide +kernel)) (fun r27 s24 Hs24 => ?_)
        exact PR.some Hs24
def W_f_X13_inner : List Nat := [39999, 54006, 54007, 54018, 55001, 58000, 58001, 58002, 58003, 58004, 58005, 58006, 58007, 58008, 59001, 60998, 60999, 61999, 62999, 63999, 64999, 65999, 66999, 67998, 67999, 68998, 68999, 69998, 69999, 70998, 70999, 71998, 71999, 72998, 72999, 73001, 74998, 74999, 75001, 76998, 76999]
theorem fr_f_X13_inner (x1 : Int) (x2 : Int) (s : vS) : PR (W_f_X13_inner) s (fun q => q.2) (f_X13_inner x1 x2 s) := by
  unfold f_X13_inner
  have Hs : Fr (W_f_X13_inner) s s := Fr.rfl
  refine PR.gd ?_
  refine PR.ite (fun _ => ?_) (fun _ => ?_)
  · refine PR.gd ?_
    refine PR.vl (fun y4 => ?_)
    refine PR.gd ?_
    refine PR.vl (fun y8 => ?_)
    refine PR.bd (PR.pure Hs (fr_f_X6_tagCount y4 s)) (fun r14 s11 Hs11 => ?_)
    refine PR.ite (fun _ => ?_) (fun _ => ?_)
    · refine PR.bd (PR.call Hs11 (fr_f_X6_base y4 s11) (by decide +kernel)) (fun r20 s17 Hs17 => ?_)
      refine PR.bd (PR.pure Hs17 (fr_f_X4_parts r20 s17)) (fun r25 s22 Hs22 => ?_)
      refine PR.lqs_0 (PR.call Hs22 (fr_l_X13_inner_116 FU x1 x2 r25 s22) (by decide +kernel)) (fun s27 Hs27 => ?_) (fun q Hq => PR.some Hq)
      refine PR.bd (PR.call Hs27 (fr_f_X13_unexpected x2 s27) (by decide +kernel)) (fun r32 s29 Hs29 => ?_)
      exact PR.some Hs29
    · refine PR.bd (PR.pure Hs11 (fr_f_X6_tag y4 y8 s11)) (fun r37 s34 Hs34 => ?_)
      refine PR.gd ?_
      refine PR.bd (PR.pure Hs34 (fr_f_X12_tag x2 s34)) (fun r43 s40 Hs40 => ?_)
      refine PR.ite (fun _ => ?_) (fun _ => ?_)
      · refine PR.bd (PR.call Hs40 (fr_f_X13_begin x2 y4 y8 (-1) x1 s40) (by decide +kernel)) (fun r54 s51 Hs51 => ?_)
        exact PR.some Hs51
      · refine PR.bd (PR.call Hs40 (fr_f_X13_unexpected x2 s40) (by decide +kernel)) (fun r49 s46 Hs46 => ?_)
        exact PR.some Hs46
  · refine PR.bd (PR.call Hs (fr_f_X13_wrong 15 x1 s) (by decide +kernel)) (fun r59 s56 Hs56 => ?_)
    exact PR.some Hs56
def W_l_X13_inOrder_12 : List Nat := [39999, 54006, 54007, 54018, 55001, 58000, 58001, 58002, 58003, 58004, 58005, 58006, 58007, 58008, 59001, 60998, 60999, 61999, 62999, 63999, 64999, 65999, 66999, 67998, 67999, 68998, 68999, 69998, 69999, 70998, 70999, 71998, 71999, 72998, 72999, 73001, 74998, 74999, 75001, 76998, 76999]
theorem fr_l_X13_inOrder_12 : ∀ (n : Nat) (x1 : Int) (x2 : Int) (x3 : Int) (s : vS), PR (W_l_X13_inOrder_12) s (Sum.elim (fun q => q) (fun q => q.2)) (l_X13_inOrder_12 n x1 x2 x3 s)
  := by
  intro n
  induction n with
  | zero => intro x1 x2 x3 s; exact PR.none
  | succ n ih =>
    intro x1 x2 x3 s
    unfold l_X13_inOrder_12
    have Hs : Fr (W_l_X13_inOrder_12) s s := Fr.rfl
    refine PR.ite (fun _ => ?_) (fun _ => ?_)
    · exact PR.some Hs
    · refine PR.bd (PR.pure Hs (fr_f_X4_parts x3 s)) (fun r5 s2 Hs2 => ?_)
      refine PR.gd ?_
      refine PR.bd (PR.pure Hs2 (fr_f_X12_tag x2 s2)) (fun r11 s8 Hs8 => ?_)
      refine PR.bd (PR.call Hs8 (fr_f_X13_find r5 r11 s8) (by decide +kernel)) (fun r16 s13 Hs13 => ?_)
      refine PR.ite (fun _ => ?_) (fun _ => ?_)
      · refine PR.bd (PR.pure Hs13 (fr_f_X4_at x3 5 s13)) (fun r22 s19 Hs19 => ?_)
        refine PR.ite (fun _ => ?_) (fun _ => ?_)
        · refine PR.bd (PR.call Hs19 (fr_f_X13_unexpected x2 s19) (by decide +kernel)) (fun r33 s30 Hs30 => ?_)
          exact PR.some Hs30
        · refine PR.bd (PR.pure Hs19 (fr_f_X4_next x3 s19)) (fun r28 s25 Hs25 => ?_)
          exact PR.tail Hs25 (ih x1 x2 r28 s25)
      · refine PR.bd (PR.pure Hs13 (fr_f_X4_next x3 s13)) (fun r38 s35 Hs35 => ?_)
        refine PR.gd ?_
        refine PR.gd ?_
        refine PR.stp (Fr.wE Hs35 (by decide +kernel)) (fun s42 Hs42 => ?_)
        refine PR.bd (PR.call Hs42 (fr_f_X13_begin x2 r16 0 x3 x1 s42) (by decide +kernel)) (fun r47 s44 Hs44 => ?_)
        exact PR.some Hs44
def W_f_X13_inOrder : List Nat := [39999, 54006, 54007, 54018, 55001, 58000, 58001, 58002, 58003, 58004, 58005, 58006, 58007, 58008, 59001, 60998, 60999, 61999, 62999, 63999, 64999, 65999, 66999, 67998, 67999, 68998, 68999, 69998, 69999, 70998, 70999, 71998, 71999, 72998, 72999, 73001, 74998, 74999, 75001, 76998, 76999]
theorem fr_f_X13_inOrder (x1 : Int) (x2 : Int) (s : vS) : PR (W_f_X13_inOrder) s (fun q => q.2) (f_X13_inOrder x1 x2 s) := by
  unfold f_X13_inOrder
  have Hs : Fr (W_f_X13_inOrder) s s := Fr.rfl
  refine PR.gd ?_
  refine PR.vl (fun y2 => ?_)
  refine PR.lqs_0 (PR.call Hs (fr_l_X13_inOrder_12 FU x1 x2 y2 s) (by decide +kernel)) (fun s5 Hs5 => ?_) (fun q Hq => PR.some Hq)
  refine PR.bd (PR.call Hs5 (fr_f_X13_unexpected x2 s5) (by decide +kernel)) (fun r10 s7 Hs7 => ?_)
  exact PR.some Hs7
def W_l_X13_anywhere_24 : List Nat := [39999, 54006, 54007, 54018, 55001, 58000, 58001, 58002, 58003, 58004, 58005, 58006, 58007, 58008, 59001, 60998, 60999, 61999, 62999, 63999, 64999, 65999, 66999, 67998, 67999, 68998, 68999, 69998, 69999, 70998, 70999, 71998, 71999, 72998, 72999, 73001, 74998, 74999, 75001, 76998, 76999]
theorem fr_l_X13_anywhere_24 : ∀ (n : Nat) (x1 : Int) (x2 : Int) (x3 : Int) (x4 : Int) (s : vS), PR (W_l_X13_anywhere_24) s (Sum.elim (fun q => q) (fun q => q.2)) (l_X13_anywhere_24 n x1 x2 x3 x4 s)
  := by
  intro n
  induction n with
  | zero => intro x1 x2 x3 x4 s; exact PR.none
  | succ n ih =>
    intro x1 x2 x3 x4 s
    unfold l_X13_anywhere_24
    have Hs : Fr (W_l_X13_anywhere_24) s s := Fr.rfl
    refine PR.ite (fun _ => ?_) (fun _ => ?_)
    · exact PR.some Hs
    · refine PR.bd (PR.pure Hs (fr_f_X4_parts x4 s)) (fun r5 s2 Hs2 => ?_)
      refine PR.gd ?_
      refine PR.bd (PR.pure Hs2 (fr_f_X12_tag x2 s2)) (fun r11 s8 Hs8 => ?_)
      refine PR.bd (PR.call Hs8 (fr_f_X13_find r5 r11 s8) (by decide +kernel)) (fun r16 s13 Hs13 => ?_)
      refine PR.ite (fun _ => ?_) (fun _ => ?_)
      · refine PR.vl (fun y19 => ?_)
        refine PR.bd (PR.pure Hs13 (fr_f_X4_next x4 s13)) (fun r25 s22 Hs22 => ?_)
        exact PR.tail Hs22 (ih x1 x2 y19 r25 s22)
      · refine PR.gd ?_
        refine PR.vl (fun y28 => ?_)
        refine PR.gd ?_
        refine PR.ite (fun _ => ?_) (fun _ => ?_)
        · refine PR.bd (PR.call Hs13 (fr_f_X13_wrong 13 x2 s13) (by decide +kernel)) (fun r45 s42 Hs42 => ?_)
          exact PR.some Hs42
        · refine PR.gd ?_
          refine PR.gd ?_
          refine PR.stp (Fr.wE Hs13 (by decide +kernel)) (fun s35 Hs35 => ?_)
          refine PR.bd (PR.call Hs35 (fr_f_X13_begin x2 r16 0 x4 x1 s35) (by decide +kernel)) (fun r40 s37 Hs37 => ?_)
          exact PR.some Hs37
def W_f_X13_anywhere : List Nat := [39999, 54006, 54007, 54018, 55001, 58000, 58001, 58002, 58003, 58004, 58005, 58006, 58007, 58008, 59001, 60998, 60999, 61999, 62999, 63999, 64999, 65999, 66999, 67998, 67999, 68998, 68999, 69998, 69999, 70998, 70999, 71998, 71999, 72998, 72999, 73001, 74998, 74999, 75001, 76998, 76999]
theorem fr_f_X13_anywhere (x1 : Int) (x2 : Int) (s : vS) : PR (W_f_X13_anywhere) s (fun q => q.2) (f_X13_anywhere x1 x2 s) := by
  unfold f_X13_anywhere
  have Hs : Fr (W_f_X13_anywhere) s s := Fr.rfl
  refine PR.gd ?_
  refine PR.bd (PR.call Hs (fr_f_X6_base (gE s 61 x1) s) (by decide +kernel)) (fun r5 s2 Hs2 => ?_)
  refine PR.bd (PR.pure Hs2 (fr_f_X4_parts r5 s2)) (fun r10 s7 Hs7 => ?_)
  refine PR.lqs_0 (PR.call Hs7 (fr_l_X13_anywhere_24 FU x1 x2 0 r10 s7) (by decide +kernel)) (fun s12 Hs12 => ?_) (fun q Hq => PR.some Hq)
  refine PR.bd (PR.call Hs12 (fr_f_X13_unexpected x2 s12) (by decide +kernel)) (fun r17 s14 Hs14 => ?_)
  exact PR.some Hs14
def W_f_X13_child : List Nat := [39999, 54006, 54007, 54018, 55001, 58000, 58001, 58002, 58003, 58004, 58005, 58006, 58007, 58008, 59001, 60998, 60999, 61999, 62999, 63999, 64999, 65999, 66999, 67998, 67999, 68998, 68999, 69998, 69999, 70998, 70999, 71998, 71999, 72998, 72999, 73001, 74998, 74999, 75001, 76998, 76999]
theorem fr_f_X13_child (x1 : Int) (x2 : Int) (s : vS) : PR (W_f_X13_child) s (fun q => q.2) (f_X13_child x1 x2 s) := by
  unfold f_X13_child
  have Hs : Fr (W_f_X13_child) s s := Fr.rfl
  refine PR.vl (fun y1 => ?_)
  refine PR.gd ?_
  refine PR.gd ?_
  refine PR.stp (Fr.wE Hs (by decide +kernel)) (fun s6 Hs6 => ?_)
  refine PR.bd (PR.call Hs6 (fr_f_X13_kind x1 s6) (by decide +kernel)) (fun r11 s8 Hs8 => ?_)
  refine PR.bd (PR.call Hs8 (fr_f_X13_isAround x1 s8) (by decide +kernel)) (fun r16 s13 Hs13 => ?_)
  refine PR.ite (fun _ => ?_) (fun _ => ?_)
  · refine PR.ite (fun _ => ?_) (fun _ => ?_)
    · refine PR.bd (PR.call Hs13 (fr_f_X13_inOrder x1 x2 s13) (by decide +kernel)) (fun r62 s59 Hs59 => ?_)
      exact PR.some Hs59
    · refine PR.ite (fun _ => ?_) (fun _ => ?_)
      · refine PR.bd (PR.call Hs13 (fr_f_X13_anywhere x1 x2 s13) (by decide +kernel)) (fun r57 s54 Hs54 => ?_)
        exact PR.some Hs54
      · refine PR.gd ?_
        refine PR.bd (PR.call Hs13 (fr_f_X6_base (gE s13 61 x1) s13) (by decide +kernel)) (fun r25 s22 Hs22 => ?_)
        refine PR.bd (PR.pure Hs22 (fr_f_X4_parts r25 s22)) (fun r30 s27 Hs27 => ?_)
        refine PR.gd ?_
        refine PR.bd (PR.pure Hs27 (fr_f_X12_tag x2 s27)) (fun r36 s33 Hs33 => ?_)
        refine PR.bd (PR.call Hs33 (fr_f_X13_find r30 r36 s33) (by decide +kernel)) (fun r41 s38 Hs38 => ?_)
        refine PR.ite (fun _ => ?_) (fun _ => ?_)
        · refine PR.bd (PR.call Hs38 (fr_f_X13_unexpected x2 s38) (by decide +kernel)) (fun r52 s49 Hs49 => ?_)
          exact PR.some Hs49
        · refine PR.bd (PR.call Hs38 (fr_f_X13_begin x2 r41 0 (-1) x1 s38) (by decide +kernel)) (fun r47 s44 Hs44 => ?_)
          exact PR.some Hs44
  · refine PR.bd (PR.call Hs13 (fr_f_X13_inner x1 x2 s13) (by decide +kernel)) (fun r67 s64 Hs64 => ?_)
    exact PR.some Hs64
def W_l_X13_read_97 : List Nat := [61999]
theorem fr_l_X13_read_97 (p3 : Nat) : ∀ (n : Nat) (x1 : Int) (x4 : Int) (x5 : Int) (s : vS), PR (W_l_X13_read_97) s (fun q => q) (l_X13_read_97 p3 n x1 x4 x5 s)
  := by
  intro n
  induction n with
  | zero => intro x1 x4 x5 s; exact PR.none
  | succ n ih =>
    intro x1 x4 x5 s
    unfold l_X13_read_97
    have Hs : Fr (W_l_X13_read_97) s s := Fr.rfl
    refine PR.ite (fun _ => ?_) (fun _ => ?_)
    · exact PR.some Hs
    · refine PR.gd ?_
      refine PR.stp (Fr.wE Hs (by decide +kernel)) (fun s3 Hs3 => ?_)
      refine PR.vl (fun y5 => ?_)
      exact PR.tail Hs3 (ih x1 x4 y5 s3)
def W_l_X13_read_173 : List Nat := [39999, 54006, 54007, 54018, 55001, 58000, 58001, 58002, 58003, 58004, 58005, 58006, 58007, 58008, 59001, 60998, 60999, 61999, 62999, 63999, 64999, 65999, 66999, 67998, 67999, 68998, 68999, 69998, 69999, 70998, 70999, 71998, 71999, 72998, 72999, 73001, 74998, 74999, 75001, 76998, 76999]
theorem fr_l_X13_read_173 (p3 : Nat) : ∀ (n : Nat) (x6 : Int) (s : vS), PR (W_l_X13_read_173) s (fun q => q) (l_X13_read_173 p3 n x6 s)
  := by
  intro n
  induction n with
  | zero => intro x6 s; exact PR.none
  | succ n ih =>
    intro x6 s
    unfold l_X13_read_173
    have Hs : Fr (W_l_X13_read_173) s s := Fr.rfl
    refine PR.ite (fun _ => ?_) (fun _ => ?_)
    · refine PR.ite (fun _ => ?_) (fun _ => ?_)
      · exact PR.some Hs
      · refine PR.gd ?_
        refine PR.bd (PR.pure Hs (fr_f_X12_behind (gE s 67 (w32 ((gI s 54 18) - 1))) s)) (fun r7 s4 Hs4 => ?_)
        refine PR.ite (fun _ => ?_) (fun _ => ?_)
        · refine PR.bdv (PR.call Hs4 (fr_f_X13_close s4) (by decide +kernel)) (fun s16 Hs16 => ?_)
          exact PR.tail Hs16 (ih x6 s16)
        · refine PR.gd ?_
          refine PR.bd (PR.call Hs4 (fr_f_X13_child (gE s4 67 (w32 ((gI s4 54 18) - 1))) x6 s4) (by decide +kernel)) (fun r14 s11 Hs11 => ?_)
          exact PR.tail Hs11 (ih r14 s11)
    · exact PR.some Hs
def W_j_X13_read_236 : List Nat := []
theorem fr_j_X13_read_236 (p3 : Nat) (s : vS) : PR (W_j_X13_read_236) s (fun q => q.2) (j_X13_read_236 p3 s) := by
  unfold j_X13_read_236
  have Hs : Fr (W_j_X13_read_236) s s := Fr.rfl
  refine PR.ite (fun _ => ?_) (fun _ => ?_)
  · exact PR.some Hs
  · exact PR.some Hs
def W_f_X13_read : List Nat := [39999, 54004, 54005, 54006, 54007, 54018, 55001, 58000, 58001, 58002, 58003, 58004, 58005, 58006, 58007, 58008, 59001, 60998, 60999, 61998, 61999, 62998, 62999, 63998, 63999, 64998, 64999, 65998, 65999, 66998, 66999, 67998, 67999, 68998, 68999, 69998, 69999, 70998, 70999, 71998, 71999, 72998, 72999, 73001, 74998, 74999, 75001, 76998, 76999]
theorem fr_f_X13_read (x1 : Int) (p3 : Nat) (s : vS) : PR (W_f_X13_read) s (fun q => q.2) (f_X13_read x1 p3 s) := by
  unfold f_X13_read
  have Hs : Fr (W_f_X13_read) s s := Fr.rfl
  refine PR.stp (Fr.wR Hs (by decide +kernel)) (fun s1 Hs1 => ?_)
  refine PR.stp (Fr.wR Hs1 (by decide +kernel)) (fun s3 Hs3 => ?_)
  refine PR.bd (PR.pure Hs3 (fr_f_X12_size s3)) (fun r8 s5 Hs5 => ?_)
  refine PR.bd (PR.pure Hs5 (fr_f_X13_grown 61 r8 s5)) (fun r13 s14 Hs14 => ?_)
  refine PR.gd ?_
  refine PR.stp (Fr.wgrw Hs14 (by decide +kernel) (by decide +kernel)) (fun s18 Hs18 => ?_)
  refine PR.bd (PR.pure Hs18 (fr_f_X13_grown 62 r8 s18)) (fun r23 s24 Hs24 => ?_)
  refine PR.gd ?_
  refine PR.stp (Fr.wgrw Hs24 (by decide +kernel) (by decide +kernel)) (fun s28 Hs28 => ?_)
  refine PR.bd (PR.pure Hs28 (fr_f_X13_grown 63 r8 s28)) (fun r33 s34 Hs34 => ?_)
  refine PR.gd ?_
  refine PR.stp (Fr.wgrw Hs34 (by decide +kernel) (by decide +kernel)) (fun s38 Hs38 => ?_)
  refine PR.bd (PR.pure Hs38 (fr_f_X13_grown 64 r8 s38)) (fun r43 s44 Hs44 => ?_)
  refine PR.gd ?_
  refine PR.stp (Fr.wgrw Hs44 (by decide +kernel) (by decide +kernel)) (fun s48 Hs48 => ?_)
  refine PR.bd (PR.pure Hs48 (fr_f_X13_grown 65 r8 s48)) (fun r53 s54 Hs54 => ?_)
  refine PR.gd ?_
  refine PR.stp (Fr.wgrw Hs54 (by decide +kernel) (by decide +kernel)) (fun s58 Hs58 => ?_)
  refine PR.bd (PR.pure Hs58 (fr_f_X13_grown 66 r8 s58)) (fun r63 s64 Hs64 => ?_)
  refine PR.gd ?_
  refine PR.stp (Fr.wgrw Hs64 (by decide +kernel) (by decide +kernel)) (fun s68 Hs68 => ?_)
  refine PR.lq_0 (PR.call Hs68 (fr_l_X13_read_97 p3 FU x1 r8 0 s68) (by decide +kernel)) (fun s70 Hs70 => ?_)
  refine PR.bdv (PR.call Hs70 (fr_f_X2_clear 73 s70) (by decide +kernel)) (fun s72 Hs72 => ?_)
  refine PR.stp (Fr.wI Hs72 (by decide +kernel)) (fun s75 Hs75 => ?_)
  refine PR.stp (Fr.wI Hs75 (by decide +kernel)) (fun s77 Hs77 => ?_)
  refine PR.bd (PR.pure Hs77 (fr_f_X12_tag 0 s77)) (fun r82 s79 Hs79 => ?_)
  refine PR.bd (PR.call Hs79 (fr_f_X13_find x1 r82 s79) (by decide +kernel)) (fun r87 s84 Hs84 => ?_)
  refine PR.ite (fun _ => ?_) (fun _ => ?_)
  · refine PR.bd (PR.call Hs84 (fr_f_X13_wrong 11 0 s84) (by decide +kernel)) (fun r100 s97 Hs97 => ?_)
    refine PR.gd ?_
    exact PR.some Hs97
  · refine PR.bd (PR.call Hs84 (fr_f_X13_begin 0 r87 0 (-1) (-1) s84) (by decide +kernel)) (fun r93 s90 Hs90 => ?_)
    refine PR.lq_0 (PR.call Hs90 (fr_l_X13_read_173 p3 FU r93 s90) (by decide +kernel)) (fun s95 Hs95 => ?_)
    exact PR.pure Hs95 (fr_j_X13_read_236 p3 s95)
