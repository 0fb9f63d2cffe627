set_option maxRecDepth 100000
set_option maxHeartbeats 1000000
set_option linter.unusedVariables false
def W_f_X2_size : List Nat := []
theorem fr_f_X2_size (o : Nat) (s : vS) : PR (W_f_X2_size) s (fun q => q.2) (f_X2_size o s) := by
  unfold f_X2_size
  have Hs : Fr (W_f_X2_size) s s := Fr.rfl
  exact PR.some Hs
def W_l_X2_ready_16 : List Nat := []
theorem fr_l_X2_ready_16 (o : Nat) : ∀ (n : Nat) (x1 : Int) (x2 : Int) (s : vS), PR (W_l_X2_ready_16) s (fun q => q.2) (l_X2_ready_16 o n x1 x2 s)
  := by
  intro n
  induction n with
  | zero => intro x1 x2 s; exact PR.none
  | succ n ih =>
    intro x1 x2 s
    unfold l_X2_ready_16
    have Hs : Fr (W_l_X2_ready_16) s s := Fr.rfl
    refine PR.ite (fun _ => ?_) (fun _ => ?_)
    · exact PR.some Hs
    · refine PR.vl (fun y2 => ?_)
      exact PR.tail Hs (ih x1 y2 s)
def W_f_X2_ready (o : Nat) : List Nat := [1000 * (o + 1) + 998, 1000 * (o + 1) + 999]
theorem fr_f_X2_ready (o : Nat) (x1 : Int) (s : vS) : PR (W_f_X2_ready o) s (fun q => q) (f_X2_ready o x1 s) := by
  unfold f_X2_ready
  have Hs : Fr (W_f_X2_ready o) s s := Fr.rfl
  refine PR.ite (fun _ => ?_) (fun _ => ?_)
  · refine PR.vl (fun y2 => ?_)
    refine PR.lq_1 (PR.pure Hs (fr_l_X2_ready_16 o FU x1 y2 s)) (fun y5 s6 Hs6 => ?_)
    refine PR.gd ?_
    refine PR.stp (Fr.wAT Hs6 (by decide)) (fun s10 Hs10 => ?_)
    refine PR.gd ?_
    refine PR.stp (Fr.wcpT Hs10 (by decide)) (fun s13 Hs13 => ?_)
    refine PR.gd ?_
    refine PR.stp (Fr.wswT Hs13 (by decide) (by simp [W_f_X2_ready]) (by simp [W_f_X2_ready])) (fun s16 Hs16 => ?_)
    refine PR.stp (Fr.wrs Hs16) (fun s18 Hs18 => ?_)
    exact PR.some Hs18
  · exact PR.some Hs
def W_f_X2_add (o : Nat) : List Nat := [1000 * (o + 1) + 998, 1000 * (o + 1) + 999, 1000 * o + 1]
theorem fr_f_X2_add (o : Nat) (x1 : Int) (s : vS) : PR (W_f_X2_add o) s (fun q => q) (f_X2_add o x1 s) := by
  unfold f_X2_add
  have Hs : Fr (W_f_X2_add o) s s := Fr.rfl
  refine PR.bdv (PR.call Hs (fr_f_X2_ready o (w32 ((gI s o 1) + 1)) s) (by intro c hc; simp only [W_f_X2_ready, W_f_X2_add, List.mem_cons, List.not_mem_nil, or_false] at hc ⊢; omega)) (fun s1 Hs1 => ?_)
  refine PR.gd ?_
  refine PR.stp (Fr.wE Hs1 (by simp [W_f_X2_add])) (fun s5 Hs5 => ?_)
  refine PR.stp (Fr.wI Hs5 (by simp [W_f_X2_add])) (fun s7 Hs7 => ?_)
  exact PR.some Hs7
def W_l_X1_word_3 : List Nat := [1001, 2998, 2999]
theorem fr_l_X1_word_3 : ∀ (n : Nat) (x1 : Int) (x2 : Int) (s : vS), PR (W_l_X1_word_3) s (fun q => q) (l_X1_word_3 n x1 x2 s)
  := by
  intro n
  induction n with
  | zero => intro x1 x2 s; exact PR.none
  | succ n ih =>
    intro x1 x2 s
    unfold l_X1_word_3
    have Hs : Fr (W_l_X1_word_3) s s := Fr.rfl
    refine PR.ite (fun _ => ?_) (fun _ => ?_)
    · exact PR.some Hs
    · refine PR.bdv (PR.call Hs (fr_f_X2_add 1 (and32 (shr32 x1 x2) 255) s) (by decide +kernel)) (fun s2 Hs2 => ?_)
      refine PR.vl (fun y5 => ?_)
      exact PR.tail Hs2 (ih x1 y5 s2)
def W_f_X1_word : List Nat := [1001, 2998, 2999]
theorem fr_f_X1_word (x1 : Int) (s : vS) : PR (W_f_X1_word) s (fun q => q) (f_X1_word x1 s) := by
  unfold f_X1_word
  have Hs : Fr (W_f_X1_word) s s := Fr.rfl
  refine PR.lq_0 (PR.call Hs (fr_l_X1_word_3 FU x1 24 s) (by decide +kernel)) (fun s1 Hs1 => ?_)
  exact PR.some Hs1
def W_f_X2_cut (o : Nat) : List Nat := [1000 * o + 1]
theorem fr_f_X2_cut (o : Nat) (x1 : Int) (s : vS) : PR (W_f_X2_cut o) s (fun q => q) (f_X2_cut o x1 s) := by
  unfold f_X2_cut
  have Hs : Fr (W_f_X2_cut o) s s := Fr.rfl
  refine PR.stp (Fr.wI Hs (by simp [W_f_X2_cut])) (fun s1 Hs1 => ?_)
  exact PR.some Hs1
def W_f_X1_forget : List Nat := [10, 11, 12]
theorem fr_f_X1_forget (s : vS) : PR (W_f_X1_forget) s (fun q => q) (f_X1_forget s) := by
  unfold f_X1_forget
  have Hs : Fr (W_f_X1_forget) s s := Fr.rfl
  refine PR.stp (Fr.wI Hs (by decide +kernel)) (fun s1 Hs1 => ?_)
  refine PR.stp (Fr.wI Hs1 (by decide +kernel)) (fun s3 Hs3 => ?_)
  refine PR.stp (Fr.wI Hs3 (by decide +kernel)) (fun s5 Hs5 => ?_)
  exact PR.some Hs5
def W_f_X2_clear (o : Nat) : List Nat := [1000 * o + 1]
theorem fr_f_X2_clear (o : Nat) (s : vS) : PR (W_f_X2_clear o) s (fun q => q) (f_X2_clear o s) := by
  unfold f_X2_clear
  have Hs : Fr (W_f_X2_clear o) s s := Fr.rfl
  refine PR.stp (Fr.wI Hs (by simp [W_f_X2_clear])) (fun s1 Hs1 => ?_)
  exact PR.some Hs1
def W_f_X2_all (o : Nat) : List Nat := [1000 * (o + 1) + 998, 1000 * (o + 1) + 999, 1000 * o + 1]
theorem fr_f_X2_all (o : Nat) (p1 : Nat) (x2 : Int) (x3 : Int) (s : vS) : PR (W_f_X2_all o) s (fun q => q) (f_X2_all o p1 x2 x3 s) := by
  unfold f_X2_all
  have Hs : Fr (W_f_X2_all o) s s := Fr.rfl
  refine PR.bdv (PR.call Hs (fr_f_X2_ready o (w32 ((w32 ((gI s o 1) + x3)) - x2)) s) (by intro c hc; simp only [W_f_X2_ready, W_f_X2_all, List.mem_cons, List.not_mem_nil, or_false] at hc ⊢; omega)) (fun s1 Hs1 => ?_)
  refine PR.gd ?_
  refine PR.stp (Fr.wcp Hs1 (by simp [W_f_X2_all])) (fun s5 Hs5 => ?_)
  refine PR.stp (Fr.wI Hs5 (by simp [W_f_X2_all])) (fun s7 Hs7 => ?_)
  exact PR.some Hs7
def W_f_X2_at : List Nat := []
theorem fr_f_X2_at (o : Nat) (x1 : Int) (s : vS) : PR (W_f_X2_at) s (fun q => q.2) (f_X2_at o x1 s) := by
  unfold f_X2_at
  have Hs : Fr (W_f_X2_at) s s := Fr.rfl
  refine PR.gd ?_
  exact PR.some Hs
def W_f_X3_here : List Nat := []
theorem fr_f_X3_here (x1 : Int) (s : vS) : PR (W_f_X3_here) s (fun q => q.2) (f_X3_here x1 s) := by
  unfold f_X3_here
  have Hs : Fr (W_f_X3_here) s s := Fr.rfl
  refine PR.gd ?_
  refine PR.bd (PR.pure Hs (fr_f_X2_size (gR s 5 2) s)) (fun r5 s2 Hs2 => ?_)
  refine PR.ite (fun _ => ?_) (fun _ => ?_)
  · exact PR.some Hs2
  · refine PR.gd ?_
    refine PR.bd (PR.pure Hs2 (fr_f_X2_at (gR s2 5 2) (w32 ((gI s2 5 3) + x1)) s2)) (fun r12 s9 Hs9 => ?_)
    exact PR.some Hs9
def W_j_X3_isWhite_12 : List Nat := []
theorem fr_j_X3_isWhite_12 (x0 : Int) (s : vS) : PR (W_j_X3_isWhite_12) s (fun q => q.2) (j_X3_isWhite_12 x0 s) := by
  unfold j_X3_isWhite_12
  have Hs : Fr (W_j_X3_isWhite_12) s s := Fr.rfl
  refine PR.ite (fun _ => ?_) (fun _ => ?_)
  · exact PR.some Hs
  · exact PR.some Hs
def W_f_X3_isWhite : List Nat := []
theorem fr_f_X3_isWhite (x0 : Int) (s : vS) : PR (W_f_X3_isWhite) s (fun q => q.2) (f_X3_isWhite x0 s) := by
  unfold f_X3_isWhite
  have Hs : Fr (W_f_X3_isWhite) s s := Fr.rfl
  refine PR.ite (fun _ => ?_) (fun _ => ?_)
  · exact PR.pure Hs (fr_j_X3_isWhite_12 x0 s)
  · refine PR.ite (fun _ => ?_) (fun _ => ?_)
    · exact PR.some Hs
    · exact PR.pure Hs (fr_j_X3_isWhite_12 x0 s)
def W_f_X3_isLineEnd : List Nat := []
theorem fr_f_X3_isLineEnd (x0 : Int) (s : vS) : PR (W_f_X3_isLineEnd) s (fun q => q.2) (f_X3_isLineEnd x0 s) := by
  unfold f_X3_isLineEnd
  have Hs : Fr (W_f_X3_isLineEnd) s s := Fr.rfl
  refine PR.ite (fun _ => ?_) (fun _ => ?_)
  · exact PR.some Hs
  · refine PR.ite (fun _ => ?_) (fun _ => ?_)
    · exact PR.some Hs
    · exact PR.some Hs
def W_l_X3_skipLine_10 : List Nat := [5003]
theorem fr_l_X3_skipLine_10 : ∀ (n : Nat) (s : vS), PR (W_l_X3_skipLine_10) s (fun q => q) (l_X3_skipLine_10 n s)
  := by
  intro n
  induction n with
  | zero => intro s; exact PR.none
  | succ n ih =>
    intro s
    unfold l_X3_skipLine_10
    have Hs : Fr (W_l_X3_skipLine_10) s s := Fr.rfl
    refine PR.gd ?_
    refine PR.bd (PR.pure Hs (fr_f_X2_size (gR s 5 2) s)) (fun r5 s2 Hs2 => ?_)
    refine PR.ite (fun _ => ?_) (fun _ => ?_)
    · exact PR.some Hs2
    · refine PR.bd (PR.pure Hs2 (fr_f_X3_here 0 s2)) (fun r11 s8 Hs8 => ?_)
      refine PR.bd (PR.pure Hs8 (fr_f_X3_isLineEnd r11 s8)) (fun r16 s13 Hs13 => ?_)
      refine PR.ite (fun _ => ?_) (fun _ => ?_)
      · refine PR.bd (PR.pure Hs13 (fr_f_X3_here 0 s13)) (fun r22 s19 Hs19 => ?_)
        refine PR.ite (fun _ => ?_) (fun _ => ?_)
        · refine PR.bd (PR.pure Hs19 (fr_f_X3_here 1 s19)) (fun r30 s27 Hs27 => ?_)
          refine PR.ite (fun _ => ?_) (fun _ => ?_)
          · exact PR.some Hs27
          · refine PR.stp (Fr.wI Hs27 (by decide +kernel)) (fun s33 Hs33 => ?_)
            exact PR.tail Hs33 (ih s33)
        · refine PR.stp (Fr.wI Hs19 (by decide +kernel)) (fun s25 Hs25 => ?_)
          exact PR.tail Hs25 (ih s25)
      · exact PR.some Hs13
def W_j_X3_skipLine_68 : List Nat := [5003]
theorem fr_j_X3_skipLine_68 (s : vS) : PR (W_j_X3_skipLine_68) s (fun q => q) (j_X3_skipLine_68 s) := by
  unfold j_X3_skipLine_68
  have Hs : Fr (W_j_X3_skipLine_68) s s := Fr.rfl
  refine PR.bd (PR.pure Hs (fr_f_X3_here 0 s)) (fun r4 s1 Hs1 => ?_)
  refine PR.ite (fun _ => ?_) (fun _ => ?_)
  · refine PR.stp (Fr.wI Hs1 (by decide +kernel)) (fun s7 Hs7 => ?_)
    exact PR.some Hs7
  · exact PR.some Hs1
def W_f_X3_skipLine : List Nat := [5003]
theorem fr_f_X3_skipLine (s : vS) : PR (W_f_X3_skipLine) s (fun q => q) (f_X3_skipLine s) := by
  unfold f_X3_skipLine
  have Hs : Fr (W_f_X3_skipLine) s s := Fr.rfl
  refine PR.stp (Fr.wI Hs (by decide +kernel)) (fun s1 Hs1 => ?_)
  refine PR.lq_0 (PR.call Hs1 (fr_l_X3_skipLine_10 FU s1) (by decide +kernel)) (fun s3 Hs3 => ?_)
  exact PR.call Hs3 (fr_j_X3_skipLine_68 s3) (by decide +kernel)
def W_l_X3_skipBlock_2 : List Nat := [5003]
theorem fr_j_X3_skipBlock_84 (rec : Int → vS → Option (Int × vS)) (hrec : ∀ (y0 : Int) (s : vS), PR (W_l_X3_skipBlock_2) s (fun q => q.2) (rec y0 s)) (x1 : Int) (s : vS) : PR (W_l_X3_skipBlock_2) s (fun q => q.2) (j_X3_skipBlock_84 rec x1 s) := by
  unfold j_X3_skipBlock_84
  have Hs : Fr (W_l_X3_skipBlock_2) s s := Fr.rfl
  refine PR.ite (fun _ => ?_) (fun _ => ?_)
  · exact PR.some Hs
  · refine PR.gd ?_
    refine PR.bd (PR.pure Hs (fr_f_X2_size (gR s 5 2) s)) (fun r6 s3 Hs3 => ?_)
    refine PR.ite (fun _ => ?_) (fun _ => ?_)
    · exact PR.tail Hs3 (hrec x1 s3)
    · exact PR.some Hs3
theorem fr_j_X3_skipBlock_74 (rec : Int → vS → Option (Int × vS)) (hrec : ∀ (y0 : Int) (s : vS), PR (W_l_X3_skipBlock_2) s (fun q => q.2) (rec y0 s)) (x1 : Int) (s : vS) : PR (W_l_X3_skipBlock_2) s (fun q => q.2) (j_X3_skipBlock_74 rec x1 s) := by
  unfold j_X3_skipBlock_74
  have Hs : Fr (W_l_X3_skipBlock_2) s s := Fr.rfl
  refine PR.stp (Fr.wI Hs (by decide +kernel)) (fun s1 Hs1 => ?_)
  exact PR.tail Hs1 (fr_j_X3_skipBlock_84 rec hrec x1 s1)
theorem fr_j_X3_skipBlock_38 (rec : Int → vS → Option (Int × vS)) (hrec : ∀ (y0 : Int) (s : vS), PR (W_l_X3_skipBlock_2) s (fun q => q.2) (rec y0 s)) (x1 : Int) (s : vS) : PR (W_l_X3_skipBlock_2) s (fun q => q.2) (j_X3_skipBlock_38 rec x1 s) := by
  unfold j_X3_skipBlock_38
  have Hs : Fr (W_l_X3_skipBlock_2) s s := Fr.rfl
  refine PR.bd (PR.pure Hs (fr_f_X3_here 0 s)) (fun r4 s1 Hs1 => ?_)
  refine PR.ite (fun _ => ?_) (fun _ => ?_)
  · refine PR.bd (PR.pure Hs1 (fr_f_X3_here 1 s1)) (fun r10 s7 Hs7 => ?_)
    refine PR.ite (fun _ => ?_) (fun _ => ?_)
    · refine PR.vl (fun y13 => ?_)
      refine PR.stp (Fr.wI Hs7 (by decide +kernel)) (fun s16 Hs16 => ?_)
      exact PR.tail Hs16 (fr_j_X3_skipBlock_84 rec hrec y13 s16)
    · exact PR.tail Hs7 (fr_j_X3_skipBlock_74 rec hrec x1 s7)
  · exact PR.tail Hs1 (fr_j_X3_skipBlock_74 rec hrec x1 s1)
theorem fr_l_X3_skipBlock_2 : ∀ (n : Nat) (x1 : Int) (s : vS), PR (W_l_X3_skipBlock_2) s (fun q => q.2) (l_X3_skipBlock_2 n x1 s)
  := by
  intro n
  induction n with
  | zero => intro x1 s; exact PR.none
  | succ n ih =>
    intro x1 s
    unfold l_X3_skipBlock_2
    have Hs : Fr (W_l_X3_skipBlock_2) s s := Fr.rfl
    refine PR.bd (PR.pure Hs (fr_f_X3_here 0 s)) (fun r4 s1 Hs1 => ?_)
    refine PR.ite (fun _ => ?_) (fun _ => ?_)
    · refine PR.bd (PR.pure Hs1 (fr_f_X3_here 1 s1)) (fun r10 s7 Hs7 => ?_)
      refine PR.ite (fun _ => ?_) (fun _ => ?_)
      · refine PR.vl (fun y13 => ?_)
        refine PR.stp (Fr.wI Hs7 (by decide +kernel)) (fun s16 Hs16 => ?_)
        exact PR.tail Hs16 (fr_j_X3_skipBlock_84 (l_X3_skipBlock_2 n) ih y13 s16)
      · exact PR.tail Hs7 (fr_j_X3_skipBlock_38 (l_X3_skipBlock_2 n) ih x1 s7)
    · exact PR.tail Hs1 (fr_j_X3_skipBlock_38 (l_X3_skipBlock_2 n) ih x1 s1)
def W_j_X3_skipBlock_102 : List Nat := []
theorem fr_j_X3_skipBlock_102 (x1 : Int) (s : vS) : PR (W_j_X3_skipBlock_102) s (fun q => q.2) (j_X3_skipBlock_102 x1 s) := by
  unfold j_X3_skipBlock_102
  have Hs : Fr (W_j_X3_skipBlock_102) s s := Fr.rfl
  refine PR.ite (fun _ => ?_) (fun _ => ?_)
  · exact PR.some Hs
  · exact PR.some Hs
def W_f_X3_skipBlock : List Nat := [5003]
theorem fr_f_X3_skipBlock (s : vS) : PR (W_f_X3_skipBlock) s (fun q => q.2) (f_X3_skipBlock s) := by
  unfold f_X3_skipBlock
  have Hs : Fr (W_f_X3_skipBlock) s s := Fr.rfl
  refine PR.lq_1 (PR.call Hs (fr_l_X3_skipBlock_2 FU 0 s) (by decide +kernel)) (fun y1 s2 Hs2 => ?_)
  exact PR.pure Hs2 (fr_j_X3_skipBlock_102 y1 s2)
def W_f_X3_isLarge : List Nat := []
theorem fr_f_X3_isLarge (x0 : Int) (s : vS) : PR (W_f_X3_isLarge) s (fun q => q.2) (f_X3_isLarge x0 s) := by
  unfold f_X3_isLarge
  have Hs : Fr (W_f_X3_isLarge) s s := Fr.rfl
  refine PR.ite (fun _ => ?_) (fun _ => ?_)
  · exact PR.some Hs
  · refine PR.ite (fun _ => ?_) (fun _ => ?_)
    · exact PR.some Hs
    · exact PR.some Hs
def W_f_X3_isLetter : List Nat := []
theorem fr_f_X3_isLetter (x0 : Int) (s : vS) : PR (W_f_X3_isLetter) s (fun q => q.2) (f_X3_isLetter x0 s) := by
  unfold f_X3_isLetter
  have Hs : Fr (W_f_X3_isLetter) s s := Fr.rfl
  refine PR.bd (PR.pure Hs (fr_f_X3_isLarge x0 s)) (fun r4 s1 Hs1 => ?_)
  refine PR.ite (fun _ => ?_) (fun _ => ?_)
  · refine PR.ite (fun _ => ?_) (fun _ => ?_)
    · exact PR.some Hs1
    · refine PR.ite (fun _ => ?_) (fun _ => ?_)
      · exact PR.some Hs1
      · exact PR.some Hs1
  · exact PR.some Hs1
def W_f_X3_isDigit : List Nat := []
theorem fr_f_X3_isDigit (x0 : Int) (s : vS) : PR (W_f_X3_isDigit) s (fun q => q.2) (f_X3_isDigit x0 s) := by
  unfold f_X3_isDigit
  have Hs : Fr (W_f_X3_isDigit) s s := Fr.rfl
  refine PR.ite (fun _ => ?_) (fun _ => ?_)
  · exact PR.some Hs
  · refine PR.ite (fun _ => ?_) (fun _ => ?_)
    · exact PR.some Hs
    · exact PR.some Hs
def W_l_X3_compare_10 : List Nat := []
theorem fr_l_X3_compare_10 (p2 : Nat) : ∀ (n : Nat) (x1 : Int) (x3 : Int) (x4 : Int) (s : vS), PR (W_l_X3_compare_10) s (Sum.elim (fun q => q) (fun q => q.2)) (l_X3_compare_10 p2 n x1 x3 x4 s)
  := by
  intro n
  induction n with
  | zero => intro x1 x3 x4 s; exact PR.none
  | succ n ih =>
    intro x1 x3 x4 s
    unfold l_X3_compare_10
    have Hs : Fr (W_l_X3_compare_10) s s := Fr.rfl
    refine PR.ite (fun _ => ?_) (fun _ => ?_)
    · exact PR.some Hs
    · refine PR.ite (fun _ => ?_) (fun _ => ?_)
      · exact PR.some Hs
      · refine PR.gd ?_
        refine PR.bd (PR.pure Hs (fr_f_X2_at (gR s 5 2) (w32 (x1 + x4)) s)) (fun r7 s4 Hs4 => ?_)
        refine PR.gd ?_
        refine PR.ite (fun _ => ?_) (fun _ => ?_)
        · refine PR.vl (fun y11 => ?_)
          exact PR.tail Hs4 (ih x1 x3 y11 s4)
        · refine PR.gd ?_
          refine PR.bd (PR.pure Hs4 (fr_f_X2_at (gR s4 5 2) (w32 (x1 + x4)) s4)) (fun r18 s15 Hs15 => ?_)
          refine PR.gd ?_
          exact PR.some Hs15
def W_j_X3_compare_70 : List Nat := []
theorem fr_j_X3_compare_70 (p2 : Nat) (x3 : Int) (s : vS) : PR (W_j_X3_compare_70) s (fun q => q.2) (j_X3_compare_70 p2 x3 s) := by
  unfold j_X3_compare_70
  have Hs : Fr (W_j_X3_compare_70) s s := Fr.rfl
  exact PR.some Hs
def W_f_X3_compare : List Nat := []
theorem fr_f_X3_compare (x1 : Int) (p2 : Nat) (s : vS) : PR (W_f_X3_compare) s (fun q => q.2) (f_X3_compare x1 p2 s) := by
  unfold f_X3_compare
  have Hs : Fr (W_f_X3_compare) s s := Fr.rfl
  refine PR.vl (fun y1 => ?_)
  refine PR.lqs_0 (PR.pure Hs (fr_l_X3_compare_10 p2 FU x1 y1 0 s)) (fun s4 Hs4 => ?_) (fun q Hq => PR.some Hq)
  exact PR.pure Hs4 (fr_j_X3_compare_70 p2 y1 s4)
def W_l_X3_wordOf_10 : List Nat := []
theorem fr_l_X3_wordOf_10 : ∀ (n : Nat) (x1 : Int) (x2 : Int) (x3 : Int) (s : vS), PR (W_l_X3_wordOf_10) s (Sum.elim (fun q => q) (fun q => q.2)) (l_X3_wordOf_10 n x1 x2 x3 s)
  := by
  intro n
  induction n with
  | zero => intro x1 x2 x3 s; exact PR.none
  | succ n ih =>
    intro x1 x2 x3 s
    unfold l_X3_wordOf_10
    have Hs : Fr (W_l_X3_wordOf_10) s s := Fr.rfl
    refine PR.ite (fun _ => ?_) (fun _ => ?_)
    · exact PR.some Hs
    · refine PR.vl (fun y2 => ?_)
      refine PR.gd ?_
      refine PR.bd (PR.pure Hs (fr_f_X3_compare x1 (1000 + Int.toNat y2) s)) (fun r9 s6 Hs6 => ?_)
      refine PR.ite (fun _ => ?_) (fun _ => ?_)
      · exact PR.some Hs6
      · refine PR.ite (fun _ => ?_) (fun _ => ?_)
        · refine PR.vl (fun y13 => ?_)
          exact PR.tail Hs6 (ih x1 y13 x3 s6)
        · refine PR.vl (fun y16 => ?_)
          exact PR.tail Hs6 (ih x1 x2 y16 s6)
def W_f_X3_wordOf : List Nat := []
theorem fr_f_X3_wordOf (x1 : Int) (s : vS) : PR (W_f_X3_wordOf) s (fun q => q.2) (f_X3_wordOf x1 s) := by
  unfold f_X3_wordOf
  have Hs : Fr (W_f_X3_wordOf) s s := Fr.rfl
  refine PR.vl (fun y1 => ?_)
  refine PR.lqs_0 (PR.pure Hs (fr_l_X3_wordOf_10 FU x1 0 y1 s)) (fun s4 Hs4 => ?_) (fun q Hq => PR.some Hq)
  exact PR.some Hs4
def W_f_X3_grown : List Nat := []
theorem fr_f_X3_grown (p0 : Nat) (s : vS) : PR (W_f_X3_grown) s (fun q => q) (f_X3_grown p0 s) := by
  unfold f_X3_grown
  have Hs : Fr (W_f_X3_grown) s s := Fr.rfl
  refine PR.gd ?_
  refine PR.stp (Fr.wAT Hs (by decide)) (fun s2 Hs2 => ?_)
  refine PR.gd ?_
  refine PR.stp (Fr.wcpT Hs2 (by decide)) (fun s5 Hs5 => ?_)
  exact PR.some Hs5
def W_j_X3_add_45 : List Nat := [5007, 7999, 8999, 9999]
theorem fr_j_X3_add_45 (x1 : Int) (x2 : Int) (s : vS) : PR (W_j_X3_add_45) s (fun q => q) (j_X3_add_45 x1 x2 s) := by
  unfold j_X3_add_45
  have Hs : Fr (W_j_X3_add_45) s s := Fr.rfl
  refine PR.gd ?_
  refine PR.stp (Fr.wE Hs (by decide +kernel)) (fun s2 Hs2 => ?_)
  refine PR.gd ?_
  refine PR.stp (Fr.wE Hs2 (by decide +kernel)) (fun s5 Hs5 => ?_)
  refine PR.gd ?_
  refine PR.stp (Fr.wE Hs5 (by decide +kernel)) (fun s8 Hs8 => ?_)
  refine PR.stp (Fr.wI Hs8 (by decide +kernel)) (fun s10 Hs10 => ?_)
  exact PR.some Hs10
def W_f_X3_add : List Nat := [5007, 7998, 7999, 8998, 8999, 9998, 9999]
theorem fr_f_X3_add (x1 : Int) (x2 : Int) (s : vS) : PR (W_f_X3_add) s (fun q => q) (f_X3_add x1 x2 s) := by
  unfold f_X3_add
  have Hs : Fr (W_f_X3_add) s s := Fr.rfl
  refine PR.ite (fun _ => ?_) (fun _ => ?_)
  · refine PR.bdv (PR.pure Hs (fr_f_X3_grown 7 s)) (fun s2 Hs2 => ?_)
    refine PR.gd ?_
    refine PR.stp (Fr.wswT Hs2 (by decide) (by decide +kernel) (by decide +kernel)) (fun s6 Hs6 => ?_)
    refine PR.stp (Fr.wrs Hs6) (fun s8 Hs8 => ?_)
    refine PR.bdv (PR.pure Hs8 (fr_f_X3_grown 8 s8)) (fun s10 Hs10 => ?_)
    refine PR.gd ?_
    refine PR.stp (Fr.wswT Hs10 (by decide) (by decide +kernel) (by decide +kernel)) (fun s14 Hs14 => ?_)
    refine PR.stp (Fr.wrs Hs14) (fun s16 Hs16 => ?_)
    refine PR.bdv (PR.pure Hs16 (fr_f_X3_grown 9 s16)) (fun s18 Hs18 => ?_)
    refine PR.gd ?_
    refine PR.stp (Fr.wswT Hs18 (by decide) (by decide +kernel) (by decide +kernel)) (fun s22 Hs22 => ?_)
    refine PR.stp (Fr.wrs Hs22) (fun s24 Hs24 => ?_)
    exact PR.call Hs24 (fr_j_X3_add_45 x1 x2 s24) (by decide +kernel)
  · exact PR.call Hs (fr_j_X3_add_45 x1 x2 s) (by decide +kernel)
def W_l_X3_name_15 : List Nat := [5003]
theorem fr_l_X3_name_15 : ∀ (n : Nat) (x1 : Int) (s : vS), PR (W_l_X3_name_15) s (fun q => q) (l_X3_name_15 n x1 s)
  := by
  intro n
  induction n with
  | zero => intro x1 s; exact PR.none
  | succ n ih =>
    intro x1 s
    unfold l_X3_name_15
    have Hs : Fr (W_l_X3_name_15) s s := Fr.rfl
    refine PR.bd (PR.pure Hs (fr_f_X3_here 0 s)) (fun r4 s1 Hs1 => ?_)
    refine PR.bd (PR.pure Hs1 (fr_f_X3_isLetter r4 s1)) (fun r9 s6 Hs6 => ?_)
    refine PR.ite (fun _ => ?_) (fun _ => ?_)
    · refine PR.bd (PR.pure Hs6 (fr_f_X3_here 0 s6)) (fun r17 s14 Hs14 => ?_)
      refine PR.bd (PR.pure Hs14 (fr_f_X3_isDigit r17 s14)) (fun r22 s19 Hs19 => ?_)
      refine PR.ite (fun _ => ?_) (fun _ => ?_)
      · refine PR.bd (PR.pure Hs19 (fr_f_X3_here 0 s19)) (fun r30 s27 Hs27 => ?_)
        refine PR.ite (fun _ => ?_) (fun _ => ?_)
        · refine PR.bd (PR.pure Hs27 (fr_f_X3_here 1 s27)) (fun r36 s33 Hs33 => ?_)
          refine PR.bd (PR.pure Hs33 (fr_f_X3_isLetter r36 s33)) (fun r41 s38 Hs38 => ?_)
          refine PR.ite (fun _ => ?_) (fun _ => ?_)
          · refine PR.bd (PR.pure Hs38 (fr_f_X3_here 1 s38)) (fun r49 s46 Hs46 => ?_)
            refine PR.bd (PR.pure Hs46 (fr_f_X3_isDigit r49 s46)) (fun r54 s51 Hs51 => ?_)
            refine PR.ite (fun _ => ?_) (fun _ => ?_)
            · exact PR.some Hs51
            · refine PR.stp (Fr.wI Hs51 (by decide +kernel)) (fun s57 Hs57 => ?_)
              exact PR.tail Hs57 (ih x1 s57)
          · refine PR.stp (Fr.wI Hs38 (by decide +kernel)) (fun s44 Hs44 => ?_)
            exact PR.tail Hs44 (ih x1 s44)
        · exact PR.some Hs27
      · refine PR.stp (Fr.wI Hs19 (by decide +kernel)) (fun s25 Hs25 => ?_)
        exact PR.tail Hs25 (ih x1 s25)
    · refine PR.stp (Fr.wI Hs6 (by decide +kernel)) (fun s12 Hs12 => ?_)
      exact PR.tail Hs12 (ih x1 s12)
def W_j_X3_name_138 : List Nat := [5007, 7998, 7999, 8998, 8999, 9998, 9999]
theorem fr_j_X3_name_138 (x1 : Int) (z1 : Int) (s : vS) : PR (W_j_X3_name_138) s (fun q => q) (j_X3_name_138 x1 z1 s) := by
  unfold j_X3_name_138
  have Hs : Fr (W_j_X3_name_138) s s := Fr.rfl
  refine PR.bdv (PR.call Hs (fr_f_X3_add z1 x1 s) (by decide +kernel)) (fun s1 Hs1 => ?_)
  exact PR.some Hs1
def W_j_X3_name_105 : List Nat := [5007, 7998, 7999, 8998, 8999, 9998, 9999]
theorem fr_j_X3_name_105 (x1 : Int) (z0 : Int) (s : vS) : PR (W_j_X3_name_105) s (fun q => q) (j_X3_name_105 x1 z0 s) := by
  unfold j_X3_name_105
  have Hs : Fr (W_j_X3_name_105) s s := Fr.rfl
  refine PR.ite (fun _ => ?_) (fun _ => ?_)
  · refine PR.gd ?_
    refine PR.bd (PR.pure Hs (fr_f_X2_at (gR s 5 2) x1 s)) (fun r6 s3 Hs3 => ?_)
    refine PR.bd (PR.pure Hs3 (fr_f_X3_isLarge r6 s3)) (fun r11 s8 Hs8 => ?_)
    refine PR.ite (fun _ => ?_) (fun _ => ?_)
    · exact PR.call Hs8 (fr_j_X3_name_138 x1 0 s8) (by decide +kernel)
    · exact PR.call Hs8 (fr_j_X3_name_138 x1 1 s8) (by decide +kernel)
  · exact PR.call Hs (fr_j_X3_name_138 x1 (w32 (100 + z0)) s) (by decide +kernel)
def W_j_X3_name_82 : List Nat := [5007, 7998, 7999, 8998, 8999, 9998, 9999]
theorem fr_j_X3_name_82 (x1 : Int) (s : vS) : PR (W_j_X3_name_82) s (fun q => q) (j_X3_name_82 x1 s) := by
  unfold j_X3_name_82
  have Hs : Fr (W_j_X3_name_82) s s := Fr.rfl
  refine PR.gd ?_
  refine PR.bd (PR.pure Hs (fr_f_X2_at (gR s 5 2) x1 s)) (fun r5 s2 Hs2 => ?_)
  refine PR.bd (PR.pure Hs2 (fr_f_X3_isLarge r5 s2)) (fun r10 s7 Hs7 => ?_)
  refine PR.ite (fun _ => ?_) (fun _ => ?_)
  · exact PR.call Hs7 (fr_j_X3_name_105 x1 (-1) s7) (by decide +kernel)
  · refine PR.bd (PR.pure Hs7 (fr_f_X3_wordOf x1 s7)) (fun r16 s13 Hs13 => ?_)
    exact PR.call Hs13 (fr_j_X3_name_105 x1 r16 s13) (by decide +kernel)
def W_f_X3_name : List Nat := [5003, 5007, 7998, 7999, 8998, 8999, 9998, 9999]
theorem fr_f_X3_name (s : vS) : PR (W_f_X3_name) s (fun q => q) (f_X3_name s) := by
  unfold f_X3_name
  have Hs : Fr (W_f_X3_name) s s := Fr.rfl
  refine PR.vl (fun y1 => ?_)
  refine PR.stp (Fr.wI Hs (by decide +kernel)) (fun s4 Hs4 => ?_)
  refine PR.lq_0 (PR.call Hs4 (fr_l_X3_name_15 FU y1 s4) (by decide +kernel)) (fun s6 Hs6 => ?_)
  exact PR.call Hs6 (fr_j_X3_name_82 y1 s6) (by decide +kernel)
def W_l_X3_number_15 : List Nat := [5003]
theorem fr_l_X3_number_15 : ∀ (n : Nat) (x1 : Int) (s : vS), PR (W_l_X3_number_15) s (fun q => q) (l_X3_number_15 n x1 s)
  := by
  intro n
  induction n with
  | zero => intro x1 s; exact PR.none
  | succ n ih =>
    intro x1 s
    unfold l_X3_number_15
    have Hs : Fr (W_l_X3_number_15) s s := Fr.rfl
    refine PR.gd ?_
    refine PR.bd (PR.pure Hs (fr_f_X2_at (gR s 5 2) x1 s)) (fun r5 s2 Hs2 => ?_)
    refine PR.ite (fun _ => ?_) (fun _ => ?_)
    · exact PR.some Hs2
    · refine PR.bd (PR.pure Hs2 (fr_f_X3_here 0 s2)) (fun r11 s8 Hs8 => ?_)
      refine PR.bd (PR.pure Hs8 (fr_f_X3_isDigit r11 s8)) (fun r16 s13 Hs13 => ?_)
      refine PR.ite (fun _ => ?_) (fun _ => ?_)
      · exact PR.some Hs13
      · refine PR.stp (Fr.wI Hs13 (by decide +kernel)) (fun s19 Hs19 => ?_)
        exact PR.tail Hs19 (ih x1 s19)
def W_j_X3_number_78 : List Nat := [5007, 7998, 7999, 8998, 8999, 9998, 9999]
theorem fr_j_X3_number_78 (x1 : Int) (s : vS) : PR (W_j_X3_number_78) s (fun q => q.2) (j_X3_number_78 x1 s) := by
  unfold j_X3_number_78
  have Hs : Fr (W_j_X3_number_78) s s := Fr.rfl
  refine PR.bdv (PR.call Hs (fr_f_X3_add 2 x1 s) (by decide +kernel)) (fun s1 Hs1 => ?_)
  exact PR.some Hs1
def W_j_X3_number_52 : List Nat := [5007, 7998, 7999, 8998, 8999, 9998, 9999]
theorem fr_j_X3_number_52 (x1 : Int) (s : vS) : PR (W_j_X3_number_52) s (fun q => q.2) (j_X3_number_52 x1 s) := by
  unfold j_X3_number_52
  have Hs : Fr (W_j_X3_number_52) s s := Fr.rfl
  refine PR.gd ?_
  refine PR.bd (PR.pure Hs (fr_f_X2_at (gR s 5 2) x1 s)) (fun r5 s2 Hs2 => ?_)
  refine PR.ite (fun _ => ?_) (fun _ => ?_)
  · refine PR.bd (PR.pure Hs2 (fr_f_X3_here 0 s2)) (fun r11 s8 Hs8 => ?_)
    refine PR.bd (PR.pure Hs8 (fr_f_X3_isDigit r11 s8)) (fun r16 s13 Hs13 => ?_)
    refine PR.ite (fun _ => ?_) (fun _ => ?_)
    · exact PR.call Hs13 (fr_j_X3_number_78 x1 s13) (by decide +kernel)
    · exact PR.some Hs13
  · exact PR.call Hs2 (fr_j_X3_number_78 x1 s2) (by decide +kernel)
def W_f_X3_number : List Nat := [5003, 5007, 7998, 7999, 8998, 8999, 9998, 9999]
theorem fr_f_X3_number (s : vS) : PR (W_f_X3_number) s (fun q => q.2) (f_X3_number s) := by
  unfold f_X3_number
  have Hs : Fr (W_f_X3_number) s s := Fr.rfl
  refine PR.vl (fun y1 => ?_)
  refine PR.stp (Fr.wI Hs (by decide +kernel)) (fun s4 Hs4 => ?_)
  refine PR.lq_0 (PR.call Hs4 (fr_l_X3_number_15 FU y1 s4) (by decide +kernel)) (fun s6 Hs6 => ?_)
  exact PR.call Hs6 (fr_j_X3_number_52 y1 s6) (by decide +kernel)
def W_l_X3_quoted_15 : List Nat := [5003]
theorem fr_j_X3_quoted_55 (rec : Int → vS → Option (vS)) (hrec : ∀ (y0 : Int) (s : vS), PR (W_l_X3_quoted_15) s (fun q => q) (rec y0 s)) (x1 : Int) (s : vS) : PR (W_l_X3_quoted_15) s (fun q => q) (j_X3_quoted_55 rec x1 s) := by
  unfold j_X3_quoted_55
  have Hs : Fr (W_l_X3_quoted_15) s s := Fr.rfl
  refine PR.bd (PR.pure Hs (fr_f_X3_here 0 s)) (fun r4 s1 Hs1 => ?_)
  refine PR.ite (fun _ => ?_) (fun _ => ?_)
  · refine PR.stp (Fr.wI Hs1 (by decide +kernel)) (fun s9 Hs9 => ?_)
    exact PR.tail Hs9 (hrec x1 s9)
  · refine PR.stp (Fr.wI Hs1 (by decide +kernel)) (fun s7 Hs7 => ?_)
    exact PR.tail Hs7 (hrec x1 s7)
theorem fr_l_X3_quoted_15 : ∀ (n : Nat) (x1 : Int) (s : vS), PR (W_l_X3_quoted_15) s (fun q => q) (l_X3_quoted_15 n x1 s)
  := by
  intro n
  induction n with
  | zero => intro x1 s; exact PR.none
  | succ n ih =>
    intro x1 s
    unfold l_X3_quoted_15
    have Hs : Fr (W_l_X3_quoted_15) s s := Fr.rfl
    refine PR.bd (PR.pure Hs (fr_f_X3_here 0 s)) (fun r4 s1 Hs1 => ?_)
    refine PR.ite (fun _ => ?_) (fun _ => ?_)
    · exact PR.some Hs1
    · refine PR.bd (PR.pure Hs1 (fr_f_X3_here 0 s1)) (fun r10 s7 Hs7 => ?_)
      refine PR.ite (fun _ => ?_) (fun _ => ?_)
      · exact PR.some Hs7
      · refine PR.bd (PR.pure Hs7 (fr_f_X3_here 0 s7)) (fun r16 s13 Hs13 => ?_)
        refine PR.ite (fun _ => ?_) (fun _ => ?_)
        · refine PR.bd (PR.pure Hs13 (fr_f_X3_here 1 s13)) (fun r22 s19 Hs19 => ?_)
          refine PR.ite (fun _ => ?_) (fun _ => ?_)
          · exact PR.tail Hs19 (fr_j_X3_quoted_55 (l_X3_quoted_15 n) ih x1 s19)
          · exact PR.some Hs19
        · exact PR.tail Hs13 (fr_j_X3_quoted_55 (l_X3_quoted_15 n) ih x1 s13)
def W_j_X3_quoted_82 : List Nat := [5003, 5007, 7998, 7999, 8998, 8999, 9998, 9999]
theorem fr_j_X3_quoted_82 (x1 : Int) (s : vS) : PR (W_j_X3_quoted_82) s (fun q => q.2) (j_X3_quoted_82 x1 s) := by
  unfold j_X3_quoted_82
  have Hs : Fr (W_j_X3_quoted_82) s s := Fr.rfl
  refine PR.bd (PR.pure Hs (fr_f_X3_here 0 s)) (fun r4 s1 Hs1 => ?_)
  refine PR.ite (fun _ => ?_) (fun _ => ?_)
  · refine PR.stp (Fr.wI Hs1 (by decide +kernel)) (fun s7 Hs7 => ?_)
    refine PR.bdv (PR.call Hs7 (fr_f_X3_add 5 x1 s7) (by decide +kernel)) (fun s9 Hs9 => ?_)
    exact PR.some Hs9
  · exact PR.some Hs1
def W_f_X3_quoted : List Nat := [5003, 5007, 7998, 7999, 8998, 8999, 9998, 9999]
theorem fr_f_X3_quoted (s : vS) : PR (W_f_X3_quoted) s (fun q => q.2) (f_X3_quoted s) := by
  unfold f_X3_quoted
  have Hs : Fr (W_f_X3_quoted) s s := Fr.rfl
  refine PR.vl (fun y1 => ?_)
  refine PR.stp (Fr.wI Hs (by decide +kernel)) (fun s4 Hs4 => ?_)
  refine PR.lq_0 (PR.call Hs4 (fr_l_X3_quoted_15 FU y1 s4) (by decide +kernel)) (fun s6 Hs6 => ?_)
  exact PR.call Hs6 (fr_j_X3_quoted_82 y1 s6) (by decide +kernel)
def W_f_X3_isHex : List Nat := []
theorem fr_f_X3_isHex (x0 : Int) (s : vS) : PR (W_f_X3_isHex) s (fun q => q.2) (f_X3_isHex x0 s) := by
  unfold f_X3_isHex
  have Hs : Fr (W_f_X3_isHex) s s := Fr.rfl
  refine PR.bd (PR.pure Hs (fr_f_X3_isDigit x0 s)) (fun r4 s1 Hs1 => ?_)
  refine PR.ite (fun _ => ?_) (fun _ => ?_)
  · refine PR.ite (fun _ => ?_) (fun _ => ?_)
    · exact PR.some Hs1
    · refine PR.ite (fun _ => ?_) (fun _ => ?_)
      · exact PR.some Hs1
      · exact PR.some Hs1
  · exact PR.some Hs1
def W_l_X3_digits_17 : List Nat := [5003]
theorem fr_j_X3_digits_39 (rec : Int → Int → vS → Option (Int × vS)) (hrec : ∀ (y0 : Int) (y1 : Int) (s : vS), PR (W_l_X3_digits_17) s (fun q => q.2) (rec y0 y1 s)) (x1 : Int) (x2 : Int) (s : vS) : PR (W_l_X3_digits_17) s (fun q => q.2) (j_X3_digits_39 rec x1 x2 s) := by
  unfold j_X3_digits_39
  have Hs : Fr (W_l_X3_digits_17) s s := Fr.rfl
  refine PR.ite (fun _ => ?_) (fun _ => ?_)
  · refine PR.stp (Fr.wI Hs (by decide +kernel)) (fun s2 Hs2 => ?_)
    exact PR.tail Hs2 (hrec x1 0 s2)
  · refine PR.bd (PR.pure Hs (fr_f_X3_here 0 s)) (fun r7 s4 Hs4 => ?_)
    refine PR.bd (PR.pure Hs4 (fr_f_X3_isWhite r7 s4)) (fun r12 s9 Hs9 => ?_)
    refine PR.ite (fun _ => ?_) (fun _ => ?_)
    · refine PR.bd (PR.pure Hs9 (fr_f_X3_here 0 s9)) (fun r20 s17 Hs17 => ?_)
      refine PR.ite (fun _ => ?_) (fun _ => ?_)
      · refine PR.stp (Fr.wI Hs17 (by decide +kernel)) (fun s23 Hs23 => ?_)
        exact PR.tail Hs23 (hrec x1 0 s23)
      · refine PR.stp (Fr.wI Hs17 (by decide +kernel)) (fun s25 Hs25 => ?_)
        exact PR.tail Hs25 (hrec x1 1 s25)
    · refine PR.stp (Fr.wI Hs9 (by decide +kernel)) (fun s15 Hs15 => ?_)
      exact PR.tail Hs15 (hrec x1 1 s15)
theorem fr_l_X3_digits_17 : ∀ (n : Nat) (x1 : Int) (x2 : Int) (s : vS), PR (W_l_X3_digits_17) s (fun q => q.2) (l_X3_digits_17 n x1 x2 s)
  := by
  intro n
  induction n with
  | zero => intro x1 x2 s; exact PR.none
  | succ n ih =>
    intro x1 x2 s
    unfold l_X3_digits_17
    have Hs : Fr (W_l_X3_digits_17) s s := Fr.rfl
    refine PR.bd (PR.pure Hs (fr_f_X3_here 0 s)) (fun r4 s1 Hs1 => ?_)
    refine PR.bd (PR.pure Hs1 (fr_f_X3_isHex r4 s1)) (fun r9 s6 Hs6 => ?_)
    refine PR.ite (fun _ => ?_) (fun _ => ?_)
    · refine PR.bd (PR.pure Hs6 (fr_f_X3_here 0 s6)) (fun r15 s12 Hs12 => ?_)
      refine PR.bd (PR.pure Hs12 (fr_f_X3_isWhite r15 s12)) (fun r20 s17 Hs17 => ?_)
      refine PR.ite (fun _ => ?_) (fun _ => ?_)
      · exact PR.some Hs17
      · exact PR.tail Hs17 (fr_j_X3_digits_39 (l_X3_digits_17 n) ih x1 x2 s17)
    · exact PR.tail Hs6 (fr_j_X3_digits_39 (l_X3_digits_17 n) ih x1 x2 s6)
def W_j_X3_digits_139 : List Nat := [5007, 7998, 7999, 8998, 8999, 9998, 9999]
theorem fr_j_X3_digits_139 (x1 : Int) (z1 : Int) (s : vS) : PR (W_j_X3_digits_139) s (fun q => q.2) (j_X3_digits_139 x1 z1 s) := by
  unfold j_X3_digits_139
  have Hs : Fr (W_j_X3_digits_139) s s := Fr.rfl
  refine PR.bdv (PR.call Hs (fr_f_X3_add z1 x1 s) (by decide +kernel)) (fun s1 Hs1 => ?_)
  exact PR.some Hs1
def W_j_X3_digits_117 : List Nat := [5003, 5007, 7998, 7999, 8998, 8999, 9998, 9999]
theorem fr_j_X3_digits_117 (x1 : Int) (x3 : Int) (s : vS) : PR (W_j_X3_digits_117) s (fun q => q.2) (j_X3_digits_117 x1 x3 s) := by
  unfold j_X3_digits_117
  have Hs : Fr (W_j_X3_digits_117) s s := Fr.rfl
  refine PR.stp (Fr.wI Hs (by decide +kernel)) (fun s1 Hs1 => ?_)
  refine PR.ite (fun _ => ?_) (fun _ => ?_)
  · exact PR.call Hs1 (fr_j_X3_digits_139 x1 4 s1) (by decide +kernel)
  · exact PR.call Hs1 (fr_j_X3_digits_139 x1 3 s1) (by decide +kernel)
def W_f_X3_digits : List Nat := [5003, 5007, 7998, 7999, 8998, 8999, 9998, 9999]
theorem fr_f_X3_digits (s : vS) : PR (W_f_X3_digits) s (fun q => q.2) (f_X3_digits s) := by
  unfold f_X3_digits
  have Hs : Fr (W_f_X3_digits) s s := Fr.rfl
  refine PR.vl (fun y1 => ?_)
  refine PR.stp (Fr.wI Hs (by decide +kernel)) (fun s4 Hs4 => ?_)
  refine PR.lq_1 (PR.call Hs4 (fr_l_X3_digits_17 FU y1 1 s4) (by decide +kernel)) (fun y6 s7 Hs7 => ?_)
  refine PR.bd (PR.pure Hs7 (fr_f_X3_here 1 s7)) (fun r13 s10 Hs10 => ?_)
  refine PR.bd (PR.pure Hs10 (fr_f_X3_here 0 s10)) (fun r18 s15 Hs15 => ?_)
  refine PR.ite (fun _ => ?_) (fun _ => ?_)
  · refine PR.ite (fun _ => ?_) (fun _ => ?_)
    · exact PR.call Hs15 (fr_j_X3_digits_117 y1 r13 s15) (by decide +kernel)
    · refine PR.ite (fun _ => ?_) (fun _ => ?_)
      · refine PR.ite (fun _ => ?_) (fun _ => ?_)
        · exact PR.some Hs15
        · exact PR.call Hs15 (fr_j_X3_digits_117 y1 r13 s15) (by decide +kernel)
      · exact PR.some Hs15
  · exact PR.some Hs15
def W_j_X3_sign_197 : List Nat := [5007, 7998, 7999, 8998, 8999, 9998, 9999]
theorem fr_j_X3_sign_197 (x1 : Int) (x3 : Int) (s : vS) : PR (W_j_X3_sign_197) s (fun q => q.2) (j_X3_sign_197 x1 x3 s) := by
  unfold j_X3_sign_197
  have Hs : Fr (W_j_X3_sign_197) s s := Fr.rfl
  refine PR.bdv (PR.call Hs (fr_f_X3_add (w32 (15 + x3)) x1 s) (by decide +kernel)) (fun s1 Hs1 => ?_)
  exact PR.some Hs1
def W_j_X3_sign_190 : List Nat := [5007, 7998, 7999, 8998, 8999, 9998, 9999]
theorem fr_j_X3_sign_190 (x1 : Int) (z1 : Int) (s : vS) : PR (W_j_X3_sign_190) s (fun q => q.2) (j_X3_sign_190 x1 z1 s) := by
  unfold j_X3_sign_190
  have Hs : Fr (W_j_X3_sign_190) s s := Fr.rfl
  refine PR.bdv (PR.call Hs (fr_f_X3_add z1 x1 s) (by decide +kernel)) (fun s1 Hs1 => ?_)
  exact PR.some Hs1
def W_j_X3_sign_157 : List Nat := [5003, 5007, 7998, 7999, 8998, 8999, 9998, 9999]
theorem fr_j_X3_sign_157 (x1 : Int) (x2 : Int) (x3 : Int) (s : vS) : PR (W_j_X3_sign_157) s (fun q => q.2) (j_X3_sign_157 x1 x2 x3 s) := by
  unfold j_X3_sign_157
  have Hs : Fr (W_j_X3_sign_157) s s := Fr.rfl
  refine PR.bd (PR.pure Hs (fr_f_X3_here 0 s)) (fun r4 s1 Hs1 => ?_)
  refine PR.ite (fun _ => ?_) (fun _ => ?_)
  · refine PR.stp (Fr.wI Hs1 (by decide +kernel)) (fun s7 Hs7 => ?_)
    refine PR.ite (fun _ => ?_) (fun _ => ?_)
    · exact PR.call Hs7 (fr_j_X3_sign_190 x1 13 s7) (by decide +kernel)
    · exact PR.call Hs7 (fr_j_X3_sign_190 x1 14 s7) (by decide +kernel)
  · exact PR.call Hs1 (fr_j_X3_sign_197 x1 x3 s1) (by decide +kernel)
def W_j_X3_sign_145 : List Nat := [5003, 5007, 7998, 7999, 8998, 8999, 9998, 9999]
theorem fr_j_X3_sign_145 (x1 : Int) (x2 : Int) (x3 : Int) (s : vS) : PR (W_j_X3_sign_145) s (fun q => q.2) (j_X3_sign_145 x1 x2 x3 s) := by
  unfold j_X3_sign_145
  have Hs : Fr (W_j_X3_sign_145) s s := Fr.rfl
  refine PR.ite (fun _ => ?_) (fun _ => ?_)
  · exact PR.call Hs (fr_j_X3_sign_157 x1 x2 x3 s) (by decide +kernel)
  · refine PR.ite (fun _ => ?_) (fun _ => ?_)
    · exact PR.call Hs (fr_j_X3_sign_157 x1 x2 x3 s) (by decide +kernel)
    · exact PR.call Hs (fr_j_X3_sign_197 x1 x3 s) (by decide +kernel)
def W_j_X3_sign_138 : List Nat := [5007, 7998, 7999, 8998, 8999, 9998, 9999]
theorem fr_j_X3_sign_138 (x1 : Int) (z1 : Int) (s : vS) : PR (W_j_X3_sign_138) s (fun q => q.2) (j_X3_sign_138 x1 z1 s) := by
  unfold j_X3_sign_138
  have Hs : Fr (W_j_X3_sign_138) s s := Fr.rfl
  refine PR.bdv (PR.call Hs (fr_f_X3_add z1 x1 s) (by decide +kernel)) (fun s1 Hs1 => ?_)
  exact PR.some Hs1
def W_j_X3_sign_116 : List Nat := [5003, 5007, 7998, 7999, 8998, 8999, 9998, 9999]
theorem fr_j_X3_sign_116 (x1 : Int) (z1 : Int) (z2 : Int) (s : vS) : PR (W_j_X3_sign_116) s (fun q => q.2) (j_X3_sign_116 x1 z1 z2 s) := by
  unfold j_X3_sign_116
  have Hs : Fr (W_j_X3_sign_116) s s := Fr.rfl
  refine PR.stp (Fr.wI Hs (by decide +kernel)) (fun s1 Hs1 => ?_)
  refine PR.ite (fun _ => ?_) (fun _ => ?_)
  · exact PR.call Hs1 (fr_j_X3_sign_138 x1 11 s1) (by decide +kernel)
  · exact PR.call Hs1 (fr_j_X3_sign_138 x1 12 s1) (by decide +kernel)
def W_j_X3_sign_80 : List Nat := [5003, 5007, 7998, 7999, 8998, 8999, 9998, 9999]
theorem fr_j_X3_sign_80 (x1 : Int) (x2 : Int) (x3 : Int) (s : vS) : PR (W_j_X3_sign_80) s (fun q => q.2) (j_X3_sign_80 x1 x2 x3 s) := by
  unfold j_X3_sign_80
  have Hs : Fr (W_j_X3_sign_80) s s := Fr.rfl
  refine PR.ite (fun _ => ?_) (fun _ => ?_)
  · refine PR.bd (PR.pure Hs (fr_f_X3_here 0 s)) (fun r5 s2 Hs2 => ?_)
    refine PR.ite (fun _ => ?_) (fun _ => ?_)
    · refine PR.bd (PR.pure Hs2 (fr_f_X3_here 1 s2)) (fun r11 s8 Hs8 => ?_)
      refine PR.ite (fun _ => ?_) (fun _ => ?_)
      · exact PR.call Hs8 (fr_j_X3_sign_116 x1 (gI s2 5 3) 2 s8) (by decide +kernel)
      · exact PR.call Hs8 (fr_j_X3_sign_116 x1 (gI s2 5 3) 1 s8) (by decide +kernel)
    · exact PR.call Hs2 (fr_j_X3_sign_145 x1 x2 x3 s2) (by decide +kernel)
  · exact PR.call Hs (fr_j_X3_sign_145 x1 x2 x3 s) (by decide +kernel)
def W_f_X3_sign : List Nat := [5003, 5007, 7998, 7999, 8998, 8999, 9998, 9999]
theorem fr_f_X3_sign (s : vS) : PR (W_f_X3_sign) s (fun q => q.2) (f_X3_sign s) := by
  unfold f_X3_sign
  have Hs : Fr (W_f_X3_sign) s s := Fr.rfl
  refine PR.vl (fun y1 => ?_)
  refine PR.bd (PR.pure Hs (fr_f_X3_here 0 s)) (fun r7 s4 Hs4 => ?_)
  refine PR.gd ?_
  refine PR.vl (fun y10 => ?_)
  refine PR.ite (fun _ => ?_) (fun _ => ?_)
  · refine PR.stp (Fr.wI Hs4 (by decide +kernel)) (fun s14 Hs14 => ?_)
    refine PR.ite (fun _ => ?_) (fun _ => ?_)
    · refine PR.bd (PR.pure Hs14 (fr_f_X3_here 0 s14)) (fun r20 s17 Hs17 => ?_)
      refine PR.ite (fun _ => ?_) (fun _ => ?_)
      · refine PR.bd (PR.pure Hs17 (fr_f_X3_here 1 s17)) (fun r26 s23 Hs23 => ?_)
        refine PR.ite (fun _ => ?_) (fun _ => ?_)
        · refine PR.stp (Fr.wI Hs23 (by decide +kernel)) (fun s29 Hs29 => ?_)
          refine PR.bdv (PR.call Hs29 (fr_f_X3_add 10 y1 s29) (by decide +kernel)) (fun s31 Hs31 => ?_)
          exact PR.some Hs31
        · exact PR.call Hs23 (fr_j_X3_sign_80 y1 r7 y10 s23) (by decide +kernel)
      · exact PR.call Hs17 (fr_j_X3_sign_80 y1 r7 y10 s17) (by decide +kernel)
    · exact PR.call Hs14 (fr_j_X3_sign_80 y1 r7 y10 s14) (by decide +kernel)
  · exact PR.some Hs4
def W_l_X3_cut_15 : List Nat := [5003, 5007, 7998, 7999, 8998, 8999, 9998, 9999]
theorem fr_j_X3_cut_177 (p1 : Nat) (rec : vS → Option ((vS) ⊕ (Int × vS))) (hrec : ∀ (s : vS), PR (W_l_X3_cut_15) s (Sum.elim (fun q => q) (fun q => q.2)) (rec  s)) (x2 : Int) (x4 : Int) (s : vS) : PR (W_l_X3_cut_15) s (Sum.elim (fun q => q) (fun q => q.2)) (j_X3_cut_177 p1 rec x2 x4 s) := by
  unfold j_X3_cut_177
  have Hs : Fr (W_l_X3_cut_15) s s := Fr.rfl
  refine PR.ite (fun _ => ?_) (fun _ => ?_)
  · exact PR.some Hs
  · exact PR.tail Hs (hrec s)
theorem fr_j_X3_cut_111 (p1 : Nat) (rec : vS → Option ((vS) ⊕ (Int × vS))) (hrec : ∀ (s : vS), PR (W_l_X3_cut_15) s (Sum.elim (fun q => q) (fun q => q.2)) (rec  s)) (x2 : Int) (x3 : Int) (x4 : Int) (s : vS) : PR (W_l_X3_cut_15) s (Sum.elim (fun q => q) (fun q => q.2)) (j_X3_cut_111 p1 rec x2 x3 x4 s) := by
  unfold j_X3_cut_111
  have Hs : Fr (W_l_X3_cut_15) s s := Fr.rfl
  refine PR.bd (PR.pure Hs (fr_f_X3_isLetter x3 s)) (fun r4 s1 Hs1 => ?_)
  refine PR.ite (fun _ => ?_) (fun _ => ?_)
  · refine PR.bd (PR.pure Hs1 (fr_f_X3_isDigit x3 s1)) (fun r10 s7 Hs7 => ?_)
    refine PR.ite (fun _ => ?_) (fun _ => ?_)
    · refine PR.ite (fun _ => ?_) (fun _ => ?_)
      · refine PR.bd (PR.call Hs7 (fr_f_X3_quoted s7) (by decide +kernel)) (fun r28 s25 Hs25 => ?_)
        exact PR.tail Hs25 (fr_j_X3_cut_177 p1 rec hrec x2 r28 s25)
      · refine PR.ite (fun _ => ?_) (fun _ => ?_)
        · refine PR.bd (PR.call Hs7 (fr_f_X3_digits s7) (by decide +kernel)) (fun r23 s20 Hs20 => ?_)
          exact PR.tail Hs20 (fr_j_X3_cut_177 p1 rec hrec x2 r23 s20)
        · refine PR.bd (PR.call Hs7 (fr_f_X3_sign s7) (by decide +kernel)) (fun r18 s15 Hs15 => ?_)
          exact PR.tail Hs15 (fr_j_X3_cut_177 p1 rec hrec x2 r18 s15)
    · refine PR.bd (PR.call Hs7 (fr_f_X3_number s7) (by decide +kernel)) (fun r33 s30 Hs30 => ?_)
      exact PR.tail Hs30 (fr_j_X3_cut_177 p1 rec hrec x2 r33 s30)
  · refine PR.bdv (PR.call Hs1 (fr_f_X3_name s1) (by decide +kernel)) (fun s35 Hs35 => ?_)
    exact PR.tail Hs35 (fr_j_X3_cut_177 p1 rec hrec x2 x4 s35)
theorem fr_j_X3_cut_86 (p1 : Nat) (rec : vS → Option ((vS) ⊕ (Int × vS))) (hrec : ∀ (s : vS), PR (W_l_X3_cut_15) s (Sum.elim (fun q => q) (fun q => q.2)) (rec  s)) (x2 : Int) (x3 : Int) (x4 : Int) (s : vS) : PR (W_l_X3_cut_15) s (Sum.elim (fun q => q) (fun q => q.2)) (j_X3_cut_86 p1 rec x2 x3 x4 s) := by
  unfold j_X3_cut_86
  have Hs : Fr (W_l_X3_cut_15) s s := Fr.rfl
  refine PR.ite (fun _ => ?_) (fun _ => ?_)
  · refine PR.bd (PR.pure Hs (fr_f_X3_here 1 s)) (fun r5 s2 Hs2 => ?_)
    refine PR.ite (fun _ => ?_) (fun _ => ?_)
    · refine PR.bd (PR.call Hs2 (fr_f_X3_skipBlock s2) (by decide +kernel)) (fun r11 s8 Hs8 => ?_)
      exact PR.tail Hs8 (fr_j_X3_cut_177 p1 rec hrec x2 r11 s8)
    · exact PR.tail Hs2 (fr_j_X3_cut_111 p1 rec hrec x2 x3 x4 s2)
  · exact PR.tail Hs (fr_j_X3_cut_111 p1 rec hrec x2 x3 x4 s)
theorem fr_l_X3_cut_15 (p1 : Nat) : ∀ (n : Nat) (s : vS), PR (W_l_X3_cut_15) s (Sum.elim (fun q => q) (fun q => q.2)) (l_X3_cut_15 p1 n s)
  := by
  intro n
  induction n with
  | zero => intro s; exact PR.none
  | succ n ih =>
    intro s
    unfold l_X3_cut_15
    have Hs : Fr (W_l_X3_cut_15) s s := Fr.rfl
    refine PR.gd ?_
    refine PR.bd (PR.pure Hs (fr_f_X2_size (gR s 5 2) s)) (fun r5 s2 Hs2 => ?_)
    refine PR.ite (fun _ => ?_) (fun _ => ?_)
    · exact PR.some Hs2
    · refine PR.vl (fun y8 => ?_)
      refine PR.bd (PR.pure Hs2 (fr_f_X3_here 0 s2)) (fun r14 s11 Hs11 => ?_)
      refine PR.bd (PR.pure Hs11 (fr_f_X3_isWhite r14 s11)) (fun r19 s16 Hs16 => ?_)
      refine PR.ite (fun _ => ?_) (fun _ => ?_)
      · refine PR.ite (fun _ => ?_) (fun _ => ?_)
        · refine PR.bd (PR.pure Hs16 (fr_f_X3_here 1 s16)) (fun r26 s23 Hs23 => ?_)
          refine PR.ite (fun _ => ?_) (fun _ => ?_)
          · refine PR.bdv (PR.call Hs23 (fr_f_X3_skipLine s23) (by decide +kernel)) (fun s29 Hs29 => ?_)
            exact PR.tail Hs29 (fr_j_X3_cut_177 p1 (l_X3_cut_15 p1 n) ih y8 1 s29)
          · exact PR.tail Hs23 (fr_j_X3_cut_86 p1 (l_X3_cut_15 p1 n) ih y8 r14 1 s23)
        · exact PR.tail Hs16 (fr_j_X3_cut_86 p1 (l_X3_cut_15 p1 n) ih y8 r14 1 s16)
      · refine PR.stp (Fr.wI Hs16 (by decide +kernel)) (fun s32 Hs32 => ?_)
        exact PR.tail Hs32 (fr_j_X3_cut_177 p1 (l_X3_cut_15 p1 n) ih y8 1 s32)
def W_f_X3_cut : List Nat := [5002, 5003, 5007, 7998, 7999, 8998, 8999, 9998, 9999]
theorem fr_f_X3_cut (p1 : Nat) (s : vS) : PR (W_f_X3_cut) s (fun q => q.2) (f_X3_cut p1 s) := by
  unfold f_X3_cut
  have Hs : Fr (W_f_X3_cut) s s := Fr.rfl
  refine PR.stp (Fr.wR Hs (by decide +kernel)) (fun s1 Hs1 => ?_)
  refine PR.stp (Fr.wI Hs1 (by decide +kernel)) (fun s3 Hs3 => ?_)
  refine PR.stp (Fr.wI Hs3 (by decide +kernel)) (fun s5 Hs5 => ?_)
  refine PR.lqs_0 (PR.call Hs5 (fr_l_X3_cut_15 p1 FU s5) (by decide +kernel)) (fun s7 Hs7 => ?_) (fun q Hq => PR.some Hq)
  exact PR.some Hs7
def W_f_X4_clear : List Nat := [10001, 10002, 10003, 10004, 10005]
theorem fr_f_X4_clear (s : vS) : PR (W_f_X4_clear) s (fun q => q) (f_X4_clear s) := by
  unfold f_X4_clear
  have Hs : Fr (W_f_X4_clear) s s := Fr.rfl
  refine PR.stp (Fr.wI Hs (by decide +kernel)) (fun s1 Hs1 => ?_)
  refine PR.stp (Fr.wI Hs1 (by decide +kernel)) (fun s3 Hs3 => ?_)
  refine PR.stp (Fr.wI Hs3 (by decide +kernel)) (fun s5 Hs5 => ?_)
  refine PR.stp (Fr.wI Hs5 (by decide +kernel)) (fun s7 Hs7 => ?_)
  refine PR.stp (Fr.wI Hs7 (by decide +kernel)) (fun s9 Hs9 => ?_)
  exact PR.some Hs9
def W_f_X3_kind : List Nat := []
theorem fr_f_X3_kind (x1 : Int) (s : vS) : PR (W_f_X3_kind) s (fun q => q.2) (f_X3_kind x1 s) := by
  unfold f_X3_kind
  have Hs : Fr (W_f_X3_kind) s s := Fr.rfl
  refine PR.ite (fun _ => ?_) (fun _ => ?_)
  · exact PR.some Hs
  · refine PR.gd ?_
    exact PR.some Hs
def W_f_X5_is : List Nat := []
theorem fr_f_X5_is (x1 : Int) (s : vS) : PR (W_f_X5_is) s (fun q => q.2) (f_X5_is x1 s) := by
  unfold f_X5_is
  have Hs : Fr (W_f_X5_is) s s := Fr.rfl
  refine PR.gd ?_
  refine PR.bd (PR.pure Hs (fr_f_X3_kind (gI s 12 2) s)) (fun r5 s2 Hs2 => ?_)
  refine PR.ite (fun _ => ?_) (fun _ => ?_)
  · exact PR.some Hs2
  · exact PR.some Hs2
def W_f_X5_kind : List Nat := []
theorem fr_f_X5_kind (s : vS) : PR (W_f_X5_kind) s (fun q => q.2) (f_X5_kind s) := by
  unfold f_X5_kind
  have Hs : Fr (W_f_X5_kind) s s := Fr.rfl
  refine PR.gd ?_
  refine PR.bd (PR.pure Hs (fr_f_X3_kind (gI s 12 2) s)) (fun r5 s2 Hs2 => ?_)
  exact PR.some Hs2
def W_f_X5_isUnsupported : List Nat := []
theorem fr_f_X5_isUnsupported (x0 : Int) (s : vS) : PR (W_f_X5_isUnsupported) s (fun q => q.2) (f_X5_isUnsupported x0 s) := by
  unfold f_X5_isUnsupported
  have Hs : Fr (W_f_X5_isUnsupported) s s := Fr.rfl
  refine PR.ite (fun _ => ?_) (fun _ => ?_)
  · exact PR.some Hs
  · refine PR.ite (fun _ => ?_) (fun _ => ?_)
    · exact PR.some Hs
    · refine PR.ite (fun _ => ?_) (fun _ => ?_)
      · exact PR.some Hs
      · refine PR.ite (fun _ => ?_) (fun _ => ?_)
        · exact PR.some Hs
        · refine PR.ite (fun _ => ?_) (fun _ => ?_)
          · exact PR.some Hs
          · refine PR.ite (fun _ => ?_) (fun _ => ?_)
            · exact PR.some Hs
            · refine PR.ite (fun _ => ?_) (fun _ => ?_)
              · exact PR.some Hs
              · refine PR.ite (fun _ => ?_) (fun _ => ?_)
                · exact PR.some Hs
                · refine PR.ite (fun _ => ?_) (fun _ => ?_)
                  · exact PR.some Hs
                  · refine PR.ite (fun _ => ?_) (fun _ => ?_)
                    · exact PR.some Hs
                    · refine PR.ite (fun _ => ?_) (fun _ => ?_)
                      · exact PR.some Hs
                      · refine PR.ite (fun _ => ?_) (fun _ => ?_)
                        · exact PR.some Hs
                        · refine PR.ite (fun _ => ?_) (fun _ => ?_)
                          · exact PR.some Hs
                          · refine PR.ite (fun _ => ?_) (fun _ => ?_)
                            · exact PR.some Hs
                            · refine PR.ite (fun _ => ?_) (fun _ => ?_)
                              · exact PR.some Hs
                              · refine PR.ite (fun _ => ?_) (fun _ => ?_)
                                · exact PR.some Hs
                                · refine PR.ite (fun _ => ?_) (fun _ => ?_)
                                  · exact PR.some Hs
                                  · refine PR.ite (fun _ => ?_) (fun _ => ?_)
                                    · exact PR.some Hs
                                    · refine PR.ite (fun _ => ?_) (fun _ => ?_)
                                      · exact PR.some Hs
                                      · refine PR.ite (fun _ => ?_) (fun _ => ?_)
                                        · exact PR.some Hs
                                        · refine PR.ite (fun _ => ?_) (fun _ => ?_)
                                          · exact PR.some Hs
                                          · refine PR.ite (fun _ => ?_) (fun _ => ?_)
                                            · exact PR.some Hs
                                            · refine PR.ite (fun _ => ?_) (fun _ => ?_)
                                              · exact PR.some Hs
                                              · refine PR.ite (fun _ => ?_) (fun _ => ?_)
                                                · exact PR.some Hs
                                                · refine PR.ite (fun _ => ?_) (fun _ => ?_)
                                                  · exact PR.some Hs
                                                  · refine PR.ite (fun _ => ?_) (fun _ => ?_)
                                                    · exact PR.some Hs
                                                    · refine PR.ite (fun _ => ?_) (fun _ => ?_)
                                                      · exact PR.some Hs
                                                      · refine PR.ite (fun _ => ?_) (fun _ => ?_)
                                                        · exact PR.some Hs
                                                        · refine PR.ite (fun _ => ?_) (fun _ => ?_)
                                                          · exact PR.some Hs
                                                          · refine PR.ite (fun _ => ?_) (fun _ => ?_)
                                                            · exact PR.some Hs
                                                            · refine PR.ite (fun _ => ?_) (fun _ => ?_)
                                                              · exact PR.some Hs
                                                              · refine PR.ite (fun _ => ?_) (fun _ => ?_)
                                                                · exact PR.some Hs
                                                                · refine PR.ite (fun _ => ?_) (fun _ => ?_)
                                                                  · exact PR.some Hs
                                                                  · refine PR.ite (fun _ => ?_) (fun _ => ?_)
                                                                    · exact PR.some Hs
                                                                    · exact PR.some Hs
def W_f_X3_start : List Nat := []
theorem fr_f_X3_start (x1 : Int) (s : vS) : PR (W_f_X3_start) s (fun q => q.2) (f_X3_start x1 s) := by
  unfold f_X3_start
  have Hs : Fr (W_f_X3_start) s s := Fr.rfl
  refine PR.ite (fun _ => ?_) (fun _ => ?_)
  · refine PR.gd ?_
    refine PR.bd (PR.pure Hs (fr_f_X2_size (gR s 5 2) s)) (fun r6 s3 Hs3 => ?_)
    exact PR.some Hs3
  · refine PR.gd ?_
    exact PR.some Hs
def W_f_X5_wrong : List Nat := [12003, 12004]
theorem fr_f_X5_wrong (x1 : Int) (x2 : Int) (s : vS) : PR (W_f_X5_wrong) s (fun q => q.2) (f_X5_wrong x1 x2 s) := by
  unfold f_X5_wrong
  have Hs : Fr (W_f_X5_wrong) s s := Fr.rfl
  refine PR.ite (fun _ => ?_) (fun _ => ?_)
  · refine PR.stp (Fr.wI Hs (by decide +kernel)) (fun s2 Hs2 => ?_)
    refine PR.gd ?_
    refine PR.bd (PR.pure Hs2 (fr_f_X3_start x2 s2)) (fun r8 s5 Hs5 => ?_)
    refine PR.stp (Fr.wI Hs5 (by decide +kernel)) (fun s10 Hs10 => ?_)
    exact PR.some Hs10
  · exact PR.some Hs
def W_j_X5_unfit_16 : List Nat := [12003, 12004]
theorem fr_j_X5_unfit_16 (z1 : Int) (s : vS) : PR (W_j_X5_unfit_16) s (fun q => q.2) (j_X5_unfit_16 z1 s) := by
  unfold j_X5_unfit_16
  have Hs : Fr (W_j_X5_unfit_16) s s := Fr.rfl
  refine PR.bd (PR.call Hs (fr_f_X5_wrong z1 (gI s 12 2) s) (by decide +kernel)) (fun r4 s1 Hs1 => ?_)
  refine PR.gd ?_
  exact PR.some Hs1
def W_f_X5_unfit : List Nat := [12003, 12004]
theorem fr_f_X5_unfit (s : vS) : PR (W_f_X5_unfit) s (fun q => q.2) (f_X5_unfit s) := by
  unfold f_X5_unfit
  have Hs : Fr (W_f_X5_unfit) s s := Fr.rfl
  refine PR.bd (PR.pure Hs (fr_f_X5_kind s)) (fun r4 s1 Hs1 => ?_)
  refine PR.bd (PR.pure Hs1 (fr_f_X5_isUnsupported r4 s1)) (fun r9 s6 Hs6 => ?_)
  refine PR.ite (fun _ => ?_) (fun _ => ?_)
  · exact PR.call Hs6 (fr_j_X5_unfit_16 2 s6) (by decide +kernel)
  · exact PR.call Hs6 (fr_j_X5_unfit_16 3 s6) (by decide +kernel)
def W_j_X5_take_15 : List Nat := [12003, 12004]
theorem fr_j_X5_take_15 (s : vS) : PR (W_j_X5_take_15) s (fun q => q.2) (j_X5_take_15 s) := by
  unfold j_X5_take_15
  have Hs : Fr (W_j_X5_take_15) s s := Fr.rfl
  refine PR.bd (PR.call Hs (fr_f_X5_unfit s) (by decide +kernel)) (fun r4 s1 Hs1 => ?_)
  refine PR.gd ?_
  exact PR.some Hs1
def W_f_X5_take : List Nat := [12002, 12003, 12004]
theorem fr_f_X5_take (x1 : Int) (s : vS) : PR (W_f_X5_take) s (fun q => q.2) (f_X5_take x1 s) := by
  unfold f_X5_take
  have Hs : Fr (W_f_X5_take) s s := Fr.rfl
  refine PR.ite (fun _ => ?_) (fun _ => ?_)
  · refine PR.bd (PR.pure Hs (fr_f_X5_is x1 s)) (fun r5 s2 Hs2 => ?_)
    refine PR.ite (fun _ => ?_) (fun _ => ?_)
    · exact PR.call Hs2 (fr_j_X5_take_15 s2) (by decide +kernel)
    · refine PR.stp (Fr.wI Hs2 (by decide +kernel)) (fun s8 Hs8 => ?_)
      exact PR.some Hs8
  · exact PR.call Hs (fr_j_X5_take_15 s) (by decide +kernel)
def W_j_X5_may_20 : List Nat := [12002]
theorem fr_j_X5_may_20 (z0 : Int) (s : vS) : PR (W_j_X5_may_20) s (fun q => q.2) (j_X5_may_20 z0 s) := by
  unfold j_X5_may_20
  have Hs : Fr (W_j_X5_may_20) s s := Fr.rfl
  refine PR.ite (fun _ => ?_) (fun _ => ?_)
  · refine PR.gd ?_
    exact PR.some Hs
  · refine PR.stp (Fr.wI Hs (by decide +kernel)) (fun s3 Hs3 => ?_)
    refine PR.gd ?_
    exact PR.some Hs3
def W_f_X5_may : List Nat := [12002]
theorem fr_f_X5_may (x1 : Int) (s : vS) : PR (W_f_X5_may) s (fun q => q.2) (f_X5_may x1 s) := by
  unfold f_X5_may
  have Hs : Fr (W_f_X5_may) s s := Fr.rfl
  refine PR.ite (fun _ => ?_) (fun _ => ?_)
  · refine PR.bd (PR.pure Hs (fr_f_X5_is x1 s)) (fun r5 s2 Hs2 => ?_)
    refine PR.ite (fun _ => ?_) (fun _ => ?_)
    · exact PR.call Hs2 (fr_j_X5_may_20 0 s2) (by decide +kernel)
    · exact PR.call Hs2 (fr_j_X5_may_20 1 s2) (by decide +kernel)
  · exact PR.call Hs (fr_j_X5_may_20 0 s) (by decide +kernel)
def W_j_X5_heading_135 : List Nat := [12002, 12003, 12004]
theorem fr_j_X5_heading_135 (s : vS) : PR (W_j_X5_heading_135) s (fun q => q.2) (j_X5_heading_135 s) := by
  unfold j_X5_heading_135
  have Hs : Fr (W_j_X5_heading_135) s s := Fr.rfl
  refine PR.bd (PR.call Hs (fr_f_X5_take 10 s) (by decide +kernel)) (fun r4 s1 Hs1 => ?_)
  refine PR.ite (fun _ => ?_) (fun _ => ?_)
  · exact PR.some Hs1
  · refine PR.bd (PR.call Hs1 (fr_f_X5_take 105 s1) (by decide +kernel)) (fun r10 s7 Hs7 => ?_)
    refine PR.ite (fun _ => ?_) (fun _ => ?_)
    · exact PR.some Hs7
    · exact PR.some Hs7
def W_j_X5_heading_99 : List Nat := [10005, 12002, 12003, 12004]
theorem fr_j_X5_heading_99 (s : vS) : PR (W_j_X5_heading_99) s (fun q => q.2) (j_X5_heading_99 s) := by
  unfold j_X5_heading_99
  have Hs : Fr (W_j_X5_heading_99) s s := Fr.rfl
  refine PR.bd (PR.pure Hs (fr_f_X5_is 134 s)) (fun r4 s1 Hs1 => ?_)
  refine PR.gd ?_
  refine PR.stp (Fr.wI Hs1 (by decide +kernel)) (fun s7 Hs7 => ?_)
  refine PR.stp (Fr.wI Hs7 (by decide +kernel)) (fun s9 Hs9 => ?_)
  refine PR.bd (PR.call Hs9 (fr_f_X5_take 165 s9) (by decide +kernel)) (fun r14 s11 Hs11 => ?_)
  refine PR.ite (fun _ => ?_) (fun _ => ?_)
  · exact PR.some Hs11
  · exact PR.call Hs11 (fr_j_X5_heading_135 s11) (by decide +kernel)
def W_j_X5_heading_69 : List Nat := [10005, 12002, 12003, 12004]
theorem fr_j_X5_heading_69 (s : vS) : PR (W_j_X5_heading_69) s (fun q => q.2) (j_X5_heading_69 s) := by
  unfold j_X5_heading_69
  have Hs : Fr (W_j_X5_heading_69) s s := Fr.rfl
  refine PR.bd (PR.call Hs (fr_f_X5_take 118 s) (by decide +kernel)) (fun r4 s1 Hs1 => ?_)
  refine PR.ite (fun _ => ?_) (fun _ => ?_)
  · exact PR.some Hs1
  · refine PR.bd (PR.pure Hs1 (fr_f_X5_is 123 s1)) (fun r10 s7 Hs7 => ?_)
    refine PR.ite (fun _ => ?_) (fun _ => ?_)
    · refine PR.bd (PR.pure Hs7 (fr_f_X5_is 134 s7)) (fun r16 s13 Hs13 => ?_)
      refine PR.ite (fun _ => ?_) (fun _ => ?_)
      · exact PR.call Hs13 (fr_j_X5_heading_135 s13) (by decide +kernel)
      · exact PR.call Hs13 (fr_j_X5_heading_99 s13) (by decide +kernel)
    · exact PR.call Hs7 (fr_j_X5_heading_99 s7) (by decide +kernel)
def W_l_X5_heading_19 : List Nat := [12002]
theorem fr_l_X5_heading_19 : ∀ (n : Nat) (s : vS), PR (W_l_X5_heading_19) s (fun q => q) (l_X5_heading_19 n s)
  := by
  intro n
  induction n with
  | zero => intro s; exact PR.none
  | succ n ih =>
    intro s
    unfold l_X5_heading_19
    have Hs : Fr (W_l_X5_heading_19) s s := Fr.rfl
    refine PR.bd (PR.pure Hs (fr_f_X5_kind s)) (fun r4 s1 Hs1 => ?_)
    refine PR.ite (fun _ => ?_) (fun _ => ?_)
    · exact PR.some Hs1
    · refine PR.bd (PR.pure Hs1 (fr_f_X5_is 15 s1)) (fun r10 s7 Hs7 => ?_)
      refine PR.ite (fun _ => ?_) (fun _ => ?_)
      · refine PR.bd (PR.pure Hs7 (fr_f_X5_is 16 s7)) (fun r16 s13 Hs13 => ?_)
        refine PR.ite (fun _ => ?_) (fun _ => ?_)
        · refine PR.stp (Fr.wI Hs13 (by decide +kernel)) (fun s19 Hs19 => ?_)
          exact PR.tail Hs19 (ih s19)
        · exact PR.some Hs13
      · exact PR.some Hs7
def W_j_X5_heading_58 : List Nat := [10005, 12002, 12003, 12004]
theorem fr_j_X5_heading_58 (s : vS) : PR (W_j_X5_heading_58) s (fun q => q.2) (j_X5_heading_58 s) := by
  unfold j_X5_heading_58
  have Hs : Fr (W_j_X5_heading_58) s s := Fr.rfl
  refine PR.bd (PR.call Hs (fr_f_X5_take 16 s) (by decide +kernel)) (fun r4 s1 Hs1 => ?_)
  refine PR.ite (fun _ => ?_) (fun _ => ?_)
  · exact PR.some Hs1
  · exact PR.call Hs1 (fr_j_X5_heading_69 s1) (by decide +kernel)
def W_f_X5_heading : List Nat := [10005, 12002, 12003, 12004]
theorem fr_f_X5_heading (s : vS) : PR (W_f_X5_heading) s (fun q => q.2) (f_X5_heading s) := by
  unfold f_X5_heading
  have Hs : Fr (W_f_X5_heading) s s := Fr.rfl
  refine PR.bd (PR.call Hs (fr_f_X5_take 1 s) (by decide +kernel)) (fun r4 s1 Hs1 => ?_)
  refine PR.ite (fun _ => ?_) (fun _ => ?_)
  · exact PR.some Hs1
  · refine PR.bd (PR.call Hs1 (fr_f_X5_may 15 s1) (by decide +kernel)) (fun r10 s7 Hs7 => ?_)
    refine PR.ite (fun _ => ?_) (fun _ => ?_)
    · exact PR.call Hs7 (fr_j_X5_heading_69 s7) (by decide +kernel)
    · refine PR.lq_0 (PR.call Hs7 (fr_l_X5_heading_19 FU s7) (by decide +kernel)) (fun s13 Hs13 => ?_)
      exact PR.call Hs13 (fr_j_X5_heading_58 s13) (by decide +kernel)
def W_f_X4_set : List Nat := [11999]
theorem fr_f_X4_set (x1 : Int) (x2 : Int) (x3 : Int) (s : vS) : PR (W_f_X4_set) s (fun q => q) (f_X4_set x1 x2 x3 s) := by
  unfold f_X4_set
  have Hs : Fr (W_f_X4_set) s s := Fr.rfl
  refine PR.gd ?_
  refine PR.stp (Fr.wE Hs (by decide +kernel)) (fun s2 Hs2 => ?_)
  exact PR.some Hs2
def W_j_X4_add_45 : List Nat := [10001, 11999]
theorem fr_j_X4_add_45 (x1 : Int) (x2 : Int) (s : vS) : PR (W_j_X4_add_45) s (fun q => q.2) (j_X4_add_45 x1 x2 s) := by
  unfold j_X4_add_45
  have Hs : Fr (W_j_X4_add_45) s s := Fr.rfl
  refine PR.bdv (PR.call Hs (fr_f_X4_set (gI s 10 1) 0 x1 s) (by decide +kernel)) (fun s1 Hs1 => ?_)
  refine PR.bdv (PR.call Hs1 (fr_f_X4_set (gI s1 10 1) 1 x2 s1) (by decide +kernel)) (fun s4 Hs4 => ?_)
  refine PR.bdv (PR.call Hs4 (fr_f_X4_set (gI s4 10 1) 2 (-1) s4) (by decide +kernel)) (fun s7 Hs7 => ?_)
  refine PR.bdv (PR.call Hs7 (fr_f_X4_set (gI s7 10 1) 3 (-1) s7) (by decide +kernel)) (fun s10 Hs10 => ?_)
  refine PR.bdv (PR.call Hs10 (fr_f_X4_set (gI s10 10 1) 4 (-1) s10) (by decide +kernel)) (fun s13 Hs13 => ?_)
  refine PR.bdv (PR.call Hs13 (fr_f_X4_set (gI s13 10 1) 5 (-1) s13) (by decide +kernel)) (fun s16 Hs16 => ?_)
  refine PR.bdv (PR.call Hs16 (fr_f_X4_set (gI s16 10 1) 6 0 s16) (by decide +kernel)) (fun s19 Hs19 => ?_)
  refine PR.bdv (PR.call Hs19 (fr_f_X4_set (gI s19 10 1) 7 0 s19) (by decide +kernel)) (fun s22 Hs22 => ?_)
  refine PR.bdv (PR.call Hs22 (fr_f_X4_set (gI s22 10 1) 8 (-1) s22) (by decide +kernel)) (fun s25 Hs25 => ?_)
  refine PR.stp (Fr.wI Hs25 (by decide +kernel)) (fun s28 Hs28 => ?_)
  exact PR.some Hs28
def W_f_X4_add : List Nat := [10001, 11998, 11999]
theorem fr_f_X4_add (x1 : Int) (x2 : Int) (s : vS) : PR (W_f_X4_add) s (fun q => q.2) (f_X4_add x1 x2 s) := by
  unfold f_X4_add
  have Hs : Fr (W_f_X4_add) s s := Fr.rfl
  refine PR.ite (fun _ => ?_) (fun _ => ?_)
  · refine PR.gd ?_
    refine PR.stp (Fr.wAT Hs (by decide)) (fun s3 Hs3 => ?_)
    refine PR.gd ?_
    refine PR.stp (Fr.wcpT Hs3 (by decide)) (fun s6 Hs6 => ?_)
    refine PR.gd ?_
    refine PR.stp (Fr.wswT Hs6 (by decide) (by decide +kernel) (by decide +kernel)) (fun s9 Hs9 => ?_)
    refine PR.stp (Fr.wrs Hs9) (fun s11 Hs11 => ?_)
    exact PR.call Hs11 (fr_j_X4_add_45 x1 x2 s11) (by decide +kernel)
  · exact PR.call Hs (fr_j_X4_add_45 x1 x2 s) (by decide +kernel)
def W_f_X3_end : List Nat := []
theorem fr_f_X3_end (x1 : Int) (s : vS) : PR (W_f_X3_end) s (fun q => q.2) (f_X3_end x1 s) := by
  unfold f_X3_end
  have Hs : Fr (W_f_X3_end) s s := Fr.rfl
  refine PR.gd ?_
  exact PR.some Hs
def W_f_X3_text : List Nat := []
theorem fr_f_X3_text (s : vS) : PR (W_f_X3_text) s (fun q => q.2) (f_X3_text s) := by
  unfold f_X3_text
  have Hs : Fr (W_f_X3_text) s s := Fr.rfl
  refine PR.gd ?_
  exact PR.some Hs
def W_l_X5_small_12 : List Nat := []
theorem fr_l_X5_small_12 : ∀ (n : Nat) (x1 : Int) (x2 : Int) (x4 : Int) (s : vS), PR (W_l_X5_small_12) s (fun q => q.2) (l_X5_small_12 n x1 x2 x4 s)
  := by
  intro n
  induction n with
  | zero => intro x1 x2 x4 s; exact PR.none
  | succ n ih =>
    intro x1 x2 x4 s
    unfold l_X5_small_12
    have Hs : Fr (W_l_X5_small_12) s s := Fr.rfl
    refine PR.gd ?_
    refine PR.bd (PR.pure Hs (fr_f_X3_end x1 s)) (fun r5 s2 Hs2 => ?_)
    refine PR.ite (fun _ => ?_) (fun _ => ?_)
    · exact PR.some Hs2
    · refine PR.ite (fun _ => ?_) (fun _ => ?_)
      · exact PR.some Hs2
      · refine PR.gd ?_
        refine PR.bdo (PR.pure Hs2 (fr_f_X3_text s2)) (fun r13 s10 Hs10 => ?_)
        refine PR.gd ?_
        refine PR.bd (PR.pure Hs10 (fr_f_X2_at r13 x4 s10)) (fun r18 s15 Hs15 => ?_)
        refine PR.vl (fun y20 => ?_)
        refine PR.vl (fun y23 => ?_)
        exact PR.tail Hs15 (ih x1 y20 y23 s15)
def W_f_X5_small : List Nat := []
theorem fr_f_X5_small (x1 : Int) (s : vS) : PR (W_f_X5_small) s (fun q => q.2) (f_X5_small x1 s) := by
  unfold f_X5_small
  have Hs : Fr (W_f_X5_small) s s := Fr.rfl
  refine PR.gd ?_
  refine PR.bd (PR.pure Hs (fr_f_X3_start x1 s)) (fun r5 s2 Hs2 => ?_)
  refine PR.lq_1 (PR.pure Hs2 (fr_l_X5_small_12 FU x1 0 r5 s2)) (fun y7 s8 Hs8 => ?_)
  exact PR.some Hs8
def W_j_X5_tag_114 : List Nat := [12003, 12004]
theorem fr_j_X5_tag_114 (x1 : Int) (s : vS) : PR (W_j_X5_tag_114) s (fun q => q.2) (j_X5_tag_114 x1 s) := by
  unfold j_X5_tag_114
  have Hs : Fr (W_j_X5_tag_114) s s := Fr.rfl
  refine PR.bd (PR.call Hs (fr_f_X5_unfit s) (by decide +kernel)) (fun r4 s1 Hs1 => ?_)
  exact PR.some Hs1
def W_j_X5_tag_97 : List Nat := [11999, 12002, 12003, 12004]
theorem fr_j_X5_tag_97 (x1 : Int) (z0 : Int) (s : vS) : PR (W_j_X5_tag_97) s (fun q => q.2) (j_X5_tag_97 x1 z0 s) := by
  unfold j_X5_tag_97
  have Hs : Fr (W_j_X5_tag_97) s s := Fr.rfl
  refine PR.bd (PR.pure Hs (fr_f_X5_is 2 s)) (fun r4 s1 Hs1 => ?_)
  refine PR.ite (fun _ => ?_) (fun _ => ?_)
  · exact PR.call Hs1 (fr_j_X5_tag_114 x1 s1) (by decide +kernel)
  · refine PR.ite (fun _ => ?_) (fun _ => ?_)
    · refine PR.bdv (PR.call Hs1 (fr_f_X4_set x1 6 (w32 z0) s1) (by decide +kernel)) (fun s8 Hs8 => ?_)
      refine PR.stp (Fr.wI Hs8 (by decide +kernel)) (fun s11 Hs11 => ?_)
      refine PR.bd (PR.call Hs11 (fr_f_X5_take 18 s11) (by decide +kernel)) (fun r16 s13 Hs13 => ?_)
      refine PR.bd (PR.call Hs13 (fr_f_X5_may 134 s13) (by decide +kernel)) (fun r21 s18 Hs18 => ?_)
      refine PR.ite (fun _ => ?_) (fun _ => ?_)
      · refine PR.bd (PR.call Hs18 (fr_f_X5_may 123 s18) (by decide +kernel)) (fun r27 s24 Hs24 => ?_)
        refine PR.ite (fun _ => ?_) (fun _ => ?_)
        · exact PR.some Hs24
        · refine PR.bdv (PR.call Hs24 (fr_f_X4_set x1 7 2 s24) (by decide +kernel)) (fun s30 Hs30 => ?_)
          exact PR.some Hs30
      · refine PR.bdv (PR.call Hs18 (fr_f_X4_set x1 7 1 s18) (by decide +kernel)) (fun s33 Hs33 => ?_)
        exact PR.some Hs33
    · exact PR.call Hs1 (fr_j_X5_tag_114 x1 s1) (by decide +kernel)
def W_j_X5_tag_67 : List Nat := [11999, 12002, 12003, 12004]
theorem fr_j_X5_tag_67 (x1 : Int) (x2 : Int) (s : vS) : PR (W_j_X5_tag_67) s (fun q => q.2) (j_X5_tag_67 x1 x2 s) := by
  unfold j_X5_tag_67
  have Hs : Fr (W_j_X5_tag_67) s s := Fr.rfl
  refine PR.bdv (PR.call Hs (fr_f_X4_set x1 5 x2 s) (by decide +kernel)) (fun s1 Hs1 => ?_)
  refine PR.bd (PR.pure Hs1 (fr_f_X5_is 2 s1)) (fun r7 s4 Hs4 => ?_)
  refine PR.ite (fun _ => ?_) (fun _ => ?_)
  · exact PR.call Hs4 (fr_j_X5_tag_97 x1 0 s4) (by decide +kernel)
  · refine PR.bd (PR.pure Hs4 (fr_f_X5_small (gI s4 12 2) s4)) (fun r13 s10 Hs10 => ?_)
    exact PR.call Hs10 (fr_j_X5_tag_97 x1 r13 s10) (by decide +kernel)
def W_f_X5_tag : List Nat := [10001, 11998, 11999, 12002, 12003, 12004]
theorem fr_f_X5_tag (s : vS) : PR (W_f_X5_tag) s (fun q => q.2) (f_X5_tag s) := by
  unfold f_X5_tag
  have Hs : Fr (W_f_X5_tag) s s := Fr.rfl
  refine PR.bd (PR.call Hs (fr_f_X4_add 20 (gI s 12 2) s) (by decide +kernel)) (fun r4 s1 Hs1 => ?_)
  refine PR.stp (Fr.wI Hs1 (by decide +kernel)) (fun s6 Hs6 => ?_)
  refine PR.bd (PR.call Hs6 (fr_f_X5_may 170 s6) (by decide +kernel)) (fun r11 s8 Hs8 => ?_)
  refine PR.ite (fun _ => ?_) (fun _ => ?_)
  · refine PR.bd (PR.call Hs8 (fr_f_X5_may 103 s8) (by decide +kernel)) (fun r17 s14 Hs14 => ?_)
    refine PR.ite (fun _ => ?_) (fun _ => ?_)
    · refine PR.bd (PR.call Hs14 (fr_f_X5_may 155 s14) (by decide +kernel)) (fun r23 s20 Hs20 => ?_)
      refine PR.ite (fun _ => ?_) (fun _ => ?_)
      · exact PR.call Hs20 (fr_j_X5_tag_67 r4 2 s20) (by decide +kernel)
      · exact PR.call Hs20 (fr_j_X5_tag_67 r4 3 s20) (by decide +kernel)
    · exact PR.call Hs14 (fr_j_X5_tag_67 r4 1 s14) (by decide +kernel)
  · exact PR.call Hs8 (fr_j_X5_tag_67 r4 0 s8) (by decide +kernel)
def W_f_X4_chain : List Nat := [11999]
theorem fr_f_X4_chain (x1 : Int) (x2 : Int) (x3 : Int) (x4 : Int) (s : vS) : PR (W_f_X4_chain) s (fun q => q.2) (f_X4_chain x1 x2 x3 x4 s) := by
  unfold f_X4_chain
  have Hs : Fr (W_f_X4_chain) s s := Fr.rfl
  refine PR.ite (fun _ => ?_) (fun _ => ?_)
  · refine PR.bdv (PR.call Hs (fr_f_X4_set x1 x2 x4 s) (by decide +kernel)) (fun s5 Hs5 => ?_)
    exact PR.some Hs5
  · refine PR.bdv (PR.call Hs (fr_f_X4_set x3 8 x4 s) (by decide +kernel)) (fun s2 Hs2 => ?_)
    exact PR.some Hs2
def W_j_X5_item_107 : List Nat := [11999, 12002, 12003, 12004]
theorem fr_j_X5_item_107 (x2 : Int) (s : vS) : PR (W_j_X5_item_107) s (fun q => q.2) (j_X5_item_107 x2 s) := by
  unfold j_X5_item_107
  have Hs : Fr (W_j_X5_item_107) s s := Fr.rfl
  refine PR.bdv (PR.call Hs (fr_f_X4_set x2 5 (gI s 12 2) s) (by decide +kernel)) (fun s1 Hs1 => ?_)
  refine PR.bd (PR.call Hs1 (fr_f_X5_take 2 s1) (by decide +kernel)) (fun r7 s4 Hs4 => ?_)
  refine PR.ite (fun _ => ?_) (fun _ => ?_)
  · exact PR.some Hs4
  · refine PR.bd (PR.call Hs4 (fr_f_X5_take 20 s4) (by decide +kernel)) (fun r13 s10 Hs10 => ?_)
    exact PR.some Hs10
def W_j_X5_item_74 : List Nat := [11999, 12002, 12003, 12004]
theorem fr_j_X5_item_74 (x1 : Int) (x2 : Int) (s : vS) : PR (W_j_X5_item_74) s (fun q => q.2) (j_X5_item_74 x1 x2 s) := by
  unfold j_X5_item_74
  have Hs : Fr (W_j_X5_item_74) s s := Fr.rfl
  refine PR.bd (PR.pure Hs (fr_f_X5_is 2 s)) (fun r4 s1 Hs1 => ?_)
  refine PR.ite (fun _ => ?_) (fun _ => ?_)
  · exact PR.call Hs1 (fr_j_X5_item_107 x2 s1) (by decide +kernel)
  · refine PR.ite (fun _ => ?_) (fun _ => ?_)
    · refine PR.bd (PR.pure Hs1 (fr_f_X5_small (gI s1 12 2) s1)) (fun r11 s8 Hs8 => ?_)
      refine PR.ite (fun _ => ?_) (fun _ => ?_)
      · exact PR.call Hs8 (fr_j_X5_item_107 x2 s8) (by decide +kernel)
      · refine PR.bd (PR.call Hs8 (fr_f_X5_unfit s8) (by decide +kernel)) (fun r17 s14 Hs14 => ?_)
        exact PR.call Hs14 (fr_j_X5_item_107 x2 s14) (by decide +kernel)
    · exact PR.call Hs1 (fr_j_X5_item_107 x2 s1) (by decide +kernel)
def W_j_X5_item_38 : List Nat := [11999, 12002, 12003, 12004]
theorem fr_j_X5_item_38 (x1 : Int) (x2 : Int) (s : vS) : PR (W_j_X5_item_38) s (fun q => q.2) (j_X5_item_38 x1 x2 s) := by
  unfold j_X5_item_38
  have Hs : Fr (W_j_X5_item_38) s s := Fr.rfl
  refine PR.bd (PR.call Hs (fr_f_X5_take 19 s) (by decide +kernel)) (fun r4 s1 Hs1 => ?_)
  refine PR.ite (fun _ => ?_) (fun _ => ?_)
  · exact PR.some Hs1
  · refine PR.ite (fun _ => ?_) (fun _ => ?_)
    · exact PR.call Hs1 (fr_j_X5_item_74 x1 x2 s1) (by decide +kernel)
    · refine PR.bd (PR.call Hs1 (fr_f_X5_may 25 s1) (by decide +kernel)) (fun r11 s8 Hs8 => ?_)
      refine PR.ite (fun _ => ?_) (fun _ => ?_)
      · exact PR.call Hs8 (fr_j_X5_item_74 x1 x2 s8) (by decide +kernel)
      · refine PR.bdv (PR.call Hs8 (fr_f_X4_set x2 6 1 s8) (by decide +kernel)) (fun s14 Hs14 => ?_)
        exact PR.call Hs14 (fr_j_X5_item_74 x1 x2 s14) (by decide +kernel)
def W_f_X5_item : List Nat := [10001, 11998, 11999, 12002, 12003, 12004]
theorem fr_f_X5_item (x1 : Int) (s : vS) : PR (W_f_X5_item) s (fun q => q.2) (f_X5_item x1 s) := by
  unfold f_X5_item
  have Hs : Fr (W_f_X5_item) s s := Fr.rfl
  refine PR.bd (PR.call Hs (fr_f_X4_add 21 (gI s 12 2) s) (by decide +kernel)) (fun r4 s1 Hs1 => ?_)
  refine PR.bd (PR.call Hs1 (fr_f_X5_take 0 s1) (by decide +kernel)) (fun r9 s6 Hs6 => ?_)
  refine PR.ite (fun _ => ?_) (fun _ => ?_)
  · exact PR.some Hs6
  · refine PR.ite (fun _ => ?_) (fun _ => ?_)
    · refine PR.bd (PR.pure Hs6 (fr_f_X5_is 19 s6)) (fun r16 s13 Hs13 => ?_)
      refine PR.ite (fun _ => ?_) (fun _ => ?_)
      · exact PR.some Hs13
      · exact PR.call Hs13 (fr_j_X5_item_38 x1 r4 s13) (by decide +kernel)
    · exact PR.call Hs6 (fr_j_X5_item_38 x1 r4 s6) (by decide +kernel)
def W_l_X5_items_2 : List Nat := [10001, 11998, 11999, 12002, 12003, 12004]
theorem fr_l_X5_items_2 : ∀ (n : Nat) (x1 : Int) (x2 : Int) (x3 : Int) (s : vS), PR (W_l_X5_items_2) s (fun q => q) (l_X5_items_2 n x1 x2 x3 s)
  := by
  intro n
  induction n with
  | zero => intro x1 x2 x3 s; exact PR.none
  | succ n ih =>
    intro x1 x2 x3 s
    unfold l_X5_items_2
    have Hs : Fr (W_l_X5_items_2) s s := Fr.rfl
    refine PR.bd (PR.call Hs (fr_f_X5_item x2 s) (by decide +kernel)) (fun r4 s1 Hs1 => ?_)
    refine PR.bd (PR.call Hs1 (fr_f_X4_chain x1 3 x3 r4 s1) (by decide +kernel)) (fun r9 s6 Hs6 => ?_)
    refine PR.bd (PR.call Hs6 (fr_f_X5_may 21 s6) (by decide +kernel)) (fun r14 s11 Hs11 => ?_)
    refine PR.ite (fun _ => ?_) (fun _ => ?_)
    · exact PR.some Hs11
    · exact PR.tail Hs11 (ih x1 x2 r9 s11)
def W_f_X5_items : List Nat := [10001, 11998, 11999, 12002, 12003, 12004]
theorem fr_f_X5_items (x1 : Int) (x2 : Int) (s : vS) : PR (W_f_X5_items) s (fun q => q) (f_X5_items x1 x2 s) := by
  unfold f_X5_items
  have Hs : Fr (W_f_X5_items) s s := Fr.rfl
  refine PR.lq_0 (PR.call Hs (fr_l_X5_items_2 FU x1 x2 (-1) s) (by decide +kernel)) (fun s1 Hs1 => ?_)
  refine PR.bd (PR.call Hs1 (fr_f_X5_take 16 s1) (by decide +kernel)) (fun r6 s3 Hs3 => ?_)
  exact PR.some Hs3
def W_j_X5_itemsOf_36 : List Nat := [10001, 11998, 11999, 12002, 12003, 12004]
theorem fr_j_X5_itemsOf_36 (x1 : Int) (x2 : Int) (s : vS) : PR (W_j_X5_itemsOf_36) s (fun q => q) (j_X5_itemsOf_36 x1 x2 s) := by
  unfold j_X5_itemsOf_36
  have Hs : Fr (W_j_X5_itemsOf_36) s s := Fr.rfl
  refine PR.bdv (PR.call Hs (fr_f_X5_items x1 x2 s) (by decide +kernel)) (fun s1 Hs1 => ?_)
  exact PR.some Hs1
def W_f_X5_itemsOf : List Nat := [10001, 11998, 11999, 12002, 12003, 12004]
theorem fr_f_X5_itemsOf (x1 : Int) (x2 : Int) (s : vS) : PR (W_f_X5_itemsOf) s (fun q => q) (f_X5_itemsOf x1 x2 s) := by
  unfold f_X5_itemsOf
  have Hs : Fr (W_f_X5_itemsOf) s s := Fr.rfl
  refine PR.bdv (PR.call Hs (fr_f_X4_set x1 0 x2 s) (by decide +kernel)) (fun s1 Hs1 => ?_)
  refine PR.ite (fun _ => ?_) (fun _ => ?_)
  · refine PR.bd (PR.call Hs1 (fr_f_X5_may 15 s1) (by decide +kernel)) (fun r14 s11 Hs11 => ?_)
    refine PR.ite (fun _ => ?_) (fun _ => ?_)
    · exact PR.some Hs11
    · exact PR.call Hs11 (fr_j_X5_itemsOf_36 x1 x2 s11) (by decide +kernel)
  · refine PR.bd (PR.call Hs1 (fr_f_X5_take 15 s1) (by decide +kernel)) (fun r8 s5 Hs5 => ?_)
    refine PR.ite (fun _ => ?_) (fun _ => ?_)
    · exact PR.some Hs5
    · exact PR.call Hs5 (fr_j_X5_itemsOf_36 x1 x2 s5) (by decide +kernel)
def W_f_X5_string : List Nat := [11999, 12002, 12003, 12004]
theorem fr_f_X5_string (x1 : Int) (x2 : Int) (s : vS) : PR (W_f_X5_string) s (fun q => q) (f_X5_string x1 x2 s) := by
  unfold f_X5_string
  have Hs : Fr (W_f_X5_string) s s := Fr.rfl
  refine PR.bdv (PR.call Hs (fr_f_X4_set x1 0 x2 s) (by decide +kernel)) (fun s1 Hs1 => ?_)
  refine PR.bd (PR.call Hs1 (fr_f_X5_take 162 s1) (by decide +kernel)) (fun r7 s4 Hs4 => ?_)
  exact PR.some Hs4
def W_f_X5_bits : List Nat := [10001, 11998, 11999, 12002, 12003, 12004]
theorem fr_f_X5_bits (x1 : Int) (s : vS) : PR (W_f_X5_bits) s (fun q => q) (f_X5_bits x1 s) := by
  unfold f_X5_bits
  have Hs : Fr (W_f_X5_bits) s s := Fr.rfl
  refine PR.bdv (PR.call Hs (fr_f_X5_string x1 4 s) (by decide +kernel)) (fun s1 Hs1 => ?_)
  refine PR.ite (fun _ => ?_) (fun _ => ?_)
  · refine PR.bd (PR.call Hs1 (fr_f_X5_may 15 s1) (by decide +kernel)) (fun r8 s5 Hs5 => ?_)
    refine PR.ite (fun _ => ?_) (fun _ => ?_)
    · exact PR.some Hs5
    · refine PR.bdv (PR.call Hs5 (fr_f_X5_items x1 4 s5) (by decide +kernel)) (fun s11 Hs11 => ?_)
      exact PR.some Hs11
  · exact PR.some Hs1
def W_j_X5_digits_20 : List Nat := [11999, 12002, 12003, 12004]
theorem fr_j_X5_digits_20 (x1 : Int) (x2 : Int) (s : vS) : PR (W_j_X5_digits_20) s (fun q => q) (j_X5_digits_20 x1 x2 s) := by
  unfold j_X5_digits_20
  have Hs : Fr (W_j_X5_digits_20) s s := Fr.rfl
  refine PR.bdv (PR.call Hs (fr_f_X4_set x1 5 x2 s) (by decide +kernel)) (fun s1 Hs1 => ?_)
  refine PR.bdv (PR.call Hs1 (fr_f_X4_set x1 7 (gI s1 12 2) s1) (by decide +kernel)) (fun s4 Hs4 => ?_)
  refine PR.bd (PR.call Hs4 (fr_f_X5_take 2 s4) (by decide +kernel)) (fun r10 s7 Hs7 => ?_)
  exact PR.some Hs7
def W_f_X5_digits : List Nat := [11999, 12002, 12003, 12004]
theorem fr_f_X5_digits (x1 : Int) (x2 : Int) (s : vS) : PR (W_f_X5_digits) s (fun q => q) (f_X5_digits x1 x2 s) := by
  unfold f_X5_digits
  have Hs : Fr (W_f_X5_digits) s s := Fr.rfl
  refine PR.bd (PR.call Hs (fr_f_X5_may 25 s) (by decide +kernel)) (fun r4 s1 Hs1 => ?_)
  refine PR.ite (fun _ => ?_) (fun _ => ?_)
  · exact PR.call Hs1 (fr_j_X5_digits_20 x1 x2 s1) (by decide +kernel)
  · refine PR.bdv (PR.call Hs1 (fr_f_X4_set x1 6 1 s1) (by decide +kernel)) (fun s7 Hs7 => ?_)
    exact PR.call Hs7 (fr_j_X5_digits_20 x1 x2 s7) (by decide +kernel)
def W_l_X5_list_2 : List Nat := [10001, 11998, 11999, 12002, 12003, 12004]
theorem fr_j_X5_list_122 (rec : Int → Int → vS → Option (vS)) (hrec : ∀ (y0 : Int) (y1 : Int) (s : vS), PR (W_l_X5_list_2) s (fun q => q) (rec y0 y1 s)) (x1 : Int) (x2 : Int) (z1 : Int) (z2 : Int) (z3 : Int) (s : vS) : PR (W_l_X5_list_2) s (fun q => q) (j_X5_list_122 rec x1 x2 z1 z2 z3 s) := by
  unfold j_X5_list_122
  have Hs : Fr (W_l_X5_list_2) s s := Fr.rfl
  refine PR.bdv (PR.call Hs (fr_f_X4_set z1 z2 z3 s) (by decide +kernel)) (fun s1 Hs1 => ?_)
  refine PR.bd (PR.call Hs1 (fr_f_X5_may 21 s1) (by decide +kernel)) (fun r7 s4 Hs4 => ?_)
  refine PR.ite (fun _ => ?_) (fun _ => ?_)
  · exact PR.tail Hs4 (hrec x1 x2 s4)
  · refine PR.bd (PR.pure Hs4 (fr_f_X5_is 0 s4)) (fun r13 s10 Hs10 => ?_)
    refine PR.ite (fun _ => ?_) (fun _ => ?_)
    · refine PR.bd (PR.pure Hs10 (fr_f_X5_is 2 s10)) (fun r19 s16 Hs16 => ?_)
      refine PR.ite (fun _ => ?_) (fun _ => ?_)
      · refine PR.bd (PR.call Hs16 (fr_f_X5_unfit s16) (by decide +kernel)) (fun r25 s22 Hs22 => ?_)
        exact PR.tail Hs22 (hrec x1 x2 s22)
      · exact PR.tail Hs16 (hrec x1 x2 s16)
    · exact PR.tail Hs10 (hrec x1 x2 s10)
theorem fr_j_X5_list_105 (rec : Int → Int → vS → Option (vS)) (hrec : ∀ (y0 : Int) (y1 : Int) (s : vS), PR (W_l_X5_list_2) s (fun q => q) (rec y0 y1 s)) (x1 : Int) (x2 : Int) (x3 : Int) (x4 : Int) (s : vS) : PR (W_l_X5_list_2) s (fun q => q) (j_X5_list_105 rec x1 x2 x3 x4 s) := by
  unfold j_X5_list_105
  have Hs : Fr (W_l_X5_list_2) s s := Fr.rfl
  refine PR.ite (fun _ => ?_) (fun _ => ?_)
  · exact PR.tail Hs (fr_j_X5_list_122 rec hrec x1 x2 x3 6 0 s)
  · exact PR.tail Hs (fr_j_X5_list_122 rec hrec x1 x2 x3 6 1 s)
theorem fr_j_X5_list_72 (rec : Int → Int → vS → Option (vS)) (hrec : ∀ (y0 : Int) (y1 : Int) (s : vS), PR (W_l_X5_list_2) s (fun q => q) (rec y0 y1 s)) (x1 : Int) (x2 : Int) (x3 : Int) (x4 : Int) (s : vS) : PR (W_l_X5_list_2) s (fun q => q) (j_X5_list_72 rec x1 x2 x3 x4 s) := by
  unfold j_X5_list_72
  have Hs : Fr (W_l_X5_list_2) s s := Fr.rfl
  refine PR.bdv (PR.call Hs (fr_f_X4_set x3 5 (gI s 12 2) s) (by decide +kernel)) (fun s1 Hs1 => ?_)
  refine PR.bd (PR.call Hs1 (fr_f_X5_take 2 s1) (by decide +kernel)) (fun r7 s4 Hs4 => ?_)
  refine PR.ite (fun _ => ?_) (fun _ => ?_)
  · exact PR.tail Hs4 (fr_j_X5_list_105 rec hrec x1 x2 x3 x4 s4)
  · refine PR.ite (fun _ => ?_) (fun _ => ?_)
    · exact PR.tail Hs4 (fr_j_X5_list_105 rec hrec x1 x2 x3 x4 s4)
    · refine PR.bd (PR.call Hs4 (fr_f_X5_take 20 s4) (by decide +kernel)) (fun r14 s11 Hs11 => ?_)
      exact PR.tail Hs11 (fr_j_X5_list_105 rec hrec x1 x2 x3 x4 s11)
theorem fr_j_X5_list_25 (rec : Int → Int → vS → Option (vS)) (hrec : ∀ (y0 : Int) (y1 : Int) (s : vS), PR (W_l_X5_list_2) s (fun q => q) (rec y0 y1 s)) (x1 : Int) (x2 : Int) (s : vS) : PR (W_l_X5_list_2) s (fun q => q) (j_X5_list_25 rec x1 x2 s) := by
  unfold j_X5_list_25
  have Hs : Fr (W_l_X5_list_2) s s := Fr.rfl
  refine PR.bd (PR.call Hs (fr_f_X4_add 27 (gI s 12 2) s) (by decide +kernel)) (fun r4 s1 Hs1 => ?_)
  refine PR.bd (PR.call Hs1 (fr_f_X4_chain x1 3 x2 r4 s1) (by decide +kernel)) (fun r9 s6 Hs6 => ?_)
  refine PR.bd (PR.call Hs6 (fr_f_X5_may 0 s6) (by decide +kernel)) (fun r14 s11 Hs11 => ?_)
  refine PR.ite (fun _ => ?_) (fun _ => ?_)
  · exact PR.tail Hs11 (fr_j_X5_list_72 rec hrec x1 r9 r4 r14 s11)
  · refine PR.bd (PR.call Hs11 (fr_f_X5_may 19 s11) (by decide +kernel)) (fun r20 s17 Hs17 => ?_)
    refine PR.ite (fun _ => ?_) (fun _ => ?_)
    · exact PR.tail Hs17 (fr_j_X5_list_105 rec hrec x1 r9 r4 r14 s17)
    · exact PR.tail Hs17 (fr_j_X5_list_72 rec hrec x1 r9 r4 r14 s17)
theorem fr_l_X5_list_2 : ∀ (n : Nat) (x1 : Int) (x2 : Int) (s : vS), PR (W_l_X5_list_2) s (fun q => q) (l_X5_list_2 n x1 x2 s)
  := by
  intro n
  induction n with
  | zero => intro x1 x2 s; exact PR.none
  | succ n ih =>
    intro x1 x2 s
    unfold l_X5_list_2
    have Hs : Fr (W_l_X5_list_2) s s := Fr.rfl
    refine PR.ite (fun _ => ?_) (fun _ => ?_)
    · refine PR.bd (PR.pure Hs (fr_f_X5_is 0 s)) (fun r5 s2 Hs2 => ?_)
      refine PR.ite (fun _ => ?_) (fun _ => ?_)
      · refine PR.bd (PR.pure Hs2 (fr_f_X5_is 2 s2)) (fun r11 s8 Hs8 => ?_)
        refine PR.ite (fun _ => ?_) (fun _ => ?_)
        · exact PR.some Hs8
        · exact PR.tail Hs8 (fr_j_X5_list_25 (l_X5_list_2 n) ih x1 x2 s8)
      · exact PR.tail Hs2 (fr_j_X5_list_25 (l_X5_list_2 n) ih x1 x2 s2)
    · exact PR.some Hs
def W_j_X5_list_158 : List Nat := [12002, 12003, 12004]
theorem fr_j_X5_list_158 (s : vS) : PR (W_j_X5_list_158) s (fun q => q) (j_X5_list_158 s) := by
  unfold j_X5_list_158
  have Hs : Fr (W_j_X5_list_158) s s := Fr.rfl
  refine PR.bd (PR.call Hs (fr_f_X5_take 16 s) (by decide +kernel)) (fun r4 s1 Hs1 => ?_)
  exact PR.some Hs1
def W_f_X5_list : List Nat := [10001, 11998, 11999, 12002, 12003, 12004]
theorem fr_f_X5_list (x1 : Int) (s : vS) : PR (W_f_X5_list) s (fun q => q) (f_X5_list x1 s) := by
  unfold f_X5_list
  have Hs : Fr (W_f_X5_list) s s := Fr.rfl
  refine PR.lq_0 (PR.call Hs (fr_l_X5_list_2 FU x1 (-1) s) (by decide +kernel)) (fun s1 Hs1 => ?_)
  exact PR.call Hs1 (fr_j_X5_list_158 s1) (by decide +kernel)
def W_j_X5_value_129 : List Nat := [10001, 11998, 11999, 12002, 12003, 12004]
theorem fr_j_X5_value_129 (x1 : Int) (z0 : Int) (s : vS) : PR (W_j_X5_value_129) s (fun q => q.2) (j_X5_value_129 x1 z0 s) := by
  unfold j_X5_value_129
  have Hs : Fr (W_j_X5_value_129) s s := Fr.rfl
  refine PR.bdv (PR.call Hs (fr_f_X4_set x1 5 z0 s) (by decide +kernel)) (fun s1 Hs1 => ?_)
  refine PR.ite (fun _ => ?_) (fun _ => ?_)
  · refine PR.bdv (PR.call Hs1 (fr_f_X5_digits x1 3 s1) (by decide +kernel)) (fun s11 Hs11 => ?_)
    exact PR.some Hs11
  · refine PR.stp (Fr.wI Hs1 (by decide +kernel)) (fun s5 Hs5 => ?_)
    refine PR.ite (fun _ => ?_) (fun _ => ?_)
    · refine PR.bdv (PR.call Hs5 (fr_f_X5_list x1 s5) (by decide +kernel)) (fun s8 Hs8 => ?_)
      exact PR.some Hs8
    · exact PR.some Hs5
def W_f_X5_value : List Nat := [10001, 11998, 11999, 12002, 12003, 12004]
theorem fr_f_X5_value (s : vS) : PR (W_f_X5_value) s (fun q => q.2) (f_X5_value s) := by
  unfold f_X5_value
  have Hs : Fr (W_f_X5_value) s s := Fr.rfl
  refine PR.bd (PR.call Hs (fr_f_X4_add 26 (gI s 12 2) s) (by decide +kernel)) (fun r4 s1 Hs1 => ?_)
  refine PR.ite (fun _ => ?_) (fun _ => ?_)
  · refine PR.bd (PR.pure Hs1 (fr_f_X5_is 166 s1)) (fun r10 s7 Hs7 => ?_)
    refine PR.ite (fun _ => ?_) (fun _ => ?_)
    · refine PR.bd (PR.pure Hs7 (fr_f_X5_is 127 s7)) (fun r16 s13 Hs13 => ?_)
      refine PR.ite (fun _ => ?_) (fun _ => ?_)
      · refine PR.bd (PR.pure Hs13 (fr_f_X5_is 145 s13)) (fun r22 s19 Hs19 => ?_)
        refine PR.ite (fun _ => ?_) (fun _ => ?_)
        · refine PR.bd (PR.pure Hs19 (fr_f_X5_is 0 s19)) (fun r28 s25 Hs25 => ?_)
          refine PR.ite (fun _ => ?_) (fun _ => ?_)
          · refine PR.bd (PR.pure Hs25 (fr_f_X5_is 3 s25)) (fun r34 s31 Hs31 => ?_)
            refine PR.ite (fun _ => ?_) (fun _ => ?_)
            · refine PR.bd (PR.pure Hs31 (fr_f_X5_is 4 s31)) (fun r40 s37 Hs37 => ?_)
              refine PR.ite (fun _ => ?_) (fun _ => ?_)
              · refine PR.bd (PR.pure Hs37 (fr_f_X5_is 5 s37)) (fun r46 s43 Hs43 => ?_)
                refine PR.ite (fun _ => ?_) (fun _ => ?_)
                · refine PR.bd (PR.pure Hs43 (fr_f_X5_is 15 s43)) (fun r52 s49 Hs49 => ?_)
                  refine PR.ite (fun _ => ?_) (fun _ => ?_)
                  · exact PR.call Hs49 (fr_j_X5_value_129 r4 3 s49) (by decide +kernel)
                  · exact PR.call Hs49 (fr_j_X5_value_129 r4 8 s49) (by decide +kernel)
                · exact PR.call Hs43 (fr_j_X5_value_129 r4 7 s43) (by decide +kernel)
              · exact PR.call Hs37 (fr_j_X5_value_129 r4 6 s37) (by decide +kernel)
            · exact PR.call Hs31 (fr_j_X5_value_129 r4 5 s31) (by decide +kernel)
          · exact PR.call Hs25 (fr_j_X5_value_129 r4 4 s25) (by decide +kernel)
        · exact PR.call Hs19 (fr_j_X5_value_129 r4 2 s19) (by decide +kernel)
      · exact PR.call Hs13 (fr_j_X5_value_129 r4 1 s13) (by decide +kernel)
    · exact PR.call Hs7 (fr_j_X5_value_129 r4 0 s7) (by decide +kernel)
  · exact PR.some Hs1
def W_f_X5_bound : List Nat := [10001, 11998, 11999, 12002, 12003, 12004]
theorem fr_f_X5_bound (s : vS) : PR (W_f_X5_bound) s (fun q => q.2) (f_X5_bound s) := by
  unfold f_X5_bound
  have Hs : Fr (W_f_X5_bound) s s := Fr.rfl
  refine PR.bd (PR.call Hs (fr_f_X4_add 25 (gI s 12 2) s) (by decide +kernel)) (fun r4 s1 Hs1 => ?_)
  refine PR.ite (fun _ => ?_) (fun _ => ?_)
  · refine PR.bd (PR.call Hs1 (fr_f_X5_may 143 s1) (by decide +kernel)) (fun r10 s7 Hs7 => ?_)
    refine PR.ite (fun _ => ?_) (fun _ => ?_)
    · refine PR.bd (PR.call Hs7 (fr_f_X5_may 142 s7) (by decide +kernel)) (fun r16 s13 Hs13 => ?_)
      refine PR.ite (fun _ => ?_) (fun _ => ?_)
      · refine PR.bd (PR.call Hs13 (fr_f_X5_may 0 s13) (by decide +kernel)) (fun r22 s19 Hs19 => ?_)
        refine PR.ite (fun _ => ?_) (fun _ => ?_)
        · refine PR.bdv (PR.call Hs19 (fr_f_X5_digits r4 2 s19) (by decide +kernel)) (fun s25 Hs25 => ?_)
          exact PR.some Hs25
        · refine PR.bdv (PR.call Hs19 (fr_f_X4_set r4 5 3 s19) (by decide +kernel)) (fun s28 Hs28 => ?_)
          exact PR.some Hs28
      · refine PR.bdv (PR.call Hs13 (fr_f_X4_set r4 5 1 s13) (by decide +kernel)) (fun s31 Hs31 => ?_)
        exact PR.some Hs31
    · refine PR.bdv (PR.call Hs7 (fr_f_X4_set r4 5 0 s7) (by decide +kernel)) (fun s34 Hs34 => ?_)
      exact PR.some Hs34
  · exact PR.some Hs1
def W_l_X5_ranges_12 : List Nat := [10001, 11998, 11999, 12002, 12003, 12004]
theorem fr_j_X5_ranges_82 (rec : Int → Int → vS → Option (vS)) (hrec : ∀ (y0 : Int) (y1 : Int) (s : vS), PR (W_l_X5_ranges_12) s (fun q => q) (rec y0 y1 s)) (x1 : Int) (x3 : Int) (s : vS) : PR (W_l_X5_ranges_12) s (fun q => q) (j_X5_ranges_82 rec x1 x3 s) := by
  unfold j_X5_ranges_82
  have Hs : Fr (W_l_X5_ranges_12) s s := Fr.rfl
  refine PR.bd (PR.call Hs (fr_f_X5_may 24 s) (by decide +kernel)) (fun r4 s1 Hs1 => ?_)
  refine PR.ite (fun _ => ?_) (fun _ => ?_)
  · exact PR.some Hs1
  · exact PR.tail Hs1 (hrec x1 x3 s1)
theorem fr_l_X5_ranges_12 : ∀ (n : Nat) (x1 : Int) (x3 : Int) (s : vS), PR (W_l_X5_ranges_12) s (fun q => q) (l_X5_ranges_12 n x1 x3 s)
  := by
  intro n
  induction n with
  | zero => intro x1 x3 s; exact PR.none
  | succ n ih =>
    intro x1 x3 s
    unfold l_X5_ranges_12
    have Hs : Fr (W_l_X5_ranges_12) s s := Fr.rfl
    refine PR.bd (PR.call Hs (fr_f_X4_add 24 (gI s 12 2) s) (by decide +kernel)) (fun r4 s1 Hs1 => ?_)
    refine PR.bd (PR.call Hs1 (fr_f_X4_chain x1 3 x3 r4 s1) (by decide +kernel)) (fun r9 s6 Hs6 => ?_)
    refine PR.bd (PR.call Hs6 (fr_f_X5_bound s6) (by decide +kernel)) (fun r14 s11 Hs11 => ?_)
    refine PR.bdv (PR.call Hs11 (fr_f_X4_set r4 3 r14 s11) (by decide +kernel)) (fun s16 Hs16 => ?_)
    refine PR.bd (PR.call Hs16 (fr_f_X5_may 12 s16) (by decide +kernel)) (fun r22 s19 Hs19 => ?_)
    refine PR.ite (fun _ => ?_) (fun _ => ?_)
    · exact PR.tail Hs19 (fr_j_X5_ranges_82 (l_X5_ranges_12 n) ih x1 r9 s19)
    · refine PR.bd (PR.call Hs19 (fr_f_X5_bound s19) (by decide +kernel)) (fun r28 s25 Hs25 => ?_)
      refine PR.bdv (PR.call Hs25 (fr_f_X4_set r14 8 r28 s25) (by decide +kernel)) (fun s30 Hs30 => ?_)
      exact PR.tail Hs30 (fr_j_X5_ranges_82 (l_X5_ranges_12 n) ih x1 r9 s30)
def W_f_X5_ranges : List Nat := [10001, 11998, 11999, 12002, 12003, 12004]
theorem fr_f_X5_ranges (x1 : Int) (x2 : Int) (s : vS) : PR (W_f_X5_ranges) s (fun q => q) (f_X5_ranges x1 x2 s) := by
  unfold f_X5_ranges
  have Hs : Fr (W_f_X5_ranges) s s := Fr.rfl
  refine PR.bdv (PR.call Hs (fr_f_X4_set x1 5 x2 s) (by decide +kernel)) (fun s1 Hs1 => ?_)
  refine PR.lq_0 (PR.call Hs1 (fr_l_X5_ranges_12 FU x1 (-1) s1) (by decide +kernel)) (fun s4 Hs4 => ?_)
  exact PR.some Hs4
def W_f_X5_sizes : List Nat := [10001, 11998, 11999, 12002, 12003, 12004]
theorem fr_f_X5_sizes (x1 : Int) (s : vS) : PR (W_f_X5_sizes) s (fun q => q.2) (f_X5_sizes x1 s) := by
  unfold f_X5_sizes
  have Hs : Fr (W_f_X5_sizes) s s := Fr.rfl
  refine PR.stp (Fr.wI Hs (by decide +kernel)) (fun s1 Hs1 => ?_)
  refine PR.bd (PR.call Hs1 (fr_f_X5_take 19 s1) (by decide +kernel)) (fun r6 s3 Hs3 => ?_)
  refine PR.ite (fun _ => ?_) (fun _ => ?_)
  · exact PR.some Hs3
  · refine PR.bdv (PR.call Hs3 (fr_f_X5_ranges x1 1 s3) (by decide +kernel)) (fun s9 Hs9 => ?_)
    refine PR.bd (PR.call Hs9 (fr_f_X5_take 20 s9) (by decide +kernel)) (fun r15 s12 Hs12 => ?_)
    refine PR.gd ?_
    exact PR.some Hs12
def W_f_X4_at : List Nat := []
theorem fr_f_X4_at (x1 : Int) (x2 : Int) (s : vS) : PR (W_f_X4_at) s (fun q => q.2) (f_X4_at x1 x2 s) := by
  unfold f_X4_at
  have Hs : Fr (W_f_X4_at) s s := Fr.rfl
  refine PR.gd ?_
  exact PR.some Hs
def W_f_X4_limits : List Nat := []
theorem fr_f_X4_limits (x1 : Int) (s : vS) : PR (W_f_X4_limits) s (fun q => q.2) (f_X4_limits x1 s) := by
  unfold f_X4_limits
  have Hs : Fr (W_f_X4_limits) s s := Fr.rfl
  refine PR.bd (PR.pure Hs (fr_f_X4_at x1 4 s)) (fun r4 s1 Hs1 => ?_)
  exact PR.some Hs1
def W_f_X4_next : List Nat := []
theorem fr_f_X4_next (x1 : Int) (s : vS) : PR (W_f_X4_next) s (fun q => q.2) (f_X4_next x1 s) := by
  unfold f_X4_next
  have Hs : Fr (W_f_X4_next) s s := Fr.rfl
  refine PR.bd (PR.pure Hs (fr_f_X4_at x1 8 s)) (fun r4 s1 Hs1 => ?_)
  exact PR.some Hs1
def W_j_X5_limit_49 : List Nat := [12002, 12003, 12004]
theorem fr_j_X5_limit_49 (x1 : Int) (s : vS) : PR (W_j_X5_limit_49) s (fun q => q.2) (j_X5_limit_49 x1 s) := by
  unfold j_X5_limit_49
  have Hs : Fr (W_j_X5_limit_49) s s := Fr.rfl
  refine PR.bd (PR.call Hs (fr_f_X5_take 20 s) (by decide +kernel)) (fun r4 s1 Hs1 => ?_)
  exact PR.some Hs1
def W_f_X5_limit : List Nat := [10001, 11998, 11999, 12002, 12003, 12004]
theorem fr_f_X5_limit (s : vS) : PR (W_f_X5_limit) s (fun q => q.2) (f_X5_limit s) := by
  unfold f_X5_limit
  have Hs : Fr (W_f_X5_limit) s s := Fr.rfl
  refine PR.bd (PR.call Hs (fr_f_X4_add 23 (gI s 12 2) s) (by decide +kernel)) (fun r4 s1 Hs1 => ?_)
  refine PR.stp (Fr.wI Hs1 (by decide +kernel)) (fun s6 Hs6 => ?_)
  refine PR.bd (PR.pure Hs6 (fr_f_X5_is 161 s6)) (fun r11 s8 Hs8 => ?_)
  refine PR.ite (fun _ => ?_) (fun _ => ?_)
  · refine PR.bdv (PR.call Hs8 (fr_f_X5_ranges r4 0 s8) (by decide +kernel)) (fun s14 Hs14 => ?_)
    exact PR.call Hs14 (fr_j_X5_limit_49 r4 s14) (by decide +kernel)
  · refine PR.bd (PR.call Hs8 (fr_f_X5_sizes r4 s8) (by decide +kernel)) (fun r20 s17 Hs17 => ?_)
    exact PR.call Hs17 (fr_j_X5_limit_49 r4 s17) (by decide +kernel)
def W_f_X5_type : List Nat := [10001, 11998, 11999, 12002, 12003, 12004]
def W_l_X5_components_3 : List Nat := [10001, 11998, 11999, 12002, 12003, 12004]
theorem fr_j_X5_components_121 (fr : Nat) (lr : Nat) (rcf : RT_X5_type) (hrcf : ∀ (y0 : Int) (s : vS), PR W_f_X5_type s (fun q => q.2) (rcf y0 s)) (rec : Int → Int → Int → Int → vS → Option ((vS) ⊕ (vS))) (hrec : ∀ (y0 : Int) (y1 : Int) (y2 : Int) (y3 : Int) (s : vS), PR (W_l_X5_components_3) s (Sum.elim (fun q => q) (fun q => q)) (rec y0 y1 y2 y3 s)) (x1 : Int) (x2 : Int) (x3 : Int) (x4 : Int) (x5 : Int) (s : vS) : PR (W_l_X5_components_3) s (Sum.elim (fun q => q) (fun q => q)) (j_X5_components_121 fr lr rcf rec x1 x2 x3 x4 x5 s) := by
  unfold j_X5_components_121
  have Hs : Fr (W_l_X5_components_3) s s := Fr.rfl
  refine PR.bd (PR.call Hs (fr_f_X4_chain x1 3 x4 x5 s) (by decide +kernel)) (fun r4 s1 Hs1 => ?_)
  refine PR.bd (PR.call Hs1 (fr_f_X5_may 21 s1) (by decide +kernel)) (fun r9 s6 Hs6 => ?_)
  refine PR.ite (fun _ => ?_) (fun _ => ?_)
  · exact PR.some Hs6
  · exact PR.tail Hs6 (hrec x1 x2 x3 r4 s6)
theorem fr_j_X5_components_83 (fr : Nat) (lr : Nat) (rcf : RT_X5_type) (hrcf : ∀ (y0 : Int) (s : vS), PR W_f_X5_type s (fun q => q.2) (rcf y0 s)) (rec : Int → Int → Int → Int → vS → Option ((vS) ⊕ (vS))) (hrec : ∀ (y0 : Int) (y1 : Int) (y2 : Int) (y3 : Int) (s : vS), PR (W_l_X5_components_3) s (Sum.elim (fun q => q) (fun q => q)) (rec y0 y1 y2 y3 s)) (x1 : Int) (x2 : Int) (x3 : Int) (x4 : Int) (x5 : Int) (s : vS) : PR (W_l_X5_components_3) s (Sum.elim (fun q => q) (fun q => q)) (j_X5_components_83 fr lr rcf rec x1 x2 x3 x4 x5 s) := by
  unfold j_X5_components_83
  have Hs : Fr (W_l_X5_components_3) s s := Fr.rfl
  refine PR.ite (fun _ => ?_) (fun _ => ?_)
  · exact PR.tail Hs (fr_j_X5_components_121 fr lr rcf hrcf rec hrec x1 x2 x3 x4 x5 s)
  · refine PR.bd (PR.call Hs (fr_f_X5_may 116 s) (by decide +kernel)) (fun r5 s2 Hs2 => ?_)
    refine PR.ite (fun _ => ?_) (fun _ => ?_)
    · exact PR.tail Hs2 (fr_j_X5_components_121 fr lr rcf hrcf rec hrec x1 x2 x3 x4 x5 s2)
    · refine PR.bdv (PR.call Hs2 (fr_f_X4_set x5 5 2 s2) (by decide +kernel)) (fun s8 Hs8 => ?_)
      refine PR.bd (PR.call Hs8 (fr_f_X5_value s8) (by decide +kernel)) (fun r14 s11 Hs11 => ?_)
      refine PR.bdv (PR.call Hs11 (fr_f_X4_set x5 4 r14 s11) (by decide +kernel)) (fun s16 Hs16 => ?_)
      exact PR.tail Hs16 (fr_j_X5_components_121 fr lr rcf hrcf rec hrec x1 x2 x3 x4 x5 s16)
theorem fr_l_X5_components_3 (fr : Nat) (lr : Nat) (rcf : RT_X5_type) (hrcf : ∀ (y0 : Int) (s : vS), PR W_f_X5_type s (fun q => q.2) (rcf y0 s)) : ∀ (n : Nat) (x1 : Int) (x2 : Int) (x3 : Int) (x4 : Int) (s : vS), PR (W_l_X5_components_3) s (Sum.elim (fun q => q) (fun q => q)) (l_X5_components_3 fr lr rcf n x1 x2 x3 x4 s)
  := by
  intro n
  induction n with
  | zero => intro x1 x2 x3 x4 s; exact PR.none
  | succ n ih =>
    intro x1 x2 x3 x4 s
    unfold l_X5_components_3
    have Hs : Fr (W_l_X5_components_3) s s := Fr.rfl
    refine PR.bd (PR.call Hs (fr_f_X4_add 22 (gI s 12 2) s) (by decide +kernel)) (fun r4 s1 Hs1 => ?_)
    refine PR.bd (PR.call Hs1 (fr_f_X5_take 0 s1) (by decide +kernel)) (fun r9 s6 Hs6 => ?_)
    refine PR.ite (fun _ => ?_) (fun _ => ?_)
    · exact PR.some Hs6
    · refine PR.bdv (PR.call Hs6 (fr_f_X4_set r4 5 0 s6) (by decide +kernel)) (fun s12 Hs12 => ?_)
      refine PR.bd (PR.call Hs12 (hrcf (w32 (x2 + 1)) s12) (by decide +kernel)) (fun r18 s15 Hs15 => ?_)
      refine PR.bdv (PR.call Hs15 (fr_f_X4_set r4 3 r18 s15) (by decide +kernel)) (fun s20 Hs20 => ?_)
      refine PR.ite (fun _ => ?_) (fun _ => ?_)
      · exact PR.tail Hs20 (fr_j_X5_components_83 fr lr rcf hrcf (l_X5_components_3 fr lr rcf n) ih x1 x2 x3 x4 r4 s20)
      · refine PR.bd (PR.call Hs20 (fr_f_X5_may 150 s20) (by decide +kernel)) (fun r27 s24 Hs24 => ?_)
        refine PR.ite (fun _ => ?_) (fun _ => ?_)
        · exact PR.tail Hs24 (fr_j_X5_components_83 fr lr rcf hrcf (l_X5_components_3 fr lr rcf n) ih x1 x2 x3 x4 r4 s24)
        · refine PR.bdv (PR.call Hs24 (fr_f_X4_set r4 5 1 s24) (by decide +kernel)) (fun s30 Hs30 => ?_)
          exact PR.tail Hs30 (fr_j_X5_components_121 fr lr rcf hrcf (l_X5_components_3 fr lr rcf n) ih x1 x2 x3 x4 r4 s30)
def W_f_X5_components : List Nat := [10001, 11998, 11999, 12002, 12003, 12004]
theorem fr_f_X5_components (fr : Nat) (lr : Nat) (rcf : RT_X5_type) (hrcf : ∀ (y0 : Int) (s : vS), PR W_f_X5_type s (fun q => q.2) (rcf y0 s)) (x1 : Int) (x2 : Int) (x3 : Int) (s : vS) : PR (W_f_X5_components) s (fun q => q) (f_X5_components fr lr rcf x1 x2 x3 s) := by
  unfold f_X5_components
  have Hs : Fr (W_f_X5_components) s s := Fr.rfl
  refine PR.lqs_0 (PR.call Hs (fr_l_X5_components_3 fr lr rcf hrcf FU x1 x2 x3 (-1) s) (by decide +kernel)) (fun s1 Hs1 => ?_) (fun q Hq => PR.some Hq)
  refine PR.bd (PR.call Hs1 (fr_f_X5_take 16 s1) (by decide +kernel)) (fun r6 s3 Hs3 => ?_)
  exact PR.some Hs3
def W_j_X5_many_172 : List Nat := [10001, 11998, 11999, 12002, 12003, 12004]
theorem fr_j_X5_many_172 (fr : Nat) (lr : Nat) (rcf : RT_X5_type) (hrcf : ∀ (y0 : Int) (s : vS), PR W_f_X5_type s (fun q => q.2) (rcf y0 s)) (x1 : Int) (x4 : Int) (s : vS) : PR (W_j_X5_many_172) s (fun q => q) (j_X5_many_172 fr lr rcf x1 x4 s) := by
  unfold j_X5_many_172
  have Hs : Fr (W_j_X5_many_172) s s := Fr.rfl
  refine PR.bd (PR.call Hs (fr_f_X5_take 149 s) (by decide +kernel)) (fun r4 s1 Hs1 => ?_)
  refine PR.ite (fun _ => ?_) (fun _ => ?_)
  · exact PR.some Hs1
  · refine PR.bd (PR.call Hs1 (hrcf (w32 (x4 + 1)) s1) (by decide +kernel)) (fun r10 s7 Hs7 => ?_)
    refine PR.bdv (PR.call Hs7 (fr_f_X4_set x1 3 r10 s7) (by decide +kernel)) (fun s12 Hs12 => ?_)
    exact PR.some Hs12
def W_f_X5_many : List Nat := [10001, 11998, 11999, 12002, 12003, 12004]
theorem fr_f_X5_many (fr : Nat) (lr : Nat) (rcf : RT_X5_type) (hrcf : ∀ (y0 : Int) (s : vS), PR W_f_X5_type s (fun q => q.2) (rcf y0 s)) (x1 : Int) (x2 : Int) (x3 : Int) (x4 : Int) (s : vS) : PR (W_f_X5_many) s (fun q => q) (f_X5_many fr lr rcf x1 x2 x3 x4 s) := by
  unfold f_X5_many
  have Hs : Fr (W_f_X5_many) s s := Fr.rfl
  refine PR.bd (PR.call Hs (fr_f_X5_may 15 s) (by decide +kernel)) (fun r4 s1 Hs1 => ?_)
  refine PR.ite (fun _ => ?_) (fun _ => ?_)
  · refine PR.bdv (PR.call Hs1 (fr_f_X4_set x1 0 x3 s1) (by decide +kernel)) (fun s7 Hs7 => ?_)
    refine PR.bd (PR.pure Hs7 (fr_f_X5_is 161 s7)) (fun r13 s10 Hs10 => ?_)
    refine PR.ite (fun _ => ?_) (fun _ => ?_)
    · refine PR.bd (PR.pure Hs10 (fr_f_X5_is 19 s10)) (fun r19 s16 Hs16 => ?_)
      refine PR.ite (fun _ => ?_) (fun _ => ?_)
      · exact PR.call Hs16 (fr_j_X5_many_172 fr lr rcf hrcf x1 x4 s16) (by decide +kernel)
      · refine PR.bd (PR.call Hs16 (fr_f_X4_add 23 (gI s16 12 2) s16) (by decide +kernel)) (fun r25 s22 Hs22 => ?_)
        refine PR.bdv (PR.call Hs22 (fr_f_X4_set x1 4 r25 s22) (by decide +kernel)) (fun s27 Hs27 => ?_)
        refine PR.stp (Fr.wI Hs27 (by decide +kernel)) (fun s30 Hs30 => ?_)
        refine PR.bd (PR.pure Hs30 (fr_f_X5_is 161 s30)) (fun r35 s32 Hs32 => ?_)
        refine PR.ite (fun _ => ?_) (fun _ => ?_)
        · refine PR.bd (PR.call Hs32 (fr_f_X5_unfit s32) (by decide +kernel)) (fun r52 s49 Hs49 => ?_)
          exact PR.call Hs49 (fr_j_X5_many_172 fr lr rcf hrcf x1 x4 s49) (by decide +kernel)
        · refine PR.bd (PR.call Hs32 (fr_f_X5_sizes r25 s32) (by decide +kernel)) (fun r41 s38 Hs38 => ?_)
          refine PR.ite (fun _ => ?_) (fun _ => ?_)
          · exact PR.call Hs38 (fr_j_X5_many_172 fr lr rcf hrcf x1 x4 s38) (by decide +kernel)
          · refine PR.bd (PR.call Hs38 (fr_f_X5_take 20 s38) (by decide +kernel)) (fun r47 s44 Hs44 => ?_)
            exact PR.call Hs44 (fr_j_X5_many_172 fr lr rcf hrcf x1 x4 s44) (by decide +kernel)
    · refine PR.bd (PR.call Hs10 (fr_f_X4_add 23 (gI s10 12 2) s10) (by decide +kernel)) (fun r57 s54 Hs54 => ?_)
      refine PR.bdv (PR.call Hs54 (fr_f_X4_set x1 4 r57 s54) (by decide +kernel)) (fun s59 Hs59 => ?_)
      refine PR.bd (PR.call Hs59 (fr_f_X5_sizes r57 s59) (by decide +kernel)) (fun r65 s62 Hs62 => ?_)
      exact PR.call Hs62 (fr_j_X5_many_172 fr lr rcf hrcf x1 x4 s62) (by decide +kernel)
  · refine PR.bdv (PR.call Hs1 (fr_f_X4_set x1 0 x2 s1) (by decide +kernel)) (fun s67 Hs67 => ?_)
    refine PR.bd (PR.call Hs67 (fr_f_X5_may 16 s67) (by decide +kernel)) (fun r73 s70 Hs70 => ?_)
    refine PR.ite (fun _ => ?_) (fun _ => ?_)
    · refine PR.bdv (PR.call Hs70 (fr_f_X5_components fr lr rcf hrcf x1 x4 1 s70) (by decide +kernel)) (fun s76 Hs76 => ?_)
      exact PR.some Hs76
    · exact PR.some Hs70
def W_f_X5_base : List Nat := [10001, 11998, 11999, 12002, 12003, 12004]
theorem fr_f_X5_base (fr : Nat) (lr : Nat) (rcf : RT_X5_type) (hrcf : ∀ (y0 : Int) (s : vS), PR W_f_X5_type s (fun q => q.2) (rcf y0 s)) (x1 : Int) (x2 : Int) (s : vS) : PR (W_f_X5_base) s (fun q => q) (f_X5_base fr lr rcf x1 x2 s) := by
  unfold f_X5_base
  have Hs : Fr (W_f_X5_base) s s := Fr.rfl
  refine PR.bd (PR.pure Hs (fr_f_X5_kind s)) (fun r4 s1 Hs1 => ?_)
  refine PR.stp (Fr.wI Hs1 (by decide +kernel)) (fun s6 Hs6 => ?_)
  refine PR.ite (fun _ => ?_) (fun _ => ?_)
  · refine PR.bdv (PR.call Hs6 (fr_f_X4_set x1 7 (w32 ((gI s6 12 2) - 1)) s6) (by decide +kernel)) (fun s9 Hs9 => ?_)
    refine PR.bd (PR.pure Hs9 (fr_f_X5_is 15 s9)) (fun r15 s12 Hs12 => ?_)
    refine PR.ite (fun _ => ?_) (fun _ => ?_)
    · exact PR.some Hs12
    · refine PR.bd (PR.call Hs12 (fr_f_X5_wrong 3 (gI s12 12 2) s12) (by decide +kernel)) (fun r21 s18 Hs18 => ?_)
      exact PR.some Hs18
  · refine PR.ite (fun _ => ?_) (fun _ => ?_)
    · refine PR.bdv (PR.call Hs6 (fr_f_X5_bits x1 s6) (by decide +kernel)) (fun s24 Hs24 => ?_)
      exact PR.some Hs24
    · refine PR.ite (fun _ => ?_) (fun _ => ?_)
      · refine PR.bdv (PR.call Hs6 (fr_f_X4_set x1 0 0 s6) (by decide +kernel)) (fun s28 Hs28 => ?_)
        exact PR.some Hs28
      · refine PR.ite (fun _ => ?_) (fun _ => ?_)
        · refine PR.bdv (PR.call Hs6 (fr_f_X4_set x1 0 16 s6) (by decide +kernel)) (fun s32 Hs32 => ?_)
          refine PR.bd (PR.call Hs32 (fr_f_X5_take 15 s32) (by decide +kernel)) (fun r38 s35 Hs35 => ?_)
          refine PR.ite (fun _ => ?_) (fun _ => ?_)
          · exact PR.some Hs35
          · refine PR.bdv (PR.call Hs35 (fr_f_X5_components fr lr rcf hrcf x1 x2 0 s35) (by decide +kernel)) (fun s41 Hs41 => ?_)
            exact PR.some Hs41
        · refine PR.ite (fun _ => ?_) (fun _ => ?_)
          · refine PR.bdv (PR.call Hs6 (fr_f_X5_itemsOf x1 3 s6) (by decide +kernel)) (fun s45 Hs45 => ?_)
            exact PR.some Hs45
          · refine PR.ite (fun _ => ?_) (fun _ => ?_)
            · refine PR.bdv (PR.call Hs6 (fr_f_X4_set x1 0 11 s6) (by decide +kernel)) (fun s49 Hs49 => ?_)
              exact PR.some Hs49
            · refine PR.ite (fun _ => ?_) (fun _ => ?_)
              · refine PR.bdv (PR.call Hs6 (fr_f_X4_set x1 0 9 s6) (by decide +kernel)) (fun s53 Hs53 => ?_)
                exact PR.some Hs53
              · refine PR.ite (fun _ => ?_) (fun _ => ?_)
                · refine PR.bdv (PR.call Hs6 (fr_f_X5_itemsOf x1 2 s6) (by decide +kernel)) (fun s57 Hs57 => ?_)
                  exact PR.some Hs57
                · refine PR.ite (fun _ => ?_) (fun _ => ?_)
                  · refine PR.bdv (PR.call Hs6 (fr_f_X4_set x1 0 1 s6) (by decide +kernel)) (fun s61 Hs61 => ?_)
                    exact PR.some Hs61
                  · refine PR.ite (fun _ => ?_) (fun _ => ?_)
                    · refine PR.bdv (PR.call Hs6 (fr_f_X4_set x1 0 6 s6) (by decide +kernel)) (fun s65 Hs65 => ?_)
                      refine PR.bd (PR.call Hs65 (fr_f_X5_take 133 s65) (by decide +kernel)) (fun r71 s68 Hs68 => ?_)
                      exact PR.some Hs68
                    · refine PR.ite (fun _ => ?_) (fun _ => ?_)
                      · refine PR.bdv (PR.call Hs6 (fr_f_X5_string x1 5 s6) (by decide +kernel)) (fun s74 Hs74 => ?_)
                        exact PR.some Hs74
                      · refine PR.ite (fun _ => ?_) (fun _ => ?_)
                        · refine PR.bdv (PR.call Hs6 (fr_f_X4_set x1 0 8 s6) (by decide +kernel)) (fun s78 Hs78 => ?_)
                          exact PR.some Hs78
                        · refine PR.ite (fun _ => ?_) (fun _ => ?_)
                          · refine PR.bdv (PR.call Hs6 (fr_f_X5_many fr lr rcf hrcf x1 12 14 x2 s6) (by decide +kernel)) (fun s82 Hs82 => ?_)
                            exact PR.some Hs82
                          · refine PR.ite (fun _ => ?_) (fun _ => ?_)
                            · refine PR.bdv (PR.call Hs6 (fr_f_X5_many fr lr rcf hrcf x1 13 15 x2 s6) (by decide +kernel)) (fun s86 Hs86 => ?_)
                              exact PR.some Hs86
                            · refine PR.ite (fun _ => ?_) (fun _ => ?_)
                              · refine PR.bdv (PR.call Hs6 (fr_f_X4_set x1 0 10 s6) (by decide +kernel)) (fun s90 Hs90 => ?_)
                                exact PR.some Hs90
                              · refine PR.ite (fun _ => ?_) (fun _ => ?_)
                                · refine PR.bdv (PR.call Hs6 (fr_f_X4_set x1 0 7 s6) (by decide +kernel)) (fun s94 Hs94 => ?_)
                                  exact PR.some Hs94
                                · refine PR.stp (Fr.wI Hs6 (by decide +kernel)) (fun s97 Hs97 => ?_)
                                  refine PR.bd (PR.call Hs97 (fr_f_X5_unfit s97) (by decide +kernel)) (fun r102 s99 Hs99 => ?_)
                                  exact PR.some Hs99
def W_l_X5_type_41 : List Nat := [10001, 11998, 11999, 12002, 12003, 12004]
theorem fr_l_X5_type_41 (fr : Nat) (lr : Nat) (rcf : RT_X5_type) (hrcf : ∀ (y0 : Int) (s : vS), PR W_f_X5_type s (fun q => q.2) (rcf y0 s)) : ∀ (n : Nat) (x1 : Int) (x2 : Int) (x3 : Int) (s : vS), PR (W_l_X5_type_41) s (fun q => q) (l_X5_type_41 fr lr rcf n x1 x2 x3 s)
  := by
  intro n
  induction n with
  | zero => intro x1 x2 x3 s; exact PR.none
  | succ n ih =>
    intro x1 x2 x3 s
    unfold l_X5_type_41
    have Hs : Fr (W_l_X5_type_41) s s := Fr.rfl
    refine PR.ite (fun _ => ?_) (fun _ => ?_)
    · refine PR.bd (PR.pure Hs (fr_f_X5_is 17 s)) (fun r5 s2 Hs2 => ?_)
      refine PR.ite (fun _ => ?_) (fun _ => ?_)
      · exact PR.some Hs2
      · refine PR.bd (PR.call Hs2 (fr_f_X5_tag s2) (by decide +kernel)) (fun r11 s8 Hs8 => ?_)
        refine PR.bd (PR.call Hs8 (fr_f_X4_chain x2 2 x3 r11 s8) (by decide +kernel)) (fun r16 s13 Hs13 => ?_)
        exact PR.tail Hs13 (ih x1 x2 r16 s13)
    · exact PR.some Hs
def W_l_X5_type_97 : List Nat := []
theorem fr_l_X5_type_97 (fr : Nat) (lr : Nat) (rcf : RT_X5_type) (hrcf : ∀ (y0 : Int) (s : vS), PR W_f_X5_type s (fun q => q.2) (rcf y0 s)) : ∀ (n : Nat) (x2 : Int) (x3 : Int) (s : vS), PR (W_l_X5_type_97) s (fun q => q.2) (l_X5_type_97 fr lr rcf n x2 x3 s)
  := by
  intro n
  induction n with
  | zero => intro x2 x3 s; exact PR.none
  | succ n ih =>
    intro x2 x3 s
    unfold l_X5_type_97
    have Hs : Fr (W_l_X5_type_97) s s := Fr.rfl
    refine PR.ite (fun _ => ?_) (fun _ => ?_)
    · exact PR.some Hs
    · refine PR.bd (PR.pure Hs (fr_f_X4_next x3 s)) (fun r5 s2 Hs2 => ?_)
      refine PR.ite (fun _ => ?_) (fun _ => ?_)
      · exact PR.some Hs2
      · refine PR.bd (PR.pure Hs2 (fr_f_X4_next x3 s2)) (fun r11 s8 Hs8 => ?_)
        exact PR.tail Hs8 (ih x2 r11 s8)
def W_l_X5_type_126 : List Nat := [10001, 11998, 11999, 12002, 12003, 12004]
theorem fr_l_X5_type_126 (fr : Nat) (lr : Nat) (rcf : RT_X5_type) (hrcf : ∀ (y0 : Int) (s : vS), PR W_f_X5_type s (fun q => q.2) (rcf y0 s)) : ∀ (n : Nat) (x2 : Int) (x3 : Int) (s : vS), PR (W_l_X5_type_126) s (fun q => q) (l_X5_type_126 fr lr rcf n x2 x3 s)
  := by
  intro n
  induction n with
  | zero => intro x2 x3 s; exact PR.none
  | succ n ih =>
    intro x2 x3 s
    unfold l_X5_type_126
    have Hs : Fr (W_l_X5_type_126) s s := Fr.rfl
    refine PR.ite (fun _ => ?_) (fun _ => ?_)
    · refine PR.bd (PR.pure Hs (fr_f_X5_is 19 s)) (fun r5 s2 Hs2 => ?_)
      refine PR.ite (fun _ => ?_) (fun _ => ?_)
      · exact PR.some Hs2
      · refine PR.bd (PR.call Hs2 (fr_f_X5_limit s2) (by decide +kernel)) (fun r11 s8 Hs8 => ?_)
        refine PR.bd (PR.call Hs8 (fr_f_X4_chain x2 4 x3 r11 s8) (by decide +kernel)) (fun r16 s13 Hs13 => ?_)
        exact PR.tail Hs13 (ih x2 r16 s13)
    · exact PR.some Hs
def W_j_X5_type_88 : List Nat := [10001, 11998, 11999, 12002, 12003, 12004]
theorem fr_j_X5_type_88 (fr : Nat) (lr : Nat) (rcf : RT_X5_type) (hrcf : ∀ (y0 : Int) (s : vS), PR W_f_X5_type s (fun q => q.2) (rcf y0 s)) (x2 : Int) (s : vS) : PR (W_j_X5_type_88) s (fun q => q.2) (j_X5_type_88 fr lr rcf x2 s) := by
  unfold j_X5_type_88
  have Hs : Fr (W_j_X5_type_88) s s := Fr.rfl
  refine PR.bd (PR.pure Hs (fr_f_X4_limits x2 s)) (fun r4 s1 Hs1 => ?_)
  refine PR.lq_1 (PR.pure Hs1 (fr_l_X5_type_97 fr lr rcf hrcf FU x2 r4 s1)) (fun y6 s7 Hs7 => ?_)
  refine PR.lq_0 (PR.call Hs7 (fr_l_X5_type_126 fr lr rcf hrcf FU x2 y6 s7) (by decide +kernel)) (fun s10 Hs10 => ?_)
  exact PR.some Hs10
def W_j_X5_type_75 : List Nat := [10001, 11998, 11999, 12002, 12003, 12004]
theorem fr_j_X5_type_75 (fr : Nat) (lr : Nat) (rcf : RT_X5_type) (hrcf : ∀ (y0 : Int) (s : vS), PR W_f_X5_type s (fun q => q.2) (rcf y0 s)) (x1 : Int) (x2 : Int) (s : vS) : PR (W_j_X5_type_75) s (fun q => q.2) (j_X5_type_75 fr lr rcf x1 x2 s) := by
  unfold j_X5_type_75
  have Hs : Fr (W_j_X5_type_75) s s := Fr.rfl
  refine PR.ite (fun _ => ?_) (fun _ => ?_)
  · refine PR.bdv (PR.call Hs (fr_f_X5_base fr lr rcf hrcf x2 x1 s) (by decide +kernel)) (fun s2 Hs2 => ?_)
    exact PR.call Hs2 (fr_j_X5_type_88 fr lr rcf hrcf x2 s2) (by decide +kernel)
  · exact PR.call Hs (fr_j_X5_type_88 fr lr rcf hrcf x2 s) (by decide +kernel)
theorem fr_f_X5_type (fr : Nat) (lr : Nat) (rcf : RT_X5_type) (hrcf : ∀ (y0 : Int) (s : vS), PR W_f_X5_type s (fun q => q.2) (rcf y0 s)) (x1 : Int) (s : vS) : PR (W_f_X5_type) s (fun q => q.2) (f_X5_type fr lr rcf x1 s) := by
  unfold f_X5_type
  have Hs : Fr (W_f_X5_type) s s := Fr.rfl
  refine PR.bd (PR.call Hs (fr_f_X4_add 17 (gI s 12 2) s) (by decide +kernel)) (fun r4 s1 Hs1 => ?_)
  refine PR.ite (fun _ => ?_) (fun _ => ?_)
  · refine PR.ite (fun _ => ?_) (fun _ => ?_)
    · refine PR.bd (PR.call Hs1 (fr_f_X5_wrong 4 (gI s1 12 2) s1) (by decide +kernel)) (fun r13 s10 Hs10 => ?_)
      refine PR.lq_0 (PR.call Hs10 (fr_l_X5_type_41 fr lr rcf hrcf FU x1 r4 (-1) s10) (by decide +kernel)) (fun s15 Hs15 => ?_)
      exact PR.call Hs15 (fr_j_X5_type_75 fr lr rcf hrcf x1 r4 s15) (by decide +kernel)
    · refine PR.lq_0 (PR.call Hs1 (fr_l_X5_type_41 fr lr rcf hrcf FU x1 r4 (-1) s1) (by decide +kernel)) (fun s8 Hs8 => ?_)
      exact PR.call Hs8 (fr_j_X5_type_75 fr lr rcf hrcf x1 r4 s8) (by decide +kernel)
  · exact PR.some Hs1
theorem fr_d_X5_type : ∀ (d : Nat) (x1 : Int) (s : vS), PR W_f_X5_type s (fun q => q.2) (d_X5_type d x1 s)
  | 0, _, _ => PR.none
  | d + 1, x1, s => fr_f_X5_type _ _ _ (fr_d_X5_type d) x1 s
def W_l_X5_assignments_2 : List Nat := [10001, 10002, 10003, 10004, 11998, 11999, 12002, 12003, 12004]
theorem fr_j_X5_assignments_175 (rec : Int → vS → Option ((vS) ⊕ (Int × vS))) (hrec : ∀ (y0 : Int) (s : vS), PR (W_l_X5_assignments_2) s (Sum.elim (fun q => q) (fun q => q.2)) (rec y0 s)) (x1 : Int) (x3 : Int) (s : vS) : PR (W_l_X5_assignments_2) s (Sum.elim (fun q => q) (fun q => q.2)) (j_X5_assignments_175 rec x1 x3 s) := by
  unfold j_X5_assignments_175
  have Hs : Fr (W_l_X5_assignments_2) s s := Fr.rfl
  refine PR.ite (fun _ => ?_) (fun _ => ?_)
  · refine PR.stp (Fr.wI Hs (by decide +kernel)) (fun s5 Hs5 => ?_)
    exact PR.tail Hs5 (hrec x3 s5)
  · refine PR.bdv (PR.call Hs (fr_f_X4_set x1 8 x3 s) (by decide +kernel)) (fun s2 Hs2 => ?_)
    exact PR.tail Hs2 (hrec x3 s2)
theorem fr_j_X5_assignments_46 (rec : Int → vS → Option ((vS) ⊕ (Int × vS))) (hrec : ∀ (y0 : Int) (s : vS), PR (W_l_X5_assignments_2) s (Sum.elim (fun q => q) (fun q => q.2)) (rec y0 s)) (x1 : Int) (x2 : Int) (z1 : Int) (s : vS) : PR (W_l_X5_assignments_2) s (Sum.elim (fun q => q) (fun q => q.2)) (j_X5_assignments_46 rec x1 x2 z1 s) := by
  unfold j_X5_assignments_46
  have Hs : Fr (W_l_X5_assignments_2) s s := Fr.rfl
  refine PR.bd (PR.call Hs (fr_f_X4_add z1 (gI s 12 2) s) (by decide +kernel)) (fun r4 s1 Hs1 => ?_)
  refine PR.stp (Fr.wI Hs1 (by decide +kernel)) (fun s6 Hs6 => ?_)
  refine PR.ite (fun _ => ?_) (fun _ => ?_)
  · refine PR.stp (Fr.wI Hs6 (by decide +kernel)) (fun s9 Hs9 => ?_)
    refine PR.bd (PR.call Hs9 (fr_d_X5_type 128 0 s9) (by decide +kernel)) (fun r14 s11 Hs11 => ?_)
    refine PR.bdv (PR.call Hs11 (fr_f_X4_set r4 3 r14 s11) (by decide +kernel)) (fun s16 Hs16 => ?_)
    refine PR.bd (PR.call Hs16 (fr_f_X5_take 10 s16) (by decide +kernel)) (fun r22 s19 Hs19 => ?_)
    refine PR.ite (fun _ => ?_) (fun _ => ?_)
    · exact PR.tail Hs19 (fr_j_X5_assignments_175 rec hrec x1 r4 s19)
    · refine PR.bd (PR.call Hs19 (fr_f_X5_value s19) (by decide +kernel)) (fun r28 s25 Hs25 => ?_)
      refine PR.bdv (PR.call Hs25 (fr_f_X4_set r4 4 r28 s25) (by decide +kernel)) (fun s30 Hs30 => ?_)
      exact PR.tail Hs30 (fr_j_X5_assignments_175 rec hrec x1 r4 s30)
  · refine PR.bd (PR.pure Hs6 (fr_f_X5_is 15 s6)) (fun r36 s33 Hs33 => ?_)
    refine PR.ite (fun _ => ?_) (fun _ => ?_)
    · refine PR.stp (Fr.wI Hs33 (by decide +kernel)) (fun s39 Hs39 => ?_)
      refine PR.bd (PR.call Hs39 (fr_f_X5_take 10 s39) (by decide +kernel)) (fun r44 s41 Hs41 => ?_)
      refine PR.ite (fun _ => ?_) (fun _ => ?_)
      · exact PR.tail Hs41 (fr_j_X5_assignments_175 rec hrec x1 r4 s41)
      · refine PR.bd (PR.call Hs41 (fr_d_X5_type 128 0 s41) (by decide +kernel)) (fun r50 s47 Hs47 => ?_)
        refine PR.bdv (PR.call Hs47 (fr_f_X4_set r4 3 r50 s47) (by decide +kernel)) (fun s52 Hs52 => ?_)
        exact PR.tail Hs52 (fr_j_X5_assignments_175 rec hrec x1 r4 s52)
    · refine PR.bd (PR.call Hs33 (fr_f_X5_wrong 3 (gI s33 12 2) s33) (by decide +kernel)) (fun r58 s55 Hs55 => ?_)
      refine PR.gd ?_
      exact PR.some Hs55
theorem fr_j_X5_assignments_25 (rec : Int → vS → Option ((vS) ⊕ (Int × vS))) (hrec : ∀ (y0 : Int) (s : vS), PR (W_l_X5_assignments_2) s (Sum.elim (fun q => q) (fun q => q.2)) (rec y0 s)) (x1 : Int) (s : vS) : PR (W_l_X5_assignments_2) s (Sum.elim (fun q => q) (fun q => q.2)) (j_X5_assignments_25 rec x1 s) := by
  unfold j_X5_assignments_25
  have Hs : Fr (W_l_X5_assignments_2) s s := Fr.rfl
  refine PR.bd (PR.pure Hs (fr_f_X5_is 1 s)) (fun r4 s1 Hs1 => ?_)
  refine PR.ite (fun _ => ?_) (fun _ => ?_)
  · exact PR.tail Hs1 (fr_j_X5_assignments_46 rec hrec x1 r4 29 s1)
  · exact PR.tail Hs1 (fr_j_X5_assignments_46 rec hrec x1 r4 28 s1)
theorem fr_l_X5_assignments_2 : ∀ (n : Nat) (x1 : Int) (s : vS), PR (W_l_X5_assignments_2) s (Sum.elim (fun q => q) (fun q => q.2)) (l_X5_assignments_2 n x1 s)
  := by
  intro n
  induction n with
  | zero => intro x1 s; exact PR.none
  | succ n ih =>
    intro x1 s
    unfold l_X5_assignments_2
    have Hs : Fr (W_l_X5_assignments_2) s s := Fr.rfl
    refine PR.ite (fun _ => ?_) (fun _ => ?_)
    · refine PR.bd (PR.pure Hs (fr_f_X5_is 1 s)) (fun r5 s2 Hs2 => ?_)
      refine PR.ite (fun _ => ?_) (fun _ => ?_)
      · refine PR.bd (PR.pure Hs2 (fr_f_X5_is 0 s2)) (fun r11 s8 Hs8 => ?_)
        refine PR.ite (fun _ => ?_) (fun _ => ?_)
        · exact PR.some Hs8
        · exact PR.tail Hs8 (fr_j_X5_assignments_25 (l_X5_assignments_2 n) ih x1 s8)
      · exact PR.tail Hs2 (fr_j_X5_assignments_25 (l_X5_assignments_2 n) ih x1 s2)
    · exact PR.some Hs
def W_j_X5_assignments_207 : List Nat := []
theorem fr_j_X5_assignments_207 (s : vS) : PR (W_j_X5_assignments_207) s (fun q => q.2) (j_X5_assignments_207 s) := by
  unfold j_X5_assignments_207
  have Hs : Fr (W_j_X5_assignments_207) s s := Fr.rfl
  refine PR.ite (fun _ => ?_) (fun _ => ?_)
  · exact PR.some Hs
  · exact PR.some Hs
def W_f_X5_assignments : List Nat := [10001, 10002, 10003, 10004, 11998, 11999, 12002, 12003, 12004]
theorem fr_f_X5_assignments (s : vS) : PR (W_f_X5_assignments) s (fun q => q.2) (f_X5_assignments s) := by
  unfold f_X5_assignments
  have Hs : Fr (W_f_X5_assignments) s s := Fr.rfl
  refine PR.lqs_0 (PR.call Hs (fr_l_X5_assignments_2 FU (-1) s) (by decide +kernel)) (fun s1 Hs1 => ?_) (fun q Hq => PR.some Hq)
  exact PR.pure Hs1 (fr_j_X5_assignments_207 s1)
def W_f_X3_size : List Nat := []
theorem fr_f_X3_size (s : vS) : PR (W_f_X3_size) s (fun q => q.2) (f_X3_size s) := by
  unfold f_X3_size
  have Hs : Fr (W_f_X3_size) s s := Fr.rfl
  exact PR.some Hs
def W_f_X5_read : List Nat := [10001, 10002, 10003, 10004, 10005, 11998, 11999, 12000, 12002, 12003, 12004]
theorem fr_f_X5_read (s : vS) : PR (W_f_X5_read) s (fun q => q.2) (f_X5_read s) := by
  unfold f_X5_read
  have Hs : Fr (W_f_X5_read) s s := Fr.rfl
  refine PR.stp (Fr.wR Hs (by decide +kernel)) (fun s1 Hs1 => ?_)
  refine PR.bdv (PR.call Hs1 (fr_f_X4_clear s1) (by decide +kernel)) (fun s3 Hs3 => ?_)
  refine PR.stp (Fr.wI Hs3 (by decide +kernel)) (fun s6 Hs6 => ?_)
  refine PR.stp (Fr.wI Hs6 (by decide +kernel)) (fun s8 Hs8 => ?_)
  refine PR.stp (Fr.wI Hs8 (by decide +kernel)) (fun s10 Hs10 => ?_)
  refine PR.bd (PR.call Hs10 (fr_f_X5_heading s10) (by decide +kernel)) (fun r15 s12 Hs12 => ?_)
  refine PR.ite (fun _ => ?_) (fun _ => ?_)
  · exact PR.some Hs12
  · refine PR.bd (PR.call Hs12 (fr_f_X5_assignments s12) (by decide +kernel)) (fun r21 s18 Hs18 => ?_)
    refine PR.ite (fun _ => ?_) (fun _ => ?_)
    · exact PR.some Hs18
    · refine PR.bd (PR.call Hs18 (fr_f_X5_take 120 s18) (by decide +kernel)) (fun r27 s24 Hs24 => ?_)
      refine PR.ite (fun _ => ?_) (fun _ => ?_)
      · exact PR.some Hs24
      · refine PR.gd ?_
        refine PR.bd (PR.pure Hs24 (fr_f_X3_size s24)) (fun r34 s31 Hs31 => ?_)
        refine PR.ite (fun _ => ?_) (fun _ => ?_)
        · exact PR.some Hs31
        · refine PR.bd (PR.call Hs31 (fr_f_X5_unfit s31) (by decide +kernel)) (fun r40 s37 Hs37 => ?_)
          refine PR.ite (fun _ => ?_) (fun _ => ?_)
          · exact PR.some Hs37
          · exact PR.some Hs37
def W_f_X5_fault : List Nat := []
theorem fr_f_X5_fault (s : vS) : PR (W_f_X5_fault) s (fun q => q.2) (f_X5_fault s) := by
  unfold f_X5_fault
  have Hs : Fr (W_f_X5_fault) s s := Fr.rfl
  exact PR.some Hs
def W_f_X5_place : List Nat := []
theorem fr_f_X5_place (s : vS) : PR (W_f_X5_place) s (fun q => q.2) (f_X5_place s) := by
  unfold f_X5_place
  have Hs : Fr (W_f_X5_place) s s := Fr.rfl
  exact PR.some Hs
def W_f_X4_size : List Nat := []
theorem fr_f_X4_size (s : vS) : PR (W_f_X4_size) s (fun q => q.2) (f_X4_size s) := by
  unfold f_X4_size
  have Hs : Fr (W_f_X4_size) s s := Fr.rfl
  exact PR.some Hs
def W_f_X6_grown : List Nat := []
theorem fr_f_X6_grown (p0 : Nat) (x1 : Int) (s : vS) : PR (W_f_X6_grown) s (fun q => q.2) (f_X6_grown p0 x1 s) := by
  unfold f_X6_grown
  have Hs : Fr (W_f_X6_grown) s s := Fr.rfl
  refine PR.ite (fun _ => ?_) (fun _ => ?_)
  · refine PR.gd ?_
    refine PR.stp (Fr.wAT Hs (by decide)) (fun s3 Hs3 => ?_)
    refine PR.gd ?_
    refine PR.stp (Fr.wcpT Hs3 (by decide)) (fun s6 Hs6 => ?_)
    exact PR.some Hs6
  · exact PR.some Hs
def W_l_X9_clear_7 (o : Nat) : List Nat := [1000 * (o + 1) + 999]
theorem fr_l_X9_clear_7 (o : Nat) : ∀ (n : Nat) (x2 : Int) (s : vS), PR (W_l_X9_clear_7 o) s (fun q => q) (l_X9_clear_7 o n x2 s)
  := by
  intro n
  induction n with
  | zero => intro x2 s; exact PR.none
  | succ n ih =>
    intro x2 s
    unfold l_X9_clear_7
    have Hs : Fr (W_l_X9_clear_7 o) s s := Fr.rfl
    refine PR.ite (fun _ => ?_) (fun _ => ?_)
    · exact PR.some Hs
    · refine PR.ite (fun _ => ?_) (fun _ => ?_)
      · exact PR.some Hs
      · refine PR.gd ?_
        refine PR.stp (Fr.wE Hs (by simp [W_l_X9_clear_7])) (fun s4 Hs4 => ?_)
        refine PR.vl (fun y6 => ?_)
        exact PR.tail Hs4 (ih y6 s4)
def W_f_X9_clear (o : Nat) : List Nat := [1000 * (o + 1) + 999, 1000 * o + 0, 1000 * o + 3]
theorem fr_f_X9_clear (o : Nat) (s : vS) : PR (W_f_X9_clear o) s (fun q => q) (f_X9_clear o s) := by
  unfold f_X9_clear
  have Hs : Fr (W_f_X9_clear o) s s := Fr.rfl
  refine PR.stp (Fr.wR Hs (by simp [W_f_X9_clear])) (fun s1 Hs1 => ?_)
  refine PR.lq_0 (PR.call Hs1 (fr_l_X9_clear_7 o FU 0 s1) (by intro c hc; simp only [W_l_X9_clear_7, W_f_X9_clear, List.mem_cons, List.not_mem_nil, or_false] at hc ⊢; omega)) (fun s3 Hs3 => ?_)
  refine PR.stp (Fr.wI Hs3 (by simp [W_f_X9_clear])) (fun s5 Hs5 => ?_)
  exact PR.some Hs5
def W_f_X4_kind : List Nat := []
theorem fr_f_X4_kind (x1 : Int) (s : vS) : PR (W_f_X4_kind) s (fun q => q.2) (f_X4_kind x1 s) := by
  unfold f_X4_kind
  have Hs : Fr (W_f_X4_kind) s s := Fr.rfl
  refine PR.bd (PR.pure Hs (fr_f_X4_at x1 0 s)) (fun r4 s1 Hs1 => ?_)
  exact PR.some Hs1
def W_f_X4_lexeme : List Nat := []
theorem fr_f_X4_lexeme (x1 : Int) (s : vS) : PR (W_f_X4_lexeme) s (fun q => q.2) (f_X4_lexeme x1 s) := by
  unfold f_X4_lexeme
  have Hs : Fr (W_f_X4_lexeme) s s := Fr.rfl
  refine PR.bd (PR.pure Hs (fr_f_X4_at x1 1 s)) (fun r4 s1 Hs1 => ?_)
  exact PR.some Hs1
def W_l_X2_compare_3 : List Nat := []
theorem fr_l_X2_compare_3 (o : Nat) (p3 : Nat) : ∀ (n : Nat) (x1 : Int) (x2 : Int) (x4 : Int) (x5 : Int) (x6 : Int) (s : vS), PR (W_l_X2_compare_3) s (fun q => q.2) (l_X2_compare_3 o p3 n x1 x2 x4 x5 x6 s)
  := by
  intro n
  induction n with
  | zero => intro x1 x2 x4 x5 x6 s; exact PR.none
  | succ n ih =>
    intro x1 x2 x4 x5 x6 s
    unfold l_X2_compare_3
    have Hs : Fr (W_l_X2_compare_3) s s := Fr.rfl
    refine PR.ite (fun _ => ?_) (fun _ => ?_)
    · exact PR.some Hs
    · refine PR.ite (fun _ => ?_) (fun _ => ?_)
      · exact PR.some Hs
      · refine PR.gd ?_
        refine PR.gd ?_
        refine PR.ite (fun _ => ?_) (fun _ => ?_)
        · refine PR.vl (fun y6 => ?_)
          exact PR.tail Hs (ih x1 x2 x4 x5 y6 s)
        · exact PR.some Hs
def W_j_X2_compare_112 : List Nat := []
theorem fr_j_X2_compare_112 (o : Nat) (p3 : Nat) (x7 : Int) (x8 : Int) (s : vS) : PR (W_j_X2_compare_112) s (fun q => q.2) (j_X2_compare_112 o p3 x7 x8 s) := by
  unfold j_X2_compare_112
  have Hs : Fr (W_j_X2_compare_112) s s := Fr.rfl
  refine PR.ite (fun _ => ?_) (fun _ => ?_)
  · refine PR.ite (fun _ => ?_) (fun _ => ?_)
    · exact PR.some Hs
    · exact PR.some Hs
  · exact PR.some Hs
def W_j_X2_compare_79 : List Nat := []
theorem fr_j_X2_compare_79 (o : Nat) (p3 : Nat) (x1 : Int) (x4 : Int) (x6 : Int) (x7 : Int) (z0 : Int) (s : vS) : PR (W_j_X2_compare_79) s (fun q => q.2) (j_X2_compare_79 o p3 x1 x4 x6 x7 z0 s) := by
  unfold j_X2_compare_79
  have Hs : Fr (W_j_X2_compare_79) s s := Fr.rfl
  refine PR.ite (fun _ => ?_) (fun _ => ?_)
  · exact PR.pure Hs (fr_j_X2_compare_112 o p3 x7 z0 s)
  · refine PR.ite (fun _ => ?_) (fun _ => ?_)
    · exact PR.pure Hs (fr_j_X2_compare_112 o p3 x7 z0 s)
    · refine PR.bd (PR.pure Hs (fr_f_X2_at o (w32 (x1 + x6)) s)) (fun r6 s3 Hs3 => ?_)
      refine PR.bd (PR.pure Hs3 (fr_f_X2_at p3 (w32 (x4 + x6)) s3)) (fun r11 s8 Hs8 => ?_)
      exact PR.some Hs8
def W_j_X2_compare_62 : List Nat := []
theorem fr_j_X2_compare_62 (o : Nat) (p3 : Nat) (x1 : Int) (x4 : Int) (x5 : Int) (x6 : Int) (z0 : Int) (s : vS) : PR (W_j_X2_compare_62) s (fun q => q.2) (j_X2_compare_62 o p3 x1 x4 x5 x6 z0 s) := by
  unfold j_X2_compare_62
  have Hs : Fr (W_j_X2_compare_62) s s := Fr.rfl
  refine PR.ite (fun _ => ?_) (fun _ => ?_)
  · exact PR.pure Hs (fr_j_X2_compare_79 o p3 x1 x4 x6 z0 0 s)
  · exact PR.pure Hs (fr_j_X2_compare_79 o p3 x1 x4 x6 z0 1 s)
def W_j_X2_compare_49 : List Nat := []
theorem fr_j_X2_compare_49 (o : Nat) (p3 : Nat) (x1 : Int) (x2 : Int) (x4 : Int) (x5 : Int) (x6 : Int) (s : vS) : PR (W_j_X2_compare_49) s (fun q => q.2) (j_X2_compare_49 o p3 x1 x2 x4 x5 x6 s) := by
  unfold j_X2_compare_49
  have Hs : Fr (W_j_X2_compare_49) s s := Fr.rfl
  refine PR.ite (fun _ => ?_) (fun _ => ?_)
  · exact PR.pure Hs (fr_j_X2_compare_62 o p3 x1 x4 x5 x6 0 s)
  · exact PR.pure Hs (fr_j_X2_compare_62 o p3 x1 x4 x5 x6 1 s)
def W_f_X2_compare : List Nat := []
theorem fr_f_X2_compare (o : Nat) (x1 : Int) (x2 : Int) (p3 : Nat) (x4 : Int) (x5 : Int) (s : vS) : PR (W_f_X2_compare) s (fun q => q.2) (f_X2_compare o x1 x2 p3 x4 x5 s) := by
  unfold f_X2_compare
  have Hs : Fr (W_f_X2_compare) s s := Fr.rfl
  refine PR.lq_1 (PR.pure Hs (fr_l_X2_compare_3 o p3 FU x1 x2 x4 x5 0 s)) (fun y1 s2 Hs2 => ?_)
  exact PR.pure Hs2 (fr_j_X2_compare_49 o p3 x1 x2 x4 x5 y1 s2)
def W_f_X3_isLike : List Nat := []
theorem fr_f_X3_isLike (x1 : Int) (x2 : Int) (s : vS) : PR (W_f_X3_isLike) s (fun q => q.2) (f_X3_isLike x1 x2 s) := by
  unfold f_X3_isLike
  have Hs : Fr (W_f_X3_isLike) s s := Fr.rfl
  refine PR.gd ?_
  refine PR.gd ?_
  refine PR.gd ?_
  refine PR.gd ?_
  refine PR.ite (fun _ => ?_) (fun _ => ?_)
  · refine PR.gd ?_
    refine PR.gd ?_
    refine PR.gd ?_
    refine PR.gd ?_
    refine PR.gd ?_
    refine PR.gd ?_
    refine PR.bd (PR.pure Hs (fr_f_X2_compare (gR s 5 2) (gE s 8 x1) (gE s 9 x1) (gR s 5 2) (gE s 8 x2) (gE s 9 x2) s)) (fun r15 s12 Hs12 => ?_)
    refine PR.ite (fun _ => ?_) (fun _ => ?_)
    · exact PR.some Hs12
    · exact PR.some Hs12
  · exact PR.some Hs
def W_l_X9_slot_11 : List Nat := []
theorem fr_l_X9_slot_11 (o : Nat) : ∀ (n : Nat) (x1 : Int) (x2 : Int) (x3 : Int) (s : vS), PR (W_l_X9_slot_11) s (fun q => q.2) (l_X9_slot_11 o n x1 x2 x3 s)
  := by
  intro n
  induction n with
  | zero => intro x1 x2 x3 s; exact PR.none
  | succ n ih =>
    intro x1 x2 x3 s
    unfold l_X9_slot_11
    have Hs : Fr (W_l_X9_slot_11) s s := Fr.rfl
    refine PR.gd ?_
    refine PR.bd (PR.pure Hs (fr_f_X3_end x1 s)) (fun r5 s2 Hs2 => ?_)
    refine PR.ite (fun _ => ?_) (fun _ => ?_)
    · exact PR.some Hs2
    · refine PR.gd ?_
      refine PR.bdo (PR.pure Hs2 (fr_f_X3_text s2)) (fun r12 s9 Hs9 => ?_)
      refine PR.gd ?_
      refine PR.bd (PR.pure Hs9 (fr_f_X2_at r12 x3 s9)) (fun r17 s14 Hs14 => ?_)
      refine PR.vl (fun y19 => ?_)
      refine PR.vl (fun y22 => ?_)
      exact PR.tail Hs14 (ih x1 y19 y22 s14)
def W_l_X9_slot_61 : List Nat := []
theorem fr_l_X9_slot_61 (o : Nat) : ∀ (n : Nat) (x1 : Int) (x3 : Int) (s : vS), PR (W_l_X9_slot_61) s (fun q => q.2) (l_X9_slot_61 o n x1 x3 s)
  := by
  intro n
  induction n with
  | zero => intro x1 x3 s; exact PR.none
  | succ n ih =>
    intro x1 x3 s
    unfold l_X9_slot_61
    have Hs : Fr (W_l_X9_slot_61) s s := Fr.rfl
    refine PR.gd ?_
    refine PR.ite (fun _ => ?_) (fun _ => ?_)
    · exact PR.some Hs
    · refine PR.gd ?_
      refine PR.gd ?_
      refine PR.bd (PR.pure Hs (fr_f_X3_isLike (w32 ((gE s (o + 1) x3) - 1)) x1 s)) (fun r8 s5 Hs5 => ?_)
      refine PR.ite (fun _ => ?_) (fun _ => ?_)
      · refine PR.vl (fun y11 => ?_)
        exact PR.tail Hs5 (ih x1 y11 s5)
      · exact PR.some Hs5
def W_f_X9_slot : List Nat := []
theorem fr_f_X9_slot (o : Nat) (x1 : Int) (s : vS) : PR (W_f_X9_slot) s (fun q => q.2) (f_X9_slot o x1 s) := by
  unfold f_X9_slot
  have Hs : Fr (W_f_X9_slot) s s := Fr.rfl
  refine PR.gd ?_
  refine PR.bd (PR.pure Hs (fr_f_X3_start x1 s)) (fun r5 s2 Hs2 => ?_)
  refine PR.lq_1 (PR.pure Hs2 (fr_l_X9_slot_11 o FU x1 0 r5 s2)) (fun y7 s8 Hs8 => ?_)
  refine PR.vl (fun y11 => ?_)
  refine PR.lq_1 (PR.pure Hs8 (fr_l_X9_slot_61 o FU x1 y11 s8)) (fun y14 s15 Hs15 => ?_)
  exact PR.some Hs15
def W_l_X9_grow_32 (o : Nat) : List Nat := [1000 * (o + 1) + 999, 1000 * (o + 2) + 999]
theorem fr_l_X9_grow_32 (o : Nat) : ∀ (n : Nat) (x3 : Int) (s : vS), PR (W_l_X9_grow_32 o) s (fun q => q) (l_X9_grow_32 o n x3 s)
  := by
  intro n
  induction n with
  | zero => intro x3 s; exact PR.none
  | succ n ih =>
    intro x3 s
    unfold l_X9_grow_32
    have Hs : Fr (W_l_X9_grow_32 o) s s := Fr.rfl
    refine PR.ite (fun _ => ?_) (fun _ => ?_)
    · exact PR.some Hs
    · refine PR.gd ?_
      refine PR.ite (fun _ => ?_) (fun _ => ?_)
      · refine PR.vl (fun y4 => ?_)
        exact PR.tail Hs (ih y4 s)
      · refine PR.gd ?_
        refine PR.bd (PR.pure Hs (fr_f_X9_slot o (w32 ((gE s 199 x3) - 1)) s)) (fun r11 s8 Hs8 => ?_)
        refine PR.stp (Fr.wmT Hs8) (fun s13 Hs13 => ?_)
        refine PR.gd ?_
        refine PR.gd ?_
        refine PR.stp (Fr.wE Hs13 (by simp [W_l_X9_grow_32])) (fun s17 Hs17 => ?_)
        refine PR.gd ?_
        refine PR.gd ?_
        refine PR.stp (Fr.wE Hs17 (by simp [W_l_X9_grow_32])) (fun s21 Hs21 => ?_)
        refine PR.vl (fun y23 => ?_)
        exact PR.tail Hs21 (ih y23 s21)
def W_f_X9_grow (o : Nat) : List Nat := [1000 * (o + 1) + 998, 1000 * (o + 1) + 999, 1000 * (o + 2) + 998, 1000 * (o + 2) + 999]
theorem fr_f_X9_grow (o : Nat) (s : vS) : PR (W_f_X9_grow o) s (fun q => q) (f_X9_grow o s) := by
  unfold f_X9_grow
  have Hs : Fr (W_f_X9_grow o) s s := Fr.rfl
  refine PR.gd ?_
  refine PR.stp (Fr.wAT Hs (by decide)) (fun s2 Hs2 => ?_)
  refine PR.gd ?_
  refine PR.stp (Fr.wswT Hs2 (by decide) (by simp [W_f_X9_grow]) (by simp [W_f_X9_grow])) (fun s5 Hs5 => ?_)
  refine PR.gd ?_
  refine PR.stp (Fr.wAT Hs5 (by decide)) (fun s8 Hs8 => ?_)
  refine PR.gd ?_
  refine PR.stp (Fr.wswT Hs8 (by decide) (by simp [W_f_X9_grow]) (by simp [W_f_X9_grow])) (fun s11 Hs11 => ?_)
  refine PR.lq_0 (PR.call Hs11 (fr_l_X9_grow_32 o FU 0 s11) (by intro c hc; simp only [W_l_X9_grow_32, W_f_X9_grow, List.mem_cons, List.not_mem_nil, or_false] at hc ⊢; omega)) (fun s13 Hs13 => ?_)
  refine PR.stp (Fr.wrs Hs13) (fun s15 Hs15 => ?_)
  exact PR.some Hs15
def W_f_X9_put (o : Nat) : List Nat := [1000 * (o + 1) + 998, 1000 * (o + 1) + 999, 1000 * (o + 2) + 998, 1000 * (o + 2) + 999, 1000 * o + 3]
theorem fr_f_X9_put (o : Nat) (x1 : Int) (x2 : Int) (s : vS) : PR (W_f_X9_put o) s (fun q => q.2) (f_X9_put o x1 x2 s) := by
  unfold f_X9_put
  have Hs : Fr (W_f_X9_put o) s s := Fr.rfl
  refine PR.bd (PR.pure Hs (fr_f_X9_slot o x1 s)) (fun r4 s1 Hs1 => ?_)
  refine PR.gd ?_
  refine PR.ite (fun _ => ?_) (fun _ => ?_)
  · refine PR.gd ?_
    refine PR.stp (Fr.wE Hs1 (by simp [W_f_X9_put])) (fun s9 Hs9 => ?_)
    refine PR.gd ?_
    refine PR.stp (Fr.wE Hs9 (by simp [W_f_X9_put])) (fun s12 Hs12 => ?_)
    refine PR.stp (Fr.wI Hs12 (by simp [W_f_X9_put])) (fun s14 Hs14 => ?_)
    refine PR.ite (fun _ => ?_) (fun _ => ?_)
    · exact PR.some Hs14
    · refine PR.bdv (PR.call Hs14 (fr_f_X9_grow o s14) (by intro c hc; simp only [W_f_X9_grow, W_f_X9_put, List.mem_cons, List.not_mem_nil, or_false] at hc ⊢; omega)) (fun s17 Hs17 => ?_)
      exact PR.some Hs17
  · exact PR.some Hs1
def W_j_X6_blame_22 : List Nat := [13020, 13021]
theorem fr_j_X6_blame_22 (x1 : Int) (x2 : Int) (s : vS) : PR (W_j_X6_blame_22) s (fun q => q) (j_X6_blame_22 x1 x2 s) := by
  unfold j_X6_blame_22
  have Hs : Fr (W_j_X6_blame_22) s s := Fr.rfl
  refine PR.gd ?_
  refine PR.bd (PR.pure Hs (fr_f_X3_start x2 s)) (fun r5 s2 Hs2 => ?_)
  refine PR.stp (Fr.wI Hs2 (by decide +kernel)) (fun s7 Hs7 => ?_)
  refine PR.stp (Fr.wI Hs7 (by decide +kernel)) (fun s9 Hs9 => ?_)
  exact PR.some Hs9
def W_f_X6_blame : List Nat := [13020, 13021]
theorem fr_f_X6_blame (x1 : Int) (x2 : Int) (s : vS) : PR (W_f_X6_blame) s (fun q => q) (f_X6_blame x1 x2 s) := by
  unfold f_X6_blame
  have Hs : Fr (W_f_X6_blame) s s := Fr.rfl
  refine PR.ite (fun _ => ?_) (fun _ => ?_)
  · exact PR.call Hs (fr_j_X6_blame_22 x1 x2 s) (by decide +kernel)
  · refine PR.gd ?_
    refine PR.bd (PR.pure Hs (fr_f_X3_start x2 s)) (fun r6 s3 Hs3 => ?_)
    refine PR.ite (fun _ => ?_) (fun _ => ?_)
    · refine PR.stp (Fr.wI Hs3 (by decide +kernel)) (fun s9 Hs9 => ?_)
      exact PR.some Hs9
    · exact PR.call Hs3 (fr_j_X6_blame_22 x1 x2 s3) (by decide +kernel)
def W_l_X6_assigned_8 : List Nat := [13020, 13021, 19003, 20998, 20999, 21998, 21999, 22003, 23998, 23999, 24998, 24999]
theorem fr_j_X6_assigned_67 (rec : Int → vS → Option (vS)) (hrec : ∀ (y0 : Int) (s : vS), PR (W_l_X6_assigned_8) s (fun q => q) (rec y0 s)) (x1 : Int) (s : vS) : PR (W_l_X6_assigned_8) s (fun q => q) (j_X6_assigned_67 rec x1 s) := by
  unfold j_X6_assigned_67
  have Hs : Fr (W_l_X6_assigned_8) s s := Fr.rfl
  refine PR.bd (PR.pure Hs (fr_f_X4_next x1 s)) (fun r4 s1 Hs1 => ?_)
  exact PR.tail Hs1 (hrec r4 s1)
theorem fr_j_X6_assigned_37 (rec : Int → vS → Option (vS)) (hrec : ∀ (y0 : Int) (s : vS), PR (W_l_X6_assigned_8) s (fun q => q) (rec y0 s)) (x1 : Int) (zo0 : Nat) (hzo : zo0 = 19 ∨ zo0 = 22) (s : vS) : PR (W_l_X6_assigned_8) s (fun q => q) (j_X6_assigned_37 rec x1 zo0 s) := by
  unfold j_X6_assigned_37
  have Hs : Fr (W_l_X6_assigned_8) s s := Fr.rfl
  rcases hzo with rfl | rfl
  · refine PR.bd (PR.pure Hs (fr_f_X4_lexeme x1 s)) (fun r4 s1 Hs1 => ?_)
    refine PR.bd (PR.call Hs1 (fr_f_X9_put 19 r4 x1 s1) (by decide +kernel)) (fun r9 s6 Hs6 => ?_)
    refine PR.ite (fun _ => ?_) (fun _ => ?_)
    · refine PR.bd (PR.pure Hs6 (fr_f_X4_lexeme x1 s6)) (fun r15 s12 Hs12 => ?_)
      refine PR.bdv (PR.call Hs12 (fr_f_X6_blame 5 r15 s12) (by decide +kernel)) (fun s17 Hs17 => ?_)
      exact PR.tail Hs17 (fr_j_X6_assigned_67 rec hrec x1 s17)
    · exact PR.tail Hs6 (fr_j_X6_assigned_67 rec hrec x1 s6)
  · refine PR.bd (PR.pure Hs (fr_f_X4_lexeme x1 s)) (fun r4 s1 Hs1 => ?_)
    refine PR.bd (PR.call Hs1 (fr_f_X9_put 22 r4 x1 s1) (by decide +kernel)) (fun r9 s6 Hs6 => ?_)
    refine PR.ite (fun _ => ?_) (fun _ => ?_)
    · refine PR.bd (PR.pure Hs6 (fr_f_X4_lexeme x1 s6)) (fun r15 s12 Hs12 => ?_)
      refine PR.bdv (PR.call Hs12 (fr_f_X6_blame 5 r15 s12) (by decide +kernel)) (fun s17 Hs17 => ?_)
      exact PR.tail Hs17 (fr_j_X6_assigned_67 rec hrec x1 s17)
    · exact PR.tail Hs6 (fr_j_X6_assigned_67 rec hrec x1 s6)
theorem fr_l_X6_assigned_8 : ∀ (n : Nat) (x1 : Int) (s : vS), PR (W_l_X6_assigned_8) s (fun q => q) (l_X6_assigned_8 n x1 s)
  := by
  intro n
  induction n with
  | zero => intro x1 s; exact PR.none
  | succ n ih =>
    intro x1 s
    unfold l_X6_assigned_8
    have Hs : Fr (W_l_X6_assigned_8) s s := Fr.rfl
    refine PR.ite (fun _ => ?_) (fun _ => ?_)
    · exact PR.some Hs
    · refine PR.bd (PR.pure Hs (fr_f_X4_kind x1 s)) (fun r5 s2 Hs2 => ?_)
      refine PR.ite (fun _ => ?_) (fun _ => ?_)
      · exact PR.tail Hs2 (fr_j_X6_assigned_37 (l_X6_assigned_8 n) ih x1 19 (by decide) s2)
      · exact PR.tail Hs2 (fr_j_X6_assigned_37 (l_X6_assigned_8 n) ih x1 22 (by decide) s2)
def W_f_X6_assigned : List Nat := [13020, 13021, 19003, 20998, 20999, 21998, 21999, 22003, 23998, 23999, 24998, 24999]
theorem fr_f_X6_assigned (s : vS) : PR (W_f_X6_assigned) s (fun q => q.2) (f_X6_assigned s) := by
  unfold f_X6_assigned
  have Hs : Fr (W_f_X6_assigned) s s := Fr.rfl
  refine PR.vl (fun y1 => ?_)
  refine PR.lq_0 (PR.call Hs (fr_l_X6_assigned_8 FU y1 s) (by decide +kernel)) (fun s4 Hs4 => ?_)
  exact PR.some Hs4
def W_f_X6_isType : List Nat := []
theorem fr_f_X6_isType (x1 : Int) (s : vS) : PR (W_f_X6_isType) s (fun q => q.2) (f_X6_isType x1 s) := by
  unfold f_X6_isType
  have Hs : Fr (W_f_X6_isType) s s := Fr.rfl
  refine PR.bd (PR.pure Hs (fr_f_X4_kind x1 s)) (fun r4 s1 Hs1 => ?_)
  refine PR.ite (fun _ => ?_) (fun _ => ?_)
  · exact PR.some Hs1
  · exact PR.some Hs1
def W_f_X4_parts : List Nat := []
theorem fr_f_X4_parts (x1 : Int) (s : vS) : PR (W_f_X4_parts) s (fun q => q.2) (f_X4_parts x1 s) := by
  unfold f_X4_parts
  have Hs : Fr (W_f_X4_parts) s s := Fr.rfl
  refine PR.bd (PR.pure Hs (fr_f_X4_at x1 3 s)) (fun r4 s1 Hs1 => ?_)
  exact PR.some Hs1
def W_j_X7_add_40 (o : Nat) : List Nat := [1000 * (o + 1) + 999, 1000 * o + 1]
theorem fr_j_X7_add_40 (o : Nat) (x1 : Int) (s : vS) : PR (W_j_X7_add_40 o) s (fun q => q) (j_X7_add_40 o x1 s) := by
  unfold j_X7_add_40
  have Hs : Fr (W_j_X7_add_40 o) s s := Fr.rfl
  refine PR.gd ?_
  refine PR.stp (Fr.wE Hs (by simp [W_j_X7_add_40])) (fun s2 Hs2 => ?_)
  refine PR.stp (Fr.wI Hs2 (by simp [W_j_X7_add_40])) (fun s4 Hs4 => ?_)
  exact PR.some Hs4
def W_f_X7_add (o : Nat) : List Nat := [1000 * (o + 1) + 998, 1000 * (o + 1) + 999, 1000 * o + 1]
theorem fr_f_X7_add (o : Nat) (x1 : Int) (s : vS) : PR (W_f_X7_add o) s (fun q => q) (f_X7_add o x1 s) := by
  unfold f_X7_add
  have Hs : Fr (W_f_X7_add o) s s := Fr.rfl
  refine PR.ite (fun _ => ?_) (fun _ => ?_)
  · refine PR.gd ?_
    refine PR.stp (Fr.wAT Hs (by decide)) (fun s3 Hs3 => ?_)
    refine PR.gd ?_
    refine PR.stp (Fr.wcpT Hs3 (by decide)) (fun s6 Hs6 => ?_)
    refine PR.gd ?_
    refine PR.stp (Fr.wswT Hs6 (by decide) (by simp [W_f_X7_add]) (by simp [W_f_X7_add])) (fun s9 Hs9 => ?_)
    refine PR.stp (Fr.wrs Hs9) (fun s11 Hs11 => ?_)
    exact PR.call Hs11 (fr_j_X7_add_40 o x1 s11) (by intro c hc; simp only [W_j_X7_add_40, W_f_X7_add, List.mem_cons, List.not_mem_nil, or_false] at hc ⊢; omega)
  · exact PR.call Hs (fr_j_X7_add_40 o x1 s) (by intro c hc; simp only [W_j_X7_add_40, W_f_X7_add, List.mem_cons, List.not_mem_nil, or_false] at hc ⊢; omega)
def W_l_X7_grow_6 (o : Nat) : List Nat := [1000 * (o + 1) + 999]
theorem fr_l_X7_grow_6 (o : Nat) : ∀ (n : Nat) (x1 : Int) (x5 : Int) (x7 : Int) (s : vS), PR (W_l_X7_grow_6 o) s (fun q => q.2) (l_X7_grow_6 o n x1 x5 x7 s)
  := by
  intro n
  induction n with
  | zero => intro x1 x5 x7 s; exact PR.none
  | succ n ih =>
    intro x1 x5 x7 s
    unfold l_X7_grow_6
    have Hs : Fr (W_l_X7_grow_6 o) s s := Fr.rfl
    refine PR.ite (fun _ => ?_) (fun _ => ?_)
    · exact PR.some Hs
    · refine PR.gd ?_
      refine PR.vl (fun y3 => ?_)
      refine PR.gd ?_
      refine PR.stp (Fr.wE Hs (by simp [W_l_X7_grow_6])) (fun s7 Hs7 => ?_)
      refine PR.vl (fun y9 => ?_)
      refine PR.vl (fun y12 => ?_)
      exact PR.tail Hs7 (ih x1 y9 y12 s7)
def W_f_X7_grow (o : Nat) : List Nat := [1000 * (o + 1) + 998, 1000 * (o + 1) + 999, 1000 * o + 1]
theorem fr_f_X7_grow (o : Nat) (x1 : Int) (x3 : Int) (s : vS) : PR (W_f_X7_grow o) s (fun q => q) (f_X7_grow o x1 x3 s) := by
  unfold f_X7_grow
  have Hs : Fr (W_f_X7_grow o) s s := Fr.rfl
  refine PR.lq_1 (PR.call Hs (fr_l_X7_grow_6 o FU x1 x3 0 s) (by intro c hc; simp only [W_l_X7_grow_6, W_f_X7_grow, List.mem_cons, List.not_mem_nil, or_false] at hc ⊢; omega)) (fun y1 s2 Hs2 => ?_)
  refine PR.ite (fun _ => ?_) (fun _ => ?_)
  · exact PR.some Hs2
  · refine PR.bdv (PR.call Hs2 (fr_f_X7_add o (w32 y1) s2) (by intro c hc; simp only [W_f_X7_add, W_f_X7_grow, List.mem_cons, List.not_mem_nil, or_false] at hc ⊢; omega)) (fun s6 Hs6 => ?_)
    exact PR.some Hs6
def W_l_X7_read_23 : List Nat := []
theorem fr_l_X7_read_23 (o : Nat) (p1 : Nat) : ∀ (n : Nat) (x3 : Int) (x4 : Int) (x5 : Int) (x7 : Int) (x9 : Int) (s : vS), PR (W_l_X7_read_23) s (fun q => q.2.2.2) (l_X7_read_23 o p1 n x3 x4 x5 x7 x9 s)
  := by
  intro n
  induction n with
  | zero => intro x3 x4 x5 x7 x9 s; exact PR.none
  | succ n ih =>
    intro x3 x4 x5 x7 x9 s
    unfold l_X7_read_23
    have Hs : Fr (W_l_X7_read_23) s s := Fr.rfl
    refine PR.ite (fun _ => ?_) (fun _ => ?_)
    · exact PR.some Hs
    · refine PR.ite (fun _ => ?_) (fun _ => ?_)
      · exact PR.some Hs
      · refine PR.vl (fun y3 => ?_)
        refine PR.bd (PR.pure Hs (fr_f_X2_at p1 x4 s)) (fun r9 s6 Hs6 => ?_)
        refine PR.vl (fun y11 => ?_)
        refine PR.vl (fun y14 => ?_)
        refine PR.vl (fun y17 => ?_)
        exact PR.tail Hs6 (ih x3 y14 y3 y11 y17 s6)
def W_l_X7_read_8 (o : Nat) : List Nat := [1000 * (o + 1) + 998, 1000 * (o + 1) + 999, 1000 * o + 1]
theorem fr_j_X7_read_73 (o : Nat) (p1 : Nat) (rec : Int → Int → vS → Option (vS)) (hrec : ∀ (y0 : Int) (y1 : Int) (s : vS), PR (W_l_X7_read_8 o) s (fun q => q) (rec y0 y1 s)) (x3 : Int) (x4 : Int) (x5 : Int) (x7 : Int) (s : vS) : PR (W_l_X7_read_8 o) s (fun q => q) (j_X7_read_73 o p1 rec x3 x4 x5 x7 s) := by
  unfold j_X7_read_73
  have Hs : Fr (W_l_X7_read_8 o) s s := Fr.rfl
  refine PR.bdv (PR.call Hs (fr_f_X7_grow o x5 x7 s) (by intro c hc; simp only [W_f_X7_grow, W_l_X7_read_8, List.mem_cons, List.not_mem_nil, or_false] at hc ⊢; omega)) (fun s1 Hs1 => ?_)
  exact PR.tail Hs1 (hrec x3 x4 s1)
theorem fr_l_X7_read_8 (o : Nat) (p1 : Nat) : ∀ (n : Nat) (x3 : Int) (x4 : Int) (s : vS), PR (W_l_X7_read_8 o) s (fun q => q) (l_X7_read_8 o p1 n x3 x4 s)
  := by
  intro n
  induction n with
  | zero => intro x3 x4 s; exact PR.none
  | succ n ih =>
    intro x3 x4 s
    unfold l_X7_read_8
    have Hs : Fr (W_l_X7_read_8 o) s s := Fr.rfl
    refine PR.ite (fun _ => ?_) (fun _ => ?_)
    · exact PR.some Hs
    · refine PR.lq_3 (PR.pure Hs (fr_l_X7_read_23 o p1 FU x3 x4 1 0 0 s)) (fun y2 y3 y4 s5 Hs5 => ?_)
      exact PR.tail Hs5 (fr_j_X7_read_73 o p1 (l_X7_read_8 o p1 n) ih x3 y2 y3 y4 s5)
def W_f_X7_read (o : Nat) : List Nat := [1000 * (o + 1) + 998, 1000 * (o + 1) + 999, 1000 * o + 1]
theorem fr_f_X7_read (o : Nat) (p1 : Nat) (x2 : Int) (x3 : Int) (s : vS) : PR (W_f_X7_read o) s (fun q => q) (f_X7_read o p1 x2 x3 s) := by
  unfold f_X7_read
  have Hs : Fr (W_f_X7_read o) s s := Fr.rfl
  refine PR.stp (Fr.wI Hs (by simp [W_f_X7_read])) (fun s1 Hs1 => ?_)
  refine PR.lq_0 (PR.call Hs1 (fr_l_X7_read_8 o p1 FU x3 x2 s1) (by intro c hc; simp only [W_l_X7_read_8, W_f_X7_read, List.mem_cons, List.not_mem_nil, or_false] at hc ⊢; omega)) (fun s3 Hs3 => ?_)
  exact PR.some Hs3
def W_f_X7_byteOf : List Nat := []
theorem fr_f_X7_byteOf (o : Nat) (x1 : Int) (s : vS) : PR (W_f_X7_byteOf) s (fun q => q.2) (f_X7_byteOf o x1 s) := by
  unfold f_X7_byteOf
  have Hs : Fr (W_f_X7_byteOf) s s := Fr.rfl
  refine PR.ite (fun _ => ?_) (fun _ => ?_)
  · exact PR.some Hs
  · refine PR.gd ?_
    exact PR.some Hs
def W_f_X2_set (o : Nat) : List Nat := [1000 * (o + 1) + 999]
theorem fr_f_X2_set (o : Nat) (x1 : Int) (x2 : Int) (s : vS) : PR (W_f_X2_set o) s (fun q => q) (f_X2_set o x1 x2 s) := by
  unfold f_X2_set
  have Hs : Fr (W_f_X2_set o) s s := Fr.rfl
  refine PR.gd ?_
  refine PR.stp (Fr.wE Hs (by simp [W_f_X2_set])) (fun s2 Hs2 => ?_)
  exact PR.some Hs2
def W_l_X7_write_7 : List Nat := []
theorem fr_l_X7_write_7 (o : Nat) (p2 : Nat) : ∀ (n : Nat) (x1 : Int) (x3 : Int) (s : vS), PR (W_l_X7_write_7) s (fun q => q.2) (l_X7_write_7 o p2 n x1 x3 s)
  := by
  intro n
  induction n with
  | zero => intro x1 x3 s; exact PR.none
  | succ n ih =>
    intro x1 x3 s
    unfold l_X7_write_7
    have Hs : Fr (W_l_X7_write_7) s s := Fr.rfl
    refine PR.ite (fun _ => ?_) (fun _ => ?_)
    · exact PR.some Hs
    · refine PR.bd (PR.pure Hs (fr_f_X7_byteOf o (w32 (x3 - 1)) s)) (fun r5 s2 Hs2 => ?_)
      refine PR.ite (fun _ => ?_) (fun _ => ?_)
      · refine PR.vl (fun y8 => ?_)
        exact PR.tail Hs2 (ih x1 y8 s2)
      · exact PR.some Hs2
def W_l_X7_write_36 (p2 : Nat) : List Nat := [1000 * (p2 + 1) + 998, 1000 * (p2 + 1) + 999, 1000 * p2 + 1]
theorem fr_l_X7_write_36 (o : Nat) (p2 : Nat) : ∀ (n : Nat) (x1 : Int) (x3 : Int) (x4 : Int) (x5 : Int) (s : vS), PR (W_l_X7_write_36 p2) s (fun q => q) (l_X7_write_36 o p2 n x1 x3 x4 x5 s)
  := by
  intro n
  induction n with
  | zero => intro x1 x3 x4 x5 s; exact PR.none
  | succ n ih =>
    intro x1 x3 x4 x5 s
    unfold l_X7_write_36
    have Hs : Fr (W_l_X7_write_36 p2) s s := Fr.rfl
    refine PR.ite (fun _ => ?_) (fun _ => ?_)
    · exact PR.some Hs
    · refine PR.bd (PR.pure Hs (fr_f_X7_byteOf o x5 s)) (fun r5 s2 Hs2 => ?_)
      refine PR.bdv (PR.call Hs2 (fr_f_X2_add p2 r5 s2) (by intro c hc; simp only [W_f_X2_add, W_l_X7_write_36, List.mem_cons, List.not_mem_nil, or_false] at hc ⊢; omega)) (fun s7 Hs7 => ?_)
      refine PR.vl (fun y10 => ?_)
      exact PR.tail Hs7 (ih x1 x3 x4 y10 s7)
def W_l_X7_write_175 (p2 : Nat) : List Nat := [1000 * (p2 + 1) + 999]
theorem fr_l_X7_write_175 (o : Nat) (p2 : Nat) : ∀ (n : Nat) (x5 : Int) (s : vS), PR (W_l_X7_write_175 p2) s (fun q => q) (l_X7_write_175 o p2 n x5 s)
  := by
  intro n
  induction n with
  | zero => intro x5 s; exact PR.none
  | succ n ih =>
    intro x5 s
    unfold l_X7_write_175
    have Hs : Fr (W_l_X7_write_175 p2) s s := Fr.rfl
    refine PR.bd (PR.pure Hs (fr_f_X2_size p2 s)) (fun r4 s1 Hs1 => ?_)
    refine PR.ite (fun _ => ?_) (fun _ => ?_)
    · exact PR.some Hs1
    · refine PR.bd (PR.pure Hs1 (fr_f_X2_at p2 (w32 (x5 + 1)) s1)) (fun r10 s7 Hs7 => ?_)
      refine PR.bdv (PR.call Hs7 (fr_f_X2_set p2 x5 r10 s7) (by intro c hc; simp only [W_f_X2_set, W_l_X7_write_175, List.mem_cons, List.not_mem_nil, or_false] at hc ⊢; omega)) (fun s12 Hs12 => ?_)
      refine PR.vl (fun y15 => ?_)
      exact PR.tail Hs12 (ih y15 s12)
def W_j_X7_write_146 (p2 : Nat) : List Nat := [1000 * (p2 + 1) + 999, 1000 * p2 + 1]
theorem fr_j_X7_write_146 (o : Nat) (p2 : Nat) (x4 : Int) (s : vS) : PR (W_j_X7_write_146 p2) s (fun q => q) (j_X7_write_146 o p2 x4 s) := by
  unfold j_X7_write_146
  have Hs : Fr (W_j_X7_write_146 p2) s s := Fr.rfl
  refine PR.bd (PR.pure Hs (fr_f_X2_at p2 x4 s)) (fun r4 s1 Hs1 => ?_)
  refine PR.ite (fun _ => ?_) (fun _ => ?_)
  · refine PR.bd (PR.pure Hs1 (fr_f_X2_at p2 (w32 (x4 + 1)) s1)) (fun r10 s7 Hs7 => ?_)
    refine PR.ite (fun _ => ?_) (fun _ => ?_)
    · exact PR.some Hs7
    · refine PR.lq_0 (PR.call Hs7 (fr_l_X7_write_175 o p2 FU x4 s7) (by intro c hc; simp only [W_l_X7_write_175, W_j_X7_write_146, List.mem_cons, List.not_mem_nil, or_false] at hc ⊢; omega)) (fun s13 Hs13 => ?_)
      refine PR.bd (PR.pure Hs13 (fr_f_X2_size p2 s13)) (fun r18 s15 Hs15 => ?_)
      refine PR.bdv (PR.call Hs15 (fr_f_X2_cut p2 (w32 (r18 - 1)) s15) (by intro c hc; simp only [W_f_X2_cut, W_j_X7_write_146, List.mem_cons, List.not_mem_nil, or_false] at hc ⊢; omega)) (fun s20 Hs20 => ?_)
      exact PR.some Hs20
  · exact PR.some Hs1
def W_j_X7_write_119 (p2 : Nat) : List Nat := [1000 * (p2 + 1) + 999, 1000 * p2 + 1]
theorem fr_j_X7_write_119 (o : Nat) (p2 : Nat) (x3 : Int) (x4 : Int) (s : vS) : PR (W_j_X7_write_119 p2) s (fun q => q) (j_X7_write_119 o p2 x3 x4 s) := by
  unfold j_X7_write_119
  have Hs : Fr (W_j_X7_write_119 p2) s s := Fr.rfl
  refine PR.ite (fun _ => ?_) (fun _ => ?_)
  · exact PR.some Hs
  · refine PR.bd (PR.pure Hs (fr_f_X2_at p2 x4 s)) (fun r5 s2 Hs2 => ?_)
    refine PR.ite (fun _ => ?_) (fun _ => ?_)
    · refine PR.bd (PR.pure Hs2 (fr_f_X2_at p2 (w32 (x4 + 1)) s2)) (fun r11 s8 Hs8 => ?_)
      refine PR.ite (fun _ => ?_) (fun _ => ?_)
      · refine PR.lq_0 (PR.call Hs8 (fr_l_X7_write_175 o p2 FU x4 s8) (by intro c hc; simp only [W_l_X7_write_175, W_j_X7_write_119, List.mem_cons, List.not_mem_nil, or_false] at hc ⊢; omega)) (fun s14 Hs14 => ?_)
        refine PR.bd (PR.pure Hs14 (fr_f_X2_size p2 s14)) (fun r19 s16 Hs16 => ?_)
        refine PR.bdv (PR.call Hs16 (fr_f_X2_cut p2 (w32 (r19 - 1)) s16) (by intro c hc; simp only [W_f_X2_cut, W_j_X7_write_119, List.mem_cons, List.not_mem_nil, or_false] at hc ⊢; omega)) (fun s21 Hs21 => ?_)
        exact PR.some Hs21
      · exact PR.call Hs8 (fr_j_X7_write_146 o p2 x4 s8) (by intro c hc; simp only [W_j_X7_write_146, W_j_X7_write_119, List.mem_cons, List.not_mem_nil, or_false] at hc ⊢; omega)
    · exact PR.call Hs2 (fr_j_X7_write_146 o p2 x4 s2) (by intro c hc; simp only [W_j_X7_write_146, W_j_X7_write_119, List.mem_cons, List.not_mem_nil, or_false] at hc ⊢; omega)
def W_l_X7_write_72 (p2 : Nat) : List Nat := [1000 * (p2 + 1) + 999]
theorem fr_l_X7_write_72 (o : Nat) (p2 : Nat) : ∀ (n : Nat) (x3 : Int) (x4 : Int) (x5 : Int) (x6 : Int) (s : vS), PR (W_l_X7_write_72 p2) s (fun q => q) (l_X7_write_72 o p2 n x3 x4 x5 x6 s)
  := by
  intro n
  induction n with
  | zero => intro x3 x4 x5 x6 s; exact PR.none
  | succ n ih =>
    intro x3 x4 x5 x6 s
    unfold l_X7_write_72
    have Hs : Fr (W_l_X7_write_72 p2) s s := Fr.rfl
    refine PR.ite (fun _ => ?_) (fun _ => ?_)
    · exact PR.some Hs
    · refine PR.bd (PR.pure Hs (fr_f_X2_at p2 x6 s)) (fun r5 s2 Hs2 => ?_)
      refine PR.vl (fun y7 => ?_)
      refine PR.bdv (PR.call Hs2 (fr_f_X2_set p2 x6 (and32 y7 255) s2) (by intro c hc; simp only [W_f_X2_set, W_l_X7_write_72, List.mem_cons, List.not_mem_nil, or_false] at hc ⊢; omega)) (fun s10 Hs10 => ?_)
      refine PR.vl (fun y13 => ?_)
      refine PR.vl (fun y16 => ?_)
      exact PR.tail Hs10 (ih x3 x4 y13 y16 s10)
def W_j_X7_write_27 (p2 : Nat) : List Nat := [1000 * (p2 + 1) + 998, 1000 * (p2 + 1) + 999, 1000 * p2 + 1]
theorem fr_j_X7_write_27 (o : Nat) (p2 : Nat) (x1 : Int) (x3 : Int) (s : vS) : PR (W_j_X7_write_27 p2) s (fun q => q) (j_X7_write_27 o p2 x1 x3 s) := by
  unfold j_X7_write_27
  have Hs : Fr (W_j_X7_write_27 p2) s s := Fr.rfl
  refine PR.bd (PR.pure Hs (fr_f_X2_size p2 s)) (fun r4 s1 Hs1 => ?_)
  refine PR.lq_0 (PR.call Hs1 (fr_l_X7_write_36 o p2 FU x1 x3 r4 x3 s1) (by intro c hc; simp only [W_l_X7_write_36, W_j_X7_write_27, List.mem_cons, List.not_mem_nil, or_false] at hc ⊢; omega)) (fun s6 Hs6 => ?_)
  refine PR.ite (fun _ => ?_) (fun _ => ?_)
  · exact PR.call Hs6 (fr_j_X7_write_119 o p2 x3 r4 s6) (by intro c hc; simp only [W_j_X7_write_119, W_j_X7_write_27, List.mem_cons, List.not_mem_nil, or_false] at hc ⊢; omega)
  · refine PR.bd (PR.pure Hs6 (fr_f_X2_size p2 s6)) (fun r12 s9 Hs9 => ?_)
    refine PR.vl (fun y14 => ?_)
    refine PR.lq_0 (PR.call Hs9 (fr_l_X7_write_72 o p2 FU x3 r4 1 y14 s9) (by intro c hc; simp only [W_l_X7_write_72, W_j_X7_write_27, List.mem_cons, List.not_mem_nil, or_false] at hc ⊢; omega)) (fun s17 Hs17 => ?_)
    exact PR.call Hs17 (fr_j_X7_write_119 o p2 x3 r4 s17) (by intro c hc; simp only [W_j_X7_write_119, W_j_X7_write_27, List.mem_cons, List.not_mem_nil, or_false] at hc ⊢; omega)
def W_f_X7_write (p2 : Nat) : List Nat := [1000 * (p2 + 1) + 998, 1000 * (p2 + 1) + 999, 1000 * p2 + 1]
theorem fr_f_X7_write (o : Nat) (x1 : Int) (p2 : Nat) (s : vS) : PR (W_f_X7_write p2) s (fun q => q) (f_X7_write o x1 p2 s) := by
  unfold f_X7_write
  have Hs : Fr (W_f_X7_write p2) s s := Fr.rfl
  refine PR.vl (fun y1 => ?_)
  refine PR.lq_1 (PR.pure Hs (fr_l_X7_write_7 o p2 FU x1 y1 s)) (fun y4 s5 Hs5 => ?_)
  exact PR.call Hs5 (fr_j_X7_write_27 o p2 x1 y4 s5) (by intro c hc; simp only [W_j_X7_write_27, W_f_X7_write, List.mem_cons, List.not_mem_nil, or_false] at hc ⊢; omega)
def W_f_X6_number : List Nat := [14001, 15998, 15999, 30001, 31998, 31999, 34999, 35999]
theorem fr_f_X6_number (x1 : Int) (x2 : Int) (x3 : Int) (s : vS) : PR (W_f_X6_number) s (fun q => q) (f_X6_number x1 x2 x3 s) := by
  unfold f_X6_number
  have Hs : Fr (W_f_X6_number) s s := Fr.rfl
  refine PR.gd ?_
  refine PR.bdo (PR.pure Hs (fr_f_X3_text s)) (fun r5 s2 Hs2 => ?_)
  refine PR.gd ?_
  refine PR.gd ?_
  refine PR.bd (PR.pure Hs2 (fr_f_X3_start x2 s2)) (fun r11 s8 Hs8 => ?_)
  refine PR.gd ?_
  refine PR.bd (PR.pure Hs8 (fr_f_X3_end x2 s8)) (fun r17 s14 Hs14 => ?_)
  refine PR.bdv (PR.call Hs14 (fr_f_X7_read 14 r5 r11 r17 s14) (by decide +kernel)) (fun s19 Hs19 => ?_)
  refine PR.bd (PR.pure Hs19 (fr_f_X2_size 30 s19)) (fun r25 s22 Hs22 => ?_)
  refine PR.gd ?_
  refine PR.gd ?_
  refine PR.stp (Fr.wE Hs22 (by decide +kernel)) (fun s29 Hs29 => ?_)
  refine PR.bdv (PR.call Hs29 (fr_f_X7_write 14 x3 30 s29) (by decide +kernel)) (fun s31 Hs31 => ?_)
  refine PR.bd (PR.pure Hs31 (fr_f_X2_size 30 s31)) (fun r37 s34 Hs34 => ?_)
  refine PR.gd ?_
  refine PR.gd ?_
  refine PR.stp (Fr.wE Hs34 (by decide +kernel)) (fun s41 Hs41 => ?_)
  exact PR.some Hs41
def W_f_X6_alike : List Nat := []
theorem fr_f_X6_alike (x1 : Int) (x2 : Int) (s : vS) : PR (W_f_X6_alike) s (fun q => q.2) (f_X6_alike x1 x2 s) := by
  unfold f_X6_alike
  have Hs : Fr (W_f_X6_alike) s s := Fr.rfl
  refine PR.gd ?_
  refine PR.gd ?_
  refine PR.gd ?_
  refine PR.gd ?_
  refine PR.bd (PR.pure Hs (fr_f_X2_compare 30 (gE s 34 x1) (gE s 35 x1) 30 (gE s 34 x2) (gE s 35 x2) s)) (fun r8 s5 Hs5 => ?_)
  refine PR.ite (fun _ => ?_) (fun _ => ?_)
  · exact PR.some Hs5
  · exact PR.some Hs5
def W_l_X10_clear_2 : List Nat := [29999]
theorem fr_l_X10_clear_2 : ∀ (n : Nat) (x1 : Int) (s : vS), PR (W_l_X10_clear_2) s (fun q => q) (l_X10_clear_2 n x1 s)
  := by
  intro n
  induction n with
  | zero => intro x1 s; exact PR.none
  | succ n ih =>
    intro x1 s
    unfold l_X10_clear_2
    have Hs : Fr (W_l_X10_clear_2) s s := Fr.rfl
    refine PR.ite (fun _ => ?_) (fun _ => ?_)
    · exact PR.some Hs
    · refine PR.ite (fun _ => ?_) (fun _ => ?_)
      · exact PR.some Hs
      · refine PR.gd ?_
        refine PR.stp (Fr.wE Hs (by decide +kernel)) (fun s4 Hs4 => ?_)
        refine PR.vl (fun y6 => ?_)
        exact PR.tail Hs4 (ih y6 s4)
def W_f_X10_clear : List Nat := [28001, 29999]
theorem fr_f_X10_clear (s : vS) : PR (W_f_X10_clear) s (fun q => q) (f_X10_clear s) := by
  unfold f_X10_clear
  have Hs : Fr (W_f_X10_clear) s s := Fr.rfl
  refine PR.lq_0 (PR.call Hs (fr_l_X10_clear_2 FU 0 s) (by decide +kernel)) (fun s1 Hs1 => ?_)
  refine PR.stp (Fr.wI Hs1 (by decide +kernel)) (fun s3 Hs3 => ?_)
  exact PR.some Hs3
def W_l_X6_small_9 : List Nat := []
theorem fr_l_X6_small_9 : ∀ (n : Nat) (x1 : Int) (x2 : Int) (x3 : Int) (s : vS), PR (W_l_X6_small_9) s (fun q => q.2) (l_X6_small_9 n x1 x2 x3 s)
  := by
  intro n
  induction n with
  | zero => intro x1 x2 x3 s; exact PR.none
  | succ n ih =>
    intro x1 x2 x3 s
    unfold l_X6_small_9
    have Hs : Fr (W_l_X6_small_9) s s := Fr.rfl
    refine PR.gd ?_
    refine PR.ite (fun _ => ?_) (fun _ => ?_)
    · exact PR.some Hs
    · refine PR.bd (PR.pure Hs (fr_f_X2_at 30 x3 s)) (fun r6 s3 Hs3 => ?_)
      refine PR.vl (fun y8 => ?_)
      refine PR.vl (fun y11 => ?_)
      exact PR.tail Hs3 (ih x1 y8 y11 s3)
def W_f_X6_small : List Nat := []
theorem fr_f_X6_small (x1 : Int) (s : vS) : PR (W_f_X6_small) s (fun q => q.2) (f_X6_small x1 s) := by
  unfold f_X6_small
  have Hs : Fr (W_f_X6_small) s s := Fr.rfl
  refine PR.gd ?_
  refine PR.vl (fun y2 => ?_)
  refine PR.lq_1 (PR.pure Hs (fr_l_X6_small_9 FU x1 0 y2 s)) (fun y5 s6 Hs6 => ?_)
  exact PR.some Hs6
def W_l_X10_slot_16 : List Nat := []
theorem fr_l_X10_slot_16 : ∀ (n : Nat) (x1 : Int) (x2 : Int) (s : vS), PR (W_l_X10_slot_16) s (fun q => q.2) (l_X10_slot_16 n x1 x2 s)
  := by
  intro n
  induction n with
  | zero => intro x1 x2 s; exact PR.none
  | succ n ih =>
    intro x1 x2 s
    unfold l_X10_slot_16
    have Hs : Fr (W_l_X10_slot_16) s s := Fr.rfl
    refine PR.gd ?_
    refine PR.ite (fun _ => ?_) (fun _ => ?_)
    · exact PR.some Hs
    · refine PR.gd ?_
      refine PR.ite (fun _ => ?_) (fun _ => ?_)
      · exact PR.some Hs
      · refine PR.vl (fun y5 => ?_)
        exact PR.tail Hs (ih x1 y5 s)
def W_f_X10_slot : List Nat := []
theorem fr_f_X10_slot (x1 : Int) (s : vS) : PR (W_f_X10_slot) s (fun q => q.2) (f_X10_slot x1 s) := by
  unfold f_X10_slot
  have Hs : Fr (W_f_X10_slot) s s := Fr.rfl
  refine PR.vl (fun y1 => ?_)
  refine PR.lq_1 (PR.pure Hs (fr_l_X10_slot_16 FU x1 y1 s)) (fun y4 s5 Hs5 => ?_)
  exact PR.some Hs5
def W_l_X10_add_76 : List Nat := [29999]
theorem fr_l_X10_add_76 : ∀ (n : Nat) (x5 : Int) (x6 : Int) (s : vS), PR (W_l_X10_add_76) s (fun q => q) (l_X10_add_76 n x5 x6 s)
  := by
  intro n
  induction n with
  | zero => intro x5 x6 s; exact PR.none
  | succ n ih =>
    intro x5 x6 s
    unfold l_X10_add_76
    have Hs : Fr (W_l_X10_add_76) s s := Fr.rfl
    refine PR.ite (fun _ => ?_) (fun _ => ?_)
    · exact PR.some Hs
    · refine PR.gd ?_
      refine PR.vl (fun y3 => ?_)
      refine PR.ite (fun _ => ?_) (fun _ => ?_)
      · refine PR.vl (fun y7 => ?_)
        exact PR.tail Hs (ih x5 y7 s)
      · refine PR.bd (PR.pure Hs (fr_f_X10_slot (w32 (y3 - 1)) s)) (fun r13 s10 Hs10 => ?_)
        refine PR.gd ?_
        refine PR.stp (Fr.wmT Hs10) (fun s16 Hs16 => ?_)
        refine PR.gd ?_
        refine PR.stp (Fr.wE Hs16 (by decide +kernel)) (fun s19 Hs19 => ?_)
        refine PR.vl (fun y21 => ?_)
        exact PR.tail Hs19 (ih x5 y21 s19)
def W_f_X10_add : List Nat := [28001, 29998, 29999]
theorem fr_f_X10_add (x1 : Int) (s : vS) : PR (W_f_X10_add) s (fun q => q.2) (f_X10_add x1 s) := by
  unfold f_X10_add
  have Hs : Fr (W_f_X10_add) s s := Fr.rfl
  refine PR.bd (PR.pure Hs (fr_f_X10_slot x1 s)) (fun r4 s1 Hs1 => ?_)
  refine PR.gd ?_
  refine PR.ite (fun _ => ?_) (fun _ => ?_)
  · refine PR.gd ?_
    refine PR.stp (Fr.wE Hs1 (by decide +kernel)) (fun s9 Hs9 => ?_)
    refine PR.stp (Fr.wI Hs9 (by decide +kernel)) (fun s11 Hs11 => ?_)
    refine PR.ite (fun _ => ?_) (fun _ => ?_)
    · exact PR.some Hs11
    · refine PR.gd ?_
      refine PR.stp (Fr.wAT Hs11 (by decide)) (fun s15 Hs15 => ?_)
      refine PR.gd ?_
      refine PR.stp (Fr.wswT Hs15 (by decide) (by decide +kernel) (by decide +kernel)) (fun s18 Hs18 => ?_)
      refine PR.vl (fun y20 => ?_)
      refine PR.lq_0 (PR.call Hs18 (fr_l_X10_add_76 FU y20 0 s18) (by decide +kernel)) (fun s23 Hs23 => ?_)
      refine PR.stp (Fr.wrs Hs23) (fun s25 Hs25 => ?_)
      exact PR.some Hs25
  · exact PR.some Hs1
def W_f_X7_set (o : Nat) : List Nat := [1000 * (o + 1) + 998, 1000 * (o + 1) + 999, 1000 * o + 1]
theorem fr_f_X7_set (o : Nat) (x1 : Int) (s : vS) : PR (W_f_X7_set o) s (fun q => q) (f_X7_set o x1 s) := by
  unfold f_X7_set
  have Hs : Fr (W_f_X7_set o) s s := Fr.rfl
  refine PR.stp (Fr.wI Hs (by simp [W_f_X7_set])) (fun s1 Hs1 => ?_)
  refine PR.ite (fun _ => ?_) (fun _ => ?_)
  · exact PR.some Hs1
  · refine PR.bdv (PR.call Hs1 (fr_f_X7_add o x1 s1) (by intro c hc; simp only [W_f_X7_add, W_f_X7_set, List.mem_cons, List.not_mem_nil, or_false] at hc ⊢; omega)) (fun s4 Hs4 => ?_)
    exact PR.some Hs4
def W_l_X6_itemNumbers_9 : List Nat := [13020, 13021, 14001, 15998, 15999, 30001, 31998, 31999, 34999, 35999]
theorem fr_j_X6_itemNumbers_119 (rec : Int → Int → vS → Option (vS)) (hrec : ∀ (y0 : Int) (y1 : Int) (s : vS), PR (W_l_X6_itemNumbers_9) s (fun q => q) (rec y0 y1 s)) (x1 : Int) (x2 : Int) (s : vS) : PR (W_l_X6_itemNumbers_9) s (fun q => q) (j_X6_itemNumbers_119 rec x1 x2 s) := by
  unfold j_X6_itemNumbers_119
  have Hs : Fr (W_l_X6_itemNumbers_9) s s := Fr.rfl
  refine PR.bd (PR.pure Hs (fr_f_X4_next x2 s)) (fun r4 s1 Hs1 => ?_)
  exact PR.tail Hs1 (hrec x1 r4 s1)
def W_l_X6_itemNumbers_69 : List Nat := [13020, 13021]
theorem fr_j_X6_itemNumbers_107 (rec : Int → Int → Int → vS → Option (vS)) (hrec : ∀ (y0 : Int) (y1 : Int) (y2 : Int) (s : vS), PR (W_l_X6_itemNumbers_69) s (fun q => q) (rec y0 y1 y2 s)) (x1 : Int) (x2 : Int) (x3 : Int) (s : vS) : PR (W_l_X6_itemNumbers_69) s (fun q => q) (j_X6_itemNumbers_107 rec x1 x2 x3 s) := by
  unfold j_X6_itemNumbers_107
  have Hs : Fr (W_l_X6_itemNumbers_69) s s := Fr.rfl
  refine PR.bd (PR.pure Hs (fr_f_X4_next x3 s)) (fun r4 s1 Hs1 => ?_)
  exact PR.tail Hs1 (hrec x1 x2 r4 s1)
theorem fr_l_X6_itemNumbers_69 : ∀ (n : Nat) (x1 : Int) (x2 : Int) (x3 : Int) (s : vS), PR (W_l_X6_itemNumbers_69) s (fun q => q) (l_X6_itemNumbers_69 n x1 x2 x3 s)
  := by
  intro n
  induction n with
  | zero => intro x1 x2 x3 s; exact PR.none
  | succ n ih =>
    intro x1 x2 x3 s
    unfold l_X6_itemNumbers_69
    have Hs : Fr (W_l_X6_itemNumbers_69) s s := Fr.rfl
    refine PR.ite (fun _ => ?_) (fun _ => ?_)
    · exact PR.some Hs
    · refine PR.gd ?_
      refine PR.ite (fun _ => ?_) (fun _ => ?_)
      · exact PR.tail Hs (fr_j_X6_itemNumbers_107 (l_X6_itemNumbers_69 n) ih x1 x2 x3 s)
      · refine PR.bd (PR.pure Hs (fr_f_X6_alike x2 x3 s)) (fun r7 s4 Hs4 => ?_)
        refine PR.ite (fun _ => ?_) (fun _ => ?_)
        · exact PR.tail Hs4 (fr_j_X6_itemNumbers_107 (l_X6_itemNumbers_69 n) ih x1 x2 x3 s4)
        · refine PR.bd (PR.pure Hs4 (fr_f_X4_at x2 5 s4)) (fun r13 s10 Hs10 => ?_)
          refine PR.bdv (PR.call Hs10 (fr_f_X6_blame 5 r13 s10) (by decide +kernel)) (fun s15 Hs15 => ?_)
          exact PR.tail Hs15 (fr_j_X6_itemNumbers_107 (l_X6_itemNumbers_69 n) ih x1 x2 x3 s15)
theorem fr_j_X6_itemNumbers_57 (rec : Int → Int → vS → Option (vS)) (hrec : ∀ (y0 : Int) (y1 : Int) (s : vS), PR (W_l_X6_itemNumbers_9) s (fun q => q) (rec y0 y1 s)) (x1 : Int) (x2 : Int) (z1 : Int) (z2 : Int) (z3 : Int) (s : vS) : PR (W_l_X6_itemNumbers_9) s (fun q => q) (j_X6_itemNumbers_57 rec x1 x2 z1 z2 z3 s) := by
  unfold j_X6_itemNumbers_57
  have Hs : Fr (W_l_X6_itemNumbers_9) s s := Fr.rfl
  refine PR.bdv (PR.call Hs (fr_f_X6_number z1 z2 z3 s) (by decide +kernel)) (fun s1 Hs1 => ?_)
  refine PR.bd (PR.pure Hs1 (fr_f_X4_parts x1 s1)) (fun r7 s4 Hs4 => ?_)
  refine PR.lq_0 (PR.call Hs4 (fr_l_X6_itemNumbers_69 FU x1 x2 r7 s4) (by decide +kernel)) (fun s9 Hs9 => ?_)
  exact PR.tail Hs9 (fr_j_X6_itemNumbers_119 rec hrec x1 x2 s9)
theorem fr_l_X6_itemNumbers_9 : ∀ (n : Nat) (x1 : Int) (x2 : Int) (s : vS), PR (W_l_X6_itemNumbers_9) s (fun q => q) (l_X6_itemNumbers_9 n x1 x2 s)
  := by
  intro n
  induction n with
  | zero => intro x1 x2 s; exact PR.none
  | succ n ih =>
    intro x1 x2 s
    unfold l_X6_itemNumbers_9
    have Hs : Fr (W_l_X6_itemNumbers_9) s s := Fr.rfl
    refine PR.ite (fun _ => ?_) (fun _ => ?_)
    · exact PR.some Hs
    · refine PR.bd (PR.pure Hs (fr_f_X4_at x2 5 s)) (fun r5 s2 Hs2 => ?_)
      refine PR.ite (fun _ => ?_) (fun _ => ?_)
      · exact PR.tail Hs2 (fr_j_X6_itemNumbers_119 (l_X6_itemNumbers_9 n) ih x1 x2 s2)
      · refine PR.bd (PR.pure Hs2 (fr_f_X4_at x2 5 s2)) (fun r11 s8 Hs8 => ?_)
        refine PR.bd (PR.pure Hs8 (fr_f_X4_at x2 6 s8)) (fun r16 s13 Hs13 => ?_)
        refine PR.ite (fun _ => ?_) (fun _ => ?_)
        · exact PR.tail Hs13 (fr_j_X6_itemNumbers_57 (l_X6_itemNumbers_9 n) ih x1 x2 x2 r11 1 s13)
        · exact PR.tail Hs13 (fr_j_X6_itemNumbers_57 (l_X6_itemNumbers_9 n) ih x1 x2 x2 r11 0 s13)
def W_l_X6_itemNumbers_147 : List Nat := [28001, 29998, 29999]
theorem fr_j_X6_itemNumbers_211 (rec : Int → Int → vS → Option (vS)) (hrec : ∀ (y0 : Int) (y1 : Int) (s : vS), PR (W_l_X6_itemNumbers_147) s (fun q => q) (rec y0 y1 s)) (x1 : Int) (x2 : Int) (s : vS) : PR (W_l_X6_itemNumbers_147) s (fun q => q) (j_X6_itemNumbers_211 rec x1 x2 s) := by
  unfold j_X6_itemNumbers_211
  have Hs : Fr (W_l_X6_itemNumbers_147) s s := Fr.rfl
  refine PR.bd (PR.pure Hs (fr_f_X4_next x2 s)) (fun r4 s1 Hs1 => ?_)
  exact PR.tail Hs1 (hrec x1 r4 s1)
theorem fr_l_X6_itemNumbers_147 : ∀ (n : Nat) (x1 : Int) (x2 : Int) (s : vS), PR (W_l_X6_itemNumbers_147) s (fun q => q) (l_X6_itemNumbers_147 n x1 x2 s)
  := by
  intro n
  induction n with
  | zero => intro x1 x2 s; exact PR.none
  | succ n ih =>
    intro x1 x2 s
    unfold l_X6_itemNumbers_147
    have Hs : Fr (W_l_X6_itemNumbers_147) s s := Fr.rfl
    refine PR.ite (fun _ => ?_) (fun _ => ?_)
    · exact PR.some Hs
    · refine PR.gd ?_
      refine PR.ite (fun _ => ?_) (fun _ => ?_)
      · exact PR.tail Hs (fr_j_X6_itemNumbers_211 (l_X6_itemNumbers_147 n) ih x1 x2 s)
      · refine PR.gd ?_
        refine PR.gd ?_
        refine PR.ite (fun _ => ?_) (fun _ => ?_)
        · exact PR.tail Hs (fr_j_X6_itemNumbers_211 (l_X6_itemNumbers_147 n) ih x1 x2 s)
        · refine PR.gd ?_
          refine PR.bd (PR.pure Hs (fr_f_X2_at 30 (gE s 34 x2) s)) (fun r11 s8 Hs8 => ?_)
          refine PR.ite (fun _ => ?_) (fun _ => ?_)
          · exact PR.tail Hs8 (fr_j_X6_itemNumbers_211 (l_X6_itemNumbers_147 n) ih x1 x2 s8)
          · refine PR.bd (PR.pure Hs8 (fr_f_X6_small x2 s8)) (fun r17 s14 Hs14 => ?_)
            refine PR.bd (PR.call Hs14 (fr_f_X10_add r17 s14) (by decide +kernel)) (fun r22 s19 Hs19 => ?_)
            exact PR.tail Hs19 (fr_j_X6_itemNumbers_211 (l_X6_itemNumbers_147 n) ih x1 x2 s19)
def W_l_X6_itemNumbers_234 : List Nat := [14001, 15998, 15999, 28001, 29998, 29999, 30001, 31998, 31999, 34999, 35999]
theorem fr_j_X6_itemNumbers_312 (rec : Int → Int → vS → Option (vS)) (hrec : ∀ (y0 : Int) (y1 : Int) (s : vS), PR (W_l_X6_itemNumbers_234) s (fun q => q) (rec y0 y1 s)) (x2 : Int) (x3 : Int) (s : vS) : PR (W_l_X6_itemNumbers_234) s (fun q => q) (j_X6_itemNumbers_312 rec x2 x3 s) := by
  unfold j_X6_itemNumbers_312
  have Hs : Fr (W_l_X6_itemNumbers_234) s s := Fr.rfl
  refine PR.bd (PR.pure Hs (fr_f_X4_next x3 s)) (fun r4 s1 Hs1 => ?_)
  exact PR.tail Hs1 (hrec x2 r4 s1)
def W_l_X6_itemNumbers_249 : List Nat := [28001, 29998, 29999]
theorem fr_l_X6_itemNumbers_249 : ∀ (n : Nat) (x2 : Int) (x3 : Int) (s : vS), PR (W_l_X6_itemNumbers_249) s (fun q => q.2) (l_X6_itemNumbers_249 n x2 x3 s)
  := by
  intro n
  induction n with
  | zero => intro x2 x3 s; exact PR.none
  | succ n ih =>
    intro x2 x3 s
    unfold l_X6_itemNumbers_249
    have Hs : Fr (W_l_X6_itemNumbers_249) s s := Fr.rfl
    refine PR.bd (PR.call Hs (fr_f_X10_add x2 s) (by decide +kernel)) (fun r4 s1 Hs1 => ?_)
    refine PR.ite (fun _ => ?_) (fun _ => ?_)
    · refine PR.vl (fun y7 => ?_)
      exact PR.tail Hs1 (ih y7 x3 s1)
    · exact PR.some Hs1
theorem fr_l_X6_itemNumbers_234 : ∀ (n : Nat) (x2 : Int) (x3 : Int) (s : vS), PR (W_l_X6_itemNumbers_234) s (fun q => q) (l_X6_itemNumbers_234 n x2 x3 s)
  := by
  intro n
  induction n with
  | zero => intro x2 x3 s; exact PR.none
  | succ n ih =>
    intro x2 x3 s
    unfold l_X6_itemNumbers_234
    have Hs : Fr (W_l_X6_itemNumbers_234) s s := Fr.rfl
    refine PR.ite (fun _ => ?_) (fun _ => ?_)
    · exact PR.some Hs
    · refine PR.gd ?_
      refine PR.ite (fun _ => ?_) (fun _ => ?_)
      · refine PR.lq_1 (PR.call Hs (fr_l_X6_itemNumbers_249 FU x2 x3 s) (by decide +kernel)) (fun y4 s5 Hs5 => ?_)
        refine PR.bd (PR.pure Hs5 (fr_f_X2_size 30 s5)) (fun r11 s8 Hs8 => ?_)
        refine PR.gd ?_
        refine PR.gd ?_
        refine PR.stp (Fr.wE Hs8 (by decide +kernel)) (fun s15 Hs15 => ?_)
        refine PR.bdv (PR.call Hs15 (fr_f_X7_set 14 y4 s15) (by decide +kernel)) (fun s17 Hs17 => ?_)
        refine PR.bdv (PR.call Hs17 (fr_f_X7_write 14 0 30 s17) (by decide +kernel)) (fun s20 Hs20 => ?_)
        refine PR.bd (PR.pure Hs20 (fr_f_X2_size 30 s20)) (fun r26 s23 Hs23 => ?_)
        refine PR.gd ?_
        refine PR.gd ?_
        refine PR.stp (Fr.wE Hs23 (by decide +kernel)) (fun s30 Hs30 => ?_)
        exact PR.tail Hs30 (fr_j_X6_itemNumbers_312 (l_X6_itemNumbers_234 n) ih y4 x3 s30)
      · exact PR.tail Hs (fr_j_X6_itemNumbers_312 (l_X6_itemNumbers_234 n) ih x2 x3 s)
def W_f_X6_itemNumbers : List Nat := [13020, 13021, 14001, 15998, 15999, 28001, 29998, 29999, 30001, 31998, 31999, 34999, 35999]
theorem fr_f_X6_itemNumbers (x1 : Int) (s : vS) : PR (W_f_X6_itemNumbers) s (fun q => q) (f_X6_itemNumbers x1 s) := by
  unfold f_X6_itemNumbers
  have Hs : Fr (W_f_X6_itemNumbers) s s := Fr.rfl
  refine PR.bd (PR.pure Hs (fr_f_X4_parts x1 s)) (fun r4 s1 Hs1 => ?_)
  refine PR.lq_0 (PR.call Hs1 (fr_l_X6_itemNumbers_9 FU x1 r4 s1) (by decide +kernel)) (fun s6 Hs6 => ?_)
  refine PR.bdv (PR.call Hs6 (fr_f_X10_clear s6) (by decide +kernel)) (fun s8 Hs8 => ?_)
  refine PR.bd (PR.pure Hs8 (fr_f_X4_parts x1 s8)) (fun r14 s11 Hs11 => ?_)
  refine PR.lq_0 (PR.call Hs11 (fr_l_X6_itemNumbers_147 FU x1 r14 s11) (by decide +kernel)) (fun s16 Hs16 => ?_)
  refine PR.bd (PR.pure Hs16 (fr_f_X4_parts x1 s16)) (fun r21 s18 Hs18 => ?_)
  refine PR.lq_0 (PR.call Hs18 (fr_l_X6_itemNumbers_234 FU 0 r21 s18) (by decide +kernel)) (fun s23 Hs23 => ?_)
  exact PR.some Hs23
def W_l_X6_lists_68 : List Nat := [13020, 13021, 25003, 26998, 26999, 27998, 27999]
theorem fr_j_X6_lists_105 (rec : Int → Int → vS → Option (vS)) (hrec : ∀ (y0 : Int) (y1 : Int) (s : vS), PR (W_l_X6_lists_68) s (fun q => q) (rec y0 y1 s)) (x1 : Int) (x2 : Int) (s : vS) : PR (W_l_X6_lists_68) s (fun q => q) (j_X6_lists_105 rec x1 x2 s) := by
  unfold j_X6_lists_105
  have Hs : Fr (W_l_X6_lists_68) s s := Fr.rfl
  refine PR.bd (PR.pure Hs (fr_f_X4_next x2 s)) (fun r4 s1 Hs1 => ?_)
  exact PR.tail Hs1 (hrec x1 r4 s1)
theorem fr_l_X6_lists_68 : ∀ (n : Nat) (x1 : Int) (x2 : Int) (s : vS), PR (W_l_X6_lists_68) s (fun q => q) (l_X6_lists_68 n x1 x2 s)
  := by
  intro n
  induction n with
  | zero => intro x1 x2 s; exact PR.none
  | succ n ih =>
    intro x1 x2 s
    unfold l_X6_lists_68
    have Hs : Fr (W_l_X6_lists_68) s s := Fr.rfl
    refine PR.ite (fun _ => ?_) (fun _ => ?_)
    · exact PR.some Hs
    · refine PR.bd (PR.pure Hs (fr_f_X4_lexeme x2 s)) (fun r5 s2 Hs2 => ?_)
      refine PR.bd (PR.call Hs2 (fr_f_X9_put 25 r5 x2 s2) (by decide +kernel)) (fun r10 s7 Hs7 => ?_)
      refine PR.ite (fun _ => ?_) (fun _ => ?_)
      · refine PR.bd (PR.pure Hs7 (fr_f_X4_lexeme x2 s7)) (fun r16 s13 Hs13 => ?_)
        refine PR.bdv (PR.call Hs13 (fr_f_X6_blame 5 r16 s13) (by decide +kernel)) (fun s18 Hs18 => ?_)
        exact PR.tail Hs18 (fr_j_X6_lists_105 (l_X6_lists_68 n) ih x1 x2 s18)
      · exact PR.tail Hs7 (fr_j_X6_lists_105 (l_X6_lists_68 n) ih x1 x2 s7)
def W_l_X6_lists_2 : List Nat := [13020, 13021, 14001, 15998, 15999, 25000, 25003, 26998, 26999, 27998, 27999, 28001, 29998, 29999, 30001, 31998, 31999, 34999, 35999]
theorem fr_l_X6_lists_2 : ∀ (n : Nat) (x1 : Int) (s : vS), PR (W_l_X6_lists_2) s (fun q => q) (l_X6_lists_2 n x1 s)
  := by
  intro n
  induction n with
  | zero => intro x1 s; exact PR.none
  | succ n ih =>
    intro x1 s
    unfold l_X6_lists_2
    have Hs : Fr (W_l_X6_lists_2) s s := Fr.rfl
    refine PR.bd (PR.pure Hs (fr_f_X4_size s)) (fun r4 s1 Hs1 => ?_)
    refine PR.ite (fun _ => ?_) (fun _ => ?_)
    · exact PR.some Hs1
    · refine PR.bd (PR.pure Hs1 (fr_f_X6_isType x1 s1)) (fun r10 s7 Hs7 => ?_)
      refine PR.ite (fun _ => ?_) (fun _ => ?_)
      · refine PR.vl (fun y13 => ?_)
        exact PR.tail Hs7 (ih y13 s7)
      · refine PR.bd (PR.pure Hs7 (fr_f_X4_parts x1 s7)) (fun r19 s16 Hs16 => ?_)
        refine PR.ite (fun _ => ?_) (fun _ => ?_)
        · refine PR.vl (fun y22 => ?_)
          exact PR.tail Hs16 (ih y22 s16)
        · refine PR.bd (PR.pure Hs16 (fr_f_X4_parts x1 s16)) (fun r28 s25 Hs25 => ?_)
          refine PR.bd (PR.pure Hs25 (fr_f_X6_isType r28 s25)) (fun r33 s30 Hs30 => ?_)
          refine PR.ite (fun _ => ?_) (fun _ => ?_)
          · refine PR.gd ?_
            refine PR.bdv (PR.call Hs30 (fr_f_X9_clear 25 s30) (by decide +kernel)) (fun s40 Hs40 => ?_)
            refine PR.bd (PR.pure Hs40 (fr_f_X4_parts x1 s40)) (fun r46 s43 Hs43 => ?_)
            refine PR.lq_0 (PR.call Hs43 (fr_l_X6_lists_68 FU x1 r46 s43) (by decide +kernel)) (fun s48 Hs48 => ?_)
            refine PR.bd (PR.pure Hs48 (fr_f_X4_parts x1 s48)) (fun r53 s50 Hs50 => ?_)
            refine PR.bd (PR.pure Hs50 (fr_f_X4_kind r53 s50)) (fun r58 s55 Hs55 => ?_)
            refine PR.ite (fun _ => ?_) (fun _ => ?_)
            · refine PR.bdv (PR.call Hs55 (fr_f_X6_itemNumbers x1 s55) (by decide +kernel)) (fun s64 Hs64 => ?_)
              refine PR.vl (fun y67 => ?_)
              exact PR.tail Hs64 (ih y67 s64)
            · refine PR.vl (fun y61 => ?_)
              exact PR.tail Hs55 (ih y61 s55)
          · refine PR.vl (fun y36 => ?_)
            exact PR.tail Hs30 (ih y36 s30)
def W_f_X6_lists : List Nat := [13020, 13021, 14001, 15998, 15999, 25000, 25003, 26998, 26999, 27998, 27999, 28001, 29998, 29999, 30001, 31998, 31999, 34999, 35999]
theorem fr_f_X6_lists (s : vS) : PR (W_f_X6_lists) s (fun q => q.2) (f_X6_lists s) := by
  unfold f_X6_lists
  have Hs : Fr (W_f_X6_lists) s s := Fr.rfl
  refine PR.lq_0 (PR.call Hs (fr_l_X6_lists_2 FU 0 s) (by decide +kernel)) (fun s1 Hs1 => ?_)
  refine PR.ite (fun _ => ?_) (fun _ => ?_)
  · exact PR.some Hs1
  · exact PR.some Hs1
def W_f_X9_find : List Nat := []
theorem fr_f_X9_find (o : Nat) (x1 : Int) (s : vS) : PR (W_f_X9_find) s (fun q => q.2) (f_X9_find o x1 s) := by
  unfold f_X9_find
  have Hs : Fr (W_f_X9_find) s s := Fr.rfl
  refine PR.bd (PR.pure Hs (fr_f_X9_slot o x1 s)) (fun r4 s1 Hs1 => ?_)
  refine PR.gd ?_
  refine PR.ite (fun _ => ?_) (fun _ => ?_)
  · exact PR.some Hs1
  · refine PR.gd ?_
    exact PR.some Hs1
def W_f_X6_assignedType : List Nat := []
theorem fr_f_X6_assignedType (x1 : Int) (s : vS) : PR (W_f_X6_assignedType) s (fun q => q.2) (f_X6_assignedType x1 s) := by
  unfold f_X6_assignedType
  have Hs : Fr (W_f_X6_assignedType) s s := Fr.rfl
  refine PR.bd (PR.pure Hs (fr_f_X4_at x1 7 s)) (fun r4 s1 Hs1 => ?_)
  refine PR.bd (PR.pure Hs1 (fr_f_X9_find 19 r4 s1)) (fun r9 s6 Hs6 => ?_)
  refine PR.ite (fun _ => ?_) (fun _ => ?_)
  · exact PR.some Hs6
  · refine PR.bd (PR.pure Hs6 (fr_f_X4_parts r9 s6)) (fun r15 s12 Hs12 => ?_)
    exact PR.some Hs12
def W_l_X6_base_29 : List Nat := []
theorem fr_l_X6_base_29 : ∀ (n : Nat) (x1 : Int) (x2 : Int) (x3 : Int) (s : vS), PR (W_l_X6_base_29) s (fun q => q.2) (l_X6_base_29 n x1 x2 x3 s)
  := by
  intro n
  induction n with
  | zero => intro x1 x2 x3 s; exact PR.none
  | succ n ih =>
    intro x1 x2 x3 s
    unfold l_X6_base_29
    have Hs : Fr (W_l_X6_base_29) s s := Fr.rfl
    refine PR.ite (fun _ => ?_) (fun _ => ?_)
    · exact PR.some Hs
    · refine PR.bd (PR.pure Hs (fr_f_X4_kind x2 s)) (fun r5 s2 Hs2 => ?_)
      refine PR.ite (fun _ => ?_) (fun _ => ?_)
      · refine PR.ite (fun _ => ?_) (fun _ => ?_)
        · refine PR.bd (PR.pure Hs2 (fr_f_X6_assignedType x2 s2)) (fun r12 s9 Hs9 => ?_)
          refine PR.vl (fun y14 => ?_)
          exact PR.tail Hs9 (ih x1 r12 y14 s9)
        · refine PR.vl (fun y17 => ?_)
          exact PR.tail Hs2 (ih x1 (-1) y17 s2)
      · exact PR.some Hs2
def W_f_X6_base : List Nat := [39999]
theorem fr_f_X6_base (x1 : Int) (s : vS) : PR (W_f_X6_base) s (fun q => q.2) (f_X6_base x1 s) := by
  unfold f_X6_base
  have Hs : Fr (W_f_X6_base) s s := Fr.rfl
  refine PR.ite (fun _ => ?_) (fun _ => ?_)
  · exact PR.some Hs
  · refine PR.gd ?_
    refine PR.ite (fun _ => ?_) (fun _ => ?_)
    · refine PR.lq_1 (PR.pure Hs (fr_l_X6_base_29 FU x1 x1 0 s)) (fun y4 s5 Hs5 => ?_)
      refine PR.gd ?_
      refine PR.stp (Fr.wE Hs5 (by decide +kernel)) (fun s9 Hs9 => ?_)
      exact PR.some Hs9
    · refine PR.gd ?_
      exact PR.some Hs
def W_l_X6_item_48 : List Nat := []
theorem fr_l_X6_item_48 : ∀ (n : Nat) (x2 : Int) (x3 : Int) (s : vS), PR (W_l_X6_item_48) s (fun q => q.2) (l_X6_item_48 n x2 x3 s)
  := by
  intro n
  induction n with
  | zero => intro x2 x3 s; exact PR.none
  | succ n ih =>
    intro x2 x3 s
    unfold l_X6_item_48
    have Hs : Fr (W_l_X6_item_48) s s := Fr.rfl
    refine PR.ite (fun _ => ?_) (fun _ => ?_)
    · exact PR.some Hs
    · refine PR.gd ?_
      refine PR.bd (PR.pure Hs (fr_f_X4_lexeme x3 s)) (fun r6 s3 Hs3 => ?_)
      refine PR.bd (PR.pure Hs3 (fr_f_X3_isLike r6 x2 s3)) (fun r11 s8 Hs8 => ?_)
      refine PR.ite (fun _ => ?_) (fun _ => ?_)
      · refine PR.bd (PR.pure Hs8 (fr_f_X4_next x3 s8)) (fun r17 s14 Hs14 => ?_)
        exact PR.tail Hs14 (ih x2 r17 s14)
      · exact PR.some Hs8
def W_f_X6_item : List Nat := []
theorem fr_f_X6_item (x1 : Int) (x2 : Int) (s : vS) : PR (W_f_X6_item) s (fun q => q.2) (f_X6_item x1 x2 s) := by
  unfold f_X6_item
  have Hs : Fr (W_f_X6_item) s s := Fr.rfl
  refine PR.ite (fun _ => ?_) (fun _ => ?_)
  · exact PR.some Hs
  · refine PR.bd (PR.pure Hs (fr_f_X4_parts x1 s)) (fun r5 s2 Hs2 => ?_)
    refine PR.ite (fun _ => ?_) (fun _ => ?_)
    · exact PR.some Hs2
    · refine PR.bd (PR.pure Hs2 (fr_f_X4_parts x1 s2)) (fun r11 s8 Hs8 => ?_)
      refine PR.bd (PR.pure Hs8 (fr_f_X4_kind r11 s8)) (fun r16 s13 Hs13 => ?_)
      refine PR.ite (fun _ => ?_) (fun _ => ?_)
      · refine PR.bd (PR.pure Hs13 (fr_f_X4_parts x1 s13)) (fun r22 s19 Hs19 => ?_)
        refine PR.lq_1 (PR.pure Hs19 (fr_l_X6_item_48 FU x2 r22 s19)) (fun y24 s25 Hs25 => ?_)
        exact PR.some Hs25
      · exact PR.some Hs13
def W_j_X6_itemOf_48 : List Nat := []
theorem fr_j_X6_itemOf_48 (x2 : Int) (x4 : Int) (z0 : Int) (s : vS) : PR (W_j_X6_itemOf_48) s (fun q => q.2) (j_X6_itemOf_48 x2 x4 z0 s) := by
  unfold j_X6_itemOf_48
  have Hs : Fr (W_j_X6_itemOf_48) s s := Fr.rfl
  refine PR.ite (fun _ => ?_) (fun _ => ?_)
  · exact PR.some Hs
  · refine PR.bd (PR.pure Hs (fr_f_X6_item x4 x2 s)) (fun r5 s2 Hs2 => ?_)
    exact PR.some Hs2
def W_f_X6_itemOf : List Nat := [39999]
theorem fr_f_X6_itemOf (x1 : Int) (x2 : Int) (x3 : Int) (s : vS) : PR (W_f_X6_itemOf) s (fun q => q.2) (f_X6_itemOf x1 x2 x3 s) := by
  unfold f_X6_itemOf
  have Hs : Fr (W_f_X6_itemOf) s s := Fr.rfl
  refine PR.bd (PR.call Hs (fr_f_X6_base x1 s) (by decide +kernel)) (fun r4 s1 Hs1 => ?_)
  refine PR.ite (fun _ => ?_) (fun _ => ?_)
  · exact PR.pure Hs1 (fr_j_X6_itemOf_48 x2 r4 0 s1)
  · refine PR.bd (PR.pure Hs1 (fr_f_X4_kind r4 s1)) (fun r10 s7 Hs7 => ?_)
    refine PR.ite (fun _ => ?_) (fun _ => ?_)
    · exact PR.pure Hs7 (fr_j_X6_itemOf_48 x2 r4 1 s7)
    · refine PR.ite (fun _ => ?_) (fun _ => ?_)
      · exact PR.pure Hs7 (fr_j_X6_itemOf_48 x2 r4 0 s7)
      · refine PR.bd (PR.pure Hs7 (fr_f_X4_kind r4 s7)) (fun r17 s14 Hs14 => ?_)
        refine PR.ite (fun _ => ?_) (fun _ => ?_)
        · exact PR.pure Hs14 (fr_j_X6_itemOf_48 x2 r4 1 s14)
        · exact PR.pure Hs14 (fr_j_X6_itemOf_48 x2 r4 0 s14)
def W_f_X6_knownValue : List Nat := [13020, 13021, 39999]
theorem fr_f_X6_knownValue (x1 : Int) (x2 : Int) (s : vS) : PR (W_f_X6_knownValue) s (fun q => q) (f_X6_knownValue x1 x2 s) := by
  unfold f_X6_knownValue
  have Hs : Fr (W_f_X6_knownValue) s s := Fr.rfl
  refine PR.ite (fun _ => ?_) (fun _ => ?_)
  · exact PR.some Hs
  · refine PR.bd (PR.pure Hs (fr_f_X4_at x1 5 s)) (fun r5 s2 Hs2 => ?_)
    refine PR.ite (fun _ => ?_) (fun _ => ?_)
    · refine PR.bd (PR.pure Hs2 (fr_f_X4_lexeme x1 s2)) (fun r11 s8 Hs8 => ?_)
      refine PR.bd (PR.call Hs8 (fr_f_X6_itemOf x2 r11 1 s8) (by decide +kernel)) (fun r16 s13 Hs13 => ?_)
      refine PR.ite (fun _ => ?_) (fun _ => ?_)
      · refine PR.bd (PR.pure Hs13 (fr_f_X4_lexeme x1 s13)) (fun r22 s19 Hs19 => ?_)
        refine PR.bd (PR.pure Hs19 (fr_f_X9_find 22 r22 s19)) (fun r27 s24 Hs24 => ?_)
        refine PR.ite (fun _ => ?_) (fun _ => ?_)
        · refine PR.bd (PR.pure Hs24 (fr_f_X4_lexeme x1 s24)) (fun r33 s30 Hs30 => ?_)
          refine PR.bdv (PR.call Hs30 (fr_f_X6_blame 6 r33 s30) (by decide +kernel)) (fun s35 Hs35 => ?_)
          exact PR.some Hs35
        · exact PR.some Hs24
      · exact PR.some Hs13
    · exact PR.some Hs2
def W_l_X6_knownBounds_38 : List Nat := [13020, 13021, 39999]
theorem fr_j_X6_knownBounds_124 (rec : Int → Int → Int → Int → vS → Option (vS)) (hrec : ∀ (y0 : Int) (y1 : Int) (y2 : Int) (y3 : Int) (s : vS), PR (W_l_X6_knownBounds_38) s (fun q => q) (rec y0 y1 y2 y3 s)) (x1 : Int) (x2 : Int) (x3 : Int) (x4 : Int) (s : vS) : PR (W_l_X6_knownBounds_38) s (fun q => q) (j_X6_knownBounds_124 rec x1 x2 x3 x4 s) := by
  unfold j_X6_knownBounds_124
  have Hs : Fr (W_l_X6_knownBounds_38) s s := Fr.rfl
  refine PR.bd (PR.pure Hs (fr_f_X4_next x4 s)) (fun r4 s1 Hs1 => ?_)
  exact PR.tail Hs1 (hrec x1 x2 x3 r4 s1)
theorem fr_j_X6_knownBounds_63 (rec : Int → Int → Int → Int → vS → Option (vS)) (hrec : ∀ (y0 : Int) (y1 : Int) (y2 : Int) (y3 : Int) (s : vS), PR (W_l_X6_knownBounds_38) s (fun q => q) (rec y0 y1 y2 y3 s)) (x1 : Int) (x2 : Int) (x3 : Int) (x4 : Int) (z0 : Int) (s : vS) : PR (W_l_X6_knownBounds_38) s (fun q => q) (j_X6_knownBounds_63 rec x1 x2 x3 x4 z0 s) := by
  unfold j_X6_knownBounds_63
  have Hs : Fr (W_l_X6_knownBounds_38) s s := Fr.rfl
  refine PR.ite (fun _ => ?_) (fun _ => ?_)
  · exact PR.tail Hs (fr_j_X6_knownBounds_124 rec hrec x1 x2 x3 x4 s)
  · refine PR.bd (PR.pure Hs (fr_f_X4_lexeme x4 s)) (fun r5 s2 Hs2 => ?_)
    refine PR.bd (PR.call Hs2 (fr_f_X6_itemOf x1 r5 0 s2) (by decide +kernel)) (fun r10 s7 Hs7 => ?_)
    refine PR.ite (fun _ => ?_) (fun _ => ?_)
    · refine PR.bd (PR.pure Hs7 (fr_f_X4_lexeme x4 s7)) (fun r16 s13 Hs13 => ?_)
      refine PR.bd (PR.pure Hs13 (fr_f_X9_find 22 r16 s13)) (fun r21 s18 Hs18 => ?_)
      refine PR.ite (fun _ => ?_) (fun _ => ?_)
      · refine PR.bd (PR.pure Hs18 (fr_f_X4_lexeme x4 s18)) (fun r27 s24 Hs24 => ?_)
        refine PR.bdv (PR.call Hs24 (fr_f_X6_blame 6 r27 s24) (by decide +kernel)) (fun s29 Hs29 => ?_)
        exact PR.tail Hs29 (fr_j_X6_knownBounds_124 rec hrec x1 x2 x3 x4 s29)
      · exact PR.tail Hs18 (fr_j_X6_knownBounds_124 rec hrec x1 x2 x3 x4 s18)
    · exact PR.tail Hs7 (fr_j_X6_knownBounds_124 rec hrec x1 x2 x3 x4 s7)
theorem fr_l_X6_knownBounds_38 : ∀ (n : Nat) (x1 : Int) (x2 : Int) (x3 : Int) (x4 : Int) (s : vS), PR (W_l_X6_knownBounds_38) s (fun q => q) (l_X6_knownBounds_38 n x1 x2 x3 x4 s)
  := by
  intro n
  induction n with
  | zero => intro x1 x2 x3 x4 s; exact PR.none
  | succ n ih =>
    intro x1 x2 x3 x4 s
    unfold l_X6_knownBounds_38
    have Hs : Fr (W_l_X6_knownBounds_38) s s := Fr.rfl
    refine PR.ite (fun _ => ?_) (fun _ => ?_)
    · exact PR.some Hs
    · refine PR.bd (PR.pure Hs (fr_f_X4_at x4 5 s)) (fun r5 s2 Hs2 => ?_)
      refine PR.ite (fun _ => ?_) (fun _ => ?_)
      · exact PR.tail Hs2 (fr_j_X6_knownBounds_63 (l_X6_knownBounds_38 n) ih x1 x2 x3 x4 1 s2)
      · exact PR.tail Hs2 (fr_j_X6_knownBounds_63 (l_X6_knownBounds_38 n) ih x1 x2 x3 x4 0 s2)
def W_l_X6_knownBounds_23 : List Nat := [13020, 13021, 39999]
theorem fr_l_X6_knownBounds_23 : ∀ (n : Nat) (x1 : Int) (x2 : Int) (x3 : Int) (s : vS), PR (W_l_X6_knownBounds_23) s (fun q => q) (l_X6_knownBounds_23 n x1 x2 x3 s)
  := by
  intro n
  induction n with
  | zero => intro x1 x2 x3 s; exact PR.none
  | succ n ih =>
    intro x1 x2 x3 s
    unfold l_X6_knownBounds_23
    have Hs : Fr (W_l_X6_knownBounds_23) s s := Fr.rfl
    refine PR.ite (fun _ => ?_) (fun _ => ?_)
    · exact PR.some Hs
    · refine PR.bd (PR.pure Hs (fr_f_X4_parts x3 s)) (fun r5 s2 Hs2 => ?_)
      refine PR.lq_0 (PR.call Hs2 (fr_l_X6_knownBounds_38 FU x1 x2 x3 r5 s2) (by decide +kernel)) (fun s7 Hs7 => ?_)
      refine PR.bd (PR.pure Hs7 (fr_f_X4_next x3 s7)) (fun r12 s9 Hs9 => ?_)
      exact PR.tail Hs9 (ih x1 x2 r12 s9)
def W_l_X6_knownBounds_9 : List Nat := [13020, 13021, 39999]
theorem fr_l_X6_knownBounds_9 : ∀ (n : Nat) (x1 : Int) (x2 : Int) (s : vS), PR (W_l_X6_knownBounds_9) s (fun q => q) (l_X6_knownBounds_9 n x1 x2 s)
  := by
  intro n
  induction n with
  | zero => intro x1 x2 s; exact PR.none
  | succ n ih =>
    intro x1 x2 s
    unfold l_X6_knownBounds_9
    have Hs : Fr (W_l_X6_knownBounds_9) s s := Fr.rfl
    refine PR.ite (fun _ => ?_) (fun _ => ?_)
    · exact PR.some Hs
    · refine PR.bd (PR.pure Hs (fr_f_X4_parts x2 s)) (fun r5 s2 Hs2 => ?_)
      refine PR.lq_0 (PR.call Hs2 (fr_l_X6_knownBounds_23 FU x1 x2 r5 s2) (by decide +kernel)) (fun s7 Hs7 => ?_)
      refine PR.bd (PR.pure Hs7 (fr_f_X4_next x2 s7)) (fun r12 s9 Hs9 => ?_)
      exact PR.tail Hs9 (ih x1 r12 s9)
def W_f_X6_knownBounds : List Nat := [13020, 13021, 39999]
theorem fr_f_X6_knownBounds (x1 : Int) (s : vS) : PR (W_f_X6_knownBounds) s (fun q => q) (f_X6_knownBounds x1 s) := by
  unfold f_X6_knownBounds
  have Hs : Fr (W_f_X6_knownBounds) s s := Fr.rfl
  refine PR.bd (PR.pure Hs (fr_f_X4_limits x1 s)) (fun r4 s1 Hs1 => ?_)
  refine PR.lq_0 (PR.call Hs1 (fr_l_X6_knownBounds_9 FU x1 r4 s1) (by decide +kernel)) (fun s6 Hs6 => ?_)
  exact PR.some Hs6
def W_l_X6_known_2 : List Nat := [13020, 13021, 39999]
theorem fr_j_X6_known_97 (rec : Int → vS → Option (vS)) (hrec : ∀ (y0 : Int) (s : vS), PR (W_l_X6_known_2) s (fun q => q) (rec y0 s)) (x1 : Int) (s : vS) : PR (W_l_X6_known_2) s (fun q => q) (j_X6_known_97 rec x1 s) := by
  unfold j_X6_known_97
  have Hs : Fr (W_l_X6_known_2) s s := Fr.rfl
  refine PR.bd (PR.pure Hs (fr_f_X6_isType x1 s)) (fun r4 s1 Hs1 => ?_)
  refine PR.ite (fun _ => ?_) (fun _ => ?_)
  · refine PR.vl (fun y7 => ?_)
    exact PR.tail Hs1 (hrec y7 s1)
  · refine PR.bdv (PR.call Hs1 (fr_f_X6_knownBounds x1 s1) (by decide +kernel)) (fun s10 Hs10 => ?_)
    refine PR.vl (fun y13 => ?_)
    exact PR.tail Hs10 (hrec y13 s10)
theorem fr_j_X6_known_77 (rec : Int → vS → Option (vS)) (hrec : ∀ (y0 : Int) (s : vS), PR (W_l_X6_known_2) s (fun q => q) (rec y0 s)) (x1 : Int) (s : vS) : PR (W_l_X6_known_2) s (fun q => q) (j_X6_known_77 rec x1 s) := by
  unfold j_X6_known_77
  have Hs : Fr (W_l_X6_known_2) s s := Fr.rfl
  refine PR.bd (PR.pure Hs (fr_f_X4_limits x1 s)) (fun r4 s1 Hs1 => ?_)
  refine PR.bd (PR.pure Hs1 (fr_f_X4_parts x1 s1)) (fun r9 s6 Hs6 => ?_)
  refine PR.bdv (PR.call Hs6 (fr_f_X6_knownValue r4 r9 s6) (by decide +kernel)) (fun s11 Hs11 => ?_)
  exact PR.tail Hs11 (fr_j_X6_known_97 rec hrec x1 s11)
theorem fr_j_X6_known_51 (rec : Int → vS → Option (vS)) (hrec : ∀ (y0 : Int) (s : vS), PR (W_l_X6_known_2) s (fun q => q) (rec y0 s)) (x1 : Int) (s : vS) : PR (W_l_X6_known_2) s (fun q => q) (j_X6_known_51 rec x1 s) := by
  unfold j_X6_known_51
  have Hs : Fr (W_l_X6_known_2) s s := Fr.rfl
  refine PR.bd (PR.pure Hs (fr_f_X4_kind x1 s)) (fun r4 s1 Hs1 => ?_)
  refine PR.ite (fun _ => ?_) (fun _ => ?_)
  · exact PR.tail Hs1 (fr_j_X6_known_77 rec hrec x1 s1)
  · refine PR.bd (PR.pure Hs1 (fr_f_X4_kind x1 s1)) (fun r10 s7 Hs7 => ?_)
    refine PR.ite (fun _ => ?_) (fun _ => ?_)
    · exact PR.tail Hs7 (fr_j_X6_known_77 rec hrec x1 s7)
    · exact PR.tail Hs7 (fr_j_X6_known_97 rec hrec x1 s7)
theorem fr_l_X6_known_2 : ∀ (n : Nat) (x1 : Int) (s : vS), PR (W_l_X6_known_2) s (fun q => q) (l_X6_known_2 n x1 s)
  := by
  intro n
  induction n with
  | zero => intro x1 s; exact PR.none
  | succ n ih =>
    intro x1 s
    unfold l_X6_known_2
    have Hs : Fr (W_l_X6_known_2) s s := Fr.rfl
    refine PR.bd (PR.pure Hs (fr_f_X4_size s)) (fun r4 s1 Hs1 => ?_)
    refine PR.ite (fun _ => ?_) (fun _ => ?_)
    · exact PR.some Hs1
    · refine PR.bd (PR.pure Hs1 (fr_f_X4_kind x1 s1)) (fun r10 s7 Hs7 => ?_)
      refine PR.ite (fun _ => ?_) (fun _ => ?_)
      · refine PR.bd (PR.pure Hs7 (fr_f_X6_assignedType x1 s7)) (fun r16 s13 Hs13 => ?_)
        refine PR.ite (fun _ => ?_) (fun _ => ?_)
        · refine PR.bd (PR.pure Hs13 (fr_f_X4_at x1 7 s13)) (fun r22 s19 Hs19 => ?_)
          refine PR.bdv (PR.call Hs19 (fr_f_X6_blame 6 r22 s19) (by decide +kernel)) (fun s24 Hs24 => ?_)
          exact PR.tail Hs24 (fr_j_X6_known_51 (l_X6_known_2 n) ih x1 s24)
        · exact PR.tail Hs13 (fr_j_X6_known_51 (l_X6_known_2 n) ih x1 s13)
      · exact PR.tail Hs7 (fr_j_X6_known_51 (l_X6_known_2 n) ih x1 s7)
def W_f_X6_known : List Nat := [13020, 13021, 39999]
theorem fr_f_X6_known (s : vS) : PR (W_f_X6_known) s (fun q => q.2) (f_X6_known s) := by
  unfold f_X6_known
  have Hs : Fr (W_f_X6_known) s s := Fr.rfl
  refine PR.lq_0 (PR.call Hs (fr_l_X6_known_2 FU 0 s) (by decide +kernel)) (fun s1 Hs1 => ?_)
  refine PR.ite (fun _ => ?_) (fun _ => ?_)
  · exact PR.some Hs1
  · exact PR.some Hs1
def W_f_X6_isFinite : List Nat := []
def W_l_X6_isFinite_68 : List Nat := []
theorem fr_j_X6_isFinite_102 (fr : Nat) (lr : Nat) (rcf : RT_X6_isFinite) (hrcf : ∀ (y0 : Int) (s : vS), PR W_f_X6_isFinite s (fun q => q.2) (rcf y0 s)) (rec : Int → vS → Option ((vS) ⊕ (Int × vS))) (hrec : ∀ (y0 : Int) (s : vS), PR (W_l_X6_isFinite_68) s (Sum.elim (fun q => q) (fun q => q.2)) (rec y0 s)) (x3 : Int) (s : vS) : PR (W_l_X6_isFinite_68) s (Sum.elim (fun q => q) (fun q => q.2)) (j_X6_isFinite_102 fr lr rcf rec x3 s) := by
  unfold j_X6_isFinite_102
  have Hs : Fr (W_l_X6_isFinite_68) s s := Fr.rfl
  refine PR.bd (PR.pure Hs (fr_f_X4_next x3 s)) (fun r4 s1 Hs1 => ?_)
  exact PR.tail Hs1 (hrec r4 s1)
theorem fr_l_X6_isFinite_68 (fr : Nat) (lr : Nat) (rcf : RT_X6_isFinite) (hrcf : ∀ (y0 : Int) (s : vS), PR W_f_X6_isFinite s (fun q => q.2) (rcf y0 s)) : ∀ (n : Nat) (x3 : Int) (s : vS), PR (W_l_X6_isFinite_68) s (Sum.elim (fun q => q) (fun q => q.2)) (l_X6_isFinite_68 fr lr rcf n x3 s)
  := by
  intro n
  induction n with
  | zero => intro x3 s; exact PR.none
  | succ n ih =>
    intro x3 s
    unfold l_X6_isFinite_68
    have Hs : Fr (W_l_X6_isFinite_68) s s := Fr.rfl
    refine PR.ite (fun _ => ?_) (fun _ => ?_)
    · exact PR.some Hs
    · refine PR.bd (PR.pure Hs (fr_f_X4_at x3 5 s)) (fun r5 s2 Hs2 => ?_)
      refine PR.ite (fun _ => ?_) (fun _ => ?_)
      · refine PR.bd (PR.pure Hs2 (fr_f_X4_parts x3 s2)) (fun r11 s8 Hs8 => ?_)
        refine PR.bd (PR.call Hs8 (hrcf r11 s8) (by decide +kernel)) (fun r16 s13 Hs13 => ?_)
        refine PR.ite (fun _ => ?_) (fun _ => ?_)
        · exact PR.some Hs13
        · exact PR.tail Hs13 (fr_j_X6_isFinite_102 fr lr rcf hrcf (l_X6_isFinite_68 fr lr rcf n) ih x3 s13)
      · exact PR.tail Hs2 (fr_j_X6_isFinite_102 fr lr rcf hrcf (l_X6_isFinite_68 fr lr rcf n) ih x3 s2)
def W_j_X6_isFinite_59 : List Nat := []
theorem fr_j_X6_isFinite_59 (fr : Nat) (lr : Nat) (rcf : RT_X6_isFinite) (hrcf : ∀ (y0 : Int) (s : vS), PR W_f_X6_isFinite s (fun q => q.2) (rcf y0 s)) (x1 : Int) (s : vS) : PR (W_j_X6_isFinite_59) s (fun q => q.2) (j_X6_isFinite_59 fr lr rcf x1 s) := by
  unfold j_X6_isFinite_59
  have Hs : Fr (W_j_X6_isFinite_59) s s := Fr.rfl
  refine PR.bd (PR.pure Hs (fr_f_X4_parts x1 s)) (fun r4 s1 Hs1 => ?_)
  refine PR.lqs_0 (PR.pure Hs1 (fr_l_X6_isFinite_68 fr lr rcf hrcf FU r4 s1)) (fun s6 Hs6 => ?_) (fun q Hq => PR.some Hq)
  exact PR.some Hs6
def W_l_X6_isFinite_131 : List Nat := []
theorem fr_l_X6_isFinite_131 (fr : Nat) (lr : Nat) (rcf : RT_X6_isFinite) (hrcf : ∀ (y0 : Int) (s : vS), PR W_f_X6_isFinite s (fun q => q.2) (rcf y0 s)) : ∀ (n : Nat) (x3 : Int) (s : vS), PR (W_l_X6_isFinite_131) s (Sum.elim (fun q => q) (fun q => q.2)) (l_X6_isFinite_131 fr lr rcf n x3 s)
  := by
  intro n
  induction n with
  | zero => intro x3 s; exact PR.none
  | succ n ih =>
    intro x3 s
    unfold l_X6_isFinite_131
    have Hs : Fr (W_l_X6_isFinite_131) s s := Fr.rfl
    refine PR.ite (fun _ => ?_) (fun _ => ?_)
    · exact PR.some Hs
    · refine PR.bd (PR.pure Hs (fr_f_X4_parts x3 s)) (fun r5 s2 Hs2 => ?_)
      refine PR.bd (PR.call Hs2 (hrcf r5 s2) (by decide +kernel)) (fun r10 s7 Hs7 => ?_)
      refine PR.ite (fun _ => ?_) (fun _ => ?_)
      · refine PR.bd (PR.pure Hs7 (fr_f_X4_next x3 s7)) (fun r16 s13 Hs13 => ?_)
        exact PR.tail Hs13 (ih r16 s13)
      · exact PR.some Hs7
theorem fr_f_X6_isFinite (fr : Nat) (lr : Nat) (rcf : RT_X6_isFinite) (hrcf : ∀ (y0 : Int) (s : vS), PR W_f_X6_isFinite s (fun q => q.2) (rcf y0 s)) (x1 : Int) (s : vS) : PR (W_f_X6_isFinite) s (fun q => q.2) (f_X6_isFinite fr lr rcf x1 s) := by
  unfold f_X6_isFinite
  have Hs : Fr (W_f_X6_isFinite) s s := Fr.rfl
  refine PR.bd (PR.pure Hs (fr_f_X4_kind x1 s)) (fun r4 s1 Hs1 => ?_)
  refine PR.ite (fun _ => ?_) (fun _ => ?_)
  · refine PR.bd (PR.pure Hs1 (fr_f_X4_at x1 7 s1)) (fun r20 s17 Hs17 => ?_)
    refine PR.gd ?_
    refine PR.bd (PR.pure Hs17 (fr_f_X9_find 19 r20 s17)) (fun r26 s23 Hs23 => ?_)
    refine PR.gd ?_
    refine PR.gd ?_
    refine PR.ite (fun _ => ?_) (fun _ => ?_)
    · exact PR.some Hs23
    · exact PR.some Hs23
  · refine PR.ite (fun _ => ?_) (fun _ => ?_)
    · exact PR.pure Hs1 (fr_j_X6_isFinite_59 fr lr rcf hrcf x1 s1)
    · refine PR.ite (fun _ => ?_) (fun _ => ?_)
      · exact PR.pure Hs1 (fr_j_X6_isFinite_59 fr lr rcf hrcf x1 s1)
      · refine PR.ite (fun _ => ?_) (fun _ => ?_)
        · refine PR.bd (PR.pure Hs1 (fr_f_X4_parts x1 s1)) (fun r13 s10 Hs10 => ?_)
          refine PR.lqs_0 (PR.pure Hs10 (fr_l_X6_isFinite_131 fr lr rcf hrcf FU r13 s10)) (fun s15 Hs15 => ?_) (fun q Hq => PR.some Hq)
          exact PR.some Hs15
        · exact PR.some Hs1
theorem fr_d_X6_isFinite : ∀ (d : Nat) (x1 : Int) (s : vS), PR W_f_X6_isFinite s (fun q => q.2) (d_X6_isFinite d x1 s)
  | 0, _, _ => PR.none
  | d + 1, x1, s => fr_f_X6_isFinite _ _ _ (fr_d_X6_isFinite d) x1 s
def W_l_X6_finite_16 : List Nat := [38999]
theorem fr_j_X6_finite_67 (rec : Int → Int → vS → Option (Int × vS)) (hrec : ∀ (y0 : Int) (y1 : Int) (s : vS), PR (W_l_X6_finite_16) s (fun q => q.2) (rec y0 y1 s)) (x1 : Int) (x2 : Int) (s : vS) : PR (W_l_X6_finite_16) s (fun q => q.2) (j_X6_finite_67 rec x1 x2 s) := by
  unfold j_X6_finite_67
  have Hs : Fr (W_l_X6_finite_16) s s := Fr.rfl
  refine PR.bd (PR.pure Hs (fr_f_X4_next x2 s)) (fun r4 s1 Hs1 => ?_)
  exact PR.tail Hs1 (hrec x1 r4 s1)
theorem fr_l_X6_finite_16 : ∀ (n : Nat) (x1 : Int) (x2 : Int) (s : vS), PR (W_l_X6_finite_16) s (fun q => q.2) (l_X6_finite_16 n x1 x2 s)
  := by
  intro n
  induction n with
  | zero => intro x1 x2 s; exact PR.none
  | succ n ih =>
    intro x1 x2 s
    unfold l_X6_finite_16
    have Hs : Fr (W_l_X6_finite_16) s s := Fr.rfl
    refine PR.ite (fun _ => ?_) (fun _ => ?_)
    · exact PR.some Hs
    · refine PR.bd (PR.pure Hs (fr_f_X4_kind x2 s)) (fun r5 s2 Hs2 => ?_)
      refine PR.ite (fun _ => ?_) (fun _ => ?_)
      · refine PR.gd ?_
        refine PR.ite (fun _ => ?_) (fun _ => ?_)
        · refine PR.bd (PR.pure Hs2 (fr_f_X4_parts x2 s2)) (fun r13 s10 Hs10 => ?_)
          refine PR.bd (PR.call Hs10 (fr_d_X6_isFinite 128 r13 s10) (by decide +kernel)) (fun r18 s15 Hs15 => ?_)
          refine PR.ite (fun _ => ?_) (fun _ => ?_)
          · exact PR.tail Hs15 (fr_j_X6_finite_67 (l_X6_finite_16 n) ih x1 x2 s15)
          · refine PR.gd ?_
            refine PR.stp (Fr.wE Hs15 (by decide +kernel)) (fun s22 Hs22 => ?_)
            exact PR.tail Hs22 (fr_j_X6_finite_67 (l_X6_finite_16 n) ih 1 x2 s22)
        · exact PR.tail Hs2 (fr_j_X6_finite_67 (l_X6_finite_16 n) ih x1 x2 s2)
      · exact PR.tail Hs2 (fr_j_X6_finite_67 (l_X6_finite_16 n) ih x1 x2 s2)
def W_l_X6_finite_2 : List Nat := [38999]
theorem fr_l_X6_finite_2 : ∀ (n : Nat) (x1 : Int) (s : vS), PR (W_l_X6_finite_2) s (fun q => q) (l_X6_finite_2 n x1 s)
  := by
  intro n
  induction n with
  | zero => intro x1 s; exact PR.none
  | succ n ih =>
    intro x1 s
    unfold l_X6_finite_2
    have Hs : Fr (W_l_X6_finite_2) s s := Fr.rfl
    refine PR.ite (fun _ => ?_) (fun _ => ?_)
    · exact PR.some Hs
    · refine PR.vl (fun y2 => ?_)
      refine PR.lq_1 (PR.call Hs (fr_l_X6_finite_16 FU 0 y2 s) (by decide +kernel)) (fun y5 s6 Hs6 => ?_)
      exact PR.tail Hs6 (ih y5 s6)
def W_l_X6_finite_90 : List Nat := [13020, 13021]
theorem fr_j_X6_finite_131 (rec : Int → vS → Option (vS)) (hrec : ∀ (y0 : Int) (s : vS), PR (W_l_X6_finite_90) s (fun q => q) (rec y0 s)) (x2 : Int) (s : vS) : PR (W_l_X6_finite_90) s (fun q => q) (j_X6_finite_131 rec x2 s) := by
  unfold j_X6_finite_131
  have Hs : Fr (W_l_X6_finite_90) s s := Fr.rfl
  refine PR.bd (PR.pure Hs (fr_f_X4_next x2 s)) (fun r4 s1 Hs1 => ?_)
  exact PR.tail Hs1 (hrec r4 s1)
theorem fr_l_X6_finite_90 : ∀ (n : Nat) (x2 : Int) (s : vS), PR (W_l_X6_finite_90) s (fun q => q) (l_X6_finite_90 n x2 s)
  := by
  intro n
  induction n with
  | zero => intro x2 s; exact PR.none
  | succ n ih =>
    intro x2 s
    unfold l_X6_finite_90
    have Hs : Fr (W_l_X6_finite_90) s s := Fr.rfl
    refine PR.ite (fun _ => ?_) (fun _ => ?_)
    · exact PR.some Hs
    · refine PR.bd (PR.pure Hs (fr_f_X4_kind x2 s)) (fun r5 s2 Hs2 => ?_)
      refine PR.ite (fun _ => ?_) (fun _ => ?_)
      · refine PR.gd ?_
        refine PR.ite (fun _ => ?_) (fun _ => ?_)
        · refine PR.bd (PR.pure Hs2 (fr_f_X4_lexeme x2 s2)) (fun r13 s10 Hs10 => ?_)
          refine PR.bdv (PR.call Hs10 (fr_f_X6_blame 7 r13 s10) (by decide +kernel)) (fun s15 Hs15 => ?_)
          exact PR.tail Hs15 (fr_j_X6_finite_131 (l_X6_finite_90 n) ih x2 s15)
        · exact PR.tail Hs2 (fr_j_X6_finite_131 (l_X6_finite_90 n) ih x2 s2)
      · exact PR.tail Hs2 (fr_j_X6_finite_131 (l_X6_finite_90 n) ih x2 s2)
def W_f_X6_finite : List Nat := [13020, 13021, 38999]
theorem fr_f_X6_finite (s : vS) : PR (W_f_X6_finite) s (fun q => q.2) (f_X6_finite s) := by
  unfold f_X6_finite
  have Hs : Fr (W_f_X6_finite) s s := Fr.rfl
  refine PR.lq_0 (PR.call Hs (fr_l_X6_finite_2 FU 1 s) (by decide +kernel)) (fun s1 Hs1 => ?_)
  refine PR.vl (fun y3 => ?_)
  refine PR.lq_0 (PR.call Hs1 (fr_l_X6_finite_90 FU y3 s1) (by decide +kernel)) (fun s6 Hs6 => ?_)
  refine PR.ite (fun _ => ?_) (fun _ => ?_)
  · exact PR.some Hs6
  · exact PR.some Hs6
def W_f_X6_push : List Nat := [13018, 40998, 40999]
theorem fr_f_X6_push (x1 : Int) (s : vS) : PR (W_f_X6_push) s (fun q => q) (f_X6_push x1 s) := by
  unfold f_X6_push
  have Hs : Fr (W_f_X6_push) s s := Fr.rfl
  refine PR.bd (PR.pure Hs (fr_f_X6_grown 40 (w32 ((gI s 13 18) + 1)) s)) (fun r4 s5 Hs5 => ?_)
  refine PR.gd ?_
  refine PR.stp (Fr.wgrw Hs5 (by decide +kernel) (by decide +kernel)) (fun s9 Hs9 => ?_)
  refine PR.gd ?_
  refine PR.stp (Fr.wE Hs9 (by decide +kernel)) (fun s12 Hs12 => ?_)
  refine PR.stp (Fr.wI Hs12 (by decide +kernel)) (fun s14 Hs14 => ?_)
  exact PR.some Hs14
def W_f_X6_universal : List Nat := []
theorem fr_f_X6_universal (x0 : Int) (s : vS) : PR (W_f_X6_universal) s (fun q => q.2) (f_X6_universal x0 s) := by
  unfold f_X6_universal
  have Hs : Fr (W_f_X6_universal) s s := Fr.rfl
  refine PR.ite (fun _ => ?_) (fun _ => ?_)
  · exact PR.some Hs
  · refine PR.ite (fun _ => ?_) (fun _ => ?_)
    · exact PR.some Hs
    · refine PR.ite (fun _ => ?_) (fun _ => ?_)
      · exact PR.some Hs
      · refine PR.ite (fun _ => ?_) (fun _ => ?_)
        · exact PR.some Hs
        · refine PR.ite (fun _ => ?_) (fun _ => ?_)
          · exact PR.some Hs
          · refine PR.ite (fun _ => ?_) (fun _ => ?_)
            · exact PR.some Hs
            · refine PR.ite (fun _ => ?_) (fun _ => ?_)
              · exact PR.some Hs
              · refine PR.ite (fun _ => ?_) (fun _ => ?_)
                · exact PR.some Hs
                · refine PR.ite (fun _ => ?_) (fun _ => ?_)
                  · exact PR.some Hs
                  · refine PR.ite (fun _ => ?_) (fun _ => ?_)
                    · exact PR.some Hs
                    · refine PR.ite (fun _ => ?_) (fun _ => ?_)
                      · exact PR.some Hs
                      · refine PR.ite (fun _ => ?_) (fun _ => ?_)
                        · exact PR.some Hs
                        · refine PR.ite (fun _ => ?_) (fun _ => ?_)
                          · exact PR.some Hs
                          · refine PR.ite (fun _ => ?_) (fun _ => ?_)
                            · exact PR.some Hs
                            · refine PR.ite (fun _ => ?_) (fun _ => ?_)
                              · exact PR.some Hs
                              · exact PR.some Hs
def W_l_X6_tagOwn_6 : List Nat := []
theorem fr_l_X6_tagOwn_6 : ∀ (n : Nat) (x2 : Int) (x3 : Int) (x4 : Int) (x5 : Int) (s : vS), PR (W_l_X6_tagOwn_6) s (fun q => q.2) (l_X6_tagOwn_6 n x2 x3 x4 x5 s)
  := by
  intro n
  induction n with
  | zero => intro x2 x3 x4 x5 s; exact PR.none
  | succ n ih =>
    intro x2 x3 x4 x5 s
    unfold l_X6_tagOwn_6
    have Hs : Fr (W_l_X6_tagOwn_6) s s := Fr.rfl
    refine PR.ite (fun _ => ?_) (fun _ => ?_)
    · exact PR.some Hs
    · refine PR.vl (fun y2 => ?_)
      refine PR.bd (PR.pure Hs (fr_f_X4_next x5 s)) (fun r8 s5 Hs5 => ?_)
      exact PR.tail Hs5 (ih x2 x3 y2 r8 s5)
def W_l_X6_tagOwn_46 : List Nat := []
theorem fr_l_X6_tagOwn_46 : ∀ (n : Nat) (x2 : Int) (x3 : Int) (x5 : Int) (x6 : Int) (x7 : Int) (s : vS), PR (W_l_X6_tagOwn_46) s (fun q => q.2) (l_X6_tagOwn_46 n x2 x3 x5 x6 x7 s)
  := by
  intro n
  induction n with
  | zero => intro x2 x3 x5 x6 x7 s; exact PR.none
  | succ n ih =>
    intro x2 x3 x5 x6 x7 s
    unfold l_X6_tagOwn_46
    have Hs : Fr (W_l_X6_tagOwn_46) s s := Fr.rfl
    refine PR.ite (fun _ => ?_) (fun _ => ?_)
    · exact PR.some Hs
    · refine PR.bd (PR.pure Hs (fr_f_X4_next x6 s)) (fun r5 s2 Hs2 => ?_)
      refine PR.vl (fun y7 => ?_)
      exact PR.tail Hs2 (ih x2 x3 x5 r5 y7 s2)
def W_l_X6_tagOwn_35 : List Nat := [13018, 13020, 13021, 40998, 40999]
theorem fr_j_X6_tagOwn_247 (rec : Int → Int → Int → vS → Option (vS)) (hrec : ∀ (y0 : Int) (y1 : Int) (y2 : Int) (s : vS), PR (W_l_X6_tagOwn_35) s (fun q => q) (rec y0 y1 y2 s)) (x2 : Int) (x3 : Int) (x5 : Int) (x9 : Int) (s : vS) : PR (W_l_X6_tagOwn_35) s (fun q => q) (j_X6_tagOwn_247 rec x2 x3 x5 x9 s) := by
  unfold j_X6_tagOwn_247
  have Hs : Fr (W_l_X6_tagOwn_35) s s := Fr.rfl
  refine PR.bdv (PR.call Hs (fr_f_X6_push x9 s) (by decide +kernel)) (fun s1 Hs1 => ?_)
  refine PR.vl (fun y4 => ?_)
  exact PR.tail Hs1 (hrec x2 x3 y4 s1)
theorem fr_j_X6_tagOwn_194 (rec : Int → Int → Int → vS → Option (vS)) (hrec : ∀ (y0 : Int) (y1 : Int) (y2 : Int) (s : vS), PR (W_l_X6_tagOwn_35) s (fun q => q) (rec y0 y1 y2 s)) (x2 : Int) (x3 : Int) (x5 : Int) (x6 : Int) (x7 : Int) (x8 : Int) (s : vS) : PR (W_l_X6_tagOwn_35) s (fun q => q) (j_X6_tagOwn_194 rec x2 x3 x5 x6 x7 x8 s) := by
  unfold j_X6_tagOwn_194
  have Hs : Fr (W_l_X6_tagOwn_35) s s := Fr.rfl
  refine PR.bd (PR.pure Hs (fr_f_X4_at x6 5 s)) (fun r4 s1 Hs1 => ?_)
  refine PR.bd (PR.pure Hs1 (fr_f_X4_at x6 6 s1)) (fun r9 s6 Hs6 => ?_)
  refine PR.vl (fun y11 => ?_)
  refine PR.ite (fun _ => ?_) (fun _ => ?_)
  · exact PR.tail Hs6 (fr_j_X6_tagOwn_247 rec hrec x2 x3 x5 y11 s6)
  · refine PR.ite (fun _ => ?_) (fun _ => ?_)
    · refine PR.gd ?_
      refine PR.stp (Fr.wE Hs6 (by decide +kernel)) (fun s17 Hs17 => ?_)
      refine PR.vl (fun y19 => ?_)
      exact PR.tail Hs17 (hrec x2 x3 y19 s17)
    · exact PR.tail Hs6 (fr_j_X6_tagOwn_247 rec hrec x2 x3 x5 y11 s6)
theorem fr_j_X6_tagOwn_157 (rec : Int → Int → Int → vS → Option (vS)) (hrec : ∀ (y0 : Int) (y1 : Int) (y2 : Int) (s : vS), PR (W_l_X6_tagOwn_35) s (fun q => q) (rec y0 y1 y2 s)) (x2 : Int) (x3 : Int) (x5 : Int) (x6 : Int) (x7 : Int) (z0 : Int) (s : vS) : PR (W_l_X6_tagOwn_35) s (fun q => q) (j_X6_tagOwn_157 rec x2 x3 x5 x6 x7 z0 s) := by
  unfold j_X6_tagOwn_157
  have Hs : Fr (W_l_X6_tagOwn_35) s s := Fr.rfl
  refine PR.ite (fun _ => ?_) (fun _ => ?_)
  · exact PR.tail Hs (fr_j_X6_tagOwn_194 rec hrec x2 x3 x5 x6 x7 z0 s)
  · refine PR.bd (PR.pure Hs (fr_f_X4_at x6 7 s)) (fun r5 s2 Hs2 => ?_)
    refine PR.ite (fun _ => ?_) (fun _ => ?_)
    · refine PR.bd (PR.pure Hs2 (fr_f_X4_lexeme x6 s2)) (fun r11 s8 Hs8 => ?_)
      refine PR.bdv (PR.call Hs8 (fr_f_X6_blame 8 r11 s8) (by decide +kernel)) (fun s13 Hs13 => ?_)
      exact PR.tail Hs13 (fr_j_X6_tagOwn_194 rec hrec x2 x3 x5 x6 x7 z0 s13)
    · exact PR.tail Hs2 (fr_j_X6_tagOwn_194 rec hrec x2 x3 x5 x6 x7 z0 s2)
theorem fr_j_X6_tagOwn_111 (rec : Int → Int → Int → vS → Option (vS)) (hrec : ∀ (y0 : Int) (y1 : Int) (y2 : Int) (s : vS), PR (W_l_X6_tagOwn_35) s (fun q => q) (rec y0 y1 y2 s)) (x2 : Int) (x3 : Int) (x5 : Int) (x6 : Int) (z0 : Int) (s : vS) : PR (W_l_X6_tagOwn_35) s (fun q => q) (j_X6_tagOwn_111 rec x2 x3 x5 x6 z0 s) := by
  unfold j_X6_tagOwn_111
  have Hs : Fr (W_l_X6_tagOwn_35) s s := Fr.rfl
  refine PR.bd (PR.pure Hs (fr_f_X4_at x6 7 s)) (fun r4 s1 Hs1 => ?_)
  refine PR.ite (fun _ => ?_) (fun _ => ?_)
  · exact PR.tail Hs1 (fr_j_X6_tagOwn_157 rec hrec x2 x3 x5 x6 z0 1 s1)
  · refine PR.bd (PR.pure Hs1 (fr_f_X4_at x6 7 s1)) (fun r10 s7 Hs7 => ?_)
    refine PR.ite (fun _ => ?_) (fun _ => ?_)
    · refine PR.ite (fun _ => ?_) (fun _ => ?_)
      · exact PR.tail Hs7 (fr_j_X6_tagOwn_157 rec hrec x2 x3 x5 x6 z0 0 s7)
      · exact PR.tail Hs7 (fr_j_X6_tagOwn_157 rec hrec x2 x3 x5 x6 z0 1 s7)
    · exact PR.tail Hs7 (fr_j_X6_tagOwn_157 rec hrec x2 x3 x5 x6 z0 0 s7)
theorem fr_j_X6_tagOwn_98 (rec : Int → Int → Int → vS → Option (vS)) (hrec : ∀ (y0 : Int) (y1 : Int) (y2 : Int) (s : vS), PR (W_l_X6_tagOwn_35) s (fun q => q) (rec y0 y1 y2 s)) (x2 : Int) (x3 : Int) (x5 : Int) (x6 : Int) (s : vS) : PR (W_l_X6_tagOwn_35) s (fun q => q) (j_X6_tagOwn_98 rec x2 x3 x5 x6 s) := by
  unfold j_X6_tagOwn_98
  have Hs : Fr (W_l_X6_tagOwn_35) s s := Fr.rfl
  refine PR.ite (fun _ => ?_) (fun _ => ?_)
  · exact PR.tail Hs (fr_j_X6_tagOwn_111 rec hrec x2 x3 x5 x6 1 s)
  · exact PR.tail Hs (fr_j_X6_tagOwn_111 rec hrec x2 x3 x5 x6 0 s)
theorem fr_l_X6_tagOwn_35 : ∀ (n : Nat) (x2 : Int) (x3 : Int) (x5 : Int) (s : vS), PR (W_l_X6_tagOwn_35) s (fun q => q) (l_X6_tagOwn_35 n x2 x3 x5 s)
  := by
  intro n
  induction n with
  | zero => intro x2 x3 x5 s; exact PR.none
  | succ n ih =>
    intro x2 x3 x5 s
    unfold l_X6_tagOwn_35
    have Hs : Fr (W_l_X6_tagOwn_35) s s := Fr.rfl
    refine PR.ite (fun _ => ?_) (fun _ => ?_)
    · exact PR.some Hs
    · refine PR.lq_1 (PR.pure Hs (fr_l_X6_tagOwn_46 FU x2 x3 x5 x2 0 s)) (fun y2 s3 Hs3 => ?_)
      refine PR.bd (PR.pure Hs3 (fr_f_X4_at y2 5 s3)) (fun r9 s6 Hs6 => ?_)
      refine PR.ite (fun _ => ?_) (fun _ => ?_)
      · refine PR.bd (PR.pure Hs6 (fr_f_X4_lexeme y2 s6)) (fun r15 s12 Hs12 => ?_)
        refine PR.bdv (PR.call Hs12 (fr_f_X6_blame 8 r15 s12) (by decide +kernel)) (fun s17 Hs17 => ?_)
        exact PR.tail Hs17 (fr_j_X6_tagOwn_98 (l_X6_tagOwn_35 n) ih x2 x3 x5 y2 s17)
      · exact PR.tail Hs6 (fr_j_X6_tagOwn_98 (l_X6_tagOwn_35 n) ih x2 x3 x5 y2 s6)
def W_f_X6_tagOwn : List Nat := [13018, 13020, 13021, 40998, 40999]
theorem fr_f_X6_tagOwn (x1 : Int) (x2 : Int) (x3 : Int) (s : vS) : PR (W_f_X6_tagOwn) s (fun q => q) (f_X6_tagOwn x1 x2 x3 s) := by
  unfold f_X6_tagOwn
  have Hs : Fr (W_f_X6_tagOwn) s s := Fr.rfl
  refine PR.lq_1 (PR.pure Hs (fr_l_X6_tagOwn_6 FU x2 x3 0 x2 s)) (fun y1 s2 Hs2 => ?_)
  refine PR.vl (fun y5 => ?_)
  refine PR.lq_0 (PR.call Hs2 (fr_l_X6_tagOwn_35 FU x2 x3 y5 s2) (by decide +kernel)) (fun s8 Hs8 => ?_)
  exact PR.some Hs8
def W_l_X6_tagOne_251 : List Nat := [40999]
theorem fr_l_X6_tagOne_251 : ∀ (n : Nat) (x4 : Int) (x5 : Int) (s : vS), PR (W_l_X6_tagOne_251) s (fun q => q) (l_X6_tagOne_251 n x4 x5 s)
  := by
  intro n
  induction n with
  | zero => intro x4 x5 s; exact PR.none
  | succ n ih =>
    intro x4 x5 s
    unfold l_X6_tagOne_251
    have Hs : Fr (W_l_X6_tagOne_251) s s := Fr.rfl
    refine PR.ite (fun _ => ?_) (fun _ => ?_)
    · exact PR.some Hs
    · refine PR.gd ?_
      refine PR.vl (fun y3 => ?_)
      refine PR.gd ?_
      refine PR.gd ?_
      refine PR.stp (Fr.wE Hs (by decide +kernel)) (fun s8 Hs8 => ?_)
      refine PR.gd ?_
      refine PR.stp (Fr.wE Hs8 (by decide +kernel)) (fun s11 Hs11 => ?_)
      refine PR.vl (fun y13 => ?_)
      refine PR.vl (fun y16 => ?_)
      exact PR.tail Hs11 (ih y13 y16 s11)
def W_j_X6_tagOne_228 : List Nat := [37999, 40999]
theorem fr_j_X6_tagOne_228 (x1 : Int) (x3 : Int) (s : vS) : PR (W_j_X6_tagOne_228) s (fun q => q) (j_X6_tagOne_228 x1 x3 s) := by
  unfold j_X6_tagOne_228
  have Hs : Fr (W_j_X6_tagOne_228) s s := Fr.rfl
  refine PR.gd ?_
  refine PR.stp (Fr.wE Hs (by decide +kernel)) (fun s2 Hs2 => ?_)
  refine PR.vl (fun y4 => ?_)
  refine PR.lq_0 (PR.call Hs2 (fr_l_X6_tagOne_251 FU x3 y4 s2) (by decide +kernel)) (fun s7 Hs7 => ?_)
  exact PR.some Hs7
def W_j_X6_tagOne_178 : List Nat := [13018, 13020, 13021, 37999, 40998, 40999]
theorem fr_j_X6_tagOne_178 (x1 : Int) (x3 : Int) (s : vS) : PR (W_j_X6_tagOne_178) s (fun q => q) (j_X6_tagOne_178 x1 x3 s) := by
  unfold j_X6_tagOne_178
  have Hs : Fr (W_j_X6_tagOne_178) s s := Fr.rfl
  refine PR.bd (PR.pure Hs (fr_f_X4_at x1 2 s)) (fun r4 s1 Hs1 => ?_)
  refine PR.bdv (PR.call Hs1 (fr_f_X6_tagOwn x1 r4 x3 s1) (by decide +kernel)) (fun s6 Hs6 => ?_)
  refine PR.ite (fun _ => ?_) (fun _ => ?_)
  · exact PR.call Hs6 (fr_j_X6_tagOne_228 x1 x3 s6) (by decide +kernel)
  · refine PR.bd (PR.pure Hs6 (fr_f_X4_lexeme x1 s6)) (fun r13 s10 Hs10 => ?_)
    refine PR.bdv (PR.call Hs10 (fr_f_X6_blame 8 r13 s10) (by decide +kernel)) (fun s15 Hs15 => ?_)
    refine PR.stp (Fr.wI Hs15 (by decide +kernel)) (fun s18 Hs18 => ?_)
    exact PR.call Hs18 (fr_j_X6_tagOne_228 x1 x3 s18) (by decide +kernel)
def W_l_X6_tagOne_118 : List Nat := [13018, 40998, 40999]
theorem fr_l_X6_tagOne_118 : ∀ (n : Nat) (x1 : Int) (x2 : Int) (x3 : Int) (x4 : Int) (s : vS), PR (W_l_X6_tagOne_118) s (fun q => q) (l_X6_tagOne_118 n x1 x2 x3 x4 s)
  := by
  intro n
  induction n with
  | zero => intro x1 x2 x3 x4 s; exact PR.none
  | succ n ih =>
    intro x1 x2 x3 x4 s
    unfold l_X6_tagOne_118
    have Hs : Fr (W_l_X6_tagOne_118) s s := Fr.rfl
    refine PR.ite (fun _ => ?_) (fun _ => ?_)
    · exact PR.some Hs
    · refine PR.gd ?_
      refine PR.gd ?_
      refine PR.bdv (PR.call Hs (fr_f_X6_push (gE s 40 (w32 ((gE s 36 x2) + x4))) s) (by decide +kernel)) (fun s4 Hs4 => ?_)
      refine PR.vl (fun y7 => ?_)
      exact PR.tail Hs4 (ih x1 x2 x3 y7 s4)
def W_j_X6_tagOne_103 : List Nat := [13018, 13020, 13021, 37999, 40998, 40999]
theorem fr_j_X6_tagOne_103 (x1 : Int) (x2 : Int) (x3 : Int) (s : vS) : PR (W_j_X6_tagOne_103) s (fun q => q) (j_X6_tagOne_103 x1 x2 x3 s) := by
  unfold j_X6_tagOne_103
  have Hs : Fr (W_j_X6_tagOne_103) s s := Fr.rfl
  refine PR.ite (fun _ => ?_) (fun _ => ?_)
  · refine PR.bd (PR.pure Hs (fr_f_X4_kind x1 s)) (fun r5 s2 Hs2 => ?_)
    refine PR.ite (fun _ => ?_) (fun _ => ?_)
    · exact PR.call Hs2 (fr_j_X6_tagOne_178 x1 x3 s2) (by decide +kernel)
    · refine PR.bd (PR.pure Hs2 (fr_f_X4_kind x1 s2)) (fun r11 s8 Hs8 => ?_)
      refine PR.bd (PR.pure Hs8 (fr_f_X6_universal r11 s8)) (fun r16 s13 Hs13 => ?_)
      refine PR.bdv (PR.call Hs13 (fr_f_X6_push r16 s13) (by decide +kernel)) (fun s18 Hs18 => ?_)
      exact PR.call Hs18 (fr_j_X6_tagOne_178 x1 x3 s18) (by decide +kernel)
  · refine PR.gd ?_
    refine PR.vl (fun y22 => ?_)
    refine PR.lq_0 (PR.call Hs (fr_l_X6_tagOne_118 FU x1 x2 x3 y22 s) (by decide +kernel)) (fun s25 Hs25 => ?_)
    exact PR.call Hs25 (fr_j_X6_tagOne_178 x1 x3 s25) (by decide +kernel)
def W_j_X6_tagOne_22 : List Nat := [13018, 13020, 13021, 36999, 37999, 40998, 40999]
theorem fr_j_X6_tagOne_22 (x1 : Int) (z0 : Int) (s : vS) : PR (W_j_X6_tagOne_22) s (fun q => q) (j_X6_tagOne_22 x1 z0 s) := by
  unfold j_X6_tagOne_22
  have Hs : Fr (W_j_X6_tagOne_22) s s := Fr.rfl
  refine PR.vl (fun y1 => ?_)
  refine PR.gd ?_
  refine PR.stp (Fr.wE Hs (by decide +kernel)) (fun s5 Hs5 => ?_)
  refine PR.ite (fun _ => ?_) (fun _ => ?_)
  · exact PR.call Hs5 (fr_j_X6_tagOne_103 x1 z0 y1 s5) (by decide +kernel)
  · refine PR.bd (PR.pure Hs5 (fr_f_X4_at x1 2 s5)) (fun r11 s8 Hs8 => ?_)
    refine PR.ite (fun _ => ?_) (fun _ => ?_)
    · refine PR.gd ?_
      refine PR.gd ?_
      refine PR.stp (Fr.wE Hs8 (by decide +kernel)) (fun s16 Hs16 => ?_)
      refine PR.gd ?_
      refine PR.gd ?_
      refine PR.stp (Fr.wE Hs16 (by decide +kernel)) (fun s20 Hs20 => ?_)
      refine PR.gd ?_
      refine PR.ite (fun _ => ?_) (fun _ => ?_)
      · exact PR.some Hs20
      · refine PR.bd (PR.pure Hs20 (fr_f_X4_lexeme x1 s20)) (fun r27 s24 Hs24 => ?_)
        refine PR.bdv (PR.call Hs24 (fr_f_X6_blame 8 r27 s24) (by decide +kernel)) (fun s29 Hs29 => ?_)
        exact PR.some Hs29
    · exact PR.call Hs8 (fr_j_X6_tagOne_103 x1 z0 y1 s8) (by decide +kernel)
def W_f_X6_tagOne : List Nat := [13018, 13020, 13021, 36999, 37999, 40998, 40999]
theorem fr_f_X6_tagOne (x1 : Int) (s : vS) : PR (W_f_X6_tagOne) s (fun q => q) (f_X6_tagOne x1 s) := by
  unfold f_X6_tagOne
  have Hs : Fr (W_f_X6_tagOne) s s := Fr.rfl
  refine PR.bd (PR.pure Hs (fr_f_X4_kind x1 s)) (fun r4 s1 Hs1 => ?_)
  refine PR.ite (fun _ => ?_) (fun _ => ?_)
  · refine PR.bd (PR.pure Hs1 (fr_f_X6_assignedType x1 s1)) (fun r10 s7 Hs7 => ?_)
    exact PR.call Hs7 (fr_j_X6_tagOne_22 x1 r10 s7) (by decide +kernel)
  · exact PR.call Hs1 (fr_j_X6_tagOne_22 x1 (-1) s1) (by decide +kernel)
def W_l_X6_tagAll_4 : List Nat := [41999]
theorem fr_l_X6_tagAll_4 : ∀ (n : Nat) (x2 : Int) (x3 : Int) (s : vS), PR (W_l_X6_tagAll_4) s (fun q => q.2) (l_X6_tagAll_4 n x2 x3 s)
  := by
  intro n
  induction n with
  | zero => intro x2 x3 s; exact PR.none
  | succ n ih =>
    intro x2 x3 s
    unfold l_X6_tagAll_4
    have Hs : Fr (W_l_X6_tagAll_4) s s := Fr.rfl
    refine PR.gd ?_
    refine PR.ite (fun _ => ?_) (fun _ => ?_)
    · refine PR.gd ?_
      refine PR.stp (Fr.wE Hs (by decide +kernel)) (fun s4 Hs4 => ?_)
      refine PR.vl (fun y6 => ?_)
      refine PR.bd (PR.pure Hs4 (fr_f_X4_kind x3 s4)) (fun r12 s9 Hs9 => ?_)
      refine PR.ite (fun _ => ?_) (fun _ => ?_)
      · refine PR.bd (PR.pure Hs9 (fr_f_X6_assignedType x3 s9)) (fun r18 s15 Hs15 => ?_)
        exact PR.tail Hs15 (ih y6 r18 s15)
      · exact PR.some Hs9
    · exact PR.some Hs
def W_l_X6_tagAll_46 : List Nat := [13018, 13020, 13021, 36999, 37999, 40998, 40999]
theorem fr_l_X6_tagAll_46 : ∀ (n : Nat) (x2 : Int) (s : vS), PR (W_l_X6_tagAll_46) s (fun q => q) (l_X6_tagAll_46 n x2 s)
  := by
  intro n
  induction n with
  | zero => intro x2 s; exact PR.none
  | succ n ih =>
    intro x2 s
    unfold l_X6_tagAll_46
    have Hs : Fr (W_l_X6_tagAll_46) s s := Fr.rfl
    refine PR.ite (fun _ => ?_) (fun _ => ?_)
    · exact PR.some Hs
    · refine PR.vl (fun y2 => ?_)
      refine PR.gd ?_
      refine PR.bdv (PR.call Hs (fr_f_X6_tagOne (gE s 41 y2) s) (by decide +kernel)) (fun s6 Hs6 => ?_)
      exact PR.tail Hs6 (ih y2 s6)
def W_f_X6_tagAll : List Nat := [13018, 13020, 13021, 36999, 37999, 40998, 40999, 41999]
theorem fr_f_X6_tagAll (x1 : Int) (s : vS) : PR (W_f_X6_tagAll) s (fun q => q) (f_X6_tagAll x1 s) := by
  unfold f_X6_tagAll
  have Hs : Fr (W_f_X6_tagAll) s s := Fr.rfl
  refine PR.lq_1 (PR.call Hs (fr_l_X6_tagAll_4 FU 0 x1 s) (by decide +kernel)) (fun y1 s2 Hs2 => ?_)
  refine PR.lq_0 (PR.call Hs2 (fr_l_X6_tagAll_46 FU y1 s2) (by decide +kernel)) (fun s5 Hs5 => ?_)
  exact PR.some Hs5
def W_l_X6_tagged_2 : List Nat := [13018, 13020, 13021, 36999, 37999, 40998, 40999, 41999]
theorem fr_l_X6_tagged_2 : ∀ (n : Nat) (x1 : Int) (s : vS), PR (W_l_X6_tagged_2) s (fun q => q) (l_X6_tagged_2 n x1 s)
  := by
  intro n
  induction n with
  | zero => intro x1 s; exact PR.none
  | succ n ih =>
    intro x1 s
    unfold l_X6_tagged_2
    have Hs : Fr (W_l_X6_tagged_2) s s := Fr.rfl
    refine PR.bd (PR.pure Hs (fr_f_X4_size s)) (fun r4 s1 Hs1 => ?_)
    refine PR.ite (fun _ => ?_) (fun _ => ?_)
    · exact PR.some Hs1
    · refine PR.bd (PR.pure Hs1 (fr_f_X6_isType x1 s1)) (fun r10 s7 Hs7 => ?_)
      refine PR.ite (fun _ => ?_) (fun _ => ?_)
      · refine PR.vl (fun y13 => ?_)
        exact PR.tail Hs7 (ih y13 s7)
      · refine PR.bdv (PR.call Hs7 (fr_f_X6_tagAll x1 s7) (by decide +kernel)) (fun s16 Hs16 => ?_)
        refine PR.vl (fun y19 => ?_)
        exact PR.tail Hs16 (ih y19 s16)
def W_f_X6_tagged : List Nat := [13018, 13020, 13021, 36999, 37999, 40998, 40999, 41999]
theorem fr_f_X6_tagged (s : vS) : PR (W_f_X6_tagged) s (fun q => q.2) (f_X6_tagged s) := by
  unfold f_X6_tagged
  have Hs : Fr (W_f_X6_tagged) s s := Fr.rfl
  refine PR.lq_0 (PR.call Hs (fr_l_X6_tagged_2 FU 0 s) (by decide +kernel)) (fun s1 Hs1 => ?_)
  refine PR.ite (fun _ => ?_) (fun _ => ?_)
  · exact PR.some Hs1
  · exact PR.some Hs1
def W_f_X6_tag : List Nat := []
theorem fr_f_X6_tag (x1 : Int) (x2 : Int) (s : vS) : PR (W_f_X6_tag) s (fun q => q.2) (f_X6_tag x1 x2 s) := by
  unfold f_X6_tag
  have Hs : Fr (W_f_X6_tag) s s := Fr.rfl
  refine PR.gd ?_
  refine PR.gd ?_
  exact PR.some Hs
def W_l_X6_collect_137 : List Nat := [41998, 41999]
theorem fr_l_X6_collect_137 : ∀ (n : Nat) (x2 : Int) (x5 : Int) (s : vS), PR (W_l_X6_collect_137) s (fun q => q.2) (l_X6_collect_137 n x2 x5 s)
  := by
  intro n
  induction n with
  | zero => intro x2 x5 s; exact PR.none
  | succ n ih =>
    intro x2 x5 s
    unfold l_X6_collect_137
    have Hs : Fr (W_l_X6_collect_137) s s := Fr.rfl
    refine PR.ite (fun _ => ?_) (fun _ => ?_)
    · exact PR.some Hs
    · refine PR.bd (PR.pure Hs (fr_f_X6_grown 41 (w32 (x2 + 1)) s)) (fun r5 s6 Hs6 => ?_)
      refine PR.gd ?_
      refine PR.stp (Fr.wgrw Hs6 (by decide +kernel) (by decide +kernel)) (fun s10 Hs10 => ?_)
      refine PR.bd (PR.pure Hs10 (fr_f_X4_parts x5 s10)) (fun r15 s12 Hs12 => ?_)
      refine PR.gd ?_
      refine PR.gd ?_
      refine PR.stp (Fr.wE Hs12 (by decide +kernel)) (fun s19 Hs19 => ?_)
      refine PR.vl (fun y21 => ?_)
      refine PR.bd (PR.pure Hs19 (fr_f_X4_next x5 s19)) (fun r27 s24 Hs24 => ?_)
      exact PR.tail Hs24 (ih y21 r27 s24)
def W_l_X6_collect_26 : List Nat := [13023, 38999, 39999, 41998, 41999, 42998, 42999]
theorem fr_l_X6_collect_26 : ∀ (n : Nat) (x2 : Int) (s : vS), PR (W_l_X6_collect_26) s (fun q => q) (l_X6_collect_26 n x2 s)
  := by
  intro n
  induction n with
  | zero => intro x2 s; exact PR.none
  | succ n ih =>
    intro x2 s
    unfold l_X6_collect_26
    have Hs : Fr (W_l_X6_collect_26) s s := Fr.rfl
    refine PR.ite (fun _ => ?_) (fun _ => ?_)
    · exact PR.some Hs
    · refine PR.vl (fun y2 => ?_)
      refine PR.gd ?_
      refine PR.vl (fun y6 => ?_)
      refine PR.gd ?_
      refine PR.ite (fun _ => ?_) (fun _ => ?_)
      · refine PR.bd (PR.call Hs (fr_f_X6_base y6 s) (by decide +kernel)) (fun r14 s11 Hs11 => ?_)
        refine PR.gd ?_
        refine PR.ite (fun _ => ?_) (fun _ => ?_)
        · exact PR.tail Hs11 (ih y2 s11)
        · refine PR.gd ?_
          refine PR.stp (Fr.wE Hs11 (by decide +kernel)) (fun s19 Hs19 => ?_)
          refine PR.bd (PR.pure Hs19 (fr_f_X4_parts r14 s19)) (fun r24 s21 Hs21 => ?_)
          refine PR.lq_1 (PR.call Hs21 (fr_l_X6_collect_137 FU y2 r24 s21) (by decide +kernel)) (fun y26 s27 Hs27 => ?_)
          exact PR.tail Hs27 (ih y26 s27)
      · refine PR.bd (PR.pure Hs (fr_f_X6_grown 42 (w32 ((gI s 13 23) + 1)) s)) (fun r33 s34 Hs34 => ?_)
        refine PR.gd ?_
        refine PR.stp (Fr.wgrw Hs34 (by decide +kernel) (by decide +kernel)) (fun s38 Hs38 => ?_)
        refine PR.bd (PR.pure Hs38 (fr_f_X6_tag y6 0 s38)) (fun r43 s40 Hs40 => ?_)
        refine PR.gd ?_
        refine PR.gd ?_
        refine PR.stp (Fr.wE Hs40 (by decide +kernel)) (fun s47 Hs47 => ?_)
        refine PR.stp (Fr.wI Hs47 (by decide +kernel)) (fun s49 Hs49 => ?_)
        exact PR.tail Hs49 (ih y2 s49)
def W_f_X6_collect : List Nat := [13023, 13024, 38999, 39999, 41998, 41999, 42998, 42999]
theorem fr_f_X6_collect (x1 : Int) (s : vS) : PR (W_f_X6_collect) s (fun q => q) (f_X6_collect x1 s) := by
  unfold f_X6_collect
  have Hs : Fr (W_f_X6_collect) s s := Fr.rfl
  refine PR.stp (Fr.wI Hs (by decide +kernel)) (fun s1 Hs1 => ?_)
  refine PR.stp (Fr.wI Hs1 (by decide +kernel)) (fun s3 Hs3 => ?_)
  refine PR.gd ?_
  refine PR.stp (Fr.wE Hs3 (by decide +kernel)) (fun s6 Hs6 => ?_)
  refine PR.lq_0 (PR.call Hs6 (fr_l_X6_collect_26 FU 1 s6) (by decide +kernel)) (fun s8 Hs8 => ?_)
  exact PR.some Hs8
def W_f_X10_has : List Nat := []
theorem fr_f_X10_has (x1 : Int) (s : vS) : PR (W_f_X10_has) s (fun q => q.2) (f_X10_has x1 s) := by
  unfold f_X10_has
  have Hs : Fr (W_f_X10_has) s s := Fr.rfl
  refine PR.bd (PR.pure Hs (fr_f_X10_slot x1 s)) (fun r4 s1 Hs1 => ?_)
  refine PR.gd ?_
  refine PR.gd ?_
  refine PR.ite (fun _ => ?_) (fun _ => ?_)
  · exact PR.some Hs1
  · exact PR.some Hs1
def W_l_X6_distinct_2_39 : List Nat := []
theorem fr_l_X6_distinct_2_39 : ∀ (n : Nat) (x2 : Int) (x3 : Int) (x4 : Int) (x5 : Int) (s : vS), PR (W_l_X6_distinct_2_39) s (fun q => q.2) (l_X6_distinct_2_39 n x2 x3 x4 x5 s)
  := by
  intro n
  induction n with
  | zero => intro x2 x3 x4 x5 s; exact PR.none
  | succ n ih =>
    intro x2 x3 x4 x5 s
    unfold l_X6_distinct_2_39
    have Hs : Fr (W_l_X6_distinct_2_39) s s := Fr.rfl
    refine PR.ite (fun _ => ?_) (fun _ => ?_)
    · exact PR.some Hs
    · refine PR.ite (fun _ => ?_) (fun _ => ?_)
      · refine PR.gd ?_
        refine PR.bd (PR.pure Hs (fr_f_X10_has (gE s 42 x5) s)) (fun r10 s7 Hs7 => ?_)
        refine PR.ite (fun _ => ?_) (fun _ => ?_)
        · refine PR.vl (fun y13 => ?_)
          exact PR.tail Hs7 (ih x2 x3 0 y13 s7)
        · refine PR.vl (fun y16 => ?_)
          exact PR.tail Hs7 (ih x2 x3 1 y16 s7)
      · refine PR.vl (fun y3 => ?_)
        exact PR.tail Hs (ih x2 x3 1 y3 s)
def W_l_X6_distinct_2_105 : List Nat := [28001, 29998, 29999]
theorem fr_l_X6_distinct_2_105 : ∀ (n : Nat) (x2 : Int) (x3 : Int) (x5 : Int) (s : vS), PR (W_l_X6_distinct_2_105) s (fun q => q) (l_X6_distinct_2_105 n x2 x3 x5 s)
  := by
  intro n
  induction n with
  | zero => intro x2 x3 x5 s; exact PR.none
  | succ n ih =>
    intro x2 x3 x5 s
    unfold l_X6_distinct_2_105
    have Hs : Fr (W_l_X6_distinct_2_105) s s := Fr.rfl
    refine PR.ite (fun _ => ?_) (fun _ => ?_)
    · exact PR.some Hs
    · refine PR.gd ?_
      refine PR.bd (PR.call Hs (fr_f_X10_add (gE s 42 x5) s) (by decide +kernel)) (fun r6 s3 Hs3 => ?_)
      refine PR.vl (fun y8 => ?_)
      exact PR.tail Hs3 (ih x2 x3 y8 s3)
def W_l_X6_distinct_2_16 : List Nat := [13020, 13021, 13023, 13024, 28001, 29998, 29999, 38999, 39999, 41998, 41999, 42998, 42999]
theorem fr_j_X6_distinct_2_158 (rec : Int → Int → vS → Option (vS)) (hrec : ∀ (y0 : Int) (y1 : Int) (s : vS), PR (W_l_X6_distinct_2_16) s (fun q => q) (rec y0 y1 s)) (x2 : Int) (x3 : Int) (s : vS) : PR (W_l_X6_distinct_2_16) s (fun q => q) (j_X6_distinct_2_158 rec x2 x3 s) := by
  unfold j_X6_distinct_2_158
  have Hs : Fr (W_l_X6_distinct_2_16) s s := Fr.rfl
  refine PR.bd (PR.pure Hs (fr_f_X4_next x3 s)) (fun r4 s1 Hs1 => ?_)
  exact PR.tail Hs1 (hrec x2 r4 s1)
theorem fr_l_X6_distinct_2_16 : ∀ (n : Nat) (x2 : Int) (x3 : Int) (s : vS), PR (W_l_X6_distinct_2_16) s (fun q => q) (l_X6_distinct_2_16 n x2 x3 s)
  := by
  intro n
  induction n with
  | zero => intro x2 x3 s; exact PR.none
  | succ n ih =>
    intro x2 x3 s
    unfold l_X6_distinct_2_16
    have Hs : Fr (W_l_X6_distinct_2_16) s s := Fr.rfl
    refine PR.ite (fun _ => ?_) (fun _ => ?_)
    · exact PR.some Hs
    · refine PR.bd (PR.pure Hs (fr_f_X4_parts x3 s)) (fun r5 s2 Hs2 => ?_)
      refine PR.bdv (PR.call Hs2 (fr_f_X6_collect r5 s2) (by decide +kernel)) (fun s7 Hs7 => ?_)
      refine PR.lq_1 (PR.pure Hs7 (fr_l_X6_distinct_2_39 FU x2 x3 0 0 s7)) (fun y10 s11 Hs11 => ?_)
      refine PR.ite (fun _ => ?_) (fun _ => ?_)
      · refine PR.lq_0 (PR.call Hs11 (fr_l_X6_distinct_2_105 FU x2 x3 0 s11) (by decide +kernel)) (fun s15 Hs15 => ?_)
        refine PR.ite (fun _ => ?_) (fun _ => ?_)
        · exact PR.tail Hs15 (fr_j_X6_distinct_2_158 (l_X6_distinct_2_16 n) ih x2 x3 s15)
        · refine PR.bd (PR.pure Hs15 (fr_f_X4_at x3 5 s15)) (fun r21 s18 Hs18 => ?_)
          refine PR.ite (fun _ => ?_) (fun _ => ?_)
          · refine PR.bdv (PR.call Hs18 (fr_f_X10_clear s18) (by decide +kernel)) (fun s24 Hs24 => ?_)
            exact PR.tail Hs24 (fr_j_X6_distinct_2_158 (l_X6_distinct_2_16 n) ih x2 x3 s24)
          · exact PR.tail Hs18 (fr_j_X6_distinct_2_158 (l_X6_distinct_2_16 n) ih x2 x3 s18)
      · refine PR.bd (PR.pure Hs11 (fr_f_X4_lexeme x3 s11)) (fun r30 s27 Hs27 => ?_)
        refine PR.bdv (PR.call Hs27 (fr_f_X6_blame 9 r30 s27) (by decide +kernel)) (fun s32 Hs32 => ?_)
        refine PR.lq_0 (PR.call Hs32 (fr_l_X6_distinct_2_105 FU x2 x3 0 s32) (by decide +kernel)) (fun s35 Hs35 => ?_)
        refine PR.ite (fun _ => ?_) (fun _ => ?_)
        · exact PR.tail Hs35 (fr_j_X6_distinct_2_158 (l_X6_distinct_2_16 n) ih x2 x3 s35)
        · refine PR.bd (PR.pure Hs35 (fr_f_X4_at x3 5 s35)) (fun r41 s38 Hs38 => ?_)
          refine PR.ite (fun _ => ?_) (fun _ => ?_)
          · refine PR.bdv (PR.call Hs38 (fr_f_X10_clear s38) (by decide +kernel)) (fun s44 Hs44 => ?_)
            exact PR.tail Hs44 (fr_j_X6_distinct_2_158 (l_X6_distinct_2_16 n) ih x2 x3 s44)
          · exact PR.tail Hs38 (fr_j_X6_distinct_2_158 (l_X6_distinct_2_16 n) ih x2 x3 s38)
def W_f_X6_distinct_2 : List Nat := [13020, 13021, 13023, 13024, 28001, 29998, 29999, 38999, 39999, 41998, 41999, 42998, 42999]
theorem fr_f_X6_distinct_2 (x1 : Int) (x2 : Int) (s : vS) : PR (W_f_X6_distinct_2) s (fun q => q) (f_X6_distinct_2 x1 x2 s) := by
  unfold f_X6_distinct_2
  have Hs : Fr (W_f_X6_distinct_2) s s := Fr.rfl
  refine PR.bdv (PR.call Hs (fr_f_X10_clear s) (by decide +kernel)) (fun s1 Hs1 => ?_)
  refine PR.bd (PR.pure Hs1 (fr_f_X4_parts x1 s1)) (fun r7 s4 Hs4 => ?_)
  refine PR.lq_0 (PR.call Hs4 (fr_l_X6_distinct_2_16 FU x2 r7 s4) (by decide +kernel)) (fun s9 Hs9 => ?_)
  exact PR.some Hs9
def W_l_X6_distinct_2 : List Nat := [38999]
theorem fr_l_X6_distinct_2 : ∀ (n : Nat) (x1 : Int) (s : vS), PR (W_l_X6_distinct_2) s (fun q => q) (l_X6_distinct_2 n x1 s)
  := by
  intro n
  induction n with
  | zero => intro x1 s; exact PR.none
  | succ n ih =>
    intro x1 s
    unfold l_X6_distinct_2
    have Hs : Fr (W_l_X6_distinct_2) s s := Fr.rfl
    refine PR.bd (PR.pure Hs (fr_f_X4_size s)) (fun r4 s1 Hs1 => ?_)
    refine PR.ite (fun _ => ?_) (fun _ => ?_)
    · exact PR.some Hs1
    · refine PR.gd ?_
      refine PR.stp (Fr.wE Hs1 (by decide +kernel)) (fun s8 Hs8 => ?_)
      refine PR.vl (fun y10 => ?_)
      exact PR.tail Hs8 (ih y10 s8)
def W_l_X6_distinct_33 : List Nat := [13020, 13021, 13023, 13024, 28001, 29998, 29999, 38999, 39999, 41998, 41999, 42998, 42999]
theorem fr_j_X6_distinct_84 (rec : Int → vS → Option (vS)) (hrec : ∀ (y0 : Int) (s : vS), PR (W_l_X6_distinct_33) s (fun q => q) (rec y0 s)) (x1 : Int) (z1 : Int) (z2 : Int) (s : vS) : PR (W_l_X6_distinct_33) s (fun q => q) (j_X6_distinct_84 rec x1 z1 z2 s) := by
  unfold j_X6_distinct_84
  have Hs : Fr (W_l_X6_distinct_33) s s := Fr.rfl
  refine PR.bdv (PR.call Hs (fr_f_X6_distinct_2 z1 z2 s) (by decide +kernel)) (fun s1 Hs1 => ?_)
  refine PR.vl (fun y4 => ?_)
  exact PR.tail Hs1 (hrec y4 s1)
theorem fr_j_X6_distinct_71 (rec : Int → vS → Option (vS)) (hrec : ∀ (y0 : Int) (s : vS), PR (W_l_X6_distinct_33) s (fun q => q) (rec y0 s)) (x1 : Int) (x2 : Int) (s : vS) : PR (W_l_X6_distinct_33) s (fun q => q) (j_X6_distinct_71 rec x1 x2 s) := by
  unfold j_X6_distinct_71
  have Hs : Fr (W_l_X6_distinct_33) s s := Fr.rfl
  refine PR.ite (fun _ => ?_) (fun _ => ?_)
  · exact PR.tail Hs (fr_j_X6_distinct_84 rec hrec x1 x1 1 s)
  · exact PR.tail Hs (fr_j_X6_distinct_84 rec hrec x1 x1 0 s)
theorem fr_l_X6_distinct_33 : ∀ (n : Nat) (x1 : Int) (s : vS), PR (W_l_X6_distinct_33) s (fun q => q) (l_X6_distinct_33 n x1 s)
  := by
  intro n
  induction n with
  | zero => intro x1 s; exact PR.none
  | succ n ih =>
    intro x1 s
    unfold l_X6_distinct_33
    have Hs : Fr (W_l_X6_distinct_33) s s := Fr.rfl
    refine PR.bd (PR.pure Hs (fr_f_X4_size s)) (fun r4 s1 Hs1 => ?_)
    refine PR.ite (fun _ => ?_) (fun _ => ?_)
    · exact PR.some Hs1
    · refine PR.bd (PR.pure Hs1 (fr_f_X4_kind x1 s1)) (fun r10 s7 Hs7 => ?_)
      refine PR.ite (fun _ => ?_) (fun _ => ?_)
      · exact PR.tail Hs7 (fr_j_X6_distinct_71 (l_X6_distinct_33 n) ih x1 r10 s7)
      · refine PR.ite (fun _ => ?_) (fun _ => ?_)
        · exact PR.tail Hs7 (fr_j_X6_distinct_71 (l_X6_distinct_33 n) ih x1 r10 s7)
        · refine PR.ite (fun _ => ?_) (fun _ => ?_)
          · exact PR.tail Hs7 (fr_j_X6_distinct_71 (l_X6_distinct_33 n) ih x1 r10 s7)
          · refine PR.vl (fun y15 => ?_)
            exact PR.tail Hs7 (ih y15 s7)
def W_f_X6_distinct : List Nat := [13020, 13021, 13023, 13024, 28001, 29998, 29999, 38999, 39999, 41998, 41999, 42998, 42999]
theorem fr_f_X6_distinct (s : vS) : PR (W_f_X6_distinct) s (fun q => q.2) (f_X6_distinct s) := by
  unfold f_X6_distinct
  have Hs : Fr (W_f_X6_distinct) s s := Fr.rfl
  refine PR.lq_0 (PR.call Hs (fr_l_X6_distinct_2 FU 0 s) (by decide +kernel)) (fun s1 Hs1 => ?_)
  refine PR.stp (Fr.wI Hs1 (by decide +kernel)) (fun s3 Hs3 => ?_)
  refine PR.lq_0 (PR.call Hs3 (fr_l_X6_distinct_33 FU 0 s3) (by decide +kernel)) (fun s5 Hs5 => ?_)
  refine PR.ite (fun _ => ?_) (fun _ => ?_)
  · exact PR.some Hs5
  · exact PR.some Hs5
def W_f_X6_follow : List Nat := [39999]
theorem fr_f_X6_follow (x1 : Int) (s : vS) : PR (W_f_X6_follow) s (fun q => q.2) (f_X6_follow x1 s) := by
  unfold f_X6_follow
  have Hs : Fr (W_f_X6_follow) s s := Fr.rfl
  refine PR.bd (PR.pure Hs (fr_f_X4_limits x1 s)) (fun r4 s1 Hs1 => ?_)
  refine PR.bd (PR.pure Hs1 (fr_f_X4_at r4 5 s1)) (fun r9 s6 Hs6 => ?_)
  refine PR.ite (fun _ => ?_) (fun _ => ?_)
  · refine PR.bd (PR.pure Hs6 (fr_f_X4_parts x1 s6)) (fun r15 s12 Hs12 => ?_)
    refine PR.bd (PR.pure Hs12 (fr_f_X4_lexeme r4 s12)) (fun r20 s17 Hs17 => ?_)
    refine PR.bd (PR.call Hs17 (fr_f_X6_itemOf r15 r20 1 s17) (by decide +kernel)) (fun r25 s22 Hs22 => ?_)
    refine PR.ite (fun _ => ?_) (fun _ => ?_)
    · refine PR.bd (PR.pure Hs22 (fr_f_X4_lexeme r4 s22)) (fun r31 s28 Hs28 => ?_)
      refine PR.bd (PR.pure Hs28 (fr_f_X9_find 22 r31 s28)) (fun r36 s33 Hs33 => ?_)
      exact PR.some Hs33
    · exact PR.some Hs22
  · exact PR.some Hs6
def W_l_X6_straight_2 : List Nat := [38999]
theorem fr_l_X6_straight_2 : ∀ (n : Nat) (x1 : Int) (s : vS), PR (W_l_X6_straight_2) s (fun q => q) (l_X6_straight_2 n x1 s)
  := by
  intro n
  induction n with
  | zero => intro x1 s; exact PR.none
  | succ n ih =>
    intro x1 s
    unfold l_X6_straight_2
    have Hs : Fr (W_l_X6_straight_2) s s := Fr.rfl
    refine PR.bd (PR.pure Hs (fr_f_X4_size s)) (fun r4 s1 Hs1 => ?_)
    refine PR.ite (fun _ => ?_) (fun _ => ?_)
    · exact PR.some Hs1
    · refine PR.gd ?_
      refine PR.stp (Fr.wE Hs1 (by decide +kernel)) (fun s8 Hs8 => ?_)
      refine PR.vl (fun y10 => ?_)
      exact PR.tail Hs8 (ih y10 s8)
def W_l_X6_straight_34 : List Nat := [13020, 13021, 38999, 39999]
theorem fr_j_X6_straight_139 (rec : Int → vS → Option (vS)) (hrec : ∀ (y0 : Int) (s : vS), PR (W_l_X6_straight_34) s (fun q => q) (rec y0 s)) (x1 : Int) (s : vS) : PR (W_l_X6_straight_34) s (fun q => q) (j_X6_straight_139 rec x1 s) := by
  unfold j_X6_straight_139
  have Hs : Fr (W_l_X6_straight_34) s s := Fr.rfl
  refine PR.bd (PR.pure Hs (fr_f_X4_next x1 s)) (fun r4 s1 Hs1 => ?_)
  exact PR.tail Hs1 (hrec r4 s1)
def W_l_X6_straight_63 : List Nat := [38999, 39999]
theorem fr_l_X6_straight_63 : ∀ (n : Nat) (x1 : Int) (x2 : Int) (s : vS), PR (W_l_X6_straight_63) s (fun q => q.2) (l_X6_straight_63 n x1 x2 s)
  := by
  intro n
  induction n with
  | zero => intro x1 x2 s; exact PR.none
  | succ n ih =>
    intro x1 x2 s
    unfold l_X6_straight_63
    have Hs : Fr (W_l_X6_straight_63) s s := Fr.rfl
    refine PR.ite (fun _ => ?_) (fun _ => ?_)
    · exact PR.some Hs
    · refine PR.gd ?_
      refine PR.ite (fun _ => ?_) (fun _ => ?_)
      · refine PR.gd ?_
        refine PR.stp (Fr.wE Hs (by decide +kernel)) (fun s5 Hs5 => ?_)
        refine PR.bd (PR.call Hs5 (fr_f_X6_follow x2 s5) (by decide +kernel)) (fun r10 s7 Hs7 => ?_)
        exact PR.tail Hs7 (ih x1 r10 s7)
      · exact PR.some Hs
def W_l_X6_straight_114 : List Nat := [13020, 13021, 39999]
theorem fr_l_X6_straight_114 : ∀ (n : Nat) (x1 : Int) (x2 : Int) (x3 : Int) (s : vS), PR (W_l_X6_straight_114) s (fun q => q) (l_X6_straight_114 n x1 x2 x3 s)
  := by
  intro n
  induction n with
  | zero => intro x1 x2 x3 s; exact PR.none
  | succ n ih =>
    intro x1 x2 x3 s
    unfold l_X6_straight_114
    have Hs : Fr (W_l_X6_straight_114) s s := Fr.rfl
    refine PR.bd (PR.pure Hs (fr_f_X4_lexeme x3 s)) (fun r4 s1 Hs1 => ?_)
    refine PR.bdv (PR.call Hs1 (fr_f_X6_blame 10 r4 s1) (by decide +kernel)) (fun s6 Hs6 => ?_)
    refine PR.bd (PR.call Hs6 (fr_f_X6_follow x3 s6) (by decide +kernel)) (fun r12 s9 Hs9 => ?_)
    refine PR.ite (fun _ => ?_) (fun _ => ?_)
    · exact PR.some Hs9
    · exact PR.tail Hs9 (ih x1 x2 r12 s9)
theorem fr_j_X6_straight_95 (rec : Int → vS → Option (vS)) (hrec : ∀ (y0 : Int) (s : vS), PR (W_l_X6_straight_34) s (fun q => q) (rec y0 s)) (x1 : Int) (x2 : Int) (s : vS) : PR (W_l_X6_straight_34) s (fun q => q) (j_X6_straight_95 rec x1 x2 s) := by
  unfold j_X6_straight_95
  have Hs : Fr (W_l_X6_straight_34) s s := Fr.rfl
  refine PR.ite (fun _ => ?_) (fun _ => ?_)
  · exact PR.tail Hs (fr_j_X6_straight_139 rec hrec x1 s)
  · refine PR.gd ?_
    refine PR.ite (fun _ => ?_) (fun _ => ?_)
    · refine PR.lq_0 (PR.call Hs (fr_l_X6_straight_114 FU x1 x2 x2 s) (by decide +kernel)) (fun s4 Hs4 => ?_)
      exact PR.tail Hs4 (fr_j_X6_straight_139 rec hrec x1 s4)
    · exact PR.tail Hs (fr_j_X6_straight_139 rec hrec x1 s)
theorem fr_l_X6_straight_34 : ∀ (n : Nat) (x1 : Int) (s : vS), PR (W_l_X6_straight_34) s (fun q => q) (l_X6_straight_34 n x1 s)
  := by
  intro n
  induction n with
  | zero => intro x1 s; exact PR.none
  | succ n ih =>
    intro x1 s
    unfold l_X6_straight_34
    have Hs : Fr (W_l_X6_straight_34) s s := Fr.rfl
    refine PR.ite (fun _ => ?_) (fun _ => ?_)
    · exact PR.some Hs
    · refine PR.bd (PR.pure Hs (fr_f_X4_kind x1 s)) (fun r5 s2 Hs2 => ?_)
      refine PR.ite (fun _ => ?_) (fun _ => ?_)
      · refine PR.gd ?_
        refine PR.ite (fun _ => ?_) (fun _ => ?_)
        · refine PR.lq_1 (PR.call Hs2 (fr_l_X6_straight_63 FU x1 x1 s2) (by decide +kernel)) (fun y10 s11 Hs11 => ?_)
          exact PR.tail Hs11 (fr_j_X6_straight_95 (l_X6_straight_34 n) ih x1 y10 s11)
        · exact PR.tail Hs2 (fr_j_X6_straight_139 (l_X6_straight_34 n) ih x1 s2)
      · exact PR.tail Hs2 (fr_j_X6_straight_139 (l_X6_straight_34 n) ih x1 s2)
def W_f_X6_straight : List Nat := [13020, 13021, 38999, 39999]
theorem fr_f_X6_straight (s : vS) : PR (W_f_X6_straight) s (fun q => q.2) (f_X6_straight s) := by
  unfold f_X6_straight
  have Hs : Fr (W_f_X6_straight) s s := Fr.rfl
  refine PR.lq_0 (PR.call Hs (fr_l_X6_straight_2 FU 0 s) (by decide +kernel)) (fun s1 Hs1 => ?_)
  refine PR.vl (fun y3 => ?_)
  refine PR.lq_0 (PR.call Hs1 (fr_l_X6_straight_34 FU y3 s1) (by decide +kernel)) (fun s6 Hs6 => ?_)
  refine PR.ite (fun _ => ?_) (fun _ => ?_)
  · exact PR.some Hs6
  · exact PR.some Hs6
def W_f_X6_hasSizes : List Nat := []
theorem fr_f_X6_hasSizes (x1 : Int) (s : vS) : PR (W_f_X6_hasSizes) s (fun q => q.2) (f_X6_hasSizes x1 s) := by
  unfold f_X6_hasSizes
  have Hs : Fr (W_f_X6_hasSizes) s s := Fr.rfl
  refine PR.ite (fun _ => ?_) (fun _ => ?_)
  · exact PR.some Hs
  · refine PR.ite (fun _ => ?_) (fun _ => ?_)
    · exact PR.some Hs
    · refine PR.ite (fun _ => ?_) (fun _ => ?_)
      · exact PR.some Hs
      · refine PR.ite (fun _ => ?_) (fun _ => ?_)
        · exact PR.some Hs
        · refine PR.ite (fun _ => ?_) (fun _ => ?_)
          · exact PR.some Hs
          · refine PR.ite (fun _ => ?_) (fun _ => ?_)
            · exact PR.some Hs
            · refine PR.ite (fun _ => ?_) (fun _ => ?_)
              · exact PR.some Hs
              · exact PR.some Hs
def W_l_X6_meant_4 : List Nat := [14001, 15998, 15999, 30001, 31998, 31999, 34999, 35999, 38999, 39999, 41998, 41999]
theorem fr_j_X6_meant_126 (rec : Int → Int → vS → Option (Int × Int × vS)) (hrec : ∀ (y0 : Int) (y1 : Int) (s : vS), PR (W_l_X6_meant_4) s (fun q => q.2.2) (rec y0 y1 s)) (x2 : Int) (x3 : Int) (s : vS) : PR (W_l_X6_meant_4) s (fun q => q.2.2) (j_X6_meant_126 rec x2 x3 s) := by
  unfold j_X6_meant_126
  have Hs : Fr (W_l_X6_meant_4) s s := Fr.rfl
  refine PR.gd ?_
  refine PR.stp (Fr.wE Hs (by decide +kernel)) (fun s2 Hs2 => ?_)
  exact PR.tail Hs2 (hrec x2 x3 s2)
theorem fr_j_X6_meant_248 (rec : Int → Int → vS → Option (Int × Int × vS)) (hrec : ∀ (y0 : Int) (y1 : Int) (s : vS), PR (W_l_X6_meant_4) s (fun q => q.2.2) (rec y0 y1 s)) (x2 : Int) (x3 : Int) (z0 : Int) (s : vS) : PR (W_l_X6_meant_4) s (fun q => q.2.2) (j_X6_meant_248 rec x2 x3 z0 s) := by
  unfold j_X6_meant_248
  have Hs : Fr (W_l_X6_meant_4) s s := Fr.rfl
  refine PR.ite (fun _ => ?_) (fun _ => ?_)
  · refine PR.gd ?_
    refine PR.stp (Fr.wE Hs (by decide +kernel)) (fun s3 Hs3 => ?_)
    exact PR.tail Hs3 (hrec x2 x3 s3)
  · exact PR.tail Hs (hrec x2 z0 s)
theorem fr_j_X6_meant_190 (rec : Int → Int → vS → Option (Int × Int × vS)) (hrec : ∀ (y0 : Int) (y1 : Int) (s : vS), PR (W_l_X6_meant_4) s (fun q => q.2.2) (rec y0 y1 s)) (x2 : Int) (x3 : Int) (x5 : Int) (s : vS) : PR (W_l_X6_meant_4) s (fun q => q.2.2) (j_X6_meant_190 rec x2 x3 x5 s) := by
  unfold j_X6_meant_190
  have Hs : Fr (W_l_X6_meant_4) s s := Fr.rfl
  refine PR.gd ?_
  refine PR.stp (Fr.wE Hs (by decide +kernel)) (fun s2 Hs2 => ?_)
  exact PR.tail Hs2 (hrec x2 x3 s2)
theorem fr_j_X6_meant_187 (rec : Int → Int → vS → Option (Int × Int × vS)) (hrec : ∀ (y0 : Int) (y1 : Int) (s : vS), PR (W_l_X6_meant_4) s (fun q => q.2.2) (rec y0 y1 s)) (x2 : Int) (x3 : Int) (x5 : Int) (z1 : Int) (z2 : Int) (z3 : Int) (s : vS) : PR (W_l_X6_meant_4) s (fun q => q.2.2) (j_X6_meant_187 rec x2 x3 x5 z1 z2 z3 s) := by
  unfold j_X6_meant_187
  have Hs : Fr (W_l_X6_meant_4) s s := Fr.rfl
  refine PR.bdv (PR.call Hs (fr_f_X6_number z1 z2 z3 s) (by decide +kernel)) (fun s1 Hs1 => ?_)
  exact PR.tail Hs1 (fr_j_X6_meant_190 rec hrec x2 x3 x5 s1)
theorem fr_j_X6_meant_105 (rec : Int → Int → vS → Option (Int × Int × vS)) (hrec : ∀ (y0 : Int) (y1 : Int) (s : vS), PR (W_l_X6_meant_4) s (fun q => q.2.2) (rec y0 y1 s)) (x2 : Int) (x3 : Int) (x4 : Int) (x5 : Int) (x6 : Int) (z0 : Int) (s : vS) : PR (W_l_X6_meant_4) s (fun q => q.2.2) (j_X6_meant_105 rec x2 x3 x4 x5 x6 z0 s) := by
  unfold j_X6_meant_105
  have Hs : Fr (W_l_X6_meant_4) s s := Fr.rfl
  refine PR.ite (fun _ => ?_) (fun _ => ?_)
  · exact PR.tail Hs (fr_j_X6_meant_126 rec hrec x2 x3 s)
  · refine PR.bd (PR.pure Hs (fr_f_X4_kind x4 s)) (fun r5 s2 Hs2 => ?_)
    refine PR.ite (fun _ => ?_) (fun _ => ?_)
    · refine PR.ite (fun _ => ?_) (fun _ => ?_)
      · refine PR.gd ?_
        refine PR.ite (fun _ => ?_) (fun _ => ?_)
        · refine PR.bd (PR.pure Hs2 (fr_f_X4_at x5 7 s2)) (fun r29 s26 Hs26 => ?_)
          refine PR.bd (PR.pure Hs26 (fr_f_X4_at x5 6 s26)) (fun r34 s31 Hs31 => ?_)
          refine PR.ite (fun _ => ?_) (fun _ => ?_)
          · exact PR.tail Hs31 (fr_j_X6_meant_187 rec hrec x2 x3 x5 x5 r29 1 s31)
          · exact PR.tail Hs31 (fr_j_X6_meant_187 rec hrec x2 x3 x5 x5 r29 0 s31)
        · exact PR.tail Hs2 (fr_j_X6_meant_190 rec hrec x2 x3 x5 s2)
      · refine PR.ite (fun _ => ?_) (fun _ => ?_)
        · refine PR.ite (fun _ => ?_) (fun _ => ?_)
          · refine PR.bd (PR.pure Hs2 (fr_f_X4_lexeme x5 s2)) (fun r14 s11 Hs11 => ?_)
            refine PR.bd (PR.pure Hs11 (fr_f_X9_find 22 r14 s11)) (fun r19 s16 Hs16 => ?_)
            exact PR.tail Hs16 (fr_j_X6_meant_248 rec hrec x2 x3 r19 s16)
          · exact PR.tail Hs2 (fr_j_X6_meant_248 rec hrec x2 x3 (-1) s2)
        · refine PR.gd ?_
          refine PR.stp (Fr.wE Hs2 (by decide +kernel)) (fun s22 Hs22 => ?_)
          exact PR.tail Hs22 (hrec x2 x3 s22)
    · exact PR.tail Hs2 (fr_j_X6_meant_126 rec hrec x2 x3 s2)
theorem fr_l_X6_meant_4 : ∀ (n : Nat) (x2 : Int) (x3 : Int) (s : vS), PR (W_l_X6_meant_4) s (fun q => q.2.2) (l_X6_meant_4 n x2 x3 s)
  := by
  intro n
  induction n with
  | zero => intro x2 x3 s; exact PR.none
  | succ n ih =>
    intro x2 x3 s
    unfold l_X6_meant_4
    have Hs : Fr (W_l_X6_meant_4) s s := Fr.rfl
    refine PR.gd ?_
    refine PR.ite (fun _ => ?_) (fun _ => ?_)
    · refine PR.bd (PR.pure Hs (fr_f_X6_grown 41 (w32 (x2 + 1)) s)) (fun r6 s7 Hs7 => ?_)
      refine PR.gd ?_
      refine PR.stp (Fr.wgrw Hs7 (by decide +kernel) (by decide +kernel)) (fun s11 Hs11 => ?_)
      refine PR.gd ?_
      refine PR.stp (Fr.wE Hs11 (by decide +kernel)) (fun s14 Hs14 => ?_)
      refine PR.vl (fun y16 => ?_)
      refine PR.bd (PR.pure Hs14 (fr_f_X4_parts x3 s14)) (fun r22 s19 Hs19 => ?_)
      refine PR.bd (PR.call Hs19 (fr_f_X6_base r22 s19) (by decide +kernel)) (fun r27 s24 Hs24 => ?_)
      refine PR.bd (PR.pure Hs24 (fr_f_X4_limits x3 s24)) (fun r32 s29 Hs29 => ?_)
      refine PR.bd (PR.pure Hs29 (fr_f_X4_at r32 5 s29)) (fun r37 s34 Hs34 => ?_)
      refine PR.ite (fun _ => ?_) (fun _ => ?_)
      · refine PR.bd (PR.pure Hs34 (fr_f_X4_parts x3 s34)) (fun r43 s40 Hs40 => ?_)
        refine PR.bd (PR.pure Hs40 (fr_f_X4_lexeme r32 s40)) (fun r48 s45 Hs45 => ?_)
        refine PR.bd (PR.call Hs45 (fr_f_X6_itemOf r43 r48 0 s45) (by decide +kernel)) (fun r53 s50 Hs50 => ?_)
        exact PR.tail Hs50 (fr_j_X6_meant_105 (l_X6_meant_4 n) ih y16 x3 r27 r32 r37 r53 s50)
      · exact PR.tail Hs34 (fr_j_X6_meant_105 (l_X6_meant_4 n) ih y16 x3 r27 r32 r37 (-1) s34)
    · exact PR.some Hs
def W_l_X6_meant_272 : List Nat := [38999]
theorem fr_l_X6_meant_272 : ∀ (n : Nat) (x2 : Int) (x3 : Int) (s : vS), PR (W_l_X6_meant_272) s (fun q => q) (l_X6_meant_272 n x2 x3 s)
  := by
  intro n
  induction n with
  | zero => intro x2 x3 s; exact PR.none
  | succ n ih =>
    intro x2 x3 s
    unfold l_X6_meant_272
    have Hs : Fr (W_l_X6_meant_272) s s := Fr.rfl
    refine PR.ite (fun _ => ?_) (fun _ => ?_)
    · exact PR.some Hs
    · refine PR.vl (fun y2 => ?_)
      refine PR.gd ?_
      refine PR.gd ?_
      refine PR.gd ?_
      refine PR.stp (Fr.wE Hs (by decide +kernel)) (fun s8 Hs8 => ?_)
      exact PR.tail Hs8 (ih y2 x3 s8)
def W_f_X6_meant : List Nat := [14001, 15998, 15999, 30001, 31998, 31999, 34999, 35999, 38999, 39999, 41998, 41999]
theorem fr_f_X6_meant (x1 : Int) (s : vS) : PR (W_f_X6_meant) s (fun q => q.2) (f_X6_meant x1 s) := by
  unfold f_X6_meant
  have Hs : Fr (W_f_X6_meant) s s := Fr.rfl
  refine PR.lq_2 (PR.call Hs (fr_l_X6_meant_4 FU 0 x1 s) (by decide +kernel)) (fun y1 y2 s3 Hs3 => ?_)
  refine PR.lq_0 (PR.call Hs3 (fr_l_X6_meant_272 FU y1 y2 s3) (by decide +kernel)) (fun s7 Hs7 => ?_)
  refine PR.gd ?_
  refine PR.ite (fun _ => ?_) (fun _ => ?_)
  · refine PR.gd ?_
    exact PR.some Hs7
  · exact PR.some Hs7
