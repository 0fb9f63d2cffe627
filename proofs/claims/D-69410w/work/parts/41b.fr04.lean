set_option maxRecDepth 100000
set_option maxHeartbeats 1000000
set_option linter.unusedVariables false
def W_f_X14_tagOf : List Nat := []
theorem fr_f_X14_tagOf (x0 : Int) (x1 : Int) (s : vS) : PR (W_f_X14_tagOf) s (fun q => q.2) (f_X14_tagOf x0 x1 s) := by
  unfold f_X14_tagOf
  have Hs : Fr (W_f_X14_tagOf) s s := Fr.rfl
  exact PR.some Hs
def W_l_X14_findLayers_7 : List Nat := [87104, 160999]
theorem fr_l_X14_findLayers_7 : ∀ (n : Nat) (x2 : Int) (s : vS), PR (W_l_X14_findLayers_7) s (fun q => q.2) (l_X14_findLayers_7 n x2 s)
  := by
  intro n
  induction n with
  | zero => intro x2 s; exact PR.none
  | succ n ih =>
    intro x2 s
    unfold l_X14_findLayers_7
    have Hs : Fr (W_l_X14_findLayers_7) s s := Fr.rfl
    refine PR.gd ?_
    refine PR.ite (fun _ => ?_) (fun _ => ?_)
    · refine PR.gd ?_
      refine PR.stp (Fr.wE Hs (by decide +kernel)) (fun s4 Hs4 => ?_)
      refine PR.stp (Fr.wI Hs4 (by decide +kernel)) (fun s6 Hs6 => ?_)
      refine PR.gd ?_
      refine PR.gd ?_
      refine PR.vl (fun y10 => ?_)
      exact PR.tail Hs6 (ih y10 s6)
    · exact PR.some Hs
def W_l_X14_findLayers_141 : List Nat := [87101, 159999]
theorem fr_j_X14_findLayers_193 (rec : Int → Int → Int → vS → Option (vS)) (hrec : ∀ (y0 : Int) (y1 : Int) (y2 : Int) (s : vS), PR (W_l_X14_findLayers_141) s (fun q => q) (rec y0 y1 y2 s)) (x3 : Int) (x4 : Int) (x5 : Int) (z0 : Int) (s : vS) : PR (W_l_X14_findLayers_141) s (fun q => q) (j_X14_findLayers_193 rec x3 x4 x5 z0 s) := by
  unfold j_X14_findLayers_193
  have Hs : Fr (W_l_X14_findLayers_141) s s := Fr.rfl
  refine PR.ite (fun _ => ?_) (fun _ => ?_)
  · refine PR.gd ?_
    refine PR.gd ?_
    refine PR.bd (PR.pure Hs (fr_f_X14_tagOf (gE s 109 x5) (gE s 110 x5) s)) (fun r7 s4 Hs4 => ?_)
    refine PR.gd ?_
    refine PR.gd ?_
    refine PR.stp (Fr.wE Hs4 (by decide +kernel)) (fun s11 Hs11 => ?_)
    refine PR.stp (Fr.wI Hs11 (by decide +kernel)) (fun s13 Hs13 => ?_)
    refine PR.vl (fun y15 => ?_)
    exact PR.tail Hs13 (hrec x3 x4 y15 s13)
  · refine PR.gd ?_
    refine PR.gd ?_
    refine PR.bd (PR.pure Hs (fr_f_X14_tagOf (gE s 109 x5) (gE s 110 x5) s)) (fun r23 s20 Hs20 => ?_)
    refine PR.gd ?_
    refine PR.gd ?_
    refine PR.stp (Fr.wE Hs20 (by decide +kernel)) (fun s27 Hs27 => ?_)
    refine PR.vl (fun y29 => ?_)
    exact PR.tail Hs27 (hrec x3 x4 y29 s27)
theorem fr_l_X14_findLayers_141 : ∀ (n : Nat) (x3 : Int) (x4 : Int) (x5 : Int) (s : vS), PR (W_l_X14_findLayers_141) s (fun q => q) (l_X14_findLayers_141 n x3 x4 x5 s)
  := by
  intro n
  induction n with
  | zero => intro x3 x4 x5 s; exact PR.none
  | succ n ih =>
    intro x3 x4 x5 s
    unfold l_X14_findLayers_141
    have Hs : Fr (W_l_X14_findLayers_141) s s := Fr.rfl
    refine PR.gd ?_
    refine PR.ite (fun _ => ?_) (fun _ => ?_)
    · exact PR.some Hs
    · refine PR.ite (fun _ => ?_) (fun _ => ?_)
      · exact PR.tail Hs (fr_j_X14_findLayers_193 (l_X14_findLayers_141 n) ih x3 x4 x5 0 s)
      · refine PR.gd ?_
        refine PR.ite (fun _ => ?_) (fun _ => ?_)
        · exact PR.tail Hs (fr_j_X14_findLayers_193 (l_X14_findLayers_141 n) ih x3 x4 x5 1 s)
        · refine PR.gd ?_
          refine PR.ite (fun _ => ?_) (fun _ => ?_)
          · refine PR.ite (fun _ => ?_) (fun _ => ?_)
            · exact PR.tail Hs (fr_j_X14_findLayers_193 (l_X14_findLayers_141 n) ih x3 x4 x5 0 s)
            · exact PR.tail Hs (fr_j_X14_findLayers_193 (l_X14_findLayers_141 n) ih x3 x4 x5 1 s)
          · exact PR.tail Hs (fr_j_X14_findLayers_193 (l_X14_findLayers_141 n) ih x3 x4 x5 0 s)
def W_l_X14_findLayers_110 : List Nat := [87101, 159999]
theorem fr_l_X14_findLayers_110 : ∀ (n : Nat) (x3 : Int) (s : vS), PR (W_l_X14_findLayers_110) s (fun q => q) (l_X14_findLayers_110 n x3 s)
  := by
  intro n
  induction n with
  | zero => intro x3 s; exact PR.none
  | succ n ih =>
    intro x3 s
    unfold l_X14_findLayers_110
    have Hs : Fr (W_l_X14_findLayers_110) s s := Fr.rfl
    refine PR.ite (fun _ => ?_) (fun _ => ?_)
    · exact PR.some Hs
    · refine PR.gd ?_
      refine PR.vl (fun y3 => ?_)
      refine PR.gd ?_
      refine PR.gd ?_
      refine PR.vl (fun y8 => ?_)
      refine PR.lq_0 (PR.call Hs (fr_l_X14_findLayers_141 FU x3 y3 y8 s) (by decide +kernel)) (fun s11 Hs11 => ?_)
      refine PR.vl (fun y13 => ?_)
      exact PR.tail Hs11 (ih y13 s11)
def W_f_X14_findLayers : List Nat := [87101, 87104, 159999, 160999]
theorem fr_f_X14_findLayers (x1 : Int) (s : vS) : PR (W_f_X14_findLayers) s (fun q => q) (f_X14_findLayers x1 s) := by
  unfold f_X14_findLayers
  have Hs : Fr (W_f_X14_findLayers) s s := Fr.rfl
  refine PR.stp (Fr.wI Hs (by decide +kernel)) (fun s1 Hs1 => ?_)
  refine PR.lq_1 (PR.call Hs1 (fr_l_X14_findLayers_7 FU x1 s1) (by decide +kernel)) (fun y3 s4 Hs4 => ?_)
  refine PR.gd ?_
  refine PR.stp (Fr.wE Hs4 (by decide +kernel)) (fun s8 Hs8 => ?_)
  refine PR.stp (Fr.wI Hs8 (by decide +kernel)) (fun s10 Hs10 => ?_)
  refine PR.gd ?_
  refine PR.ite (fun _ => ?_) (fun _ => ?_)
  · refine PR.vl (fun y14 => ?_)
    refine PR.lq_0 (PR.call Hs10 (fr_l_X14_findLayers_110 FU y14 s10) (by decide +kernel)) (fun s17 Hs17 => ?_)
    exact PR.some Hs17
  · refine PR.gd ?_
    refine PR.gd ?_
    refine PR.bd (PR.pure Hs10 (fr_f_X14_tagOf 0 (gE s10 90 (gE s10 97 y3)) s10)) (fun r24 s21 Hs21 => ?_)
    refine PR.gd ?_
    refine PR.gd ?_
    refine PR.stp (Fr.wE Hs21 (by decide +kernel)) (fun s28 Hs28 => ?_)
    refine PR.stp (Fr.wI Hs28 (by decide +kernel)) (fun s30 Hs30 => ?_)
    refine PR.vl (fun y32 => ?_)
    refine PR.lq_0 (PR.call Hs30 (fr_l_X14_findLayers_110 FU y32 s30) (by decide +kernel)) (fun s35 Hs35 => ?_)
    exact PR.some Hs35
def W_l_X14_isBareChoice_2 : List Nat := []
theorem fr_l_X14_isBareChoice_2 : ∀ (n : Nat) (x2 : Int) (s : vS), PR (W_l_X14_isBareChoice_2) s (Sum.elim (fun q => q.2) (fun q => q.2)) (l_X14_isBareChoice_2 n x2 s)
  := by
  intro n
  induction n with
  | zero => intro x2 s; exact PR.none
  | succ n ih =>
    intro x2 s
    unfold l_X14_isBareChoice_2
    have Hs : Fr (W_l_X14_isBareChoice_2) s s := Fr.rfl
    refine PR.gd ?_
    refine PR.ite (fun _ => ?_) (fun _ => ?_)
    · refine PR.gd ?_
      refine PR.gd ?_
      refine PR.vl (fun y5 => ?_)
      refine PR.gd ?_
      refine PR.ite (fun _ => ?_) (fun _ => ?_)
      · exact PR.tail Hs (ih y5 s)
      · exact PR.some Hs
    · exact PR.some Hs
def W_f_X14_isBareChoice : List Nat := []
theorem fr_f_X14_isBareChoice (x1 : Int) (s : vS) : PR (W_f_X14_isBareChoice) s (fun q => q.2) (f_X14_isBareChoice x1 s) := by
  unfold f_X14_isBareChoice
  have Hs : Fr (W_f_X14_isBareChoice) s s := Fr.rfl
  refine PR.lqs_1 (PR.pure Hs (fr_l_X14_isBareChoice_2 FU x1 s)) (fun y1 s2 Hs2 => ?_) (fun q Hq => PR.some Hq)
  refine PR.gd ?_
  refine PR.ite (fun _ => ?_) (fun _ => ?_)
  · exact PR.some Hs2
  · exact PR.some Hs2
def W_l_X14_checkTags_17 : List Nat := [87094]
theorem fr_l_X14_checkTags_17 : ∀ (n : Nat) (x1 : Int) (x2 : Int) (s : vS), PR (W_l_X14_checkTags_17) s (fun q => q) (l_X14_checkTags_17 n x1 x2 s)
  := by
  intro n
  induction n with
  | zero => intro x1 x2 s; exact PR.none
  | succ n ih =>
    intro x1 x2 s
    unfold l_X14_checkTags_17
    have Hs : Fr (W_l_X14_checkTags_17) s s := Fr.rfl
    refine PR.gd ?_
    refine PR.gd ?_
    refine PR.ite (fun _ => ?_) (fun _ => ?_)
    · exact PR.some Hs
    · refine PR.gd ?_
      refine PR.ite (fun _ => ?_) (fun _ => ?_)
      · refine PR.gd ?_
        refine PR.gd ?_
        refine PR.bdv (PR.call Hs (fr_f_X14_first (gE s 95 (gE s 108 x2)) s) (by decide +kernel)) (fun s11 Hs11 => ?_)
        refine PR.vl (fun y14 => ?_)
        exact PR.tail Hs11 (ih x1 y14 s11)
      · refine PR.vl (fun y6 => ?_)
        exact PR.tail Hs (ih x1 y6 s)
def W_l_X14_checkTags_2 : List Nat := [87094, 87101, 87104, 159999, 160999]
theorem fr_j_X14_checkTags_122 (rec : Int → vS → Option (vS)) (hrec : ∀ (y0 : Int) (s : vS), PR (W_l_X14_checkTags_2) s (fun q => q) (rec y0 s)) (x1 : Int) (s : vS) : PR (W_l_X14_checkTags_2) s (fun q => q) (j_X14_checkTags_122 rec x1 s) := by
  unfold j_X14_checkTags_122
  have Hs : Fr (W_l_X14_checkTags_2) s s := Fr.rfl
  refine PR.bdv (PR.call Hs (fr_f_X14_findLayers x1 s) (by decide +kernel)) (fun s1 Hs1 => ?_)
  refine PR.ite (fun _ => ?_) (fun _ => ?_)
  · refine PR.vl (fun y5 => ?_)
    exact PR.tail Hs1 (hrec y5 s1)
  · refine PR.gd ?_
    refine PR.gd ?_
    refine PR.bdv (PR.call Hs1 (fr_f_X14_first (gE s1 95 (gE s1 98 x1)) s1) (by decide +kernel)) (fun s10 Hs10 => ?_)
    refine PR.vl (fun y13 => ?_)
    exact PR.tail Hs10 (hrec y13 s10)
theorem fr_l_X14_checkTags_2 : ∀ (n : Nat) (x1 : Int) (s : vS), PR (W_l_X14_checkTags_2) s (fun q => q) (l_X14_checkTags_2 n x1 s)
  := by
  intro n
  induction n with
  | zero => intro x1 s; exact PR.none
  | succ n ih =>
    intro x1 s
    unfold l_X14_checkTags_2
    have Hs : Fr (W_l_X14_checkTags_2) s s := Fr.rfl
    refine PR.ite (fun _ => ?_) (fun _ => ?_)
    · exact PR.some Hs
    · refine PR.gd ?_
      refine PR.vl (fun y3 => ?_)
      refine PR.lq_0 (PR.call Hs (fr_l_X14_checkTags_17 FU x1 y3 s) (by decide +kernel)) (fun s6 Hs6 => ?_)
      refine PR.gd ?_
      refine PR.gd ?_
      refine PR.vl (fun y10 => ?_)
      refine PR.gd ?_
      refine PR.ite (fun _ => ?_) (fun _ => ?_)
      · exact PR.tail Hs6 (fr_j_X14_checkTags_122 (l_X14_checkTags_2 n) ih x1 s6)
      · refine PR.gd ?_
        refine PR.ite (fun _ => ?_) (fun _ => ?_)
        · refine PR.bd (PR.pure Hs6 (fr_f_X14_isBareChoice x1 s6)) (fun r20 s17 Hs17 => ?_)
          refine PR.ite (fun _ => ?_) (fun _ => ?_)
          · exact PR.tail Hs17 (fr_j_X14_checkTags_122 (l_X14_checkTags_2 n) ih x1 s17)
          · refine PR.gd ?_
            refine PR.gd ?_
            refine PR.bdv (PR.call Hs17 (fr_f_X14_first (gE s17 95 (gE s17 108 y10)) s17) (by decide +kernel)) (fun s25 Hs25 => ?_)
            exact PR.tail Hs25 (fr_j_X14_checkTags_122 (l_X14_checkTags_2 n) ih x1 s25)
        · exact PR.tail Hs6 (fr_j_X14_checkTags_122 (l_X14_checkTags_2 n) ih x1 s6)
def W_f_X14_checkTags : List Nat := [87008, 87009, 87094, 87101, 87104, 159999, 160999]
theorem fr_f_X14_checkTags (s : vS) : PR (W_f_X14_checkTags) s (fun q => q) (f_X14_checkTags s) := by
  unfold f_X14_checkTags
  have Hs : Fr (W_f_X14_checkTags) s s := Fr.rfl
  refine PR.lq_0 (PR.call Hs (fr_l_X14_checkTags_2 FU 0 s) (by decide +kernel)) (fun s1 Hs1 => ?_)
  refine PR.bdv (PR.call Hs1 (fr_f_X14_told 8 s1) (by decide +kernel)) (fun s3 Hs3 => ?_)
  exact PR.some Hs3
def W_l_X14_gatherTags_33 : List Nat := []
theorem fr_l_X14_gatherTags_33 : ∀ (n : Nat) (x2 : Int) (x3 : Int) (s : vS), PR (W_l_X14_gatherTags_33) s (fun q => q.2) (l_X14_gatherTags_33 n x2 x3 s)
  := by
  intro n
  induction n with
  | zero => intro x2 x3 s; exact PR.none
  | succ n ih =>
    intro x2 x3 s
    unfold l_X14_gatherTags_33
    have Hs : Fr (W_l_X14_gatherTags_33) s s := Fr.rfl
    refine PR.gd ?_
    refine PR.ite (fun _ => ?_) (fun _ => ?_)
    · refine PR.gd ?_
      refine PR.ite (fun _ => ?_) (fun _ => ?_)
      · refine PR.gd ?_
        refine PR.gd ?_
        refine PR.vl (fun y7 => ?_)
        exact PR.tail Hs (ih x2 y7 s)
      · exact PR.some Hs
    · exact PR.some Hs
def W_l_X14_gatherTags_19 : List Nat := [87099, 156999, 157999, 158998, 158999]
theorem fr_j_X14_gatherTags_230 (rec : Int → vS → Option (vS)) (hrec : ∀ (y0 : Int) (s : vS), PR (W_l_X14_gatherTags_19) s (fun q => q) (rec y0 s)) (x2 : Int) (z1 : Int) (z2 : Int) (s : vS) : PR (W_l_X14_gatherTags_19) s (fun q => q) (j_X14_gatherTags_230 rec x2 z1 z2 s) := by
  unfold j_X14_gatherTags_230
  have Hs : Fr (W_l_X14_gatherTags_19) s s := Fr.rfl
  refine PR.gd ?_
  refine PR.stp (Fr.wE Hs (by decide +kernel)) (fun s2 Hs2 => ?_)
  refine PR.stp (Fr.wI Hs2 (by decide +kernel)) (fun s4 Hs4 => ?_)
  exact PR.tail Hs4 (hrec x2 s4)
theorem fr_j_X14_gatherTags_170 (rec : Int → vS → Option (vS)) (hrec : ∀ (y0 : Int) (s : vS), PR (W_l_X14_gatherTags_19) s (fun q => q) (rec y0 s)) (x2 : Int) (x3 : Int) (s : vS) : PR (W_l_X14_gatherTags_19) s (fun q => q) (j_X14_gatherTags_170 rec x2 x3 s) := by
  unfold j_X14_gatherTags_170
  have Hs : Fr (W_l_X14_gatherTags_19) s s := Fr.rfl
  refine PR.gd ?_
  refine PR.ite (fun _ => ?_) (fun _ => ?_)
  · refine PR.gd ?_
    refine PR.gd ?_
    refine PR.bd (PR.pure Hs (fr_f_X14_tagOf 0 (gE s 90 (gE s 97 x3)) s)) (fun r8 s5 Hs5 => ?_)
    refine PR.gd ?_
    exact PR.tail Hs5 (fr_j_X14_gatherTags_230 rec hrec x2 (gI s 87 99) r8 s5)
  · refine PR.gd ?_
    refine PR.gd ?_
    refine PR.gd ?_
    refine PR.gd ?_
    refine PR.bd (PR.pure Hs (fr_f_X14_tagOf (gE s 109 (gE s 99 x3)) (gE s 110 (gE s 99 x3)) s)) (fun r18 s15 Hs15 => ?_)
    refine PR.gd ?_
    exact PR.tail Hs15 (fr_j_X14_gatherTags_230 rec hrec x2 (gI s 87 99) r18 s15)
def W_l_X14_gatherTags_252 : List Nat := [157999]
theorem fr_l_X14_gatherTags_252 : ∀ (n : Nat) (x2 : Int) (x4 : Int) (s : vS), PR (W_l_X14_gatherTags_252) s (fun q => q.2) (l_X14_gatherTags_252 n x2 x4 s)
  := by
  intro n
  induction n with
  | zero => intro x2 x4 s; exact PR.none
  | succ n ih =>
    intro x2 x4 s
    unfold l_X14_gatherTags_252
    have Hs : Fr (W_l_X14_gatherTags_252) s s := Fr.rfl
    refine PR.ite (fun _ => ?_) (fun _ => ?_)
    · exact PR.some Hs
    · refine PR.gd ?_
      refine PR.gd ?_
      refine PR.stp (Fr.wE Hs (by decide +kernel)) (fun s4 Hs4 => ?_)
      refine PR.vl (fun y6 => ?_)
      refine PR.gd ?_
      refine PR.vl (fun y10 => ?_)
      exact PR.tail Hs4 (ih y6 y10 s4)
theorem fr_j_X14_gatherTags_150 (rec : Int → vS → Option (vS)) (hrec : ∀ (y0 : Int) (s : vS), PR (W_l_X14_gatherTags_19) s (fun q => q) (rec y0 s)) (x2 : Int) (x3 : Int) (s : vS) : PR (W_l_X14_gatherTags_19) s (fun q => q) (j_X14_gatherTags_150 rec x2 x3 s) := by
  unfold j_X14_gatherTags_150
  have Hs : Fr (W_l_X14_gatherTags_19) s s := Fr.rfl
  refine PR.gd ?_
  refine PR.ite (fun _ => ?_) (fun _ => ?_)
  · exact PR.tail Hs (fr_j_X14_gatherTags_170 rec hrec x2 x3 s)
  · refine PR.gd ?_
    refine PR.ite (fun _ => ?_) (fun _ => ?_)
    · refine PR.gd ?_
      refine PR.vl (fun y6 => ?_)
      refine PR.lq_1 (PR.call Hs (fr_l_X14_gatherTags_252 FU x2 y6 s) (by decide +kernel)) (fun y9 s10 Hs10 => ?_)
      exact PR.tail Hs10 (hrec y9 s10)
    · exact PR.tail Hs (fr_j_X14_gatherTags_170 rec hrec x2 x3 s)
def W_l_X14_gatherTags_117 : List Nat := []
theorem fr_l_X14_gatherTags_117 : ∀ (n : Nat) (x2 : Int) (x3 : Int) (x5 : Int) (s : vS), PR (W_l_X14_gatherTags_117) s (fun q => q) (l_X14_gatherTags_117 n x2 x3 x5 s)
  := by
  intro n
  induction n with
  | zero => intro x2 x3 x5 s; exact PR.none
  | succ n ih =>
    intro x2 x3 x5 s
    unfold l_X14_gatherTags_117
    have Hs : Fr (W_l_X14_gatherTags_117) s s := Fr.rfl
    refine PR.ite (fun _ => ?_) (fun _ => ?_)
    · exact PR.some Hs
    · refine PR.gd ?_
      refine PR.gd ?_
      refine PR.stp (Fr.wET Hs (by decide)) (fun s4 Hs4 => ?_)
      refine PR.vl (fun y6 => ?_)
      exact PR.tail Hs4 (ih x2 x3 y6 s4)
theorem fr_j_X14_gatherTags_68 (rec : Int → vS → Option (vS)) (hrec : ∀ (y0 : Int) (s : vS), PR (W_l_X14_gatherTags_19) s (fun q => q) (rec y0 s)) (x2 : Int) (x3 : Int) (s : vS) : PR (W_l_X14_gatherTags_19) s (fun q => q) (j_X14_gatherTags_68 rec x2 x3 s) := by
  unfold j_X14_gatherTags_68
  have Hs : Fr (W_l_X14_gatherTags_19) s s := Fr.rfl
  refine PR.gd ?_
  refine PR.ite (fun _ => ?_) (fun _ => ?_)
  · exact PR.tail Hs (hrec x2 s)
  · refine PR.gd ?_
    refine PR.stp (Fr.wE Hs (by decide +kernel)) (fun s4 Hs4 => ?_)
    refine PR.ite (fun _ => ?_) (fun _ => ?_)
    · refine PR.gd ?_
      refine PR.stp (Fr.wAT Hs4 (by decide)) (fun s8 Hs8 => ?_)
      refine PR.lq_0 (PR.pure Hs8 (fr_l_X14_gatherTags_117 FU x2 x3 0 s8)) (fun s10 Hs10 => ?_)
      refine PR.gd ?_
      refine PR.stp (Fr.wswT Hs10 (by decide) (by decide +kernel) (by decide +kernel)) (fun s13 Hs13 => ?_)
      refine PR.stp (Fr.wrs Hs13) (fun s15 Hs15 => ?_)
      exact PR.tail Hs15 (fr_j_X14_gatherTags_150 rec hrec x2 x3 s15)
    · exact PR.tail Hs4 (fr_j_X14_gatherTags_150 rec hrec x2 x3 s4)
theorem fr_l_X14_gatherTags_19 : ∀ (n : Nat) (x2 : Int) (s : vS), PR (W_l_X14_gatherTags_19) s (fun q => q) (l_X14_gatherTags_19 n x2 s)
  := by
  intro n
  induction n with
  | zero => intro x2 s; exact PR.none
  | succ n ih =>
    intro x2 s
    unfold l_X14_gatherTags_19
    have Hs : Fr (W_l_X14_gatherTags_19) s s := Fr.rfl
    refine PR.ite (fun _ => ?_) (fun _ => ?_)
    · exact PR.some Hs
    · refine PR.vl (fun y2 => ?_)
      refine PR.gd ?_
      refine PR.vl (fun y6 => ?_)
      refine PR.lq_1 (PR.pure Hs (fr_l_X14_gatherTags_33 FU y2 y6 s)) (fun y9 s10 Hs10 => ?_)
      exact PR.tail Hs10 (fr_j_X14_gatherTags_68 (l_X14_gatherTags_19 n) ih y2 y9 s10)
def W_f_X14_gatherTags : List Nat := [87097, 87099, 156999, 157999, 158998, 158999]
theorem fr_f_X14_gatherTags (x1 : Int) (s : vS) : PR (W_f_X14_gatherTags) s (fun q => q) (f_X14_gatherTags x1 s) := by
  unfold f_X14_gatherTags
  have Hs : Fr (W_f_X14_gatherTags) s s := Fr.rfl
  refine PR.stp (Fr.wI Hs (by decide +kernel)) (fun s1 Hs1 => ?_)
  refine PR.gd ?_
  refine PR.stp (Fr.wE Hs1 (by decide +kernel)) (fun s4 Hs4 => ?_)
  refine PR.lq_0 (PR.call Hs4 (fr_l_X14_gatherTags_19 FU 1 s4) (by decide +kernel)) (fun s6 Hs6 => ?_)
  exact PR.some Hs6
def W_l_X14_isAgain_12 : List Nat := []
theorem fr_l_X14_isAgain_12 : ∀ (n : Nat) (x1 : Int) (x2 : Int) (x3 : Int) (s : vS), PR (W_l_X14_isAgain_12) s (Sum.elim (fun q => q) (fun q => q.2)) (l_X14_isAgain_12 n x1 x2 x3 s)
  := by
  intro n
  induction n with
  | zero => intro x1 x2 x3 s; exact PR.none
  | succ n ih =>
    intro x1 x2 x3 s
    unfold l_X14_isAgain_12
    have Hs : Fr (W_l_X14_isAgain_12) s s := Fr.rfl
    refine PR.ite (fun _ => ?_) (fun _ => ?_)
    · exact PR.some Hs
    · refine PR.gd ?_
      refine PR.gd ?_
      refine PR.ite (fun _ => ?_) (fun _ => ?_)
      · exact PR.some Hs
      · refine PR.vl (fun y5 => ?_)
        exact PR.tail Hs (ih x1 x2 y5 s)
def W_l_X14_isAgain_2 : List Nat := []
theorem fr_l_X14_isAgain_2 : ∀ (n : Nat) (x1 : Int) (x2 : Int) (s : vS), PR (W_l_X14_isAgain_2) s (Sum.elim (fun q => q) (fun q => q.2)) (l_X14_isAgain_2 n x1 x2 s)
  := by
  intro n
  induction n with
  | zero => intro x1 x2 s; exact PR.none
  | succ n ih =>
    intro x1 x2 s
    unfold l_X14_isAgain_2
    have Hs : Fr (W_l_X14_isAgain_2) s s := Fr.rfl
    refine PR.ite (fun _ => ?_) (fun _ => ?_)
    · exact PR.some Hs
    · refine PR.lqs_0 (PR.pure Hs (fr_l_X14_isAgain_12 FU x1 x2 0 s)) (fun s2 Hs2 => ?_) (fun q Hq => PR.some Hq)
      refine PR.vl (fun y4 => ?_)
      exact PR.tail Hs2 (ih x1 y4 s2)
def W_f_X14_isAgain : List Nat := []
theorem fr_f_X14_isAgain (x1 : Int) (s : vS) : PR (W_f_X14_isAgain) s (fun q => q.2) (f_X14_isAgain x1 s) := by
  unfold f_X14_isAgain
  have Hs : Fr (W_f_X14_isAgain) s s := Fr.rfl
  refine PR.lqs_0 (PR.pure Hs (fr_l_X14_isAgain_2 FU x1 x1 s)) (fun s1 Hs1 => ?_) (fun q Hq => PR.some Hq)
  exact PR.some Hs1
def W_l_X14_checkRows_42 : List Nat := [87094, 87097, 87099, 156999, 157999, 158998, 158999]
theorem fr_j_X14_checkRows_95 (rec : Int → Int → Int → Int → vS → Option (vS)) (hrec : ∀ (y0 : Int) (y1 : Int) (y2 : Int) (y3 : Int) (s : vS), PR (W_l_X14_checkRows_42) s (fun q => q) (rec y0 y1 y2 y3 s)) (x1 : Int) (x2 : Int) (x3 : Int) (x4 : Int) (s : vS) : PR (W_l_X14_checkRows_42) s (fun q => q) (j_X14_checkRows_95 rec x1 x2 x3 x4 s) := by
  unfold j_X14_checkRows_95
  have Hs : Fr (W_l_X14_checkRows_42) s s := Fr.rfl
  refine PR.ite (fun _ => ?_) (fun _ => ?_)
  · refine PR.gd ?_
    refine PR.vl (fun y3 => ?_)
    exact PR.tail Hs (hrec x1 x2 x3 y3 s)
  · refine PR.gd ?_
    refine PR.ite (fun _ => ?_) (fun _ => ?_)
    · refine PR.stp (Fr.wI Hs (by decide +kernel)) (fun s12 Hs12 => ?_)
      refine PR.gd ?_
      refine PR.vl (fun y15 => ?_)
      exact PR.tail Hs12 (hrec x1 x2 x3 y15 s12)
    · refine PR.gd ?_
      refine PR.vl (fun y9 => ?_)
      exact PR.tail Hs (hrec x1 x2 x3 y9 s)
theorem fr_l_X14_checkRows_42 : ∀ (n : Nat) (x1 : Int) (x2 : Int) (x3 : Int) (x4 : Int) (s : vS), PR (W_l_X14_checkRows_42) s (fun q => q) (l_X14_checkRows_42 n x1 x2 x3 x4 s)
  := by
  intro n
  induction n with
  | zero => intro x1 x2 x3 x4 s; exact PR.none
  | succ n ih =>
    intro x1 x2 x3 x4 s
    unfold l_X14_checkRows_42
    have Hs : Fr (W_l_X14_checkRows_42) s s := Fr.rfl
    refine PR.ite (fun _ => ?_) (fun _ => ?_)
    · exact PR.some Hs
    · refine PR.ite (fun _ => ?_) (fun _ => ?_)
      · refine PR.vl (fun y3 => ?_)
        refine PR.gd ?_
        refine PR.bdv (PR.call Hs (fr_f_X14_gatherTags (gE s 117 x4) s) (by decide +kernel)) (fun s7 Hs7 => ?_)
        refine PR.bd (PR.pure Hs7 (fr_f_X14_isAgain y3 s7)) (fun r13 s10 Hs10 => ?_)
        refine PR.ite (fun _ => ?_) (fun _ => ?_)
        · exact PR.tail Hs10 (fr_j_X14_checkRows_95 (l_X14_checkRows_42 n) ih x1 x2 r13 x4 s10)
        · refine PR.gd ?_
          refine PR.gd ?_
          refine PR.bdv (PR.call Hs10 (fr_f_X14_first (gE s10 95 (gE s10 116 x4)) s10) (by decide +kernel)) (fun s18 Hs18 => ?_)
          exact PR.tail Hs18 (fr_j_X14_checkRows_95 (l_X14_checkRows_42 n) ih x1 x2 r13 x4 s18)
      · exact PR.some Hs
def W_l_X14_checkRows_2 : List Nat := [87094, 87097, 87099, 156999, 157999, 158998, 158999]
theorem fr_j_X14_checkRows_26 (rec : Int → vS → Option (vS)) (hrec : ∀ (y0 : Int) (s : vS), PR (W_l_X14_checkRows_2) s (fun q => q) (rec y0 s)) (x1 : Int) (z0 : Int) (s : vS) : PR (W_l_X14_checkRows_2) s (fun q => q) (j_X14_checkRows_26 rec x1 z0 s) := by
  unfold j_X14_checkRows_26
  have Hs : Fr (W_l_X14_checkRows_2) s s := Fr.rfl
  refine PR.stp (Fr.wI Hs (by decide +kernel)) (fun s1 Hs1 => ?_)
  refine PR.gd ?_
  refine PR.vl (fun y4 => ?_)
  refine PR.lq_0 (PR.call Hs1 (fr_l_X14_checkRows_42 FU x1 z0 0 y4 s1) (by decide +kernel)) (fun s7 Hs7 => ?_)
  refine PR.vl (fun y9 => ?_)
  exact PR.tail Hs7 (hrec y9 s7)
theorem fr_l_X14_checkRows_2 : ∀ (n : Nat) (x1 : Int) (s : vS), PR (W_l_X14_checkRows_2) s (fun q => q) (l_X14_checkRows_2 n x1 s)
  := by
  intro n
  induction n with
  | zero => intro x1 s; exact PR.none
  | succ n ih =>
    intro x1 s
    unfold l_X14_checkRows_2
    have Hs : Fr (W_l_X14_checkRows_2) s s := Fr.rfl
    refine PR.ite (fun _ => ?_) (fun _ => ?_)
    · exact PR.some Hs
    · refine PR.gd ?_
      refine PR.ite (fun _ => ?_) (fun _ => ?_)
      · exact PR.tail Hs (fr_j_X14_checkRows_26 (l_X14_checkRows_2 n) ih x1 1 s)
      · exact PR.tail Hs (fr_j_X14_checkRows_26 (l_X14_checkRows_2 n) ih x1 0 s)
def W_f_X14_checkRows : List Nat := [87008, 87009, 87094, 87097, 87099, 156999, 157999, 158998, 158999]
theorem fr_f_X14_checkRows (s : vS) : PR (W_f_X14_checkRows) s (fun q => q) (f_X14_checkRows s) := by
  unfold f_X14_checkRows
  have Hs : Fr (W_f_X14_checkRows) s s := Fr.rfl
  refine PR.lq_0 (PR.call Hs (fr_l_X14_checkRows_2 FU 0 s) (by decide +kernel)) (fun s1 Hs1 => ?_)
  refine PR.bdv (PR.call Hs1 (fr_f_X14_told 9 s1) (by decide +kernel)) (fun s3 Hs3 => ?_)
  exact PR.some Hs3
def W_f_X14_goesOn : List Nat := []
theorem fr_f_X14_goesOn (x1 : Int) (s : vS) : PR (W_f_X14_goesOn) s (fun q => q.2) (f_X14_goesOn x1 s) := by
  unfold f_X14_goesOn
  have Hs : Fr (W_f_X14_goesOn) s s := Fr.rfl
  refine PR.gd ?_
  refine PR.ite (fun _ => ?_) (fun _ => ?_)
  · refine PR.gd ?_
    refine PR.gd ?_
    refine PR.bd (PR.pure Hs (fr_f_X14_itemOf (gE s 138 x1) (gE s 134 x1) 1 s)) (fun r8 s5 Hs5 => ?_)
    refine PR.ite (fun _ => ?_) (fun _ => ?_)
    · refine PR.gd ?_
      refine PR.bd (PR.pure Hs5 (fr_f_X14_assignmentOf (gE s5 134 x1) s5)) (fun r15 s12 Hs12 => ?_)
      exact PR.some Hs12
    · exact PR.some Hs5
  · exact PR.some Hs
def W_l_X14_checkCircles_14 : List Nat := []
theorem fr_j_X14_checkCircles_35 (rec : Int → Int → Int → vS → Option (Int × Int × vS)) (hrec : ∀ (y0 : Int) (y1 : Int) (y2 : Int) (s : vS), PR (W_l_X14_checkCircles_14) s (fun q => q.2.2) (rec y0 y1 y2 s)) (x1 : Int) (x2 : Int) (x3 : Int) (s : vS) : PR (W_l_X14_checkCircles_14) s (fun q => q.2.2) (j_X14_checkCircles_35 rec x1 x2 x3 s) := by
  unfold j_X14_checkCircles_35
  have Hs : Fr (W_l_X14_checkCircles_14) s s := Fr.rfl
  refine PR.gd ?_
  refine PR.ite (fun _ => ?_) (fun _ => ?_)
  · refine PR.gd ?_
    refine PR.bd (PR.pure Hs (fr_f_X14_goesOn (gE s 143 x2) s)) (fun r7 s4 Hs4 => ?_)
    refine PR.vl (fun y9 => ?_)
    exact PR.tail Hs4 (hrec x1 r7 y9 s4)
  · refine PR.vl (fun y12 => ?_)
    exact PR.tail Hs (hrec x1 (-1) y12 s)
theorem fr_l_X14_checkCircles_14 : ∀ (n : Nat) (x1 : Int) (x2 : Int) (x3 : Int) (s : vS), PR (W_l_X14_checkCircles_14) s (fun q => q.2.2) (l_X14_checkCircles_14 n x1 x2 x3 s)
  := by
  intro n
  induction n with
  | zero => intro x1 x2 x3 s; exact PR.none
  | succ n ih =>
    intro x1 x2 x3 s
    unfold l_X14_checkCircles_14
    have Hs : Fr (W_l_X14_checkCircles_14) s s := Fr.rfl
    refine PR.ite (fun _ => ?_) (fun _ => ?_)
    · exact PR.some Hs
    · refine PR.ite (fun _ => ?_) (fun _ => ?_)
      · exact PR.some Hs
      · refine PR.ite (fun _ => ?_) (fun _ => ?_)
        · refine PR.ite (fun _ => ?_) (fun _ => ?_)
          · exact PR.tail Hs (fr_j_X14_checkCircles_35 (l_X14_checkCircles_14 n) ih x1 x2 x3 s)
          · exact PR.some Hs
        · exact PR.tail Hs (fr_j_X14_checkCircles_35 (l_X14_checkCircles_14 n) ih x1 x2 x3 s)
def W_l_X14_checkCircles_2 : List Nat := [87094]
theorem fr_j_X14_checkCircles_65 (rec : Int → vS → Option (vS)) (hrec : ∀ (y0 : Int) (s : vS), PR (W_l_X14_checkCircles_2) s (fun q => q) (rec y0 s)) (x1 : Int) (x2 : Int) (x3 : Int) (s : vS) : PR (W_l_X14_checkCircles_2) s (fun q => q) (j_X14_checkCircles_65 rec x1 x2 x3 s) := by
  unfold j_X14_checkCircles_65
  have Hs : Fr (W_l_X14_checkCircles_2) s s := Fr.rfl
  refine PR.gd ?_
  refine PR.ite (fun _ => ?_) (fun _ => ?_)
  · refine PR.vl (fun y3 => ?_)
    exact PR.tail Hs (hrec y3 s)
  · refine PR.ite (fun _ => ?_) (fun _ => ?_)
    · refine PR.ite (fun _ => ?_) (fun _ => ?_)
      · refine PR.vl (fun y11 => ?_)
        exact PR.tail Hs (hrec y11 s)
      · refine PR.gd ?_
        refine PR.gd ?_
        refine PR.bdv (PR.call Hs (fr_f_X14_first (gE s 95 (gE s 141 x1)) s) (by decide +kernel)) (fun s16 Hs16 => ?_)
        refine PR.vl (fun y19 => ?_)
        exact PR.tail Hs16 (hrec y19 s16)
    · refine PR.vl (fun y7 => ?_)
      exact PR.tail Hs (hrec y7 s)
theorem fr_l_X14_checkCircles_2 : ∀ (n : Nat) (x1 : Int) (s : vS), PR (W_l_X14_checkCircles_2) s (fun q => q) (l_X14_checkCircles_2 n x1 s)
  := by
  intro n
  induction n with
  | zero => intro x1 s; exact PR.none
  | succ n ih =>
    intro x1 s
    unfold l_X14_checkCircles_2
    have Hs : Fr (W_l_X14_checkCircles_2) s s := Fr.rfl
    refine PR.ite (fun _ => ?_) (fun _ => ?_)
    · exact PR.some Hs
    · refine PR.lq_2 (PR.pure Hs (fr_l_X14_checkCircles_14 FU x1 x1 0 s)) (fun y2 y3 s4 Hs4 => ?_)
      exact PR.tail Hs4 (fr_j_X14_checkCircles_65 (l_X14_checkCircles_2 n) ih x1 y2 y3 s4)
def W_f_X14_checkCircles : List Nat := [87008, 87009, 87094]
theorem fr_f_X14_checkCircles (s : vS) : PR (W_f_X14_checkCircles) s (fun q => q) (f_X14_checkCircles s) := by
  unfold f_X14_checkCircles
  have Hs : Fr (W_f_X14_checkCircles) s s := Fr.rfl
  refine PR.lq_0 (PR.call Hs (fr_l_X14_checkCircles_2 FU 0 s) (by decide +kernel)) (fun s1 Hs1 => ?_)
  refine PR.bdv (PR.call Hs1 (fr_f_X14_told 10 s1) (by decide +kernel)) (fun s3 Hs3 => ?_)
  exact PR.some Hs3
def W_l_X14_constantOf_6 : List Nat := [87084, 87085, 147998, 147999, 148998, 148999, 149998, 149999, 150999, 151999, 152998, 152999]
theorem fr_l_X14_constantOf_6 : ∀ (n : Nat) (x2 : Int) (s : vS), PR (W_l_X14_constantOf_6) s (Sum.elim (fun q => q) (fun q => q.2)) (l_X14_constantOf_6 n x2 s)
  := by
  intro n
  induction n with
  | zero => intro x2 s; exact PR.none
  | succ n ih =>
    intro x2 s
    unfold l_X14_constantOf_6
    have Hs : Fr (W_l_X14_constantOf_6) s s := Fr.rfl
    refine PR.ite (fun _ => ?_) (fun _ => ?_)
    · exact PR.some Hs
    · refine PR.gd ?_
      refine PR.ite (fun _ => ?_) (fun _ => ?_)
      · exact PR.some Hs
      · refine PR.gd ?_
        refine PR.bd (PR.pure Hs (fr_f_X14_root (gE s 142 x2) s)) (fun r8 s5 Hs5 => ?_)
        refine PR.ite (fun _ => ?_) (fun _ => ?_)
        · exact PR.some Hs5
        · refine PR.gd ?_
          refine PR.ite (fun _ => ?_) (fun _ => ?_)
          · refine PR.gd ?_
            refine PR.vl (fun y14 => ?_)
            refine PR.gd ?_
            refine PR.ite (fun _ => ?_) (fun _ => ?_)
            · refine PR.gd ?_
              refine PR.gd ?_
              refine PR.bd (PR.call Hs5 (fr_f_X14_numberOf (gE s5 134 y14) (gZ s5 135 y14) s5) (by decide +kernel)) (fun r40 s37 Hs37 => ?_)
              exact PR.some Hs37
            · refine PR.gd ?_
              refine PR.ite (fun _ => ?_) (fun _ => ?_)
              · refine PR.gd ?_
                refine PR.bd (PR.pure Hs5 (fr_f_X14_itemIn r8 (gE s5 134 y14) s5)) (fun r25 s22 Hs22 => ?_)
                refine PR.ite (fun _ => ?_) (fun _ => ?_)
                · refine PR.gd ?_
                  refine PR.bd (PR.pure Hs22 (fr_f_X14_assignmentOf (gE s22 134 y14) s22)) (fun r32 s29 Hs29 => ?_)
                  exact PR.tail Hs29 (ih r32 s29)
                · refine PR.gd ?_
                  exact PR.some Hs22
              · exact PR.some Hs5
          · exact PR.some Hs5
def W_f_X14_constantOf : List Nat := [87084, 87085, 147998, 147999, 148998, 148999, 149998, 149999, 150999, 151999, 152998, 152999]
theorem fr_f_X14_constantOf (x1 : Int) (s : vS) : PR (W_f_X14_constantOf) s (fun q => q.2) (f_X14_constantOf x1 s) := by
  unfold f_X14_constantOf
  have Hs : Fr (W_f_X14_constantOf) s s := Fr.rfl
  refine PR.bd (PR.pure Hs (fr_f_X14_assignmentOf x1 s)) (fun r4 s1 Hs1 => ?_)
  refine PR.lqs_0 (PR.call Hs1 (fr_l_X14_constantOf_6 FU r4 s1) (by decide +kernel)) (fun s6 Hs6 => ?_) (fun q Hq => PR.some Hq)
  exact PR.some Hs6
def W_j_X14_boundOf_105 : List Nat := []
theorem fr_j_X14_boundOf_105 (x4 : Int) (x5 : Int) (s : vS) : PR (W_j_X14_boundOf_105) s (fun q => q.2) (j_X14_boundOf_105 x4 x5 s) := by
  unfold j_X14_boundOf_105
  have Hs : Fr (W_j_X14_boundOf_105) s s := Fr.rfl
  refine PR.ite (fun _ => ?_) (fun _ => ?_)
  · exact PR.some Hs
  · refine PR.ite (fun _ => ?_) (fun _ => ?_)
    · exact PR.some Hs
    · refine PR.gd ?_
      refine PR.gd ?_
      refine PR.ite (fun _ => ?_) (fun _ => ?_)
      · exact PR.some Hs
      · exact PR.some Hs
def W_j_X14_boundOf_81 : List Nat := [87084, 87085, 147998, 147999, 148998, 148999, 149998, 149999, 150999, 151999, 152998, 152999]
theorem fr_j_X14_boundOf_81 (x2 : Int) (x4 : Int) (z0 : Int) (s : vS) : PR (W_j_X14_boundOf_81) s (fun q => q.2) (j_X14_boundOf_81 x2 x4 z0 s) := by
  unfold j_X14_boundOf_81
  have Hs : Fr (W_j_X14_boundOf_81) s s := Fr.rfl
  refine PR.ite (fun _ => ?_) (fun _ => ?_)
  · refine PR.bd (PR.call Hs (fr_f_X14_constantOf x2 s) (by decide +kernel)) (fun r5 s2 Hs2 => ?_)
    exact PR.pure Hs2 (fr_j_X14_boundOf_105 x4 r5 s2)
  · refine PR.gd ?_
    refine PR.vl (fun y8 => ?_)
    exact PR.pure Hs (fr_j_X14_boundOf_105 x4 y8 s)
def W_f_X14_boundOf : List Nat := [87084, 87085, 147998, 147999, 148998, 148999, 149998, 149999, 150999, 151999, 152998, 152999]
theorem fr_f_X14_boundOf (x1 : Int) (x2 : Int) (x3 : Int) (x4 : Int) (s : vS) : PR (W_f_X14_boundOf) s (fun q => q.2) (f_X14_boundOf x1 x2 x3 x4 s) := by
  unfold f_X14_boundOf
  have Hs : Fr (W_f_X14_boundOf) s s := Fr.rfl
  refine PR.gd ?_
  refine PR.ite (fun _ => ?_) (fun _ => ?_)
  · refine PR.ite (fun _ => ?_) (fun _ => ?_)
    · exact PR.some Hs
    · refine PR.bd (PR.call Hs (fr_f_X14_smallNumber 0 s) (by decide +kernel)) (fun r22 s19 Hs19 => ?_)
      exact PR.some Hs19
  · refine PR.gd ?_
    refine PR.ite (fun _ => ?_) (fun _ => ?_)
    · exact PR.some Hs
    · refine PR.gd ?_
      refine PR.ite (fun _ => ?_) (fun _ => ?_)
      · refine PR.bd (PR.call Hs (fr_f_X14_numberOf x2 x3 s) (by decide +kernel)) (fun r16 s13 Hs13 => ?_)
        exact PR.pure Hs13 (fr_j_X14_boundOf_105 x4 r16 s13)
      · refine PR.ite (fun _ => ?_) (fun _ => ?_)
        · refine PR.bd (PR.pure Hs (fr_f_X14_itemOf x1 x2 0 s)) (fun r11 s8 Hs8 => ?_)
          exact PR.call Hs8 (fr_j_X14_boundOf_81 x2 x4 r11 s8) (by decide +kernel)
        · exact PR.call Hs (fr_j_X14_boundOf_81 x2 x4 (-1) s) (by decide +kernel)
def W_f_X14_isAbove : List Nat := []
theorem fr_f_X14_isAbove (x1 : Int) (x2 : Int) (s : vS) : PR (W_f_X14_isAbove) s (fun q => q.2) (f_X14_isAbove x1 x2 s) := by
  unfold f_X14_isAbove
  have Hs : Fr (W_f_X14_isAbove) s s := Fr.rfl
  refine PR.ite (fun _ => ?_) (fun _ => ?_)
  · exact PR.some Hs
  · refine PR.ite (fun _ => ?_) (fun _ => ?_)
    · exact PR.some Hs
    · refine PR.ite (fun _ => ?_) (fun _ => ?_)
      · exact PR.some Hs
      · refine PR.ite (fun _ => ?_) (fun _ => ?_)
        · exact PR.some Hs
        · refine PR.ite (fun _ => ?_) (fun _ => ?_)
          · exact PR.some Hs
          · refine PR.bd (PR.pure Hs (fr_f_X14_compareNumbers x1 x2 s)) (fun r9 s6 Hs6 => ?_)
            refine PR.ite (fun _ => ?_) (fun _ => ?_)
            · exact PR.some Hs6
            · exact PR.some Hs6
def W_f_X14_hasSizes : List Nat := []
theorem fr_f_X14_hasSizes (x0 : Int) (s : vS) : PR (W_f_X14_hasSizes) s (fun q => q.2) (f_X14_hasSizes x0 s) := by
  unfold f_X14_hasSizes
  have Hs : Fr (W_f_X14_hasSizes) s s := Fr.rfl
  refine PR.ite (fun _ => ?_) (fun _ => ?_)
  · exact PR.some Hs
  · refine PR.ite (fun _ => ?_) (fun _ => ?_)
    · exact PR.some Hs
    · refine PR.ite (fun _ => ?_) (fun _ => ?_)
      · exact PR.some Hs
      · refine PR.ite (fun _ => ?_) (fun _ => ?_)
        · exact PR.some Hs
        · refine PR.ite (fun _ => ?_) (fun _ => ?_)
          · exact PR.some Hs
          · refine PR.ite (fun _ => ?_) (fun _ => ?_)
            · exact PR.some Hs
            · refine PR.ite (fun _ => ?_) (fun _ => ?_)
              · exact PR.some Hs
              · exact PR.some Hs
def W_l_X14_checkBounds_92 : List Nat := [87084, 87085, 87094, 130999, 131999, 147998, 147999, 148998, 148999, 149998, 149999, 150999, 151999, 152998, 152999]
theorem fr_j_X14_checkBounds_291 (rec : Int → Int → Int → Int → vS → Option (vS)) (hrec : ∀ (y0 : Int) (y1 : Int) (y2 : Int) (y3 : Int) (s : vS), PR (W_l_X14_checkBounds_92) s (fun q => q) (rec y0 y1 y2 y3 s)) (x1 : Int) (x2 : Int) (x3 : Int) (x4 : Int) (x5 : Int) (s : vS) : PR (W_l_X14_checkBounds_92) s (fun q => q) (j_X14_checkBounds_291 rec x1 x2 x3 x4 x5 s) := by
  unfold j_X14_checkBounds_291
  have Hs : Fr (W_l_X14_checkBounds_92) s s := Fr.rfl
  refine PR.gd ?_
  refine PR.ite (fun _ => ?_) (fun _ => ?_)
  · refine PR.vl (fun y3 => ?_)
    exact PR.tail Hs (hrec x1 x2 x3 y3 s)
  · refine PR.gd ?_
    refine PR.ite (fun _ => ?_) (fun _ => ?_)
    · refine PR.vl (fun y8 => ?_)
      exact PR.tail Hs (hrec x1 x2 x3 y8 s)
    · refine PR.gd ?_
      refine PR.gd ?_
      refine PR.bd (PR.pure Hs (fr_f_X14_isAbove (gE s 130 x4) (gE s 131 x4) s)) (fun r16 s13 Hs13 => ?_)
      refine PR.ite (fun _ => ?_) (fun _ => ?_)
      · refine PR.vl (fun y19 => ?_)
        exact PR.tail Hs13 (hrec x1 x2 x3 y19 s13)
      · refine PR.gd ?_
        refine PR.bdv (PR.call Hs13 (fr_f_X14_first (gE s13 95 x5) s13) (by decide +kernel)) (fun s23 Hs23 => ?_)
        refine PR.vl (fun y26 => ?_)
        exact PR.tail Hs23 (hrec x1 x2 x3 y26 s23)
theorem fr_j_X14_checkBounds_286 (rec : Int → Int → Int → Int → vS → Option (vS)) (hrec : ∀ (y0 : Int) (y1 : Int) (y2 : Int) (y3 : Int) (s : vS), PR (W_l_X14_checkBounds_92) s (fun q => q) (rec y0 y1 y2 y3 s)) (x1 : Int) (x2 : Int) (x3 : Int) (x4 : Int) (x5 : Int) (z2 : Int) (z3 : Int) (s : vS) : PR (W_l_X14_checkBounds_92) s (fun q => q) (j_X14_checkBounds_286 rec x1 x2 x3 x4 x5 z2 z3 s) := by
  unfold j_X14_checkBounds_286
  have Hs : Fr (W_l_X14_checkBounds_92) s s := Fr.rfl
  refine PR.gd ?_
  refine PR.bdv (PR.call Hs (fr_f_X14_first (gE s 95 (w32 (z2 - z3))) s) (by decide +kernel)) (fun s2 Hs2 => ?_)
  exact PR.tail Hs2 (fr_j_X14_checkBounds_291 rec hrec x1 x2 x3 x4 x5 s2)
theorem fr_j_X14_checkBounds_248 (rec : Int → Int → Int → Int → vS → Option (vS)) (hrec : ∀ (y0 : Int) (y1 : Int) (y2 : Int) (y3 : Int) (s : vS), PR (W_l_X14_checkBounds_92) s (fun q => q) (rec y0 y1 y2 y3 s)) (x1 : Int) (x2 : Int) (x3 : Int) (x4 : Int) (x5 : Int) (s : vS) : PR (W_l_X14_checkBounds_92) s (fun q => q) (j_X14_checkBounds_248 rec x1 x2 x3 x4 x5 s) := by
  unfold j_X14_checkBounds_248
  have Hs : Fr (W_l_X14_checkBounds_92) s s := Fr.rfl
  refine PR.gd ?_
  refine PR.ite (fun _ => ?_) (fun _ => ?_)
  · refine PR.gd ?_
    refine PR.gd ?_
    refine PR.ite (fun _ => ?_) (fun _ => ?_)
    · exact PR.tail Hs (fr_j_X14_checkBounds_286 rec hrec x1 x2 x3 x4 x5 (gE s 128 x4) 0 s)
    · exact PR.tail Hs (fr_j_X14_checkBounds_286 rec hrec x1 x2 x3 x4 x5 (gE s 128 x4) 1 s)
  · exact PR.tail Hs (fr_j_X14_checkBounds_291 rec hrec x1 x2 x3 x4 x5 s)
theorem fr_j_X14_checkBounds_223 (rec : Int → Int → Int → Int → vS → Option (vS)) (hrec : ∀ (y0 : Int) (y1 : Int) (y2 : Int) (y3 : Int) (s : vS), PR (W_l_X14_checkBounds_92) s (fun q => q) (rec y0 y1 y2 y3 s)) (x1 : Int) (x2 : Int) (x3 : Int) (x4 : Int) (z0 : Int) (z1 : Int) (s : vS) : PR (W_l_X14_checkBounds_92) s (fun q => q) (j_X14_checkBounds_223 rec x1 x2 x3 x4 z0 z1 s) := by
  unfold j_X14_checkBounds_223
  have Hs : Fr (W_l_X14_checkBounds_92) s s := Fr.rfl
  refine PR.vl (fun y1 => ?_)
  refine PR.gd ?_
  refine PR.ite (fun _ => ?_) (fun _ => ?_)
  · refine PR.gd ?_
    refine PR.bdv (PR.call Hs (fr_f_X14_first (gE s 95 y1) s) (by decide +kernel)) (fun s7 Hs7 => ?_)
    exact PR.tail Hs7 (fr_j_X14_checkBounds_248 rec hrec x1 x2 x3 x4 y1 s7)
  · exact PR.tail Hs (fr_j_X14_checkBounds_248 rec hrec x1 x2 x3 x4 y1 s)
theorem fr_j_X14_checkBounds_200 (rec : Int → Int → Int → Int → vS → Option (vS)) (hrec : ∀ (y0 : Int) (y1 : Int) (y2 : Int) (y3 : Int) (s : vS), PR (W_l_X14_checkBounds_92) s (fun q => q) (rec y0 y1 y2 y3 s)) (x1 : Int) (x2 : Int) (x3 : Int) (x4 : Int) (z1 : Int) (z2 : Int) (s : vS) : PR (W_l_X14_checkBounds_92) s (fun q => q) (j_X14_checkBounds_200 rec x1 x2 x3 x4 z1 z2 s) := by
  unfold j_X14_checkBounds_200
  have Hs : Fr (W_l_X14_checkBounds_92) s s := Fr.rfl
  refine PR.gd ?_
  refine PR.stp (Fr.wE Hs (by decide +kernel)) (fun s2 Hs2 => ?_)
  refine PR.gd ?_
  refine PR.gd ?_
  refine PR.ite (fun _ => ?_) (fun _ => ?_)
  · exact PR.tail Hs2 (fr_j_X14_checkBounds_223 rec hrec x1 x2 x3 x4 (gE s2 126 x4) 0 s2)
  · exact PR.tail Hs2 (fr_j_X14_checkBounds_223 rec hrec x1 x2 x3 x4 (gE s2 126 x4) 1 s2)
theorem fr_l_X14_checkBounds_92 : ∀ (n : Nat) (x1 : Int) (x2 : Int) (x3 : Int) (x4 : Int) (s : vS), PR (W_l_X14_checkBounds_92) s (fun q => q) (l_X14_checkBounds_92 n x1 x2 x3 x4 s)
  := by
  intro n
  induction n with
  | zero => intro x1 x2 x3 x4 s; exact PR.none
  | succ n ih =>
    intro x1 x2 x3 x4 s
    unfold l_X14_checkBounds_92
    have Hs : Fr (W_l_X14_checkBounds_92) s s := Fr.rfl
    refine PR.gd ?_
    refine PR.gd ?_
    refine PR.ite (fun _ => ?_) (fun _ => ?_)
    · exact PR.some Hs
    · refine PR.gd ?_
      refine PR.gd ?_
      refine PR.gd ?_
      refine PR.bd (PR.call Hs (fr_f_X14_boundOf x1 (gE s 126 x4) (gZ s 127 x4) (gZ s 122 x3) s) (by decide +kernel)) (fun r10 s7 Hs7 => ?_)
      refine PR.gd ?_
      refine PR.gd ?_
      refine PR.stp (Fr.wE Hs7 (by decide +kernel)) (fun s14 Hs14 => ?_)
      refine PR.gd ?_
      refine PR.gd ?_
      refine PR.ite (fun _ => ?_) (fun _ => ?_)
      · refine PR.gd ?_
        exact PR.tail Hs14 (fr_j_X14_checkBounds_200 (l_X14_checkBounds_92 n) ih x1 x2 x3 x4 x4 (gE s14 130 x4) s14)
      · refine PR.gd ?_
        refine PR.gd ?_
        refine PR.gd ?_
        refine PR.bd (PR.call Hs14 (fr_f_X14_boundOf x1 (gE s14 128 x4) (gZ s14 129 x4) (gZ s14 122 x3) s14) (by decide +kernel)) (fun r25 s22 Hs22 => ?_)
        refine PR.gd ?_
        exact PR.tail Hs22 (fr_j_X14_checkBounds_200 (l_X14_checkBounds_92 n) ih x1 x2 x3 x4 x4 r25 s22)
def W_l_X14_checkBounds_41 : List Nat := [87084, 87085, 87094, 130999, 131999, 147998, 147999, 148998, 148999, 149998, 149999, 150999, 151999, 152998, 152999]
theorem fr_j_X14_checkBounds_69 (rec : Int → Int → Int → vS → Option (vS)) (hrec : ∀ (y0 : Int) (y1 : Int) (y2 : Int) (s : vS), PR (W_l_X14_checkBounds_41) s (fun q => q) (rec y0 y1 y2 s)) (x1 : Int) (x2 : Int) (x3 : Int) (s : vS) : PR (W_l_X14_checkBounds_41) s (fun q => q) (j_X14_checkBounds_69 rec x1 x2 x3 s) := by
  unfold j_X14_checkBounds_69
  have Hs : Fr (W_l_X14_checkBounds_41) s s := Fr.rfl
  refine PR.gd ?_
  refine PR.gd ?_
  refine PR.bdv (PR.call Hs (fr_f_X14_first (gE s 95 (gE s 121 x3)) s) (by decide +kernel)) (fun s3 Hs3 => ?_)
  refine PR.gd ?_
  refine PR.vl (fun y7 => ?_)
  refine PR.lq_0 (PR.call Hs3 (fr_l_X14_checkBounds_92 FU x1 x2 x3 y7 s3) (by decide +kernel)) (fun s10 Hs10 => ?_)
  refine PR.gd ?_
  refine PR.vl (fun y13 => ?_)
  exact PR.tail Hs10 (hrec x1 x2 y13 s10)
theorem fr_l_X14_checkBounds_41 : ∀ (n : Nat) (x1 : Int) (x2 : Int) (x3 : Int) (s : vS), PR (W_l_X14_checkBounds_41) s (fun q => q) (l_X14_checkBounds_41 n x1 x2 x3 s)
  := by
  intro n
  induction n with
  | zero => intro x1 x2 x3 s; exact PR.none
  | succ n ih =>
    intro x1 x2 x3 s
    unfold l_X14_checkBounds_41
    have Hs : Fr (W_l_X14_checkBounds_41) s s := Fr.rfl
    refine PR.ite (fun _ => ?_) (fun _ => ?_)
    · exact PR.some Hs
    · refine PR.gd ?_
      refine PR.ite (fun _ => ?_) (fun _ => ?_)
      · refine PR.ite (fun _ => ?_) (fun _ => ?_)
        · refine PR.gd ?_
          refine PR.vl (fun y6 => ?_)
          refine PR.lq_0 (PR.call Hs (fr_l_X14_checkBounds_92 FU x1 x2 x3 y6 s) (by decide +kernel)) (fun s9 Hs9 => ?_)
          refine PR.gd ?_
          refine PR.vl (fun y12 => ?_)
          exact PR.tail Hs9 (ih x1 x2 y12 s9)
        · exact PR.tail Hs (fr_j_X14_checkBounds_69 (l_X14_checkBounds_41 n) ih x1 x2 x3 s)
      · refine PR.bd (PR.pure Hs (fr_f_X14_hasSizes x2 s)) (fun r18 s15 Hs15 => ?_)
        refine PR.ite (fun _ => ?_) (fun _ => ?_)
        · exact PR.tail Hs15 (fr_j_X14_checkBounds_69 (l_X14_checkBounds_41 n) ih x1 x2 x3 s15)
        · refine PR.gd ?_
          refine PR.vl (fun y22 => ?_)
          refine PR.lq_0 (PR.call Hs15 (fr_l_X14_checkBounds_92 FU x1 x2 x3 y22 s15) (by decide +kernel)) (fun s25 Hs25 => ?_)
          refine PR.gd ?_
          refine PR.vl (fun y28 => ?_)
          exact PR.tail Hs25 (ih x1 x2 y28 s25)
def W_l_X14_checkBounds_2 : List Nat := [87084, 87085, 87094, 130999, 131999, 147998, 147999, 148998, 148999, 149998, 149999, 150999, 151999, 152998, 152999]
theorem fr_j_X14_checkBounds_33 (rec : Int → vS → Option (vS)) (hrec : ∀ (y0 : Int) (s : vS), PR (W_l_X14_checkBounds_2) s (fun q => q) (rec y0 s)) (x1 : Int) (z0 : Int) (s : vS) : PR (W_l_X14_checkBounds_2) s (fun q => q) (j_X14_checkBounds_33 rec x1 z0 s) := by
  unfold j_X14_checkBounds_33
  have Hs : Fr (W_l_X14_checkBounds_2) s s := Fr.rfl
  refine PR.gd ?_
  refine PR.vl (fun y2 => ?_)
  refine PR.lq_0 (PR.call Hs (fr_l_X14_checkBounds_41 FU x1 z0 y2 s) (by decide +kernel)) (fun s5 Hs5 => ?_)
  refine PR.vl (fun y7 => ?_)
  exact PR.tail Hs5 (hrec y7 s5)
theorem fr_l_X14_checkBounds_2 : ∀ (n : Nat) (x1 : Int) (s : vS), PR (W_l_X14_checkBounds_2) s (fun q => q) (l_X14_checkBounds_2 n x1 s)
  := by
  intro n
  induction n with
  | zero => intro x1 s; exact PR.none
  | succ n ih =>
    intro x1 s
    unfold l_X14_checkBounds_2
    have Hs : Fr (W_l_X14_checkBounds_2) s s := Fr.rfl
    refine PR.ite (fun _ => ?_) (fun _ => ?_)
    · exact PR.some Hs
    · refine PR.gd ?_
      refine PR.ite (fun _ => ?_) (fun _ => ?_)
      · refine PR.bd (PR.pure Hs (fr_f_X14_root x1 s)) (fun r7 s4 Hs4 => ?_)
        refine PR.gd ?_
        refine PR.gd ?_
        exact PR.tail Hs4 (fr_j_X14_checkBounds_33 (l_X14_checkBounds_2 n) ih x1 (gE s4 97 r7) s4)
      · exact PR.tail Hs (fr_j_X14_checkBounds_33 (l_X14_checkBounds_2 n) ih x1 (-1) s)
def W_f_X14_checkBounds : List Nat := [87008, 87009, 87084, 87085, 87094, 130999, 131999, 147998, 147999, 148998, 148999, 149998, 149999, 150999, 151999, 152998, 152999]
theorem fr_f_X14_checkBounds (s : vS) : PR (W_f_X14_checkBounds) s (fun q => q) (f_X14_checkBounds s) := by
  unfold f_X14_checkBounds
  have Hs : Fr (W_f_X14_checkBounds) s s := Fr.rfl
  refine PR.lq_0 (PR.call Hs (fr_l_X14_checkBounds_2 FU 0 s) (by decide +kernel)) (fun s1 Hs1 => ?_)
  refine PR.bdv (PR.call Hs1 (fr_f_X14_told 11 s1) (by decide +kernel)) (fun s3 Hs3 => ?_)
  exact PR.some Hs3
def W_l_X14_isIn_10 : List Nat := []
theorem fr_j_X14_isIn_118 (rec : Int → Int → Int → Int → vS → Option (Int × vS)) (hrec : ∀ (y0 : Int) (y1 : Int) (y2 : Int) (y3 : Int) (s : vS), PR (W_l_X14_isIn_10) s (fun q => q.2) (rec y0 y1 y2 y3 s)) (x1 : Int) (x2 : Int) (x4 : Int) (x5 : Int) (z0 : Int) (s : vS) : PR (W_l_X14_isIn_10) s (fun q => q.2) (j_X14_isIn_118 rec x1 x2 x4 x5 z0 s) := by
  unfold j_X14_isIn_118
  have Hs : Fr (W_l_X14_isIn_10) s s := Fr.rfl
  refine PR.ite (fun _ => ?_) (fun _ => ?_)
  · refine PR.vl (fun y2 => ?_)
    exact PR.tail Hs (hrec x1 x2 0 y2 s)
  · refine PR.ite (fun _ => ?_) (fun _ => ?_)
    · refine PR.vl (fun y6 => ?_)
      exact PR.tail Hs (hrec x1 x2 0 y6 s)
    · refine PR.vl (fun y9 => ?_)
      exact PR.tail Hs (hrec x1 x2 1 y9 s)
theorem fr_j_X14_isIn_74 (rec : Int → Int → Int → Int → vS → Option (Int × vS)) (hrec : ∀ (y0 : Int) (y1 : Int) (y2 : Int) (y3 : Int) (s : vS), PR (W_l_X14_isIn_10) s (fun q => q.2) (rec y0 y1 y2 y3 s)) (x1 : Int) (x2 : Int) (x4 : Int) (z0 : Int) (s : vS) : PR (W_l_X14_isIn_10) s (fun q => q.2) (j_X14_isIn_74 rec x1 x2 x4 z0 s) := by
  unfold j_X14_isIn_74
  have Hs : Fr (W_l_X14_isIn_10) s s := Fr.rfl
  refine PR.gd ?_
  refine PR.ite (fun _ => ?_) (fun _ => ?_)
  · exact PR.tail Hs (fr_j_X14_isIn_118 rec hrec x1 x2 x4 z0 1 s)
  · refine PR.gd ?_
    refine PR.ite (fun _ => ?_) (fun _ => ?_)
    · exact PR.tail Hs (fr_j_X14_isIn_118 rec hrec x1 x2 x4 z0 0 s)
    · refine PR.gd ?_
      refine PR.bd (PR.pure Hs (fr_f_X14_compareNumbers x2 (gE s 131 x4) s)) (fun r9 s6 Hs6 => ?_)
      refine PR.ite (fun _ => ?_) (fun _ => ?_)
      · exact PR.tail Hs6 (fr_j_X14_isIn_118 rec hrec x1 x2 x4 z0 0 s6)
      · exact PR.tail Hs6 (fr_j_X14_isIn_118 rec hrec x1 x2 x4 z0 1 s6)
theorem fr_l_X14_isIn_10 : ∀ (n : Nat) (x1 : Int) (x2 : Int) (x3 : Int) (x4 : Int) (s : vS), PR (W_l_X14_isIn_10) s (fun q => q.2) (l_X14_isIn_10 n x1 x2 x3 x4 s)
  := by
  intro n
  induction n with
  | zero => intro x1 x2 x3 x4 s; exact PR.none
  | succ n ih =>
    intro x1 x2 x3 x4 s
    unfold l_X14_isIn_10
    have Hs : Fr (W_l_X14_isIn_10) s s := Fr.rfl
    refine PR.gd ?_
    refine PR.gd ?_
    refine PR.ite (fun _ => ?_) (fun _ => ?_)
    · exact PR.some Hs
    · refine PR.ite (fun _ => ?_) (fun _ => ?_)
      · refine PR.gd ?_
        refine PR.ite (fun _ => ?_) (fun _ => ?_)
        · exact PR.tail Hs (fr_j_X14_isIn_74 (l_X14_isIn_10 n) ih x1 x2 x4 1 s)
        · refine PR.gd ?_
          refine PR.ite (fun _ => ?_) (fun _ => ?_)
          · exact PR.tail Hs (fr_j_X14_isIn_74 (l_X14_isIn_10 n) ih x1 x2 x4 0 s)
          · refine PR.gd ?_
            refine PR.bd (PR.pure Hs (fr_f_X14_compareNumbers (gE s 130 x4) x2 s)) (fun r13 s10 Hs10 => ?_)
            refine PR.ite (fun _ => ?_) (fun _ => ?_)
            · exact PR.tail Hs10 (fr_j_X14_isIn_74 (l_X14_isIn_10 n) ih x1 x2 x4 0 s10)
            · exact PR.tail Hs10 (fr_j_X14_isIn_74 (l_X14_isIn_10 n) ih x1 x2 x4 1 s10)
      · exact PR.some Hs
def W_f_X14_isIn : List Nat := []
theorem fr_f_X14_isIn (x1 : Int) (x2 : Int) (s : vS) : PR (W_f_X14_isIn) s (fun q => q.2) (f_X14_isIn x1 x2 s) := by
  unfold f_X14_isIn
  have Hs : Fr (W_f_X14_isIn) s s := Fr.rfl
  refine PR.gd ?_
  refine PR.vl (fun y2 => ?_)
  refine PR.lq_1 (PR.pure Hs (fr_l_X14_isIn_10 FU x1 x2 0 y2 s)) (fun y5 s6 Hs6 => ?_)
  refine PR.gd ?_
  exact PR.some Hs6
def W_l_X14_holds_25 : List Nat := []
theorem fr_l_X14_holds_25 : ∀ (n : Nat) (x2 : Int) (x3 : Int) (x4 : Int) (x5 : Int) (x6 : Int) (s : vS), PR (W_l_X14_holds_25) s (fun q => q.2) (l_X14_holds_25 n x2 x3 x4 x5 x6 s)
  := by
  intro n
  induction n with
  | zero => intro x2 x3 x4 x5 x6 s; exact PR.none
  | succ n ih =>
    intro x2 x3 x4 x5 x6 s
    unfold l_X14_holds_25
    have Hs : Fr (W_l_X14_holds_25) s s := Fr.rfl
    refine PR.ite (fun _ => ?_) (fun _ => ?_)
    · exact PR.some Hs
    · refine PR.ite (fun _ => ?_) (fun _ => ?_)
      · exact PR.some Hs
      · refine PR.gd ?_
        refine PR.ite (fun _ => ?_) (fun _ => ?_)
        · refine PR.bd (PR.pure Hs (fr_f_X14_isIn x6 x2 s)) (fun r12 s9 Hs9 => ?_)
          refine PR.gd ?_
          refine PR.vl (fun y15 => ?_)
          exact PR.tail Hs9 (ih x2 x3 x4 r12 y15 s9)
        · refine PR.gd ?_
          refine PR.vl (fun y6 => ?_)
          exact PR.tail Hs (ih x2 x3 x4 x5 y6 s)
def W_l_X14_holds_6 : List Nat := []
theorem fr_j_X14_holds_67 (rec : Int → Int → Int → Int → vS → Option (Int × vS)) (hrec : ∀ (y0 : Int) (y1 : Int) (y2 : Int) (y3 : Int) (s : vS), PR (W_l_X14_holds_6) s (fun q => q.2) (rec y0 y1 y2 y3 s)) (x2 : Int) (x3 : Int) (x4 : Int) (x5 : Int) (s : vS) : PR (W_l_X14_holds_6) s (fun q => q.2) (j_X14_holds_67 rec x2 x3 x4 x5 s) := by
  unfold j_X14_holds_67
  have Hs : Fr (W_l_X14_holds_6) s s := Fr.rfl
  refine PR.gd ?_
  refine PR.ite (fun _ => ?_) (fun _ => ?_)
  · refine PR.gd ?_
    refine PR.gd ?_
    refine PR.vl (fun y5 => ?_)
    exact PR.tail Hs (hrec x2 x3 y5 x5 s)
  · exact PR.tail Hs (hrec x2 x3 (-1) x5 s)
theorem fr_l_X14_holds_6 : ∀ (n : Nat) (x2 : Int) (x3 : Int) (x4 : Int) (x5 : Int) (s : vS), PR (W_l_X14_holds_6) s (fun q => q.2) (l_X14_holds_6 n x2 x3 x4 x5 s)
  := by
  intro n
  induction n with
  | zero => intro x2 x3 x4 x5 s; exact PR.none
  | succ n ih =>
    intro x2 x3 x4 x5 s
    unfold l_X14_holds_6
    have Hs : Fr (W_l_X14_holds_6) s s := Fr.rfl
    refine PR.ite (fun _ => ?_) (fun _ => ?_)
    · exact PR.some Hs
    · refine PR.ite (fun _ => ?_) (fun _ => ?_)
      · exact PR.some Hs
      · refine PR.gd ?_
        refine PR.vl (fun y4 => ?_)
        refine PR.lq_1 (PR.pure Hs (fr_l_X14_holds_25 FU x2 x3 x4 x5 y4 s)) (fun y7 s8 Hs8 => ?_)
        exact PR.tail Hs8 (fr_j_X14_holds_67 (l_X14_holds_6 n) ih x2 x3 x4 y7 s8)
def W_f_X14_holds : List Nat := []
theorem fr_f_X14_holds (x1 : Int) (x2 : Int) (x3 : Int) (s : vS) : PR (W_f_X14_holds) s (fun q => q.2) (f_X14_holds x1 x2 x3 s) := by
  unfold f_X14_holds
  have Hs : Fr (W_f_X14_holds) s s := Fr.rfl
  refine PR.lq_1 (PR.pure Hs (fr_l_X14_holds_6 FU x2 x3 x1 1 s)) (fun y1 s2 Hs2 => ?_)
  refine PR.gd ?_
  exact PR.some Hs2
def W_l_X14_hasLimits_4 : List Nat := []
theorem fr_j_X14_hasLimits_26 (rec : Int → Int → vS → Option (Int × vS)) (hrec : ∀ (y0 : Int) (y1 : Int) (s : vS), PR (W_l_X14_hasLimits_4) s (fun q => q.2) (rec y0 y1 s)) (x2 : Int) (z0 : Int) (s : vS) : PR (W_l_X14_hasLimits_4) s (fun q => q.2) (j_X14_hasLimits_26 rec x2 z0 s) := by
  unfold j_X14_hasLimits_26
  have Hs : Fr (W_l_X14_hasLimits_4) s s := Fr.rfl
  refine PR.gd ?_
  refine PR.ite (fun _ => ?_) (fun _ => ?_)
  · refine PR.gd ?_
    refine PR.gd ?_
    refine PR.vl (fun y5 => ?_)
    exact PR.tail Hs (hrec y5 z0 s)
  · exact PR.tail Hs (hrec (-1) z0 s)
theorem fr_l_X14_hasLimits_4 : ∀ (n : Nat) (x2 : Int) (x3 : Int) (s : vS), PR (W_l_X14_hasLimits_4) s (fun q => q.2) (l_X14_hasLimits_4 n x2 x3 s)
  := by
  intro n
  induction n with
  | zero => intro x2 x3 s; exact PR.none
  | succ n ih =>
    intro x2 x3 s
    unfold l_X14_hasLimits_4
    have Hs : Fr (W_l_X14_hasLimits_4) s s := Fr.rfl
    refine PR.ite (fun _ => ?_) (fun _ => ?_)
    · exact PR.some Hs
    · refine PR.ite (fun _ => ?_) (fun _ => ?_)
      · refine PR.gd ?_
        refine PR.ite (fun _ => ?_) (fun _ => ?_)
        · exact PR.tail Hs (fr_j_X14_hasLimits_26 (l_X14_hasLimits_4 n) ih x2 0 s)
        · exact PR.tail Hs (fr_j_X14_hasLimits_26 (l_X14_hasLimits_4 n) ih x2 1 s)
      · exact PR.some Hs
def W_f_X14_hasLimits : List Nat := []
theorem fr_f_X14_hasLimits (x1 : Int) (s : vS) : PR (W_f_X14_hasLimits) s (fun q => q.2) (f_X14_hasLimits x1 s) := by
  unfold f_X14_hasLimits
  have Hs : Fr (W_f_X14_hasLimits) s s := Fr.rfl
  refine PR.lq_1 (PR.pure Hs (fr_l_X14_hasLimits_4 FU x1 0 s)) (fun y1 s2 Hs2 => ?_)
  refine PR.gd ?_
  exact PR.some Hs2
def W_f_X14_holdsSize : List Nat := [87084, 87085, 147998, 147999, 148998, 148999, 149998, 149999]
theorem fr_f_X14_holdsSize (x1 : Int) (x2 : Int) (s : vS) : PR (W_f_X14_holdsSize) s (fun q => q.2) (f_X14_holdsSize x1 x2 s) := by
  unfold f_X14_holdsSize
  have Hs : Fr (W_f_X14_holdsSize) s s := Fr.rfl
  refine PR.bd (PR.pure Hs (fr_f_X14_hasLimits x1 s)) (fun r4 s1 Hs1 => ?_)
  refine PR.ite (fun _ => ?_) (fun _ => ?_)
  · exact PR.some Hs1
  · refine PR.vl (fun y7 => ?_)
    refine PR.vl (fun y10 => ?_)
    refine PR.bd (PR.call Hs1 (fr_f_X14_smallNumber x2 s1) (by decide +kernel)) (fun r16 s13 Hs13 => ?_)
    refine PR.bd (PR.pure Hs13 (fr_f_X14_holds x1 r16 1 s13)) (fun r21 s18 Hs18 => ?_)
    refine PR.stp (Fr.wI Hs18 (by decide +kernel)) (fun s23 Hs23 => ?_)
    refine PR.stp (Fr.wI Hs23 (by decide +kernel)) (fun s25 Hs25 => ?_)
    refine PR.gd ?_
    exact PR.some Hs25
def W_l_X14_hasSizeLimits_20 : List Nat := []
theorem fr_l_X14_hasSizeLimits_20 : ∀ (n : Nat) (x2 : Int) (x3 : Int) (x4 : Int) (s : vS), PR (W_l_X14_hasSizeLimits_20) s (fun q => q.2) (l_X14_hasSizeLimits_20 n x2 x3 x4 s)
  := by
  intro n
  induction n with
  | zero => intro x2 x3 x4 s; exact PR.none
  | succ n ih =>
    intro x2 x3 x4 s
    unfold l_X14_hasSizeLimits_20
    have Hs : Fr (W_l_X14_hasSizeLimits_20) s s := Fr.rfl
    refine PR.ite (fun _ => ?_) (fun _ => ?_)
    · exact PR.some Hs
    · refine PR.ite (fun _ => ?_) (fun _ => ?_)
      · refine PR.gd ?_
        refine PR.ite (fun _ => ?_) (fun _ => ?_)
        · refine PR.gd ?_
          refine PR.vl (fun y10 => ?_)
          exact PR.tail Hs (ih x2 0 y10 s)
        · refine PR.gd ?_
          refine PR.vl (fun y14 => ?_)
          exact PR.tail Hs (ih x2 1 y14 s)
      · refine PR.gd ?_
        refine PR.vl (fun y4 => ?_)
        exact PR.tail Hs (ih x2 1 y4 s)
def W_l_X14_hasSizeLimits_4 : List Nat := []
theorem fr_l_X14_hasSizeLimits_4 : ∀ (n : Nat) (x2 : Int) (x3 : Int) (s : vS), PR (W_l_X14_hasSizeLimits_4) s (fun q => q.2) (l_X14_hasSizeLimits_4 n x2 x3 s)
  := by
  intro n
  induction n with
  | zero => intro x2 x3 s; exact PR.none
  | succ n ih =>
    intro x2 x3 s
    unfold l_X14_hasSizeLimits_4
    have Hs : Fr (W_l_X14_hasSizeLimits_4) s s := Fr.rfl
    refine PR.ite (fun _ => ?_) (fun _ => ?_)
    · exact PR.some Hs
    · refine PR.ite (fun _ => ?_) (fun _ => ?_)
      · refine PR.gd ?_
        refine PR.vl (fun y4 => ?_)
        refine PR.lq_1 (PR.pure Hs (fr_l_X14_hasSizeLimits_20 FU x2 x3 y4 s)) (fun y7 s8 Hs8 => ?_)
        refine PR.gd ?_
        refine PR.ite (fun _ => ?_) (fun _ => ?_)
        · refine PR.gd ?_
          refine PR.gd ?_
          refine PR.vl (fun y15 => ?_)
          exact PR.tail Hs8 (ih y15 y7 s8)
        · exact PR.tail Hs8 (ih (-1) y7 s8)
      · exact PR.some Hs
def W_f_X14_hasSizeLimits : List Nat := []
theorem fr_f_X14_hasSizeLimits (x1 : Int) (s : vS) : PR (W_f_X14_hasSizeLimits) s (fun q => q.2) (f_X14_hasSizeLimits x1 s) := by
  unfold f_X14_hasSizeLimits
  have Hs : Fr (W_f_X14_hasSizeLimits) s s := Fr.rfl
  refine PR.lq_1 (PR.pure Hs (fr_l_X14_hasSizeLimits_4 FU x1 0 s)) (fun y1 s2 Hs2 => ?_)
  refine PR.gd ?_
  exact PR.some Hs2
def W_j_X14_say_29 : List Nat := [87105, 161999]
theorem fr_j_X14_say_29 (x1 : Int) (s : vS) : PR (W_j_X14_say_29) s (fun q => q) (j_X14_say_29 x1 s) := by
  unfold j_X14_say_29
  have Hs : Fr (W_j_X14_say_29) s s := Fr.rfl
  refine PR.gd ?_
  refine PR.stp (Fr.wE Hs (by decide +kernel)) (fun s2 Hs2 => ?_)
  refine PR.stp (Fr.wI Hs2 (by decide +kernel)) (fun s4 Hs4 => ?_)
  exact PR.some Hs4
def W_f_X14_say : List Nat := [87105, 161998, 161999]
theorem fr_f_X14_say (x1 : Int) (s : vS) : PR (W_f_X14_say) s (fun q => q) (f_X14_say x1 s) := by
  unfold f_X14_say
  have Hs : Fr (W_f_X14_say) s s := Fr.rfl
  refine PR.ite (fun _ => ?_) (fun _ => ?_)
  · refine PR.bdv (PR.pure Hs (fr_f_X14_longer 161 (w32 (2 * (gI s 87 105))) s)) (fun s2 Hs2 => ?_)
    refine PR.gd ?_
    refine PR.stp (Fr.wswT Hs2 (by decide) (by decide +kernel) (by decide +kernel)) (fun s6 Hs6 => ?_)
    refine PR.stp (Fr.wrs Hs6) (fun s8 Hs8 => ?_)
    exact PR.call Hs8 (fr_j_X14_say_29 x1 s8) (by decide +kernel)
  · exact PR.call Hs (fr_j_X14_say_29 x1 s) (by decide +kernel)
def W_j_X14_sayBit_29 : List Nat := [87107, 162999]
theorem fr_j_X14_sayBit_29 (x1 : Int) (s : vS) : PR (W_j_X14_sayBit_29) s (fun q => q) (j_X14_sayBit_29 x1 s) := by
  unfold j_X14_sayBit_29
  have Hs : Fr (W_j_X14_sayBit_29) s s := Fr.rfl
  refine PR.gd ?_
  refine PR.stp (Fr.wE Hs (by decide +kernel)) (fun s2 Hs2 => ?_)
  refine PR.stp (Fr.wI Hs2 (by decide +kernel)) (fun s4 Hs4 => ?_)
  exact PR.some Hs4
def W_f_X14_sayBit : List Nat := [87107, 162998, 162999]
theorem fr_f_X14_sayBit (x1 : Int) (s : vS) : PR (W_f_X14_sayBit) s (fun q => q) (f_X14_sayBit x1 s) := by
  unfold f_X14_sayBit
  have Hs : Fr (W_f_X14_sayBit) s s := Fr.rfl
  refine PR.ite (fun _ => ?_) (fun _ => ?_)
  · refine PR.bdv (PR.pure Hs (fr_f_X14_longer 162 (w32 (2 * (gI s 87 107))) s)) (fun s2 Hs2 => ?_)
    refine PR.gd ?_
    refine PR.stp (Fr.wswT Hs2 (by decide) (by decide +kernel) (by decide +kernel)) (fun s6 Hs6 => ?_)
    refine PR.stp (Fr.wrs Hs6) (fun s8 Hs8 => ?_)
    exact PR.call Hs8 (fr_j_X14_sayBit_29 x1 s8) (by decide +kernel)
  · exact PR.call Hs (fr_j_X14_sayBit_29 x1 s) (by decide +kernel)
def W_l_X14_sayNumber_2 : List Nat := [87105, 161998, 161999]
theorem fr_l_X14_sayNumber_2 : ∀ (n : Nat) (x1 : Int) (x2 : Int) (s : vS), PR (W_l_X14_sayNumber_2) s (fun q => q) (l_X14_sayNumber_2 n x1 x2 s)
  := by
  intro n
  induction n with
  | zero => intro x1 x2 s; exact PR.none
  | succ n ih =>
    intro x1 x2 s
    unfold l_X14_sayNumber_2
    have Hs : Fr (W_l_X14_sayNumber_2) s s := Fr.rfl
    refine PR.gd ?_
    refine PR.ite (fun _ => ?_) (fun _ => ?_)
    · exact PR.some Hs
    · refine PR.gd ?_
      refine PR.gd ?_
      refine PR.bdv (PR.call Hs (fr_f_X14_say (gE s 149 (w32 ((gE s 147 x1) + x2))) s) (by decide +kernel)) (fun s5 Hs5 => ?_)
      refine PR.vl (fun y8 => ?_)
      exact PR.tail Hs5 (ih x1 y8 s5)
def W_f_X14_sayNumber : List Nat := [87105, 161998, 161999]
theorem fr_f_X14_sayNumber (x1 : Int) (s : vS) : PR (W_f_X14_sayNumber) s (fun q => q) (f_X14_sayNumber x1 s) := by
  unfold f_X14_sayNumber
  have Hs : Fr (W_f_X14_sayNumber) s s := Fr.rfl
  refine PR.lq_0 (PR.call Hs (fr_l_X14_sayNumber_2 FU x1 0 s) (by decide +kernel)) (fun s1 Hs1 => ?_)
  exact PR.some Hs1
def W_l_X14_pieceNumber_15 : List Nat := [87085, 149999]
theorem fr_l_X14_pieceNumber_15 : ∀ (n : Nat) (x1 : Int) (x2 : Int) (s : vS), PR (W_l_X14_pieceNumber_15) s (fun q => q) (l_X14_pieceNumber_15 n x1 x2 s)
  := by
  intro n
  induction n with
  | zero => intro x1 x2 s; exact PR.none
  | succ n ih =>
    intro x1 x2 s
    unfold l_X14_pieceNumber_15
    have Hs : Fr (W_l_X14_pieceNumber_15) s s := Fr.rfl
    refine PR.ite (fun _ => ?_) (fun _ => ?_)
    · exact PR.some Hs
    · refine PR.gd ?_
      refine PR.gd ?_
      refine PR.stp (Fr.wE Hs (by decide +kernel)) (fun s4 Hs4 => ?_)
      refine PR.stp (Fr.wI Hs4 (by decide +kernel)) (fun s6 Hs6 => ?_)
      refine PR.vl (fun y8 => ?_)
      exact PR.tail Hs6 (ih x1 y8 s6)
def W_f_X14_pieceNumber : List Nat := [87084, 87085, 147998, 147999, 148998, 148999, 149998, 149999]
theorem fr_f_X14_pieceNumber (s : vS) : PR (W_f_X14_pieceNumber) s (fun q => q.2) (f_X14_pieceNumber s) := by
  unfold f_X14_pieceNumber
  have Hs : Fr (W_f_X14_pieceNumber) s s := Fr.rfl
  refine PR.bdv (PR.call Hs (fr_f_X14_roomForBytes (gI s 87 105) s) (by decide +kernel)) (fun s1 Hs1 => ?_)
  refine PR.vl (fun y4 => ?_)
  refine PR.lq_0 (PR.call Hs1 (fr_l_X14_pieceNumber_15 FU y4 0 s1) (by decide +kernel)) (fun s7 Hs7 => ?_)
  refine PR.bd (PR.call Hs7 (fr_f_X14_keepNumber y4 s7) (by decide +kernel)) (fun r12 s9 Hs9 => ?_)
  exact PR.some Hs9
def W_j_X14_leastSize_103 : List Nat := []
theorem fr_j_X14_leastSize_103 (x2 : Int) (s : vS) : PR (W_j_X14_leastSize_103) s (fun q => q.2) (j_X14_leastSize_103 x2 s) := by
  unfold j_X14_leastSize_103
  have Hs : Fr (W_j_X14_leastSize_103) s s := Fr.rfl
  refine PR.gd ?_
  refine PR.ite (fun _ => ?_) (fun _ => ?_)
  · refine PR.gd ?_
    exact PR.some Hs
  · exact PR.some Hs
def W_l_X14_leastSize_63 : List Nat := [87084, 87085, 147998, 147999, 148998, 148999, 149998, 149999]
theorem fr_l_X14_leastSize_63 : ∀ (n : Nat) (x1 : Int) (x2 : Int) (x3 : Int) (s : vS), PR (W_l_X14_leastSize_63) s (fun q => q.2) (l_X14_leastSize_63 n x1 x2 x3 s)
  := by
  intro n
  induction n with
  | zero => intro x1 x2 x3 s; exact PR.none
  | succ n ih =>
    intro x1 x2 x3 s
    unfold l_X14_leastSize_63
    have Hs : Fr (W_l_X14_leastSize_63) s s := Fr.rfl
    refine PR.ite (fun _ => ?_) (fun _ => ?_)
    · exact PR.some Hs
    · refine PR.bd (PR.call Hs (fr_f_X14_holdsSize x1 x3 s) (by decide +kernel)) (fun r5 s2 Hs2 => ?_)
      refine PR.ite (fun _ => ?_) (fun _ => ?_)
      · refine PR.vl (fun y8 => ?_)
        exact PR.tail Hs2 (ih x1 x2 y8 s2)
      · exact PR.some Hs2
def W_j_X14_leastSize_84 : List Nat := [169999]
theorem fr_j_X14_leastSize_84 (x2 : Int) (x3 : Int) (s : vS) : PR (W_j_X14_leastSize_84) s (fun q => q.2) (j_X14_leastSize_84 x2 x3 s) := by
  unfold j_X14_leastSize_84
  have Hs : Fr (W_j_X14_leastSize_84) s s := Fr.rfl
  refine PR.ite (fun _ => ?_) (fun _ => ?_)
  · refine PR.gd ?_
    refine PR.stp (Fr.wE Hs (by decide +kernel)) (fun s3 Hs3 => ?_)
    exact PR.pure Hs3 (fr_j_X14_leastSize_103 x2 s3)
  · refine PR.gd ?_
    refine PR.stp (Fr.wE Hs (by decide +kernel)) (fun s6 Hs6 => ?_)
    exact PR.pure Hs6 (fr_j_X14_leastSize_103 x2 s6)
def W_j_X14_leastSize_52 : List Nat := [87084, 87085, 147998, 147999, 148998, 148999, 149998, 149999, 169999]
theorem fr_j_X14_leastSize_52 (x1 : Int) (x2 : Int) (s : vS) : PR (W_j_X14_leastSize_52) s (fun q => q.2) (j_X14_leastSize_52 x1 x2 s) := by
  unfold j_X14_leastSize_52
  have Hs : Fr (W_j_X14_leastSize_52) s s := Fr.rfl
  refine PR.gd ?_
  refine PR.ite (fun _ => ?_) (fun _ => ?_)
  · refine PR.lq_1 (PR.call Hs (fr_l_X14_leastSize_63 FU x1 x2 x2 s) (by decide +kernel)) (fun y3 s4 Hs4 => ?_)
    exact PR.call Hs4 (fr_j_X14_leastSize_84 x2 y3 s4) (by decide +kernel)
  · exact PR.pure Hs (fr_j_X14_leastSize_103 x2 s)
def W_l_X14_leastSize_33 : List Nat := [169999]
theorem fr_l_X14_leastSize_33 : ∀ (n : Nat) (x1 : Int) (x2 : Int) (x3 : Int) (s : vS), PR (W_l_X14_leastSize_33) s (fun q => q) (l_X14_leastSize_33 n x1 x2 x3 s)
  := by
  intro n
  induction n with
  | zero => intro x1 x2 x3 s; exact PR.none
  | succ n ih =>
    intro x1 x2 x3 s
    unfold l_X14_leastSize_33
    have Hs : Fr (W_l_X14_leastSize_33) s s := Fr.rfl
    refine PR.ite (fun _ => ?_) (fun _ => ?_)
    · exact PR.some Hs
    · refine PR.gd ?_
      refine PR.stp (Fr.wE Hs (by decide +kernel)) (fun s3 Hs3 => ?_)
      refine PR.vl (fun y5 => ?_)
      exact PR.tail Hs3 (ih x1 x2 y5 s3)
def W_f_X14_leastSize : List Nat := [87084, 87085, 87116, 147998, 147999, 148998, 148999, 149998, 149999, 169999]
theorem fr_f_X14_leastSize (x1 : Int) (x2 : Int) (s : vS) : PR (W_f_X14_leastSize) s (fun q => q.2) (f_X14_leastSize x1 x2 s) := by
  unfold f_X14_leastSize
  have Hs : Fr (W_f_X14_leastSize) s s := Fr.rfl
  refine PR.bd (PR.pure Hs (fr_f_X14_hasSizeLimits x1 s)) (fun r4 s1 Hs1 => ?_)
  refine PR.ite (fun _ => ?_) (fun _ => ?_)
  · exact PR.some Hs1
  · refine PR.ite (fun _ => ?_) (fun _ => ?_)
    · refine PR.ite (fun _ => ?_) (fun _ => ?_)
      · exact PR.call Hs1 (fr_j_X14_leastSize_52 x1 x2 s1) (by decide +kernel)
      · refine PR.stp (Fr.wI Hs1 (by decide +kernel)) (fun s9 Hs9 => ?_)
        refine PR.lq_0 (PR.call Hs9 (fr_l_X14_leastSize_33 FU x1 x2 0 s9) (by decide +kernel)) (fun s11 Hs11 => ?_)
        exact PR.call Hs11 (fr_j_X14_leastSize_52 x1 x2 s11) (by decide +kernel)
    · exact PR.some Hs1
def W_l_X14_writeBits_143 : List Nat := []
theorem fr_l_X14_writeBits_143 : ∀ (n : Nat) (x3 : Int) (x4 : Int) (x5 : Int) (x6 : Int) (s : vS), PR (W_l_X14_writeBits_143) s (fun q => q.2) (l_X14_writeBits_143 n x3 x4 x5 x6 s)
  := by
  intro n
  induction n with
  | zero => intro x3 x4 x5 x6 s; exact PR.none
  | succ n ih =>
    intro x3 x4 x5 x6 s
    unfold l_X14_writeBits_143
    have Hs : Fr (W_l_X14_writeBits_143) s s := Fr.rfl
    refine PR.ite (fun _ => ?_) (fun _ => ?_)
    · exact PR.some Hs
    · refine PR.ite (fun _ => ?_) (fun _ => ?_)
      · refine PR.vl (fun y3 => ?_)
        refine PR.vl (fun y6 => ?_)
        exact PR.tail Hs (ih x3 x4 y3 y6 s)
      · refine PR.gd ?_
        refine PR.vl (fun y10 => ?_)
        refine PR.vl (fun y13 => ?_)
        exact PR.tail Hs (ih x3 x4 y10 y13 s)
def W_l_X14_writeBits_128 : List Nat := [87105, 161998, 161999]
theorem fr_l_X14_writeBits_128 : ∀ (n : Nat) (x3 : Int) (x4 : Int) (s : vS), PR (W_l_X14_writeBits_128) s (fun q => q) (l_X14_writeBits_128 n x3 x4 s)
  := by
  intro n
  induction n with
  | zero => intro x3 x4 s; exact PR.none
  | succ n ih =>
    intro x3 x4 s
    unfold l_X14_writeBits_128
    have Hs : Fr (W_l_X14_writeBits_128) s s := Fr.rfl
    refine PR.ite (fun _ => ?_) (fun _ => ?_)
    · exact PR.some Hs
    · refine PR.lq_1 (PR.pure Hs (fr_l_X14_writeBits_143 FU x3 x4 0 0 s)) (fun y2 s3 Hs3 => ?_)
      refine PR.bdv (PR.call Hs3 (fr_f_X14_say y2 s3) (by decide +kernel)) (fun s6 Hs6 => ?_)
      refine PR.vl (fun y9 => ?_)
      exact PR.tail Hs6 (ih x3 y9 s6)
def W_j_X14_writeBits_103 : List Nat := [87105, 161998, 161999]
theorem fr_j_X14_writeBits_103 (x3 : Int) (s : vS) : PR (W_j_X14_writeBits_103) s (fun q => q.2) (j_X14_writeBits_103 x3 s) := by
  unfold j_X14_writeBits_103
  have Hs : Fr (W_j_X14_writeBits_103) s s := Fr.rfl
  refine PR.stp (Fr.wI Hs (by decide +kernel)) (fun s1 Hs1 => ?_)
  refine PR.bdv (PR.call Hs1 (fr_f_X14_say (m32 (w32 (8 - (m32 (gI s1 87 107) 8))) 8) s1) (by decide +kernel)) (fun s3 Hs3 => ?_)
  refine PR.lq_0 (PR.call Hs3 (fr_l_X14_writeBits_128 FU x3 0 s3) (by decide +kernel)) (fun s6 Hs6 => ?_)
  refine PR.gd ?_
  exact PR.some Hs6
def W_l_X14_writeBits_17 : List Nat := [87107]
theorem fr_l_X14_writeBits_17 : ∀ (n : Nat) (x1 : Int) (s : vS), PR (W_l_X14_writeBits_17) s (fun q => q) (l_X14_writeBits_17 n x1 s)
  := by
  intro n
  induction n with
  | zero => intro x1 s; exact PR.none
  | succ n ih =>
    intro x1 s
    unfold l_X14_writeBits_17
    have Hs : Fr (W_l_X14_writeBits_17) s s := Fr.rfl
    refine PR.ite (fun _ => ?_) (fun _ => ?_)
    · exact PR.some Hs
    · refine PR.gd ?_
      refine PR.ite (fun _ => ?_) (fun _ => ?_)
      · refine PR.stp (Fr.wI Hs (by decide +kernel)) (fun s4 Hs4 => ?_)
        exact PR.tail Hs4 (ih x1 s4)
      · exact PR.some Hs
def W_l_X14_writeBits_73 : List Nat := [87107, 162998, 162999]
theorem fr_l_X14_writeBits_73 : ∀ (n : Nat) (x3 : Int) (x4 : Int) (s : vS), PR (W_l_X14_writeBits_73) s (fun q => q) (l_X14_writeBits_73 n x3 x4 s)
  := by
  intro n
  induction n with
  | zero => intro x3 x4 s; exact PR.none
  | succ n ih =>
    intro x3 x4 s
    unfold l_X14_writeBits_73
    have Hs : Fr (W_l_X14_writeBits_73) s s := Fr.rfl
    refine PR.ite (fun _ => ?_) (fun _ => ?_)
    · exact PR.some Hs
    · refine PR.bdv (PR.call Hs (fr_f_X14_sayBit 0 s) (by decide +kernel)) (fun s2 Hs2 => ?_)
      exact PR.tail Hs2 (ih x3 x4 s2)
def W_j_X14_writeBits_51 : List Nat := [87084, 87085, 87105, 87107, 87116, 147998, 147999, 148998, 148999, 149998, 149999, 161998, 161999, 162998, 162999, 169999]
theorem fr_j_X14_writeBits_51 (x1 : Int) (s : vS) : PR (W_j_X14_writeBits_51) s (fun q => q.2) (j_X14_writeBits_51 x1 s) := by
  unfold j_X14_writeBits_51
  have Hs : Fr (W_j_X14_writeBits_51) s s := Fr.rfl
  refine PR.bd (PR.call Hs (fr_f_X14_leastSize x1 (gI s 87 107) s) (by decide +kernel)) (fun r4 s1 Hs1 => ?_)
  refine PR.ite (fun _ => ?_) (fun _ => ?_)
  · refine PR.lq_0 (PR.call Hs1 (fr_l_X14_writeBits_73 FU 0 r4 s1) (by decide +kernel)) (fun s7 Hs7 => ?_)
    exact PR.call Hs7 (fr_j_X14_writeBits_103 0 s7) (by decide +kernel)
  · refine PR.lq_0 (PR.call Hs1 (fr_l_X14_writeBits_73 FU 1 r4 s1) (by decide +kernel)) (fun s9 Hs9 => ?_)
    exact PR.call Hs9 (fr_j_X14_writeBits_103 1 s9) (by decide +kernel)
def W_f_X14_writeBits : List Nat := [87084, 87085, 87105, 87107, 87116, 147998, 147999, 148998, 148999, 149998, 149999, 161998, 161999, 162998, 162999, 169999]
theorem fr_f_X14_writeBits (x1 : Int) (s : vS) : PR (W_f_X14_writeBits) s (fun q => q.2) (f_X14_writeBits x1 s) := by
  unfold f_X14_writeBits
  have Hs : Fr (W_f_X14_writeBits) s s := Fr.rfl
  refine PR.bd (PR.pure Hs (fr_f_X14_root x1 s)) (fun r4 s1 Hs1 => ?_)
  refine PR.gd ?_
  refine PR.ite (fun _ => ?_) (fun _ => ?_)
  · refine PR.bd (PR.call Hs1 (fr_f_X14_holdsSize x1 (gI s1 87 107) s1) (by decide +kernel)) (fun r11 s8 Hs8 => ?_)
    exact PR.call Hs8 (fr_j_X14_writeBits_103 r11 s8) (by decide +kernel)
  · refine PR.lq_0 (PR.call Hs1 (fr_l_X14_writeBits_17 FU x1 s1) (by decide +kernel)) (fun s13 Hs13 => ?_)
    exact PR.call Hs13 (fr_j_X14_writeBits_51 x1 s13) (by decide +kernel)
def W_f_X14_isPrintable : List Nat := []
theorem fr_f_X14_isPrintable (x0 : Int) (s : vS) : PR (W_f_X14_isPrintable) s (fun q => q.2) (f_X14_isPrintable x0 s) := by
  unfold f_X14_isPrintable
  have Hs : Fr (W_f_X14_isPrintable) s s := Fr.rfl
  refine PR.bd (PR.pure Hs (fr_f_X14_isNameChar x0 s)) (fun r4 s1 Hs1 => ?_)
  refine PR.ite (fun _ => ?_) (fun _ => ?_)
  · refine PR.ite (fun _ => ?_) (fun _ => ?_)
    · exact PR.some Hs1
    · refine PR.ite (fun _ => ?_) (fun _ => ?_)
      · exact PR.some Hs1
      · refine PR.ite (fun _ => ?_) (fun _ => ?_)
        · exact PR.some Hs1
        · refine PR.ite (fun _ => ?_) (fun _ => ?_)
          · exact PR.some Hs1
          · refine PR.bd (PR.pure Hs1 (fr_f_X14_within x0 43 47 s1)) (fun r14 s11 Hs11 => ?_)
            refine PR.ite (fun _ => ?_) (fun _ => ?_)
            · refine PR.ite (fun _ => ?_) (fun _ => ?_)
              · exact PR.some Hs11
              · refine PR.ite (fun _ => ?_) (fun _ => ?_)
                · exact PR.some Hs11
                · refine PR.ite (fun _ => ?_) (fun _ => ?_)
                  · exact PR.some Hs11
                  · exact PR.some Hs11
            · exact PR.some Hs11
  · exact PR.some Hs1
def W_l_X14_digitsAt_4 : List Nat := [87124]
theorem fr_l_X14_digitsAt_4 : ∀ (n : Nat) (x1 : Int) (x2 : Int) (x3 : Int) (s : vS), PR (W_l_X14_digitsAt_4) s (Sum.elim (fun q => q.2) (fun q => q.2)) (l_X14_digitsAt_4 n x1 x2 x3 s)
  := by
  intro n
  induction n with
  | zero => intro x1 x2 x3 s; exact PR.none
  | succ n ih =>
    intro x1 x2 x3 s
    unfold l_X14_digitsAt_4
    have Hs : Fr (W_l_X14_digitsAt_4) s s := Fr.rfl
    refine PR.ite (fun _ => ?_) (fun _ => ?_)
    · exact PR.some Hs
    · refine PR.ite (fun _ => ?_) (fun _ => ?_)
      · exact PR.some Hs
      · refine PR.gd ?_
        refine PR.bd (PR.pure Hs (fr_f_X14_isDigit (gE s 161 (gI s 87 124)) s)) (fun r7 s4 Hs4 => ?_)
        refine PR.ite (fun _ => ?_) (fun _ => ?_)
        · exact PR.some Hs4
        · refine PR.gd ?_
          refine PR.vl (fun y11 => ?_)
          refine PR.stp (Fr.wI Hs4 (by decide +kernel)) (fun s14 Hs14 => ?_)
          refine PR.vl (fun y16 => ?_)
          exact PR.tail Hs14 (ih x1 y11 y16 s14)
def W_f_X14_digitsAt : List Nat := [87124]
theorem fr_f_X14_digitsAt (x1 : Int) (s : vS) : PR (W_f_X14_digitsAt) s (fun q => q.2) (f_X14_digitsAt x1 s) := by
  unfold f_X14_digitsAt
  have Hs : Fr (W_f_X14_digitsAt) s s := Fr.rfl
  refine PR.lqs_1 (PR.call Hs (fr_l_X14_digitsAt_4 FU x1 0 0 s) (by decide +kernel)) (fun y1 s2 Hs2 => ?_) (fun q Hq => PR.some Hq)
  exact PR.some Hs2
def W_f_X14_isNextDigit : List Nat := []
theorem fr_f_X14_isNextDigit (s : vS) : PR (W_f_X14_isNextDigit) s (fun q => q.2) (f_X14_isNextDigit s) := by
  unfold f_X14_isNextDigit
  have Hs : Fr (W_f_X14_isNextDigit) s s := Fr.rfl
  refine PR.ite (fun _ => ?_) (fun _ => ?_)
  · exact PR.some Hs
  · refine PR.gd ?_
    refine PR.bd (PR.pure Hs (fr_f_X14_isDigit (gE s 161 (gI s 87 124)) s)) (fun r6 s3 Hs3 => ?_)
    refine PR.ite (fun _ => ?_) (fun _ => ?_)
    · exact PR.some Hs3
    · exact PR.some Hs3
def W_j_X14_daysOf_26 : List Nat := []
theorem fr_j_X14_daysOf_26 (x1 : Int) (z0 : Int) (s : vS) : PR (W_j_X14_daysOf_26) s (fun q => q.2) (j_X14_daysOf_26 x1 z0 s) := by
  unfold j_X14_daysOf_26
  have Hs : Fr (W_j_X14_daysOf_26) s s := Fr.rfl
  refine PR.ite (fun _ => ?_) (fun _ => ?_)
  · refine PR.ite (fun _ => ?_) (fun _ => ?_)
    · exact PR.some Hs
    · exact PR.some Hs
  · refine PR.ite (fun _ => ?_) (fun _ => ?_)
    · exact PR.some Hs
    · refine PR.ite (fun _ => ?_) (fun _ => ?_)
      · exact PR.some Hs
      · refine PR.ite (fun _ => ?_) (fun _ => ?_)
        · exact PR.some Hs
        · refine PR.ite (fun _ => ?_) (fun _ => ?_)
          · exact PR.some Hs
          · exact PR.some Hs
def W_f_X14_daysOf : List Nat := []
theorem fr_f_X14_daysOf (x0 : Int) (x1 : Int) (s : vS) : PR (W_f_X14_daysOf) s (fun q => q.2) (f_X14_daysOf x0 x1 s) := by
  unfold f_X14_daysOf
  have Hs : Fr (W_f_X14_daysOf) s s := Fr.rfl
  refine PR.ite (fun _ => ?_) (fun _ => ?_)
  · refine PR.ite (fun _ => ?_) (fun _ => ?_)
    · refine PR.ite (fun _ => ?_) (fun _ => ?_)
      · exact PR.pure Hs (fr_j_X14_daysOf_26 x1 1 s)
      · exact PR.pure Hs (fr_j_X14_daysOf_26 x1 0 s)
    · exact PR.pure Hs (fr_j_X14_daysOf_26 x1 1 s)
  · exact PR.pure Hs (fr_j_X14_daysOf_26 x1 0 s)
def W_f_X14_isDay : List Nat := []
theorem fr_f_X14_isDay (s : vS) : PR (W_f_X14_isDay) s (fun q => q.2) (f_X14_isDay s) := by
  unfold f_X14_isDay
  have Hs : Fr (W_f_X14_isDay) s s := Fr.rfl
  refine PR.bd (PR.pure Hs (fr_f_X14_within (gI s 87 119) 1 12 s)) (fun r4 s1 Hs1 => ?_)
  refine PR.ite (fun _ => ?_) (fun _ => ?_)
  · exact PR.some Hs1
  · refine PR.bd (PR.pure Hs1 (fr_f_X14_daysOf (gI s1 87 118) (gI s1 87 119) s1)) (fun r10 s7 Hs7 => ?_)
    refine PR.bd (PR.pure Hs7 (fr_f_X14_within (gI s1 87 120) 1 r10 s7)) (fun r15 s12 Hs12 => ?_)
    refine PR.ite (fun _ => ?_) (fun _ => ?_)
    · exact PR.some Hs12
    · refine PR.bd (PR.pure Hs12 (fr_f_X14_within (gI s12 87 121) 0 23 s12)) (fun r21 s18 Hs18 => ?_)
      refine PR.ite (fun _ => ?_) (fun _ => ?_)
      · exact PR.some Hs18
      · refine PR.bd (PR.pure Hs18 (fr_f_X14_within (gI s18 87 122) 0 59 s18)) (fun r27 s24 Hs24 => ?_)
        refine PR.ite (fun _ => ?_) (fun _ => ?_)
        · exact PR.some Hs24
        · refine PR.bd (PR.pure Hs24 (fr_f_X14_within (gI s24 87 123) 0 59 s24)) (fun r33 s30 Hs30 => ?_)
          refine PR.ite (fun _ => ?_) (fun _ => ?_)
          · exact PR.some Hs30
          · exact PR.some Hs30
def W_l_X14_move_17 : List Nat := []
theorem fr_l_X14_move_17 : ∀ (n : Nat) (x2 : Int) (x3 : Int) (s : vS), PR (W_l_X14_move_17) s (fun q => q.2.2) (l_X14_move_17 n x2 x3 s)
  := by
  intro n
  induction n with
  | zero => intro x2 x3 s; exact PR.none
  | succ n ih =>
    intro x2 x3 s
    unfold l_X14_move_17
    have Hs : Fr (W_l_X14_move_17) s s := Fr.rfl
    refine PR.ite (fun _ => ?_) (fun _ => ?_)
    · exact PR.some Hs
    · refine PR.vl (fun y2 => ?_)
      refine PR.vl (fun y5 => ?_)
      exact PR.tail Hs (ih y2 y5 s)
def W_l_X14_move_33 : List Nat := []
theorem fr_l_X14_move_33 : ∀ (n : Nat) (x2 : Int) (x3 : Int) (s : vS), PR (W_l_X14_move_33) s (fun q => q.2.2) (l_X14_move_33 n x2 x3 s)
  := by
  intro n
  induction n with
  | zero => intro x2 x3 s; exact PR.none
  | succ n ih =>
    intro x2 x3 s
    unfold l_X14_move_33
    have Hs : Fr (W_l_X14_move_33) s s := Fr.rfl
    refine PR.ite (fun _ => ?_) (fun _ => ?_)
    · exact PR.some Hs
    · refine PR.vl (fun y2 => ?_)
      refine PR.vl (fun y5 => ?_)
      exact PR.tail Hs (ih y2 y5 s)
def W_j_X14_move_143 : List Nat := [87120]
theorem fr_j_X14_move_143 (z1 : Int) (s : vS) : PR (W_j_X14_move_143) s (fun q => q) (j_X14_move_143 z1 s) := by
  unfold j_X14_move_143
  have Hs : Fr (W_j_X14_move_143) s s := Fr.rfl
  refine PR.bd (PR.pure Hs (fr_f_X14_daysOf z1 (gI s 87 119) s)) (fun r4 s1 Hs1 => ?_)
  refine PR.stp (Fr.wI Hs1 (by decide +kernel)) (fun s6 Hs6 => ?_)
  exact PR.some Hs6
def W_j_X14_move_120 : List Nat := [87120]
theorem fr_j_X14_move_120 (s : vS) : PR (W_j_X14_move_120) s (fun q => q) (j_X14_move_120 s) := by
  unfold j_X14_move_120
  have Hs : Fr (W_j_X14_move_120) s s := Fr.rfl
  refine PR.ite (fun _ => ?_) (fun _ => ?_)
  · exact PR.call Hs (fr_j_X14_move_143 (gI s 87 118) s) (by decide +kernel)
  · exact PR.call Hs (fr_j_X14_move_143 (w32 ((gI s 87 118) + 400)) s) (by decide +kernel)
def W_f_X14_move : List Nat := [87118, 87119, 87120, 87121, 87122]
theorem fr_f_X14_move (x1 : Int) (s : vS) : PR (W_f_X14_move) s (fun q => q) (f_X14_move x1 s) := by
  unfold f_X14_move
  have Hs : Fr (W_f_X14_move) s s := Fr.rfl
  refine PR.vl (fun y1 => ?_)
  refine PR.lq_2 (PR.pure Hs (fr_l_X14_move_17 FU y1 0 s)) (fun y4 y5 s6 Hs6 => ?_)
  refine PR.lq_2 (PR.pure Hs6 (fr_l_X14_move_33 FU y4 y5 s6)) (fun y10 y11 s12 Hs12 => ?_)
  refine PR.stp (Fr.wI Hs12 (by decide +kernel)) (fun s16 Hs16 => ?_)
  refine PR.stp (Fr.wI Hs16 (by decide +kernel)) (fun s18 Hs18 => ?_)
  refine PR.stp (Fr.wI Hs18 (by decide +kernel)) (fun s20 Hs20 => ?_)
  refine PR.ite (fun _ => ?_) (fun _ => ?_)
  · refine PR.bd (PR.pure Hs20 (fr_f_X14_daysOf (gI s20 87 118) (gI s20 87 119) s20)) (fun r26 s23 Hs23 => ?_)
    refine PR.ite (fun _ => ?_) (fun _ => ?_)
    · exact PR.some Hs23
    · refine PR.stp (Fr.wI Hs23 (by decide +kernel)) (fun s29 Hs29 => ?_)
      refine PR.stp (Fr.wI Hs29 (by decide +kernel)) (fun s31 Hs31 => ?_)
      refine PR.ite (fun _ => ?_) (fun _ => ?_)
      · exact PR.some Hs31
      · refine PR.stp (Fr.wI Hs31 (by decide +kernel)) (fun s34 Hs34 => ?_)
        refine PR.stp (Fr.wI Hs34 (by decide +kernel)) (fun s36 Hs36 => ?_)
        exact PR.some Hs36
  · refine PR.stp (Fr.wI Hs20 (by decide +kernel)) (fun s38 Hs38 => ?_)
    refine PR.ite (fun _ => ?_) (fun _ => ?_)
    · exact PR.call Hs38 (fr_j_X14_move_120 s38) (by decide +kernel)
    · refine PR.stp (Fr.wI Hs38 (by decide +kernel)) (fun s41 Hs41 => ?_)
      refine PR.stp (Fr.wI Hs41 (by decide +kernel)) (fun s43 Hs43 => ?_)
      exact PR.call Hs43 (fr_j_X14_move_120 s43) (by decide +kernel)
def W_j_X14_zone_106 : List Nat := []
theorem fr_j_X14_zone_106 (x2 : Int) (x3 : Int) (z0 : Int) (s : vS) : PR (W_j_X14_zone_106) s (fun q => q.2) (j_X14_zone_106 x2 x3 z0 s) := by
  unfold j_X14_zone_106
  have Hs : Fr (W_j_X14_zone_106) s s := Fr.rfl
  refine PR.ite (fun _ => ?_) (fun _ => ?_)
  · refine PR.bd (PR.pure Hs (fr_f_X14_within x3 0 23 s)) (fun r5 s2 Hs2 => ?_)
    refine PR.ite (fun _ => ?_) (fun _ => ?_)
    · exact PR.some Hs2
    · refine PR.bd (PR.pure Hs2 (fr_f_X14_within z0 0 59 s2)) (fun r11 s8 Hs8 => ?_)
      refine PR.ite (fun _ => ?_) (fun _ => ?_)
      · exact PR.some Hs8
      · refine PR.ite (fun _ => ?_) (fun _ => ?_)
        · exact PR.some Hs8
        · exact PR.some Hs8
  · exact PR.some Hs
def W_j_X14_zone_101 : List Nat := [87124]
theorem fr_j_X14_zone_101 (x2 : Int) (x3 : Int) (s : vS) : PR (W_j_X14_zone_101) s (fun q => q.2) (j_X14_zone_101 x2 x3 s) := by
  unfold j_X14_zone_101
  have Hs : Fr (W_j_X14_zone_101) s s := Fr.rfl
  refine PR.bd (PR.call Hs (fr_f_X14_digitsAt 2 s) (by decide +kernel)) (fun r4 s1 Hs1 => ?_)
  exact PR.pure Hs1 (fr_j_X14_zone_106 x2 x3 r4 s1)
def W_j_X14_zone_76 : List Nat := [87124]
theorem fr_j_X14_zone_76 (x1 : Int) (x2 : Int) (s : vS) : PR (W_j_X14_zone_76) s (fun q => q.2) (j_X14_zone_76 x1 x2 s) := by
  unfold j_X14_zone_76
  have Hs : Fr (W_j_X14_zone_76) s s := Fr.rfl
  refine PR.bd (PR.call Hs (fr_f_X14_digitsAt 2 s) (by decide +kernel)) (fun r4 s1 Hs1 => ?_)
  refine PR.ite (fun _ => ?_) (fun _ => ?_)
  · exact PR.call Hs1 (fr_j_X14_zone_101 x2 r4 s1) (by decide +kernel)
  · refine PR.ite (fun _ => ?_) (fun _ => ?_)
    · exact PR.pure Hs1 (fr_j_X14_zone_106 x2 r4 0 s1)
    · exact PR.call Hs1 (fr_j_X14_zone_101 x2 r4 s1) (by decide +kernel)
def W_f_X14_zone : List Nat := [87124]
theorem fr_f_X14_zone (x1 : Int) (s : vS) : PR (W_f_X14_zone) s (fun q => q.2) (f_X14_zone x1 s) := by
  unfold f_X14_zone
  have Hs : Fr (W_f_X14_zone) s s := Fr.rfl
  refine PR.ite (fun _ => ?_) (fun _ => ?_)
  · refine PR.gd ?_
    refine PR.vl (fun y3 => ?_)
    refine PR.stp (Fr.wI Hs (by decide +kernel)) (fun s6 Hs6 => ?_)
    refine PR.ite (fun _ => ?_) (fun _ => ?_)
    · refine PR.ite (fun _ => ?_) (fun _ => ?_)
      · exact PR.some Hs6
      · exact PR.some Hs6
    · refine PR.ite (fun _ => ?_) (fun _ => ?_)
      · exact PR.call Hs6 (fr_j_X14_zone_76 x1 y3 s6) (by decide +kernel)
      · refine PR.ite (fun _ => ?_) (fun _ => ?_)
        · exact PR.call Hs6 (fr_j_X14_zone_76 x1 y3 s6) (by decide +kernel)
        · exact PR.some Hs6
  · exact PR.some Hs
def W_l_X14_sayDigits_5 : List Nat := []
theorem fr_l_X14_sayDigits_5 : ∀ (n : Nat) (x1 : Int) (x2 : Int) (x3 : Int) (x4 : Int) (s : vS), PR (W_l_X14_sayDigits_5) s (fun q => q.2) (l_X14_sayDigits_5 n x1 x2 x3 x4 s)
  := by
  intro n
  induction n with
  | zero => intro x1 x2 x3 x4 s; exact PR.none
  | succ n ih =>
    intro x1 x2 x3 x4 s
    unfold l_X14_sayDigits_5
    have Hs : Fr (W_l_X14_sayDigits_5) s s := Fr.rfl
    refine PR.ite (fun _ => ?_) (fun _ => ?_)
    · exact PR.some Hs
    · refine PR.vl (fun y2 => ?_)
      refine PR.vl (fun y5 => ?_)
      exact PR.tail Hs (ih x1 x2 y2 y5 s)
def W_l_X14_sayDigits_25 : List Nat := [87105, 161998, 161999]
theorem fr_l_X14_sayDigits_25 : ∀ (n : Nat) (x1 : Int) (x4 : Int) (s : vS), PR (W_l_X14_sayDigits_25) s (fun q => q) (l_X14_sayDigits_25 n x1 x4 s)
  := by
  intro n
  induction n with
  | zero => intro x1 x4 s; exact PR.none
  | succ n ih =>
    intro x1 x4 s
    unfold l_X14_sayDigits_25
    have Hs : Fr (W_l_X14_sayDigits_25) s s := Fr.rfl
    refine PR.ite (fun _ => ?_) (fun _ => ?_)
    · exact PR.some Hs
    · refine PR.gd ?_
      refine PR.bdv (PR.call Hs (fr_f_X14_say (w32 (48 + (m32 (d32 x1 x4) 10))) s) (by decide +kernel)) (fun s3 Hs3 => ?_)
      refine PR.vl (fun y6 => ?_)
      exact PR.tail Hs3 (ih x1 y6 s3)
def W_f_X14_sayDigits : List Nat := [87105, 161998, 161999]
theorem fr_f_X14_sayDigits (x1 : Int) (x2 : Int) (s : vS) : PR (W_f_X14_sayDigits) s (fun q => q) (f_X14_sayDigits x1 x2 s) := by
  unfold f_X14_sayDigits
  have Hs : Fr (W_f_X14_sayDigits) s s := Fr.rfl
  refine PR.lq_1 (PR.pure Hs (fr_l_X14_sayDigits_5 FU x1 x2 1 1 s)) (fun y1 s2 Hs2 => ?_)
  refine PR.lq_0 (PR.call Hs2 (fr_l_X14_sayDigits_25 FU x1 y1 s2) (by decide +kernel)) (fun s5 Hs5 => ?_)
  exact PR.some Hs5
def W_f_X14_sayRest : List Nat := [87105, 161998, 161999]
theorem fr_f_X14_sayRest (s : vS) : PR (W_f_X14_sayRest) s (fun q => q) (f_X14_sayRest s) := by
  unfold f_X14_sayRest
  have Hs : Fr (W_f_X14_sayRest) s s := Fr.rfl
  refine PR.bdv (PR.call Hs (fr_f_X14_sayDigits (gI s 87 119) 2 s) (by decide +kernel)) (fun s1 Hs1 => ?_)
  refine PR.bdv (PR.call Hs1 (fr_f_X14_sayDigits (gI s1 87 120) 2 s1) (by decide +kernel)) (fun s4 Hs4 => ?_)
  refine PR.bdv (PR.call Hs4 (fr_f_X14_sayDigits (gI s4 87 121) 2 s4) (by decide +kernel)) (fun s7 Hs7 => ?_)
  refine PR.bdv (PR.call Hs7 (fr_f_X14_sayDigits (gI s7 87 122) 2 s7) (by decide +kernel)) (fun s10 Hs10 => ?_)
  refine PR.bdv (PR.call Hs10 (fr_f_X14_sayDigits (gI s10 87 123) 2 s10) (by decide +kernel)) (fun s13 Hs13 => ?_)
  exact PR.some Hs13
def W_j_X14_utcTime_143 : List Nat := [87105, 87118, 87119, 87120, 87121, 87122, 161998, 161999]
theorem fr_j_X14_utcTime_143 (z0 : Int) (s : vS) : PR (W_j_X14_utcTime_143) s (fun q => q.2) (j_X14_utcTime_143 z0 s) := by
  unfold j_X14_utcTime_143
  have Hs : Fr (W_j_X14_utcTime_143) s s := Fr.rfl
  refine PR.ite (fun _ => ?_) (fun _ => ?_)
  · exact PR.some Hs
  · refine PR.bd (PR.pure Hs (fr_f_X14_isDay s)) (fun r5 s2 Hs2 => ?_)
    refine PR.ite (fun _ => ?_) (fun _ => ?_)
    · exact PR.some Hs2
    · refine PR.bdv (PR.call Hs2 (fr_f_X14_move (w32 (-z0)) s2) (by decide +kernel)) (fun s8 Hs8 => ?_)
      refine PR.bd (PR.pure Hs8 (fr_f_X14_within (gI s8 87 118) 1950 2049 s8)) (fun r14 s11 Hs11 => ?_)
      refine PR.ite (fun _ => ?_) (fun _ => ?_)
      · exact PR.some Hs11
      · refine PR.stp (Fr.wI Hs11 (by decide +kernel)) (fun s17 Hs17 => ?_)
        refine PR.bdv (PR.call Hs17 (fr_f_X14_sayDigits (m32 (gI s17 87 118) 100) 2 s17) (by decide +kernel)) (fun s19 Hs19 => ?_)
        refine PR.bdv (PR.call Hs19 (fr_f_X14_sayRest s19) (by decide +kernel)) (fun s22 Hs22 => ?_)
        refine PR.bdv (PR.call Hs22 (fr_f_X14_say 90 s22) (by decide +kernel)) (fun s25 Hs25 => ?_)
        exact PR.some Hs25
def W_j_X14_utcTime_122 : List Nat := [87105, 87118, 87119, 87120, 87121, 87122, 87124, 161998, 161999]
theorem fr_j_X14_utcTime_122 (z1 : Int) (s : vS) : PR (W_j_X14_utcTime_122) s (fun q => q.2) (j_X14_utcTime_122 z1 s) := by
  unfold j_X14_utcTime_122
  have Hs : Fr (W_j_X14_utcTime_122) s s := Fr.rfl
  refine PR.stp (Fr.wI Hs (by decide +kernel)) (fun s1 Hs1 => ?_)
  refine PR.ite (fun _ => ?_) (fun _ => ?_)
  · refine PR.bd (PR.call Hs1 (fr_f_X14_zone 0 s1) (by decide +kernel)) (fun r7 s4 Hs4 => ?_)
    exact PR.call Hs4 (fr_j_X14_utcTime_143 r7 s4) (by decide +kernel)
  · exact PR.call Hs1 (fr_j_X14_utcTime_143 100000 s1) (by decide +kernel)
def W_j_X14_utcTime_99 : List Nat := [87105, 87118, 87119, 87120, 87121, 87122, 87123, 87124, 161998, 161999]
theorem fr_j_X14_utcTime_99 (x1 : Int) (z1 : Int) (s : vS) : PR (W_j_X14_utcTime_99) s (fun q => q.2) (j_X14_utcTime_99 x1 z1 s) := by
  unfold j_X14_utcTime_99
  have Hs : Fr (W_j_X14_utcTime_99) s s := Fr.rfl
  refine PR.stp (Fr.wI Hs (by decide +kernel)) (fun s1 Hs1 => ?_)
  refine PR.ite (fun _ => ?_) (fun _ => ?_)
  · exact PR.call Hs1 (fr_j_X14_utcTime_122 (w32 (1900 + x1)) s1) (by decide +kernel)
  · exact PR.call Hs1 (fr_j_X14_utcTime_122 (w32 (2000 + x1)) s1) (by decide +kernel)
def W_f_X14_utcTime : List Nat := [87105, 87118, 87119, 87120, 87121, 87122, 87123, 87124, 161998, 161999]
theorem fr_f_X14_utcTime (s : vS) : PR (W_f_X14_utcTime) s (fun q => q.2) (f_X14_utcTime s) := by
  unfold f_X14_utcTime
  have Hs : Fr (W_f_X14_utcTime) s s := Fr.rfl
  refine PR.stp (Fr.wI Hs (by decide +kernel)) (fun s1 Hs1 => ?_)
  refine PR.bd (PR.call Hs1 (fr_f_X14_digitsAt 2 s1) (by decide +kernel)) (fun r6 s3 Hs3 => ?_)
  refine PR.bd (PR.call Hs3 (fr_f_X14_digitsAt 2 s3) (by decide +kernel)) (fun r11 s8 Hs8 => ?_)
  refine PR.stp (Fr.wI Hs8 (by decide +kernel)) (fun s13 Hs13 => ?_)
  refine PR.bd (PR.call Hs13 (fr_f_X14_digitsAt 2 s13) (by decide +kernel)) (fun r18 s15 Hs15 => ?_)
  refine PR.stp (Fr.wI Hs15 (by decide +kernel)) (fun s20 Hs20 => ?_)
  refine PR.bd (PR.call Hs20 (fr_f_X14_digitsAt 2 s20) (by decide +kernel)) (fun r25 s22 Hs22 => ?_)
  refine PR.stp (Fr.wI Hs22 (by decide +kernel)) (fun s27 Hs27 => ?_)
  refine PR.bd (PR.call Hs27 (fr_f_X14_digitsAt 2 s27) (by decide +kernel)) (fun r32 s29 Hs29 => ?_)
  refine PR.stp (Fr.wI Hs29 (by decide +kernel)) (fun s34 Hs34 => ?_)
  refine PR.ite (fun _ => ?_) (fun _ => ?_)
  · exact PR.some Hs34
  · refine PR.ite (fun _ => ?_) (fun _ => ?_)
    · exact PR.some Hs34
    · refine PR.ite (fun _ => ?_) (fun _ => ?_)
      · exact PR.some Hs34
      · refine PR.ite (fun _ => ?_) (fun _ => ?_)
        · exact PR.some Hs34
        · refine PR.ite (fun _ => ?_) (fun _ => ?_)
          · refine PR.bd (PR.pure Hs34 (fr_f_X14_isNextDigit s34)) (fun r44 s41 Hs41 => ?_)
            refine PR.ite (fun _ => ?_) (fun _ => ?_)
            · exact PR.call Hs41 (fr_j_X14_utcTime_99 r6 0 s41) (by decide +kernel)
            · refine PR.bd (PR.call Hs41 (fr_f_X14_digitsAt 2 s41) (by decide +kernel)) (fun r50 s47 Hs47 => ?_)
              exact PR.call Hs47 (fr_j_X14_utcTime_99 r6 r50 s47) (by decide +kernel)
          · exact PR.some Hs34
def W_l_X14_partTimes_9 : List Nat := [170999]
theorem fr_l_X14_partTimes_9 : ∀ (n : Nat) (x1 : Int) (x2 : Int) (x3 : Int) (s : vS), PR (W_l_X14_partTimes_9) s (fun q => q.2) (l_X14_partTimes_9 n x1 x2 x3 s)
  := by
  intro n
  induction n with
  | zero => intro x1 x2 x3 s; exact PR.none
  | succ n ih =>
    intro x1 x2 x3 s
    unfold l_X14_partTimes_9
    have Hs : Fr (W_l_X14_partTimes_9) s s := Fr.rfl
    refine PR.ite (fun _ => ?_) (fun _ => ?_)
    · exact PR.some Hs
    · refine PR.gd ?_
      refine PR.vl (fun y3 => ?_)
      refine PR.gd ?_
      refine PR.stp (Fr.wE Hs (by decide +kernel)) (fun s7 Hs7 => ?_)
      refine PR.vl (fun y9 => ?_)
      refine PR.vl (fun y12 => ?_)
      exact PR.tail Hs7 (ih x1 y9 y12 s7)
def W_f_X14_partTimes : List Nat := [170999]
theorem fr_f_X14_partTimes (x1 : Int) (s : vS) : PR (W_f_X14_partTimes) s (fun q => q.2) (f_X14_partTimes x1 s) := by
  unfold f_X14_partTimes
  have Hs : Fr (W_f_X14_partTimes) s s := Fr.rfl
  refine PR.vl (fun y1 => ?_)
  refine PR.lq_1 (PR.call Hs (fr_l_X14_partTimes_9 FU x1 0 y1 s) (by decide +kernel)) (fun y4 s5 Hs5 => ?_)
  exact PR.some Hs5
def W_l_X14_generalTime_400 : List Nat := [87125]
theorem fr_l_X14_generalTime_400 : ∀ (n : Nat) (s : vS), PR (W_l_X14_generalTime_400) s (fun q => q) (l_X14_generalTime_400 n s)
  := by
  intro n
  induction n with
  | zero => intro s; exact PR.none
  | succ n ih =>
    intro s
    unfold l_X14_generalTime_400
    have Hs : Fr (W_l_X14_generalTime_400) s s := Fr.rfl
    refine PR.ite (fun _ => ?_) (fun _ => ?_)
    · exact PR.some Hs
    · refine PR.gd ?_
      refine PR.ite (fun _ => ?_) (fun _ => ?_)
      · refine PR.stp (Fr.wI Hs (by decide +kernel)) (fun s4 Hs4 => ?_)
        exact PR.tail Hs4 (ih s4)
      · exact PR.some Hs
def W_l_X14_generalTime_468 : List Nat := [87105, 161998, 161999]
theorem fr_l_X14_generalTime_468 : ∀ (n : Nat) (x5 : Int) (s : vS), PR (W_l_X14_generalTime_468) s (fun q => q) (l_X14_generalTime_468 n x5 s)
  := by
  intro n
  induction n with
  | zero => intro x5 s; exact PR.none
  | succ n ih =>
    intro x5 s
    unfold l_X14_generalTime_468
    have Hs : Fr (W_l_X14_generalTime_468) s s := Fr.rfl
    refine PR.ite (fun _ => ?_) (fun _ => ?_)
    · exact PR.some Hs
    · refine PR.gd ?_
      refine PR.bdv (PR.call Hs (fr_f_X14_say (w32 (48 + (gE s 170 x5))) s) (by decide +kernel)) (fun s3 Hs3 => ?_)
      refine PR.vl (fun y6 => ?_)
      exact PR.tail Hs3 (ih y6 s3)
def W_j_X14_generalTime_434 : List Nat := [87105, 161998, 161999]
theorem fr_j_X14_generalTime_434 (s : vS) : PR (W_j_X14_generalTime_434) s (fun q => q.2) (j_X14_generalTime_434 s) := by
  unfold j_X14_generalTime_434
  have Hs : Fr (W_j_X14_generalTime_434) s s := Fr.rfl
  refine PR.stp (Fr.wI Hs (by decide +kernel)) (fun s1 Hs1 => ?_)
  refine PR.bdv (PR.call Hs1 (fr_f_X14_sayDigits (gI s1 87 118) 4 s1) (by decide +kernel)) (fun s3 Hs3 => ?_)
  refine PR.bdv (PR.call Hs3 (fr_f_X14_sayRest s3) (by decide +kernel)) (fun s6 Hs6 => ?_)
  refine PR.ite (fun _ => ?_) (fun _ => ?_)
  · refine PR.lq_0 (PR.call Hs6 (fr_l_X14_generalTime_468 FU 0 s6) (by decide +kernel)) (fun s10 Hs10 => ?_)
    refine PR.bdv (PR.call Hs10 (fr_f_X14_say 90 s10) (by decide +kernel)) (fun s12 Hs12 => ?_)
    exact PR.some Hs12
  · refine PR.bdv (PR.call Hs6 (fr_f_X14_say 46 s6) (by decide +kernel)) (fun s15 Hs15 => ?_)
    refine PR.lq_0 (PR.call Hs15 (fr_l_X14_generalTime_468 FU 0 s15) (by decide +kernel)) (fun s18 Hs18 => ?_)
    refine PR.bdv (PR.call Hs18 (fr_f_X14_say 90 s18) (by decide +kernel)) (fun s20 Hs20 => ?_)
    exact PR.some Hs20
def W_j_X14_generalTime_376 : List Nat := [87105, 87118, 87119, 87120, 87121, 87122, 87125, 161998, 161999]
theorem fr_j_X14_generalTime_376 (x4 : Int) (s : vS) : PR (W_j_X14_generalTime_376) s (fun q => q.2) (j_X14_generalTime_376 x4 s) := by
  unfold j_X14_generalTime_376
  have Hs : Fr (W_j_X14_generalTime_376) s s := Fr.rfl
  refine PR.bdv (PR.call Hs (fr_f_X14_move (w32 (-x4)) s) (by decide +kernel)) (fun s1 Hs1 => ?_)
  refine PR.bd (PR.pure Hs1 (fr_f_X14_within (gI s1 87 118) 0 9999 s1)) (fun r7 s4 Hs4 => ?_)
  refine PR.ite (fun _ => ?_) (fun _ => ?_)
  · exact PR.some Hs4
  · refine PR.lq_0 (PR.call Hs4 (fr_l_X14_generalTime_400 FU s4) (by decide +kernel)) (fun s10 Hs10 => ?_)
    exact PR.call Hs10 (fr_j_X14_generalTime_434 s10) (by decide +kernel)
def W_j_X14_generalTime_362 : List Nat := [87105, 87118, 87119, 87120, 87121, 87122, 87123, 87125, 161998, 161999, 170999]
theorem fr_j_X14_generalTime_362 (x2 : Int) (x4 : Int) (s : vS) : PR (W_j_X14_generalTime_362) s (fun q => q.2) (j_X14_generalTime_362 x2 x4 s) := by
  unfold j_X14_generalTime_362
  have Hs : Fr (W_j_X14_generalTime_362) s s := Fr.rfl
  refine PR.ite (fun _ => ?_) (fun _ => ?_)
  · refine PR.bd (PR.call Hs (fr_f_X14_partTimes 60 s) (by decide +kernel)) (fun r5 s2 Hs2 => ?_)
    refine PR.stp (Fr.wI Hs2 (by decide +kernel)) (fun s7 Hs7 => ?_)
    exact PR.call Hs7 (fr_j_X14_generalTime_376 x4 s7) (by decide +kernel)
  · exact PR.call Hs (fr_j_X14_generalTime_376 x4 s) (by decide +kernel)
def W_j_X14_generalTime_321 : List Nat := [87105, 87118, 87119, 87120, 87121, 87122, 87123, 87125, 161998, 161999, 170999]
theorem fr_j_X14_generalTime_321 (x1 : Int) (x2 : Int) (x3 : Int) (z0 : Int) (s : vS) : PR (W_j_X14_generalTime_321) s (fun q => q.2) (j_X14_generalTime_321 x1 x2 x3 z0 s) := by
  unfold j_X14_generalTime_321
  have Hs : Fr (W_j_X14_generalTime_321) s s := Fr.rfl
  refine PR.ite (fun _ => ?_) (fun _ => ?_)
  · exact PR.some Hs
  · refine PR.bd (PR.pure Hs (fr_f_X14_isDay s)) (fun r5 s2 Hs2 => ?_)
    refine PR.ite (fun _ => ?_) (fun _ => ?_)
    · exact PR.some Hs2
    · refine PR.ite (fun _ => ?_) (fun _ => ?_)
      · refine PR.ite (fun _ => ?_) (fun _ => ?_)
        · refine PR.bd (PR.call Hs2 (fr_f_X14_partTimes 60 s2) (by decide +kernel)) (fun r13 s10 Hs10 => ?_)
          refine PR.stp (Fr.wI Hs10 (by decide +kernel)) (fun s15 Hs15 => ?_)
          exact PR.call Hs15 (fr_j_X14_generalTime_362 x2 z0 s15) (by decide +kernel)
        · exact PR.call Hs2 (fr_j_X14_generalTime_362 x2 z0 s2) (by decide +kernel)
      · exact PR.some Hs2
def W_j_X14_generalTime_307 : List Nat := [87105, 87118, 87119, 87120, 87121, 87122, 87123, 87124, 87125, 161998, 161999, 170999]
theorem fr_j_X14_generalTime_307 (x1 : Int) (x2 : Int) (z0 : Int) (s : vS) : PR (W_j_X14_generalTime_307) s (fun q => q.2) (j_X14_generalTime_307 x1 x2 z0 s) := by
  unfold j_X14_generalTime_307
  have Hs : Fr (W_j_X14_generalTime_307) s s := Fr.rfl
  refine PR.ite (fun _ => ?_) (fun _ => ?_)
  · refine PR.bd (PR.call Hs (fr_f_X14_zone 1 s) (by decide +kernel)) (fun r5 s2 Hs2 => ?_)
    exact PR.call Hs2 (fr_j_X14_generalTime_321 x1 x2 z0 r5 s2) (by decide +kernel)
  · exact PR.call Hs (fr_j_X14_generalTime_321 x1 x2 z0 0 s) (by decide +kernel)
def W_j_X14_generalTime_291 : List Nat := [87105, 87118, 87119, 87120, 87121, 87122, 87123, 87124, 87125, 161998, 161999, 170999]
theorem fr_j_X14_generalTime_291 (x1 : Int) (x2 : Int) (s : vS) : PR (W_j_X14_generalTime_291) s (fun q => q.2) (j_X14_generalTime_291 x1 x2 s) := by
  unfold j_X14_generalTime_291
  have Hs : Fr (W_j_X14_generalTime_291) s s := Fr.rfl
  refine PR.ite (fun _ => ?_) (fun _ => ?_)
  · exact PR.call Hs (fr_j_X14_generalTime_307 x1 x2 1 s) (by decide +kernel)
  · exact PR.call Hs (fr_j_X14_generalTime_307 x1 x2 0 s) (by decide +kernel)
def W_l_X14_generalTime_240 : List Nat := [87124, 87125, 170999]
theorem fr_l_X14_generalTime_240 : ∀ (n : Nat) (x1 : Int) (x2 : Int) (s : vS), PR (W_l_X14_generalTime_240) s (fun q => q) (l_X14_generalTime_240 n x1 x2 s)
  := by
  intro n
  induction n with
  | zero => intro x1 x2 s; exact PR.none
  | succ n ih =>
    intro x1 x2 s
    unfold l_X14_generalTime_240
    have Hs : Fr (W_l_X14_generalTime_240) s s := Fr.rfl
    refine PR.bd (PR.pure Hs (fr_f_X14_isNextDigit s)) (fun r4 s1 Hs1 => ?_)
    refine PR.ite (fun _ => ?_) (fun _ => ?_)
    · exact PR.some Hs1
    · refine PR.gd ?_
      refine PR.gd ?_
      refine PR.stp (Fr.wE Hs1 (by decide +kernel)) (fun s9 Hs9 => ?_)
      refine PR.stp (Fr.wI Hs9 (by decide +kernel)) (fun s11 Hs11 => ?_)
      refine PR.stp (Fr.wI Hs11 (by decide +kernel)) (fun s13 Hs13 => ?_)
      exact PR.tail Hs13 (ih x1 x2 s13)
def W_j_X14_generalTime_196 : List Nat := [87105, 87118, 87119, 87120, 87121, 87122, 87123, 87124, 87125, 161998, 161999, 170998, 170999]
theorem fr_j_X14_generalTime_196 (x1 : Int) (x2 : Int) (s : vS) : PR (W_j_X14_generalTime_196) s (fun q => q.2) (j_X14_generalTime_196 x1 x2 s) := by
  unfold j_X14_generalTime_196
  have Hs : Fr (W_j_X14_generalTime_196) s s := Fr.rfl
  refine PR.stp (Fr.wI Hs (by decide +kernel)) (fun s1 Hs1 => ?_)
  refine PR.bd (PR.pure Hs1 (fr_f_X14_isNextDigit s1)) (fun r6 s3 Hs3 => ?_)
  refine PR.ite (fun _ => ?_) (fun _ => ?_)
  · exact PR.some Hs3
  · refine PR.ite (fun _ => ?_) (fun _ => ?_)
    · refine PR.lq_0 (PR.call Hs3 (fr_l_X14_generalTime_240 FU x1 x2 s3) (by decide +kernel)) (fun s10 Hs10 => ?_)
      exact PR.call Hs10 (fr_j_X14_generalTime_291 x1 x2 s10) (by decide +kernel)
    · refine PR.gd ?_
      refine PR.stp (Fr.wAT Hs3 (by decide)) (fun s13 Hs13 => ?_)
      refine PR.gd ?_
      refine PR.stp (Fr.wswT Hs13 (by decide) (by decide +kernel) (by decide +kernel)) (fun s16 Hs16 => ?_)
      refine PR.stp (Fr.wrs Hs16) (fun s18 Hs18 => ?_)
      refine PR.lq_0 (PR.call Hs18 (fr_l_X14_generalTime_240 FU x1 x2 s18) (by decide +kernel)) (fun s20 Hs20 => ?_)
      exact PR.call Hs20 (fr_j_X14_generalTime_291 x1 x2 s20) (by decide +kernel)
def W_j_X14_generalTime_132 : List Nat := [87105, 87118, 87119, 87120, 87121, 87122, 87123, 87124, 87125, 161998, 161999, 170998, 170999]
theorem fr_j_X14_generalTime_132 (x1 : Int) (x2 : Int) (z1 : Int) (s : vS) : PR (W_j_X14_generalTime_132) s (fun q => q.2) (j_X14_generalTime_132 x1 x2 z1 s) := by
  unfold j_X14_generalTime_132
  have Hs : Fr (W_j_X14_generalTime_132) s s := Fr.rfl
  refine PR.stp (Fr.wI Hs (by decide +kernel)) (fun s1 Hs1 => ?_)
  refine PR.ite (fun _ => ?_) (fun _ => ?_)
  · exact PR.some Hs1
  · refine PR.ite (fun _ => ?_) (fun _ => ?_)
    · refine PR.stp (Fr.wI Hs1 (by decide +kernel)) (fun s5 Hs5 => ?_)
      refine PR.ite (fun _ => ?_) (fun _ => ?_)
      · exact PR.call Hs5 (fr_j_X14_generalTime_291 x1 x2 s5) (by decide +kernel)
      · refine PR.gd ?_
        refine PR.ite (fun _ => ?_) (fun _ => ?_)
        · exact PR.call Hs5 (fr_j_X14_generalTime_196 x1 x2 s5) (by decide +kernel)
        · refine PR.gd ?_
          refine PR.ite (fun _ => ?_) (fun _ => ?_)
          · exact PR.call Hs5 (fr_j_X14_generalTime_196 x1 x2 s5) (by decide +kernel)
          · exact PR.call Hs5 (fr_j_X14_generalTime_291 x1 x2 s5) (by decide +kernel)
    · exact PR.some Hs1
def W_j_X14_generalTime_117 : List Nat := [87105, 87118, 87119, 87120, 87121, 87122, 87123, 87124, 87125, 161998, 161999, 170998, 170999]
theorem fr_j_X14_generalTime_117 (x1 : Int) (z0 : Int) (s : vS) : PR (W_j_X14_generalTime_117) s (fun q => q.2) (j_X14_generalTime_117 x1 z0 s) := by
  unfold j_X14_generalTime_117
  have Hs : Fr (W_j_X14_generalTime_117) s s := Fr.rfl
  refine PR.ite (fun _ => ?_) (fun _ => ?_)
  · exact PR.call Hs (fr_j_X14_generalTime_132 x1 z0 0 s) (by decide +kernel)
  · refine PR.bd (PR.call Hs (fr_f_X14_digitsAt 2 s) (by decide +kernel)) (fun r5 s2 Hs2 => ?_)
    exact PR.call Hs2 (fr_j_X14_generalTime_132 x1 z0 r5 s2) (by decide +kernel)
def W_j_X14_generalTime_91 : List Nat := [87105, 87118, 87119, 87120, 87121, 87122, 87123, 87124, 87125, 161998, 161999, 170998, 170999]
theorem fr_j_X14_generalTime_91 (x1 : Int) (z1 : Int) (s : vS) : PR (W_j_X14_generalTime_91) s (fun q => q.2) (j_X14_generalTime_91 x1 z1 s) := by
  unfold j_X14_generalTime_91
  have Hs : Fr (W_j_X14_generalTime_91) s s := Fr.rfl
  refine PR.stp (Fr.wI Hs (by decide +kernel)) (fun s1 Hs1 => ?_)
  refine PR.ite (fun _ => ?_) (fun _ => ?_)
  · exact PR.call Hs1 (fr_j_X14_generalTime_117 x1 0 s1) (by decide +kernel)
  · refine PR.ite (fun _ => ?_) (fun _ => ?_)
    · exact PR.call Hs1 (fr_j_X14_generalTime_117 x1 0 s1) (by decide +kernel)
    · refine PR.bd (PR.pure Hs1 (fr_f_X14_isNextDigit s1)) (fun r8 s5 Hs5 => ?_)
      refine PR.ite (fun _ => ?_) (fun _ => ?_)
      · exact PR.call Hs5 (fr_j_X14_generalTime_117 x1 0 s5) (by decide +kernel)
      · exact PR.call Hs5 (fr_j_X14_generalTime_117 x1 1 s5) (by decide +kernel)
def W_f_X14_generalTime : List Nat := [87105, 87118, 87119, 87120, 87121, 87122, 87123, 87124, 87125, 161998, 161999, 170998, 170999]
theorem fr_f_X14_generalTime (s : vS) : PR (W_f_X14_generalTime) s (fun q => q.2) (f_X14_generalTime s) := by
  unfold f_X14_generalTime
  have Hs : Fr (W_f_X14_generalTime) s s := Fr.rfl
  refine PR.stp (Fr.wI Hs (by decide +kernel)) (fun s1 Hs1 => ?_)
  refine PR.bd (PR.call Hs1 (fr_f_X14_digitsAt 4 s1) (by decide +kernel)) (fun r6 s3 Hs3 => ?_)
  refine PR.stp (Fr.wI Hs3 (by decide +kernel)) (fun s8 Hs8 => ?_)
  refine PR.bd (PR.call Hs8 (fr_f_X14_digitsAt 2 s8) (by decide +kernel)) (fun r13 s10 Hs10 => ?_)
  refine PR.stp (Fr.wI Hs10 (by decide +kernel)) (fun s15 Hs15 => ?_)
  refine PR.bd (PR.call Hs15 (fr_f_X14_digitsAt 2 s15) (by decide +kernel)) (fun r20 s17 Hs17 => ?_)
  refine PR.stp (Fr.wI Hs17 (by decide +kernel)) (fun s22 Hs22 => ?_)
  refine PR.bd (PR.call Hs22 (fr_f_X14_digitsAt 2 s22) (by decide +kernel)) (fun r27 s24 Hs24 => ?_)
  refine PR.stp (Fr.wI Hs24 (by decide +kernel)) (fun s29 Hs29 => ?_)
  refine PR.ite (fun _ => ?_) (fun _ => ?_)
  · exact PR.some Hs29
  · refine PR.ite (fun _ => ?_) (fun _ => ?_)
    · exact PR.some Hs29
    · refine PR.ite (fun _ => ?_) (fun _ => ?_)
      · exact PR.some Hs29
      · refine PR.ite (fun _ => ?_) (fun _ => ?_)
        · refine PR.bd (PR.pure Hs29 (fr_f_X14_isNextDigit s29)) (fun r38 s35 Hs35 => ?_)
          refine PR.ite (fun _ => ?_) (fun _ => ?_)
          · exact PR.call Hs35 (fr_j_X14_generalTime_91 r38 0 s35) (by decide +kernel)
          · refine PR.bd (PR.call Hs35 (fr_f_X14_digitsAt 2 s35) (by decide +kernel)) (fun r44 s41 Hs41 => ?_)
            exact PR.call Hs41 (fr_j_X14_generalTime_91 r38 r44 s41) (by decide +kernel)
        · exact PR.some Hs29
def W_l_X14_bitsOfText_71 : List Nat := [87107, 162998, 162999]
theorem fr_j_X14_bitsOfText_95 (rec : Int → Int → Int → Int → vS → Option (vS)) (hrec : ∀ (y0 : Int) (y1 : Int) (y2 : Int) (y3 : Int) (s : vS), PR (W_l_X14_bitsOfText_71) s (fun q => q) (rec y0 y1 y2 y3 s)) (x1 : Int) (x2 : Int) (x3 : Int) (x4 : Int) (z1 : Int) (s : vS) : PR (W_l_X14_bitsOfText_71) s (fun q => q) (j_X14_bitsOfText_95 rec x1 x2 x3 x4 z1 s) := by
  unfold j_X14_bitsOfText_95
  have Hs : Fr (W_l_X14_bitsOfText_71) s s := Fr.rfl
  refine PR.bdv (PR.call Hs (fr_f_X14_sayBit (and32 (shr32 z1 x4) 1) s) (by decide +kernel)) (fun s1 Hs1 => ?_)
  refine PR.vl (fun y4 => ?_)
  exact PR.tail Hs1 (hrec x1 x2 x3 y4 s1)
theorem fr_l_X14_bitsOfText_71 : ∀ (n : Nat) (x1 : Int) (x2 : Int) (x3 : Int) (x4 : Int) (s : vS), PR (W_l_X14_bitsOfText_71) s (fun q => q) (l_X14_bitsOfText_71 n x1 x2 x3 x4 s)
  := by
  intro n
  induction n with
  | zero => intro x1 x2 x3 x4 s; exact PR.none
  | succ n ih =>
    intro x1 x2 x3 x4 s
    unfold l_X14_bitsOfText_71
    have Hs : Fr (W_l_X14_bitsOfText_71) s s := Fr.rfl
    refine PR.ite (fun _ => ?_) (fun _ => ?_)
    · exact PR.some Hs
    · refine PR.bd (PR.pure Hs (fr_f_X14_isDigit x3 s)) (fun r5 s2 Hs2 => ?_)
      refine PR.ite (fun _ => ?_) (fun _ => ?_)
      · exact PR.tail Hs2 (fr_j_X14_bitsOfText_95 (l_X14_bitsOfText_71 n) ih x1 x2 x3 x4 (w32 (x3 - 55)) s2)
      · exact PR.tail Hs2 (fr_j_X14_bitsOfText_95 (l_X14_bitsOfText_71 n) ih x1 x2 x3 x4 (w32 (x3 - 48)) s2)
def W_l_X14_bitsOfText_14 : List Nat := [87107, 162998, 162999]
theorem fr_j_X14_bitsOfText_61 (rec : Int → Int → vS → Option (vS)) (hrec : ∀ (y0 : Int) (y1 : Int) (s : vS), PR (W_l_X14_bitsOfText_14) s (fun q => q) (rec y0 y1 s)) (x1 : Int) (x2 : Int) (x3 : Int) (s : vS) : PR (W_l_X14_bitsOfText_14) s (fun q => q) (j_X14_bitsOfText_61 rec x1 x2 x3 s) := by
  unfold j_X14_bitsOfText_61
  have Hs : Fr (W_l_X14_bitsOfText_14) s s := Fr.rfl
  refine PR.bd (PR.pure Hs (fr_f_X14_isWhite x3 s)) (fun r4 s1 Hs1 => ?_)
  refine PR.ite (fun _ => ?_) (fun _ => ?_)
  · refine PR.lq_0 (PR.call Hs1 (fr_l_X14_bitsOfText_71 FU x1 x2 x3 3 s1) (by decide +kernel)) (fun s10 Hs10 => ?_)
    refine PR.vl (fun y12 => ?_)
    exact PR.tail Hs10 (hrec x1 y12 s10)
  · refine PR.vl (fun y7 => ?_)
    exact PR.tail Hs1 (hrec x1 y7 s1)
theorem fr_l_X14_bitsOfText_14 : ∀ (n : Nat) (x1 : Int) (x2 : Int) (s : vS), PR (W_l_X14_bitsOfText_14) s (fun q => q) (l_X14_bitsOfText_14 n x1 x2 s)
  := by
  intro n
  induction n with
  | zero => intro x1 x2 s; exact PR.none
  | succ n ih =>
    intro x1 x2 s
    unfold l_X14_bitsOfText_14
    have Hs : Fr (W_l_X14_bitsOfText_14) s s := Fr.rfl
    refine PR.gd ?_
    refine PR.ite (fun _ => ?_) (fun _ => ?_)
    · exact PR.some Hs
    · refine PR.gd ?_
      refine PR.vl (fun y4 => ?_)
      refine PR.bd (PR.pure Hs (fr_f_X14_isWhite y4 s)) (fun r10 s7 Hs7 => ?_)
      refine PR.ite (fun _ => ?_) (fun _ => ?_)
      · refine PR.gd ?_
        refine PR.ite (fun _ => ?_) (fun _ => ?_)
        · refine PR.bdv (PR.call Hs7 (fr_f_X14_sayBit (w32 (y4 - 48)) s7) (by decide +kernel)) (fun s15 Hs15 => ?_)
          refine PR.vl (fun y18 => ?_)
          exact PR.tail Hs15 (ih x1 y18 s15)
        · exact PR.tail Hs7 (fr_j_X14_bitsOfText_61 (l_X14_bitsOfText_14 n) ih x1 x2 y4 s7)
      · exact PR.tail Hs7 (fr_j_X14_bitsOfText_61 (l_X14_bitsOfText_14 n) ih x1 x2 y4 s7)
def W_f_X14_bitsOfText : List Nat := [87107, 162998, 162999]
theorem fr_f_X14_bitsOfText (x1 : Int) (s : vS) : PR (W_f_X14_bitsOfText) s (fun q => q) (f_X14_bitsOfText x1 s) := by
  unfold f_X14_bitsOfText
  have Hs : Fr (W_f_X14_bitsOfText) s s := Fr.rfl
  refine PR.stp (Fr.wI Hs (by decide +kernel)) (fun s1 Hs1 => ?_)
  refine PR.gd ?_
  refine PR.vl (fun y4 => ?_)
  refine PR.lq_0 (PR.call Hs1 (fr_l_X14_bitsOfText_14 FU x1 y4 s1) (by decide +kernel)) (fun s7 Hs7 => ?_)
  exact PR.some Hs7
def W_l_X14_bitsOfItems_84 : List Nat := [87107, 162998, 162999]
theorem fr_l_X14_bitsOfItems_84 : ∀ (n : Nat) (x1 : Int) (x2 : Int) (x3 : Int) (x5 : Int) (s : vS), PR (W_l_X14_bitsOfItems_84) s (fun q => q) (l_X14_bitsOfItems_84 n x1 x2 x3 x5 s)
  := by
  intro n
  induction n with
  | zero => intro x1 x2 x3 x5 s; exact PR.none
  | succ n ih =>
    intro x1 x2 x3 x5 s
    unfold l_X14_bitsOfItems_84
    have Hs : Fr (W_l_X14_bitsOfItems_84) s s := Fr.rfl
    refine PR.ite (fun _ => ?_) (fun _ => ?_)
    · exact PR.some Hs
    · refine PR.bdv (PR.call Hs (fr_f_X14_sayBit 0 s) (by decide +kernel)) (fun s2 Hs2 => ?_)
      exact PR.tail Hs2 (ih x1 x2 x3 x5 s2)
def W_l_X14_bitsOfItems_12 : List Nat := [87107, 162998, 162999]
theorem fr_j_X14_bitsOfItems_62 (rec : Int → Int → Int → vS → Option ((vS) ⊕ (Int × vS))) (hrec : ∀ (y0 : Int) (y1 : Int) (y2 : Int) (s : vS), PR (W_l_X14_bitsOfItems_12) s (Sum.elim (fun q => q) (fun q => q.2)) (rec y0 y1 y2 s)) (x1 : Int) (x2 : Int) (x3 : Int) (z0 : Int) (s : vS) : PR (W_l_X14_bitsOfItems_12) s (Sum.elim (fun q => q) (fun q => q.2)) (j_X14_bitsOfItems_62 rec x1 x2 x3 z0 s) := by
  unfold j_X14_bitsOfItems_62
  have Hs : Fr (W_l_X14_bitsOfItems_12) s s := Fr.rfl
  refine PR.ite (fun _ => ?_) (fun _ => ?_)
  · refine PR.gd ?_
    refine PR.bd (PR.pure Hs (fr_f_X14_asInt (gE s 115 z0) s)) (fun r6 s3 Hs3 => ?_)
    refine PR.lq_0 (PR.call Hs3 (fr_l_X14_bitsOfItems_84 FU x1 x2 x3 r6 s3) (by decide +kernel)) (fun s8 Hs8 => ?_)
    refine PR.gd ?_
    refine PR.stp (Fr.wE Hs8 (by decide +kernel)) (fun s11 Hs11 => ?_)
    refine PR.vl (fun y13 => ?_)
    exact PR.tail Hs11 (hrec x1 x2 y13 s11)
  · exact PR.some Hs
theorem fr_l_X14_bitsOfItems_12 : ∀ (n : Nat) (x1 : Int) (x2 : Int) (x3 : Int) (s : vS), PR (W_l_X14_bitsOfItems_12) s (Sum.elim (fun q => q) (fun q => q.2)) (l_X14_bitsOfItems_12 n x1 x2 x3 s)
  := by
  intro n
  induction n with
  | zero => intro x1 x2 x3 s; exact PR.none
  | succ n ih =>
    intro x1 x2 x3 s
    unfold l_X14_bitsOfItems_12
    have Hs : Fr (W_l_X14_bitsOfItems_12) s s := Fr.rfl
    refine PR.gd ?_
    refine PR.gd ?_
    refine PR.ite (fun _ => ?_) (fun _ => ?_)
    · exact PR.some Hs
    · refine PR.gd ?_
      refine PR.ite (fun _ => ?_) (fun _ => ?_)
      · exact PR.tail Hs (fr_j_X14_bitsOfItems_62 (l_X14_bitsOfItems_12 n) ih x1 x2 x3 (-1) s)
      · refine PR.gd ?_
        refine PR.ite (fun _ => ?_) (fun _ => ?_)
        · refine PR.gd ?_
          refine PR.bd (PR.pure Hs (fr_f_X14_itemIn x2 (gE s 139 x3) s)) (fun r12 s9 Hs9 => ?_)
          exact PR.tail Hs9 (fr_j_X14_bitsOfItems_62 (l_X14_bitsOfItems_12 n) ih x1 x2 x3 r12 s9)
        · exact PR.tail Hs (fr_j_X14_bitsOfItems_62 (l_X14_bitsOfItems_12 n) ih x1 x2 x3 (-1) s)
def W_f_X14_bitsOfItems : List Nat := [87107, 162998, 162999]
theorem fr_f_X14_bitsOfItems (x1 : Int) (x2 : Int) (s : vS) : PR (W_f_X14_bitsOfItems) s (fun q => q.2) (f_X14_bitsOfItems x1 x2 s) := by
  unfold f_X14_bitsOfItems
  have Hs : Fr (W_f_X14_bitsOfItems) s s := Fr.rfl
  refine PR.stp (Fr.wI Hs (by decide +kernel)) (fun s1 Hs1 => ?_)
  refine PR.gd ?_
  refine PR.vl (fun y4 => ?_)
  refine PR.lqs_0 (PR.call Hs1 (fr_l_X14_bitsOfItems_12 FU x1 x2 y4 s1) (by decide +kernel)) (fun s7 Hs7 => ?_) (fun q Hq => PR.some Hq)
  exact PR.some Hs7
def W_l_X14_textOf_14 : List Nat := [87105, 161998, 161999]
theorem fr_l_X14_textOf_14 : ∀ (n : Nat) (x1 : Int) (x2 : Int) (s : vS), PR (W_l_X14_textOf_14) s (fun q => q) (l_X14_textOf_14 n x1 x2 s)
  := by
  intro n
  induction n with
  | zero => intro x1 x2 s; exact PR.none
  | succ n ih =>
    intro x1 x2 s
    unfold l_X14_textOf_14
    have Hs : Fr (W_l_X14_textOf_14) s s := Fr.rfl
    refine PR.gd ?_
    refine PR.ite (fun _ => ?_) (fun _ => ?_)
    · exact PR.some Hs
    · refine PR.gd ?_
      refine PR.bdv (PR.call Hs (fr_f_X14_say (gE s 93 x2) s) (by decide +kernel)) (fun s4 Hs4 => ?_)
      refine PR.gd ?_
      refine PR.ite (fun _ => ?_) (fun _ => ?_)
      · refine PR.vl (fun y12 => ?_)
        exact PR.tail Hs4 (ih x1 y12 s4)
      · refine PR.vl (fun y9 => ?_)
        exact PR.tail Hs4 (ih x1 y9 s4)
def W_f_X14_textOf : List Nat := [87105, 161998, 161999]
theorem fr_f_X14_textOf (x1 : Int) (s : vS) : PR (W_f_X14_textOf) s (fun q => q) (f_X14_textOf x1 s) := by
  unfold f_X14_textOf
  have Hs : Fr (W_f_X14_textOf) s s := Fr.rfl
  refine PR.stp (Fr.wI Hs (by decide +kernel)) (fun s1 Hs1 => ?_)
  refine PR.gd ?_
  refine PR.vl (fun y4 => ?_)
  refine PR.lq_0 (PR.call Hs1 (fr_l_X14_textOf_14 FU x1 y4 s1) (by decide +kernel)) (fun s7 Hs7 => ?_)
  exact PR.some Hs7
def W_l_X14_arcOf_13 : List Nat := []
theorem fr_l_X14_arcOf_13 : ∀ (n : Nat) (x1 : Int) (x2 : Int) (x3 : Int) (x4 : Int) (s : vS), PR (W_l_X14_arcOf_13) s (fun q => q.2) (l_X14_arcOf_13 n x1 x2 x3 x4 s)
  := by
  intro n
  induction n with
  | zero => intro x1 x2 x3 x4 s; exact PR.none
  | succ n ih =>
    intro x1 x2 x3 x4 s
    unfold l_X14_arcOf_13
    have Hs : Fr (W_l_X14_arcOf_13) s s := Fr.rfl
    refine PR.gd ?_
    refine PR.ite (fun _ => ?_) (fun _ => ?_)
    · exact PR.some Hs
    · refine PR.gd ?_
      refine PR.gd ?_
      refine PR.ite (fun _ => ?_) (fun _ => ?_)
      · exact PR.some Hs
      · refine PR.gd ?_
        refine PR.gd ?_
        refine PR.gd ?_
        refine PR.ite (fun _ => ?_) (fun _ => ?_)
        · refine PR.vl (fun y10 => ?_)
          exact PR.tail Hs (ih x1 x2 x3 y10 s)
        · exact PR.some Hs
def W_l_X14_arcOf_112 : List Nat := []
theorem fr_l_X14_arcOf_112 : ∀ (n : Nat) (x1 : Int) (x2 : Int) (x3 : Int) (s : vS), PR (W_l_X14_arcOf_112) s (fun q => q.2) (l_X14_arcOf_112 n x1 x2 x3 s)
  := by
  intro n
  induction n with
  | zero => intro x1 x2 x3 s; exact PR.none
  | succ n ih =>
    intro x1 x2 x3 s
    unfold l_X14_arcOf_112
    have Hs : Fr (W_l_X14_arcOf_112) s s := Fr.rfl
    refine PR.gd ?_
    refine PR.ite (fun _ => ?_) (fun _ => ?_)
    · exact PR.some Hs
    · refine PR.vl (fun y3 => ?_)
      exact PR.tail Hs (ih x1 y3 x3 s)
def W_l_X14_arcOf_4 : List Nat := []
theorem fr_j_X14_arcOf_75 (rec : Int → Int → Int → vS → Option ((vS) ⊕ (Int × vS))) (hrec : ∀ (y0 : Int) (y1 : Int) (y2 : Int) (s : vS), PR (W_l_X14_arcOf_4) s (Sum.elim (fun q => q) (fun q => q.2)) (rec y0 y1 y2 s)) (x1 : Int) (x2 : Int) (x3 : Int) (x4 : Int) (s : vS) : PR (W_l_X14_arcOf_4) s (Sum.elim (fun q => q) (fun q => q.2)) (j_X14_arcOf_75 rec x1 x2 x3 x4 s) := by
  unfold j_X14_arcOf_75
  have Hs : Fr (W_l_X14_arcOf_4) s s := Fr.rfl
  refine PR.gd ?_
  refine PR.ite (fun _ => ?_) (fun _ => ?_)
  · refine PR.gd ?_
    refine PR.gd ?_
    refine PR.ite (fun _ => ?_) (fun _ => ?_)
    · refine PR.gd ?_
      exact PR.some Hs
    · refine PR.lq_1 (PR.pure Hs (fr_l_X14_arcOf_112 FU x1 x2 x3 s)) (fun y16 s17 Hs17 => ?_)
      refine PR.vl (fun y20 => ?_)
      refine PR.vl (fun y23 => ?_)
      exact PR.tail Hs17 (hrec x1 y20 y23 s17)
  · refine PR.lq_1 (PR.pure Hs (fr_l_X14_arcOf_112 FU x1 x2 x3 s)) (fun y3 s4 Hs4 => ?_)
    refine PR.vl (fun y7 => ?_)
    refine PR.vl (fun y10 => ?_)
    exact PR.tail Hs4 (hrec x1 y7 y10 s4)
theorem fr_l_X14_arcOf_4 : ∀ (n : Nat) (x1 : Int) (x2 : Int) (x3 : Int) (s : vS), PR (W_l_X14_arcOf_4) s (Sum.elim (fun q => q) (fun q => q.2)) (l_X14_arcOf_4 n x1 x2 x3 s)
  := by
  intro n
  induction n with
  | zero => intro x1 x2 x3 s; exact PR.none
  | succ n ih =>
    intro x1 x2 x3 s
    unfold l_X14_arcOf_4
    have Hs : Fr (W_l_X14_arcOf_4) s s := Fr.rfl
    refine PR.ite (fun _ => ?_) (fun _ => ?_)
    · exact PR.some Hs
    · refine PR.lq_1 (PR.pure Hs (fr_l_X14_arcOf_13 FU x1 x2 x3 0 s)) (fun y2 s3 Hs3 => ?_)
      exact PR.tail Hs3 (fr_j_X14_arcOf_75 (l_X14_arcOf_4 n) ih x1 x2 x3 y2 s3)
def W_f_X14_arcOf : List Nat := []
theorem fr_f_X14_arcOf (x1 : Int) (s : vS) : PR (W_f_X14_arcOf) s (fun q => q.2) (f_X14_arcOf x1 s) := by
  unfold f_X14_arcOf
  have Hs : Fr (W_f_X14_arcOf) s s := Fr.rfl
  refine PR.lqs_0 (PR.pure Hs (fr_l_X14_arcOf_4 FU x1 0 0 s)) (fun s1 Hs1 => ?_) (fun q Hq => PR.some Hq)
  exact PR.some Hs1
def W_l_X14_saySevens_25 : List Nat := [152999]
theorem fr_l_X14_saySevens_25 : ∀ (n : Nat) (x1 : Int) (x3 : Int) (x4 : Int) (x5 : Int) (s : vS), PR (W_l_X14_saySevens_25) s (fun q => q.2) (l_X14_saySevens_25 n x1 x3 x4 x5 s)
  := by
  intro n
  induction n with
  | zero => intro x1 x3 x4 x5 s; exact PR.none
  | succ n ih =>
    intro x1 x3 x4 x5 s
    unfold l_X14_saySevens_25
    have Hs : Fr (W_l_X14_saySevens_25) s s := Fr.rfl
    refine PR.ite (fun _ => ?_) (fun _ => ?_)
    · exact PR.some Hs
    · refine PR.gd ?_
      refine PR.gd ?_
      refine PR.vl (fun y4 => ?_)
      refine PR.gd ?_
      refine PR.stp (Fr.wE Hs (by decide +kernel)) (fun s8 Hs8 => ?_)
      refine PR.vl (fun y10 => ?_)
      refine PR.vl (fun y13 => ?_)
      exact PR.tail Hs8 (ih x1 x3 y10 y13 s8)
def W_l_X14_saySevens_107 : List Nat := []
theorem fr_l_X14_saySevens_107 : ∀ (n : Nat) (x5 : Int) (s : vS), PR (W_l_X14_saySevens_107) s (fun q => q.2) (l_X14_saySevens_107 n x5 s)
  := by
  intro n
  induction n with
  | zero => intro x5 s; exact PR.none
  | succ n ih =>
    intro x5 s
    unfold l_X14_saySevens_107
    have Hs : Fr (W_l_X14_saySevens_107) s s := Fr.rfl
    refine PR.ite (fun _ => ?_) (fun _ => ?_)
    · exact PR.some Hs
    · refine PR.gd ?_
      refine PR.ite (fun _ => ?_) (fun _ => ?_)
      · refine PR.vl (fun y4 => ?_)
        exact PR.tail Hs (ih y4 s)
      · exact PR.some Hs
def W_l_X14_saySevens_158 : List Nat := []
theorem fr_l_X14_saySevens_158 : ∀ (n : Nat) (x6 : Int) (x7 : Int) (x8 : Int) (s : vS), PR (W_l_X14_saySevens_158) s (fun q => q.2) (l_X14_saySevens_158 n x6 x7 x8 s)
  := by
  intro n
  induction n with
  | zero => intro x6 x7 x8 s; exact PR.none
  | succ n ih =>
    intro x6 x7 x8 s
    unfold l_X14_saySevens_158
    have Hs : Fr (W_l_X14_saySevens_158) s s := Fr.rfl
    refine PR.ite (fun _ => ?_) (fun _ => ?_)
    · exact PR.some Hs
    · refine PR.gd ?_
      refine PR.vl (fun y3 => ?_)
      refine PR.vl (fun y6 => ?_)
      exact PR.tail Hs (ih x6 y3 y6 s)
def W_l_X14_saySevens_146 : List Nat := [87105, 161998, 161999]
theorem fr_j_X14_saySevens_223 (rec : Int → vS → Option (vS)) (hrec : ∀ (y0 : Int) (s : vS), PR (W_l_X14_saySevens_146) s (fun q => q) (rec y0 s)) (x6 : Int) (z1 : Int) (s : vS) : PR (W_l_X14_saySevens_146) s (fun q => q) (j_X14_saySevens_223 rec x6 z1 s) := by
  unfold j_X14_saySevens_223
  have Hs : Fr (W_l_X14_saySevens_146) s s := Fr.rfl
  refine PR.bdv (PR.call Hs (fr_f_X14_say z1 s) (by decide +kernel)) (fun s1 Hs1 => ?_)
  refine PR.vl (fun y4 => ?_)
  exact PR.tail Hs1 (hrec y4 s1)
theorem fr_l_X14_saySevens_146 : ∀ (n : Nat) (x6 : Int) (s : vS), PR (W_l_X14_saySevens_146) s (fun q => q) (l_X14_saySevens_146 n x6 s)
  := by
  intro n
  induction n with
  | zero => intro x6 s; exact PR.none
  | succ n ih =>
    intro x6 s
    unfold l_X14_saySevens_146
    have Hs : Fr (W_l_X14_saySevens_146) s s := Fr.rfl
    refine PR.ite (fun _ => ?_) (fun _ => ?_)
    · exact PR.some Hs
    · refine PR.lq_1 (PR.pure Hs (fr_l_X14_saySevens_158 FU x6 0 6 s)) (fun y2 s3 Hs3 => ?_)
      refine PR.ite (fun _ => ?_) (fun _ => ?_)
      · exact PR.tail Hs3 (fr_j_X14_saySevens_223 (l_X14_saySevens_146 n) ih x6 y2 s3)
      · exact PR.tail Hs3 (fr_j_X14_saySevens_223 (l_X14_saySevens_146 n) ih x6 (or32 y2 128) s3)
def W_f_X14_saySevens : List Nat := [87105, 152998, 152999, 161998, 161999]
theorem fr_f_X14_saySevens (x1 : Int) (x2 : Int) (s : vS) : PR (W_f_X14_saySevens) s (fun q => q) (f_X14_saySevens x1 x2 s) := by
  unfold f_X14_saySevens
  have Hs : Fr (W_f_X14_saySevens) s s := Fr.rfl
  refine PR.gd ?_
  refine PR.bdv (PR.call Hs (fr_f_X14_roomForDigits (w32 ((gE s 148 x1) + 4)) s) (by decide +kernel)) (fun s2 Hs2 => ?_)
  refine PR.gd ?_
  refine PR.vl (fun y6 => ?_)
  refine PR.lq_1 (PR.call Hs2 (fr_l_X14_saySevens_25 FU x1 y6 x2 0 s2) (by decide +kernel)) (fun y9 s10 Hs10 => ?_)
  refine PR.gd ?_
  refine PR.stp (Fr.wE Hs10 (by decide +kernel)) (fun s14 Hs14 => ?_)
  refine PR.gd ?_
  refine PR.stp (Fr.wE Hs14 (by decide +kernel)) (fun s17 Hs17 => ?_)
  refine PR.vl (fun y19 => ?_)
  refine PR.lq_1 (PR.pure Hs17 (fr_l_X14_saySevens_107 FU y19 s17)) (fun y22 s23 Hs23 => ?_)
  refine PR.vl (fun y26 => ?_)
  refine PR.lq_0 (PR.call Hs23 (fr_l_X14_saySevens_146 FU y26 s23) (by decide +kernel)) (fun s29 Hs29 => ?_)
  exact PR.some Hs29
def W_l_X14_objectOf_75 : List Nat := []
theorem fr_l_X14_objectOf_75 : ∀ (n : Nat) (x2 : Int) (x3 : Int) (x4 : Int) (x5 : Int) (s : vS), PR (W_l_X14_objectOf_75) s (Sum.elim (fun q => q) (fun q => q.2)) (l_X14_objectOf_75 n x2 x3 x4 x5 s)
  := by
  intro n
  induction n with
  | zero => intro x2 x3 x4 x5 s; exact PR.none
  | succ n ih =>
    intro x2 x3 x4 x5 s
    unfold l_X14_objectOf_75
    have Hs : Fr (W_l_X14_objectOf_75) s s := Fr.rfl
    refine PR.ite (fun _ => ?_) (fun _ => ?_)
    · exact PR.some Hs
    · refine PR.gd ?_
      refine PR.ite (fun _ => ?_) (fun _ => ?_)
      · refine PR.vl (fun y4 => ?_)
        exact PR.tail Hs (ih x2 x3 x4 y4 s)
      · exact PR.some Hs
def W_l_X14_objectOf_161 : List Nat := [87084, 87085, 87105, 147998, 147999, 148998, 148999, 149998, 149999, 150999, 151999, 152998, 152999, 161998, 161999]
theorem fr_l_X14_objectOf_161 : ∀ (n : Nat) (x2 : Int) (x3 : Int) (x5 : Int) (s : vS), PR (W_l_X14_objectOf_161) s (fun q => q) (l_X14_objectOf_161 n x2 x3 x5 s)
  := by
  intro n
  induction n with
  | zero => intro x2 x3 x5 s; exact PR.none
  | succ n ih =>
    intro x2 x3 x5 s
    unfold l_X14_objectOf_161
    have Hs : Fr (W_l_X14_objectOf_161) s s := Fr.rfl
    refine PR.ite (fun _ => ?_) (fun _ => ?_)
    · exact PR.some Hs
    · refine PR.gd ?_
      refine PR.bd (PR.call Hs (fr_f_X14_numberOf (gE s 140 (w32 (x3 + x5))) 0 s) (by decide +kernel)) (fun r6 s3 Hs3 => ?_)
      refine PR.bdv (PR.call Hs3 (fr_f_X14_saySevens r6 0 s3) (by decide +kernel)) (fun s8 Hs8 => ?_)
      refine PR.vl (fun y11 => ?_)
      exact PR.tail Hs8 (ih x2 x3 y11 s8)
def W_j_X14_objectOf_131 : List Nat := [87084, 87085, 87105, 147998, 147999, 148998, 148999, 149998, 149999, 150999, 151999, 152998, 152999, 161998, 161999]
theorem fr_j_X14_objectOf_131 (x2 : Int) (x3 : Int) (x4 : Int) (s : vS) : PR (W_j_X14_objectOf_131) s (fun q => q.2) (j_X14_objectOf_131 x2 x3 x4 s) := by
  unfold j_X14_objectOf_131
  have Hs : Fr (W_j_X14_objectOf_131) s s := Fr.rfl
  refine PR.stp (Fr.wI Hs (by decide +kernel)) (fun s1 Hs1 => ?_)
  refine PR.gd ?_
  refine PR.bd (PR.call Hs1 (fr_f_X14_numberOf (gE s1 140 (w32 (x3 + 1))) 0 s1) (by decide +kernel)) (fun r7 s4 Hs4 => ?_)
  refine PR.bdv (PR.call Hs4 (fr_f_X14_saySevens r7 (w32 (40 * x4)) s4) (by decide +kernel)) (fun s9 Hs9 => ?_)
  refine PR.lq_0 (PR.call Hs9 (fr_l_X14_objectOf_161 FU x2 x3 2 s9) (by decide +kernel)) (fun s12 Hs12 => ?_)
  exact PR.some Hs12
def W_j_X14_objectOf_58 : List Nat := [87084, 87085, 87105, 147998, 147999, 148998, 148999, 149998, 149999, 150999, 151999, 152998, 152999, 161998, 161999]
theorem fr_j_X14_objectOf_58 (x2 : Int) (x3 : Int) (z0 : Int) (s : vS) : PR (W_j_X14_objectOf_58) s (fun q => q.2) (j_X14_objectOf_58 x2 x3 z0 s) := by
  unfold j_X14_objectOf_58
  have Hs : Fr (W_j_X14_objectOf_58) s s := Fr.rfl
  refine PR.bd (PR.pure Hs (fr_f_X14_within z0 0 2 s)) (fun r4 s1 Hs1 => ?_)
  refine PR.ite (fun _ => ?_) (fun _ => ?_)
  · exact PR.some Hs1
  · refine PR.lqs_0 (PR.pure Hs1 (fr_l_X14_objectOf_75 FU x2 x3 z0 1 s1)) (fun s7 Hs7 => ?_) (fun q Hq => PR.some Hq)
    refine PR.ite (fun _ => ?_) (fun _ => ?_)
    · exact PR.call Hs7 (fr_j_X14_objectOf_131 x2 x3 z0 s7) (by decide +kernel)
    · refine PR.gd ?_
      refine PR.bd (PR.call Hs7 (fr_f_X14_numberOf (gE s7 140 (w32 (x3 + 1))) 0 s7) (by decide +kernel)) (fun r14 s11 Hs11 => ?_)
      refine PR.bd (PR.pure Hs11 (fr_f_X14_asInt r14 s11)) (fun r19 s16 Hs16 => ?_)
      refine PR.ite (fun _ => ?_) (fun _ => ?_)
      · exact PR.call Hs16 (fr_j_X14_objectOf_131 x2 x3 z0 s16) (by decide +kernel)
      · exact PR.some Hs16
def W_f_X14_objectOf : List Nat := [87084, 87085, 87105, 147998, 147999, 148998, 148999, 149998, 149999, 150999, 151999, 152998, 152999, 161998, 161999]
theorem fr_f_X14_objectOf (x1 : Int) (s : vS) : PR (W_f_X14_objectOf) s (fun q => q.2) (f_X14_objectOf x1 s) := by
  unfold f_X14_objectOf
  have Hs : Fr (W_f_X14_objectOf) s s := Fr.rfl
  refine PR.gd ?_
  refine PR.vl (fun y2 => ?_)
  refine PR.ite (fun _ => ?_) (fun _ => ?_)
  · refine PR.gd ?_
    refine PR.vl (fun y7 => ?_)
    refine PR.gd ?_
    refine PR.ite (fun _ => ?_) (fun _ => ?_)
    · refine PR.gd ?_
      refine PR.bd (PR.pure Hs (fr_f_X14_arcOf (gE s 139 y7) s)) (fun r16 s13 Hs13 => ?_)
      exact PR.call Hs13 (fr_j_X14_objectOf_58 y2 y7 r16 s13) (by decide +kernel)
    · refine PR.gd ?_
      refine PR.bd (PR.call Hs (fr_f_X14_numberOf (gE s 140 y7) 0 s) (by decide +kernel)) (fun r22 s19 Hs19 => ?_)
      refine PR.bd (PR.pure Hs19 (fr_f_X14_asInt r22 s19)) (fun r27 s24 Hs24 => ?_)
      exact PR.call Hs24 (fr_j_X14_objectOf_58 y2 y7 r27 s24) (by decide +kernel)
  · exact PR.some Hs
def W_l_X14_allMayMiss_9 : List Nat := []
theorem fr_l_X14_allMayMiss_9 : ∀ (n : Nat) (x2 : Int) (x3 : Int) (s : vS), PR (W_l_X14_allMayMiss_9) s (fun q => q.2) (l_X14_allMayMiss_9 n x2 x3 s)
  := by
  intro n
  induction n with
  | zero => intro x2 x3 s; exact PR.none
  | succ n ih =>
    intro x2 x3 s
    unfold l_X14_allMayMiss_9
    have Hs : Fr (W_l_X14_allMayMiss_9) s s := Fr.rfl
    refine PR.ite (fun _ => ?_) (fun _ => ?_)
    · exact PR.some Hs
    · refine PR.ite (fun _ => ?_) (fun _ => ?_)
      · refine PR.gd ?_
        refine PR.vl (fun y4 => ?_)
        exact PR.tail Hs (ih 0 y4 s)
      · refine PR.gd ?_
        refine PR.ite (fun _ => ?_) (fun _ => ?_)
        · refine PR.gd ?_
          refine PR.vl (fun y10 => ?_)
          exact PR.tail Hs (ih 0 y10 s)
        · refine PR.gd ?_
          refine PR.vl (fun y14 => ?_)
          exact PR.tail Hs (ih 1 y14 s)
def W_f_X14_allMayMiss : List Nat := []
theorem fr_f_X14_allMayMiss (x1 : Int) (s : vS) : PR (W_f_X14_allMayMiss) s (fun q => q.2) (f_X14_allMayMiss x1 s) := by
  unfold f_X14_allMayMiss
  have Hs : Fr (W_f_X14_allMayMiss) s s := Fr.rfl
  refine PR.gd ?_
  refine PR.vl (fun y2 => ?_)
  refine PR.lq_1 (PR.pure Hs (fr_l_X14_allMayMiss_9 FU 1 y2 s)) (fun y5 s6 Hs6 => ?_)
  refine PR.gd ?_
  exact PR.some Hs6
def W_f_X14_isFew : List Nat := []
theorem fr_f_X14_isFew (x1 : Int) (s : vS) : PR (W_f_X14_isFew) s (fun q => q.2) (f_X14_isFew x1 s) := by
  unfold f_X14_isFew
  have Hs : Fr (W_f_X14_isFew) s s := Fr.rfl
  refine PR.gd ?_
  refine PR.ite (fun _ => ?_) (fun _ => ?_)
  · exact PR.some Hs
  · refine PR.ite (fun _ => ?_) (fun _ => ?_)
    · exact PR.some Hs
    · exact PR.some Hs
def W_l_X14_characters_54 : List Nat := []
theorem fr_l_X14_characters_54 : ∀ (n : Nat) (x2 : Int) (x3 : Int) (x4 : Int) (x5 : Int) (s : vS), PR (W_l_X14_characters_54) s (fun q => q.2) (l_X14_characters_54 n x2 x3 x4 x5 s)
  := by
  intro n
  induction n with
  | zero => intro x2 x3 x4 x5 s; exact PR.none
  | succ n ih =>
    intro x2 x3 x4 x5 s
    unfold l_X14_characters_54
    have Hs : Fr (W_l_X14_characters_54) s s := Fr.rfl
    refine PR.ite (fun _ => ?_) (fun _ => ?_)
    · exact PR.some Hs
    · refine PR.ite (fun _ => ?_) (fun _ => ?_)
      · refine PR.vl (fun y3 => ?_)
        exact PR.tail Hs (ih x2 x3 0 y3 s)
      · refine PR.ite (fun _ => ?_) (fun _ => ?_)
        · refine PR.gd ?_
          refine PR.bd (PR.pure Hs (fr_f_X14_isPrintable (gE s 161 x5) s)) (fun r14 s11 Hs11 => ?_)
          refine PR.ite (fun _ => ?_) (fun _ => ?_)
          · refine PR.vl (fun y17 => ?_)
            exact PR.tail Hs11 (ih x2 x3 0 y17 s11)
          · refine PR.vl (fun y20 => ?_)
            exact PR.tail Hs11 (ih x2 x3 1 y20 s11)
        · refine PR.vl (fun y7 => ?_)
          exact PR.tail Hs (ih x2 x3 1 y7 s)
def W_f_X14_characters : List Nat := [87084, 87085, 87105, 87118, 87119, 87120, 87121, 87122, 87123, 87124, 87125, 147998, 147999, 148998, 148999, 149998, 149999, 161998, 161999, 170998, 170999]
theorem fr_f_X14_characters (x1 : Int) (x2 : Int) (x3 : Int) (s : vS) : PR (W_f_X14_characters) s (fun q => q.2) (f_X14_characters x1 x2 x3 s) := by
  unfold f_X14_characters
  have Hs : Fr (W_f_X14_characters) s s := Fr.rfl
  refine PR.gd ?_
  refine PR.bdv (PR.call Hs (fr_f_X14_textOf (gE s 134 x1) s) (by decide +kernel)) (fun s2 Hs2 => ?_)
  refine PR.ite (fun _ => ?_) (fun _ => ?_)
  · refine PR.bd (PR.call Hs2 (fr_f_X14_utcTime s2) (by decide +kernel)) (fun r27 s24 Hs24 => ?_)
    refine PR.ite (fun _ => ?_) (fun _ => ?_)
    · exact PR.some Hs24
    · exact PR.some Hs24
  · refine PR.ite (fun _ => ?_) (fun _ => ?_)
    · refine PR.bd (PR.call Hs2 (fr_f_X14_generalTime s2) (by decide +kernel)) (fun r21 s18 Hs18 => ?_)
      refine PR.ite (fun _ => ?_) (fun _ => ?_)
      · exact PR.some Hs18
      · exact PR.some Hs18
    · refine PR.lq_1 (PR.pure Hs2 (fr_l_X14_characters_54 FU x2 x3 1 0 s2)) (fun y7 s8 Hs8 => ?_)
      refine PR.ite (fun _ => ?_) (fun _ => ?_)
      · exact PR.some Hs8
      · refine PR.bd (PR.call Hs8 (fr_f_X14_holdsSize x2 (gI s8 87 105) s8) (by decide +kernel)) (fun r15 s12 Hs12 => ?_)
        refine PR.ite (fun _ => ?_) (fun _ => ?_)
        · exact PR.some Hs12
        · exact PR.some Hs12
def W_j_X14_literal_178 : List Nat := [87105, 161998, 161999]
theorem fr_j_X14_literal_178 (x2 : Int) (x4 : Int) (z0 : Int) (s : vS) : PR (W_j_X14_literal_178) s (fun q => q.2) (j_X14_literal_178 x2 x4 z0 s) := by
  unfold j_X14_literal_178
  have Hs : Fr (W_j_X14_literal_178) s s := Fr.rfl
  refine PR.ite (fun _ => ?_) (fun _ => ?_)
  · refine PR.bdv (PR.call Hs (fr_f_X14_sayNumber z0 s) (by decide +kernel)) (fun s2 Hs2 => ?_)
    refine PR.ite (fun _ => ?_) (fun _ => ?_)
    · exact PR.some Hs2
    · refine PR.bd (PR.pure Hs2 (fr_f_X14_holds x2 z0 0 s2)) (fun r9 s6 Hs6 => ?_)
      refine PR.ite (fun _ => ?_) (fun _ => ?_)
      · exact PR.some Hs6
      · exact PR.some Hs6
  · exact PR.some Hs
def W_j_X14_literal_129 : List Nat := [87084, 87085, 87105, 147998, 147999, 148998, 148999, 149998, 149999, 150999, 151999, 152998, 152999, 161998, 161999]
theorem fr_j_X14_literal_129 (x1 : Int) (x2 : Int) (x4 : Int) (x5 : Int) (z0 : Int) (s : vS) : PR (W_j_X14_literal_129) s (fun q => q.2) (j_X14_literal_129 x1 x2 x4 x5 z0 s) := by
  unfold j_X14_literal_129
  have Hs : Fr (W_j_X14_literal_129) s s := Fr.rfl
  refine PR.ite (fun _ => ?_) (fun _ => ?_)
  · refine PR.ite (fun _ => ?_) (fun _ => ?_)
    · refine PR.ite (fun _ => ?_) (fun _ => ?_)
      · refine PR.gd ?_
        refine PR.gd ?_
        refine PR.bd (PR.call Hs (fr_f_X14_numberOf (gE s 134 x1) (gZ s 135 x1) s) (by decide +kernel)) (fun r9 s6 Hs6 => ?_)
        exact PR.call Hs6 (fr_j_X14_literal_178 x2 x4 r9 s6) (by decide +kernel)
      · exact PR.call Hs (fr_j_X14_literal_178 x2 x4 (-1) s) (by decide +kernel)
    · exact PR.call Hs (fr_j_X14_literal_178 x2 x4 (-1) s) (by decide +kernel)
  · refine PR.gd ?_
    exact PR.call Hs (fr_j_X14_literal_178 x2 x4 (gE s 115 z0) s) (by decide +kernel)
def W_j_X14_literal_108 : List Nat := [87084, 87085, 87105, 147998, 147999, 148998, 148999, 149998, 149999, 150999, 151999, 152998, 152999, 161998, 161999]
theorem fr_j_X14_literal_108 (x1 : Int) (x2 : Int) (x3 : Int) (x4 : Int) (x5 : Int) (s : vS) : PR (W_j_X14_literal_108) s (fun q => q.2) (j_X14_literal_108 x1 x2 x3 x4 x5 s) := by
  unfold j_X14_literal_108
  have Hs : Fr (W_j_X14_literal_108) s s := Fr.rfl
  refine PR.ite (fun _ => ?_) (fun _ => ?_)
  · refine PR.gd ?_
    refine PR.bd (PR.pure Hs (fr_f_X14_itemIn x3 (gE s 134 x1) s)) (fun r6 s3 Hs3 => ?_)
    exact PR.call Hs3 (fr_j_X14_literal_129 x1 x2 x4 x5 r6 s3) (by decide +kernel)
  · exact PR.call Hs (fr_j_X14_literal_129 x1 x2 x4 x5 (-1) s) (by decide +kernel)
def W_j_X14_literal_510 : List Nat := []
theorem fr_j_X14_literal_510 (x3 : Int) (s : vS) : PR (W_j_X14_literal_510) s (fun q => q.2) (j_X14_literal_510 x3 s) := by
  unfold j_X14_literal_510
  have Hs : Fr (W_j_X14_literal_510) s s := Fr.rfl
  refine PR.bd (PR.pure Hs (fr_f_X14_allMayMiss x3 s)) (fun r4 s1 Hs1 => ?_)
  refine PR.gd ?_
  exact PR.some Hs1
def W_j_X14_literal_471 : List Nat := [87084, 87085, 147998, 147999, 148998, 148999, 149998, 149999]
theorem fr_j_X14_literal_471 (x1 : Int) (x2 : Int) (x3 : Int) (x4 : Int) (x5 : Int) (s : vS) : PR (W_j_X14_literal_471) s (fun q => q.2) (j_X14_literal_471 x1 x2 x3 x4 x5 s) := by
  unfold j_X14_literal_471
  have Hs : Fr (W_j_X14_literal_471) s s := Fr.rfl
  refine PR.ite (fun _ => ?_) (fun _ => ?_)
  · exact PR.some Hs
  · refine PR.ite (fun _ => ?_) (fun _ => ?_)
    · refine PR.gd ?_
      refine PR.ite (fun _ => ?_) (fun _ => ?_)
      · refine PR.ite (fun _ => ?_) (fun _ => ?_)
        · exact PR.pure Hs (fr_j_X14_literal_510 x3 s)
        · refine PR.ite (fun _ => ?_) (fun _ => ?_)
          · exact PR.pure Hs (fr_j_X14_literal_510 x3 s)
          · refine PR.bd (PR.call Hs (fr_f_X14_holdsSize x2 0 s) (by decide +kernel)) (fun r10 s7 Hs7 => ?_)
            refine PR.gd ?_
            exact PR.some Hs7
      · exact PR.some Hs
    · exact PR.some Hs
def W_l_X14_literal_317 : List Nat := [87107, 162998, 162999]
theorem fr_l_X14_literal_317 : ∀ (n : Nat) (x2 : Int) (s : vS), PR (W_l_X14_literal_317) s (fun q => q) (l_X14_literal_317 n x2 s)
  := by
  intro n
  induction n with
  | zero => intro x2 s; exact PR.none
  | succ n ih =>
    intro x2 s
    unfold l_X14_literal_317
    have Hs : Fr (W_l_X14_literal_317) s s := Fr.rfl
    refine PR.ite (fun _ => ?_) (fun _ => ?_)
    · exact PR.some Hs
    · refine PR.bdv (PR.call Hs (fr_f_X14_sayBit 0 s) (by decide +kernel)) (fun s2 Hs2 => ?_)
      exact PR.tail Hs2 (ih x2 s2)
def W_l_X14_literal_353 : List Nat := []
theorem fr_l_X14_literal_353 : ∀ (n : Nat) (x2 : Int) (x6 : Int) (x7 : Int) (x8 : Int) (s : vS), PR (W_l_X14_literal_353) s (fun q => q.2) (l_X14_literal_353 n x2 x6 x7 x8 s)
  := by
  intro n
  induction n with
  | zero => intro x2 x6 x7 x8 s; exact PR.none
  | succ n ih =>
    intro x2 x6 x7 x8 s
    unfold l_X14_literal_353
    have Hs : Fr (W_l_X14_literal_353) s s := Fr.rfl
    refine PR.ite (fun _ => ?_) (fun _ => ?_)
    · exact PR.some Hs
    · refine PR.gd ?_
      refine PR.vl (fun y3 => ?_)
      refine PR.vl (fun y6 => ?_)
      exact PR.tail Hs (ih x2 x6 y3 y6 s)
def W_l_X14_literal_338 : List Nat := [87105, 161998, 161999]
theorem fr_l_X14_literal_338 : ∀ (n : Nat) (x2 : Int) (x6 : Int) (s : vS), PR (W_l_X14_literal_338) s (fun q => q) (l_X14_literal_338 n x2 x6 s)
  := by
  intro n
  induction n with
  | zero => intro x2 x6 s; exact PR.none
  | succ n ih =>
    intro x2 x6 s
    unfold l_X14_literal_338
    have Hs : Fr (W_l_X14_literal_338) s s := Fr.rfl
    refine PR.ite (fun _ => ?_) (fun _ => ?_)
    · exact PR.some Hs
    · refine PR.lq_1 (PR.pure Hs (fr_l_X14_literal_353 FU x2 x6 0 0 s)) (fun y2 s3 Hs3 => ?_)
      refine PR.bdv (PR.call Hs3 (fr_f_X14_say y2 s3) (by decide +kernel)) (fun s6 Hs6 => ?_)
      refine PR.vl (fun y9 => ?_)
      exact PR.tail Hs6 (ih x2 y9 s6)
def W_j_X14_literal_307 : List Nat := [87084, 87085, 87105, 87107, 147998, 147999, 148998, 148999, 149998, 149999, 161998, 161999, 162998, 162999]
theorem fr_j_X14_literal_307 (x1 : Int) (x2 : Int) (s : vS) : PR (W_j_X14_literal_307) s (fun q => q.2) (j_X14_literal_307 x1 x2 s) := by
  unfold j_X14_literal_307
  have Hs : Fr (W_j_X14_literal_307) s s := Fr.rfl
  refine PR.gd ?_
  refine PR.bdv (PR.call Hs (fr_f_X14_bitsOfText (gE s 134 x1) s) (by decide +kernel)) (fun s2 Hs2 => ?_)
  refine PR.lq_0 (PR.call Hs2 (fr_l_X14_literal_317 FU x2 s2) (by decide +kernel)) (fun s5 Hs5 => ?_)
  refine PR.lq_0 (PR.call Hs5 (fr_l_X14_literal_338 FU x2 0 s5) (by decide +kernel)) (fun s7 Hs7 => ?_)
  refine PR.bd (PR.call Hs7 (fr_f_X14_holdsSize x2 (gI s7 87 105) s7) (by decide +kernel)) (fun r12 s9 Hs9 => ?_)
  refine PR.gd ?_
  exact PR.some Hs9
def W_j_X14_literal_265 : List Nat := [87084, 87085, 87105, 87107, 87116, 147998, 147999, 148998, 148999, 149998, 149999, 161998, 161999, 162998, 162999, 169999]
theorem fr_j_X14_literal_265 (x2 : Int) (x3 : Int) (s : vS) : PR (W_j_X14_literal_265) s (fun q => q.2) (j_X14_literal_265 x2 x3 s) := by
  unfold j_X14_literal_265
  have Hs : Fr (W_j_X14_literal_265) s s := Fr.rfl
  refine PR.bd (PR.call Hs (fr_f_X14_writeBits x2 s) (by decide +kernel)) (fun r4 s1 Hs1 => ?_)
  refine PR.ite (fun _ => ?_) (fun _ => ?_)
  · exact PR.some Hs1
  · refine PR.bd (PR.pure Hs1 (fr_f_X14_isFew x3 s1)) (fun r10 s7 Hs7 => ?_)
    refine PR.ite (fun _ => ?_) (fun _ => ?_)
    · exact PR.some Hs7
    · exact PR.some Hs7
def W_j_X14_literal_234 : List Nat := [87084, 87085, 87105, 87107, 87116, 147998, 147999, 148998, 148999, 149998, 149999, 161998, 161999, 162998, 162999, 169999]
theorem fr_j_X14_literal_234 (x1 : Int) (x2 : Int) (x3 : Int) (s : vS) : PR (W_j_X14_literal_234) s (fun q => q.2) (j_X14_literal_234 x1 x2 x3 s) := by
  unfold j_X14_literal_234
  have Hs : Fr (W_j_X14_literal_234) s s := Fr.rfl
  refine PR.gd ?_
  refine PR.bdv (PR.call Hs (fr_f_X14_bitsOfText (gE s 134 x1) s) (by decide +kernel)) (fun s2 Hs2 => ?_)
  exact PR.call Hs2 (fr_j_X14_literal_265 x2 x3 s2) (by decide +kernel)
def W_j_X14_literal_54 : List Nat := [87105, 161998, 161999]
theorem fr_j_X14_literal_54 (x5 : Int) (z1 : Int) (s : vS) : PR (W_j_X14_literal_54) s (fun q => q.2) (j_X14_literal_54 x5 z1 s) := by
  unfold j_X14_literal_54
  have Hs : Fr (W_j_X14_literal_54) s s := Fr.rfl
  refine PR.bdv (PR.call Hs (fr_f_X14_say z1 s) (by decide +kernel)) (fun s1 Hs1 => ?_)
  refine PR.ite (fun _ => ?_) (fun _ => ?_)
  · exact PR.some Hs1
  · refine PR.ite (fun _ => ?_) (fun _ => ?_)
    · exact PR.some Hs1
    · exact PR.some Hs1
def W_f_X14_literal : List Nat := [87084, 87085, 87105, 87107, 87116, 87118, 87119, 87120, 87121, 87122, 87123, 87124, 87125, 147998, 147999, 148998, 148999, 149998, 149999, 150999, 151999, 152998, 152999, 161998, 161999, 162998, 162999, 169999, 170998, 170999]
theorem fr_f_X14_literal (x1 : Int) (s : vS) : PR (W_f_X14_literal) s (fun q => q.2) (f_X14_literal x1 s) := by
  unfold f_X14_literal
  have Hs : Fr (W_f_X14_literal) s s := Fr.rfl
  refine PR.gd ?_
  refine PR.vl (fun y2 => ?_)
  refine PR.bd (PR.pure Hs (fr_f_X14_root y2 s)) (fun r8 s5 Hs5 => ?_)
  refine PR.gd ?_
  refine PR.vl (fun y11 => ?_)
  refine PR.gd ?_
  refine PR.vl (fun y15 => ?_)
  refine PR.stp (Fr.wI Hs5 (by decide +kernel)) (fun s18 Hs18 => ?_)
  refine PR.ite (fun _ => ?_) (fun _ => ?_)
  · refine PR.ite (fun _ => ?_) (fun _ => ?_)
    · exact PR.call Hs18 (fr_j_X14_literal_54 y15 255 s18) (by decide +kernel)
    · exact PR.call Hs18 (fr_j_X14_literal_54 y15 0 s18) (by decide +kernel)
  · refine PR.ite (fun _ => ?_) (fun _ => ?_)
    · refine PR.ite (fun _ => ?_) (fun _ => ?_)
      · exact PR.some Hs18
      · exact PR.some Hs18
    · refine PR.ite (fun _ => ?_) (fun _ => ?_)
      · exact PR.call Hs18 (fr_j_X14_literal_108 x1 y2 r8 y11 y15 s18) (by decide +kernel)
      · refine PR.ite (fun _ => ?_) (fun _ => ?_)
        · exact PR.call Hs18 (fr_j_X14_literal_108 x1 y2 r8 y11 y15 s18) (by decide +kernel)
        · refine PR.ite (fun _ => ?_) (fun _ => ?_)
          · refine PR.ite (fun _ => ?_) (fun _ => ?_)
            · exact PR.call Hs18 (fr_j_X14_literal_234 x1 y2 r8 s18) (by decide +kernel)
            · refine PR.ite (fun _ => ?_) (fun _ => ?_)
              · exact PR.call Hs18 (fr_j_X14_literal_234 x1 y2 r8 s18) (by decide +kernel)
              · refine PR.ite (fun _ => ?_) (fun _ => ?_)
                · refine PR.bd (PR.call Hs18 (fr_f_X14_bitsOfItems x1 r8 s18) (by decide +kernel)) (fun r51 s48 Hs48 => ?_)
                  refine PR.ite (fun _ => ?_) (fun _ => ?_)
                  · exact PR.some Hs48
                  · exact PR.call Hs48 (fr_j_X14_literal_265 y2 r8 s48) (by decide +kernel)
                · exact PR.some Hs18
          · refine PR.ite (fun _ => ?_) (fun _ => ?_)
            · refine PR.ite (fun _ => ?_) (fun _ => ?_)
              · exact PR.call Hs18 (fr_j_X14_literal_307 x1 y2 s18) (by decide +kernel)
              · refine PR.ite (fun _ => ?_) (fun _ => ?_)
                · exact PR.call Hs18 (fr_j_X14_literal_307 x1 y2 s18) (by decide +kernel)
                · exact PR.some Hs18
            · refine PR.ite (fun _ => ?_) (fun _ => ?_)
              · refine PR.ite (fun _ => ?_) (fun _ => ?_)
                · refine PR.bd (PR.call Hs18 (fr_f_X14_objectOf x1 s18) (by decide +kernel)) (fun r40 s37 Hs37 => ?_)
                  refine PR.ite (fun _ => ?_) (fun _ => ?_)
                  · exact PR.some Hs37
                  · exact PR.some Hs37
                · exact PR.some Hs18
              · refine PR.ite (fun _ => ?_) (fun _ => ?_)
                · exact PR.call Hs18 (fr_j_X14_literal_471 x1 y2 r8 y11 y15 s18) (by decide +kernel)
                · refine PR.ite (fun _ => ?_) (fun _ => ?_)
                  · exact PR.call Hs18 (fr_j_X14_literal_471 x1 y2 r8 y11 y15 s18) (by decide +kernel)
                  · refine PR.ite (fun _ => ?_) (fun _ => ?_)
                    · refine PR.bd (PR.call Hs18 (fr_f_X14_characters x1 y2 y11 s18) (by decide +kernel)) (fun r33 s30 Hs30 => ?_)
                      refine PR.ite (fun _ => ?_) (fun _ => ?_)
                      · exact PR.some Hs30
                      · exact PR.some Hs30
                    · exact PR.some Hs18
def W_l_X14_derived_53 : List Nat := [87105, 161998, 161999]
theorem fr_l_X14_derived_53 : ∀ (n : Nat) (x2 : Int) (x3 : Int) (x4 : Int) (x5 : Int) (x6 : Int) (s : vS), PR (W_l_X14_derived_53) s (fun q => q) (l_X14_derived_53 n x2 x3 x4 x5 x6 s)
  := by
  intro n
  induction n with
  | zero => intro x2 x3 x4 x5 x6 s; exact PR.none
  | succ n ih =>
    intro x2 x3 x4 x5 x6 s
    unfold l_X14_derived_53
    have Hs : Fr (W_l_X14_derived_53) s s := Fr.rfl
    refine PR.gd ?_
    refine PR.ite (fun _ => ?_) (fun _ => ?_)
    · exact PR.some Hs
    · refine PR.gd ?_
      refine PR.gd ?_
      refine PR.bdv (PR.call Hs (fr_f_X14_say (gE s 165 (w32 ((gE s 166 x2) + x6))) s) (by decide +kernel)) (fun s5 Hs5 => ?_)
      refine PR.vl (fun y8 => ?_)
      exact PR.tail Hs5 (ih x2 x3 x4 x5 y8 s5)
def W_j_X14_derived_100 : List Nat := [87084, 87085, 147998, 147999, 148998, 148999, 149998, 149999]
theorem fr_j_X14_derived_100 (x3 : Int) (x4 : Int) (x5 : Int) (s : vS) : PR (W_j_X14_derived_100) s (fun q => q.2) (j_X14_derived_100 x3 x4 x5 s) := by
  unfold j_X14_derived_100
  have Hs : Fr (W_j_X14_derived_100) s s := Fr.rfl
  refine PR.vl (fun y1 => ?_)
  refine PR.vl (fun y4 => ?_)
  refine PR.bd (PR.call Hs (fr_f_X14_pieceNumber s) (by decide +kernel)) (fun r10 s7 Hs7 => ?_)
  refine PR.ite (fun _ => ?_) (fun _ => ?_)
  · refine PR.bd (PR.pure Hs7 (fr_f_X14_holds x3 r10 0 s7)) (fun r26 s23 Hs23 => ?_)
    refine PR.stp (Fr.wI Hs23 (by decide +kernel)) (fun s28 Hs28 => ?_)
    refine PR.stp (Fr.wI Hs28 (by decide +kernel)) (fun s30 Hs30 => ?_)
    refine PR.gd ?_
    exact PR.some Hs30
  · refine PR.bd (PR.pure Hs7 (fr_f_X14_hasNumber x4 r10 s7)) (fun r16 s13 Hs13 => ?_)
    refine PR.stp (Fr.wI Hs13 (by decide +kernel)) (fun s18 Hs18 => ?_)
    refine PR.stp (Fr.wI Hs18 (by decide +kernel)) (fun s20 Hs20 => ?_)
    refine PR.gd ?_
    exact PR.some Hs20
def W_j_X14_derived_265 : List Nat := []
theorem fr_j_X14_derived_265 (x4 : Int) (s : vS) : PR (W_j_X14_derived_265) s (fun q => q.2) (j_X14_derived_265 x4 s) := by
  unfold j_X14_derived_265
  have Hs : Fr (W_j_X14_derived_265) s s := Fr.rfl
  refine PR.bd (PR.pure Hs (fr_f_X14_allMayMiss x4 s)) (fun r4 s1 Hs1 => ?_)
  refine PR.gd ?_
  exact PR.some Hs1
def W_j_X14_derived_286 : List Nat := [87084, 87085, 147998, 147999, 148998, 148999, 149998, 149999]
theorem fr_j_X14_derived_286 (x3 : Int) (s : vS) : PR (W_j_X14_derived_286) s (fun q => q.2) (j_X14_derived_286 x3 s) := by
  unfold j_X14_derived_286
  have Hs : Fr (W_j_X14_derived_286) s s := Fr.rfl
  refine PR.bd (PR.call Hs (fr_f_X14_holdsSize x3 0 s) (by decide +kernel)) (fun r4 s1 Hs1 => ?_)
  refine PR.gd ?_
  exact PR.some Hs1
def W_l_X14_derived_174 : List Nat := [87107, 162998, 162999]
theorem fr_l_X14_derived_174 : ∀ (n : Nat) (x3 : Int) (x4 : Int) (x6 : Int) (s : vS), PR (W_l_X14_derived_174) s (fun q => q) (l_X14_derived_174 n x3 x4 x6 s)
  := by
  intro n
  induction n with
  | zero => intro x3 x4 x6 s; exact PR.none
  | succ n ih =>
    intro x3 x4 x6 s
    unfold l_X14_derived_174
    have Hs : Fr (W_l_X14_derived_174) s s := Fr.rfl
    refine PR.gd ?_
    refine PR.ite (fun _ => ?_) (fun _ => ?_)
    · exact PR.some Hs
    · refine PR.gd ?_
      refine PR.bdv (PR.call Hs (fr_f_X14_sayBit (and32 (shr32 (gE s 161 (w32 (1 + (d32 x6 8)))) (w32 (7 - (m32 x6 8)))) 1) s) (by decide +kernel)) (fun s4 Hs4 => ?_)
      refine PR.vl (fun y7 => ?_)
      exact PR.tail Hs4 (ih x3 x4 y7 s4)
def W_f_X14_derived : List Nat := [87084, 87085, 87105, 87107, 87116, 147998, 147999, 148998, 148999, 149998, 149999, 161998, 161999, 162998, 162999, 169999]
theorem fr_f_X14_derived (x1 : Int) (x2 : Int) (s : vS) : PR (W_f_X14_derived) s (fun q => q.2) (f_X14_derived x1 x2 s) := by
  unfold f_X14_derived
  have Hs : Fr (W_f_X14_derived) s s := Fr.rfl
  refine PR.gd ?_
  refine PR.vl (fun y2 => ?_)
  refine PR.bd (PR.pure Hs (fr_f_X14_root y2 s)) (fun r8 s5 Hs5 => ?_)
  refine PR.gd ?_
  refine PR.vl (fun y11 => ?_)
  refine PR.gd ?_
  refine PR.bd (PR.pure Hs5 (fr_f_X14_root (gE s5 138 x2) s5)) (fun r18 s15 Hs15 => ?_)
  refine PR.gd ?_
  refine PR.gd ?_
  refine PR.ite (fun _ => ?_) (fun _ => ?_)
  · refine PR.stp (Fr.wI Hs15 (by decide +kernel)) (fun s23 Hs23 => ?_)
    refine PR.lq_0 (PR.call Hs23 (fr_l_X14_derived_53 FU x2 y2 r8 y11 0 s23) (by decide +kernel)) (fun s25 Hs25 => ?_)
    refine PR.ite (fun _ => ?_) (fun _ => ?_)
    · exact PR.call Hs25 (fr_j_X14_derived_100 y2 r8 y11 s25) (by decide +kernel)
    · refine PR.ite (fun _ => ?_) (fun _ => ?_)
      · exact PR.call Hs25 (fr_j_X14_derived_100 y2 r8 y11 s25) (by decide +kernel)
      · refine PR.ite (fun _ => ?_) (fun _ => ?_)
        · refine PR.stp (Fr.wI Hs25 (by decide +kernel)) (fun s46 Hs46 => ?_)
          refine PR.lq_0 (PR.call Hs46 (fr_l_X14_derived_174 FU y2 r8 0 s46) (by decide +kernel)) (fun s48 Hs48 => ?_)
          refine PR.bd (PR.call Hs48 (fr_f_X14_writeBits y2 s48) (by decide +kernel)) (fun r53 s50 Hs50 => ?_)
          refine PR.ite (fun _ => ?_) (fun _ => ?_)
          · exact PR.some Hs50
          · refine PR.bd (PR.pure Hs50 (fr_f_X14_isFew r8 s50)) (fun r59 s56 Hs56 => ?_)
            refine PR.ite (fun _ => ?_) (fun _ => ?_)
            · exact PR.some Hs56
            · exact PR.some Hs56
        · refine PR.ite (fun _ => ?_) (fun _ => ?_)
          · exact PR.pure Hs25 (fr_j_X14_derived_265 r8 s25)
          · refine PR.ite (fun _ => ?_) (fun _ => ?_)
            · exact PR.pure Hs25 (fr_j_X14_derived_265 r8 s25)
            · refine PR.ite (fun _ => ?_) (fun _ => ?_)
              · exact PR.call Hs25 (fr_j_X14_derived_286 y2 s25) (by decide +kernel)
              · refine PR.ite (fun _ => ?_) (fun _ => ?_)
                · exact PR.call Hs25 (fr_j_X14_derived_286 y2 s25) (by decide +kernel)
                · refine PR.bd (PR.pure Hs25 (fr_f_X14_hasSizes y11 s25)) (fun r37 s34 Hs34 => ?_)
                  refine PR.ite (fun _ => ?_) (fun _ => ?_)
                  · exact PR.some Hs34
                  · refine PR.bd (PR.call Hs34 (fr_f_X14_holdsSize y2 (gI s34 87 105) s34) (by decide +kernel)) (fun r43 s40 Hs40 => ?_)
                    refine PR.ite (fun _ => ?_) (fun _ => ?_)
                    · exact PR.some Hs40
                    · exact PR.some Hs40
  · exact PR.some Hs15
def W_l_X14_isWritten_21 : List Nat := []
theorem fr_l_X14_isWritten_21 : ∀ (n : Nat) (x1 : Int) (x2 : Int) (x3 : Int) (s : vS), PR (W_l_X14_isWritten_21) s (fun q => q.2) (l_X14_isWritten_21 n x1 x2 x3 s)
  := by
  intro n
  induction n with
  | zero => intro x1 x2 x3 s; exact PR.none
  | succ n ih =>
    intro x1 x2 x3 s
    unfold l_X14_isWritten_21
    have Hs : Fr (W_l_X14_isWritten_21) s s := Fr.rfl
    refine PR.ite (fun _ => ?_) (fun _ => ?_)
    · exact PR.some Hs
    · refine PR.ite (fun _ => ?_) (fun _ => ?_)
      · exact PR.some Hs
      · refine PR.gd ?_
        refine PR.gd ?_
        refine PR.gd ?_
        refine PR.ite (fun _ => ?_) (fun _ => ?_)
        · refine PR.vl (fun y10 => ?_)
          exact PR.tail Hs (ih x1 1 y10 s)
        · refine PR.vl (fun y7 => ?_)
          exact PR.tail Hs (ih x1 0 y7 s)
def W_f_X14_isWritten : List Nat := []
theorem fr_f_X14_isWritten (x1 : Int) (s : vS) : PR (W_f_X14_isWritten) s (fun q => q.2) (f_X14_isWritten x1 s) := by
  unfold f_X14_isWritten
  have Hs : Fr (W_f_X14_isWritten) s s := Fr.rfl
  refine PR.gd ?_
  refine PR.ite (fun _ => ?_) (fun _ => ?_)
  · refine PR.lq_1 (PR.pure Hs (fr_l_X14_isWritten_21 FU x1 1 0 s)) (fun y8 s9 Hs9 => ?_)
    refine PR.gd ?_
    exact PR.some Hs9
  · refine PR.lq_1 (PR.pure Hs (fr_l_X14_isWritten_21 FU x1 0 0 s)) (fun y3 s4 Hs4 => ?_)
    refine PR.gd ?_
    exact PR.some Hs4
def W_l_X14_keepValue_111 : List Nat := [165999]
theorem fr_l_X14_keepValue_111 : ∀ (n : Nat) (x4 : Int) (s : vS), PR (W_l_X14_keepValue_111) s (fun q => q) (l_X14_keepValue_111 n x4 s)
  := by
  intro n
  induction n with
  | zero => intro x4 s; exact PR.none
  | succ n ih =>
    intro x4 s
    unfold l_X14_keepValue_111
    have Hs : Fr (W_l_X14_keepValue_111) s s := Fr.rfl
    refine PR.ite (fun _ => ?_) (fun _ => ?_)
    · exact PR.some Hs
    · refine PR.gd ?_
      refine PR.gd ?_
      refine PR.stp (Fr.wE Hs (by decide +kernel)) (fun s4 Hs4 => ?_)
      refine PR.vl (fun y6 => ?_)
      exact PR.tail Hs4 (ih y6 s4)
def W_j_X14_keepValue_59 : List Nat := [87111, 165998, 165999, 166999]
theorem fr_j_X14_keepValue_59 (x1 : Int) (s : vS) : PR (W_j_X14_keepValue_59) s (fun q => q) (j_X14_keepValue_59 x1 s) := by
  unfold j_X14_keepValue_59
  have Hs : Fr (W_j_X14_keepValue_59) s s := Fr.rfl
  refine PR.gd ?_
  refine PR.stp (Fr.wE Hs (by decide +kernel)) (fun s2 Hs2 => ?_)
  refine PR.ite (fun _ => ?_) (fun _ => ?_)
  · refine PR.lq_0 (PR.call Hs2 (fr_l_X14_keepValue_111 FU 0 s2) (by decide +kernel)) (fun s5 Hs5 => ?_)
    refine PR.stp (Fr.wI Hs5 (by decide +kernel)) (fun s7 Hs7 => ?_)
    exact PR.some Hs7
  · refine PR.bdv (PR.pure Hs2 (fr_f_X14_longer 165 (w32 (2 * (w32 ((gI s2 87 111) + (gI s2 87 105))))) s2)) (fun s9 Hs9 => ?_)
    refine PR.gd ?_
    refine PR.stp (Fr.wswT Hs9 (by decide) (by decide +kernel) (by decide +kernel)) (fun s13 Hs13 => ?_)
    refine PR.stp (Fr.wrs Hs13) (fun s15 Hs15 => ?_)
    refine PR.lq_0 (PR.call Hs15 (fr_l_X14_keepValue_111 FU 0 s15) (by decide +kernel)) (fun s17 Hs17 => ?_)
    refine PR.stp (Fr.wI Hs17 (by decide +kernel)) (fun s19 Hs19 => ?_)
    exact PR.some Hs19
def W_j_X14_keepValue_24 : List Nat := [87111, 165998, 165999, 166999, 167999]
theorem fr_j_X14_keepValue_24 (x1 : Int) (x3 : Int) (s : vS) : PR (W_j_X14_keepValue_24) s (fun q => q) (j_X14_keepValue_24 x1 x3 s) := by
  unfold j_X14_keepValue_24
  have Hs : Fr (W_j_X14_keepValue_24) s s := Fr.rfl
  refine PR.gd ?_
  refine PR.stp (Fr.wE Hs (by decide +kernel)) (fun s2 Hs2 => ?_)
  refine PR.ite (fun _ => ?_) (fun _ => ?_)
  · exact PR.call Hs2 (fr_j_X14_keepValue_59 x1 s2) (by decide +kernel)
  · refine PR.bd (PR.pure Hs2 (fr_f_X14_isWritten x3 s2)) (fun r8 s5 Hs5 => ?_)
    refine PR.ite (fun _ => ?_) (fun _ => ?_)
    · exact PR.call Hs5 (fr_j_X14_keepValue_59 x1 s5) (by decide +kernel)
    · refine PR.gd ?_
      refine PR.gd ?_
      refine PR.stp (Fr.wE Hs5 (by decide +kernel)) (fun s13 Hs13 => ?_)
      exact PR.some Hs13
def W_j_X14_keepValue_14 : List Nat := [87105, 87111, 165998, 165999, 166999, 167999, 168999]
theorem fr_j_X14_keepValue_14 (x1 : Int) (x2 : Int) (x3 : Int) (z1 : Int) (z2 : Int) (s : vS) : PR (W_j_X14_keepValue_14) s (fun q => q) (j_X14_keepValue_14 x1 x2 x3 z1 z2 s) := by
  unfold j_X14_keepValue_14
  have Hs : Fr (W_j_X14_keepValue_14) s s := Fr.rfl
  refine PR.gd ?_
  refine PR.stp (Fr.wE Hs (by decide +kernel)) (fun s2 Hs2 => ?_)
  refine PR.ite (fun _ => ?_) (fun _ => ?_)
  · refine PR.stp (Fr.wI Hs2 (by decide +kernel)) (fun s5 Hs5 => ?_)
    exact PR.call Hs5 (fr_j_X14_keepValue_24 x1 x3 s5) (by decide +kernel)
  · exact PR.call Hs2 (fr_j_X14_keepValue_24 x1 x3 s2) (by decide +kernel)
def W_f_X14_keepValue : List Nat := [87105, 87111, 165998, 165999, 166999, 167999, 168999]
theorem fr_f_X14_keepValue (x1 : Int) (x2 : Int) (x3 : Int) (s : vS) : PR (W_f_X14_keepValue) s (fun q => q) (f_X14_keepValue x1 x2 x3 s) := by
  unfold f_X14_keepValue
  have Hs : Fr (W_f_X14_keepValue) s s := Fr.rfl
  refine PR.ite (fun _ => ?_) (fun _ => ?_)
  · exact PR.call Hs (fr_j_X14_keepValue_14 x1 x2 x3 x1 2 s) (by decide +kernel)
  · exact PR.call Hs (fr_j_X14_keepValue_14 x1 x2 x3 x1 1 s) (by decide +kernel)
def W_l_X14_checkValues_2 : List Nat := [168999]
theorem fr_l_X14_checkValues_2 : ∀ (n : Nat) (x1 : Int) (s : vS), PR (W_l_X14_checkValues_2) s (fun q => q) (l_X14_checkValues_2 n x1 s)
  := by
  intro n
  induction n with
  | zero => intro x1 s; exact PR.none
  | succ n ih =>
    intro x1 s
    unfold l_X14_checkValues_2
    have Hs : Fr (W_l_X14_checkValues_2) s s := Fr.rfl
    refine PR.ite (fun _ => ?_) (fun _ => ?_)
    · exact PR.some Hs
    · refine PR.gd ?_
      refine PR.stp (Fr.wE Hs (by decide +kernel)) (fun s3 Hs3 => ?_)
      refine PR.vl (fun y5 => ?_)
      exact PR.tail Hs3 (ih y5 s3)
def W_l_X14_checkValues_42 : List Nat := [157999]
theorem fr_l_X14_checkValues_42 : ∀ (n : Nat) (x1 : Int) (x2 : Int) (x3 : Int) (s : vS), PR (W_l_X14_checkValues_42) s (fun q => q.2.2) (l_X14_checkValues_42 n x1 x2 x3 s)
  := by
  intro n
  induction n with
  | zero => intro x1 x2 x3 s; exact PR.none
  | succ n ih =>
    intro x1 x2 x3 s
    unfold l_X14_checkValues_42
    have Hs : Fr (W_l_X14_checkValues_42) s s := Fr.rfl
    refine PR.gd ?_
    refine PR.ite (fun _ => ?_) (fun _ => ?_)
    · refine PR.bd (PR.pure Hs (fr_f_X14_goesOn x3 s)) (fun r6 s3 Hs3 => ?_)
      refine PR.ite (fun _ => ?_) (fun _ => ?_)
      · exact PR.some Hs3
      · refine PR.gd ?_
        refine PR.stp (Fr.wE Hs3 (by decide +kernel)) (fun s10 Hs10 => ?_)
        refine PR.vl (fun y12 => ?_)
        refine PR.bd (PR.pure Hs10 (fr_f_X14_goesOn x3 s10)) (fun r18 s15 Hs15 => ?_)
        refine PR.gd ?_
        refine PR.gd ?_
        refine PR.vl (fun y22 => ?_)
        exact PR.tail Hs15 (ih x1 y12 y22 s15)
    · exact PR.some Hs
def W_l_X14_checkValues_103 : List Nat := [87084, 87085, 87105, 87107, 87111, 87116, 147998, 147999, 148998, 148999, 149998, 149999, 161998, 161999, 162998, 162999, 165998, 165999, 166999, 167999, 168999, 169999]
theorem fr_j_X14_checkValues_139 (rec : Int → Int → Int → vS → Option (vS)) (hrec : ∀ (y0 : Int) (y1 : Int) (y2 : Int) (s : vS), PR (W_l_X14_checkValues_103) s (fun q => q) (rec y0 y1 y2 s)) (x1 : Int) (x2 : Int) (x3 : Int) (z0 : Int) (s : vS) : PR (W_l_X14_checkValues_103) s (fun q => q) (j_X14_checkValues_139 rec x1 x2 x3 z0 s) := by
  unfold j_X14_checkValues_139
  have Hs : Fr (W_l_X14_checkValues_103) s s := Fr.rfl
  refine PR.gd ?_
  refine PR.bdv (PR.call Hs (fr_f_X14_keepValue (gE s 157 x2) z0 x3 s) (by decide +kernel)) (fun s2 Hs2 => ?_)
  refine PR.gd ?_
  refine PR.vl (fun y6 => ?_)
  exact PR.tail Hs2 (hrec x1 x2 y6 s2)
theorem fr_l_X14_checkValues_103 : ∀ (n : Nat) (x1 : Int) (x2 : Int) (x3 : Int) (s : vS), PR (W_l_X14_checkValues_103) s (fun q => q) (l_X14_checkValues_103 n x1 x2 x3 s)
  := by
  intro n
  induction n with
  | zero => intro x1 x2 x3 s; exact PR.none
  | succ n ih =>
    intro x1 x2 x3 s
    unfold l_X14_checkValues_103
    have Hs : Fr (W_l_X14_checkValues_103) s s := Fr.rfl
    refine PR.ite (fun _ => ?_) (fun _ => ?_)
    · exact PR.some Hs
    · refine PR.vl (fun y2 => ?_)
      refine PR.gd ?_
      refine PR.ite (fun _ => ?_) (fun _ => ?_)
      · refine PR.gd ?_
        refine PR.bd (PR.call Hs (fr_f_X14_derived (gE s 157 y2) x3 s) (by decide +kernel)) (fun r11 s8 Hs8 => ?_)
        refine PR.ite (fun _ => ?_) (fun _ => ?_)
        · exact PR.tail Hs8 (fr_j_X14_checkValues_139 (l_X14_checkValues_103 n) ih x1 y2 x3 0 s8)
        · exact PR.tail Hs8 (fr_j_X14_checkValues_139 (l_X14_checkValues_103 n) ih x1 y2 x3 1 s8)
      · exact PR.tail Hs (fr_j_X14_checkValues_139 (l_X14_checkValues_103 n) ih x1 y2 x3 0 s)
def W_l_X14_checkValues_30 : List Nat := [87084, 87085, 87105, 87107, 87111, 87116, 87118, 87119, 87120, 87121, 87122, 87123, 87124, 87125, 147998, 147999, 148998, 148999, 149998, 149999, 150999, 151999, 152998, 152999, 157999, 161998, 161999, 162998, 162999, 165998, 165999, 166999, 167999, 168999, 169999, 170998, 170999]
theorem fr_j_X14_checkValues_83 (rec : Int → vS → Option (vS)) (hrec : ∀ (y0 : Int) (s : vS), PR (W_l_X14_checkValues_30) s (fun q => q) (rec y0 s)) (x1 : Int) (x2 : Int) (x3 : Int) (s : vS) : PR (W_l_X14_checkValues_30) s (fun q => q) (j_X14_checkValues_83 rec x1 x2 x3 s) := by
  unfold j_X14_checkValues_83
  have Hs : Fr (W_l_X14_checkValues_30) s s := Fr.rfl
  refine PR.gd ?_
  refine PR.ite (fun _ => ?_) (fun _ => ?_)
  · refine PR.bd (PR.call Hs (fr_f_X14_literal x3 s) (by decide +kernel)) (fun r11 s8 Hs8 => ?_)
    refine PR.bdv (PR.call Hs8 (fr_f_X14_keepValue x3 r11 (-1) s8) (by decide +kernel)) (fun s13 Hs13 => ?_)
    refine PR.lq_0 (PR.call Hs13 (fr_l_X14_checkValues_103 FU x1 x2 x3 s13) (by decide +kernel)) (fun s16 Hs16 => ?_)
    refine PR.vl (fun y18 => ?_)
    exact PR.tail Hs16 (hrec y18 s16)
  · refine PR.lq_0 (PR.call Hs (fr_l_X14_checkValues_103 FU x1 x2 x3 s) (by decide +kernel)) (fun s3 Hs3 => ?_)
    refine PR.vl (fun y5 => ?_)
    exact PR.tail Hs3 (hrec y5 s3)
theorem fr_l_X14_checkValues_30 : ∀ (n : Nat) (x1 : Int) (s : vS), PR (W_l_X14_checkValues_30) s (fun q => q) (l_X14_checkValues_30 n x1 s)
  := by
  intro n
  induction n with
  | zero => intro x1 s; exact PR.none
  | succ n ih =>
    intro x1 s
    unfold l_X14_checkValues_30
    have Hs : Fr (W_l_X14_checkValues_30) s s := Fr.rfl
    refine PR.ite (fun _ => ?_) (fun _ => ?_)
    · exact PR.some Hs
    · refine PR.lq_2 (PR.call Hs (fr_l_X14_checkValues_42 FU x1 0 x1 s) (by decide +kernel)) (fun y2 y3 s4 Hs4 => ?_)
      exact PR.tail Hs4 (fr_j_X14_checkValues_83 (l_X14_checkValues_30 n) ih x1 y2 y3 s4)
def W_l_X14_checkValues_172 : List Nat := [87094]
theorem fr_l_X14_checkValues_172 : ∀ (n : Nat) (x1 : Int) (s : vS), PR (W_l_X14_checkValues_172) s (fun q => q) (l_X14_checkValues_172 n x1 s)
  := by
  intro n
  induction n with
  | zero => intro x1 s; exact PR.none
  | succ n ih =>
    intro x1 s
    unfold l_X14_checkValues_172
    have Hs : Fr (W_l_X14_checkValues_172) s s := Fr.rfl
    refine PR.ite (fun _ => ?_) (fun _ => ?_)
    · exact PR.some Hs
    · refine PR.gd ?_
      refine PR.ite (fun _ => ?_) (fun _ => ?_)
      · refine PR.gd ?_
        refine PR.gd ?_
        refine PR.bdv (PR.call Hs (fr_f_X14_first (gE s 95 (gE s 133 x1)) s) (by decide +kernel)) (fun s9 Hs9 => ?_)
        refine PR.vl (fun y12 => ?_)
        exact PR.tail Hs9 (ih y12 s9)
      · refine PR.vl (fun y4 => ?_)
        exact PR.tail Hs (ih y4 s)
def W_f_X14_checkValues : List Nat := [87008, 87009, 87084, 87085, 87094, 87105, 87107, 87111, 87116, 87118, 87119, 87120, 87121, 87122, 87123, 87124, 87125, 147998, 147999, 148998, 148999, 149998, 149999, 150999, 151999, 152998, 152999, 157999, 161998, 161999, 162998, 162999, 165998, 165999, 166999, 167999, 168999, 169999, 170998, 170999]
theorem fr_f_X14_checkValues (s : vS) : PR (W_f_X14_checkValues) s (fun q => q) (f_X14_checkValues s) := by
  unfold f_X14_checkValues
  have Hs : Fr (W_f_X14_checkValues) s s := Fr.rfl
  refine PR.lq_0 (PR.call Hs (fr_l_X14_checkValues_2 FU 0 s) (by decide +kernel)) (fun s1 Hs1 => ?_)
  refine PR.stp (Fr.wI Hs1 (by decide +kernel)) (fun s3 Hs3 => ?_)
  refine PR.lq_0 (PR.call Hs3 (fr_l_X14_checkValues_30 FU 0 s3) (by decide +kernel)) (fun s5 Hs5 => ?_)
  refine PR.lq_0 (PR.call Hs5 (fr_l_X14_checkValues_172 FU 0 s5) (by decide +kernel)) (fun s7 Hs7 => ?_)
  refine PR.bdv (PR.call Hs7 (fr_f_X14_told 12 s7) (by decide +kernel)) (fun s9 Hs9 => ?_)
  exact PR.some Hs9
def W_l_X14_compile_35 : List Nat := [93999]
theorem fr_l_X14_compile_35 : ∀ (n : Nat) (x1 : Int) (s : vS), PR (W_l_X14_compile_35) s (fun q => q) (l_X14_compile_35 n x1 s)
  := by
  intro n
  induction n with
  | zero => intro x1 s; exact PR.none
  | succ n ih =>
    intro x1 s
    unfold l_X14_compile_35
    have Hs : Fr (W_l_X14_compile_35) s s := Fr.rfl
    refine PR.ite (fun _ => ?_) (fun _ => ?_)
    · exact PR.some Hs
    · refine PR.gd ?_
      refine PR.gd ?_
      refine PR.stp (Fr.wE Hs (by decide +kernel)) (fun s4 Hs4 => ?_)
      refine PR.vl (fun y6 => ?_)
      exact PR.tail Hs4 (ih y6 s4)
def W_l_X14_compile_145 : List Nat := [150999, 151999]
theorem fr_l_X14_compile_145 : ∀ (n : Nat) (x1 : Int) (s : vS), PR (W_l_X14_compile_145) s (fun q => q) (l_X14_compile_145 n x1 s)
  := by
  intro n
  induction n with
  | zero => intro x1 s; exact PR.none
  | succ n ih =>
    intro x1 s
    unfold l_X14_compile_145
    have Hs : Fr (W_l_X14_compile_145) s s := Fr.rfl
    refine PR.ite (fun _ => ?_) (fun _ => ?_)
    · exact PR.some Hs
    · refine PR.gd ?_
      refine PR.stp (Fr.wE Hs (by decide +kernel)) (fun s3 Hs3 => ?_)
      refine PR.gd ?_
      refine PR.stp (Fr.wE Hs3 (by decide +kernel)) (fun s6 Hs6 => ?_)
      refine PR.vl (fun y8 => ?_)
      exact PR.tail Hs6 (ih y8 s6)
def W_j_X14_compile_283 : List Nat := [87003, 87007]
theorem fr_j_X14_compile_283 (s : vS) : PR (W_j_X14_compile_283) s (fun q => q.2) (j_X14_compile_283 s) := by
  unfold j_X14_compile_283
  have Hs : Fr (W_j_X14_compile_283) s s := Fr.rfl
  refine PR.ite (fun _ => ?_) (fun _ => ?_)
  · refine PR.stp (Fr.wI Hs (by decide +kernel)) (fun s2 Hs2 => ?_)
    exact PR.some Hs2
  · refine PR.bd (PR.call Hs (fr_f_X14_fail 1 s) (by decide +kernel)) (fun r7 s4 Hs4 => ?_)
    exact PR.some Hs4
def W_j_X14_compile_272 : List Nat := [87003, 87007, 87008, 87009, 87084, 87085, 87094, 87105, 87107, 87111, 87116, 87118, 87119, 87120, 87121, 87122, 87123, 87124, 87125, 147998, 147999, 148998, 148999, 149998, 149999, 150999, 151999, 152998, 152999, 157999, 161998, 161999, 162998, 162999, 165998, 165999, 166999, 167999, 168999, 169999, 170998, 170999]
theorem fr_j_X14_compile_272 (s : vS) : PR (W_j_X14_compile_272) s (fun q => q.2) (j_X14_compile_272 s) := by
  unfold j_X14_compile_272
  have Hs : Fr (W_j_X14_compile_272) s s := Fr.rfl
  refine PR.ite (fun _ => ?_) (fun _ => ?_)
  · refine PR.bdv (PR.call Hs (fr_f_X14_checkValues s) (by decide +kernel)) (fun s2 Hs2 => ?_)
    exact PR.call Hs2 (fr_j_X14_compile_283 s2) (by decide +kernel)
  · exact PR.call Hs (fr_j_X14_compile_283 s) (by decide +kernel)
def W_j_X14_compile_261 : List Nat := [87003, 87007, 87008, 87009, 87084, 87085, 87094, 87105, 87107, 87111, 87116, 87118, 87119, 87120, 87121, 87122, 87123, 87124, 87125, 130999, 131999, 147998, 147999, 148998, 148999, 149998, 149999, 150999, 151999, 152998, 152999, 157999, 161998, 161999, 162998, 162999, 165998, 165999, 166999, 167999, 168999, 169999, 170998, 170999]
theorem fr_j_X14_compile_261 (s : vS) : PR (W_j_X14_compile_261) s (fun q => q.2) (j_X14_compile_261 s) := by
  unfold j_X14_compile_261
  have Hs : Fr (W_j_X14_compile_261) s s := Fr.rfl
  refine PR.ite (fun _ => ?_) (fun _ => ?_)
  · refine PR.bdv (PR.call Hs (fr_f_X14_checkBounds s) (by decide +kernel)) (fun s2 Hs2 => ?_)
    exact PR.call Hs2 (fr_j_X14_compile_272 s2) (by decide +kernel)
  · exact PR.call Hs (fr_j_X14_compile_272 s) (by decide +kernel)
def W_j_X14_compile_250 : List Nat := [87003, 87007, 87008, 87009, 87084, 87085, 87094, 87105, 87107, 87111, 87116, 87118, 87119, 87120, 87121, 87122, 87123, 87124, 87125, 130999, 131999, 147998, 147999, 148998, 148999, 149998, 149999, 150999, 151999, 152998, 152999, 157999, 161998, 161999, 162998, 162999, 165998, 165999, 166999, 167999, 168999, 169999, 170998, 170999]
theorem fr_j_X14_compile_250 (s : vS) : PR (W_j_X14_compile_250) s (fun q => q.2) (j_X14_compile_250 s) := by
  unfold j_X14_compile_250
  have Hs : Fr (W_j_X14_compile_250) s s := Fr.rfl
  refine PR.ite (fun _ => ?_) (fun _ => ?_)
  · refine PR.bdv (PR.call Hs (fr_f_X14_checkCircles s) (by decide +kernel)) (fun s2 Hs2 => ?_)
    exact PR.call Hs2 (fr_j_X14_compile_261 s2) (by decide +kernel)
  · exact PR.call Hs (fr_j_X14_compile_261 s) (by decide +kernel)
def W_j_X14_compile_239 : List Nat := [87003, 87007, 87008, 87009, 87084, 87085, 87094, 87097, 87099, 87105, 87107, 87111, 87116, 87118, 87119, 87120, 87121, 87122, 87123, 87124, 87125, 130999, 131999, 147998, 147999, 148998, 148999, 149998, 149999, 150999, 151999, 152998, 152999, 156999, 157999, 158998, 158999, 161998, 161999, 162998, 162999, 165998, 165999, 166999, 167999, 168999, 169999, 170998, 170999]
theorem fr_j_X14_compile_239 (s : vS) : PR (W_j_X14_compile_239) s (fun q => q.2) (j_X14_compile_239 s) := by
  unfold j_X14_compile_239
  have Hs : Fr (W_j_X14_compile_239) s s := Fr.rfl
  refine PR.ite (fun _ => ?_) (fun _ => ?_)
  · refine PR.bdv (PR.call Hs (fr_f_X14_checkRows s) (by decide +kernel)) (fun s2 Hs2 => ?_)
    exact PR.call Hs2 (fr_j_X14_compile_250 s2) (by decide +kernel)
  · exact PR.call Hs (fr_j_X14_compile_250 s) (by decide +kernel)
def W_j_X14_compile_228 : List Nat := [87003, 87007, 87008, 87009, 87084, 87085, 87094, 87097, 87099, 87101, 87104, 87105, 87107, 87111, 87116, 87118, 87119, 87120, 87121, 87122, 87123, 87124, 87125, 130999, 131999, 147998, 147999, 148998, 148999, 149998, 149999, 150999, 151999, 152998, 152999, 156999, 157999, 158998, 158999, 159999, 160999, 161998, 161999, 162998, 162999, 165998, 165999, 166999, 167999, 168999, 169999, 170998, 170999]
theorem fr_j_X14_compile_228 (s : vS) : PR (W_j_X14_compile_228) s (fun q => q.2) (j_X14_compile_228 s) := by
  unfold j_X14_compile_228
  have Hs : Fr (W_j_X14_compile_228) s s := Fr.rfl
  refine PR.ite (fun _ => ?_) (fun _ => ?_)
  · refine PR.bdv (PR.call Hs (fr_f_X14_checkTags s) (by decide +kernel)) (fun s2 Hs2 => ?_)
    exact PR.call Hs2 (fr_j_X14_compile_239 s2) (by decide +kernel)
  · exact PR.call Hs (fr_j_X14_compile_239 s) (by decide +kernel)
def W_j_X14_compile_217 : List Nat := [87003, 87007, 87008, 87009, 87084, 87085, 87094, 87097, 87099, 87101, 87104, 87105, 87107, 87111, 87116, 87118, 87119, 87120, 87121, 87122, 87123, 87124, 87125, 130999, 131999, 147998, 147999, 148998, 148999, 149998, 149999, 150999, 151999, 152998, 152999, 155999, 156999, 157999, 158998, 158999, 159999, 160999, 161998, 161999, 162998, 162999, 165998, 165999, 166999, 167999, 168999, 169999, 170998, 170999]
theorem fr_j_X14_compile_217 (s : vS) : PR (W_j_X14_compile_217) s (fun q => q.2) (j_X14_compile_217 s) := by
  unfold j_X14_compile_217
  have Hs : Fr (W_j_X14_compile_217) s s := Fr.rfl
  refine PR.ite (fun _ => ?_) (fun _ => ?_)
  · refine PR.bdv (PR.call Hs (fr_f_X14_checkEndless s) (by decide +kernel)) (fun s2 Hs2 => ?_)
    exact PR.call Hs2 (fr_j_X14_compile_228 s2) (by decide +kernel)
  · exact PR.call Hs (fr_j_X14_compile_228 s) (by decide +kernel)
def W_j_X14_compile_206 : List Nat := [87003, 87007, 87008, 87009, 87084, 87085, 87094, 87097, 87099, 87101, 87104, 87105, 87107, 87111, 87116, 87118, 87119, 87120, 87121, 87122, 87123, 87124, 87125, 101999, 130999, 131999, 147998, 147999, 148998, 148999, 149998, 149999, 150999, 151999, 152998, 152999, 155999, 156999, 157999, 158998, 158999, 159999, 160999, 161998, 161999, 162998, 162999, 165998, 165999, 166999, 167999, 168999, 169999, 170998, 170999]
theorem fr_j_X14_compile_206 (s : vS) : PR (W_j_X14_compile_206) s (fun q => q.2) (j_X14_compile_206 s) := by
  unfold j_X14_compile_206
  have Hs : Fr (W_j_X14_compile_206) s s := Fr.rfl
  refine PR.ite (fun _ => ?_) (fun _ => ?_)
  · refine PR.bdv (PR.call Hs (fr_f_X14_checkUnknown s) (by decide +kernel)) (fun s2 Hs2 => ?_)
    exact PR.call Hs2 (fr_j_X14_compile_217 s2) (by decide +kernel)
  · exact PR.call Hs (fr_j_X14_compile_217 s) (by decide +kernel)
def W_j_X14_compile_195 : List Nat := [87003, 87007, 87008, 87009, 87084, 87085, 87094, 87097, 87099, 87101, 87104, 87105, 87107, 87111, 87116, 87118, 87119, 87120, 87121, 87122, 87123, 87124, 87125, 101999, 115999, 130999, 131999, 147998, 147999, 148998, 148999, 149998, 149999, 150999, 151999, 152998, 152999, 155999, 156999, 157999, 158998, 158999, 159999, 160999, 161998, 161999, 162998, 162999, 165998, 165999, 166999, 167999, 168999, 169999, 170998, 170999]
theorem fr_j_X14_compile_195 (s : vS) : PR (W_j_X14_compile_195) s (fun q => q.2) (j_X14_compile_195 s) := by
  unfold j_X14_compile_195
  have Hs : Fr (W_j_X14_compile_195) s s := Fr.rfl
  refine PR.ite (fun _ => ?_) (fun _ => ?_)
  · refine PR.bdv (PR.call Hs (fr_f_X14_countItems s) (by decide +kernel)) (fun s2 Hs2 => ?_)
    exact PR.call Hs2 (fr_j_X14_compile_206 s2) (by decide +kernel)
  · exact PR.call Hs (fr_j_X14_compile_206 s) (by decide +kernel)
def W_j_X14_compile_184 : List Nat := [87003, 87007, 87008, 87009, 87084, 87085, 87094, 87097, 87099, 87101, 87104, 87105, 87107, 87111, 87116, 87118, 87119, 87120, 87121, 87122, 87123, 87124, 87125, 101999, 115999, 130999, 131999, 147998, 147999, 148998, 148999, 149998, 149999, 150999, 151999, 152998, 152999, 153999, 154999, 155999, 156999, 157999, 158998, 158999, 159999, 160999, 161998, 161999, 162998, 162999, 165998, 165999, 166999, 167999, 168999, 169999, 170998, 170999]
theorem fr_j_X14_compile_184 (s : vS) : PR (W_j_X14_compile_184) s (fun q => q.2) (j_X14_compile_184 s) := by
  unfold j_X14_compile_184
  have Hs : Fr (W_j_X14_compile_184) s s := Fr.rfl
  refine PR.ite (fun _ => ?_) (fun _ => ?_)
  · refine PR.bdv (PR.call Hs (fr_f_X14_checkTwice s) (by decide +kernel)) (fun s2 Hs2 => ?_)
    exact PR.call Hs2 (fr_j_X14_compile_195 s2) (by decide +kernel)
  · exact PR.call Hs (fr_j_X14_compile_195 s) (by decide +kernel)
def W_f_X14_compile : List Nat := [87003, 87004, 87007, 87008, 87009, 87013, 87015, 87019, 87020, 87032, 87037, 87042, 87048, 87054, 87061, 87069, 87072, 87076, 87078, 87079, 87082, 87083, 87084, 87085, 87094, 87097, 87099, 87101, 87104, 87105, 87107, 87111, 87116, 87118, 87119, 87120, 87121, 87122, 87123, 87124, 87125, 93999, 94998, 94999, 95998, 95999, 96998, 96999, 97998, 97999, 98998, 98999, 99998, 99999, 100998, 100999, 101998, 101999, 102998, 102999, 103998, 103999, 104998, 104999, 105998, 105999, 106998, 106999, 107998, 107999, 108998, 108999, 109998, 109999, 110998, 110999, 111998, 111999, 112998, 112999, 113998, 113999, 114998, 114999, 115998, 115999, 116998, 116999, 117998, 117999, 118998, 118999, 119998, 119999, 120998, 120999, 121998, 121999, 122998, 122999, 123998, 123999, 124998, 124999, 125998, 125999, 126998, 126999, 127998, 127999, 128998, 128999, 129998, 129999, 130998, 130999, 131998, 131999, 132998, 132999, 133998, 133999, 134998, 134999, 135998, 135999, 136998, 136999, 137998, 137999, 138998, 138999, 139998, 139999, 140998, 140999, 141998, 141999, 142998, 142999, 143998, 143999, 144998, 144999, 145999, 146999, 147998, 147999, 148998, 148999, 149998, 149999, 150998, 150999, 151998, 151999, 152998, 152999, 153999, 154998, 154999, 155998, 155999, 156998, 156999, 157998, 157999, 158998, 158999, 159998, 159999, 160998, 160999, 161998, 161999, 162998, 162999, 165998, 165999, 166998, 166999, 167998, 167999, 168998, 168999, 169999, 170998, 170999]
theorem fr_f_X14_compile (s : vS) : PR (W_f_X14_compile) s (fun q => q.2) (f_X14_compile s) := by
  unfold f_X14_compile
  have Hs : Fr (W_f_X14_compile) s s := Fr.rfl
  refine PR.stp (Fr.wI Hs (by decide +kernel)) (fun s1 Hs1 => ?_)
  refine PR.stp (Fr.wI Hs1 (by decide +kernel)) (fun s3 Hs3 => ?_)
  refine PR.stp (Fr.wI Hs3 (by decide +kernel)) (fun s5 Hs5 => ?_)
  refine PR.stp (Fr.wI Hs5 (by decide +kernel)) (fun s7 Hs7 => ?_)
  refine PR.stp (Fr.wI Hs7 (by decide +kernel)) (fun s9 Hs9 => ?_)
  refine PR.stp (Fr.wI Hs9 (by decide +kernel)) (fun s11 Hs11 => ?_)
  refine PR.lq_0 (PR.call Hs11 (fr_l_X14_compile_35 FU 0 s11) (by decide +kernel)) (fun s13 Hs13 => ?_)
  refine PR.stp (Fr.wI Hs13 (by decide +kernel)) (fun s15 Hs15 => ?_)
  refine PR.stp (Fr.wI Hs15 (by decide +kernel)) (fun s17 Hs17 => ?_)
  refine PR.stp (Fr.wI Hs17 (by decide +kernel)) (fun s19 Hs19 => ?_)
  refine PR.stp (Fr.wI Hs19 (by decide +kernel)) (fun s21 Hs21 => ?_)
  refine PR.stp (Fr.wI Hs21 (by decide +kernel)) (fun s23 Hs23 => ?_)
  refine PR.stp (Fr.wI Hs23 (by decide +kernel)) (fun s25 Hs25 => ?_)
  refine PR.stp (Fr.wI Hs25 (by decide +kernel)) (fun s27 Hs27 => ?_)
  refine PR.stp (Fr.wI Hs27 (by decide +kernel)) (fun s29 Hs29 => ?_)
  refine PR.stp (Fr.wI Hs29 (by decide +kernel)) (fun s31 Hs31 => ?_)
  refine PR.stp (Fr.wI Hs31 (by decide +kernel)) (fun s33 Hs33 => ?_)
  refine PR.stp (Fr.wI Hs33 (by decide +kernel)) (fun s35 Hs35 => ?_)
  refine PR.stp (Fr.wI Hs35 (by decide +kernel)) (fun s37 Hs37 => ?_)
  refine PR.stp (Fr.wI Hs37 (by decide +kernel)) (fun s39 Hs39 => ?_)
  refine PR.stp (Fr.wI Hs39 (by decide +kernel)) (fun s41 Hs41 => ?_)
  refine PR.bdv (PR.call Hs41 (fr_f_X14_roomForLexemes s41) (by decide +kernel)) (fun s43 Hs43 => ?_)
  refine PR.bdv (PR.call Hs43 (fr_f_X14_cutText s43) (by decide +kernel)) (fun s46 Hs46 => ?_)
  refine PR.bdv (PR.call Hs46 (fr_f_X14_roomForTypes s46) (by decide +kernel)) (fun s49 Hs49 => ?_)
  refine PR.lq_0 (PR.call Hs49 (fr_l_X14_compile_145 FU 0 s49) (by decide +kernel)) (fun s52 Hs52 => ?_)
  refine PR.ite (fun _ => ?_) (fun _ => ?_)
  · refine PR.bdv (PR.call Hs52 (fr_f_X14_parseModule s52) (by decide +kernel)) (fun s55 Hs55 => ?_)
    exact PR.call Hs55 (fr_j_X14_compile_184 s55) (by decide +kernel)
  · exact PR.call Hs52 (fr_j_X14_compile_184 s52) (by decide +kernel)
def W_f_X14_fault : List Nat := [87003]
theorem fr_f_X14_fault (x1 : Int) (s : vS) : PR (W_f_X14_fault) s (fun q => q.2) (f_X14_fault x1 s) := by
  unfold f_X14_fault
  have Hs : Fr (W_f_X14_fault) s s := Fr.rfl
  refine PR.stp (Fr.wI Hs (by decide +kernel)) (fun s1 Hs1 => ?_)
  refine PR.ite (fun _ => ?_) (fun _ => ?_)
  · exact PR.some Hs1
  · refine PR.ite (fun _ => ?_) (fun _ => ?_)
    · exact PR.some Hs1
    · refine PR.bd (PR.call Hs1 (fr_f_X14_fail 1 s1) (by decide +kernel)) (fun r8 s5 Hs5 => ?_)
      exact PR.some Hs5
def W_f_X14_hasType : List Nat := []
theorem fr_f_X14_hasType (x1 : Int) (s : vS) : PR (W_f_X14_hasType) s (fun q => q.2) (f_X14_hasType x1 s) := by
  unfold f_X14_hasType
  have Hs : Fr (W_f_X14_hasType) s s := Fr.rfl
  refine PR.ite (fun _ => ?_) (fun _ => ?_)
  · exact PR.some Hs
  · refine PR.bd (PR.pure Hs (fr_f_X14_within x1 0 (w32 ((gI s 87 76) - 1)) s)) (fun r5 s2 Hs2 => ?_)
    refine PR.ite (fun _ => ?_) (fun _ => ?_)
    · exact PR.some Hs2
    · exact PR.some Hs2
def W_j_X14_type_22 : List Nat := [87003]
theorem fr_j_X14_type_22 (s : vS) : PR (W_j_X14_type_22) s (fun q => q.2) (j_X14_type_22 s) := by
  unfold j_X14_type_22
  have Hs : Fr (W_j_X14_type_22) s s := Fr.rfl
  refine PR.bd (PR.call Hs (fr_f_X14_fail 1 s) (by decide +kernel)) (fun r4 s1 Hs1 => ?_)
  exact PR.some Hs1
def W_f_X14_type : List Nat := [87003, 87101, 87104, 159999, 160999]
theorem fr_f_X14_type (x1 : Int) (x2 : Int) (s : vS) : PR (W_f_X14_type) s (fun q => q.2) (f_X14_type x1 x2 s) := by
  unfold f_X14_type
  have Hs : Fr (W_f_X14_type) s s := Fr.rfl
  refine PR.stp (Fr.wI Hs (by decide +kernel)) (fun s1 Hs1 => ?_)
  refine PR.bd (PR.pure Hs1 (fr_f_X14_hasType x1 s1)) (fun r6 s3 Hs3 => ?_)
  refine PR.ite (fun _ => ?_) (fun _ => ?_)
  · exact PR.call Hs3 (fr_j_X14_type_22 s3) (by decide +kernel)
  · refine PR.bd (PR.pure Hs3 (fr_f_X14_within x2 0 5 s3)) (fun r12 s9 Hs9 => ?_)
    refine PR.ite (fun _ => ?_) (fun _ => ?_)
    · exact PR.call Hs9 (fr_j_X14_type_22 s9) (by decide +kernel)
    · refine PR.gd ?_
      refine PR.vl (fun y16 => ?_)
      refine PR.gd ?_
      refine PR.vl (fun y20 => ?_)
      refine PR.bd (PR.pure Hs9 (fr_f_X14_root y20 s9)) (fun r26 s23 Hs23 => ?_)
      refine PR.ite (fun _ => ?_) (fun _ => ?_)
      · refine PR.gd ?_
        refine PR.gd ?_
        refine PR.gd ?_
        refine PR.gd ?_
        exact PR.some Hs23
      · refine PR.ite (fun _ => ?_) (fun _ => ?_)
        · refine PR.gd ?_
          exact PR.some Hs23
        · refine PR.ite (fun _ => ?_) (fun _ => ?_)
          · refine PR.gd ?_
            refine PR.gd ?_
            exact PR.some Hs23
          · refine PR.bdv (PR.call Hs23 (fr_f_X14_findLayers y20 s23) (by decide +kernel)) (fun s31 Hs31 => ?_)
            refine PR.ite (fun _ => ?_) (fun _ => ?_)
            · exact PR.some Hs31
            · refine PR.ite (fun _ => ?_) (fun _ => ?_)
              · exact PR.some Hs31
              · refine PR.ite (fun _ => ?_) (fun _ => ?_)
                · refine PR.gd ?_
                  exact PR.some Hs31
                · refine PR.gd ?_
                  exact PR.some Hs31
def W_f_X14_name : List Nat := [87003]
theorem fr_f_X14_name (x1 : Int) (x2 : Int) (s : vS) : PR (W_f_X14_name) s (fun q => q.2) (f_X14_name x1 x2 s) := by
  unfold f_X14_name
  have Hs : Fr (W_f_X14_name) s s := Fr.rfl
  refine PR.stp (Fr.wI Hs (by decide +kernel)) (fun s1 Hs1 => ?_)
  refine PR.bd (PR.pure Hs1 (fr_f_X14_hasType x1 s1)) (fun r6 s3 Hs3 => ?_)
  refine PR.ite (fun _ => ?_) (fun _ => ?_)
  · refine PR.bd (PR.call Hs3 (fr_f_X14_fail 1 s3) (by decide +kernel)) (fun r32 s29 Hs29 => ?_)
    exact PR.some Hs29
  · refine PR.gd ?_
    refine PR.gd ?_
    refine PR.vl (fun y11 => ?_)
    refine PR.gd ?_
    refine PR.gd ?_
    refine PR.bd (PR.pure Hs3 (fr_f_X14_within x2 0 (w32 ((w32 ((gE s3 96 y11) - (gE s3 95 y11))) - 1)) s3)) (fun r19 s16 Hs16 => ?_)
    refine PR.ite (fun _ => ?_) (fun _ => ?_)
    · refine PR.bd (PR.call Hs16 (fr_f_X14_fail 1 s16) (by decide +kernel)) (fun r25 s22 Hs22 => ?_)
      exact PR.some Hs22
    · refine PR.gd ?_
      refine PR.gd ?_
      exact PR.some Hs16
def W_l_X14_defaultSize_90 : List Nat := []
theorem fr_l_X14_defaultSize_90 : ∀ (n : Nat) (x2 : Int) (x4 : Int) (x5 : Int) (s : vS), PR (W_l_X14_defaultSize_90) s (fun q => q.2) (l_X14_defaultSize_90 n x2 x4 x5 s)
  := by
  intro n
  induction n with
  | zero => intro x2 x4 x5 s; exact PR.none
  | succ n ih =>
    intro x2 x4 x5 s
    unfold l_X14_defaultSize_90
    have Hs : Fr (W_l_X14_defaultSize_90) s s := Fr.rfl
    refine PR.ite (fun _ => ?_) (fun _ => ?_)
    · exact PR.some Hs
    · refine PR.gd ?_
      refine PR.vl (fun y3 => ?_)
      refine PR.vl (fun y6 => ?_)
      exact PR.tail Hs (ih x2 y3 y6 s)
def W_j_X14_defaultSize_73 : List Nat := [87003]
theorem fr_j_X14_defaultSize_73 (s : vS) : PR (W_j_X14_defaultSize_73) s (fun q => q.2) (j_X14_defaultSize_73 s) := by
  unfold j_X14_defaultSize_73
  have Hs : Fr (W_j_X14_defaultSize_73) s s := Fr.rfl
  refine PR.bd (PR.call Hs (fr_f_X14_fail 1 s) (by decide +kernel)) (fun r4 s1 Hs1 => ?_)
  exact PR.some Hs1
def W_j_X14_defaultSize_57 : List Nat := [87003]
theorem fr_j_X14_defaultSize_57 (x2 : Int) (x3 : Int) (s : vS) : PR (W_j_X14_defaultSize_57) s (fun q => q.2) (j_X14_defaultSize_57 x2 x3 s) := by
  unfold j_X14_defaultSize_57
  have Hs : Fr (W_j_X14_defaultSize_57) s s := Fr.rfl
  refine PR.gd ?_
  refine PR.bd (PR.pure Hs (fr_f_X14_within x2 0 (w32 ((gE s 105 x3) - 1)) s)) (fun r5 s2 Hs2 => ?_)
  refine PR.ite (fun _ => ?_) (fun _ => ?_)
  · exact PR.call Hs2 (fr_j_X14_defaultSize_73 s2) (by decide +kernel)
  · refine PR.gd ?_
    refine PR.vl (fun y9 => ?_)
    refine PR.lq_1 (PR.pure Hs2 (fr_l_X14_defaultSize_90 FU x2 y9 0 s2)) (fun y12 s13 Hs13 => ?_)
    refine PR.gd ?_
    refine PR.ite (fun _ => ?_) (fun _ => ?_)
    · refine PR.gd ?_
      refine PR.gd ?_
      exact PR.some Hs13
    · exact PR.some Hs13
def W_f_X14_defaultSize : List Nat := [87003]
theorem fr_f_X14_defaultSize (x1 : Int) (x2 : Int) (s : vS) : PR (W_f_X14_defaultSize) s (fun q => q.2) (f_X14_defaultSize x1 x2 s) := by
  unfold f_X14_defaultSize
  have Hs : Fr (W_f_X14_defaultSize) s s := Fr.rfl
  refine PR.stp (Fr.wI Hs (by decide +kernel)) (fun s1 Hs1 => ?_)
  refine PR.bd (PR.pure Hs1 (fr_f_X14_hasType x1 s1)) (fun r6 s3 Hs3 => ?_)
  refine PR.ite (fun _ => ?_) (fun _ => ?_)
  · refine PR.bd (PR.call Hs3 (fr_f_X14_fail 1 s3) (by decide +kernel)) (fun r23 s20 Hs20 => ?_)
    exact PR.some Hs20
  · refine PR.gd ?_
    refine PR.gd ?_
    refine PR.bd (PR.pure Hs3 (fr_f_X14_root (gE s3 142 (gE s3 144 x1)) s3)) (fun r14 s11 Hs11 => ?_)
    refine PR.gd ?_
    refine PR.ite (fun _ => ?_) (fun _ => ?_)
    · exact PR.call Hs11 (fr_j_X14_defaultSize_57 x2 r14 s11) (by decide +kernel)
    · refine PR.gd ?_
      refine PR.ite (fun _ => ?_) (fun _ => ?_)
      · exact PR.call Hs11 (fr_j_X14_defaultSize_57 x2 r14 s11) (by decide +kernel)
      · exact PR.call Hs11 (fr_j_X14_defaultSize_73 s11) (by decide +kernel)
def W_f_X14_limit : List Nat := [87003, 87006]
theorem fr_f_X14_limit (x1 : Int) (s : vS) : PR (W_f_X14_limit) s (fun q => q.2) (f_X14_limit x1 s) := by
  unfold f_X14_limit
  have Hs : Fr (W_f_X14_limit) s s := Fr.rfl
  refine PR.stp (Fr.wI Hs (by decide +kernel)) (fun s1 Hs1 => ?_)
  refine PR.bd (PR.pure Hs1 (fr_f_X14_within x1 4 1024 s1)) (fun r6 s3 Hs3 => ?_)
  refine PR.ite (fun _ => ?_) (fun _ => ?_)
  · refine PR.bd (PR.call Hs3 (fr_f_X14_fail 1 s3) (by decide +kernel)) (fun r17 s14 Hs14 => ?_)
    exact PR.some Hs14
  · refine PR.vl (fun y9 => ?_)
    refine PR.stp (Fr.wI Hs3 (by decide +kernel)) (fun s12 Hs12 => ?_)
    exact PR.some Hs12
def W_l_X14_wall_5 : List Nat := []
theorem fr_l_X14_wall_5 : ∀ (n : Nat) (x1 : Int) (s : vS), PR (W_l_X14_wall_5) s (fun q => q.2) (l_X14_wall_5 n x1 s)
  := by
  intro n
  induction n with
  | zero => intro x1 s; exact PR.none
  | succ n ih =>
    intro x1 s
    unfold l_X14_wall_5
    have Hs : Fr (W_l_X14_wall_5) s s := Fr.rfl
    refine PR.ite (fun _ => ?_) (fun _ => ?_)
    · exact PR.some Hs
    · refine PR.gd ?_
      refine PR.ite (fun _ => ?_) (fun _ => ?_)
      · exact PR.some Hs
      · refine PR.gd ?_
        refine PR.vl (fun y5 => ?_)
        exact PR.tail Hs (ih y5 s)
def W_j_X14_wall_28 : List Nat := []
theorem fr_j_X14_wall_28 (x1 : Int) (s : vS) : PR (W_j_X14_wall_28) s (fun q => q.2) (j_X14_wall_28 x1 s) := by
  unfold j_X14_wall_28
  have Hs : Fr (W_j_X14_wall_28) s s := Fr.rfl
  refine PR.ite (fun _ => ?_) (fun _ => ?_)
  · refine PR.gd ?_
    exact PR.some Hs
  · exact PR.some Hs
def W_f_X14_wall : List Nat := []
theorem fr_f_X14_wall (s : vS) : PR (W_f_X14_wall) s (fun q => q.2) (f_X14_wall s) := by
  unfold f_X14_wall
  have Hs : Fr (W_f_X14_wall) s s := Fr.rfl
  refine PR.vl (fun y1 => ?_)
  refine PR.lq_1 (PR.pure Hs (fr_l_X14_wall_5 FU y1 s)) (fun y4 s5 Hs5 => ?_)
  exact PR.pure Hs5 (fr_j_X14_wall_28 y4 s5)
def W_f_X14_closeParent : List Nat := [87141, 87142]
theorem fr_f_X14_closeParent (s : vS) : PR (W_f_X14_closeParent) s (fun q => q) (f_X14_closeParent s) := by
  unfold f_X14_closeParent
  have Hs : Fr (W_f_X14_closeParent) s s := Fr.rfl
  refine PR.gd ?_
  refine PR.stp (Fr.wI Hs (by decide +kernel)) (fun s2 Hs2 => ?_)
  refine PR.stp (Fr.wI Hs2 (by decide +kernel)) (fun s4 Hs4 => ?_)
  exact PR.some Hs4
def W_j_X14_element_30 : List Nat := [87008, 87009]
theorem fr_j_X14_element_30 (x3 : Int) (s : vS) : PR (W_j_X14_element_30) s (fun q => q) (j_X14_element_30 x3 s) := by
  unfold j_X14_element_30
  have Hs : Fr (W_j_X14_element_30) s s := Fr.rfl
  refine PR.bdv (PR.call Hs (fr_f_X14_tell 4 x3 s) (by decide +kernel)) (fun s1 Hs1 => ?_)
  exact PR.some Hs1
def W_j_X14_element_626 : List Nat := [87129, 87141, 87142, 87143]
theorem fr_j_X14_element_626 (x2 : Int) (x5 : Int) (x10 : Int) (s : vS) : PR (W_j_X14_element_626) s (fun q => q) (j_X14_element_626 x2 x5 x10 s) := by
  unfold j_X14_element_626
  have Hs : Fr (W_j_X14_element_626) s s := Fr.rfl
  refine PR.stp (Fr.wI Hs (by decide +kernel)) (fun s1 Hs1 => ?_)
  refine PR.ite (fun _ => ?_) (fun _ => ?_)
  · refine PR.gd ?_
    refine PR.stp (Fr.wI Hs1 (by decide +kernel)) (fun s5 Hs5 => ?_)
    exact PR.some Hs5
  · refine PR.stp (Fr.wI Hs1 (by decide +kernel)) (fun s7 Hs7 => ?_)
    refine PR.stp (Fr.wI Hs7 (by decide +kernel)) (fun s9 Hs9 => ?_)
    refine PR.stp (Fr.wI Hs9 (by decide +kernel)) (fun s11 Hs11 => ?_)
    exact PR.some Hs11
def W_j_X14_element_609 : List Nat := [87129, 87141, 87142, 87143, 181999]
theorem fr_j_X14_element_609 (x2 : Int) (x5 : Int) (x10 : Int) (s : vS) : PR (W_j_X14_element_609) s (fun q => q) (j_X14_element_609 x2 x5 x10 s) := by
  unfold j_X14_element_609
  have Hs : Fr (W_j_X14_element_609) s s := Fr.rfl
  refine PR.ite (fun _ => ?_) (fun _ => ?_)
  · exact PR.call Hs (fr_j_X14_element_626 x2 x5 x10 s) (by decide +kernel)
  · refine PR.gd ?_
    refine PR.stp (Fr.wE Hs (by decide +kernel)) (fun s3 Hs3 => ?_)
    exact PR.call Hs3 (fr_j_X14_element_626 x2 x5 x10 s3) (by decide +kernel)
def W_j_X14_element_580 : List Nat := [87129, 87141, 87142, 87143, 180999, 181999]
theorem fr_j_X14_element_580 (x2 : Int) (x5 : Int) (x10 : Int) (s : vS) : PR (W_j_X14_element_580) s (fun q => q) (j_X14_element_580 x2 x5 x10 s) := by
  unfold j_X14_element_580
  have Hs : Fr (W_j_X14_element_580) s s := Fr.rfl
  refine PR.ite (fun _ => ?_) (fun _ => ?_)
  · exact PR.call Hs (fr_j_X14_element_609 x2 x5 x10 s) (by decide +kernel)
  · refine PR.gd ?_
    refine PR.ite (fun _ => ?_) (fun _ => ?_)
    · exact PR.call Hs (fr_j_X14_element_609 x2 x5 x10 s) (by decide +kernel)
    · refine PR.gd ?_
      refine PR.stp (Fr.wE Hs (by decide +kernel)) (fun s5 Hs5 => ?_)
      exact PR.call Hs5 (fr_j_X14_element_609 x2 x5 x10 s5) (by decide +kernel)
def W_j_X14_element_506 : List Nat := [87129, 87141, 87142, 87143, 177999, 178999, 179999, 180999, 181999, 182999]
theorem fr_j_X14_element_506 (x2 : Int) (x5 : Int) (x10 : Int) (x11 : Int) (z1 : Int) (z2 : Int) (s : vS) : PR (W_j_X14_element_506) s (fun q => q) (j_X14_element_506 x2 x5 x10 x11 z1 z2 s) := by
  unfold j_X14_element_506
  have Hs : Fr (W_j_X14_element_506) s s := Fr.rfl
  refine PR.gd ?_
  refine PR.stp (Fr.wE Hs (by decide +kernel)) (fun s2 Hs2 => ?_)
  refine PR.gd ?_
  refine PR.stp (Fr.wE Hs2 (by decide +kernel)) (fun s5 Hs5 => ?_)
  refine PR.gd ?_
  refine PR.stp (Fr.wE Hs5 (by decide +kernel)) (fun s8 Hs8 => ?_)
  refine PR.gd ?_
  refine PR.stp (Fr.wE Hs8 (by decide +kernel)) (fun s11 Hs11 => ?_)
  refine PR.gd ?_
  refine PR.stp (Fr.wE Hs11 (by decide +kernel)) (fun s14 Hs14 => ?_)
  refine PR.gd ?_
  refine PR.stp (Fr.wE Hs14 (by decide +kernel)) (fun s17 Hs17 => ?_)
  refine PR.ite (fun _ => ?_) (fun _ => ?_)
  · exact PR.call Hs17 (fr_j_X14_element_580 x2 x5 x10 s17) (by decide +kernel)
  · refine PR.gd ?_
    refine PR.ite (fun _ => ?_) (fun _ => ?_)
    · exact PR.call Hs17 (fr_j_X14_element_580 x2 x5 x10 s17) (by decide +kernel)
    · refine PR.gd ?_
      refine PR.gd ?_
      refine PR.stp (Fr.wE Hs17 (by decide +kernel)) (fun s24 Hs24 => ?_)
      exact PR.call Hs24 (fr_j_X14_element_580 x2 x5 x10 s24) (by decide +kernel)
def W_j_X14_element_436 : List Nat := [87129, 87141, 87142, 87143, 172999, 173999, 174999, 175999, 176999, 177999, 178999, 179999, 180999, 181999, 182999]
theorem fr_j_X14_element_436 (x2 : Int) (x3 : Int) (x4 : Int) (x5 : Int) (x6 : Int) (x8 : Int) (x10 : Int) (x11 : Int) (s : vS) : PR (W_j_X14_element_436) s (fun q => q) (j_X14_element_436 x2 x3 x4 x5 x6 x8 x10 x11 s) := by
  unfold j_X14_element_436
  have Hs : Fr (W_j_X14_element_436) s s := Fr.rfl
  refine PR.ite (fun _ => ?_) (fun _ => ?_)
  · refine PR.gd ?_
    refine PR.stp (Fr.wE Hs (by decide +kernel)) (fun s3 Hs3 => ?_)
    refine PR.gd ?_
    refine PR.stp (Fr.wE Hs3 (by decide +kernel)) (fun s6 Hs6 => ?_)
    refine PR.gd ?_
    refine PR.stp (Fr.wE Hs6 (by decide +kernel)) (fun s9 Hs9 => ?_)
    refine PR.gd ?_
    refine PR.stp (Fr.wE Hs9 (by decide +kernel)) (fun s12 Hs12 => ?_)
    refine PR.gd ?_
    refine PR.stp (Fr.wE Hs12 (by decide +kernel)) (fun s15 Hs15 => ?_)
    refine PR.ite (fun _ => ?_) (fun _ => ?_)
    · exact PR.call Hs15 (fr_j_X14_element_506 x2 x5 x10 x11 x2 (w32 (x5 + (w32 x8))) s15) (by decide +kernel)
    · exact PR.call Hs15 (fr_j_X14_element_506 x2 x5 x10 x11 x2 (-1) s15) (by decide +kernel)
  · exact PR.some Hs
def W_j_X14_element_404 : List Nat := [87008, 87009, 87129, 87141, 87142, 87143, 172999, 173999, 174999, 175999, 176999, 177999, 178999, 179999, 180999, 181999, 182999]
theorem fr_j_X14_element_404 (x1 : Int) (x2 : Int) (x3 : Int) (x4 : Int) (x5 : Int) (x6 : Int) (x8 : Int) (x10 : Int) (z0 : Int) (s : vS) : PR (W_j_X14_element_404) s (fun q => q) (j_X14_element_404 x1 x2 x3 x4 x5 x6 x8 x10 z0 s) := by
  unfold j_X14_element_404
  have Hs : Fr (W_j_X14_element_404) s s := Fr.rfl
  refine PR.ite (fun _ => ?_) (fun _ => ?_)
  · refine PR.ite (fun _ => ?_) (fun _ => ?_)
    · refine PR.ite (fun _ => ?_) (fun _ => ?_)
      · exact PR.call Hs (fr_j_X14_element_436 x2 x3 x4 x5 x6 x8 x10 z0 s) (by decide +kernel)
      · refine PR.bdv (PR.call Hs (fr_f_X14_tell 1 x3 s) (by decide +kernel)) (fun s4 Hs4 => ?_)
        exact PR.call Hs4 (fr_j_X14_element_436 x2 x3 x4 x5 x6 x8 x10 z0 s4) (by decide +kernel)
    · exact PR.call Hs (fr_j_X14_element_436 x2 x3 x4 x5 x6 x8 x10 z0 s) (by decide +kernel)
  · exact PR.call Hs (fr_j_X14_element_436 x2 x3 x4 x5 x6 x8 x10 z0 s) (by decide +kernel)
def W_j_X14_element_391 : List Nat := [87008, 87009, 87129, 87141, 87142, 87143, 172999, 173999, 174999, 175999, 176999, 177999, 178999, 179999, 180999, 181999, 182999]
theorem fr_j_X14_element_391 (x1 : Int) (x2 : Int) (x3 : Int) (x4 : Int) (x5 : Int) (x6 : Int) (x7 : Int) (x8 : Int) (x10 : Int) (s : vS) : PR (W_j_X14_element_391) s (fun q => q) (j_X14_element_391 x1 x2 x3 x4 x5 x6 x7 x8 x10 s) := by
  unfold j_X14_element_391
  have Hs : Fr (W_j_X14_element_391) s s := Fr.rfl
  refine PR.ite (fun _ => ?_) (fun _ => ?_)
  · exact PR.call Hs (fr_j_X14_element_404 x1 x2 x3 x4 x5 x6 x8 x10 1 s) (by decide +kernel)
  · exact PR.call Hs (fr_j_X14_element_404 x1 x2 x3 x4 x5 x6 x8 x10 0 s) (by decide +kernel)
def W_j_X14_element_287 : List Nat := [87008, 87009, 87129, 87141, 87142, 87143, 172999, 173999, 174999, 175999, 176999, 177999, 178999, 179999, 180999, 181999, 182999]
theorem fr_j_X14_element_287 (x1 : Int) (x2 : Int) (x3 : Int) (x4 : Int) (x5 : Int) (x6 : Int) (x7 : Int) (x8 : Int) (x10 : Int) (s : vS) : PR (W_j_X14_element_287) s (fun q => q) (j_X14_element_287 x1 x2 x3 x4 x5 x6 x7 x8 x10 s) := by
  unfold j_X14_element_287
  have Hs : Fr (W_j_X14_element_287) s s := Fr.rfl
  refine PR.bdv (PR.call Hs (fr_f_X14_tell 3 x3 s) (by decide +kernel)) (fun s1 Hs1 => ?_)
  exact PR.call Hs1 (fr_j_X14_element_391 x1 x2 x3 x4 x5 x6 x7 x8 x10 s1) (by decide +kernel)
def W_l_X14_element_310 : List Nat := [87008, 87009]
theorem fr_j_X14_element_363 (rec : Int → Int → Int → Int → Int → Int → Int → Int → Int → Int → vS → Option (Int × Int × vS)) (hrec : ∀ (y0 : Int) (y1 : Int) (y2 : Int) (y3 : Int) (y4 : Int) (y5 : Int) (y6 : Int) (y7 : Int) (y8 : Int) (y9 : Int) (s : vS), PR (W_l_X14_element_310) s (fun q => q.2.2) (rec y0 y1 y2 y3 y4 y5 y6 y7 y8 y9 s)) (x1 : Int) (x2 : Int) (x3 : Int) (x4 : Int) (x5 : Int) (x6 : Int) (x7 : Int) (x10 : Int) (x11 : Int) (z0 : Int) (z1 : Int) (s : vS) : PR (W_l_X14_element_310) s (fun q => q.2.2) (j_X14_element_363 rec x1 x2 x3 x4 x5 x6 x7 x10 x11 z0 z1 s) := by
  unfold j_X14_element_363
  have Hs : Fr (W_l_X14_element_310) s s := Fr.rfl
  refine PR.vl (fun y1 => ?_)
  refine PR.ite (fun _ => ?_) (fun _ => ?_)
  · refine PR.vl (fun y5 => ?_)
    refine PR.vl (fun y8 => ?_)
    exact PR.tail Hs (hrec x1 x2 x3 x4 y5 x6 x7 y1 x10 y8 s)
  · refine PR.bdv (PR.call Hs (fr_f_X14_tell 3 x3 s) (by decide +kernel)) (fun s11 Hs11 => ?_)
    refine PR.vl (fun y14 => ?_)
    refine PR.vl (fun y17 => ?_)
    exact PR.tail Hs11 (hrec x1 x2 x3 x4 y14 x6 x7 y1 x10 y17 s11)
theorem fr_j_X14_element_340 (rec : Int → Int → Int → Int → Int → Int → Int → Int → Int → Int → vS → Option (Int × Int × vS)) (hrec : ∀ (y0 : Int) (y1 : Int) (y2 : Int) (y3 : Int) (y4 : Int) (y5 : Int) (y6 : Int) (y7 : Int) (y8 : Int) (y9 : Int) (s : vS), PR (W_l_X14_element_310) s (fun q => q.2.2) (rec y0 y1 y2 y3 y4 y5 y6 y7 y8 y9 s)) (x1 : Int) (x2 : Int) (x3 : Int) (x4 : Int) (x5 : Int) (x6 : Int) (x7 : Int) (x8 : Int) (x10 : Int) (x11 : Int) (s : vS) : PR (W_l_X14_element_310) s (fun q => q.2.2) (j_X14_element_340 rec x1 x2 x3 x4 x5 x6 x7 x8 x10 x11 s) := by
  unfold j_X14_element_340
  have Hs : Fr (W_l_X14_element_310) s s := Fr.rfl
  refine PR.ite (fun _ => ?_) (fun _ => ?_)
  · exact PR.tail Hs (fr_j_X14_element_363 rec hrec x1 x2 x3 x4 x5 x6 x7 x10 x11 (w64 (256 * x8)) 0 s)
  · refine PR.gd ?_
    exact PR.tail Hs (fr_j_X14_element_363 rec hrec x1 x2 x3 x4 x5 x6 x7 x10 x11 (w64 (256 * x8)) (gE s 171 x5) s)
theorem fr_l_X14_element_310 : ∀ (n : Nat) (x1 : Int) (x2 : Int) (x3 : Int) (x4 : Int) (x5 : Int) (x6 : Int) (x7 : Int) (x8 : Int) (x10 : Int) (x11 : Int) (s : vS), PR (W_l_X14_element_310) s (fun q => q.2.2) (l_X14_element_310 n x1 x2 x3 x4 x5 x6 x7 x8 x10 x11 s)
  := by
  intro n
  induction n with
  | zero => intro x1 x2 x3 x4 x5 x6 x7 x8 x10 x11 s; exact PR.none
  | succ n ih =>
    intro x1 x2 x3 x4 x5 x6 x7 x8 x10 x11 s
    unfold l_X14_element_310
    have Hs : Fr (W_l_X14_element_310) s s := Fr.rfl
    refine PR.ite (fun _ => ?_) (fun _ => ?_)
    · exact PR.some Hs
    · refine PR.ite (fun _ => ?_) (fun _ => ?_)
      · refine PR.ite (fun _ => ?_) (fun _ => ?_)
        · exact PR.tail Hs (fr_j_X14_element_340 (l_X14_element_310 n) ih x1 x2 x3 x4 x5 x6 x7 x8 x10 x11 s)
        · refine PR.bdv (PR.call Hs (fr_f_X14_tell 1 x3 s) (by decide +kernel)) (fun s4 Hs4 => ?_)
          exact PR.tail Hs4 (fr_j_X14_element_340 (l_X14_element_310 n) ih x1 x2 x3 x4 x5 x6 x7 x8 x10 x11 s4)
      · exact PR.some Hs
def W_j_X14_element_296 : List Nat := [87008, 87009, 87129, 87141, 87142, 87143, 172999, 173999, 174999, 175999, 176999, 177999, 178999, 179999, 180999, 181999, 182999]
theorem fr_j_X14_element_296 (x1 : Int) (x2 : Int) (x3 : Int) (x4 : Int) (x5 : Int) (x6 : Int) (x7 : Int) (x8 : Int) (x10 : Int) (s : vS) : PR (W_j_X14_element_296) s (fun q => q) (j_X14_element_296 x1 x2 x3 x4 x5 x6 x7 x8 x10 s) := by
  unfold j_X14_element_296
  have Hs : Fr (W_j_X14_element_296) s s := Fr.rfl
  refine PR.ite (fun _ => ?_) (fun _ => ?_)
  · exact PR.call Hs (fr_j_X14_element_391 x1 x2 x3 x4 x5 x6 x7 x8 x10 s) (by decide +kernel)
  · refine PR.lq_2 (PR.call Hs (fr_l_X14_element_310 FU x1 x2 x3 x4 x5 x6 x7 0 x10 0 s) (by decide +kernel)) (fun y2 y3 s4 Hs4 => ?_)
    exact PR.call Hs4 (fr_j_X14_element_391 x1 x2 x3 x4 y2 x6 x7 y3 x10 s4) (by decide +kernel)
def W_j_X14_element_264 : List Nat := [87008, 87009, 87129, 87141, 87142, 87143, 172999, 173999, 174999, 175999, 176999, 177999, 178999, 179999, 180999, 181999, 182999]
theorem fr_j_X14_element_264 (x1 : Int) (x2 : Int) (x3 : Int) (x4 : Int) (x5 : Int) (x6 : Int) (x7 : Int) (x8 : Int) (z0 : Int) (s : vS) : PR (W_j_X14_element_264) s (fun q => q) (j_X14_element_264 x1 x2 x3 x4 x5 x6 x7 x8 z0 s) := by
  unfold j_X14_element_264
  have Hs : Fr (W_j_X14_element_264) s s := Fr.rfl
  refine PR.ite (fun _ => ?_) (fun _ => ?_)
  · exact PR.call Hs (fr_j_X14_element_287 x1 x2 x3 x4 x5 x6 x7 x8 z0 s) (by decide +kernel)
  · refine PR.ite (fun _ => ?_) (fun _ => ?_)
    · refine PR.ite (fun _ => ?_) (fun _ => ?_)
      · exact PR.call Hs (fr_j_X14_element_287 x1 x2 x3 x4 x5 x6 x7 x8 z0 s) (by decide +kernel)
      · exact PR.call Hs (fr_j_X14_element_296 x1 x2 x3 x4 x5 x6 x7 x8 z0 s) (by decide +kernel)
    · exact PR.call Hs (fr_j_X14_element_296 x1 x2 x3 x4 x5 x6 x7 x8 z0 s) (by decide +kernel)
def W_j_X14_element_224 : List Nat := [87008, 87009, 87129, 87141, 87142, 87143, 172999, 173999, 174999, 175999, 176999, 177999, 178999, 179999, 180999, 181999, 182999]
theorem fr_j_X14_element_224 (x1 : Int) (x2 : Int) (x3 : Int) (x4 : Int) (x5 : Int) (x6 : Int) (s : vS) : PR (W_j_X14_element_224) s (fun q => q) (j_X14_element_224 x1 x2 x3 x4 x5 x6 s) := by
  unfold j_X14_element_224
  have Hs : Fr (W_j_X14_element_224) s s := Fr.rfl
  refine PR.ite (fun _ => ?_) (fun _ => ?_)
  · refine PR.gd ?_
    refine PR.vl (fun y3 => ?_)
    refine PR.vl (fun y6 => ?_)
    refine PR.ite (fun _ => ?_) (fun _ => ?_)
    · exact PR.call Hs (fr_j_X14_element_264 x1 x2 x3 x4 y6 x6 y3 y3 1 s) (by decide +kernel)
    · exact PR.call Hs (fr_j_X14_element_264 x1 x2 x3 x4 y6 x6 y3 y3 0 s) (by decide +kernel)
  · exact PR.some Hs
def W_j_X14_element_205 : List Nat := [87008, 87009, 87129, 87141, 87142, 87143, 172999, 173999, 174999, 175999, 176999, 177999, 178999, 179999, 180999, 181999, 182999]
theorem fr_j_X14_element_205 (x1 : Int) (x2 : Int) (x3 : Int) (x4 : Int) (x5 : Int) (x6 : Int) (s : vS) : PR (W_j_X14_element_205) s (fun q => q) (j_X14_element_205 x1 x2 x3 x4 x5 x6 s) := by
  unfold j_X14_element_205
  have Hs : Fr (W_j_X14_element_205) s s := Fr.rfl
  refine PR.ite (fun _ => ?_) (fun _ => ?_)
  · refine PR.ite (fun _ => ?_) (fun _ => ?_)
    · exact PR.call Hs (fr_j_X14_element_224 x1 x2 x3 x4 x5 x6 s) (by decide +kernel)
    · refine PR.bdv (PR.call Hs (fr_f_X14_tell 1 x3 s) (by decide +kernel)) (fun s3 Hs3 => ?_)
      exact PR.call Hs3 (fr_j_X14_element_224 x1 x2 x3 x4 x5 x6 s3) (by decide +kernel)
  · exact PR.call Hs (fr_j_X14_element_224 x1 x2 x3 x4 x5 x6 s) (by decide +kernel)
def W_l_X14_element_62 : List Nat := [87008, 87009]
theorem fr_j_X14_element_151 (rec : Int → Int → Int → Int → Int → Int → Int → vS → Option (Int × Int × vS)) (hrec : ∀ (y0 : Int) (y1 : Int) (y2 : Int) (y3 : Int) (y4 : Int) (y5 : Int) (y6 : Int) (s : vS), PR (W_l_X14_element_62) s (fun q => q.2.2) (rec y0 y1 y2 y3 y4 y5 y6 s)) (x1 : Int) (x2 : Int) (x3 : Int) (x4 : Int) (x5 : Int) (x6 : Int) (x8 : Int) (s : vS) : PR (W_l_X14_element_62) s (fun q => q.2.2) (j_X14_element_151 rec x1 x2 x3 x4 x5 x6 x8 s) := by
  unfold j_X14_element_151
  have Hs : Fr (W_l_X14_element_62) s s := Fr.rfl
  refine PR.vl (fun y1 => ?_)
  refine PR.ite (fun _ => ?_) (fun _ => ?_)
  · refine PR.vl (fun y5 => ?_)
    exact PR.tail Hs (hrec x1 x2 x3 x4 y5 y1 0 s)
  · refine PR.vl (fun y8 => ?_)
    exact PR.tail Hs (hrec x1 x2 x3 x4 y8 y1 1 s)
theorem fr_j_X14_element_134 (rec : Int → Int → Int → Int → Int → Int → Int → vS → Option (Int × Int × vS)) (hrec : ∀ (y0 : Int) (y1 : Int) (y2 : Int) (y3 : Int) (y4 : Int) (y5 : Int) (y6 : Int) (s : vS), PR (W_l_X14_element_62) s (fun q => q.2.2) (rec y0 y1 y2 y3 y4 y5 y6 s)) (x1 : Int) (x2 : Int) (x3 : Int) (x4 : Int) (x5 : Int) (x6 : Int) (x8 : Int) (s : vS) : PR (W_l_X14_element_62) s (fun q => q.2.2) (j_X14_element_134 rec x1 x2 x3 x4 x5 x6 x8 s) := by
  unfold j_X14_element_134
  have Hs : Fr (W_l_X14_element_62) s s := Fr.rfl
  refine PR.ite (fun _ => ?_) (fun _ => ?_)
  · exact PR.tail Hs (fr_j_X14_element_151 rec hrec x1 x2 x3 x4 x5 x6 x8 s)
  · refine PR.bdv (PR.call Hs (fr_f_X14_tell 2 x3 s) (by decide +kernel)) (fun s2 Hs2 => ?_)
    exact PR.tail Hs2 (fr_j_X14_element_151 rec hrec x1 x2 x3 x4 x5 0 x8 s2)
theorem fr_j_X14_element_103 (rec : Int → Int → Int → Int → Int → Int → Int → vS → Option (Int × Int × vS)) (hrec : ∀ (y0 : Int) (y1 : Int) (y2 : Int) (y3 : Int) (y4 : Int) (y5 : Int) (y6 : Int) (s : vS), PR (W_l_X14_element_62) s (fun q => q.2.2) (rec y0 y1 y2 y3 y4 y5 y6 s)) (x1 : Int) (x2 : Int) (x3 : Int) (x4 : Int) (x5 : Int) (x6 : Int) (z0 : Int) (s : vS) : PR (W_l_X14_element_62) s (fun q => q.2.2) (j_X14_element_103 rec x1 x2 x3 x4 x5 x6 z0 s) := by
  unfold j_X14_element_103
  have Hs : Fr (W_l_X14_element_62) s s := Fr.rfl
  refine PR.ite (fun _ => ?_) (fun _ => ?_)
  · refine PR.ite (fun _ => ?_) (fun _ => ?_)
    · refine PR.ite (fun _ => ?_) (fun _ => ?_)
      · refine PR.bdv (PR.call Hs (fr_f_X14_tell 2 x3 s) (by decide +kernel)) (fun s4 Hs4 => ?_)
        exact PR.tail Hs4 (fr_j_X14_element_134 rec hrec x1 x2 x3 x4 x5 x6 z0 s4)
      · exact PR.tail Hs (fr_j_X14_element_134 rec hrec x1 x2 x3 x4 x5 x6 z0 s)
    · exact PR.tail Hs (fr_j_X14_element_134 rec hrec x1 x2 x3 x4 x5 x6 z0 s)
  · exact PR.tail Hs (fr_j_X14_element_134 rec hrec x1 x2 x3 x4 x5 x6 z0 s)
theorem fr_j_X14_element_86 (rec : Int → Int → Int → Int → Int → Int → Int → vS → Option (Int × Int × vS)) (hrec : ∀ (y0 : Int) (y1 : Int) (y2 : Int) (y3 : Int) (y4 : Int) (y5 : Int) (y6 : Int) (s : vS), PR (W_l_X14_element_62) s (fun q => q.2.2) (rec y0 y1 y2 y3 y4 y5 y6 s)) (x1 : Int) (x2 : Int) (x3 : Int) (x4 : Int) (x5 : Int) (x6 : Int) (s : vS) : PR (W_l_X14_element_62) s (fun q => q.2.2) (j_X14_element_86 rec x1 x2 x3 x4 x5 x6 s) := by
  unfold j_X14_element_86
  have Hs : Fr (W_l_X14_element_62) s s := Fr.rfl
  refine PR.ite (fun _ => ?_) (fun _ => ?_)
  · exact PR.tail Hs (fr_j_X14_element_103 rec hrec x1 x2 x3 x4 x5 x6 0 s)
  · refine PR.gd ?_
    exact PR.tail Hs (fr_j_X14_element_103 rec hrec x1 x2 x3 x4 x5 x6 (gE s 171 x5) s)
theorem fr_l_X14_element_62 : ∀ (n : Nat) (x1 : Int) (x2 : Int) (x3 : Int) (x4 : Int) (x5 : Int) (x6 : Int) (x7 : Int) (s : vS), PR (W_l_X14_element_62) s (fun q => q.2.2) (l_X14_element_62 n x1 x2 x3 x4 x5 x6 x7 s)
  := by
  intro n
  induction n with
  | zero => intro x1 x2 x3 x4 x5 x6 x7 s; exact PR.none
  | succ n ih =>
    intro x1 x2 x3 x4 x5 x6 x7 s
    unfold l_X14_element_62
    have Hs : Fr (W_l_X14_element_62) s s := Fr.rfl
    refine PR.ite (fun _ => ?_) (fun _ => ?_)
    · exact PR.some Hs
    · refine PR.ite (fun _ => ?_) (fun _ => ?_)
      · refine PR.ite (fun _ => ?_) (fun _ => ?_)
        · exact PR.tail Hs (fr_j_X14_element_86 (l_X14_element_62 n) ih x1 x2 x3 x4 x5 x6 s)
        · refine PR.bdv (PR.call Hs (fr_f_X14_tell 1 x3 s) (by decide +kernel)) (fun s4 Hs4 => ?_)
          exact PR.tail Hs4 (fr_j_X14_element_86 (l_X14_element_62 n) ih x1 x2 x3 x4 x5 x6 s4)
      · exact PR.some Hs
def W_j_X14_element_185 : List Nat := [87008, 87009, 87129, 87141, 87142, 87143, 172999, 173999, 174999, 175999, 176999, 177999, 178999, 179999, 180999, 181999, 182999]
theorem fr_j_X14_element_185 (x1 : Int) (x2 : Int) (x3 : Int) (x4 : Int) (x5 : Int) (x6 : Int) (s : vS) : PR (W_j_X14_element_185) s (fun q => q) (j_X14_element_185 x1 x2 x3 x4 x5 x6 s) := by
  unfold j_X14_element_185
  have Hs : Fr (W_j_X14_element_185) s s := Fr.rfl
  refine PR.ite (fun _ => ?_) (fun _ => ?_)
  · refine PR.ite (fun _ => ?_) (fun _ => ?_)
    · exact PR.call Hs (fr_j_X14_element_205 x1 x2 x3 x4 x5 x6 s) (by decide +kernel)
    · refine PR.bdv (PR.call Hs (fr_f_X14_tell 2 x3 s) (by decide +kernel)) (fun s3 Hs3 => ?_)
      exact PR.call Hs3 (fr_j_X14_element_205 x1 x2 x3 x4 x5 x6 s3) (by decide +kernel)
  · exact PR.call Hs (fr_j_X14_element_205 x1 x2 x3 x4 x5 x6 s) (by decide +kernel)
def W_f_X14_element : List Nat := [87008, 87009, 87129, 87141, 87142, 87143, 172999, 173999, 174999, 175999, 176999, 177999, 178999, 179999, 180999, 181999, 182999]
theorem fr_f_X14_element (x1 : Int) (s : vS) : PR (W_f_X14_element) s (fun q => q) (f_X14_element x1 s) := by
  unfold f_X14_element
  have Hs : Fr (W_f_X14_element) s s := Fr.rfl
  refine PR.vl (fun y1 => ?_)
  refine PR.vl (fun y4 => ?_)
  refine PR.gd ?_
  refine PR.vl (fun y8 => ?_)
  refine PR.ite (fun _ => ?_) (fun _ => ?_)
  · exact PR.call Hs (fr_j_X14_element_30 y4 s) (by decide +kernel)
  · refine PR.ite (fun _ => ?_) (fun _ => ?_)
    · exact PR.call Hs (fr_j_X14_element_30 y4 s) (by decide +kernel)
    · refine PR.vl (fun y13 => ?_)
      refine PR.vl (fun y16 => ?_)
      refine PR.ite (fun _ => ?_) (fun _ => ?_)
      · refine PR.lq_2 (PR.call Hs (fr_l_X14_element_62 FU x1 y1 y4 y8 y13 0 1 s) (by decide +kernel)) (fun y20 y21 s22 Hs22 => ?_)
        exact PR.call Hs22 (fr_j_X14_element_185 x1 y1 y4 y8 y20 y21 s22) (by decide +kernel)
      · exact PR.call Hs (fr_j_X14_element_205 x1 y1 y4 y8 y13 y16 s) (by decide +kernel)
def W_l_X14_cutElements_22 : List Nat := [87008, 87009, 87129, 87141, 87142, 87143, 172999, 173999, 174999, 175999, 176999, 177999, 178999, 179999, 180999, 181999, 182999]
theorem fr_j_X14_cutElements_184 (rec : Int → vS → Option (vS)) (hrec : ∀ (y0 : Int) (s : vS), PR (W_l_X14_cutElements_22) s (fun q => q) (rec y0 s)) (x1 : Int) (x2 : Int) (s : vS) : PR (W_l_X14_cutElements_22) s (fun q => q) (j_X14_cutElements_184 rec x1 x2 s) := by
  unfold j_X14_cutElements_184
  have Hs : Fr (W_l_X14_cutElements_22) s s := Fr.rfl
  refine PR.ite (fun _ => ?_) (fun _ => ?_)
  · refine PR.ite (fun _ => ?_) (fun _ => ?_)
    · refine PR.bdv (PR.call Hs (fr_f_X14_element x2 s) (by decide +kernel)) (fun s3 Hs3 => ?_)
      exact PR.tail Hs3 (hrec x1 s3)
    · refine PR.bdv (PR.call Hs (fr_f_X14_tell 5 (gI s 87 143) s) (by decide +kernel)) (fun s6 Hs6 => ?_)
      exact PR.tail Hs6 (hrec x1 s6)
  · refine PR.bdv (PR.call Hs (fr_f_X14_tell 1 (gI s 87 143) s) (by decide +kernel)) (fun s9 Hs9 => ?_)
    exact PR.tail Hs9 (hrec x1 s9)
theorem fr_j_X14_cutElements_99 (rec : Int → vS → Option (vS)) (hrec : ∀ (y0 : Int) (s : vS), PR (W_l_X14_cutElements_22) s (fun q => q) (rec y0 s)) (x1 : Int) (x2 : Int) (s : vS) : PR (W_l_X14_cutElements_22) s (fun q => q) (j_X14_cutElements_99 rec x1 x2 s) := by
  unfold j_X14_cutElements_99
  have Hs : Fr (W_l_X14_cutElements_22) s s := Fr.rfl
  refine PR.ite (fun _ => ?_) (fun _ => ?_)
  · exact PR.tail Hs (fr_j_X14_cutElements_184 rec hrec x1 x2 s)
  · refine PR.gd ?_
    refine PR.ite (fun _ => ?_) (fun _ => ?_)
    · exact PR.tail Hs (fr_j_X14_cutElements_184 rec hrec x1 x2 s)
    · refine PR.ite (fun _ => ?_) (fun _ => ?_)
      · exact PR.tail Hs (fr_j_X14_cutElements_184 rec hrec x1 x2 s)
      · refine PR.gd ?_
        refine PR.ite (fun _ => ?_) (fun _ => ?_)
        · refine PR.gd ?_
          refine PR.ite (fun _ => ?_) (fun _ => ?_)
          · refine PR.gd ?_
            refine PR.stp (Fr.wE Hs (by decide +kernel)) (fun s10 Hs10 => ?_)
            refine PR.stp (Fr.wI Hs10 (by decide +kernel)) (fun s12 Hs12 => ?_)
            refine PR.bdv (PR.call Hs12 (fr_f_X14_closeParent s12) (by decide +kernel)) (fun s14 Hs14 => ?_)
            exact PR.tail Hs14 (hrec x1 s14)
          · exact PR.tail Hs (fr_j_X14_cutElements_184 rec hrec x1 x2 s)
        · exact PR.tail Hs (fr_j_X14_cutElements_184 rec hrec x1 x2 s)
theorem fr_j_X14_cutElements_57 (rec : Int → vS → Option (vS)) (hrec : ∀ (y0 : Int) (s : vS), PR (W_l_X14_cutElements_22) s (fun q => q) (rec y0 s)) (x1 : Int) (x2 : Int) (s : vS) : PR (W_l_X14_cutElements_22) s (fun q => q) (j_X14_cutElements_57 rec x1 x2 s) := by
  unfold j_X14_cutElements_57
  have Hs : Fr (W_l_X14_cutElements_22) s s := Fr.rfl
  refine PR.ite (fun _ => ?_) (fun _ => ?_)
  · exact PR.tail Hs (fr_j_X14_cutElements_99 rec hrec x1 x2 s)
  · refine PR.gd ?_
    refine PR.ite (fun _ => ?_) (fun _ => ?_)
    · refine PR.gd ?_
      refine PR.ite (fun _ => ?_) (fun _ => ?_)
      · refine PR.bdv (PR.call Hs (fr_f_X14_closeParent s) (by decide +kernel)) (fun s6 Hs6 => ?_)
        exact PR.tail Hs6 (hrec x1 s6)
      · exact PR.tail Hs (fr_j_X14_cutElements_99 rec hrec x1 x2 s)
    · exact PR.tail Hs (fr_j_X14_cutElements_99 rec hrec x1 x2 s)
theorem fr_l_X14_cutElements_22 : ∀ (n : Nat) (x1 : Int) (s : vS), PR (W_l_X14_cutElements_22) s (fun q => q) (l_X14_cutElements_22 n x1 s)
  := by
  intro n
  induction n with
  | zero => intro x1 s; exact PR.none
  | succ n ih =>
    intro x1 s
    unfold l_X14_cutElements_22
    have Hs : Fr (W_l_X14_cutElements_22) s s := Fr.rfl
    refine PR.ite (fun _ => ?_) (fun _ => ?_)
    · refine PR.ite (fun _ => ?_) (fun _ => ?_)
      · refine PR.bd (PR.pure Hs (fr_f_X14_wall s)) (fun r6 s3 Hs3 => ?_)
        refine PR.ite (fun _ => ?_) (fun _ => ?_)
        · exact PR.tail Hs3 (fr_j_X14_cutElements_57 (l_X14_cutElements_22 n) ih x1 r6 s3)
        · refine PR.ite (fun _ => ?_) (fun _ => ?_)
          · exact PR.tail Hs3 (fr_j_X14_cutElements_57 (l_X14_cutElements_22 n) ih x1 r6 s3)
          · exact PR.tail Hs3 (ih 1 s3)
      · exact PR.some Hs
    · exact PR.some Hs
def W_j_X14_cutElements_235 : List Nat := [87008, 87009]
theorem fr_j_X14_cutElements_235 (s : vS) : PR (W_j_X14_cutElements_235) s (fun q => q) (j_X14_cutElements_235 s) := by
  unfold j_X14_cutElements_235
  have Hs : Fr (W_j_X14_cutElements_235) s s := Fr.rfl
  refine PR.ite (fun _ => ?_) (fun _ => ?_)
  · refine PR.ite (fun _ => ?_) (fun _ => ?_)
    · exact PR.some Hs
    · refine PR.bdv (PR.call Hs (fr_f_X14_tell 6 (gI s 87 143) s) (by decide +kernel)) (fun s3 Hs3 => ?_)
      exact PR.some Hs3
  · exact PR.some Hs
def W_f_X14_cutElements : List Nat := [87008, 87009, 87129, 87141, 87142, 87143, 172999, 173999, 174999, 175999, 176999, 177999, 178999, 179999, 180999, 181999, 182999]
theorem fr_f_X14_cutElements (s : vS) : PR (W_f_X14_cutElements) s (fun q => q) (f_X14_cutElements s) := by
  unfold f_X14_cutElements
  have Hs : Fr (W_f_X14_cutElements) s s := Fr.rfl
  refine PR.stp (Fr.wI Hs (by decide +kernel)) (fun s1 Hs1 => ?_)
  refine PR.stp (Fr.wI Hs1 (by decide +kernel)) (fun s3 Hs3 => ?_)
  refine PR.stp (Fr.wI Hs3 (by decide +kernel)) (fun s5 Hs5 => ?_)
  refine PR.stp (Fr.wI Hs5 (by decide +kernel)) (fun s7 Hs7 => ?_)
  refine PR.lq_0 (PR.call Hs7 (fr_l_X14_cutElements_22 FU 0 s7) (by decide +kernel)) (fun s9 Hs9 => ?_)
  exact PR.call Hs9 (fr_j_X14_cutElements_235 s9) (by decide +kernel)
def W_j_X14_roomForWork_51 : List Nat := [183998, 183999]
theorem fr_j_X14_roomForWork_51 (z2 : Int) (s : vS) : PR (W_j_X14_roomForWork_51) s (fun q => q) (j_X14_roomForWork_51 z2 s) := by
  unfold j_X14_roomForWork_51
  have Hs : Fr (W_j_X14_roomForWork_51) s s := Fr.rfl
  refine PR.bdv (PR.pure Hs (fr_f_X14_longer 183 z2 s)) (fun s1 Hs1 => ?_)
  refine PR.gd ?_
  refine PR.stp (Fr.wswT Hs1 (by decide) (by decide +kernel) (by decide +kernel)) (fun s5 Hs5 => ?_)
  refine PR.stp (Fr.wrs Hs5) (fun s7 Hs7 => ?_)
  exact PR.some Hs7
def W_f_X14_roomForWork : List Nat := [183998, 183999]
theorem fr_f_X14_roomForWork (x1 : Int) (s : vS) : PR (W_f_X14_roomForWork) s (fun q => q) (f_X14_roomForWork x1 s) := by
  unfold f_X14_roomForWork
  have Hs : Fr (W_f_X14_roomForWork) s s := Fr.rfl
  refine PR.vl (fun y1 => ?_)
  refine PR.ite (fun _ => ?_) (fun _ => ?_)
  · refine PR.ite (fun _ => ?_) (fun _ => ?_)
    · refine PR.ite (fun _ => ?_) (fun _ => ?_)
      · exact PR.call Hs (fr_j_X14_roomForWork_51 (w32 (2 * y1)) s) (by decide +kernel)
      · exact PR.call Hs (fr_j_X14_roomForWork_51 131072 s) (by decide +kernel)
    · exact PR.call Hs (fr_j_X14_roomForWork_51 32768 s) (by decide +kernel)
  · exact PR.some Hs
def W_f_X14_write : List Nat := [87144, 183998, 183999]
theorem fr_f_X14_write (x1 : Int) (s : vS) : PR (W_f_X14_write) s (fun q => q) (f_X14_write x1 s) := by
  unfold f_X14_write
  have Hs : Fr (W_f_X14_write) s s := Fr.rfl
  refine PR.bdv (PR.call Hs (fr_f_X14_roomForWork 1 s) (by decide +kernel)) (fun s1 Hs1 => ?_)
  refine PR.gd ?_
  refine PR.stp (Fr.wE Hs1 (by decide +kernel)) (fun s5 Hs5 => ?_)
  refine PR.stp (Fr.wI Hs5 (by decide +kernel)) (fun s7 Hs7 => ?_)
  exact PR.some Hs7
def W_f_X14_headByte : List Nat := [87147, 185999]
theorem fr_f_X14_headByte (x1 : Int) (s : vS) : PR (W_f_X14_headByte) s (fun q => q) (f_X14_headByte x1 s) := by
  unfold f_X14_headByte
  have Hs : Fr (W_f_X14_headByte) s s := Fr.rfl
  refine PR.gd ?_
  refine PR.stp (Fr.wE Hs (by decide +kernel)) (fun s2 Hs2 => ?_)
  refine PR.stp (Fr.wI Hs2 (by decide +kernel)) (fun s4 Hs4 => ?_)
  exact PR.some Hs4
def W_l_X14_wrap_34 : List Nat := [87147, 185999]
theorem fr_l_X14_wrap_34 : ∀ (n : Nat) (x1 : Int) (x2 : Int) (x4 : Int) (x6 : Int) (s : vS), PR (W_l_X14_wrap_34) s (fun q => q) (l_X14_wrap_34 n x1 x2 x4 x6 s)
  := by
  intro n
  induction n with
  | zero => intro x1 x2 x4 x6 s; exact PR.none
  | succ n ih =>
    intro x1 x2 x4 x6 s
    unfold l_X14_wrap_34
    have Hs : Fr (W_l_X14_wrap_34) s s := Fr.rfl
    refine PR.ite (fun _ => ?_) (fun _ => ?_)
    · exact PR.some Hs
    · refine PR.bdv (PR.call Hs (fr_f_X14_headByte (and32 x6 255) s) (by decide +kernel)) (fun s2 Hs2 => ?_)
      refine PR.vl (fun y5 => ?_)
      exact PR.tail Hs2 (ih x1 x2 x4 y5 s2)
def W_l_X14_wrap_123 : List Nat := [87147, 185999]
theorem fr_l_X14_wrap_123 : ∀ (n : Nat) (x1 : Int) (x7 : Int) (x8 : Int) (x9 : Int) (s : vS), PR (W_l_X14_wrap_123) s (fun q => q) (l_X14_wrap_123 n x1 x7 x8 x9 s)
  := by
  intro n
  induction n with
  | zero => intro x1 x7 x8 x9 s; exact PR.none
  | succ n ih =>
    intro x1 x7 x8 x9 s
    unfold l_X14_wrap_123
    have Hs : Fr (W_l_X14_wrap_123) s s := Fr.rfl
    refine PR.ite (fun _ => ?_) (fun _ => ?_)
    · exact PR.some Hs
    · refine PR.bdv (PR.call Hs (fr_f_X14_headByte (or32 (and32 x8 127) x9) s) (by decide +kernel)) (fun s2 Hs2 => ?_)
      refine PR.vl (fun y5 => ?_)
      exact PR.tail Hs2 (ih x1 x7 y5 128 s2)
def W_l_X14_wrap_180 : List Nat := [183999]
theorem fr_l_X14_wrap_180 : ∀ (n : Nat) (x1 : Int) (x8 : Int) (s : vS), PR (W_l_X14_wrap_180) s (fun q => q) (l_X14_wrap_180 n x1 x8 s)
  := by
  intro n
  induction n with
  | zero => intro x1 x8 s; exact PR.none
  | succ n ih =>
    intro x1 x8 s
    unfold l_X14_wrap_180
    have Hs : Fr (W_l_X14_wrap_180) s s := Fr.rfl
    refine PR.ite (fun _ => ?_) (fun _ => ?_)
    · exact PR.some Hs
    · refine PR.gd ?_
      refine PR.gd ?_
      refine PR.stp (Fr.wE Hs (by decide +kernel)) (fun s4 Hs4 => ?_)
      refine PR.vl (fun y6 => ?_)
      exact PR.tail Hs4 (ih x1 y6 s4)
def W_l_X14_wrap_214 : List Nat := [183999]
theorem fr_l_X14_wrap_214 : ∀ (n : Nat) (x1 : Int) (x8 : Int) (s : vS), PR (W_l_X14_wrap_214) s (fun q => q) (l_X14_wrap_214 n x1 x8 s)
  := by
  intro n
  induction n with
  | zero => intro x1 x8 s; exact PR.none
  | succ n ih =>
    intro x1 x8 s
    unfold l_X14_wrap_214
    have Hs : Fr (W_l_X14_wrap_214) s s := Fr.rfl
    refine PR.ite (fun _ => ?_) (fun _ => ?_)
    · exact PR.some Hs
    · refine PR.gd ?_
      refine PR.gd ?_
      refine PR.stp (Fr.wE Hs (by decide +kernel)) (fun s4 Hs4 => ?_)
      refine PR.vl (fun y6 => ?_)
      exact PR.tail Hs4 (ih x1 y6 s4)
def W_j_X14_wrap_164 : List Nat := [87144, 183998, 183999]
theorem fr_j_X14_wrap_164 (x1 : Int) (s : vS) : PR (W_j_X14_wrap_164) s (fun q => q) (j_X14_wrap_164 x1 s) := by
  unfold j_X14_wrap_164
  have Hs : Fr (W_j_X14_wrap_164) s s := Fr.rfl
  refine PR.bdv (PR.call Hs (fr_f_X14_roomForWork (gI s 87 147) s) (by decide +kernel)) (fun s1 Hs1 => ?_)
  refine PR.vl (fun y4 => ?_)
  refine PR.lq_0 (PR.call Hs1 (fr_l_X14_wrap_180 FU x1 y4 s1) (by decide +kernel)) (fun s7 Hs7 => ?_)
  refine PR.lq_0 (PR.call Hs7 (fr_l_X14_wrap_214 FU x1 0 s7) (by decide +kernel)) (fun s9 Hs9 => ?_)
  refine PR.stp (Fr.wI Hs9 (by decide +kernel)) (fun s11 Hs11 => ?_)
  exact PR.some Hs11
def W_j_X14_wrap_94 : List Nat := [87144, 87147, 183998, 183999, 185999]
theorem fr_j_X14_wrap_94 (x1 : Int) (x6 : Int) (z0 : Int) (z1 : Int) (s : vS) : PR (W_j_X14_wrap_94) s (fun q => q) (j_X14_wrap_94 x1 x6 z0 z1 s) := by
  unfold j_X14_wrap_94
  have Hs : Fr (W_j_X14_wrap_94) s s := Fr.rfl
  refine PR.vl (fun y1 => ?_)
  refine PR.ite (fun _ => ?_) (fun _ => ?_)
  · refine PR.lq_0 (PR.call Hs (fr_l_X14_wrap_123 FU x1 y1 x6 0 s) (by decide +kernel)) (fun s5 Hs5 => ?_)
    refine PR.bdv (PR.call Hs5 (fr_f_X14_headByte (or32 y1 31) s5) (by decide +kernel)) (fun s7 Hs7 => ?_)
    exact PR.call Hs7 (fr_j_X14_wrap_164 x1 s7) (by decide +kernel)
  · refine PR.bdv (PR.call Hs (fr_f_X14_headByte (or32 y1 x6) s) (by decide +kernel)) (fun s10 Hs10 => ?_)
    exact PR.call Hs10 (fr_j_X14_wrap_164 x1 s10) (by decide +kernel)
def W_j_X14_wrap_71 : List Nat := [87144, 87147, 183998, 183999, 185999]
theorem fr_j_X14_wrap_71 (x1 : Int) (x2 : Int) (x4 : Int) (s : vS) : PR (W_j_X14_wrap_71) s (fun q => q) (j_X14_wrap_71 x1 x2 x4 s) := by
  unfold j_X14_wrap_71
  have Hs : Fr (W_j_X14_wrap_71) s s := Fr.rfl
  refine PR.vl (fun y1 => ?_)
  refine PR.ite (fun _ => ?_) (fun _ => ?_)
  · exact PR.call Hs (fr_j_X14_wrap_94 x1 y1 (shl32 (w32 (shr64 x2 32)) 6) 0 s) (by decide +kernel)
  · exact PR.call Hs (fr_j_X14_wrap_94 x1 y1 (shl32 (w32 (shr64 x2 32)) 6) 32 s) (by decide +kernel)
def W_f_X14_wrap : List Nat := [87144, 87147, 183998, 183999, 185999]
theorem fr_f_X14_wrap (x1 : Int) (x2 : Int) (x4 : Int) (s : vS) : PR (W_f_X14_wrap) s (fun q => q) (f_X14_wrap x1 x2 x4 s) := by
  unfold f_X14_wrap
  have Hs : Fr (W_f_X14_wrap) s s := Fr.rfl
  refine PR.vl (fun y1 => ?_)
  refine PR.stp (Fr.wI Hs (by decide +kernel)) (fun s4 Hs4 => ?_)
  refine PR.ite (fun _ => ?_) (fun _ => ?_)
  · refine PR.lq_0 (PR.call Hs4 (fr_l_X14_wrap_34 FU x1 x2 x4 y1 s4) (by decide +kernel)) (fun s7 Hs7 => ?_)
    refine PR.bdv (PR.call Hs7 (fr_f_X14_headByte (w32 (128 + (gI s7 87 147))) s7) (by decide +kernel)) (fun s9 Hs9 => ?_)
    exact PR.call Hs9 (fr_j_X14_wrap_71 x1 x2 x4 s9) (by decide +kernel)
  · refine PR.bdv (PR.call Hs4 (fr_f_X14_headByte y1 s4) (by decide +kernel)) (fun s12 Hs12 => ?_)
    exact PR.call Hs12 (fr_j_X14_wrap_71 x1 x2 x4 s12) (by decide +kernel)
def W_f_X14_hasTag : List Nat := []
theorem fr_f_X14_hasTag (x1 : Int) (x2 : Int) (s : vS) : PR (W_f_X14_hasTag) s (fun q => q.2) (f_X14_hasTag x1 x2 s) := by
  unfold f_X14_hasTag
  have Hs : Fr (W_f_X14_hasTag) s s := Fr.rfl
  refine PR.gd ?_
  refine PR.gd ?_
  refine PR.bd (PR.pure Hs (fr_f_X14_tagOf (gE s 173 x1) (gE s 175 x1) s)) (fun r6 s3 Hs3 => ?_)
  refine PR.ite (fun _ => ?_) (fun _ => ?_)
  · exact PR.some Hs3
  · exact PR.some Hs3
def W_l_X14_mayBe_15 : List Nat := []
theorem fr_l_X14_mayBe_15 : ∀ (n : Nat) (x1 : Int) (x3 : Int) (x4 : Int) (s : vS), PR (W_l_X14_mayBe_15) s (fun q => q.2) (l_X14_mayBe_15 n x1 x3 x4 s)
  := by
  intro n
  induction n with
  | zero => intro x1 x3 x4 s; exact PR.none
  | succ n ih =>
    intro x1 x3 x4 s
    unfold l_X14_mayBe_15
    have Hs : Fr (W_l_X14_mayBe_15) s s := Fr.rfl
    refine PR.ite (fun _ => ?_) (fun _ => ?_)
    · exact PR.some Hs
    · refine PR.ite (fun _ => ?_) (fun _ => ?_)
      · refine PR.gd ?_
        refine PR.bd (PR.pure Hs (fr_f_X14_hasTag x1 (gEL s 158 x4) s)) (fun r10 s7 Hs7 => ?_)
        refine PR.ite (fun _ => ?_) (fun _ => ?_)
        · refine PR.vl (fun y13 => ?_)
          exact PR.tail Hs7 (ih x1 0 y13 s7)
        · refine PR.vl (fun y16 => ?_)
          exact PR.tail Hs7 (ih x1 1 y16 s7)
      · refine PR.vl (fun y3 => ?_)
        exact PR.tail Hs (ih x1 1 y3 s)
def W_f_X14_mayBe : List Nat := [87097, 87099, 156999, 157999, 158998, 158999]
theorem fr_f_X14_mayBe (x1 : Int) (x2 : Int) (s : vS) : PR (W_f_X14_mayBe) s (fun q => q.2) (f_X14_mayBe x1 x2 s) := by
  unfold f_X14_mayBe
  have Hs : Fr (W_f_X14_mayBe) s s := Fr.rfl
  refine PR.stp (Fr.wI Hs (by decide +kernel)) (fun s1 Hs1 => ?_)
  refine PR.bdv (PR.call Hs1 (fr_f_X14_gatherTags x2 s1) (by decide +kernel)) (fun s3 Hs3 => ?_)
  refine PR.lq_1 (PR.pure Hs3 (fr_l_X14_mayBe_15 FU x1 0 0 s3)) (fun y6 s7 Hs7 => ?_)
  refine PR.gd ?_
  exact PR.some Hs7
def W_l_X14_gatherBits_227 : List Nat := []
theorem fr_l_X14_gatherBits_227 : ∀ (n : Nat) (x1 : Int) (x2 : Int) (x3 : Int) (x4 : Int) (x5 : Int) (s : vS), PR (W_l_X14_gatherBits_227) s (fun q => q.2) (l_X14_gatherBits_227 n x1 x2 x3 x4 x5 s)
  := by
  intro n
  induction n with
  | zero => intro x1 x2 x3 x4 x5 s; exact PR.none
  | succ n ih =>
    intro x1 x2 x3 x4 x5 s
    unfold l_X14_gatherBits_227
    have Hs : Fr (W_l_X14_gatherBits_227) s s := Fr.rfl
    refine PR.ite (fun _ => ?_) (fun _ => ?_)
    · exact PR.some Hs
    · refine PR.gd ?_
      refine PR.ite (fun _ => ?_) (fun _ => ?_)
      · exact PR.some Hs
      · refine PR.gd ?_
        refine PR.vl (fun y5 => ?_)
        exact PR.tail Hs (ih x1 y5 x3 x4 x5 s)
def W_l_X14_gatherBits_15 : List Nat := [87107, 162998, 162999]
theorem fr_j_X14_gatherBits_251 (rec : Int → Int → Int → Int → Int → vS → Option (Int × vS)) (hrec : ∀ (y0 : Int) (y1 : Int) (y2 : Int) (y3 : Int) (y4 : Int) (s : vS), PR (W_l_X14_gatherBits_15) s (fun q => q.2) (rec y0 y1 y2 y3 y4 s)) (x1 : Int) (x2 : Int) (x3 : Int) (x4 : Int) (x5 : Int) (s : vS) : PR (W_l_X14_gatherBits_15) s (fun q => q.2) (j_X14_gatherBits_251 rec x1 x2 x3 x4 x5 s) := by
  unfold j_X14_gatherBits_251
  have Hs : Fr (W_l_X14_gatherBits_15) s s := Fr.rfl
  refine PR.ite (fun _ => ?_) (fun _ => ?_)
  · exact PR.tail Hs (hrec x1 x2 x3 1 x5 s)
  · refine PR.gd ?_
    refine PR.vl (fun y3 => ?_)
    exact PR.tail Hs (hrec x1 y3 x3 x4 x5 s)
theorem fr_j_X14_gatherBits_208 (rec : Int → Int → Int → Int → Int → vS → Option (Int × vS)) (hrec : ∀ (y0 : Int) (y1 : Int) (y2 : Int) (y3 : Int) (y4 : Int) (s : vS), PR (W_l_X14_gatherBits_15) s (fun q => q.2) (rec y0 y1 y2 y3 y4 s)) (x1 : Int) (x2 : Int) (x3 : Int) (x4 : Int) (x5 : Int) (s : vS) : PR (W_l_X14_gatherBits_15) s (fun q => q.2) (j_X14_gatherBits_208 rec x1 x2 x3 x4 x5 s) := by
  unfold j_X14_gatherBits_208
  have Hs : Fr (W_l_X14_gatherBits_15) s s := Fr.rfl
  refine PR.gd ?_
  refine PR.ite (fun _ => ?_) (fun _ => ?_)
  · refine PR.lq_1 (PR.pure Hs (fr_l_X14_gatherBits_227 FU x1 x2 x3 x4 x5 s)) (fun y3 s4 Hs4 => ?_)
    exact PR.tail Hs4 (fr_j_X14_gatherBits_251 rec hrec x1 y3 x3 x4 x5 s4)
  · refine PR.gd ?_
    refine PR.vl (fun y8 => ?_)
    exact PR.tail Hs (hrec x1 y8 x3 x4 x5 s)
def W_l_X14_gatherBits_149 : List Nat := [87107, 162998, 162999]
theorem fr_l_X14_gatherBits_149 : ∀ (n : Nat) (x1 : Int) (x2 : Int) (x3 : Int) (x4 : Int) (x5 : Int) (x6 : Int) (x7 : Int) (x8 : Int) (s : vS), PR (W_l_X14_gatherBits_149) s (fun q => q) (l_X14_gatherBits_149 n x1 x2 x3 x4 x5 x6 x7 x8 s)
  := by
  intro n
  induction n with
  | zero => intro x1 x2 x3 x4 x5 x6 x7 x8 s; exact PR.none
  | succ n ih =>
    intro x1 x2 x3 x4 x5 x6 x7 x8 s
    unfold l_X14_gatherBits_149
    have Hs : Fr (W_l_X14_gatherBits_149) s s := Fr.rfl
    refine PR.ite (fun _ => ?_) (fun _ => ?_)
    · exact PR.some Hs
    · refine PR.ite (fun _ => ?_) (fun _ => ?_)
      · exact PR.some Hs
      · refine PR.gd ?_
        refine PR.gd ?_
        refine PR.bdv (PR.call Hs (fr_f_X14_sayBit (and32 (shr32 (gE s 171 (w32 ((w32 ((gE s 176 x2) + 1)) + (d32 x8 8)))) (w32 (7 - (m32 x8 8)))) 1) s) (by decide +kernel)) (fun s5 Hs5 => ?_)
        refine PR.vl (fun y8 => ?_)
        exact PR.tail Hs5 (ih x1 x2 x3 x4 x5 x6 x7 y8 s5)
theorem fr_j_X14_gatherBits_133 (rec : Int → Int → Int → Int → Int → vS → Option (Int × vS)) (hrec : ∀ (y0 : Int) (y1 : Int) (y2 : Int) (y3 : Int) (y4 : Int) (s : vS), PR (W_l_X14_gatherBits_15) s (fun q => q.2) (rec y0 y1 y2 y3 y4 s)) (x1 : Int) (x2 : Int) (x4 : Int) (x6 : Int) (x7 : Int) (z0 : Int) (s : vS) : PR (W_l_X14_gatherBits_15) s (fun q => q.2) (j_X14_gatherBits_133 rec x1 x2 x4 x6 x7 z0 s) := by
  unfold j_X14_gatherBits_133
  have Hs : Fr (W_l_X14_gatherBits_15) s s := Fr.rfl
  refine PR.ite (fun _ => ?_) (fun _ => ?_)
  · refine PR.lq_0 (PR.call Hs (fr_l_X14_gatherBits_149 FU x1 x2 z0 x4 0 x6 x7 0 s) (by decide +kernel)) (fun s2 Hs2 => ?_)
    exact PR.tail Hs2 (fr_j_X14_gatherBits_208 rec hrec x1 x2 z0 x4 0 s2)
  · refine PR.lq_0 (PR.call Hs (fr_l_X14_gatherBits_149 FU x1 x2 z0 x4 1 x6 x7 0 s) (by decide +kernel)) (fun s4 Hs4 => ?_)
    exact PR.tail Hs4 (fr_j_X14_gatherBits_208 rec hrec x1 x2 z0 x4 1 s4)
theorem fr_j_X14_gatherBits_103 (rec : Int → Int → Int → Int → Int → vS → Option (Int × vS)) (hrec : ∀ (y0 : Int) (y1 : Int) (y2 : Int) (y3 : Int) (y4 : Int) (s : vS), PR (W_l_X14_gatherBits_15) s (fun q => q.2) (rec y0 y1 y2 y3 y4 s)) (x1 : Int) (x2 : Int) (x4 : Int) (x5 : Int) (x6 : Int) (z0 : Int) (s : vS) : PR (W_l_X14_gatherBits_15) s (fun q => q.2) (j_X14_gatherBits_103 rec x1 x2 x4 x5 x6 z0 s) := by
  unfold j_X14_gatherBits_103
  have Hs : Fr (W_l_X14_gatherBits_15) s s := Fr.rfl
  refine PR.ite (fun _ => ?_) (fun _ => ?_)
  · refine PR.ite (fun _ => ?_) (fun _ => ?_)
    · exact PR.tail Hs (fr_j_X14_gatherBits_133 rec hrec x1 x2 x4 x6 z0 0 s)
    · refine PR.ite (fun _ => ?_) (fun _ => ?_)
      · exact PR.tail Hs (fr_j_X14_gatherBits_133 rec hrec x1 x2 x4 x6 z0 1 s)
      · refine PR.ite (fun _ => ?_) (fun _ => ?_)
        · exact PR.tail Hs (fr_j_X14_gatherBits_133 rec hrec x1 x2 x4 x6 z0 0 s)
        · exact PR.tail Hs (fr_j_X14_gatherBits_133 rec hrec x1 x2 x4 x6 z0 1 s)
  · exact PR.tail Hs (fr_j_X14_gatherBits_133 rec hrec x1 x2 x4 x6 z0 0 s)
theorem fr_j_X14_gatherBits_54 (rec : Int → Int → Int → Int → Int → vS → Option (Int × vS)) (hrec : ∀ (y0 : Int) (y1 : Int) (y2 : Int) (y3 : Int) (y4 : Int) (s : vS), PR (W_l_X14_gatherBits_15) s (fun q => q.2) (rec y0 y1 y2 y3 y4 s)) (x1 : Int) (x2 : Int) (x3 : Int) (x4 : Int) (x5 : Int) (s : vS) : PR (W_l_X14_gatherBits_15) s (fun q => q.2) (j_X14_gatherBits_54 rec x1 x2 x3 x4 x5 s) := by
  unfold j_X14_gatherBits_54
  have Hs : Fr (W_l_X14_gatherBits_15) s s := Fr.rfl
  refine PR.ite (fun _ => ?_) (fun _ => ?_)
  · exact PR.tail Hs (fr_j_X14_gatherBits_208 rec hrec x1 x2 x3 x4 x5 s)
  · refine PR.gd ?_
    refine PR.ite (fun _ => ?_) (fun _ => ?_)
    · refine PR.gd ?_
      refine PR.gd ?_
      refine PR.vl (fun y6 => ?_)
      refine PR.ite (fun _ => ?_) (fun _ => ?_)
      · exact PR.tail Hs (fr_j_X14_gatherBits_103 rec hrec x1 x2 x4 x5 y6 8 s)
      · refine PR.gd ?_
        refine PR.gd ?_
        exact PR.tail Hs (fr_j_X14_gatherBits_103 rec hrec x1 x2 x4 x5 y6 (gE s 171 (gE s 176 x2)) s)
    · exact PR.tail Hs (fr_j_X14_gatherBits_208 rec hrec x1 x2 x3 x4 x5 s)
theorem fr_l_X14_gatherBits_15 : ∀ (n : Nat) (x1 : Int) (x2 : Int) (x3 : Int) (x4 : Int) (x5 : Int) (s : vS), PR (W_l_X14_gatherBits_15) s (fun q => q.2) (l_X14_gatherBits_15 n x1 x2 x3 x4 x5 s)
  := by
  intro n
  induction n with
  | zero => intro x1 x2 x3 x4 x5 s; exact PR.none
  | succ n ih =>
    intro x1 x2 x3 x4 x5 s
    unfold l_X14_gatherBits_15
    have Hs : Fr (W_l_X14_gatherBits_15) s s := Fr.rfl
    refine PR.ite (fun _ => ?_) (fun _ => ?_)
    · refine PR.ite (fun _ => ?_) (fun _ => ?_)
      · exact PR.some Hs
      · refine PR.ite (fun _ => ?_) (fun _ => ?_)
        · exact PR.tail Hs (fr_j_X14_gatherBits_54 (l_X14_gatherBits_15 n) ih x1 x2 x3 x4 x5 s)
        · refine PR.gd ?_
          refine PR.ite (fun _ => ?_) (fun _ => ?_)
          · refine PR.gd ?_
            refine PR.ite (fun _ => ?_) (fun _ => ?_)
            · exact PR.tail Hs (fr_j_X14_gatherBits_54 (l_X14_gatherBits_15 n) ih x1 x2 1 x4 x5 s)
            · exact PR.tail Hs (fr_j_X14_gatherBits_54 (l_X14_gatherBits_15 n) ih x1 x2 0 x4 x5 s)
          · exact PR.tail Hs (fr_j_X14_gatherBits_54 (l_X14_gatherBits_15 n) ih x1 x2 0 x4 x5 s)
    · exact PR.some Hs
def W_f_X14_gatherBits : List Nat := [87107, 162998, 162999]
theorem fr_f_X14_gatherBits (x1 : Int) (s : vS) : PR (W_f_X14_gatherBits) s (fun q => q.2) (f_X14_gatherBits x1 s) := by
  unfold f_X14_gatherBits
  have Hs : Fr (W_f_X14_gatherBits) s s := Fr.rfl
  refine PR.stp (Fr.wI Hs (by decide +kernel)) (fun s1 Hs1 => ?_)
  refine PR.lq_1 (PR.call Hs1 (fr_l_X14_gatherBits_15 FU x1 x1 1 0 0 s1) (by decide +kernel)) (fun y3 s4 Hs4 => ?_)
  refine PR.gd ?_
  exact PR.some Hs4
def W_l_X14_gatherParts_123 : List Nat := []
theorem fr_l_X14_gatherParts_123 : ∀ (n : Nat) (x1 : Int) (x2 : Int) (x3 : Int) (x4 : Int) (x5 : Int) (s : vS), PR (W_l_X14_gatherParts_123) s (fun q => q.2) (l_X14_gatherParts_123 n x1 x2 x3 x4 x5 s)
  := by
  intro n
  induction n with
  | zero => intro x1 x2 x3 x4 x5 s; exact PR.none
  | succ n ih =>
    intro x1 x2 x3 x4 x5 s
    unfold l_X14_gatherParts_123
    have Hs : Fr (W_l_X14_gatherParts_123) s s := Fr.rfl
    refine PR.ite (fun _ => ?_) (fun _ => ?_)
    · exact PR.some Hs
    · refine PR.gd ?_
      refine PR.ite (fun _ => ?_) (fun _ => ?_)
      · exact PR.some Hs
      · refine PR.gd ?_
        refine PR.vl (fun y5 => ?_)
        exact PR.tail Hs (ih x1 x2 y5 x4 x5 s)
def W_l_X14_gatherParts_13 : List Nat := [87105, 161998, 161999]
theorem fr_j_X14_gatherParts_147 (rec : Int → Int → Int → Int → Int → vS → Option (Int × vS)) (hrec : ∀ (y0 : Int) (y1 : Int) (y2 : Int) (y3 : Int) (y4 : Int) (s : vS), PR (W_l_X14_gatherParts_13) s (fun q => q.2) (rec y0 y1 y2 y3 y4 s)) (x1 : Int) (x2 : Int) (x3 : Int) (x4 : Int) (x5 : Int) (s : vS) : PR (W_l_X14_gatherParts_13) s (fun q => q.2) (j_X14_gatherParts_147 rec x1 x2 x3 x4 x5 s) := by
  unfold j_X14_gatherParts_147
  have Hs : Fr (W_l_X14_gatherParts_13) s s := Fr.rfl
  refine PR.ite (fun _ => ?_) (fun _ => ?_)
  · exact PR.tail Hs (hrec x1 x2 x3 x4 1 s)
  · refine PR.gd ?_
    refine PR.vl (fun y3 => ?_)
    exact PR.tail Hs (hrec x1 x2 y3 x4 x5 s)
theorem fr_j_X14_gatherParts_104 (rec : Int → Int → Int → Int → Int → vS → Option (Int × vS)) (hrec : ∀ (y0 : Int) (y1 : Int) (y2 : Int) (y3 : Int) (y4 : Int) (s : vS), PR (W_l_X14_gatherParts_13) s (fun q => q.2) (rec y0 y1 y2 y3 y4 s)) (x1 : Int) (x2 : Int) (x3 : Int) (x4 : Int) (x5 : Int) (s : vS) : PR (W_l_X14_gatherParts_13) s (fun q => q.2) (j_X14_gatherParts_104 rec x1 x2 x3 x4 x5 s) := by
  unfold j_X14_gatherParts_104
  have Hs : Fr (W_l_X14_gatherParts_13) s s := Fr.rfl
  refine PR.gd ?_
  refine PR.ite (fun _ => ?_) (fun _ => ?_)
  · refine PR.lq_1 (PR.pure Hs (fr_l_X14_gatherParts_123 FU x1 x2 x3 x4 x5 s)) (fun y3 s4 Hs4 => ?_)
    exact PR.tail Hs4 (fr_j_X14_gatherParts_147 rec hrec x1 x2 y3 x4 x5 s4)
  · refine PR.gd ?_
    refine PR.vl (fun y8 => ?_)
    exact PR.tail Hs (hrec x1 x2 y8 x4 x5 s)
def W_l_X14_gatherParts_76 : List Nat := [87105, 161998, 161999]
theorem fr_l_X14_gatherParts_76 : ∀ (n : Nat) (x1 : Int) (x2 : Int) (x3 : Int) (x4 : Int) (x5 : Int) (x6 : Int) (s : vS), PR (W_l_X14_gatherParts_76) s (fun q => q) (l_X14_gatherParts_76 n x1 x2 x3 x4 x5 x6 s)
  := by
  intro n
  induction n with
  | zero => intro x1 x2 x3 x4 x5 x6 s; exact PR.none
  | succ n ih =>
    intro x1 x2 x3 x4 x5 x6 s
    unfold l_X14_gatherParts_76
    have Hs : Fr (W_l_X14_gatherParts_76) s s := Fr.rfl
    refine PR.gd ?_
    refine PR.ite (fun _ => ?_) (fun _ => ?_)
    · exact PR.some Hs
    · refine PR.gd ?_
      refine PR.bdv (PR.call Hs (fr_f_X14_say (gE s 171 x6) s) (by decide +kernel)) (fun s4 Hs4 => ?_)
      refine PR.vl (fun y7 => ?_)
      exact PR.tail Hs4 (ih x1 x2 x3 x4 x5 y7 s4)
theorem fr_j_X14_gatherParts_54 (rec : Int → Int → Int → Int → Int → vS → Option (Int × vS)) (hrec : ∀ (y0 : Int) (y1 : Int) (y2 : Int) (y3 : Int) (y4 : Int) (s : vS), PR (W_l_X14_gatherParts_13) s (fun q => q.2) (rec y0 y1 y2 y3 y4 s)) (x1 : Int) (x2 : Int) (x3 : Int) (x4 : Int) (x5 : Int) (s : vS) : PR (W_l_X14_gatherParts_13) s (fun q => q.2) (j_X14_gatherParts_54 rec x1 x2 x3 x4 x5 s) := by
  unfold j_X14_gatherParts_54
  have Hs : Fr (W_l_X14_gatherParts_13) s s := Fr.rfl
  refine PR.ite (fun _ => ?_) (fun _ => ?_)
  · exact PR.tail Hs (fr_j_X14_gatherParts_104 rec hrec x1 x2 x3 x4 x5 s)
  · refine PR.gd ?_
    refine PR.ite (fun _ => ?_) (fun _ => ?_)
    · refine PR.gd ?_
      refine PR.vl (fun y5 => ?_)
      refine PR.lq_0 (PR.call Hs (fr_l_X14_gatherParts_76 FU x1 x2 x3 x4 x5 y5 s) (by decide +kernel)) (fun s8 Hs8 => ?_)
      exact PR.tail Hs8 (fr_j_X14_gatherParts_104 rec hrec x1 x2 x3 x4 x5 s8)
    · exact PR.tail Hs (fr_j_X14_gatherParts_104 rec hrec x1 x2 x3 x4 x5 s)
theorem fr_l_X14_gatherParts_13 : ∀ (n : Nat) (x1 : Int) (x2 : Int) (x3 : Int) (x4 : Int) (x5 : Int) (s : vS), PR (W_l_X14_gatherParts_13) s (fun q => q.2) (l_X14_gatherParts_13 n x1 x2 x3 x4 x5 s)
  := by
  intro n
  induction n with
  | zero => intro x1 x2 x3 x4 x5 s; exact PR.none
  | succ n ih =>
    intro x1 x2 x3 x4 x5 s
    unfold l_X14_gatherParts_13
    have Hs : Fr (W_l_X14_gatherParts_13) s s := Fr.rfl
    refine PR.ite (fun _ => ?_) (fun _ => ?_)
    · refine PR.ite (fun _ => ?_) (fun _ => ?_)
      · exact PR.some Hs
      · refine PR.ite (fun _ => ?_) (fun _ => ?_)
        · exact PR.tail Hs (fr_j_X14_gatherParts_54 (l_X14_gatherParts_13 n) ih x1 x2 x3 x4 x5 s)
        · refine PR.gd ?_
          refine PR.ite (fun _ => ?_) (fun _ => ?_)
          · refine PR.gd ?_
            refine PR.ite (fun _ => ?_) (fun _ => ?_)
            · exact PR.tail Hs (fr_j_X14_gatherParts_54 (l_X14_gatherParts_13 n) ih x1 x2 x3 1 x5 s)
            · exact PR.tail Hs (fr_j_X14_gatherParts_54 (l_X14_gatherParts_13 n) ih x1 x2 x3 0 x5 s)
          · exact PR.tail Hs (fr_j_X14_gatherParts_54 (l_X14_gatherParts_13 n) ih x1 x2 x3 0 x5 s)
    · exact PR.some Hs
def W_f_X14_gatherParts : List Nat := [87105, 161998, 161999]
theorem fr_f_X14_gatherParts (x1 : Int) (x2 : Int) (s : vS) : PR (W_f_X14_gatherParts) s (fun q => q.2) (f_X14_gatherParts x1 x2 s) := by
  unfold f_X14_gatherParts
  have Hs : Fr (W_f_X14_gatherParts) s s := Fr.rfl
  refine PR.stp (Fr.wI Hs (by decide +kernel)) (fun s1 Hs1 => ?_)
  refine PR.lq_1 (PR.call Hs1 (fr_l_X14_gatherParts_13 FU x1 x2 x1 1 0 s1) (by decide +kernel)) (fun y3 s4 Hs4 => ?_)
  refine PR.gd ?_
  exact PR.some Hs4
