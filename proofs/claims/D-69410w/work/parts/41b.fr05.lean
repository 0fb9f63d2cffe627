set_option maxRecDepth 100000
set_option maxHeartbeats 1000000
set_option linter.unusedVariables false
def W_j_X14_isShortest_37 : List Nat := []
theorem fr_j_X14_isShortest_37 (s : vS) : PR (W_j_X14_isShortest_37) s (fun q => q.2) (j_X14_isShortest_37 s) := by
  unfold j_X14_isShortest_37
  have Hs : Fr (W_j_X14_isShortest_37) s s := Fr.rfl
  refine PR.gd ?_
  refine PR.ite (fun _ => ?_) (fun _ => ?_)
  · refine PR.gd ?_
    refine PR.ite (fun _ => ?_) (fun _ => ?_)
    · exact PR.some Hs
    · exact PR.some Hs
  · exact PR.some Hs
def W_f_X14_isShortest : List Nat := []
theorem fr_f_X14_isShortest (s : vS) : PR (W_f_X14_isShortest) s (fun q => q.2) (f_X14_isShortest s) := by
  unfold f_X14_isShortest
  have Hs : Fr (W_f_X14_isShortest) s s := Fr.rfl
  refine PR.ite (fun _ => ?_) (fun _ => ?_)
  · exact PR.some Hs
  · refine PR.ite (fun _ => ?_) (fun _ => ?_)
    · exact PR.some Hs
    · refine PR.gd ?_
      refine PR.ite (fun _ => ?_) (fun _ => ?_)
      · refine PR.gd ?_
        refine PR.ite (fun _ => ?_) (fun _ => ?_)
        · exact PR.some Hs
        · exact PR.pure Hs (fr_j_X14_isShortest_37 s)
      · exact PR.pure Hs (fr_j_X14_isShortest_37 s)
def W_j_X14_number_48 : List Nat := [87008, 87009, 87084, 87085]
theorem fr_j_X14_number_48 (x1 : Int) (x2 : Int) (x3 : Int) (x4 : Int) (x5 : Int) (x6 : Int) (s : vS) : PR (W_j_X14_number_48) s (fun q => q) (j_X14_number_48 x1 x2 x3 x4 x5 x6 s) := by
  unfold j_X14_number_48
  have Hs : Fr (W_j_X14_number_48) s s := Fr.rfl
  refine PR.gd ?_
  refine PR.ite (fun _ => ?_) (fun _ => ?_)
  · refine PR.bd (PR.pure Hs (fr_f_X14_holds x1 x6 0 s)) (fun r10 s7 Hs7 => ?_)
    refine PR.ite (fun _ => ?_) (fun _ => ?_)
    · refine PR.bdv (PR.call Hs7 (fr_f_X14_tell 21 x3 s7) (by decide +kernel)) (fun s17 Hs17 => ?_)
      refine PR.stp (Fr.wI Hs17 (by decide +kernel)) (fun s20 Hs20 => ?_)
      refine PR.stp (Fr.wI Hs20 (by decide +kernel)) (fun s22 Hs22 => ?_)
      exact PR.some Hs22
    · refine PR.stp (Fr.wI Hs7 (by decide +kernel)) (fun s13 Hs13 => ?_)
      refine PR.stp (Fr.wI Hs13 (by decide +kernel)) (fun s15 Hs15 => ?_)
      exact PR.some Hs15
  · refine PR.stp (Fr.wI Hs (by decide +kernel)) (fun s3 Hs3 => ?_)
    refine PR.stp (Fr.wI Hs3 (by decide +kernel)) (fun s5 Hs5 => ?_)
    exact PR.some Hs5
def W_f_X14_number : List Nat := [87008, 87009, 87084, 87085, 147998, 147999, 148998, 148999, 149998, 149999]
theorem fr_f_X14_number (x1 : Int) (x2 : Int) (x3 : Int) (s : vS) : PR (W_f_X14_number) s (fun q => q) (f_X14_number x1 x2 x3 s) := by
  unfold f_X14_number
  have Hs : Fr (W_f_X14_number) s s := Fr.rfl
  refine PR.vl (fun y1 => ?_)
  refine PR.vl (fun y4 => ?_)
  refine PR.bd (PR.call Hs (fr_f_X14_pieceNumber s) (by decide +kernel)) (fun r10 s7 Hs7 => ?_)
  refine PR.gd ?_
  refine PR.ite (fun _ => ?_) (fun _ => ?_)
  · refine PR.bd (PR.pure Hs7 (fr_f_X14_hasNumber x2 r10 s7)) (fun r17 s14 Hs14 => ?_)
    refine PR.ite (fun _ => ?_) (fun _ => ?_)
    · refine PR.bdv (PR.call Hs14 (fr_f_X14_tell 23 x3 s14) (by decide +kernel)) (fun s20 Hs20 => ?_)
      refine PR.stp (Fr.wI Hs20 (by decide +kernel)) (fun s23 Hs23 => ?_)
      refine PR.stp (Fr.wI Hs23 (by decide +kernel)) (fun s25 Hs25 => ?_)
      exact PR.some Hs25
    · exact PR.call Hs14 (fr_j_X14_number_48 x1 x2 x3 y1 y4 r10 s14) (by decide +kernel)
  · exact PR.call Hs7 (fr_j_X14_number_48 x1 x2 x3 y1 y4 r10 s7) (by decide +kernel)
def W_l_X14_isObject_4 : List Nat := []
theorem fr_j_X14_isObject_30 (rec : Int → Int → vS → Option ((Int × vS) ⊕ (Int × vS))) (hrec : ∀ (y0 : Int) (y1 : Int) (s : vS), PR (W_l_X14_isObject_4) s (Sum.elim (fun q => q.2) (fun q => q.2)) (rec y0 y1 s)) (x2 : Int) (s : vS) : PR (W_l_X14_isObject_4) s (Sum.elim (fun q => q.2) (fun q => q.2)) (j_X14_isObject_30 rec x2 s) := by
  unfold j_X14_isObject_30
  have Hs : Fr (W_l_X14_isObject_4) s s := Fr.rfl
  refine PR.gd ?_
  refine PR.ite (fun _ => ?_) (fun _ => ?_)
  · refine PR.vl (fun y3 => ?_)
    exact PR.tail Hs (hrec 0 y3 s)
  · refine PR.vl (fun y6 => ?_)
    exact PR.tail Hs (hrec 1 y6 s)
theorem fr_l_X14_isObject_4 : ∀ (n : Nat) (x1 : Int) (x2 : Int) (s : vS), PR (W_l_X14_isObject_4) s (Sum.elim (fun q => q.2) (fun q => q.2)) (l_X14_isObject_4 n x1 x2 s)
  := by
  intro n
  induction n with
  | zero => intro x1 x2 s; exact PR.none
  | succ n ih =>
    intro x1 x2 s
    unfold l_X14_isObject_4
    have Hs : Fr (W_l_X14_isObject_4) s s := Fr.rfl
    refine PR.ite (fun _ => ?_) (fun _ => ?_)
    · exact PR.some Hs
    · refine PR.ite (fun _ => ?_) (fun _ => ?_)
      · exact PR.tail Hs (fr_j_X14_isObject_30 (l_X14_isObject_4 n) ih x2 s)
      · refine PR.gd ?_
        refine PR.ite (fun _ => ?_) (fun _ => ?_)
        · exact PR.some Hs
        · exact PR.tail Hs (fr_j_X14_isObject_30 (l_X14_isObject_4 n) ih x2 s)
def W_f_X14_isObject : List Nat := []
theorem fr_f_X14_isObject (s : vS) : PR (W_f_X14_isObject) s (fun q => q.2) (f_X14_isObject s) := by
  unfold f_X14_isObject
  have Hs : Fr (W_f_X14_isObject) s s := Fr.rfl
  refine PR.lqs_1 (PR.pure Hs (fr_l_X14_isObject_4 FU 1 0 s)) (fun y1 s2 Hs2 => ?_) (fun q Hq => PR.some Hq)
  refine PR.ite (fun _ => ?_) (fun _ => ?_)
  · exact PR.some Hs2
  · refine PR.ite (fun _ => ?_) (fun _ => ?_)
    · exact PR.some Hs2
    · exact PR.some Hs2
def W_l_X14_countCharacters_116 : List Nat := []
theorem fr_l_X14_countCharacters_116 : ∀ (n : Nat) (x1 : Int) (x2 : Int) (x4 : Int) (x5 : Int) (x6 : Int) (s : vS), PR (W_l_X14_countCharacters_116) s (Sum.elim (fun q => q.2) (fun q => q.2)) (l_X14_countCharacters_116 n x1 x2 x4 x5 x6 s)
  := by
  intro n
  induction n with
  | zero => intro x1 x2 x4 x5 x6 s; exact PR.none
  | succ n ih =>
    intro x1 x2 x4 x5 x6 s
    unfold l_X14_countCharacters_116
    have Hs : Fr (W_l_X14_countCharacters_116) s s := Fr.rfl
    refine PR.ite (fun _ => ?_) (fun _ => ?_)
    · exact PR.some Hs
    · refine PR.gd ?_
      refine PR.ite (fun _ => ?_) (fun _ => ?_)
      · refine PR.gd ?_
        refine PR.vl (fun y5 => ?_)
        refine PR.vl (fun y8 => ?_)
        exact PR.tail Hs (ih x1 x2 x4 y5 y8 s)
      · exact PR.some Hs
def W_l_X14_countCharacters_4 : List Nat := []
theorem fr_j_X14_countCharacters_206 (rec : Int → Int → vS → Option ((Int × vS) ⊕ (Int × vS))) (hrec : ∀ (y0 : Int) (y1 : Int) (s : vS), PR (W_l_X14_countCharacters_4) s (Sum.elim (fun q => q.2) (fun q => q.2)) (rec y0 y1 s)) (x1 : Int) (x2 : Int) (x4 : Int) (x5 : Int) (z0 : Int) (s : vS) : PR (W_l_X14_countCharacters_4) s (Sum.elim (fun q => q.2) (fun q => q.2)) (j_X14_countCharacters_206 rec x1 x2 x4 x5 z0 s) := by
  unfold j_X14_countCharacters_206
  have Hs : Fr (W_l_X14_countCharacters_4) s s := Fr.rfl
  refine PR.ite (fun _ => ?_) (fun _ => ?_)
  · exact PR.some Hs
  · refine PR.bd (PR.pure Hs (fr_f_X14_within x5 55296 57343 s)) (fun r5 s2 Hs2 => ?_)
    refine PR.ite (fun _ => ?_) (fun _ => ?_)
    · refine PR.ite (fun _ => ?_) (fun _ => ?_)
      · refine PR.vl (fun y9 => ?_)
        refine PR.vl (fun y12 => ?_)
        exact PR.tail Hs2 (hrec y12 y9 s2)
      · exact PR.some Hs2
    · exact PR.some Hs2
theorem fr_j_X14_countCharacters_75 (rec : Int → Int → vS → Option ((Int × vS) ⊕ (Int × vS))) (hrec : ∀ (y0 : Int) (y1 : Int) (s : vS), PR (W_l_X14_countCharacters_4) s (Sum.elim (fun q => q.2) (fun q => q.2)) (rec y0 y1 s)) (x1 : Int) (x2 : Int) (x3 : Int) (z0 : Int) (s : vS) : PR (W_l_X14_countCharacters_4) s (Sum.elim (fun q => q.2) (fun q => q.2)) (j_X14_countCharacters_75 rec x1 x2 x3 z0 s) := by
  unfold j_X14_countCharacters_75
  have Hs : Fr (W_l_X14_countCharacters_4) s s := Fr.rfl
  refine PR.ite (fun _ => ?_) (fun _ => ?_)
  · exact PR.some Hs
  · refine PR.ite (fun _ => ?_) (fun _ => ?_)
    · refine PR.ite (fun _ => ?_) (fun _ => ?_)
      · refine PR.lqs_1 (PR.pure Hs (fr_l_X14_countCharacters_116 FU x1 x2 z0 x3 1 s)) (fun y14 s15 Hs15 => ?_) (fun q Hq => PR.some Hq)
        refine PR.ite (fun _ => ?_) (fun _ => ?_)
        · exact PR.tail Hs15 (fr_j_X14_countCharacters_206 rec hrec x1 x2 z0 y14 0 s15)
        · refine PR.ite (fun _ => ?_) (fun _ => ?_)
          · exact PR.tail Hs15 (fr_j_X14_countCharacters_206 rec hrec x1 x2 z0 y14 128 s15)
          · refine PR.ite (fun _ => ?_) (fun _ => ?_)
            · exact PR.tail Hs15 (fr_j_X14_countCharacters_206 rec hrec x1 x2 z0 y14 2048 s15)
            · exact PR.tail Hs15 (fr_j_X14_countCharacters_206 rec hrec x1 x2 z0 y14 65536 s15)
      · refine PR.vl (fun y4 => ?_)
        refine PR.lqs_1 (PR.pure Hs (fr_l_X14_countCharacters_116 FU x1 x2 z0 y4 1 s)) (fun y7 s8 Hs8 => ?_) (fun q Hq => PR.some Hq)
        refine PR.ite (fun _ => ?_) (fun _ => ?_)
        · exact PR.tail Hs8 (fr_j_X14_countCharacters_206 rec hrec x1 x2 z0 y7 0 s8)
        · refine PR.ite (fun _ => ?_) (fun _ => ?_)
          · exact PR.tail Hs8 (fr_j_X14_countCharacters_206 rec hrec x1 x2 z0 y7 128 s8)
          · refine PR.ite (fun _ => ?_) (fun _ => ?_)
            · exact PR.tail Hs8 (fr_j_X14_countCharacters_206 rec hrec x1 x2 z0 y7 2048 s8)
            · exact PR.tail Hs8 (fr_j_X14_countCharacters_206 rec hrec x1 x2 z0 y7 65536 s8)
    · exact PR.some Hs
theorem fr_l_X14_countCharacters_4 : ∀ (n : Nat) (x1 : Int) (x2 : Int) (s : vS), PR (W_l_X14_countCharacters_4) s (Sum.elim (fun q => q.2) (fun q => q.2)) (l_X14_countCharacters_4 n x1 x2 s)
  := by
  intro n
  induction n with
  | zero => intro x1 x2 s; exact PR.none
  | succ n ih =>
    intro x1 x2 s
    unfold l_X14_countCharacters_4
    have Hs : Fr (W_l_X14_countCharacters_4) s s := Fr.rfl
    refine PR.ite (fun _ => ?_) (fun _ => ?_)
    · exact PR.some Hs
    · refine PR.gd ?_
      refine PR.vl (fun y3 => ?_)
      refine PR.ite (fun _ => ?_) (fun _ => ?_)
      · refine PR.ite (fun _ => ?_) (fun _ => ?_)
        · refine PR.ite (fun _ => ?_) (fun _ => ?_)
          · refine PR.ite (fun _ => ?_) (fun _ => ?_)
            · refine PR.ite (fun _ => ?_) (fun _ => ?_)
              · exact PR.tail Hs (fr_j_X14_countCharacters_75 (l_X14_countCharacters_4 n) ih x1 x2 y3 (-1) s)
              · exact PR.tail Hs (fr_j_X14_countCharacters_75 (l_X14_countCharacters_4 n) ih x1 x2 y3 3 s)
            · exact PR.tail Hs (fr_j_X14_countCharacters_75 (l_X14_countCharacters_4 n) ih x1 x2 y3 2 s)
          · exact PR.tail Hs (fr_j_X14_countCharacters_75 (l_X14_countCharacters_4 n) ih x1 x2 y3 1 s)
        · exact PR.tail Hs (fr_j_X14_countCharacters_75 (l_X14_countCharacters_4 n) ih x1 x2 y3 (-1) s)
      · exact PR.tail Hs (fr_j_X14_countCharacters_75 (l_X14_countCharacters_4 n) ih x1 x2 y3 0 s)
def W_f_X14_countCharacters : List Nat := []
theorem fr_f_X14_countCharacters (s : vS) : PR (W_f_X14_countCharacters) s (fun q => q.2) (f_X14_countCharacters s) := by
  unfold f_X14_countCharacters
  have Hs : Fr (W_f_X14_countCharacters) s s := Fr.rfl
  refine PR.lqs_1 (PR.pure Hs (fr_l_X14_countCharacters_4 FU 0 0 s)) (fun y1 s2 Hs2 => ?_) (fun q Hq => PR.some Hq)
  exact PR.some Hs2
def W_j_X14_string_29 : List Nat := [87008, 87009]
theorem fr_j_X14_string_29 (x3 : Int) (z0 : Int) (s : vS) : PR (W_j_X14_string_29) s (fun q => q) (j_X14_string_29 x3 z0 s) := by
  unfold j_X14_string_29
  have Hs : Fr (W_j_X14_string_29) s s := Fr.rfl
  refine PR.ite (fun _ => ?_) (fun _ => ?_)
  · exact PR.some Hs
  · refine PR.bdv (PR.call Hs (fr_f_X14_tell z0 x3 s) (by decide +kernel)) (fun s2 Hs2 => ?_)
    exact PR.some Hs2
def W_j_X14_string_12 : List Nat := [87008, 87009, 87105, 87118, 87119, 87120, 87121, 87122, 87123, 87124, 87125, 161998, 161999, 170998, 170999]
theorem fr_j_X14_string_12 (x2 : Int) (x3 : Int) (s : vS) : PR (W_j_X14_string_12) s (fun q => q) (j_X14_string_12 x2 x3 s) := by
  unfold j_X14_string_12
  have Hs : Fr (W_j_X14_string_12) s s := Fr.rfl
  refine PR.ite (fun _ => ?_) (fun _ => ?_)
  · refine PR.bd (PR.call Hs (fr_f_X14_utcTime s) (by decide +kernel)) (fun r10 s7 Hs7 => ?_)
    exact PR.call Hs7 (fr_j_X14_string_29 x3 r10 s7) (by decide +kernel)
  · refine PR.bd (PR.call Hs (fr_f_X14_generalTime s) (by decide +kernel)) (fun r5 s2 Hs2 => ?_)
    exact PR.call Hs2 (fr_j_X14_string_29 x3 r5 s2) (by decide +kernel)
def W_l_X14_string_80 : List Nat := []
theorem fr_j_X14_string_113 (rec : Int → Int → Int → Int → Int → Int → vS → Option (Int × vS)) (hrec : ∀ (y0 : Int) (y1 : Int) (y2 : Int) (y3 : Int) (y4 : Int) (y5 : Int) (s : vS), PR (W_l_X14_string_80) s (fun q => q.2) (rec y0 y1 y2 y3 y4 y5 s)) (x1 : Int) (x2 : Int) (x3 : Int) (x4 : Int) (x6 : Int) (s : vS) : PR (W_l_X14_string_80) s (fun q => q.2) (j_X14_string_113 rec x1 x2 x3 x4 x6 s) := by
  unfold j_X14_string_113
  have Hs : Fr (W_l_X14_string_80) s s := Fr.rfl
  refine PR.ite (fun _ => ?_) (fun _ => ?_)
  · refine PR.gd ?_
    refine PR.ite (fun _ => ?_) (fun _ => ?_)
    · refine PR.vl (fun y7 => ?_)
      exact PR.tail Hs (hrec x1 x2 x3 x4 0 y7 s)
    · refine PR.vl (fun y10 => ?_)
      exact PR.tail Hs (hrec x1 x2 x3 x4 1 y10 s)
  · refine PR.vl (fun y2 => ?_)
    exact PR.tail Hs (hrec x1 x2 x3 x4 1 y2 s)
theorem fr_l_X14_string_80 : ∀ (n : Nat) (x1 : Int) (x2 : Int) (x3 : Int) (x4 : Int) (x5 : Int) (x6 : Int) (s : vS), PR (W_l_X14_string_80) s (fun q => q.2) (l_X14_string_80 n x1 x2 x3 x4 x5 x6 s)
  := by
  intro n
  induction n with
  | zero => intro x1 x2 x3 x4 x5 x6 s; exact PR.none
  | succ n ih =>
    intro x1 x2 x3 x4 x5 x6 s
    unfold l_X14_string_80
    have Hs : Fr (W_l_X14_string_80) s s := Fr.rfl
    refine PR.ite (fun _ => ?_) (fun _ => ?_)
    · exact PR.some Hs
    · refine PR.ite (fun _ => ?_) (fun _ => ?_)
      · refine PR.vl (fun y3 => ?_)
        exact PR.tail Hs (ih x1 x2 x3 x4 0 y3 s)
      · refine PR.ite (fun _ => ?_) (fun _ => ?_)
        · refine PR.gd ?_
          refine PR.bd (PR.pure Hs (fr_f_X14_isPrintable (gE s 161 x6) s)) (fun r11 s8 Hs8 => ?_)
          refine PR.ite (fun _ => ?_) (fun _ => ?_)
          · refine PR.vl (fun y14 => ?_)
            exact PR.tail Hs8 (ih x1 x2 x3 x4 0 y14 s8)
          · exact PR.tail Hs8 (fr_j_X14_string_113 (l_X14_string_80 n) ih x1 x2 x3 x4 x6 s8)
        · exact PR.tail Hs (fr_j_X14_string_113 (l_X14_string_80 n) ih x1 x2 x3 x4 x6 s)
def W_f_X14_string : List Nat := [87008, 87009, 87084, 87085, 87105, 87118, 87119, 87120, 87121, 87122, 87123, 87124, 87125, 147998, 147999, 148998, 148999, 149998, 149999, 161998, 161999, 170998, 170999]
theorem fr_f_X14_string (x1 : Int) (x2 : Int) (x3 : Int) (s : vS) : PR (W_f_X14_string) s (fun q => q) (f_X14_string x1 x2 x3 s) := by
  unfold f_X14_string
  have Hs : Fr (W_f_X14_string) s s := Fr.rfl
  refine PR.ite (fun _ => ?_) (fun _ => ?_)
  · exact PR.call Hs (fr_j_X14_string_12 x2 x3 s) (by decide +kernel)
  · refine PR.ite (fun _ => ?_) (fun _ => ?_)
    · exact PR.call Hs (fr_j_X14_string_12 x2 x3 s) (by decide +kernel)
    · refine PR.vl (fun y3 => ?_)
      refine PR.ite (fun _ => ?_) (fun _ => ?_)
      · refine PR.bd (PR.pure Hs (fr_f_X14_countCharacters s)) (fun r27 s24 Hs24 => ?_)
        refine PR.ite (fun _ => ?_) (fun _ => ?_)
        · refine PR.lq_1 (PR.pure Hs24 (fr_l_X14_string_80 FU x1 x2 x3 r27 0 0 s24)) (fun y30 s31 Hs31 => ?_)
          refine PR.ite (fun _ => ?_) (fun _ => ?_)
          · refine PR.bdv (PR.call Hs31 (fr_f_X14_tell 17 x3 s31) (by decide +kernel)) (fun s44 Hs44 => ?_)
            exact PR.some Hs44
          · refine PR.bd (PR.call Hs31 (fr_f_X14_holdsSize x1 r27 s31) (by decide +kernel)) (fun r38 s35 Hs35 => ?_)
            refine PR.ite (fun _ => ?_) (fun _ => ?_)
            · refine PR.bdv (PR.call Hs35 (fr_f_X14_tell 22 x3 s35) (by decide +kernel)) (fun s41 Hs41 => ?_)
              exact PR.some Hs41
            · exact PR.some Hs35
        · refine PR.lq_1 (PR.pure Hs24 (fr_l_X14_string_80 FU x1 x2 x3 r27 1 0 s24)) (fun y47 s48 Hs48 => ?_)
          refine PR.ite (fun _ => ?_) (fun _ => ?_)
          · refine PR.bdv (PR.call Hs48 (fr_f_X14_tell 17 x3 s48) (by decide +kernel)) (fun s61 Hs61 => ?_)
            exact PR.some Hs61
          · refine PR.bd (PR.call Hs48 (fr_f_X14_holdsSize x1 r27 s48) (by decide +kernel)) (fun r55 s52 Hs52 => ?_)
            refine PR.ite (fun _ => ?_) (fun _ => ?_)
            · refine PR.bdv (PR.call Hs52 (fr_f_X14_tell 22 x3 s52) (by decide +kernel)) (fun s58 Hs58 => ?_)
              exact PR.some Hs58
            · exact PR.some Hs52
      · refine PR.lq_1 (PR.pure Hs (fr_l_X14_string_80 FU x1 x2 x3 y3 1 0 s)) (fun y7 s8 Hs8 => ?_)
        refine PR.ite (fun _ => ?_) (fun _ => ?_)
        · refine PR.bdv (PR.call Hs8 (fr_f_X14_tell 17 x3 s8) (by decide +kernel)) (fun s21 Hs21 => ?_)
          exact PR.some Hs21
        · refine PR.bd (PR.call Hs8 (fr_f_X14_holdsSize x1 y3 s8) (by decide +kernel)) (fun r15 s12 Hs12 => ?_)
          refine PR.ite (fun _ => ?_) (fun _ => ?_)
          · refine PR.bdv (PR.call Hs12 (fr_f_X14_tell 22 x3 s12) (by decide +kernel)) (fun s18 Hs18 => ?_)
            exact PR.some Hs18
          · exact PR.some Hs12
def W_l_X14_writePiece_2 : List Nat := [87144, 183998, 183999]
theorem fr_l_X14_writePiece_2 : ∀ (n : Nat) (x1 : Int) (s : vS), PR (W_l_X14_writePiece_2) s (fun q => q) (l_X14_writePiece_2 n x1 s)
  := by
  intro n
  induction n with
  | zero => intro x1 s; exact PR.none
  | succ n ih =>
    intro x1 s
    unfold l_X14_writePiece_2
    have Hs : Fr (W_l_X14_writePiece_2) s s := Fr.rfl
    refine PR.ite (fun _ => ?_) (fun _ => ?_)
    · exact PR.some Hs
    · refine PR.gd ?_
      refine PR.bdv (PR.call Hs (fr_f_X14_write (gE s 161 x1) s) (by decide +kernel)) (fun s3 Hs3 => ?_)
      refine PR.vl (fun y6 => ?_)
      exact PR.tail Hs3 (ih y6 s3)
def W_f_X14_writePiece : List Nat := [87144, 183998, 183999]
theorem fr_f_X14_writePiece (s : vS) : PR (W_f_X14_writePiece) s (fun q => q) (f_X14_writePiece s) := by
  unfold f_X14_writePiece
  have Hs : Fr (W_f_X14_writePiece) s s := Fr.rfl
  refine PR.lq_0 (PR.call Hs (fr_l_X14_writePiece_2 FU 0 s) (by decide +kernel)) (fun s1 Hs1 => ?_)
  exact PR.some Hs1
def W_j_X14_leaf_280 : List Nat := [87144, 183998, 183999]
theorem fr_j_X14_leaf_280 (s : vS) : PR (W_j_X14_leaf_280) s (fun q => q) (j_X14_leaf_280 s) := by
  unfold j_X14_leaf_280
  have Hs : Fr (W_j_X14_leaf_280) s s := Fr.rfl
  refine PR.ite (fun _ => ?_) (fun _ => ?_)
  · refine PR.bdv (PR.call Hs (fr_f_X14_writePiece s) (by decide +kernel)) (fun s2 Hs2 => ?_)
    exact PR.some Hs2
  · exact PR.some Hs
def W_j_X14_leaf_161 : List Nat := [87008, 87009, 87144, 161999, 183998, 183999]
theorem fr_j_X14_leaf_161 (x4 : Int) (x5 : Int) (z0 : Int) (z1 : Int) (s : vS) : PR (W_j_X14_leaf_161) s (fun q => q) (j_X14_leaf_161 x4 x5 z0 z1 s) := by
  unfold j_X14_leaf_161
  have Hs : Fr (W_j_X14_leaf_161) s s := Fr.rfl
  refine PR.ite (fun _ => ?_) (fun _ => ?_)
  · refine PR.ite (fun _ => ?_) (fun _ => ?_)
    · refine PR.gd ?_
      refine PR.ite (fun _ => ?_) (fun _ => ?_)
      · refine PR.gd ?_
        refine PR.stp (Fr.wE Hs (by decide +kernel)) (fun s9 Hs9 => ?_)
        exact PR.call Hs9 (fr_j_X14_leaf_280 s9) (by decide +kernel)
      · refine PR.gd ?_
        refine PR.stp (Fr.wE Hs (by decide +kernel)) (fun s6 Hs6 => ?_)
        exact PR.call Hs6 (fr_j_X14_leaf_280 s6) (by decide +kernel)
    · exact PR.call Hs (fr_j_X14_leaf_280 s) (by decide +kernel)
  · refine PR.bdv (PR.call Hs (fr_f_X14_tell 16 x5 s) (by decide +kernel)) (fun s11 Hs11 => ?_)
    exact PR.call Hs11 (fr_j_X14_leaf_280 s11) (by decide +kernel)
def W_j_X14_leaf_147 : List Nat := [87008, 87009, 87144, 161999, 183998, 183999]
theorem fr_j_X14_leaf_147 (x4 : Int) (x5 : Int) (s : vS) : PR (W_j_X14_leaf_147) s (fun q => q) (j_X14_leaf_147 x4 x5 s) := by
  unfold j_X14_leaf_147
  have Hs : Fr (W_j_X14_leaf_147) s s := Fr.rfl
  refine PR.ite (fun _ => ?_) (fun _ => ?_)
  · exact PR.call Hs (fr_j_X14_leaf_161 x4 x5 (gI s 87 105) 1 s) (by decide +kernel)
  · exact PR.call Hs (fr_j_X14_leaf_161 x4 x5 (gI s 87 105) 0 s) (by decide +kernel)
def W_j_X14_leaf_217 : List Nat := [87008, 87009, 87084, 87085, 87144, 147998, 147999, 148998, 148999, 149998, 149999, 183998, 183999]
theorem fr_j_X14_leaf_217 (x1 : Int) (x2 : Int) (x5 : Int) (s : vS) : PR (W_j_X14_leaf_217) s (fun q => q) (j_X14_leaf_217 x1 x2 x5 s) := by
  unfold j_X14_leaf_217
  have Hs : Fr (W_j_X14_leaf_217) s s := Fr.rfl
  refine PR.bd (PR.pure Hs (fr_f_X14_isShortest s)) (fun r4 s1 Hs1 => ?_)
  refine PR.ite (fun _ => ?_) (fun _ => ?_)
  · refine PR.bdv (PR.call Hs1 (fr_f_X14_tell 16 x5 s1) (by decide +kernel)) (fun s10 Hs10 => ?_)
    exact PR.call Hs10 (fr_j_X14_leaf_280 s10) (by decide +kernel)
  · refine PR.bdv (PR.call Hs1 (fr_f_X14_number x1 x2 x5 s1) (by decide +kernel)) (fun s7 Hs7 => ?_)
    exact PR.call Hs7 (fr_j_X14_leaf_280 s7) (by decide +kernel)
def W_j_X14_leaf_72 : List Nat := [87008, 87009, 87084, 87085, 87105, 87107, 87116, 87118, 87119, 87120, 87121, 87122, 87123, 87124, 87125, 87144, 147998, 147999, 148998, 148999, 149998, 149999, 161998, 161999, 162998, 162999, 169999, 170998, 170999, 183998, 183999]
theorem fr_j_X14_leaf_72 (x1 : Int) (x2 : Int) (x3 : Int) (x4 : Int) (x5 : Int) (s : vS) : PR (W_j_X14_leaf_72) s (fun q => q) (j_X14_leaf_72 x1 x2 x3 x4 x5 s) := by
  unfold j_X14_leaf_72
  have Hs : Fr (W_j_X14_leaf_72) s s := Fr.rfl
  refine PR.ite (fun _ => ?_) (fun _ => ?_)
  · refine PR.bd (PR.call Hs (fr_f_X14_gatherBits x3 s) (by decide +kernel)) (fun r31 s28 Hs28 => ?_)
    refine PR.ite (fun _ => ?_) (fun _ => ?_)
    · refine PR.bdv (PR.call Hs28 (fr_f_X14_tell 16 x5 s28) (by decide +kernel)) (fun s43 Hs43 => ?_)
      exact PR.call Hs43 (fr_j_X14_leaf_280 s43) (by decide +kernel)
    · refine PR.bd (PR.call Hs28 (fr_f_X14_writeBits x1 s28) (by decide +kernel)) (fun r37 s34 Hs34 => ?_)
      refine PR.ite (fun _ => ?_) (fun _ => ?_)
      · refine PR.bdv (PR.call Hs34 (fr_f_X14_tell 22 x5 s34) (by decide +kernel)) (fun s40 Hs40 => ?_)
        exact PR.call Hs40 (fr_j_X14_leaf_280 s40) (by decide +kernel)
      · exact PR.call Hs34 (fr_j_X14_leaf_280 s34) (by decide +kernel)
  · refine PR.bd (PR.call Hs (fr_f_X14_gatherParts x3 4 s) (by decide +kernel)) (fun r5 s2 Hs2 => ?_)
    refine PR.ite (fun _ => ?_) (fun _ => ?_)
    · refine PR.bdv (PR.call Hs2 (fr_f_X14_tell 16 x5 s2) (by decide +kernel)) (fun s25 Hs25 => ?_)
      exact PR.call Hs25 (fr_j_X14_leaf_280 s25) (by decide +kernel)
    · refine PR.ite (fun _ => ?_) (fun _ => ?_)
      · exact PR.call Hs2 (fr_j_X14_leaf_147 x4 x5 s2) (by decide +kernel)
      · refine PR.ite (fun _ => ?_) (fun _ => ?_)
        · exact PR.call Hs2 (fr_j_X14_leaf_147 x4 x5 s2) (by decide +kernel)
        · refine PR.ite (fun _ => ?_) (fun _ => ?_)
          · exact PR.call Hs2 (fr_j_X14_leaf_217 x1 x2 x5 s2) (by decide +kernel)
          · refine PR.ite (fun _ => ?_) (fun _ => ?_)
            · exact PR.call Hs2 (fr_j_X14_leaf_217 x1 x2 x5 s2) (by decide +kernel)
            · refine PR.ite (fun _ => ?_) (fun _ => ?_)
              · refine PR.bd (PR.pure Hs2 (fr_f_X14_isObject s2)) (fun r19 s16 Hs16 => ?_)
                refine PR.ite (fun _ => ?_) (fun _ => ?_)
                · refine PR.bdv (PR.call Hs16 (fr_f_X14_tell 16 x5 s16) (by decide +kernel)) (fun s22 Hs22 => ?_)
                  exact PR.call Hs22 (fr_j_X14_leaf_280 s22) (by decide +kernel)
                · exact PR.call Hs16 (fr_j_X14_leaf_280 s16) (by decide +kernel)
              · refine PR.bdv (PR.call Hs2 (fr_f_X14_string x1 x4 x5 s2) (by decide +kernel)) (fun s13 Hs13 => ?_)
                exact PR.call Hs13 (fr_j_X14_leaf_280 s13) (by decide +kernel)
def W_j_X14_leaf_47 : List Nat := [87008, 87009, 87084, 87085, 87105, 87107, 87116, 87118, 87119, 87120, 87121, 87122, 87123, 87124, 87125, 87144, 147998, 147999, 148998, 148999, 149998, 149999, 161998, 161999, 162998, 162999, 169999, 170998, 170999, 183998, 183999]
theorem fr_j_X14_leaf_47 (x1 : Int) (x2 : Int) (x3 : Int) (x4 : Int) (x5 : Int) (z0 : Int) (s : vS) : PR (W_j_X14_leaf_47) s (fun q => q) (j_X14_leaf_47 x1 x2 x3 x4 x5 z0 s) := by
  unfold j_X14_leaf_47
  have Hs : Fr (W_j_X14_leaf_47) s s := Fr.rfl
  refine PR.gd ?_
  refine PR.ite (fun _ => ?_) (fun _ => ?_)
  · exact PR.call Hs (fr_j_X14_leaf_72 x1 x2 x3 x4 x5 s) (by decide +kernel)
  · refine PR.ite (fun _ => ?_) (fun _ => ?_)
    · refine PR.bdv (PR.call Hs (fr_f_X14_tell 14 x5 s) (by decide +kernel)) (fun s4 Hs4 => ?_)
      exact PR.some Hs4
    · exact PR.call Hs (fr_j_X14_leaf_72 x1 x2 x3 x4 x5 s) (by decide +kernel)
def W_f_X14_leaf : List Nat := [87008, 87009, 87084, 87085, 87105, 87107, 87116, 87118, 87119, 87120, 87121, 87122, 87123, 87124, 87125, 87144, 147998, 147999, 148998, 148999, 149998, 149999, 161998, 161999, 162998, 162999, 169999, 170998, 170999, 183998, 183999]
theorem fr_f_X14_leaf (x1 : Int) (x2 : Int) (x3 : Int) (s : vS) : PR (W_f_X14_leaf) s (fun q => q) (f_X14_leaf x1 x2 x3 s) := by
  unfold f_X14_leaf
  have Hs : Fr (W_f_X14_leaf) s s := Fr.rfl
  refine PR.gd ?_
  refine PR.vl (fun y2 => ?_)
  refine PR.gd ?_
  refine PR.vl (fun y6 => ?_)
  refine PR.ite (fun _ => ?_) (fun _ => ?_)
  · exact PR.call Hs (fr_j_X14_leaf_47 x1 x2 x3 y2 y6 1 s) (by decide +kernel)
  · refine PR.ite (fun _ => ?_) (fun _ => ?_)
    · exact PR.call Hs (fr_j_X14_leaf_47 x1 x2 x3 y2 y6 1 s) (by decide +kernel)
    · refine PR.ite (fun _ => ?_) (fun _ => ?_)
      · exact PR.call Hs (fr_j_X14_leaf_47 x1 x2 x3 y2 y6 0 s) (by decide +kernel)
      · refine PR.ite (fun _ => ?_) (fun _ => ?_)
        · exact PR.call Hs (fr_j_X14_leaf_47 x1 x2 x3 y2 y6 0 s) (by decide +kernel)
        · exact PR.call Hs (fr_j_X14_leaf_47 x1 x2 x3 y2 y6 1 s) (by decide +kernel)
def W_l_X14_isDefault_24 : List Nat := []
theorem fr_l_X14_isDefault_24 : ∀ (n : Nat) (x1 : Int) (x2 : Int) (x3 : Int) (x4 : Int) (s : vS), PR (W_l_X14_isDefault_24) s (fun q => q.2) (l_X14_isDefault_24 n x1 x2 x3 x4 s)
  := by
  intro n
  induction n with
  | zero => intro x1 x2 x3 x4 s; exact PR.none
  | succ n ih =>
    intro x1 x2 x3 x4 s
    unfold l_X14_isDefault_24
    have Hs : Fr (W_l_X14_isDefault_24) s s := Fr.rfl
    refine PR.gd ?_
    refine PR.ite (fun _ => ?_) (fun _ => ?_)
    · exact PR.some Hs
    · refine PR.ite (fun _ => ?_) (fun _ => ?_)
      · exact PR.some Hs
      · refine PR.gd ?_
        refine PR.gd ?_
        refine PR.gd ?_
        refine PR.ite (fun _ => ?_) (fun _ => ?_)
        · refine PR.vl (fun y11 => ?_)
          exact PR.tail Hs (ih x1 x2 1 y11 s)
        · refine PR.vl (fun y8 => ?_)
          exact PR.tail Hs (ih x1 x2 0 y8 s)
def W_f_X14_isDefault : List Nat := []
theorem fr_f_X14_isDefault (x1 : Int) (x2 : Int) (s : vS) : PR (W_f_X14_isDefault) s (fun q => q.2) (f_X14_isDefault x1 x2 s) := by
  unfold f_X14_isDefault
  have Hs : Fr (W_f_X14_isDefault) s s := Fr.rfl
  refine PR.gd ?_
  refine PR.ite (fun _ => ?_) (fun _ => ?_)
  · refine PR.lq_1 (PR.pure Hs (fr_l_X14_isDefault_24 FU x1 x2 1 0 s)) (fun y8 s9 Hs9 => ?_)
    refine PR.gd ?_
    exact PR.some Hs9
  · refine PR.lq_1 (PR.pure Hs (fr_l_X14_isDefault_24 FU x1 x2 0 0 s)) (fun y3 s4 Hs4 => ?_)
    refine PR.gd ?_
    exact PR.some Hs4
def W_l_X14_leave_90 : List Nat := [87008, 87009]
theorem fr_l_X14_leave_90 : ∀ (n : Nat) (x1 : Int) (x2 : Int) (x3 : Int) (x5 : Int) (x6 : Int) (x7 : Int) (s : vS), PR (W_l_X14_leave_90) s (fun q => q) (l_X14_leave_90 n x1 x2 x3 x5 x6 x7 s)
  := by
  intro n
  induction n with
  | zero => intro x1 x2 x3 x5 x6 x7 s; exact PR.none
  | succ n ih =>
    intro x1 x2 x3 x5 x6 x7 s
    unfold l_X14_leave_90
    have Hs : Fr (W_l_X14_leave_90) s s := Fr.rfl
    refine PR.gd ?_
    refine PR.ite (fun _ => ?_) (fun _ => ?_)
    · exact PR.some Hs
    · refine PR.ite (fun _ => ?_) (fun _ => ?_)
      · refine PR.gd ?_
        refine PR.ite (fun _ => ?_) (fun _ => ?_)
        · refine PR.gd ?_
          refine PR.vl (fun y7 => ?_)
          refine PR.vl (fun y10 => ?_)
          exact PR.tail Hs (ih x1 x2 x3 x5 y7 y10 s)
        · refine PR.gd ?_
          refine PR.gd ?_
          refine PR.bdv (PR.call Hs (fr_f_X14_tell 15 (gE s 172 (gE s 179 x6)) s) (by decide +kernel)) (fun s15 Hs15 => ?_)
          refine PR.gd ?_
          refine PR.vl (fun y19 => ?_)
          refine PR.vl (fun y22 => ?_)
          exact PR.tail Hs15 (ih x1 x2 x3 x5 y19 y22 s15)
      · exact PR.some Hs
def W_l_X14_leave_177 : List Nat := [87144, 87147, 183998, 183999, 185999]
theorem fr_j_X14_leave_232 (rec : Int → Int → Int → vS → Option (vS)) (hrec : ∀ (y0 : Int) (y1 : Int) (y2 : Int) (s : vS), PR (W_l_X14_leave_177) s (fun q => q) (rec y0 y1 y2 s)) (x1 : Int) (x3 : Int) (x7 : Int) (z1 : Int) (z2 : Int) (z3 : Int) (s : vS) : PR (W_l_X14_leave_177) s (fun q => q) (j_X14_leave_232 rec x1 x3 x7 z1 z2 z3 s) := by
  unfold j_X14_leave_232
  have Hs : Fr (W_l_X14_leave_177) s s := Fr.rfl
  refine PR.bdv (PR.call Hs (fr_f_X14_wrap z1 z2 z3 s) (by decide +kernel)) (fun s1 Hs1 => ?_)
  refine PR.vl (fun y4 => ?_)
  exact PR.tail Hs1 (hrec x1 x3 y4 s1)
theorem fr_l_X14_leave_177 : ∀ (n : Nat) (x1 : Int) (x3 : Int) (x7 : Int) (s : vS), PR (W_l_X14_leave_177) s (fun q => q) (l_X14_leave_177 n x1 x3 x7 s)
  := by
  intro n
  induction n with
  | zero => intro x1 x3 x7 s; exact PR.none
  | succ n ih =>
    intro x1 x3 x7 s
    unfold l_X14_leave_177
    have Hs : Fr (W_l_X14_leave_177) s s := Fr.rfl
    refine PR.ite (fun _ => ?_) (fun _ => ?_)
    · exact PR.some Hs
    · refine PR.gd ?_
      refine PR.gd ?_
      refine PR.gd ?_
      refine PR.ite (fun _ => ?_) (fun _ => ?_)
      · exact PR.tail Hs (fr_j_X14_leave_232 (l_X14_leave_177 n) ih x1 x3 x7 (gE s 189 x1) (gEL s 159 x7) 1 s)
      · refine PR.ite (fun _ => ?_) (fun _ => ?_)
        · exact PR.tail Hs (fr_j_X14_leave_232 (l_X14_leave_177 n) ih x1 x3 x7 (gE s 189 x1) (gEL s 159 x7) 1 s)
        · refine PR.gd ?_
          refine PR.ite (fun _ => ?_) (fun _ => ?_)
          · exact PR.tail Hs (fr_j_X14_leave_232 (l_X14_leave_177 n) ih x1 x3 x7 (gE s 189 x1) (gEL s 159 x7) 0 s)
          · exact PR.tail Hs (fr_j_X14_leave_232 (l_X14_leave_177 n) ih x1 x3 x7 (gE s 189 x1) (gEL s 159 x7) 1 s)
def W_j_X14_leave_151 : List Nat := [87101, 87104, 87144, 87147, 159999, 160999, 183998, 183999, 185999]
theorem fr_j_X14_leave_151 (x1 : Int) (x2 : Int) (x3 : Int) (x5 : Int) (s : vS) : PR (W_j_X14_leave_151) s (fun q => q) (j_X14_leave_151 x1 x2 x3 x5 s) := by
  unfold j_X14_leave_151
  have Hs : Fr (W_j_X14_leave_151) s s := Fr.rfl
  refine PR.ite (fun _ => ?_) (fun _ => ?_)
  · refine PR.bdv (PR.call Hs (fr_f_X14_findLayers x2 s) (by decide +kernel)) (fun s2 Hs2 => ?_)
    refine PR.lq_0 (PR.call Hs2 (fr_l_X14_leave_177 FU x1 x3 0 s2) (by decide +kernel)) (fun s5 Hs5 => ?_)
    exact PR.some Hs5
  · refine PR.gd ?_
    refine PR.stp (Fr.wI Hs (by decide +kernel)) (fun s8 Hs8 => ?_)
    exact PR.some Hs8
def W_j_X14_leave_77 : List Nat := [87008, 87009, 87101, 87104, 87144, 87147, 159999, 160999, 183998, 183999, 185999]
theorem fr_j_X14_leave_77 (x1 : Int) (x2 : Int) (x3 : Int) (z0 : Int) (s : vS) : PR (W_j_X14_leave_77) s (fun q => q) (j_X14_leave_77 x1 x2 x3 z0 s) := by
  unfold j_X14_leave_77
  have Hs : Fr (W_j_X14_leave_77) s s := Fr.rfl
  refine PR.gd ?_
  refine PR.vl (fun y2 => ?_)
  refine PR.lq_0 (PR.call Hs (fr_l_X14_leave_90 FU x1 x2 x3 z0 y2 0 s) (by decide +kernel)) (fun s5 Hs5 => ?_)
  exact PR.call Hs5 (fr_j_X14_leave_151 x1 x2 x3 z0 s5) (by decide +kernel)
def W_f_X14_leave : List Nat := [87008, 87009, 87101, 87104, 87144, 87147, 87149, 159999, 160999, 183998, 183999, 185999]
theorem fr_f_X14_leave (s : vS) : PR (W_f_X14_leave) s (fun q => q) (f_X14_leave s) := by
  unfold f_X14_leave
  have Hs : Fr (W_f_X14_leave) s s := Fr.rfl
  refine PR.stp (Fr.wI Hs (by decide +kernel)) (fun s1 Hs1 => ?_)
  refine PR.vl (fun y3 => ?_)
  refine PR.gd ?_
  refine PR.vl (fun y7 => ?_)
  refine PR.bd (PR.pure Hs1 (fr_f_X14_root y7 s1)) (fun r13 s10 Hs10 => ?_)
  refine PR.gd ?_
  refine PR.vl (fun y16 => ?_)
  refine PR.ite (fun _ => ?_) (fun _ => ?_)
  · exact PR.call Hs10 (fr_j_X14_leave_77 y3 y7 r13 0 s10) (by decide +kernel)
  · refine PR.gd ?_
    refine PR.ite (fun _ => ?_) (fun _ => ?_)
    · refine PR.gd ?_
      refine PR.gd ?_
      refine PR.bd (PR.pure Hs10 (fr_f_X14_isDefault (gE s10 189 y3) (gE s10 119 y16) s10)) (fun r27 s24 Hs24 => ?_)
      refine PR.ite (fun _ => ?_) (fun _ => ?_)
      · exact PR.call Hs24 (fr_j_X14_leave_77 y3 y7 r13 0 s24) (by decide +kernel)
      · exact PR.call Hs24 (fr_j_X14_leave_77 y3 y7 r13 1 s24) (by decide +kernel)
    · exact PR.call Hs10 (fr_j_X14_leave_77 y3 y7 r13 0 s10) (by decide +kernel)
def W_l_X14_enter_51 : List Nat := [87008, 87009]
theorem fr_l_X14_enter_51 : ∀ (n : Nat) (x1 : Int) (x3 : Int) (x4 : Int) (x5 : Int) (x6 : Int) (x7 : Int) (x8 : Int) (s : vS), PR (W_l_X14_enter_51) s (fun q => q.2) (l_X14_enter_51 n x1 x3 x4 x5 x6 x7 x8 s)
  := by
  intro n
  induction n with
  | zero => intro x1 x3 x4 x5 x6 x7 x8 s; exact PR.none
  | succ n ih =>
    intro x1 x3 x4 x5 x6 x7 x8 s
    unfold l_X14_enter_51
    have Hs : Fr (W_l_X14_enter_51) s s := Fr.rfl
    refine PR.ite (fun _ => ?_) (fun _ => ?_)
    · exact PR.some Hs
    · refine PR.ite (fun _ => ?_) (fun _ => ?_)
      · refine PR.gd ?_
        refine PR.bd (PR.pure Hs (fr_f_X14_hasTag x5 (gEL s 159 x8) s)) (fun r7 s4 Hs4 => ?_)
        refine PR.ite (fun _ => ?_) (fun _ => ?_)
        · refine PR.gd ?_
          refine PR.bdv (PR.call Hs4 (fr_f_X14_tell 11 (gE s4 172 x5) s4) (by decide +kernel)) (fun s36 Hs36 => ?_)
          refine PR.vl (fun y39 => ?_)
          exact PR.tail Hs36 (ih x1 x3 x4 x5 x6 x7 y39 s36)
        · refine PR.gd ?_
          refine PR.ite (fun _ => ?_) (fun _ => ?_)
          · refine PR.gd ?_
            refine PR.bdv (PR.call Hs4 (fr_f_X14_tell 14 (gE s4 172 x5) s4) (by decide +kernel)) (fun s29 Hs29 => ?_)
            refine PR.vl (fun y32 => ?_)
            exact PR.tail Hs29 (ih x1 x3 x4 x5 x6 x7 y32 s29)
          · refine PR.gd ?_
            refine PR.ite (fun _ => ?_) (fun _ => ?_)
            · refine PR.gd ?_
              refine PR.vl (fun y15 => ?_)
              refine PR.vl (fun y18 => ?_)
              exact PR.tail Hs4 (ih x1 x3 x4 y15 x6 x7 y18 s4)
            · refine PR.gd ?_
              refine PR.bdv (PR.call Hs4 (fr_f_X14_tell 15 (gE s4 172 x5) s4) (by decide +kernel)) (fun s22 Hs22 => ?_)
              refine PR.vl (fun y25 => ?_)
              exact PR.tail Hs22 (ih x1 x3 x4 x5 x6 x7 y25 s22)
      · exact PR.some Hs
def W_j_X14_enter_364 : List Nat := [191999, 192999]
theorem fr_j_X14_enter_364 (x4 : Int) (x5 : Int) (x8 : Int) (s : vS) : PR (W_j_X14_enter_364) s (fun q => q) (j_X14_enter_364 x4 x5 x8 s) := by
  unfold j_X14_enter_364
  have Hs : Fr (W_j_X14_enter_364) s s := Fr.rfl
  refine PR.gd ?_
  refine PR.gd ?_
  refine PR.stp (Fr.wE Hs (by decide +kernel)) (fun s3 Hs3 => ?_)
  refine PR.gd ?_
  refine PR.gd ?_
  refine PR.stp (Fr.wE Hs3 (by decide +kernel)) (fun s7 Hs7 => ?_)
  exact PR.some Hs7
def W_j_X14_enter_205 : List Nat := [87008, 87009, 87084, 87085, 87101, 87104, 87105, 87107, 87116, 87118, 87119, 87120, 87121, 87122, 87123, 87124, 87125, 87144, 87147, 87149, 147998, 147999, 148998, 148999, 149998, 149999, 159999, 160999, 161998, 161999, 162998, 162999, 169999, 170998, 170999, 183998, 183999, 185999, 186998, 186999, 187998, 187999, 188998, 188999, 189998, 189999, 190998, 190999, 191998, 191999, 192998, 192999, 193998, 193999]
theorem fr_j_X14_enter_205 (x1 : Int) (x3 : Int) (x4 : Int) (x5 : Int) (x7 : Int) (s : vS) : PR (W_j_X14_enter_205) s (fun q => q) (j_X14_enter_205 x1 x3 x4 x5 x7 s) := by
  unfold j_X14_enter_205
  have Hs : Fr (W_j_X14_enter_205) s s := Fr.rfl
  refine PR.ite (fun _ => ?_) (fun _ => ?_)
  · refine PR.bdv (PR.call Hs (fr_f_X14_roomForFrames s) (by decide +kernel)) (fun s2 Hs2 => ?_)
    refine PR.vl (fun y5 => ?_)
    refine PR.stp (Fr.wI Hs2 (by decide +kernel)) (fun s8 Hs8 => ?_)
    refine PR.gd ?_
    refine PR.stp (Fr.wE Hs8 (by decide +kernel)) (fun s11 Hs11 => ?_)
    refine PR.gd ?_
    refine PR.stp (Fr.wE Hs11 (by decide +kernel)) (fun s14 Hs14 => ?_)
    refine PR.gd ?_
    refine PR.stp (Fr.wE Hs14 (by decide +kernel)) (fun s17 Hs17 => ?_)
    refine PR.gd ?_
    refine PR.stp (Fr.wE Hs17 (by decide +kernel)) (fun s20 Hs20 => ?_)
    refine PR.gd ?_
    refine PR.stp (Fr.wE Hs20 (by decide +kernel)) (fun s23 Hs23 => ?_)
    refine PR.gd ?_
    refine PR.stp (Fr.wE Hs23 (by decide +kernel)) (fun s26 Hs26 => ?_)
    refine PR.gd ?_
    refine PR.stp (Fr.wE Hs26 (by decide +kernel)) (fun s29 Hs29 => ?_)
    refine PR.gd ?_
    refine PR.stp (Fr.wE Hs29 (by decide +kernel)) (fun s32 Hs32 => ?_)
    refine PR.gd ?_
    refine PR.ite (fun _ => ?_) (fun _ => ?_)
    · refine PR.gd ?_
      refine PR.stp (Fr.wE Hs32 (by decide +kernel)) (fun s52 Hs52 => ?_)
      exact PR.some Hs52
    · refine PR.gd ?_
      refine PR.ite (fun _ => ?_) (fun _ => ?_)
      · refine PR.bdv (PR.call Hs32 (fr_f_X14_leaf x1 x4 x5 s32) (by decide +kernel)) (fun s38 Hs38 => ?_)
        refine PR.ite (fun _ => ?_) (fun _ => ?_)
        · refine PR.bdv (PR.call Hs38 (fr_f_X14_leave s38) (by decide +kernel)) (fun s42 Hs42 => ?_)
          exact PR.some Hs42
        · exact PR.some Hs38
      · refine PR.gd ?_
        refine PR.ite (fun _ => ?_) (fun _ => ?_)
        · refine PR.gd ?_
          refine PR.bdv (PR.call Hs32 (fr_f_X14_tell 14 (gE s32 172 x5) s32) (by decide +kernel)) (fun s48 Hs48 => ?_)
          exact PR.call Hs48 (fr_j_X14_enter_364 x4 x5 y5 s48) (by decide +kernel)
        · exact PR.call Hs32 (fr_j_X14_enter_364 x4 x5 y5 s32) (by decide +kernel)
  · exact PR.some Hs
def W_j_X14_enter_164 : List Nat := [87008, 87009, 87084, 87085, 87101, 87104, 87105, 87107, 87116, 87118, 87119, 87120, 87121, 87122, 87123, 87124, 87125, 87144, 87147, 87149, 147998, 147999, 148998, 148999, 149998, 149999, 159999, 160999, 161998, 161999, 162998, 162999, 169999, 170998, 170999, 183998, 183999, 185999, 186998, 186999, 187998, 187999, 188998, 188999, 189998, 189999, 190998, 190999, 191998, 191999, 192998, 192999, 193998, 193999]
theorem fr_j_X14_enter_164 (x1 : Int) (x3 : Int) (x4 : Int) (x5 : Int) (x6 : Int) (x7 : Int) (s : vS) : PR (W_j_X14_enter_164) s (fun q => q) (j_X14_enter_164 x1 x3 x4 x5 x6 x7 s) := by
  unfold j_X14_enter_164
  have Hs : Fr (W_j_X14_enter_164) s s := Fr.rfl
  refine PR.ite (fun _ => ?_) (fun _ => ?_)
  · refine PR.ite (fun _ => ?_) (fun _ => ?_)
    · refine PR.gd ?_
      refine PR.bd (PR.pure Hs (fr_f_X14_hasTag x5 (gEL s 159 0) s)) (fun r7 s4 Hs4 => ?_)
      refine PR.ite (fun _ => ?_) (fun _ => ?_)
      · refine PR.gd ?_
        refine PR.bdv (PR.call Hs4 (fr_f_X14_tell 11 (gE s4 172 x5) s4) (by decide +kernel)) (fun s11 Hs11 => ?_)
        exact PR.call Hs11 (fr_j_X14_enter_205 x1 x3 x4 x5 x7 s11) (by decide +kernel)
      · exact PR.call Hs4 (fr_j_X14_enter_205 x1 x3 x4 x5 x7 s4) (by decide +kernel)
    · exact PR.call Hs (fr_j_X14_enter_205 x1 x3 x4 x5 x7 s) (by decide +kernel)
  · exact PR.call Hs (fr_j_X14_enter_205 x1 x3 x4 x5 x7 s) (by decide +kernel)
def W_j_X14_enter_32 : List Nat := [87008, 87009, 87084, 87085, 87101, 87104, 87105, 87107, 87116, 87118, 87119, 87120, 87121, 87122, 87123, 87124, 87125, 87144, 87147, 87149, 147998, 147999, 148998, 148999, 149998, 149999, 159999, 160999, 161998, 161999, 162998, 162999, 169999, 170998, 170999, 183998, 183999, 185999, 186998, 186999, 187998, 187999, 188998, 188999, 189998, 189999, 190998, 190999, 191998, 191999, 192998, 192999, 193998, 193999]
theorem fr_j_X14_enter_32 (x1 : Int) (x3 : Int) (x4 : Int) (x5 : Int) (z0 : Int) (s : vS) : PR (W_j_X14_enter_32) s (fun q => q) (j_X14_enter_32 x1 x3 x4 x5 z0 s) := by
  unfold j_X14_enter_32
  have Hs : Fr (W_j_X14_enter_32) s s := Fr.rfl
  refine PR.vl (fun y1 => ?_)
  refine PR.vl (fun y4 => ?_)
  refine PR.lq_1 (PR.call Hs (fr_l_X14_enter_51 FU x1 x3 x4 x5 z0 y1 y4 s) (by decide +kernel)) (fun y7 s8 Hs8 => ?_)
  exact PR.call Hs8 (fr_j_X14_enter_164 x1 x3 x4 y7 z0 y1 s8) (by decide +kernel)
def W_f_X14_enter : List Nat := [87008, 87009, 87084, 87085, 87101, 87104, 87105, 87107, 87116, 87118, 87119, 87120, 87121, 87122, 87123, 87124, 87125, 87144, 87147, 87149, 147998, 147999, 148998, 148999, 149998, 149999, 159999, 160999, 161998, 161999, 162998, 162999, 169999, 170998, 170999, 183998, 183999, 185999, 186998, 186999, 187998, 187999, 188998, 188999, 189998, 189999, 190998, 190999, 191998, 191999, 192998, 192999, 193998, 193999]
theorem fr_f_X14_enter (x1 : Int) (x2 : Int) (x3 : Int) (s : vS) : PR (W_f_X14_enter) s (fun q => q) (f_X14_enter x1 x2 x3 s) := by
  unfold f_X14_enter
  have Hs : Fr (W_f_X14_enter) s s := Fr.rfl
  refine PR.bdv (PR.call Hs (fr_f_X14_findLayers x1 s) (by decide +kernel)) (fun s1 Hs1 => ?_)
  refine PR.bd (PR.pure Hs1 (fr_f_X14_root x1 s1)) (fun r7 s4 Hs4 => ?_)
  refine PR.gd ?_
  refine PR.ite (fun _ => ?_) (fun _ => ?_)
  · exact PR.call Hs4 (fr_j_X14_enter_32 x1 x3 r7 x2 0 s4) (by decide +kernel)
  · exact PR.call Hs4 (fr_j_X14_enter_32 x1 x3 r7 x2 1 s4) (by decide +kernel)
def W_l_X14_choose_17 : List Nat := [87097, 87099, 156999, 157999, 158998, 158999]
theorem fr_l_X14_choose_17 : ∀ (n : Nat) (x1 : Int) (x3 : Int) (x4 : Int) (s : vS), PR (W_l_X14_choose_17) s (fun q => q.2) (l_X14_choose_17 n x1 x3 x4 s)
  := by
  intro n
  induction n with
  | zero => intro x1 x3 x4 s; exact PR.none
  | succ n ih =>
    intro x1 x3 x4 s
    unfold l_X14_choose_17
    have Hs : Fr (W_l_X14_choose_17) s s := Fr.rfl
    refine PR.ite (fun _ => ?_) (fun _ => ?_)
    · exact PR.some Hs
    · refine PR.gd ?_
      refine PR.bd (PR.call Hs (fr_f_X14_mayBe x3 (gE s 117 x4) s) (by decide +kernel)) (fun r6 s3 Hs3 => ?_)
      refine PR.ite (fun _ => ?_) (fun _ => ?_)
      · refine PR.gd ?_
        refine PR.vl (fun y10 => ?_)
        exact PR.tail Hs3 (ih x1 x3 y10 s3)
      · exact PR.some Hs3
def W_j_X14_choose_49 : List Nat := [87008, 87009, 87084, 87085, 87101, 87104, 87105, 87107, 87116, 87118, 87119, 87120, 87121, 87122, 87123, 87124, 87125, 87144, 87147, 87149, 147998, 147999, 148998, 148999, 149998, 149999, 159999, 160999, 161998, 161999, 162998, 162999, 169999, 170998, 170999, 183998, 183999, 185999, 186998, 186999, 187998, 187999, 188998, 188999, 189998, 189999, 190998, 190999, 191998, 191999, 192998, 192999, 193998, 193999]
theorem fr_j_X14_choose_49 (x1 : Int) (x3 : Int) (x4 : Int) (s : vS) : PR (W_j_X14_choose_49) s (fun q => q) (j_X14_choose_49 x1 x3 x4 s) := by
  unfold j_X14_choose_49
  have Hs : Fr (W_j_X14_choose_49) s s := Fr.rfl
  refine PR.gd ?_
  refine PR.stp (Fr.wE Hs (by decide +kernel)) (fun s2 Hs2 => ?_)
  refine PR.ite (fun _ => ?_) (fun _ => ?_)
  · refine PR.gd ?_
    refine PR.bdv (PR.call Hs2 (fr_f_X14_enter (gE s2 117 x4) x3 (-1) s2) (by decide +kernel)) (fun s6 Hs6 => ?_)
    exact PR.some Hs6
  · refine PR.gd ?_
    refine PR.bdv (PR.call Hs2 (fr_f_X14_tell 11 (gE s2 172 x3) s2) (by decide +kernel)) (fun s10 Hs10 => ?_)
    exact PR.some Hs10
def W_f_X14_choose : List Nat := [87008, 87009, 87084, 87085, 87097, 87099, 87101, 87104, 87105, 87107, 87116, 87118, 87119, 87120, 87121, 87122, 87123, 87124, 87125, 87144, 87147, 87149, 147998, 147999, 148998, 148999, 149998, 149999, 156999, 157999, 158998, 158999, 159999, 160999, 161998, 161999, 162998, 162999, 169999, 170998, 170999, 183998, 183999, 185999, 186998, 186999, 187998, 187999, 188998, 188999, 189998, 189999, 190998, 190999, 191998, 191999, 192998, 192999, 193998, 193999]
theorem fr_f_X14_choose (x1 : Int) (x2 : Int) (x3 : Int) (s : vS) : PR (W_f_X14_choose) s (fun q => q) (f_X14_choose x1 x2 x3 s) := by
  unfold f_X14_choose
  have Hs : Fr (W_f_X14_choose) s s := Fr.rfl
  refine PR.ite (fun _ => ?_) (fun _ => ?_)
  · refine PR.gd ?_
    refine PR.vl (fun y3 => ?_)
    refine PR.lq_1 (PR.call Hs (fr_l_X14_choose_17 FU x1 x3 y3 s) (by decide +kernel)) (fun y6 s7 Hs7 => ?_)
    exact PR.call Hs7 (fr_j_X14_choose_49 x1 x3 y6 s7) (by decide +kernel)
  · refine PR.bdv (PR.call Hs (fr_f_X14_leave s) (by decide +kernel)) (fun s10 Hs10 => ?_)
    exact PR.some Hs10
def W_f_X14_segmentEnd : List Nat := []
theorem fr_f_X14_segmentEnd (x1 : Int) (s : vS) : PR (W_f_X14_segmentEnd) s (fun q => q.2) (f_X14_segmentEnd x1 s) := by
  unfold f_X14_segmentEnd
  have Hs : Fr (W_f_X14_segmentEnd) s s := Fr.rfl
  refine PR.ite (fun _ => ?_) (fun _ => ?_)
  · exact PR.some Hs
  · refine PR.gd ?_
    exact PR.some Hs
def W_l_X14_tagAt_35 : List Nat := []
theorem fr_l_X14_tagAt_35 : ∀ (n : Nat) (x2 : Int) (x3 : Int) (x4 : Int) (s : vS), PR (W_l_X14_tagAt_35) s (fun q => q.2.2) (l_X14_tagAt_35 n x2 x3 x4 s)
  := by
  intro n
  induction n with
  | zero => intro x2 x3 x4 s; exact PR.none
  | succ n ih =>
    intro x2 x3 x4 s
    unfold l_X14_tagAt_35
    have Hs : Fr (W_l_X14_tagAt_35) s s := Fr.rfl
    refine PR.gd ?_
    refine PR.ite (fun _ => ?_) (fun _ => ?_)
    · exact PR.some Hs
    · refine PR.gd ?_
      refine PR.vl (fun y4 => ?_)
      refine PR.vl (fun y7 => ?_)
      exact PR.tail Hs (ih x2 y4 y7 s)
def W_f_X14_tagAt : List Nat := []
theorem fr_f_X14_tagAt (x1 : Int) (s : vS) : PR (W_f_X14_tagAt) s (fun q => q.2) (f_X14_tagAt x1 s) := by
  unfold f_X14_tagAt
  have Hs : Fr (W_f_X14_tagAt) s s := Fr.rfl
  refine PR.gd ?_
  refine PR.vl (fun y2 => ?_)
  refine PR.ite (fun _ => ?_) (fun _ => ?_)
  · refine PR.vl (fun y6 => ?_)
    refine PR.lq_2 (PR.pure Hs (fr_l_X14_tagAt_35 FU y2 0 y6 s)) (fun y9 y10 s11 Hs11 => ?_)
    refine PR.gd ?_
    refine PR.bd (PR.pure Hs11 (fr_f_X14_tagOf (shr32 y2 6) (or32 (shl32 y9 7) (gE s11 183 y10)) s11)) (fun r19 s16 Hs16 => ?_)
    exact PR.some Hs16
  · refine PR.bd (PR.pure Hs (fr_f_X14_tagOf (shr32 y2 6) (and32 y2 31) s)) (fun r24 s21 Hs21 => ?_)
    exact PR.some Hs21
def W_j_X14_isAfter_44 : List Nat := []
theorem fr_j_X14_isAfter_44 (x4 : Int) (x5 : Int) (x6 : Int) (x7 : Int) (s : vS) : PR (W_j_X14_isAfter_44) s (fun q => q.2) (j_X14_isAfter_44 x4 x5 x6 x7 s) := by
  unfold j_X14_isAfter_44
  have Hs : Fr (W_j_X14_isAfter_44) s s := Fr.rfl
  refine PR.ite (fun _ => ?_) (fun _ => ?_)
  · refine PR.ite (fun _ => ?_) (fun _ => ?_)
    · exact PR.some Hs
    · exact PR.some Hs
  · exact PR.some Hs
def W_l_X14_isAfter_90 : List Nat := []
theorem fr_l_X14_isAfter_90 : ∀ (n : Nat) (x4 : Int) (x5 : Int) (x6 : Int) (x7 : Int) (s : vS), PR (W_l_X14_isAfter_90) s (fun q => q.2.2) (l_X14_isAfter_90 n x4 x5 x6 x7 s)
  := by
  intro n
  induction n with
  | zero => intro x4 x5 x6 x7 s; exact PR.none
  | succ n ih =>
    intro x4 x5 x6 x7 s
    unfold l_X14_isAfter_90
    have Hs : Fr (W_l_X14_isAfter_90) s s := Fr.rfl
    refine PR.ite (fun _ => ?_) (fun _ => ?_)
    · exact PR.some Hs
    · refine PR.ite (fun _ => ?_) (fun _ => ?_)
      · exact PR.some Hs
      · refine PR.gd ?_
        refine PR.gd ?_
        refine PR.ite (fun _ => ?_) (fun _ => ?_)
        · refine PR.vl (fun y6 => ?_)
          refine PR.vl (fun y9 => ?_)
          exact PR.tail Hs (ih y6 y9 x6 x7 s)
        · exact PR.some Hs
def W_j_X14_isAfter_130 : List Nat := []
theorem fr_j_X14_isAfter_130 (x4 : Int) (x5 : Int) (x6 : Int) (x7 : Int) (s : vS) : PR (W_j_X14_isAfter_130) s (fun q => q.2) (j_X14_isAfter_130 x4 x5 x6 x7 s) := by
  unfold j_X14_isAfter_130
  have Hs : Fr (W_j_X14_isAfter_130) s s := Fr.rfl
  refine PR.ite (fun _ => ?_) (fun _ => ?_)
  · refine PR.ite (fun _ => ?_) (fun _ => ?_)
    · exact PR.some Hs
    · exact PR.some Hs
  · refine PR.ite (fun _ => ?_) (fun _ => ?_)
    · exact PR.some Hs
    · refine PR.gd ?_
      refine PR.gd ?_
      refine PR.ite (fun _ => ?_) (fun _ => ?_)
      · exact PR.some Hs
      · exact PR.some Hs
def W_f_X14_isAfter : List Nat := []
theorem fr_f_X14_isAfter (x1 : Int) (x2 : Int) (x3 : Int) (s : vS) : PR (W_f_X14_isAfter) s (fun q => q.2) (f_X14_isAfter x1 x2 x3 s) := by
  unfold f_X14_isAfter
  have Hs : Fr (W_f_X14_isAfter) s s := Fr.rfl
  refine PR.gd ?_
  refine PR.vl (fun y2 => ?_)
  refine PR.gd ?_
  refine PR.vl (fun y6 => ?_)
  refine PR.bd (PR.pure Hs (fr_f_X14_segmentEnd x1 s)) (fun r12 s9 Hs9 => ?_)
  refine PR.bd (PR.pure Hs9 (fr_f_X14_segmentEnd x2 s9)) (fun r17 s14 Hs14 => ?_)
  refine PR.ite (fun _ => ?_) (fun _ => ?_)
  · exact PR.pure Hs14 (fr_j_X14_isAfter_44 y2 y6 r12 r17 s14)
  · refine PR.ite (fun _ => ?_) (fun _ => ?_)
    · exact PR.pure Hs14 (fr_j_X14_isAfter_44 y2 y6 r12 r17 s14)
    · refine PR.ite (fun _ => ?_) (fun _ => ?_)
      · refine PR.lq_2 (PR.pure Hs14 (fr_l_X14_isAfter_90 FU y2 y6 r12 r17 s14)) (fun y22 y23 s24 Hs24 => ?_)
        exact PR.pure Hs24 (fr_j_X14_isAfter_130 y22 y23 r12 r17 s24)
      · refine PR.bd (PR.pure Hs14 (fr_f_X14_tagAt y2 s14)) (fun r31 s28 Hs28 => ?_)
        refine PR.bd (PR.pure Hs28 (fr_f_X14_tagAt y6 s28)) (fun r36 s33 Hs33 => ?_)
        refine PR.ite (fun _ => ?_) (fun _ => ?_)
        · exact PR.some Hs33
        · exact PR.some Hs33
def W_l_X14_sort_2 : List Nat := [196999]
theorem fr_l_X14_sort_2 : ∀ (n : Nat) (x1 : Int) (x2 : Int) (x3 : Int) (s : vS), PR (W_l_X14_sort_2) s (fun q => q) (l_X14_sort_2 n x1 x2 x3 s)
  := by
  intro n
  induction n with
  | zero => intro x1 x2 x3 s; exact PR.none
  | succ n ih =>
    intro x1 x2 x3 s
    unfold l_X14_sort_2
    have Hs : Fr (W_l_X14_sort_2) s s := Fr.rfl
    refine PR.ite (fun _ => ?_) (fun _ => ?_)
    · exact PR.some Hs
    · refine PR.gd ?_
      refine PR.stp (Fr.wE Hs (by decide +kernel)) (fun s3 Hs3 => ?_)
      refine PR.vl (fun y5 => ?_)
      exact PR.tail Hs3 (ih x1 x2 y5 s3)
def W_l_X14_sort_111 : List Nat := [197999]
theorem fr_j_X14_sort_189 (rec : Int → Int → Int → Int → Int → Int → Int → Int → Int → vS → Option (vS)) (hrec : ∀ (y0 : Int) (y1 : Int) (y2 : Int) (y3 : Int) (y4 : Int) (y5 : Int) (y6 : Int) (y7 : Int) (y8 : Int) (s : vS), PR (W_l_X14_sort_111) s (fun q => q) (rec y0 y1 y2 y3 y4 y5 y6 y7 y8 s)) (x1 : Int) (x2 : Int) (x3 : Int) (x4 : Int) (x5 : Int) (x6 : Int) (x7 : Int) (x8 : Int) (x9 : Int) (x10 : Int) (z1 : Int) (z2 : Int) (s : vS) : PR (W_l_X14_sort_111) s (fun q => q) (j_X14_sort_189 rec x1 x2 x3 x4 x5 x6 x7 x8 x9 x10 z1 z2 s) := by
  unfold j_X14_sort_189
  have Hs : Fr (W_l_X14_sort_111) s s := Fr.rfl
  refine PR.gd ?_
  refine PR.stp (Fr.wE Hs (by decide +kernel)) (fun s2 Hs2 => ?_)
  refine PR.ite (fun _ => ?_) (fun _ => ?_)
  · refine PR.vl (fun y5 => ?_)
    refine PR.vl (fun y8 => ?_)
    exact PR.tail Hs2 (hrec x1 x2 x3 x4 x5 x6 y5 x8 y8 s2)
  · refine PR.vl (fun y11 => ?_)
    refine PR.vl (fun y14 => ?_)
    exact PR.tail Hs2 (hrec x1 x2 x3 x4 x5 x6 x7 y11 y14 s2)
theorem fr_j_X14_sort_159 (rec : Int → Int → Int → Int → Int → Int → Int → Int → Int → vS → Option (vS)) (hrec : ∀ (y0 : Int) (y1 : Int) (y2 : Int) (y3 : Int) (y4 : Int) (y5 : Int) (y6 : Int) (y7 : Int) (y8 : Int) (s : vS), PR (W_l_X14_sort_111) s (fun q => q) (rec y0 y1 y2 y3 y4 y5 y6 y7 y8 s)) (x1 : Int) (x2 : Int) (x3 : Int) (x4 : Int) (x5 : Int) (x6 : Int) (x7 : Int) (x8 : Int) (x9 : Int) (z0 : Int) (s : vS) : PR (W_l_X14_sort_111) s (fun q => q) (j_X14_sort_159 rec x1 x2 x3 x4 x5 x6 x7 x8 x9 z0 s) := by
  unfold j_X14_sort_159
  have Hs : Fr (W_l_X14_sort_111) s s := Fr.rfl
  refine PR.ite (fun _ => ?_) (fun _ => ?_)
  · refine PR.gd ?_
    exact PR.tail Hs (fr_j_X14_sort_189 rec hrec x1 x2 x3 x4 x5 x6 x7 x8 x9 z0 x9 (gE s 196 x7) s)
  · refine PR.gd ?_
    exact PR.tail Hs (fr_j_X14_sort_189 rec hrec x1 x2 x3 x4 x5 x6 x7 x8 x9 z0 x9 (gE s 196 x8) s)
theorem fr_l_X14_sort_111 : ∀ (n : Nat) (x1 : Int) (x2 : Int) (x3 : Int) (x4 : Int) (x5 : Int) (x6 : Int) (x7 : Int) (x8 : Int) (x9 : Int) (s : vS), PR (W_l_X14_sort_111) s (fun q => q) (l_X14_sort_111 n x1 x2 x3 x4 x5 x6 x7 x8 x9 s)
  := by
  intro n
  induction n with
  | zero => intro x1 x2 x3 x4 x5 x6 x7 x8 x9 s; exact PR.none
  | succ n ih =>
    intro x1 x2 x3 x4 x5 x6 x7 x8 x9 s
    unfold l_X14_sort_111
    have Hs : Fr (W_l_X14_sort_111) s s := Fr.rfl
    refine PR.ite (fun _ => ?_) (fun _ => ?_)
    · exact PR.some Hs
    · refine PR.ite (fun _ => ?_) (fun _ => ?_)
      · exact PR.tail Hs (fr_j_X14_sort_159 (l_X14_sort_111 n) ih x1 x2 x3 x4 x5 x6 x7 x8 x9 1 s)
      · refine PR.ite (fun _ => ?_) (fun _ => ?_)
        · exact PR.tail Hs (fr_j_X14_sort_159 (l_X14_sort_111 n) ih x1 x2 x3 x4 x5 x6 x7 x8 x9 0 s)
        · refine PR.gd ?_
          refine PR.gd ?_
          refine PR.bd (PR.pure Hs (fr_f_X14_isAfter (gE s 196 x7) (gE s 196 x8) x2 s)) (fun r9 s6 Hs6 => ?_)
          refine PR.ite (fun _ => ?_) (fun _ => ?_)
          · exact PR.tail Hs6 (fr_j_X14_sort_159 (l_X14_sort_111 n) ih x1 x2 x3 x4 x5 x6 x7 x8 x9 0 s6)
          · exact PR.tail Hs6 (fr_j_X14_sort_159 (l_X14_sort_111 n) ih x1 x2 x3 x4 x5 x6 x7 x8 x9 1 s6)
def W_l_X14_sort_38 : List Nat := [197999]
theorem fr_j_X14_sort_97 (rec : Int → Int → Int → Int → vS → Option (vS)) (hrec : ∀ (y0 : Int) (y1 : Int) (y2 : Int) (y3 : Int) (s : vS), PR (W_l_X14_sort_38) s (fun q => q) (rec y0 y1 y2 y3 s)) (x1 : Int) (x2 : Int) (x3 : Int) (x4 : Int) (x5 : Int) (z0 : Int) (s : vS) : PR (W_l_X14_sort_38) s (fun q => q) (j_X14_sort_97 rec x1 x2 x3 x4 x5 z0 s) := by
  unfold j_X14_sort_97
  have Hs : Fr (W_l_X14_sort_38) s s := Fr.rfl
  refine PR.lq_0 (PR.call Hs (fr_l_X14_sort_111 FU x1 x2 x3 x4 x5 z0 x4 x5 x4 s) (by decide +kernel)) (fun s1 Hs1 => ?_)
  refine PR.vl (fun y3 => ?_)
  exact PR.tail Hs1 (hrec x1 x2 x3 y3 s1)
theorem fr_j_X14_sort_69 (rec : Int → Int → Int → Int → vS → Option (vS)) (hrec : ∀ (y0 : Int) (y1 : Int) (y2 : Int) (y3 : Int) (s : vS), PR (W_l_X14_sort_38) s (fun q => q) (rec y0 y1 y2 y3 s)) (x1 : Int) (x2 : Int) (x3 : Int) (x4 : Int) (z0 : Int) (s : vS) : PR (W_l_X14_sort_38) s (fun q => q) (j_X14_sort_69 rec x1 x2 x3 x4 z0 s) := by
  unfold j_X14_sort_69
  have Hs : Fr (W_l_X14_sort_38) s s := Fr.rfl
  refine PR.ite (fun _ => ?_) (fun _ => ?_)
  · exact PR.tail Hs (fr_j_X14_sort_97 rec hrec x1 x2 x3 x4 z0 (gI s 87 158) s)
  · exact PR.tail Hs (fr_j_X14_sort_97 rec hrec x1 x2 x3 x4 z0 (w32 (x4 + (w32 (2 * x3)))) s)
theorem fr_l_X14_sort_38 : ∀ (n : Nat) (x1 : Int) (x2 : Int) (x3 : Int) (x4 : Int) (s : vS), PR (W_l_X14_sort_38) s (fun q => q) (l_X14_sort_38 n x1 x2 x3 x4 s)
  := by
  intro n
  induction n with
  | zero => intro x1 x2 x3 x4 s; exact PR.none
  | succ n ih =>
    intro x1 x2 x3 x4 s
    unfold l_X14_sort_38
    have Hs : Fr (W_l_X14_sort_38) s s := Fr.rfl
    refine PR.ite (fun _ => ?_) (fun _ => ?_)
    · exact PR.some Hs
    · refine PR.ite (fun _ => ?_) (fun _ => ?_)
      · exact PR.tail Hs (fr_j_X14_sort_69 (l_X14_sort_38 n) ih x1 x2 x3 x4 (gI s 87 158) s)
      · exact PR.tail Hs (fr_j_X14_sort_69 (l_X14_sort_38 n) ih x1 x2 x3 x4 (w32 (x4 + x3)) s)
def W_l_X14_sort_224 : List Nat := [196999]
theorem fr_l_X14_sort_224 : ∀ (n : Nat) (x1 : Int) (x2 : Int) (x3 : Int) (x4 : Int) (s : vS), PR (W_l_X14_sort_224) s (fun q => q) (l_X14_sort_224 n x1 x2 x3 x4 s)
  := by
  intro n
  induction n with
  | zero => intro x1 x2 x3 x4 s; exact PR.none
  | succ n ih =>
    intro x1 x2 x3 x4 s
    unfold l_X14_sort_224
    have Hs : Fr (W_l_X14_sort_224) s s := Fr.rfl
    refine PR.ite (fun _ => ?_) (fun _ => ?_)
    · exact PR.some Hs
    · refine PR.gd ?_
      refine PR.gd ?_
      refine PR.stp (Fr.wE Hs (by decide +kernel)) (fun s4 Hs4 => ?_)
      refine PR.vl (fun y6 => ?_)
      exact PR.tail Hs4 (ih x1 x2 x3 y6 s4)
def W_l_X14_sort_25 : List Nat := [196999, 197999]
theorem fr_l_X14_sort_25 : ∀ (n : Nat) (x1 : Int) (x2 : Int) (x3 : Int) (s : vS), PR (W_l_X14_sort_25) s (fun q => q) (l_X14_sort_25 n x1 x2 x3 s)
  := by
  intro n
  induction n with
  | zero => intro x1 x2 x3 s; exact PR.none
  | succ n ih =>
    intro x1 x2 x3 s
    unfold l_X14_sort_25
    have Hs : Fr (W_l_X14_sort_25) s s := Fr.rfl
    refine PR.ite (fun _ => ?_) (fun _ => ?_)
    · exact PR.some Hs
    · refine PR.lq_0 (PR.call Hs (fr_l_X14_sort_38 FU x1 x2 x3 x1 s) (by decide +kernel)) (fun s2 Hs2 => ?_)
      refine PR.lq_0 (PR.call Hs2 (fr_l_X14_sort_224 FU x1 x2 x3 x1 s2) (by decide +kernel)) (fun s4 Hs4 => ?_)
      refine PR.vl (fun y6 => ?_)
      exact PR.tail Hs4 (ih x1 x2 y6 s4)
def W_l_X14_sort_335 : List Nat := [184999]
theorem fr_l_X14_sort_335 : ∀ (n : Nat) (x3 : Int) (x4 : Int) (x5 : Int) (x6 : Int) (s : vS), PR (W_l_X14_sort_335) s (fun q => q.2) (l_X14_sort_335 n x3 x4 x5 x6 s)
  := by
  intro n
  induction n with
  | zero => intro x3 x4 x5 x6 s; exact PR.none
  | succ n ih =>
    intro x3 x4 x5 x6 s
    unfold l_X14_sort_335
    have Hs : Fr (W_l_X14_sort_335) s s := Fr.rfl
    refine PR.gd ?_
    refine PR.bd (PR.pure Hs (fr_f_X14_segmentEnd (gE s 196 x5) s)) (fun r5 s2 Hs2 => ?_)
    refine PR.ite (fun _ => ?_) (fun _ => ?_)
    · exact PR.some Hs2
    · refine PR.gd ?_
      refine PR.gd ?_
      refine PR.stp (Fr.wE Hs2 (by decide +kernel)) (fun s10 Hs10 => ?_)
      refine PR.vl (fun y12 => ?_)
      refine PR.vl (fun y15 => ?_)
      exact PR.tail Hs10 (ih x3 y12 x5 y15 s10)
def W_l_X14_sort_312 : List Nat := [184999]
theorem fr_l_X14_sort_312 : ∀ (n : Nat) (x3 : Int) (x4 : Int) (x5 : Int) (s : vS), PR (W_l_X14_sort_312) s (fun q => q.2) (l_X14_sort_312 n x3 x4 x5 s)
  := by
  intro n
  induction n with
  | zero => intro x3 x4 x5 s; exact PR.none
  | succ n ih =>
    intro x3 x4 x5 s
    unfold l_X14_sort_312
    have Hs : Fr (W_l_X14_sort_312) s s := Fr.rfl
    refine PR.ite (fun _ => ?_) (fun _ => ?_)
    · exact PR.some Hs
    · refine PR.gd ?_
      refine PR.gd ?_
      refine PR.vl (fun y4 => ?_)
      refine PR.lq_1 (PR.call Hs (fr_l_X14_sort_335 FU x3 x4 x5 y4 s) (by decide +kernel)) (fun y7 s8 Hs8 => ?_)
      refine PR.vl (fun y11 => ?_)
      exact PR.tail Hs8 (ih x3 y7 y11 s8)
def W_l_X14_sort_383 : List Nat := [183999]
theorem fr_l_X14_sort_383 : ∀ (n : Nat) (x3 : Int) (x4 : Int) (x5 : Int) (s : vS), PR (W_l_X14_sort_383) s (fun q => q) (l_X14_sort_383 n x3 x4 x5 s)
  := by
  intro n
  induction n with
  | zero => intro x3 x4 x5 s; exact PR.none
  | succ n ih =>
    intro x3 x4 x5 s
    unfold l_X14_sort_383
    have Hs : Fr (W_l_X14_sort_383) s s := Fr.rfl
    refine PR.ite (fun _ => ?_) (fun _ => ?_)
    · exact PR.some Hs
    · refine PR.gd ?_
      refine PR.gd ?_
      refine PR.stp (Fr.wE Hs (by decide +kernel)) (fun s4 Hs4 => ?_)
      refine PR.vl (fun y6 => ?_)
      exact PR.tail Hs4 (ih x3 x4 y6 s4)
def W_j_X14_sort_281 : List Nat := [183999, 184998, 184999]
theorem fr_j_X14_sort_281 (x1 : Int) (z0 : Int) (s : vS) : PR (W_j_X14_sort_281) s (fun q => q) (j_X14_sort_281 x1 z0 s) := by
  unfold j_X14_sort_281
  have Hs : Fr (W_j_X14_sort_281) s s := Fr.rfl
  refine PR.ite (fun _ => ?_) (fun _ => ?_)
  · refine PR.lq_1 (PR.call Hs (fr_l_X14_sort_312 FU z0 0 x1 s) (by decide +kernel)) (fun y2 s3 Hs3 => ?_)
    refine PR.lq_0 (PR.call Hs3 (fr_l_X14_sort_383 FU z0 y2 0 s3) (by decide +kernel)) (fun s6 Hs6 => ?_)
    exact PR.some Hs6
  · refine PR.gd ?_
    refine PR.stp (Fr.wAT Hs (by decide)) (fun s9 Hs9 => ?_)
    refine PR.gd ?_
    refine PR.stp (Fr.wswT Hs9 (by decide) (by decide +kernel) (by decide +kernel)) (fun s12 Hs12 => ?_)
    refine PR.stp (Fr.wrs Hs12) (fun s14 Hs14 => ?_)
    refine PR.lq_1 (PR.call Hs14 (fr_l_X14_sort_312 FU z0 0 x1 s14) (by decide +kernel)) (fun y16 s17 Hs17 => ?_)
    refine PR.lq_0 (PR.call Hs17 (fr_l_X14_sort_383 FU z0 y16 0 s17) (by decide +kernel)) (fun s20 Hs20 => ?_)
    exact PR.some Hs20
def W_f_X14_sort : List Nat := [183999, 184998, 184999, 196999, 197999]
theorem fr_f_X14_sort (x1 : Int) (x2 : Int) (s : vS) : PR (W_f_X14_sort) s (fun q => q) (f_X14_sort x1 x2 s) := by
  unfold f_X14_sort
  have Hs : Fr (W_f_X14_sort) s s := Fr.rfl
  refine PR.lq_0 (PR.call Hs (fr_l_X14_sort_2 FU x1 x2 x1 s) (by decide +kernel)) (fun s1 Hs1 => ?_)
  refine PR.lq_0 (PR.call Hs1 (fr_l_X14_sort_25 FU x1 x2 1 s1) (by decide +kernel)) (fun s3 Hs3 => ?_)
  refine PR.ite (fun _ => ?_) (fun _ => ?_)
  · exact PR.call Hs3 (fr_j_X14_sort_281 x1 (gI s3 87 144) s3) (by decide +kernel)
  · refine PR.gd ?_
    exact PR.call Hs3 (fr_j_X14_sort_281 x1 (gE s3 194 x1) s3) (by decide +kernel)
def W_j_X14_finish_266 : List Nat := [87008, 87009, 87101, 87104, 87144, 87147, 87149, 87158, 159999, 160999, 183998, 183999, 185999]
theorem fr_j_X14_finish_266 (x1 : Int) (s : vS) : PR (W_j_X14_finish_266) s (fun q => q) (j_X14_finish_266 x1 s) := by
  unfold j_X14_finish_266
  have Hs : Fr (W_j_X14_finish_266) s s := Fr.rfl
  refine PR.gd ?_
  refine PR.stp (Fr.wI Hs (by decide +kernel)) (fun s2 Hs2 => ?_)
  refine PR.bdv (PR.call Hs2 (fr_f_X14_leave s2) (by decide +kernel)) (fun s4 Hs4 => ?_)
  exact PR.some Hs4
def W_j_X14_finish_263 : List Nat := [87008, 87009, 87101, 87104, 87144, 87147, 87149, 87158, 159999, 160999, 183998, 183999, 184998, 184999, 185999, 196999, 197999]
theorem fr_j_X14_finish_263 (x1 : Int) (z1 : Int) (z2 : Int) (s : vS) : PR (W_j_X14_finish_263) s (fun q => q) (j_X14_finish_263 x1 z1 z2 s) := by
  unfold j_X14_finish_263
  have Hs : Fr (W_j_X14_finish_263) s s := Fr.rfl
  refine PR.bdv (PR.call Hs (fr_f_X14_sort z1 z2 s) (by decide +kernel)) (fun s1 Hs1 => ?_)
  exact PR.call Hs1 (fr_j_X14_finish_266 x1 s1) (by decide +kernel)
def W_j_X14_finish_245 : List Nat := [87008, 87009, 87101, 87104, 87144, 87147, 87149, 87158, 159999, 160999, 183998, 183999, 184998, 184999, 185999, 196999, 197999]
theorem fr_j_X14_finish_245 (x1 : Int) (x3 : Int) (s : vS) : PR (W_j_X14_finish_245) s (fun q => q) (j_X14_finish_245 x1 x3 s) := by
  unfold j_X14_finish_245
  have Hs : Fr (W_j_X14_finish_245) s s := Fr.rfl
  refine PR.gd ?_
  refine PR.ite (fun _ => ?_) (fun _ => ?_)
  · exact PR.call Hs (fr_j_X14_finish_263 x1 (gE s 193 x1) 1 s) (by decide +kernel)
  · exact PR.call Hs (fr_j_X14_finish_263 x1 (gE s 193 x1) 0 s) (by decide +kernel)
def W_j_X14_finish_225 : List Nat := [87008, 87009, 87101, 87104, 87144, 87147, 87149, 87158, 159999, 160999, 183998, 183999, 184998, 184999, 185999, 196999, 197999]
theorem fr_j_X14_finish_225 (x1 : Int) (x3 : Int) (s : vS) : PR (W_j_X14_finish_225) s (fun q => q) (j_X14_finish_225 x1 x3 s) := by
  unfold j_X14_finish_225
  have Hs : Fr (W_j_X14_finish_225) s s := Fr.rfl
  refine PR.ite (fun _ => ?_) (fun _ => ?_)
  · refine PR.ite (fun _ => ?_) (fun _ => ?_)
    · exact PR.call Hs (fr_j_X14_finish_245 x1 x3 s) (by decide +kernel)
    · refine PR.ite (fun _ => ?_) (fun _ => ?_)
      · exact PR.call Hs (fr_j_X14_finish_245 x1 x3 s) (by decide +kernel)
      · exact PR.call Hs (fr_j_X14_finish_266 x1 s) (by decide +kernel)
  · exact PR.some Hs
def W_l_X14_finish_116 : List Nat := []
theorem fr_l_X14_finish_116 : ∀ (n : Nat) (x1 : Int) (x3 : Int) (x4 : Int) (x5 : Int) (x6 : Int) (x7 : Int) (s : vS), PR (W_l_X14_finish_116) s (fun q => q.2) (l_X14_finish_116 n x1 x3 x4 x5 x6 x7 s)
  := by
  intro n
  induction n with
  | zero => intro x1 x3 x4 x5 x6 x7 s; exact PR.none
  | succ n ih =>
    intro x1 x3 x4 x5 x6 x7 s
    unfold l_X14_finish_116
    have Hs : Fr (W_l_X14_finish_116) s s := Fr.rfl
    refine PR.ite (fun _ => ?_) (fun _ => ?_)
    · exact PR.some Hs
    · refine PR.ite (fun _ => ?_) (fun _ => ?_)
      · refine PR.gd ?_
        refine PR.ite (fun _ => ?_) (fun _ => ?_)
        · refine PR.vl (fun y11 => ?_)
          exact PR.tail Hs (ih x1 x3 x4 x5 1 y11 s)
        · refine PR.vl (fun y8 => ?_)
          exact PR.tail Hs (ih x1 x3 x4 x5 0 y8 s)
      · refine PR.vl (fun y3 => ?_)
        exact PR.tail Hs (ih x1 x3 x4 x5 1 y3 s)
def W_l_X14_finish_86 : List Nat := [87008, 87009]
theorem fr_j_X14_finish_106 (rec : Int → Int → Int → Int → vS → Option (vS)) (hrec : ∀ (y0 : Int) (y1 : Int) (y2 : Int) (y3 : Int) (s : vS), PR (W_l_X14_finish_86) s (fun q => q) (rec y0 y1 y2 y3 s)) (x1 : Int) (x3 : Int) (x4 : Int) (x5 : Int) (z0 : Int) (s : vS) : PR (W_l_X14_finish_86) s (fun q => q) (j_X14_finish_106 rec x1 x3 x4 x5 z0 s) := by
  unfold j_X14_finish_106
  have Hs : Fr (W_l_X14_finish_86) s s := Fr.rfl
  refine PR.gd ?_
  refine PR.vl (fun y2 => ?_)
  refine PR.lq_1 (PR.pure Hs (fr_l_X14_finish_116 FU x1 x3 x4 x5 z0 y2 s)) (fun y5 s6 Hs6 => ?_)
  refine PR.ite (fun _ => ?_) (fun _ => ?_)
  · refine PR.gd ?_
    refine PR.bdv (PR.call Hs6 (fr_f_X14_tell 12 (gE s6 172 x4) s6) (by decide +kernel)) (fun s15 Hs15 => ?_)
    refine PR.gd ?_
    refine PR.vl (fun y19 => ?_)
    exact PR.tail Hs15 (hrec x1 x3 x4 y19 s15)
  · refine PR.gd ?_
    refine PR.vl (fun y11 => ?_)
    exact PR.tail Hs6 (hrec x1 x3 x4 y11 s6)
theorem fr_l_X14_finish_86 : ∀ (n : Nat) (x1 : Int) (x3 : Int) (x4 : Int) (x5 : Int) (s : vS), PR (W_l_X14_finish_86) s (fun q => q) (l_X14_finish_86 n x1 x3 x4 x5 s)
  := by
  intro n
  induction n with
  | zero => intro x1 x3 x4 x5 s; exact PR.none
  | succ n ih =>
    intro x1 x3 x4 x5 s
    unfold l_X14_finish_86
    have Hs : Fr (W_l_X14_finish_86) s s := Fr.rfl
    refine PR.ite (fun _ => ?_) (fun _ => ?_)
    · exact PR.some Hs
    · refine PR.gd ?_
      refine PR.ite (fun _ => ?_) (fun _ => ?_)
      · exact PR.tail Hs (fr_j_X14_finish_106 (l_X14_finish_86 n) ih x1 x3 x4 x5 0 s)
      · exact PR.tail Hs (fr_j_X14_finish_106 (l_X14_finish_86 n) ih x1 x3 x4 x5 1 s)
def W_l_X14_finish_29 : List Nat := [87008, 87009]
theorem fr_l_X14_finish_29 : ∀ (n : Nat) (x1 : Int) (x3 : Int) (x4 : Int) (x5 : Int) (s : vS), PR (W_l_X14_finish_29) s (fun q => q) (l_X14_finish_29 n x1 x3 x4 x5 s)
  := by
  intro n
  induction n with
  | zero => intro x1 x3 x4 x5 s; exact PR.none
  | succ n ih =>
    intro x1 x3 x4 x5 s
    unfold l_X14_finish_29
    have Hs : Fr (W_l_X14_finish_29) s s := Fr.rfl
    refine PR.ite (fun _ => ?_) (fun _ => ?_)
    · exact PR.some Hs
    · refine PR.gd ?_
      refine PR.ite (fun _ => ?_) (fun _ => ?_)
      · refine PR.gd ?_
        refine PR.bdv (PR.call Hs (fr_f_X14_tell 12 (gE s 172 x4) s) (by decide +kernel)) (fun s9 Hs9 => ?_)
        refine PR.gd ?_
        refine PR.vl (fun y13 => ?_)
        exact PR.tail Hs9 (ih x1 x3 x4 y13 s9)
      · refine PR.gd ?_
        refine PR.vl (fun y5 => ?_)
        exact PR.tail Hs (ih x1 x3 x4 y5 s)
def W_f_X14_finish : List Nat := [87008, 87009, 87084, 87085, 87101, 87104, 87144, 87147, 87149, 87158, 147998, 147999, 148998, 148999, 149998, 149999, 159999, 160999, 183998, 183999, 184998, 184999, 185999, 196999, 197999]
theorem fr_f_X14_finish (x1 : Int) (x2 : Int) (s : vS) : PR (W_f_X14_finish) s (fun q => q) (f_X14_finish x1 x2 s) := by
  unfold f_X14_finish
  have Hs : Fr (W_f_X14_finish) s s := Fr.rfl
  refine PR.gd ?_
  refine PR.vl (fun y2 => ?_)
  refine PR.gd ?_
  refine PR.vl (fun y6 => ?_)
  refine PR.ite (fun _ => ?_) (fun _ => ?_)
  · refine PR.gd ?_
    refine PR.vl (fun y30 => ?_)
    refine PR.lq_0 (PR.call Hs (fr_l_X14_finish_29 FU x1 y2 y6 y30 s) (by decide +kernel)) (fun s33 Hs33 => ?_)
    exact PR.call Hs33 (fr_j_X14_finish_225 x1 y2 s33) (by decide +kernel)
  · refine PR.ite (fun _ => ?_) (fun _ => ?_)
    · refine PR.gd ?_
      refine PR.vl (fun y24 => ?_)
      refine PR.lq_0 (PR.call Hs (fr_l_X14_finish_86 FU x1 y2 y6 y24 s) (by decide +kernel)) (fun s27 Hs27 => ?_)
      exact PR.call Hs27 (fr_j_X14_finish_225 x1 y2 s27) (by decide +kernel)
    · refine PR.gd ?_
      refine PR.gd ?_
      refine PR.bd (PR.call Hs (fr_f_X14_holdsSize (gE s 186 x1) (w32 ((gI s 87 158) - (gE s 193 x1))) s) (by decide +kernel)) (fun r16 s13 Hs13 => ?_)
      refine PR.ite (fun _ => ?_) (fun _ => ?_)
      · refine PR.gd ?_
        refine PR.bdv (PR.call Hs13 (fr_f_X14_tell 22 (gE s13 172 y6) s13) (by decide +kernel)) (fun s20 Hs20 => ?_)
        exact PR.call Hs20 (fr_j_X14_finish_225 x1 y2 s20) (by decide +kernel)
      · exact PR.call Hs13 (fr_j_X14_finish_225 x1 y2 s13) (by decide +kernel)
def W_l_X14_nextOfSequence_8 : List Nat := [87097, 87099, 156999, 157999, 158998, 158999]
theorem fr_l_X14_nextOfSequence_8 : ∀ (n : Nat) (x1 : Int) (x3 : Int) (x4 : Int) (s : vS), PR (W_l_X14_nextOfSequence_8) s (fun q => q.2) (l_X14_nextOfSequence_8 n x1 x3 x4 s)
  := by
  intro n
  induction n with
  | zero => intro x1 x3 x4 s; exact PR.none
  | succ n ih =>
    intro x1 x3 x4 s
    unfold l_X14_nextOfSequence_8
    have Hs : Fr (W_l_X14_nextOfSequence_8) s s := Fr.rfl
    refine PR.ite (fun _ => ?_) (fun _ => ?_)
    · exact PR.some Hs
    · refine PR.gd ?_
      refine PR.ite (fun _ => ?_) (fun _ => ?_)
      · exact PR.some Hs
      · refine PR.gd ?_
        refine PR.bd (PR.call Hs (fr_f_X14_mayBe x3 (gE s 117 x4) s) (by decide +kernel)) (fun r8 s5 Hs5 => ?_)
        refine PR.ite (fun _ => ?_) (fun _ => ?_)
        · refine PR.gd ?_
          refine PR.vl (fun y12 => ?_)
          exact PR.tail Hs5 (ih x1 x3 y12 s5)
        · exact PR.some Hs5
def W_j_X14_nextOfSequence_70 : List Nat := [87008, 87009]
theorem fr_j_X14_nextOfSequence_70 (x3 : Int) (s : vS) : PR (W_j_X14_nextOfSequence_70) s (fun q => q) (j_X14_nextOfSequence_70 x3 s) := by
  unfold j_X14_nextOfSequence_70
  have Hs : Fr (W_j_X14_nextOfSequence_70) s s := Fr.rfl
  refine PR.gd ?_
  refine PR.bdv (PR.call Hs (fr_f_X14_tell 11 (gE s 172 x3) s) (by decide +kernel)) (fun s2 Hs2 => ?_)
  exact PR.some Hs2
def W_j_X14_nextOfSequence_50 : List Nat := [87008, 87009, 87084, 87085, 87097, 87099, 87101, 87104, 87105, 87107, 87116, 87118, 87119, 87120, 87121, 87122, 87123, 87124, 87125, 87144, 87147, 87149, 147998, 147999, 148998, 148999, 149998, 149999, 156999, 157999, 158998, 158999, 159999, 160999, 161998, 161999, 162998, 162999, 169999, 170998, 170999, 183998, 183999, 185999, 186998, 186999, 187998, 187999, 188998, 188999, 189998, 189999, 190998, 190999, 191998, 191999, 192998, 192999, 193998, 193999]
theorem fr_j_X14_nextOfSequence_50 (x1 : Int) (x3 : Int) (x4 : Int) (s : vS) : PR (W_j_X14_nextOfSequence_50) s (fun q => q) (j_X14_nextOfSequence_50 x1 x3 x4 s) := by
  unfold j_X14_nextOfSequence_50
  have Hs : Fr (W_j_X14_nextOfSequence_50) s s := Fr.rfl
  refine PR.ite (fun _ => ?_) (fun _ => ?_)
  · exact PR.call Hs (fr_j_X14_nextOfSequence_70 x3 s) (by decide +kernel)
  · refine PR.gd ?_
    refine PR.bd (PR.call Hs (fr_f_X14_mayBe x3 (gE s 117 x4) s) (by decide +kernel)) (fun r6 s3 Hs3 => ?_)
    refine PR.ite (fun _ => ?_) (fun _ => ?_)
    · exact PR.call Hs3 (fr_j_X14_nextOfSequence_70 x3 s3) (by decide +kernel)
    · refine PR.gd ?_
      refine PR.gd ?_
      refine PR.stp (Fr.wE Hs3 (by decide +kernel)) (fun s11 Hs11 => ?_)
      refine PR.gd ?_
      refine PR.gd ?_
      refine PR.stp (Fr.wE Hs11 (by decide +kernel)) (fun s15 Hs15 => ?_)
      refine PR.gd ?_
      refine PR.bdv (PR.call Hs15 (fr_f_X14_enter (gE s15 117 x4) x3 x4 s15) (by decide +kernel)) (fun s18 Hs18 => ?_)
      exact PR.some Hs18
def W_f_X14_nextOfSequence : List Nat := [87008, 87009, 87084, 87085, 87097, 87099, 87101, 87104, 87105, 87107, 87116, 87118, 87119, 87120, 87121, 87122, 87123, 87124, 87125, 87144, 87147, 87149, 147998, 147999, 148998, 148999, 149998, 149999, 156999, 157999, 158998, 158999, 159999, 160999, 161998, 161999, 162998, 162999, 169999, 170998, 170999, 183998, 183999, 185999, 186998, 186999, 187998, 187999, 188998, 188999, 189998, 189999, 190998, 190999, 191998, 191999, 192998, 192999, 193998, 193999]
theorem fr_f_X14_nextOfSequence (x1 : Int) (x2 : Int) (x3 : Int) (s : vS) : PR (W_f_X14_nextOfSequence) s (fun q => q) (f_X14_nextOfSequence x1 x2 x3 s) := by
  unfold f_X14_nextOfSequence
  have Hs : Fr (W_f_X14_nextOfSequence) s s := Fr.rfl
  refine PR.gd ?_
  refine PR.vl (fun y2 => ?_)
  refine PR.lq_1 (PR.call Hs (fr_l_X14_nextOfSequence_8 FU x1 x3 y2 s) (by decide +kernel)) (fun y5 s6 Hs6 => ?_)
  exact PR.call Hs6 (fr_j_X14_nextOfSequence_50 x1 x3 y5 s6) (by decide +kernel)
def W_l_X14_nextOfSet_8 : List Nat := [87097, 87099, 156999, 157999, 158998, 158999]
theorem fr_l_X14_nextOfSet_8 : ∀ (n : Nat) (x1 : Int) (x3 : Int) (x4 : Int) (s : vS), PR (W_l_X14_nextOfSet_8) s (fun q => q.2) (l_X14_nextOfSet_8 n x1 x3 x4 s)
  := by
  intro n
  induction n with
  | zero => intro x1 x3 x4 s; exact PR.none
  | succ n ih =>
    intro x1 x3 x4 s
    unfold l_X14_nextOfSet_8
    have Hs : Fr (W_l_X14_nextOfSet_8) s s := Fr.rfl
    refine PR.ite (fun _ => ?_) (fun _ => ?_)
    · exact PR.some Hs
    · refine PR.gd ?_
      refine PR.bd (PR.call Hs (fr_f_X14_mayBe x3 (gE s 117 x4) s) (by decide +kernel)) (fun r6 s3 Hs3 => ?_)
      refine PR.ite (fun _ => ?_) (fun _ => ?_)
      · refine PR.gd ?_
        refine PR.vl (fun y10 => ?_)
        exact PR.tail Hs3 (ih x1 x3 y10 s3)
      · exact PR.some Hs3
def W_l_X14_nextOfSet_66 : List Nat := [87008, 87009]
theorem fr_l_X14_nextOfSet_66 : ∀ (n : Nat) (x1 : Int) (x3 : Int) (x4 : Int) (x5 : Int) (s : vS), PR (W_l_X14_nextOfSet_66) s (fun q => q) (l_X14_nextOfSet_66 n x1 x3 x4 x5 s)
  := by
  intro n
  induction n with
  | zero => intro x1 x3 x4 x5 s; exact PR.none
  | succ n ih =>
    intro x1 x3 x4 x5 s
    unfold l_X14_nextOfSet_66
    have Hs : Fr (W_l_X14_nextOfSet_66) s s := Fr.rfl
    refine PR.ite (fun _ => ?_) (fun _ => ?_)
    · exact PR.some Hs
    · refine PR.gd ?_
      refine PR.ite (fun _ => ?_) (fun _ => ?_)
      · refine PR.gd ?_
        refine PR.bdv (PR.call Hs (fr_f_X14_tell 13 (gE s 172 x3) s) (by decide +kernel)) (fun s8 Hs8 => ?_)
        refine PR.vl (fun y11 => ?_)
        exact PR.tail Hs8 (ih x1 x3 x4 y11 s8)
      · refine PR.vl (fun y4 => ?_)
        exact PR.tail Hs (ih x1 x3 x4 y4 s)
def W_j_X14_nextOfSet_40 : List Nat := [87008, 87009, 87084, 87085, 87101, 87104, 87105, 87107, 87116, 87118, 87119, 87120, 87121, 87122, 87123, 87124, 87125, 87144, 87147, 87149, 87158, 147998, 147999, 148998, 148999, 149998, 149999, 159999, 160999, 161998, 161999, 162998, 162999, 169999, 170998, 170999, 183998, 183999, 185999, 186998, 186999, 187998, 187999, 188998, 188999, 189998, 189999, 190998, 190999, 191998, 191999, 192998, 192999, 193998, 193999, 194999, 195999]
theorem fr_j_X14_nextOfSet_40 (x1 : Int) (x3 : Int) (x4 : Int) (s : vS) : PR (W_j_X14_nextOfSet_40) s (fun q => q) (j_X14_nextOfSet_40 x1 x3 x4 s) := by
  unfold j_X14_nextOfSet_40
  have Hs : Fr (W_j_X14_nextOfSet_40) s s := Fr.rfl
  refine PR.ite (fun _ => ?_) (fun _ => ?_)
  · refine PR.gd ?_
    refine PR.vl (fun y3 => ?_)
    refine PR.lq_0 (PR.call Hs (fr_l_X14_nextOfSet_66 FU x1 x3 x4 y3 s) (by decide +kernel)) (fun s6 Hs6 => ?_)
    refine PR.ite (fun _ => ?_) (fun _ => ?_)
    · refine PR.gd ?_
      refine PR.gd ?_
      refine PR.stp (Fr.wE Hs6 (by decide +kernel)) (fun s11 Hs11 => ?_)
      refine PR.gd ?_
      refine PR.stp (Fr.wE Hs11 (by decide +kernel)) (fun s14 Hs14 => ?_)
      refine PR.gd ?_
      refine PR.stp (Fr.wE Hs14 (by decide +kernel)) (fun s17 Hs17 => ?_)
      refine PR.stp (Fr.wI Hs17 (by decide +kernel)) (fun s19 Hs19 => ?_)
      refine PR.gd ?_
      refine PR.bdv (PR.call Hs19 (fr_f_X14_enter (gE s19 117 x4) x3 x4 s19) (by decide +kernel)) (fun s22 Hs22 => ?_)
      exact PR.some Hs22
    · exact PR.some Hs6
  · refine PR.gd ?_
    refine PR.bdv (PR.call Hs (fr_f_X14_tell 11 (gE s 172 x3) s) (by decide +kernel)) (fun s26 Hs26 => ?_)
    exact PR.some Hs26
def W_f_X14_nextOfSet : List Nat := [87008, 87009, 87084, 87085, 87097, 87099, 87101, 87104, 87105, 87107, 87116, 87118, 87119, 87120, 87121, 87122, 87123, 87124, 87125, 87144, 87147, 87149, 87158, 147998, 147999, 148998, 148999, 149998, 149999, 156999, 157999, 158998, 158999, 159999, 160999, 161998, 161999, 162998, 162999, 169999, 170998, 170999, 183998, 183999, 185999, 186998, 186999, 187998, 187999, 188998, 188999, 189998, 189999, 190998, 190999, 191998, 191999, 192998, 192999, 193998, 193999, 194999, 195999]
theorem fr_f_X14_nextOfSet (x1 : Int) (x2 : Int) (x3 : Int) (s : vS) : PR (W_f_X14_nextOfSet) s (fun q => q) (f_X14_nextOfSet x1 x2 x3 s) := by
  unfold f_X14_nextOfSet
  have Hs : Fr (W_f_X14_nextOfSet) s s := Fr.rfl
  refine PR.gd ?_
  refine PR.vl (fun y2 => ?_)
  refine PR.lq_1 (PR.call Hs (fr_l_X14_nextOfSet_8 FU x1 x3 y2 s) (by decide +kernel)) (fun y5 s6 Hs6 => ?_)
  exact PR.call Hs6 (fr_j_X14_nextOfSet_40 x1 x3 y5 s6) (by decide +kernel)
def W_f_X14_goOn : List Nat := [87008, 87009, 87084, 87085, 87097, 87099, 87101, 87104, 87105, 87107, 87116, 87118, 87119, 87120, 87121, 87122, 87123, 87124, 87125, 87144, 87147, 87149, 87158, 147998, 147999, 148998, 148999, 149998, 149999, 156999, 157999, 158998, 158999, 159999, 160999, 161998, 161999, 162998, 162999, 169999, 170998, 170999, 183998, 183999, 184998, 184999, 185999, 186998, 186999, 187998, 187999, 188998, 188999, 189998, 189999, 190998, 190999, 191998, 191999, 192998, 192999, 193998, 193999, 194999, 195999, 196999, 197999]
theorem fr_f_X14_goOn (s : vS) : PR (W_f_X14_goOn) s (fun q => q) (f_X14_goOn s) := by
  unfold f_X14_goOn
  have Hs : Fr (W_f_X14_goOn) s s := Fr.rfl
  refine PR.vl (fun y1 => ?_)
  refine PR.gd ?_
  refine PR.bd (PR.pure Hs (fr_f_X14_root (gE s 186 y1) s)) (fun r8 s5 Hs5 => ?_)
  refine PR.gd ?_
  refine PR.vl (fun y11 => ?_)
  refine PR.gd ?_
  refine PR.vl (fun y15 => ?_)
  refine PR.ite (fun _ => ?_) (fun _ => ?_)
  · refine PR.bdv (PR.call Hs5 (fr_f_X14_choose y1 r8 y11 s5) (by decide +kernel)) (fun s44 Hs44 => ?_)
    exact PR.some Hs44
  · refine PR.ite (fun _ => ?_) (fun _ => ?_)
    · refine PR.ite (fun _ => ?_) (fun _ => ?_)
      · refine PR.bdv (PR.call Hs5 (fr_f_X14_nextOfSequence y1 r8 y11 s5) (by decide +kernel)) (fun s38 Hs38 => ?_)
        exact PR.some Hs38
      · refine PR.ite (fun _ => ?_) (fun _ => ?_)
        · refine PR.bdv (PR.call Hs5 (fr_f_X14_nextOfSet y1 r8 y11 s5) (by decide +kernel)) (fun s35 Hs35 => ?_)
          exact PR.some Hs35
        · refine PR.gd ?_
          refine PR.gd ?_
          refine PR.stp (Fr.wE Hs5 (by decide +kernel)) (fun s24 Hs24 => ?_)
          refine PR.gd ?_
          refine PR.stp (Fr.wE Hs24 (by decide +kernel)) (fun s27 Hs27 => ?_)
          refine PR.stp (Fr.wI Hs27 (by decide +kernel)) (fun s29 Hs29 => ?_)
          refine PR.gd ?_
          refine PR.bdv (PR.call Hs29 (fr_f_X14_enter (gE s29 106 r8) y11 (-1) s29) (by decide +kernel)) (fun s32 Hs32 => ?_)
          exact PR.some Hs32
    · refine PR.bdv (PR.call Hs5 (fr_f_X14_finish y1 r8 s5) (by decide +kernel)) (fun s41 Hs41 => ?_)
      exact PR.some Hs41
def W_l_X14_transcode_39 : List Nat := [171999]
theorem fr_l_X14_transcode_39 : ∀ (n : Nat) (x1 : Int) (x2 : Int) (s : vS), PR (W_l_X14_transcode_39) s (fun q => q) (l_X14_transcode_39 n x1 x2 s)
  := by
  intro n
  induction n with
  | zero => intro x1 x2 s; exact PR.none
  | succ n ih =>
    intro x1 x2 s
    unfold l_X14_transcode_39
    have Hs : Fr (W_l_X14_transcode_39) s s := Fr.rfl
    refine PR.ite (fun _ => ?_) (fun _ => ?_)
    · exact PR.some Hs
    · refine PR.gd ?_
      refine PR.gd ?_
      refine PR.stp (Fr.wE Hs (by decide +kernel)) (fun s4 Hs4 => ?_)
      refine PR.vl (fun y6 => ?_)
      exact PR.tail Hs4 (ih x1 y6 s4)
def W_l_X14_transcode_117 : List Nat := [87008, 87009, 87084, 87085, 87097, 87099, 87101, 87104, 87105, 87107, 87116, 87118, 87119, 87120, 87121, 87122, 87123, 87124, 87125, 87144, 87147, 87149, 87158, 147998, 147999, 148998, 148999, 149998, 149999, 156999, 157999, 158998, 158999, 159999, 160999, 161998, 161999, 162998, 162999, 169999, 170998, 170999, 183998, 183999, 184998, 184999, 185999, 186998, 186999, 187998, 187999, 188998, 188999, 189998, 189999, 190998, 190999, 191998, 191999, 192998, 192999, 193998, 193999, 194999, 195999, 196999, 197999]
theorem fr_l_X14_transcode_117 : ∀ (n : Nat) (s : vS), PR (W_l_X14_transcode_117) s (fun q => q) (l_X14_transcode_117 n s)
  := by
  intro n
  induction n with
  | zero => intro s; exact PR.none
  | succ n ih =>
    intro s
    unfold l_X14_transcode_117
    have Hs : Fr (W_l_X14_transcode_117) s s := Fr.rfl
    refine PR.ite (fun _ => ?_) (fun _ => ?_)
    · refine PR.ite (fun _ => ?_) (fun _ => ?_)
      · exact PR.some Hs
      · refine PR.bdv (PR.call Hs (fr_f_X14_goOn s) (by decide +kernel)) (fun s3 Hs3 => ?_)
        exact PR.tail Hs3 (ih s3)
    · exact PR.some Hs
def W_l_X14_transcode_192 : List Nat := [92999]
theorem fr_l_X14_transcode_192 : ∀ (n : Nat) (x2 : Int) (s : vS), PR (W_l_X14_transcode_192) s (fun q => q) (l_X14_transcode_192 n x2 s)
  := by
  intro n
  induction n with
  | zero => intro x2 s; exact PR.none
  | succ n ih =>
    intro x2 s
    unfold l_X14_transcode_192
    have Hs : Fr (W_l_X14_transcode_192) s s := Fr.rfl
    refine PR.ite (fun _ => ?_) (fun _ => ?_)
    · exact PR.some Hs
    · refine PR.gd ?_
      refine PR.gd ?_
      refine PR.stp (Fr.wE Hs (by decide +kernel)) (fun s4 Hs4 => ?_)
      refine PR.vl (fun y6 => ?_)
      exact PR.tail Hs4 (ih y6 s4)
def W_j_X14_transcode_138 : List Nat := [87003, 87010, 87011, 92998, 92999]
theorem fr_j_X14_transcode_138 (s : vS) : PR (W_j_X14_transcode_138) s (fun q => q.2) (j_X14_transcode_138 s) := by
  unfold j_X14_transcode_138
  have Hs : Fr (W_j_X14_transcode_138) s s := Fr.rfl
  refine PR.ite (fun _ => ?_) (fun _ => ?_)
  · refine PR.stp (Fr.wI Hs (by decide +kernel)) (fun s2 Hs2 => ?_)
    refine PR.stp (Fr.wI Hs2 (by decide +kernel)) (fun s4 Hs4 => ?_)
    refine PR.ite (fun _ => ?_) (fun _ => ?_)
    · refine PR.lq_0 (PR.call Hs4 (fr_l_X14_transcode_192 FU 0 s4) (by decide +kernel)) (fun s7 Hs7 => ?_)
      exact PR.some Hs7
    · refine PR.gd ?_
      refine PR.stp (Fr.wAT Hs4 (by decide)) (fun s10 Hs10 => ?_)
      refine PR.gd ?_
      refine PR.stp (Fr.wswT Hs10 (by decide) (by decide +kernel) (by decide +kernel)) (fun s13 Hs13 => ?_)
      refine PR.stp (Fr.wrs Hs13) (fun s15 Hs15 => ?_)
      refine PR.lq_0 (PR.call Hs15 (fr_l_X14_transcode_192 FU 0 s15) (by decide +kernel)) (fun s17 Hs17 => ?_)
      exact PR.some Hs17
  · refine PR.bd (PR.call Hs (fr_f_X14_fail 2 s) (by decide +kernel)) (fun r22 s19 Hs19 => ?_)
    exact PR.some Hs19
def W_f_X14_transcode : List Nat := [87003, 87004, 87008, 87009, 87010, 87011, 87084, 87085, 87097, 87099, 87101, 87104, 87105, 87107, 87116, 87118, 87119, 87120, 87121, 87122, 87123, 87124, 87125, 87127, 87129, 87141, 87142, 87143, 87144, 87147, 87149, 87158, 92998, 92999, 147998, 147999, 148998, 148999, 149998, 149999, 156999, 157999, 158998, 158999, 159999, 160999, 161998, 161999, 162998, 162999, 169999, 170998, 170999, 171999, 172998, 172999, 173998, 173999, 174998, 174999, 175998, 175999, 176998, 176999, 177998, 177999, 178998, 178999, 179998, 179999, 180998, 180999, 181998, 181999, 182998, 182999, 183998, 183999, 184998, 184999, 185999, 186998, 186999, 187998, 187999, 188998, 188999, 189998, 189999, 190998, 190999, 191998, 191999, 192998, 192999, 193998, 193999, 194998, 194999, 195998, 195999, 196998, 196999, 197998, 197999]
theorem fr_f_X14_transcode (x1 : Int) (s : vS) : PR (W_f_X14_transcode) s (fun q => q.2) (f_X14_transcode x1 s) := by
  unfold f_X14_transcode
  have Hs : Fr (W_f_X14_transcode) s s := Fr.rfl
  refine PR.stp (Fr.wI Hs (by decide +kernel)) (fun s1 Hs1 => ?_)
  refine PR.bd (PR.pure Hs1 (fr_f_X14_hasType x1 s1)) (fun r6 s3 Hs3 => ?_)
  refine PR.ite (fun _ => ?_) (fun _ => ?_)
  · refine PR.bd (PR.call Hs3 (fr_f_X14_fail 1 s3) (by decide +kernel)) (fun r44 s41 Hs41 => ?_)
    exact PR.some Hs41
  · refine PR.stp (Fr.wI Hs3 (by decide +kernel)) (fun s9 Hs9 => ?_)
    refine PR.stp (Fr.wI Hs9 (by decide +kernel)) (fun s11 Hs11 => ?_)
    refine PR.stp (Fr.wI Hs11 (by decide +kernel)) (fun s13 Hs13 => ?_)
    refine PR.lq_0 (PR.call Hs13 (fr_l_X14_transcode_39 FU x1 0 s13) (by decide +kernel)) (fun s15 Hs15 => ?_)
    refine PR.stp (Fr.wI Hs15 (by decide +kernel)) (fun s17 Hs17 => ?_)
    refine PR.bdv (PR.call Hs17 (fr_f_X14_roomForElements s17) (by decide +kernel)) (fun s19 Hs19 => ?_)
    refine PR.bdv (PR.call Hs19 (fr_f_X14_cutElements s19) (by decide +kernel)) (fun s22 Hs22 => ?_)
    refine PR.stp (Fr.wI Hs22 (by decide +kernel)) (fun s25 Hs25 => ?_)
    refine PR.stp (Fr.wI Hs25 (by decide +kernel)) (fun s27 Hs27 => ?_)
    refine PR.stp (Fr.wI Hs27 (by decide +kernel)) (fun s29 Hs29 => ?_)
    refine PR.ite (fun _ => ?_) (fun _ => ?_)
    · refine PR.gd ?_
      refine PR.gd ?_
      refine PR.bdv (PR.call Hs29 (fr_f_X14_enter (gE s29 142 (gE s29 144 x1)) 0 (-1) s29) (by decide +kernel)) (fun s36 Hs36 => ?_)
      refine PR.lq_0 (PR.call Hs36 (fr_l_X14_transcode_117 FU s36) (by decide +kernel)) (fun s39 Hs39 => ?_)
      exact PR.call Hs39 (fr_j_X14_transcode_138 s39) (by decide +kernel)
    · refine PR.lq_0 (PR.call Hs29 (fr_l_X14_transcode_117 FU s29) (by decide +kernel)) (fun s32 Hs32 => ?_)
      exact PR.call Hs32 (fr_j_X14_transcode_138 s32) (by decide +kernel)
def W_f_X14_out : List Nat := [87003]
theorem fr_f_X14_out (x1 : Int) (s : vS) : PR (W_f_X14_out) s (fun q => q.2) (f_X14_out x1 s) := by
  unfold f_X14_out
  have Hs : Fr (W_f_X14_out) s s := Fr.rfl
  refine PR.stp (Fr.wI Hs (by decide +kernel)) (fun s1 Hs1 => ?_)
  refine PR.bd (PR.pure Hs1 (fr_f_X14_within x1 0 (w32 ((gI s1 87 11) - 1)) s1)) (fun r6 s3 Hs3 => ?_)
  refine PR.ite (fun _ => ?_) (fun _ => ?_)
  · refine PR.bd (PR.call Hs3 (fr_f_X14_fail 1 s3) (by decide +kernel)) (fun r12 s9 Hs9 => ?_)
    exact PR.some Hs9
  · refine PR.gd ?_
    exact PR.some Hs3
def W_l_X14_again_23 : List Nat := [91999]
theorem fr_l_X14_again_23 : ∀ (n : Nat) (x1 : Int) (s : vS), PR (W_l_X14_again_23) s (fun q => q) (l_X14_again_23 n x1 s)
  := by
  intro n
  induction n with
  | zero => intro x1 s; exact PR.none
  | succ n ih =>
    intro x1 s
    unfold l_X14_again_23
    have Hs : Fr (W_l_X14_again_23) s s := Fr.rfl
    refine PR.ite (fun _ => ?_) (fun _ => ?_)
    · exact PR.some Hs
    · refine PR.gd ?_
      refine PR.gd ?_
      refine PR.stp (Fr.wE Hs (by decide +kernel)) (fun s4 Hs4 => ?_)
      refine PR.vl (fun y6 => ?_)
      exact PR.tail Hs4 (ih y6 s4)
def W_f_X14_again : List Nat := [87003, 87004, 91999]
theorem fr_f_X14_again (s : vS) : PR (W_f_X14_again) s (fun q => q.2) (f_X14_again s) := by
  unfold f_X14_again
  have Hs : Fr (W_f_X14_again) s s := Fr.rfl
  refine PR.stp (Fr.wI Hs (by decide +kernel)) (fun s1 Hs1 => ?_)
  refine PR.ite (fun _ => ?_) (fun _ => ?_)
  · refine PR.lq_0 (PR.call Hs1 (fr_l_X14_again_23 FU 0 s1) (by decide +kernel)) (fun s4 Hs4 => ?_)
    refine PR.stp (Fr.wI Hs4 (by decide +kernel)) (fun s6 Hs6 => ?_)
    exact PR.some Hs6
  · refine PR.bd (PR.call Hs1 (fr_f_X14_fail 1 s1) (by decide +kernel)) (fun r11 s8 Hs8 => ?_)
    exact PR.some Hs8
def W_f_X14_count : List Nat := [87003]
theorem fr_f_X14_count (x1 : Int) (s : vS) : PR (W_f_X14_count) s (fun q => q.2) (f_X14_count x1 s) := by
  unfold f_X14_count
  have Hs : Fr (W_f_X14_count) s s := Fr.rfl
  refine PR.stp (Fr.wI Hs (by decide +kernel)) (fun s1 Hs1 => ?_)
  refine PR.bd (PR.pure Hs1 (fr_f_X14_within x1 0 5 s1)) (fun r6 s3 Hs3 => ?_)
  refine PR.ite (fun _ => ?_) (fun _ => ?_)
  · exact PR.some Hs3
  · refine PR.ite (fun _ => ?_) (fun _ => ?_)
    · exact PR.some Hs3
    · refine PR.ite (fun _ => ?_) (fun _ => ?_)
      · refine PR.ite (fun _ => ?_) (fun _ => ?_)
        · exact PR.some Hs3
        · exact PR.some Hs3
      · refine PR.ite (fun _ => ?_) (fun _ => ?_)
        · refine PR.ite (fun _ => ?_) (fun _ => ?_)
          · exact PR.some Hs3
          · exact PR.some Hs3
        · refine PR.ite (fun _ => ?_) (fun _ => ?_)
          · refine PR.ite (fun _ => ?_) (fun _ => ?_)
            · exact PR.some Hs3
            · exact PR.some Hs3
          · refine PR.ite (fun _ => ?_) (fun _ => ?_)
            · exact PR.some Hs3
            · exact PR.some Hs3
