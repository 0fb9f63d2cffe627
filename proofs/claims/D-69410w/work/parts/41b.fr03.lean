set_option maxRecDepth 100000
set_option maxHeartbeats 1000000
set_option linter.unusedVariables false
def W_f_X13_fault : List Nat := []
theorem fr_f_X13_fault (s : vS) : PR (W_f_X13_fault) s (fun q => q.2) (f_X13_fault s) := by
  unfold f_X13_fault
  have Hs : Fr (W_f_X13_fault) s s := Fr.rfl
  exact PR.some Hs
def W_f_X13_place : List Nat := []
theorem fr_f_X13_place (s : vS) : PR (W_f_X13_place) s (fun q => q.2) (f_X13_place s) := by
  unfold f_X13_place
  have Hs : Fr (W_f_X13_place) s s := Fr.rfl
  exact PR.some Hs
def W_f_X6_pool : List Nat := []
theorem fr_f_X6_pool (s : vS) : PR (W_f_X6_pool) s (fun q => q.2) (f_X6_pool s) := by
  unfold f_X6_pool
  have Hs : Fr (W_f_X6_pool) s s := Fr.rfl
  exact PR.some Hs
def W_l_X13_isDefault_29 : List Nat := [39999]
theorem fr_l_X13_isDefault_29 : ∀ (n : Nat) (x2 : Int) (x3 : Int) (s : vS), PR (W_l_X13_isDefault_29) s (fun q => q.2) (l_X13_isDefault_29 n x2 x3 s)
  := by
  intro n
  induction n with
  | zero => intro x2 x3 s; exact PR.none
  | succ n ih =>
    intro x2 x3 s
    unfold l_X13_isDefault_29
    have Hs : Fr (W_l_X13_isDefault_29) s s := Fr.rfl
    refine PR.bd (PR.call Hs (fr_f_X13_isAround x3 s) (by decide +kernel)) (fun r4 s1 Hs1 => ?_)
    refine PR.ite (fun _ => ?_) (fun _ => ?_)
    · exact PR.some Hs1
    · refine PR.vl (fun y7 => ?_)
      exact PR.tail Hs1 (ih x2 y7 s1)
def W_f_X13_isDefault : List Nat := [39999]
theorem fr_f_X13_isDefault (x1 : Int) (s : vS) : PR (W_f_X13_isDefault) s (fun q => q.2) (f_X13_isDefault x1 s) := by
  unfold f_X13_isDefault
  have Hs : Fr (W_f_X13_isDefault) s s := Fr.rfl
  refine PR.gd ?_
  refine PR.vl (fun y2 => ?_)
  refine PR.ite (fun _ => ?_) (fun _ => ?_)
  · exact PR.some Hs
  · refine PR.bd (PR.pure Hs (fr_f_X4_at y2 5 s)) (fun r9 s6 Hs6 => ?_)
    refine PR.ite (fun _ => ?_) (fun _ => ?_)
    · refine PR.lq_1 (PR.call Hs6 (fr_l_X13_isDefault_29 FU y2 x1 s6) (by decide +kernel)) (fun y12 s13 Hs13 => ?_)
      refine PR.bd (PR.pure Hs13 (fr_f_X6_valueFrom y2 s13)) (fun r19 s16 Hs16 => ?_)
      refine PR.bd (PR.pure Hs16 (fr_f_X6_valueTo y2 s16)) (fun r24 s21 Hs21 => ?_)
      refine PR.bd (PR.call Hs21 (fr_f_X13_kind y12 s21) (by decide +kernel)) (fun r29 s26 Hs26 => ?_)
      refine PR.bd (PR.pure Hs26 (fr_f_X13_isMany r29 s26)) (fun r34 s31 Hs31 => ?_)
      refine PR.ite (fun _ => ?_) (fun _ => ?_)
      · refine PR.gd ?_
        refine PR.gd ?_
        refine PR.gd ?_
        refine PR.bdo (PR.pure Hs31 (fr_f_X6_pool s31)) (fun r43 s40 Hs40 => ?_)
        refine PR.gd ?_
        refine PR.bd (PR.pure Hs40 (fr_f_X2_compare 73 (gE s31 65 y12) (w32 ((gE s31 65 y12) + (gE s31 66 y12))) r43 r19 r24 s40)) (fun r48 s45 Hs45 => ?_)
        refine PR.ite (fun _ => ?_) (fun _ => ?_)
        · exact PR.some Hs45
        · exact PR.some Hs45
      · refine PR.gd ?_
        refine PR.ite (fun _ => ?_) (fun _ => ?_)
        · exact PR.some Hs31
        · exact PR.some Hs31
    · exact PR.some Hs6
def W_f_X13_tagBytes : List Nat := []
theorem fr_f_X13_tagBytes (x0 : Int) (s : vS) : PR (W_f_X13_tagBytes) s (fun q => q.2) (f_X13_tagBytes x0 s) := by
  unfold f_X13_tagBytes
  have Hs : Fr (W_f_X13_tagBytes) s s := Fr.rfl
  refine PR.vl (fun y1 => ?_)
  refine PR.ite (fun _ => ?_) (fun _ => ?_)
  · refine PR.ite (fun _ => ?_) (fun _ => ?_)
    · refine PR.ite (fun _ => ?_) (fun _ => ?_)
      · refine PR.ite (fun _ => ?_) (fun _ => ?_)
        · exact PR.some Hs
        · exact PR.some Hs
      · exact PR.some Hs
    · exact PR.some Hs
  · exact PR.some Hs
def W_f_X13_lengthBytes : List Nat := []
theorem fr_f_X13_lengthBytes (x0 : Int) (s : vS) : PR (W_f_X13_lengthBytes) s (fun q => q.2) (f_X13_lengthBytes x0 s) := by
  unfold f_X13_lengthBytes
  have Hs : Fr (W_f_X13_lengthBytes) s s := Fr.rfl
  refine PR.ite (fun _ => ?_) (fun _ => ?_)
  · refine PR.ite (fun _ => ?_) (fun _ => ?_)
    · refine PR.ite (fun _ => ?_) (fun _ => ?_)
      · refine PR.ite (fun _ => ?_) (fun _ => ?_)
        · exact PR.some Hs
        · exact PR.some Hs
      · exact PR.some Hs
    · exact PR.some Hs
  · exact PR.some Hs
def W_f_X13_total : List Nat := []
theorem fr_f_X13_total (x1 : Int) (s : vS) : PR (W_f_X13_total) s (fun q => q.2) (f_X13_total x1 s) := by
  unfold f_X13_total
  have Hs : Fr (W_f_X13_total) s s := Fr.rfl
  refine PR.gd ?_
  refine PR.bd (PR.pure Hs (fr_f_X12_tag x1 s)) (fun r5 s2 Hs2 => ?_)
  refine PR.bd (PR.pure Hs2 (fr_f_X13_tagBytes r5 s2)) (fun r10 s7 Hs7 => ?_)
  refine PR.gd ?_
  refine PR.bd (PR.pure Hs7 (fr_f_X13_lengthBytes (gE s7 66 x1) s7)) (fun r16 s13 Hs13 => ?_)
  refine PR.gd ?_
  exact PR.some Hs13
def W_l_X13_measure_10 : List Nat := [39999, 61999, 66999]
theorem fr_l_X13_measure_10 : ∀ (n : Nat) (x1 : Int) (s : vS), PR (W_l_X13_measure_10) s (fun q => q) (l_X13_measure_10 n x1 s)
  := by
  intro n
  induction n with
  | zero => intro x1 s; exact PR.none
  | succ n ih =>
    intro x1 s
    unfold l_X13_measure_10
    have Hs : Fr (W_l_X13_measure_10) s s := Fr.rfl
    refine PR.ite (fun _ => ?_) (fun _ => ?_)
    · exact PR.some Hs
    · refine PR.gd ?_
      refine PR.ite (fun _ => ?_) (fun _ => ?_)
      · refine PR.vl (fun y4 => ?_)
        exact PR.tail Hs (ih y4 s)
      · refine PR.bd (PR.call Hs (fr_f_X13_isDefault x1 s) (by decide +kernel)) (fun r10 s7 Hs7 => ?_)
        refine PR.ite (fun _ => ?_) (fun _ => ?_)
        · refine PR.gd ?_
          refine PR.ite (fun _ => ?_) (fun _ => ?_)
          · refine PR.vl (fun y15 => ?_)
            exact PR.tail Hs7 (ih y15 s7)
          · refine PR.gd ?_
            refine PR.vl (fun y19 => ?_)
            refine PR.gd ?_
            refine PR.bd (PR.pure Hs7 (fr_f_X13_total x1 s7)) (fun r26 s23 Hs23 => ?_)
            refine PR.gd ?_
            refine PR.gd ?_
            refine PR.stp (Fr.wE Hs23 (by decide +kernel)) (fun s30 Hs30 => ?_)
            refine PR.vl (fun y32 => ?_)
            exact PR.tail Hs30 (ih y32 s30)
        · refine PR.gd ?_
          refine PR.stp (Fr.wE Hs7 (by decide +kernel)) (fun s36 Hs36 => ?_)
          refine PR.vl (fun y38 => ?_)
          exact PR.tail Hs36 (ih y38 s36)
def W_f_X13_measure : List Nat := [39999, 61999, 66999]
theorem fr_f_X13_measure (s : vS) : PR (W_f_X13_measure) s (fun q => q) (f_X13_measure s) := by
  unfold f_X13_measure
  have Hs : Fr (W_f_X13_measure) s s := Fr.rfl
  refine PR.gd ?_
  refine PR.bd (PR.pure Hs (fr_f_X12_size s)) (fun r5 s2 Hs2 => ?_)
  refine PR.vl (fun y7 => ?_)
  refine PR.lq_0 (PR.call Hs2 (fr_l_X13_measure_10 FU y7 s2) (by decide +kernel)) (fun s10 Hs10 => ?_)
  exact PR.some Hs10
def W_l_X13_writeTag_76 : List Nat := [77001, 78998, 78999]
theorem fr_j_X13_writeTag_108 (rec : Int → Int → vS → Option (vS)) (hrec : ∀ (y0 : Int) (y1 : Int) (s : vS), PR (W_l_X13_writeTag_76) s (fun q => q) (rec y0 y1 s)) (x4 : Int) (x6 : Int) (z1 : Int) (z2 : Int) (s : vS) : PR (W_l_X13_writeTag_76) s (fun q => q) (j_X13_writeTag_108 rec x4 x6 z1 z2 s) := by
  unfold j_X13_writeTag_108
  have Hs : Fr (W_l_X13_writeTag_76) s s := Fr.rfl
  refine PR.bdv (PR.call Hs (fr_f_X2_add 77 (or32 z1 z2) s) (by decide +kernel)) (fun s1 Hs1 => ?_)
  refine PR.vl (fun y4 => ?_)
  exact PR.tail Hs1 (hrec x4 y4 s1)
theorem fr_l_X13_writeTag_76 : ∀ (n : Nat) (x4 : Int) (x6 : Int) (s : vS), PR (W_l_X13_writeTag_76) s (fun q => q) (l_X13_writeTag_76 n x4 x6 s)
  := by
  intro n
  induction n with
  | zero => intro x4 x6 s; exact PR.none
  | succ n ih =>
    intro x4 x6 s
    unfold l_X13_writeTag_76
    have Hs : Fr (W_l_X13_writeTag_76) s s := Fr.rfl
    refine PR.ite (fun _ => ?_) (fun _ => ?_)
    · exact PR.some Hs
    · refine PR.ite (fun _ => ?_) (fun _ => ?_)
      · exact PR.tail Hs (fr_j_X13_writeTag_108 (l_X13_writeTag_76 n) ih x4 x6 (and32 (shr32 x4 (w32 (7 * x6))) 127) 0 s)
      · exact PR.tail Hs (fr_j_X13_writeTag_108 (l_X13_writeTag_76 n) ih x4 x6 (and32 (shr32 x4 (w32 (7 * x6))) 127) 128 s)
def W_j_X13_writeTag_33 : List Nat := [77001, 78998, 78999]
theorem fr_j_X13_writeTag_33 (x3 : Int) (x4 : Int) (z0 : Int) (z1 : Int) (s : vS) : PR (W_j_X13_writeTag_33) s (fun q => q) (j_X13_writeTag_33 x3 x4 z0 z1 s) := by
  unfold j_X13_writeTag_33
  have Hs : Fr (W_j_X13_writeTag_33) s s := Fr.rfl
  refine PR.vl (fun y1 => ?_)
  refine PR.ite (fun _ => ?_) (fun _ => ?_)
  · refine PR.bdv (PR.call Hs (fr_f_X2_add 77 (or32 y1 31) s) (by decide +kernel)) (fun s5 Hs5 => ?_)
    refine PR.bd (PR.pure Hs5 (fr_f_X13_tagBytes x3 s5)) (fun r11 s8 Hs8 => ?_)
    refine PR.vl (fun y13 => ?_)
    refine PR.lq_0 (PR.call Hs8 (fr_l_X13_writeTag_76 FU x4 y13 s8) (by decide +kernel)) (fun s16 Hs16 => ?_)
    exact PR.some Hs16
  · refine PR.bdv (PR.call Hs (fr_f_X2_add 77 (or32 y1 x4) s) (by decide +kernel)) (fun s18 Hs18 => ?_)
    exact PR.some Hs18
def W_f_X13_writeTag : List Nat := [77001, 78998, 78999]
theorem fr_f_X13_writeTag (x1 : Int) (x2 : Int) (s : vS) : PR (W_f_X13_writeTag) s (fun q => q) (f_X13_writeTag x1 x2 s) := by
  unfold f_X13_writeTag
  have Hs : Fr (W_f_X13_writeTag) s s := Fr.rfl
  refine PR.gd ?_
  refine PR.bd (PR.pure Hs (fr_f_X12_tag x1 s)) (fun r5 s2 Hs2 => ?_)
  refine PR.vl (fun y7 => ?_)
  refine PR.ite (fun _ => ?_) (fun _ => ?_)
  · exact PR.call Hs2 (fr_j_X13_writeTag_33 r5 y7 (shl32 (shr32 r5 28) 6) 0 s2) (by decide +kernel)
  · exact PR.call Hs2 (fr_j_X13_writeTag_33 r5 y7 (shl32 (shr32 r5 28) 6) 32 s2) (by decide +kernel)
def W_l_X13_writeLength_31 : List Nat := [77001, 78998, 78999]
theorem fr_l_X13_writeLength_31 : ∀ (n : Nat) (x1 : Int) (x3 : Int) (s : vS), PR (W_l_X13_writeLength_31) s (fun q => q) (l_X13_writeLength_31 n x1 x3 s)
  := by
  intro n
  induction n with
  | zero => intro x1 x3 s; exact PR.none
  | succ n ih =>
    intro x1 x3 s
    unfold l_X13_writeLength_31
    have Hs : Fr (W_l_X13_writeLength_31) s s := Fr.rfl
    refine PR.ite (fun _ => ?_) (fun _ => ?_)
    · exact PR.some Hs
    · refine PR.bdv (PR.call Hs (fr_f_X2_add 77 (and32 (shr32 x1 (w32 (8 * x3))) 255) s) (by decide +kernel)) (fun s2 Hs2 => ?_)
      refine PR.vl (fun y5 => ?_)
      exact PR.tail Hs2 (ih x1 y5 s2)
def W_j_X13_writeLength_24 : List Nat := [77001, 78998, 78999]
theorem fr_j_X13_writeLength_24 (x1 : Int) (x2 : Int) (z1 : Int) (s : vS) : PR (W_j_X13_writeLength_24) s (fun q => q) (j_X13_writeLength_24 x1 x2 z1 s) := by
  unfold j_X13_writeLength_24
  have Hs : Fr (W_j_X13_writeLength_24) s s := Fr.rfl
  refine PR.bdv (PR.call Hs (fr_f_X2_add 77 z1 s) (by decide +kernel)) (fun s1 Hs1 => ?_)
  refine PR.vl (fun y4 => ?_)
  refine PR.lq_0 (PR.call Hs1 (fr_l_X13_writeLength_31 FU x1 y4 s1) (by decide +kernel)) (fun s7 Hs7 => ?_)
  exact PR.some Hs7
def W_f_X13_writeLength : List Nat := [77001, 78998, 78999]
theorem fr_f_X13_writeLength (x1 : Int) (s : vS) : PR (W_f_X13_writeLength) s (fun q => q) (f_X13_writeLength x1 s) := by
  unfold f_X13_writeLength
  have Hs : Fr (W_f_X13_writeLength) s s := Fr.rfl
  refine PR.bd (PR.pure Hs (fr_f_X13_lengthBytes x1 s)) (fun r4 s1 Hs1 => ?_)
  refine PR.vl (fun y6 => ?_)
  refine PR.ite (fun _ => ?_) (fun _ => ?_)
  · exact PR.call Hs1 (fr_j_X13_writeLength_24 x1 y6 x1 s1) (by decide +kernel)
  · exact PR.call Hs1 (fr_j_X13_writeLength_24 x1 y6 (w32 (128 + y6)) s1) (by decide +kernel)
def W_f_X13_isBefore : List Nat := []
theorem fr_f_X13_isBefore (x1 : Int) (x2 : Int) (x3 : Int) (s : vS) : PR (W_f_X13_isBefore) s (fun q => q.2) (f_X13_isBefore x1 x2 x3 s) := by
  unfold f_X13_isBefore
  have Hs : Fr (W_f_X13_isBefore) s s := Fr.rfl
  refine PR.ite (fun _ => ?_) (fun _ => ?_)
  · refine PR.gd ?_
    refine PR.gd ?_
    refine PR.gd ?_
    refine PR.gd ?_
    refine PR.bd (PR.pure Hs (fr_f_X2_compare 77 (gE s 80 x1) (gE s 80 (w32 (x1 + 1))) 77 (gE s 80 x2) (gE s 80 (w32 (x2 + 1))) s)) (fun r9 s6 Hs6 => ?_)
    refine PR.ite (fun _ => ?_) (fun _ => ?_)
    · exact PR.some Hs6
    · exact PR.some Hs6
  · refine PR.gd ?_
    refine PR.gd ?_
    refine PR.bd (PR.pure Hs (fr_f_X12_tag (gE s 79 x1) s)) (fun r17 s14 Hs14 => ?_)
    refine PR.gd ?_
    refine PR.gd ?_
    refine PR.bd (PR.pure Hs14 (fr_f_X12_tag (gE s14 79 x2) s14)) (fun r24 s21 Hs21 => ?_)
    refine PR.ite (fun _ => ?_) (fun _ => ?_)
    · exact PR.some Hs21
    · exact PR.some Hs21
def W_l_X13_merge_9 : List Nat := [83999]
theorem fr_j_X13_merge_85 (rec : Int → Int → Int → Int → Int → Int → vS → Option (vS)) (hrec : ∀ (y0 : Int) (y1 : Int) (y2 : Int) (y3 : Int) (y4 : Int) (y5 : Int) (s : vS), PR (W_l_X13_merge_9) s (fun q => q) (rec y0 y1 y2 y3 y4 y5 s)) (x2 : Int) (x3 : Int) (x4 : Int) (x5 : Int) (x6 : Int) (x7 : Int) (x8 : Int) (z1 : Int) (z2 : Int) (s : vS) : PR (W_l_X13_merge_9) s (fun q => q) (j_X13_merge_85 rec x2 x3 x4 x5 x6 x7 x8 z1 z2 s) := by
  unfold j_X13_merge_85
  have Hs : Fr (W_l_X13_merge_9) s s := Fr.rfl
  refine PR.gd ?_
  refine PR.stp (Fr.wE Hs (by decide +kernel)) (fun s2 Hs2 => ?_)
  refine PR.ite (fun _ => ?_) (fun _ => ?_)
  · refine PR.vl (fun y5 => ?_)
    refine PR.vl (fun y8 => ?_)
    exact PR.tail Hs2 (hrec x2 x3 x4 x5 y5 y8 s2)
  · refine PR.vl (fun y11 => ?_)
    refine PR.vl (fun y14 => ?_)
    exact PR.tail Hs2 (hrec x2 x3 x4 y11 x6 y14 s2)
theorem fr_j_X13_merge_55 (rec : Int → Int → Int → Int → Int → Int → vS → Option (vS)) (hrec : ∀ (y0 : Int) (y1 : Int) (y2 : Int) (y3 : Int) (y4 : Int) (y5 : Int) (s : vS), PR (W_l_X13_merge_9) s (fun q => q) (rec y0 y1 y2 y3 y4 y5 s)) (x2 : Int) (x3 : Int) (x4 : Int) (x5 : Int) (x6 : Int) (x7 : Int) (z0 : Int) (s : vS) : PR (W_l_X13_merge_9) s (fun q => q) (j_X13_merge_55 rec x2 x3 x4 x5 x6 x7 z0 s) := by
  unfold j_X13_merge_55
  have Hs : Fr (W_l_X13_merge_9) s s := Fr.rfl
  refine PR.ite (fun _ => ?_) (fun _ => ?_)
  · refine PR.gd ?_
    exact PR.tail Hs (fr_j_X13_merge_85 rec hrec x2 x3 x4 x5 x6 x7 z0 x7 (gE s 82 x6) s)
  · refine PR.gd ?_
    exact PR.tail Hs (fr_j_X13_merge_85 rec hrec x2 x3 x4 x5 x6 x7 z0 x7 (gE s 82 x5) s)
theorem fr_l_X13_merge_9 : ∀ (n : Nat) (x2 : Int) (x3 : Int) (x4 : Int) (x5 : Int) (x6 : Int) (x7 : Int) (s : vS), PR (W_l_X13_merge_9) s (fun q => q) (l_X13_merge_9 n x2 x3 x4 x5 x6 x7 s)
  := by
  intro n
  induction n with
  | zero => intro x2 x3 x4 x5 x6 x7 s; exact PR.none
  | succ n ih =>
    intro x2 x3 x4 x5 x6 x7 s
    unfold l_X13_merge_9
    have Hs : Fr (W_l_X13_merge_9) s s := Fr.rfl
    refine PR.ite (fun _ => ?_) (fun _ => ?_)
    · exact PR.some Hs
    · refine PR.ite (fun _ => ?_) (fun _ => ?_)
      · exact PR.tail Hs (fr_j_X13_merge_55 (l_X13_merge_9 n) ih x2 x3 x4 x5 x6 x7 1 s)
      · refine PR.ite (fun _ => ?_) (fun _ => ?_)
        · exact PR.tail Hs (fr_j_X13_merge_55 (l_X13_merge_9 n) ih x2 x3 x4 x5 x6 x7 0 s)
        · refine PR.gd ?_
          refine PR.gd ?_
          refine PR.bd (PR.pure Hs (fr_f_X13_isBefore (gE s 82 x6) (gE s 82 x5) x4 s)) (fun r9 s6 Hs6 => ?_)
          refine PR.ite (fun _ => ?_) (fun _ => ?_)
          · exact PR.tail Hs6 (fr_j_X13_merge_55 (l_X13_merge_9 n) ih x2 x3 x4 x5 x6 x7 1 s6)
          · exact PR.tail Hs6 (fr_j_X13_merge_55 (l_X13_merge_9 n) ih x2 x3 x4 x5 x6 x7 0 s6)
def W_f_X13_merge : List Nat := [83999]
theorem fr_f_X13_merge (x1 : Int) (x2 : Int) (x3 : Int) (x4 : Int) (s : vS) : PR (W_f_X13_merge) s (fun q => q) (f_X13_merge x1 x2 x3 x4 s) := by
  unfold f_X13_merge
  have Hs : Fr (W_f_X13_merge) s s := Fr.rfl
  refine PR.lq_0 (PR.call Hs (fr_l_X13_merge_9 FU x2 x3 x4 x1 x2 x1 s) (by decide +kernel)) (fun s1 Hs1 => ?_)
  exact PR.some Hs1
def W_l_X13_sort_34 : List Nat := [82999]
theorem fr_l_X13_sort_34 : ∀ (n : Nat) (x1 : Int) (x3 : Int) (x4 : Int) (x5 : Int) (s : vS), PR (W_l_X13_sort_34) s (fun q => q) (l_X13_sort_34 n x1 x3 x4 x5 s)
  := by
  intro n
  induction n with
  | zero => intro x1 x3 x4 x5 s; exact PR.none
  | succ n ih =>
    intro x1 x3 x4 x5 s
    unfold l_X13_sort_34
    have Hs : Fr (W_l_X13_sort_34) s s := Fr.rfl
    refine PR.ite (fun _ => ?_) (fun _ => ?_)
    · exact PR.some Hs
    · refine PR.gd ?_
      refine PR.stp (Fr.wE Hs (by decide +kernel)) (fun s3 Hs3 => ?_)
      refine PR.vl (fun y5 => ?_)
      exact PR.tail Hs3 (ih x1 x3 x4 y5 s3)
def W_l_X13_sort_71 : List Nat := [83999]
theorem fr_l_X13_sort_71 : ∀ (n : Nat) (x1 : Int) (x3 : Int) (x4 : Int) (x5 : Int) (x6 : Int) (s : vS), PR (W_l_X13_sort_71) s (fun q => q) (l_X13_sort_71 n x1 x3 x4 x5 x6 s)
  := by
  intro n
  induction n with
  | zero => intro x1 x3 x4 x5 x6 s; exact PR.none
  | succ n ih =>
    intro x1 x3 x4 x5 x6 s
    unfold l_X13_sort_71
    have Hs : Fr (W_l_X13_sort_71) s s := Fr.rfl
    refine PR.ite (fun _ => ?_) (fun _ => ?_)
    · exact PR.some Hs
    · refine PR.bdv (PR.call Hs (fr_f_X13_merge x6 (min x4 (w32 (x6 + x5))) (min x4 (w32 (x6 + (w32 (2 * x5))))) x3 s) (by decide +kernel)) (fun s2 Hs2 => ?_)
      refine PR.vl (fun y5 => ?_)
      exact PR.tail Hs2 (ih x1 x3 x4 x5 y5 s2)
def W_l_X13_sort_61 : List Nat := [82998, 82999, 83998, 83999]
theorem fr_l_X13_sort_61 : ∀ (n : Nat) (x1 : Int) (x3 : Int) (x4 : Int) (x5 : Int) (s : vS), PR (W_l_X13_sort_61) s (fun q => q) (l_X13_sort_61 n x1 x3 x4 x5 s)
  := by
  intro n
  induction n with
  | zero => intro x1 x3 x4 x5 s; exact PR.none
  | succ n ih =>
    intro x1 x3 x4 x5 s
    unfold l_X13_sort_61
    have Hs : Fr (W_l_X13_sort_61) s s := Fr.rfl
    refine PR.ite (fun _ => ?_) (fun _ => ?_)
    · exact PR.some Hs
    · refine PR.lq_0 (PR.call Hs (fr_l_X13_sort_71 FU x1 x3 x4 x5 0 s) (by decide +kernel)) (fun s2 Hs2 => ?_)
      refine PR.stp (Fr.wsw Hs2 (by decide +kernel) (by decide +kernel) (by decide +kernel) (by decide +kernel)) (fun s4 Hs4 => ?_)
      refine PR.vl (fun y6 => ?_)
      exact PR.tail Hs4 (ih x1 x3 x4 y6 s4)
def W_l_X13_sort_155 : List Nat := [83999]
theorem fr_l_X13_sort_155 : ∀ (n : Nat) (x1 : Int) (x4 : Int) (x5 : Int) (s : vS), PR (W_l_X13_sort_155) s (fun q => q) (l_X13_sort_155 n x1 x4 x5 s)
  := by
  intro n
  induction n with
  | zero => intro x1 x4 x5 s; exact PR.none
  | succ n ih =>
    intro x1 x4 x5 s
    unfold l_X13_sort_155
    have Hs : Fr (W_l_X13_sort_155) s s := Fr.rfl
    refine PR.ite (fun _ => ?_) (fun _ => ?_)
    · exact PR.some Hs
    · refine PR.gd ?_
      refine PR.gd ?_
      refine PR.gd ?_
      refine PR.stp (Fr.wE Hs (by decide +kernel)) (fun s5 Hs5 => ?_)
      refine PR.vl (fun y7 => ?_)
      exact PR.tail Hs5 (ih x1 x4 y7 s5)
def W_f_X13_sort : List Nat := [79999, 82998, 82999, 83998, 83999]
theorem fr_f_X13_sort (x1 : Int) (x2 : Int) (x3 : Int) (s : vS) : PR (W_f_X13_sort) s (fun q => q) (f_X13_sort x1 x2 x3 s) := by
  unfold f_X13_sort
  have Hs : Fr (W_f_X13_sort) s s := Fr.rfl
  refine PR.vl (fun y1 => ?_)
  refine PR.bd (PR.pure Hs (fr_f_X13_grown 82 y1 s)) (fun r7 s8 Hs8 => ?_)
  refine PR.gd ?_
  refine PR.stp (Fr.wgrw Hs8 (by decide +kernel) (by decide +kernel)) (fun s12 Hs12 => ?_)
  refine PR.bd (PR.pure Hs12 (fr_f_X13_grown 83 y1 s12)) (fun r17 s18 Hs18 => ?_)
  refine PR.gd ?_
  refine PR.stp (Fr.wgrw Hs18 (by decide +kernel) (by decide +kernel)) (fun s22 Hs22 => ?_)
  refine PR.lq_0 (PR.call Hs22 (fr_l_X13_sort_34 FU x1 x3 y1 0 s22) (by decide +kernel)) (fun s24 Hs24 => ?_)
  refine PR.lq_0 (PR.call Hs24 (fr_l_X13_sort_61 FU x1 x3 y1 1 s24) (by decide +kernel)) (fun s26 Hs26 => ?_)
  refine PR.ite (fun _ => ?_) (fun _ => ?_)
  · exact PR.some Hs26
  · refine PR.lq_0 (PR.call Hs26 (fr_l_X13_sort_155 FU x1 y1 0 s26) (by decide +kernel)) (fun s29 Hs29 => ?_)
    refine PR.gd ?_
    refine PR.stp (Fr.wcp Hs29 (by decide +kernel)) (fun s32 Hs32 => ?_)
    exact PR.some Hs32
def W_l_X13_put_168 : List Nat := [54027, 79998, 79999, 80998, 80999]
theorem fr_j_X13_put_244 (rec : Int → Int → vS → Option (vS)) (hrec : ∀ (y0 : Int) (y1 : Int) (s : vS), PR (W_l_X13_put_168) s (fun q => q) (rec y0 y1 s)) (x1 : Int) (x3 : Int) (s : vS) : PR (W_l_X13_put_168) s (fun q => q) (j_X13_put_244 rec x1 x3 s) := by
  unfold j_X13_put_244
  have Hs : Fr (W_l_X13_put_168) s s := Fr.rfl
  refine PR.gd ?_
  refine PR.bd (PR.pure Hs (fr_f_X12_behind x3 s)) (fun r5 s2 Hs2 => ?_)
  exact PR.tail Hs2 (hrec x1 r5 s2)
theorem fr_l_X13_put_168 : ∀ (n : Nat) (x1 : Int) (x3 : Int) (s : vS), PR (W_l_X13_put_168) s (fun q => q) (l_X13_put_168 n x1 x3 s)
  := by
  intro n
  induction n with
  | zero => intro x1 x3 s; exact PR.none
  | succ n ih =>
    intro x1 x3 s
    unfold l_X13_put_168
    have Hs : Fr (W_l_X13_put_168) s s := Fr.rfl
    refine PR.gd ?_
    refine PR.bd (PR.pure Hs (fr_f_X12_behind x1 s)) (fun r5 s2 Hs2 => ?_)
    refine PR.ite (fun _ => ?_) (fun _ => ?_)
    · exact PR.some Hs2
    · refine PR.gd ?_
      refine PR.ite (fun _ => ?_) (fun _ => ?_)
      · exact PR.tail Hs2 (fr_j_X13_put_244 (l_X13_put_168 n) ih x1 x3 s2)
      · refine PR.bd (PR.pure Hs2 (fr_f_X13_grown 79 (w32 ((gI s2 54 27) + 1)) s2)) (fun r13 s14 Hs14 => ?_)
        refine PR.gd ?_
        refine PR.stp (Fr.wgrw Hs14 (by decide +kernel) (by decide +kernel)) (fun s18 Hs18 => ?_)
        refine PR.bd (PR.pure Hs18 (fr_f_X13_grown 80 (w32 ((gI s18 54 27) + 2)) s18)) (fun r23 s24 Hs24 => ?_)
        refine PR.gd ?_
        refine PR.stp (Fr.wgrw Hs24 (by decide +kernel) (by decide +kernel)) (fun s28 Hs28 => ?_)
        refine PR.gd ?_
        refine PR.stp (Fr.wE Hs28 (by decide +kernel)) (fun s31 Hs31 => ?_)
        refine PR.stp (Fr.wI Hs31 (by decide +kernel)) (fun s33 Hs33 => ?_)
        exact PR.tail Hs33 (fr_j_X13_put_244 (l_X13_put_168 n) ih x1 x3 s33)
def W_j_X13_put_25 : List Nat := [39999, 54018, 54027, 67998, 67999, 68998, 68999, 77001, 78998, 78999, 79998, 79999, 80998, 80999, 81998, 81999, 82998, 82999, 83998, 83999]
theorem fr_j_X13_put_25 (x1 : Int) (z0 : Int) (s : vS) : PR (W_j_X13_put_25) s (fun q => q) (j_X13_put_25 x1 z0 s) := by
  unfold j_X13_put_25
  have Hs : Fr (W_j_X13_put_25) s s := Fr.rfl
  refine PR.bdv (PR.call Hs (fr_f_X13_writeTag x1 z0 s) (by decide +kernel)) (fun s1 Hs1 => ?_)
  refine PR.gd ?_
  refine PR.bdv (PR.call Hs1 (fr_f_X13_writeLength (gE s1 66 x1) s1) (by decide +kernel)) (fun s5 Hs5 => ?_)
  refine PR.ite (fun _ => ?_) (fun _ => ?_)
  · refine PR.gd ?_
    refine PR.gd ?_
    refine PR.gd ?_
    refine PR.bdv (PR.call Hs5 (fr_f_X2_all 77 73 (gE s5 65 x1) (w32 ((gE s5 65 x1) + (gE s5 66 x1))) s5) (by decide +kernel)) (fun s78 Hs78 => ?_)
    exact PR.some Hs78
  · refine PR.bd (PR.pure Hs5 (fr_f_X13_grown 67 (w32 ((gI s5 54 18) + 1)) s5)) (fun r12 s13 Hs13 => ?_)
    refine PR.gd ?_
    refine PR.stp (Fr.wgrw Hs13 (by decide +kernel) (by decide +kernel)) (fun s17 Hs17 => ?_)
    refine PR.bd (PR.pure Hs17 (fr_f_X13_grown 68 (w32 ((gI s17 54 18) + 1)) s17)) (fun r22 s23 Hs23 => ?_)
    refine PR.gd ?_
    refine PR.stp (Fr.wgrw Hs23 (by decide +kernel) (by decide +kernel)) (fun s27 Hs27 => ?_)
    refine PR.bd (PR.pure Hs27 (fr_f_X13_grown 81 (w32 ((gI s27 54 18) + 1)) s27)) (fun r32 s33 Hs33 => ?_)
    refine PR.gd ?_
    refine PR.stp (Fr.wgrw Hs33 (by decide +kernel) (by decide +kernel)) (fun s37 Hs37 => ?_)
    refine PR.gd ?_
    refine PR.stp (Fr.wE Hs37 (by decide +kernel)) (fun s40 Hs40 => ?_)
    refine PR.gd ?_
    refine PR.stp (Fr.wE Hs40 (by decide +kernel)) (fun s43 Hs43 => ?_)
    refine PR.gd ?_
    refine PR.stp (Fr.wE Hs43 (by decide +kernel)) (fun s46 Hs46 => ?_)
    refine PR.vl (fun y48 => ?_)
    refine PR.lq_0 (PR.call Hs46 (fr_l_X13_put_168 FU x1 y48 s46) (by decide +kernel)) (fun s51 Hs51 => ?_)
    refine PR.bd (PR.call Hs51 (fr_f_X13_isAround x1 s51) (by decide +kernel)) (fun r56 s53 Hs53 => ?_)
    refine PR.ite (fun _ => ?_) (fun _ => ?_)
    · refine PR.bd (PR.call Hs53 (fr_f_X13_kind x1 s53) (by decide +kernel)) (fun r64 s61 Hs61 => ?_)
      refine PR.ite (fun _ => ?_) (fun _ => ?_)
      · refine PR.gd ?_
        refine PR.bdv (PR.call Hs61 (fr_f_X13_sort (gE s61 81 (gI s61 54 18)) (gI s61 54 27) 1 s61) (by decide +kernel)) (fun s70 Hs70 => ?_)
        refine PR.stp (Fr.wI Hs70 (by decide +kernel)) (fun s73 Hs73 => ?_)
        exact PR.some Hs73
      · refine PR.stp (Fr.wI Hs61 (by decide +kernel)) (fun s67 Hs67 => ?_)
        exact PR.some Hs67
    · refine PR.stp (Fr.wI Hs53 (by decide +kernel)) (fun s59 Hs59 => ?_)
      exact PR.some Hs59
def W_f_X13_put : List Nat := [39999, 54018, 54027, 67998, 67999, 68998, 68999, 77001, 78998, 78999, 79998, 79999, 80998, 80999, 81998, 81999, 82998, 82999, 83998, 83999]
theorem fr_f_X13_put (x1 : Int) (s : vS) : PR (W_f_X13_put) s (fun q => q) (f_X13_put x1 s) := by
  unfold f_X13_put
  have Hs : Fr (W_f_X13_put) s s := Fr.rfl
  refine PR.bd (PR.call Hs (fr_f_X13_isAround x1 s) (by decide +kernel)) (fun r4 s1 Hs1 => ?_)
  refine PR.ite (fun _ => ?_) (fun _ => ?_)
  · refine PR.bd (PR.call Hs1 (fr_f_X13_kind x1 s1) (by decide +kernel)) (fun r10 s7 Hs7 => ?_)
    refine PR.bd (PR.pure Hs7 (fr_f_X13_isMany r10 s7)) (fun r15 s12 Hs12 => ?_)
    refine PR.ite (fun _ => ?_) (fun _ => ?_)
    · exact PR.call Hs12 (fr_j_X13_put_25 x1 0 s12) (by decide +kernel)
    · exact PR.call Hs12 (fr_j_X13_put_25 x1 1 s12) (by decide +kernel)
  · exact PR.call Hs1 (fr_j_X13_put_25 x1 1 s1) (by decide +kernel)
def W_l_X13_finish_119 : List Nat := [77001, 78998, 78999]
theorem fr_l_X13_finish_119 : ∀ (n : Nat) (x3 : Int) (x4 : Int) (x5 : Int) (s : vS), PR (W_l_X13_finish_119) s (fun q => q) (l_X13_finish_119 n x3 x4 x5 s)
  := by
  intro n
  induction n with
  | zero => intro x3 x4 x5 s; exact PR.none
  | succ n ih =>
    intro x3 x4 x5 s
    unfold l_X13_finish_119
    have Hs : Fr (W_l_X13_finish_119) s s := Fr.rfl
    refine PR.ite (fun _ => ?_) (fun _ => ?_)
    · exact PR.some Hs
    · refine PR.gd ?_
      refine PR.gd ?_
      refine PR.vl (fun y4 => ?_)
      refine PR.gd ?_
      refine PR.gd ?_
      refine PR.bdv (PR.call Hs (fr_f_X2_all 77 75 (w32 (y4 - x4)) (w32 ((gE s 80 (w32 ((gE s 82 x5) + 1))) - x4)) s) (by decide +kernel)) (fun s9 Hs9 => ?_)
      refine PR.vl (fun y12 => ?_)
      exact PR.tail Hs9 (ih x3 x4 y12 s9)
def W_f_X13_finish : List Nat := [39999, 54018, 54027, 75001, 76998, 76999, 77001, 78998, 78999, 79999, 80999, 82998, 82999, 83998, 83999]
theorem fr_f_X13_finish (x1 : Int) (s : vS) : PR (W_f_X13_finish) s (fun q => q) (f_X13_finish x1 s) := by
  unfold f_X13_finish
  have Hs : Fr (W_f_X13_finish) s s := Fr.rfl
  refine PR.gd ?_
  refine PR.vl (fun y2 => ?_)
  refine PR.gd ?_
  refine PR.vl (fun y6 => ?_)
  refine PR.bd (PR.call Hs (fr_f_X13_isAround y2 s) (by decide +kernel)) (fun r12 s9 Hs9 => ?_)
  refine PR.ite (fun _ => ?_) (fun _ => ?_)
  · refine PR.bd (PR.call Hs9 (fr_f_X13_kind y2 s9) (by decide +kernel)) (fun r22 s19 Hs19 => ?_)
    refine PR.ite (fun _ => ?_) (fun _ => ?_)
    · refine PR.ite (fun _ => ?_) (fun _ => ?_)
      · refine PR.stp (Fr.wI Hs19 (by decide +kernel)) (fun s30 Hs30 => ?_)
        refine PR.stp (Fr.wI Hs30 (by decide +kernel)) (fun s32 Hs32 => ?_)
        exact PR.some Hs32
      · refine PR.bd (PR.pure Hs19 (fr_f_X2_size 77 s19)) (fun r37 s34 Hs34 => ?_)
        refine PR.gd ?_
        refine PR.gd ?_
        refine PR.stp (Fr.wE Hs34 (by decide +kernel)) (fun s41 Hs41 => ?_)
        refine PR.bdv (PR.call Hs41 (fr_f_X13_sort y6 (gI s41 54 27) 0 s41) (by decide +kernel)) (fun s43 Hs43 => ?_)
        refine PR.bdv (PR.call Hs43 (fr_f_X2_clear 75 s43) (by decide +kernel)) (fun s46 Hs46 => ?_)
        refine PR.gd ?_
        refine PR.bd (PR.pure Hs46 (fr_f_X2_size 77 s46)) (fun r53 s50 Hs50 => ?_)
        refine PR.bdv (PR.call Hs50 (fr_f_X2_all 75 77 (gE s46 80 y6) r53 s50) (by decide +kernel)) (fun s55 Hs55 => ?_)
        refine PR.gd ?_
        refine PR.vl (fun y59 => ?_)
        refine PR.bdv (PR.call Hs55 (fr_f_X2_cut 77 y59 s55) (by decide +kernel)) (fun s62 Hs62 => ?_)
        refine PR.lq_0 (PR.call Hs62 (fr_l_X13_finish_119 FU y6 y59 0 s62) (by decide +kernel)) (fun s65 Hs65 => ?_)
        refine PR.stp (Fr.wI Hs65 (by decide +kernel)) (fun s67 Hs67 => ?_)
        refine PR.stp (Fr.wI Hs67 (by decide +kernel)) (fun s69 Hs69 => ?_)
        exact PR.some Hs69
    · refine PR.stp (Fr.wI Hs19 (by decide +kernel)) (fun s25 Hs25 => ?_)
      refine PR.stp (Fr.wI Hs25 (by decide +kernel)) (fun s27 Hs27 => ?_)
      exact PR.some Hs27
  · refine PR.stp (Fr.wI Hs9 (by decide +kernel)) (fun s15 Hs15 => ?_)
    refine PR.stp (Fr.wI Hs15 (by decide +kernel)) (fun s17 Hs17 => ?_)
    exact PR.some Hs17
def W_l_X13_write_26 : List Nat := [39999, 54018, 54027, 67998, 67999, 68998, 68999, 75001, 76998, 76999, 77001, 78998, 78999, 79998, 79999, 80998, 80999, 81998, 81999, 82998, 82999, 83998, 83999]
theorem fr_l_X13_write_26 : ∀ (n : Nat) (s : vS), PR (W_l_X13_write_26) s (fun q => q) (l_X13_write_26 n s)
  := by
  intro n
  induction n with
  | zero => intro s; exact PR.none
  | succ n ih =>
    intro s
    unfold l_X13_write_26
    have Hs : Fr (W_l_X13_write_26) s s := Fr.rfl
    refine PR.ite (fun _ => ?_) (fun _ => ?_)
    · exact PR.some Hs
    · refine PR.vl (fun y2 => ?_)
      refine PR.gd ?_
      refine PR.vl (fun y6 => ?_)
      refine PR.ite (fun _ => ?_) (fun _ => ?_)
      · refine PR.bdv (PR.call Hs (fr_f_X13_finish y2 s) (by decide +kernel)) (fun s27 Hs27 => ?_)
        exact PR.tail Hs27 (ih s27)
      · refine PR.gd ?_
        refine PR.gd ?_
        refine PR.stp (Fr.wE Hs (by decide +kernel)) (fun s12 Hs12 => ?_)
        refine PR.bd (PR.pure Hs12 (fr_f_X2_size 77 s12)) (fun r17 s14 Hs14 => ?_)
        refine PR.gd ?_
        refine PR.gd ?_
        refine PR.stp (Fr.wE Hs14 (by decide +kernel)) (fun s21 Hs21 => ?_)
        refine PR.gd ?_
        refine PR.bdv (PR.call Hs21 (fr_f_X13_put (gE s21 79 y6) s21) (by decide +kernel)) (fun s24 Hs24 => ?_)
        exact PR.tail Hs24 (ih s24)
def W_f_X13_write : List Nat := [39999, 54018, 54027, 61999, 66999, 67998, 67999, 68998, 68999, 75001, 76998, 76999, 77001, 78998, 78999, 79998, 79999, 80998, 80999, 81998, 81999, 82998, 82999, 83998, 83999]
theorem fr_f_X13_write (s : vS) : PR (W_f_X13_write) s (fun q => q.2) (f_X13_write s) := by
  unfold f_X13_write
  have Hs : Fr (W_f_X13_write) s s := Fr.rfl
  refine PR.bdv (PR.call Hs (fr_f_X2_clear 77 s) (by decide +kernel)) (fun s1 Hs1 => ?_)
  refine PR.bdv (PR.call Hs1 (fr_f_X13_measure s1) (by decide +kernel)) (fun s4 Hs4 => ?_)
  refine PR.stp (Fr.wI Hs4 (by decide +kernel)) (fun s7 Hs7 => ?_)
  refine PR.stp (Fr.wI Hs7 (by decide +kernel)) (fun s9 Hs9 => ?_)
  refine PR.bdv (PR.call Hs9 (fr_f_X13_put 0 s9) (by decide +kernel)) (fun s11 Hs11 => ?_)
  refine PR.lq_0 (PR.call Hs11 (fr_l_X13_write_26 FU s11) (by decide +kernel)) (fun s14 Hs14 => ?_)
  exact PR.some Hs14
def W_f_X1_count : List Nat := []
theorem fr_f_X1_count (x1 : Int) (s : vS) : PR (W_f_X1_count) s (fun q => q.2) (f_X1_count x1 s) := by
  unfold f_X1_count
  have Hs : Fr (W_f_X1_count) s s := Fr.rfl
  refine PR.ite (fun _ => ?_) (fun _ => ?_)
  · refine PR.bd (PR.pure Hs (fr_f_X2_size 1 s)) (fun r5 s2 Hs2 => ?_)
    exact PR.some Hs2
  · refine PR.ite (fun _ => ?_) (fun _ => ?_)
    · exact PR.some Hs
    · refine PR.ite (fun _ => ?_) (fun _ => ?_)
      · exact PR.some Hs
      · refine PR.ite (fun _ => ?_) (fun _ => ?_)
        · exact PR.some Hs
        · refine PR.ite (fun _ => ?_) (fun _ => ?_)
          · refine PR.bd (PR.pure Hs (fr_f_X2_size 84 s)) (fun r14 s11 Hs11 => ?_)
            exact PR.some Hs11
          · refine PR.ite (fun _ => ?_) (fun _ => ?_)
            · exact PR.some Hs
            · exact PR.some Hs
def W_f_X14_thrown : List Nat := []
theorem fr_f_X14_thrown (s : vS) : PR (W_f_X14_thrown) s (fun q => q.2) (f_X14_thrown s) := by
  unfold f_X14_thrown
  have Hs : Fr (W_f_X14_thrown) s s := Fr.rfl
  exact PR.some Hs
def W_f_X14_fail : List Nat := [87003]
theorem fr_f_X14_fail (x1 : Int) (s : vS) : PR (W_f_X14_fail) s (fun q => q.2) (f_X14_fail x1 s) := by
  unfold f_X14_fail
  have Hs : Fr (W_f_X14_fail) s s := Fr.rfl
  refine PR.stp (Fr.wI Hs (by decide +kernel)) (fun s1 Hs1 => ?_)
  exact PR.some Hs1
def W_f_X14_within : List Nat := []
theorem fr_f_X14_within (x0 : Int) (x1 : Int) (x2 : Int) (s : vS) : PR (W_f_X14_within) s (fun q => q.2) (f_X14_within x0 x1 x2 s) := by
  unfold f_X14_within
  have Hs : Fr (W_f_X14_within) s s := Fr.rfl
  refine PR.ite (fun _ => ?_) (fun _ => ?_)
  · exact PR.some Hs
  · refine PR.ite (fun _ => ?_) (fun _ => ?_)
    · exact PR.some Hs
    · exact PR.some Hs
def W_f_X14_tell : List Nat := [87008, 87009]
theorem fr_f_X14_tell (x1 : Int) (x2 : Int) (s : vS) : PR (W_f_X14_tell) s (fun q => q) (f_X14_tell x1 x2 s) := by
  unfold f_X14_tell
  have Hs : Fr (W_f_X14_tell) s s := Fr.rfl
  refine PR.ite (fun _ => ?_) (fun _ => ?_)
  · refine PR.stp (Fr.wI Hs (by decide +kernel)) (fun s2 Hs2 => ?_)
    refine PR.stp (Fr.wI Hs2 (by decide +kernel)) (fun s4 Hs4 => ?_)
    exact PR.some Hs4
  · exact PR.some Hs
def W_f_X14_room : List Nat := []
theorem fr_f_X14_room (x0 : Int) (x1 : Int) (s : vS) : PR (W_f_X14_room) s (fun q => q.2) (f_X14_room x0 x1 s) := by
  unfold f_X14_room
  have Hs : Fr (W_f_X14_room) s s := Fr.rfl
  refine PR.ite (fun _ => ?_) (fun _ => ?_)
  · refine PR.ite (fun _ => ?_) (fun _ => ?_)
    · exact PR.some Hs
    · exact PR.some Hs
  · exact PR.some Hs
def W_f_X14_roomForLexemes : List Nat := [94998, 94999, 95998, 95999, 96998, 96999]
theorem fr_f_X14_roomForLexemes (s : vS) : PR (W_f_X14_roomForLexemes) s (fun q => q) (f_X14_roomForLexemes s) := by
  unfold f_X14_roomForLexemes
  have Hs : Fr (W_f_X14_roomForLexemes) s s := Fr.rfl
  refine PR.ite (fun _ => ?_) (fun _ => ?_)
  · refine PR.bd (PR.pure Hs (fr_f_X14_room (w32 ((gI s 87 13) + 4)) 32776 s)) (fun r5 s2 Hs2 => ?_)
    refine PR.gd ?_
    refine PR.stp (Fr.wAT Hs2 (by decide)) (fun s8 Hs8 => ?_)
    refine PR.gd ?_
    refine PR.stp (Fr.wswT Hs8 (by decide) (by decide +kernel) (by decide +kernel)) (fun s11 Hs11 => ?_)
    refine PR.stp (Fr.wrs Hs11) (fun s13 Hs13 => ?_)
    refine PR.gd ?_
    refine PR.stp (Fr.wAT Hs13 (by decide)) (fun s16 Hs16 => ?_)
    refine PR.gd ?_
    refine PR.stp (Fr.wswT Hs16 (by decide) (by decide +kernel) (by decide +kernel)) (fun s19 Hs19 => ?_)
    refine PR.stp (Fr.wrs Hs19) (fun s21 Hs21 => ?_)
    refine PR.gd ?_
    refine PR.stp (Fr.wAT Hs21 (by decide)) (fun s24 Hs24 => ?_)
    refine PR.gd ?_
    refine PR.stp (Fr.wswT Hs24 (by decide) (by decide +kernel) (by decide +kernel)) (fun s27 Hs27 => ?_)
    refine PR.stp (Fr.wrs Hs27) (fun s29 Hs29 => ?_)
    exact PR.some Hs29
  · exact PR.some Hs
def W_f_X14_roomForTypes : List Nat := [97998, 97999, 98998, 98999, 99998, 99999, 100998, 100999, 101998, 101999, 102998, 102999, 103998, 103999, 104998, 104999, 105998, 105999, 106998, 106999, 107998, 107999, 108998, 108999, 109998, 109999, 110998, 110999, 111998, 111999, 112998, 112999, 113998, 113999, 114998, 114999, 115998, 115999, 116998, 116999, 117998, 117999, 118998, 118999, 119998, 119999, 120998, 120999, 121998, 121999, 122998, 122999, 123998, 123999, 124998, 124999, 125998, 125999, 126998, 126999, 127998, 127999, 128998, 128999, 129998, 129999, 130998, 130999, 131998, 131999, 132998, 132999, 133998, 133999, 134998, 134999, 135998, 135999, 136998, 136999, 137998, 137999, 138998, 138999, 139998, 139999, 140998, 140999, 141998, 141999, 142998, 142999, 143998, 143999, 144998, 144999, 150998, 150999, 151998, 151999, 154998, 154999, 155998, 155999, 156998, 156999, 157998, 157999, 159998, 159999, 160998, 160999, 166998, 166999, 167998, 167999, 168998, 168999]
theorem fr_f_X14_roomForTypes (s : vS) : PR (W_f_X14_roomForTypes) s (fun q => q) (f_X14_roomForTypes s) := by
  unfold f_X14_roomForTypes
  have Hs : Fr (W_f_X14_roomForTypes) s s := Fr.rfl
  refine PR.ite (fun _ => ?_) (fun _ => ?_)
  · refine PR.bd (PR.pure Hs (fr_f_X14_room (w32 ((gI s 87 15) + 4)) 32776 s)) (fun r5 s2 Hs2 => ?_)
    refine PR.gd ?_
    refine PR.stp (Fr.wAT Hs2 (by decide)) (fun s8 Hs8 => ?_)
    refine PR.gd ?_
    refine PR.stp (Fr.wswT Hs8 (by decide) (by decide +kernel) (by decide +kernel)) (fun s11 Hs11 => ?_)
    refine PR.stp (Fr.wrs Hs11) (fun s13 Hs13 => ?_)
    refine PR.gd ?_
    refine PR.stp (Fr.wAT Hs13 (by decide)) (fun s16 Hs16 => ?_)
    refine PR.gd ?_
    refine PR.stp (Fr.wswT Hs16 (by decide) (by decide +kernel) (by decide +kernel)) (fun s19 Hs19 => ?_)
    refine PR.stp (Fr.wrs Hs19) (fun s21 Hs21 => ?_)
    refine PR.gd ?_
    refine PR.stp (Fr.wAT Hs21 (by decide)) (fun s24 Hs24 => ?_)
    refine PR.gd ?_
    refine PR.stp (Fr.wswT Hs24 (by decide) (by decide +kernel) (by decide +kernel)) (fun s27 Hs27 => ?_)
    refine PR.stp (Fr.wrs Hs27) (fun s29 Hs29 => ?_)
    refine PR.gd ?_
    refine PR.stp (Fr.wAT Hs29 (by decide)) (fun s32 Hs32 => ?_)
    refine PR.gd ?_
    refine PR.stp (Fr.wswT Hs32 (by decide) (by decide +kernel) (by decide +kernel)) (fun s35 Hs35 => ?_)
    refine PR.stp (Fr.wrs Hs35) (fun s37 Hs37 => ?_)
    refine PR.gd ?_
    refine PR.stp (Fr.wAT Hs37 (by decide)) (fun s40 Hs40 => ?_)
    refine PR.gd ?_
    refine PR.stp (Fr.wswT Hs40 (by decide) (by decide +kernel) (by decide +kernel)) (fun s43 Hs43 => ?_)
    refine PR.stp (Fr.wrs Hs43) (fun s45 Hs45 => ?_)
    refine PR.gd ?_
    refine PR.stp (Fr.wAT Hs45 (by decide)) (fun s48 Hs48 => ?_)
    refine PR.gd ?_
    refine PR.stp (Fr.wswT Hs48 (by decide) (by decide +kernel) (by decide +kernel)) (fun s51 Hs51 => ?_)
    refine PR.stp (Fr.wrs Hs51) (fun s53 Hs53 => ?_)
    refine PR.gd ?_
    refine PR.stp (Fr.wAT Hs53 (by decide)) (fun s56 Hs56 => ?_)
    refine PR.gd ?_
    refine PR.stp (Fr.wswT Hs56 (by decide) (by decide +kernel) (by decide +kernel)) (fun s59 Hs59 => ?_)
    refine PR.stp (Fr.wrs Hs59) (fun s61 Hs61 => ?_)
    refine PR.gd ?_
    refine PR.stp (Fr.wAT Hs61 (by decide)) (fun s64 Hs64 => ?_)
    refine PR.gd ?_
    refine PR.stp (Fr.wswT Hs64 (by decide) (by decide +kernel) (by decide +kernel)) (fun s67 Hs67 => ?_)
    refine PR.stp (Fr.wrs Hs67) (fun s69 Hs69 => ?_)
    refine PR.gd ?_
    refine PR.stp (Fr.wAT Hs69 (by decide)) (fun s72 Hs72 => ?_)
    refine PR.gd ?_
    refine PR.stp (Fr.wswT Hs72 (by decide) (by decide +kernel) (by decide +kernel)) (fun s75 Hs75 => ?_)
    refine PR.stp (Fr.wrs Hs75) (fun s77 Hs77 => ?_)
    refine PR.gd ?_
    refine PR.stp (Fr.wAT Hs77 (by decide)) (fun s80 Hs80 => ?_)
    refine PR.gd ?_
    refine PR.stp (Fr.wswT Hs80 (by decide) (by decide +kernel) (by decide +kernel)) (fun s83 Hs83 => ?_)
    refine PR.stp (Fr.wrs Hs83) (fun s85 Hs85 => ?_)
    refine PR.gd ?_
    refine PR.stp (Fr.wAT Hs85 (by decide)) (fun s88 Hs88 => ?_)
    refine PR.gd ?_
    refine PR.stp (Fr.wswT Hs88 (by decide) (by decide +kernel) (by decide +kernel)) (fun s91 Hs91 => ?_)
    refine PR.stp (Fr.wrs Hs91) (fun s93 Hs93 => ?_)
    refine PR.gd ?_
    refine PR.stp (Fr.wAT Hs93 (by decide)) (fun s96 Hs96 => ?_)
    refine PR.gd ?_
    refine PR.stp (Fr.wswT Hs96 (by decide) (by decide +kernel) (by decide +kernel)) (fun s99 Hs99 => ?_)
    refine PR.stp (Fr.wrs Hs99) (fun s101 Hs101 => ?_)
    refine PR.gd ?_
    refine PR.stp (Fr.wAT Hs101 (by decide)) (fun s104 Hs104 => ?_)
    refine PR.gd ?_
    refine PR.stp (Fr.wswT Hs104 (by decide) (by decide +kernel) (by decide +kernel)) (fun s107 Hs107 => ?_)
    refine PR.stp (Fr.wrs Hs107) (fun s109 Hs109 => ?_)
    refine PR.gd ?_
    refine PR.stp (Fr.wAT Hs109 (by decide)) (fun s112 Hs112 => ?_)
    refine PR.gd ?_
    refine PR.stp (Fr.wswT Hs112 (by decide) (by decide +kernel) (by decide +kernel)) (fun s115 Hs115 => ?_)
    refine PR.stp (Fr.wrs Hs115) (fun s117 Hs117 => ?_)
    refine PR.gd ?_
    refine PR.stp (Fr.wAT Hs117 (by decide)) (fun s120 Hs120 => ?_)
    refine PR.gd ?_
    refine PR.stp (Fr.wswT Hs120 (by decide) (by decide +kernel) (by decide +kernel)) (fun s123 Hs123 => ?_)
    refine PR.stp (Fr.wrs Hs123) (fun s125 Hs125 => ?_)
    refine PR.gd ?_
    refine PR.stp (Fr.wAT Hs125 (by decide)) (fun s128 Hs128 => ?_)
    refine PR.gd ?_
    refine PR.stp (Fr.wswT Hs128 (by decide) (by decide +kernel) (by decide +kernel)) (fun s131 Hs131 => ?_)
    refine PR.stp (Fr.wrs Hs131) (fun s133 Hs133 => ?_)
    refine PR.gd ?_
    refine PR.stp (Fr.wAT Hs133 (by decide)) (fun s136 Hs136 => ?_)
    refine PR.gd ?_
    refine PR.stp (Fr.wswT Hs136 (by decide) (by decide +kernel) (by decide +kernel)) (fun s139 Hs139 => ?_)
    refine PR.stp (Fr.wrs Hs139) (fun s141 Hs141 => ?_)
    refine PR.gd ?_
    refine PR.stp (Fr.wAT Hs141 (by decide)) (fun s144 Hs144 => ?_)
    refine PR.gd ?_
    refine PR.stp (Fr.wswT Hs144 (by decide) (by decide +kernel) (by decide +kernel)) (fun s147 Hs147 => ?_)
    refine PR.stp (Fr.wrs Hs147) (fun s149 Hs149 => ?_)
    refine PR.gd ?_
    refine PR.stp (Fr.wAT Hs149 (by decide)) (fun s152 Hs152 => ?_)
    refine PR.gd ?_
    refine PR.stp (Fr.wswT Hs152 (by decide) (by decide +kernel) (by decide +kernel)) (fun s155 Hs155 => ?_)
    refine PR.stp (Fr.wrs Hs155) (fun s157 Hs157 => ?_)
    refine PR.gd ?_
    refine PR.stp (Fr.wAT Hs157 (by decide)) (fun s160 Hs160 => ?_)
    refine PR.gd ?_
    refine PR.stp (Fr.wswT Hs160 (by decide) (by decide +kernel) (by decide +kernel)) (fun s163 Hs163 => ?_)
    refine PR.stp (Fr.wrs Hs163) (fun s165 Hs165 => ?_)
    refine PR.gd ?_
    refine PR.stp (Fr.wAT Hs165 (by decide)) (fun s168 Hs168 => ?_)
    refine PR.gd ?_
    refine PR.stp (Fr.wswT Hs168 (by decide) (by decide +kernel) (by decide +kernel)) (fun s171 Hs171 => ?_)
    refine PR.stp (Fr.wrs Hs171) (fun s173 Hs173 => ?_)
    refine PR.gd ?_
    refine PR.stp (Fr.wAT Hs173 (by decide)) (fun s176 Hs176 => ?_)
    refine PR.gd ?_
    refine PR.stp (Fr.wswT Hs176 (by decide) (by decide +kernel) (by decide +kernel)) (fun s179 Hs179 => ?_)
    refine PR.stp (Fr.wrs Hs179) (fun s181 Hs181 => ?_)
    refine PR.gd ?_
    refine PR.stp (Fr.wAT Hs181 (by decide)) (fun s184 Hs184 => ?_)
    refine PR.gd ?_
    refine PR.stp (Fr.wswT Hs184 (by decide) (by decide +kernel) (by decide +kernel)) (fun s187 Hs187 => ?_)
    refine PR.stp (Fr.wrs Hs187) (fun s189 Hs189 => ?_)
    refine PR.gd ?_
    refine PR.stp (Fr.wAT Hs189 (by decide)) (fun s192 Hs192 => ?_)
    refine PR.gd ?_
    refine PR.stp (Fr.wswT Hs192 (by decide) (by decide +kernel) (by decide +kernel)) (fun s195 Hs195 => ?_)
    refine PR.stp (Fr.wrs Hs195) (fun s197 Hs197 => ?_)
    refine PR.gd ?_
    refine PR.stp (Fr.wAT Hs197 (by decide)) (fun s200 Hs200 => ?_)
    refine PR.gd ?_
    refine PR.stp (Fr.wswT Hs200 (by decide) (by decide +kernel) (by decide +kernel)) (fun s203 Hs203 => ?_)
    refine PR.stp (Fr.wrs Hs203) (fun s205 Hs205 => ?_)
    refine PR.gd ?_
    refine PR.stp (Fr.wAT Hs205 (by decide)) (fun s208 Hs208 => ?_)
    refine PR.gd ?_
    refine PR.stp (Fr.wswT Hs208 (by decide) (by decide +kernel) (by decide +kernel)) (fun s211 Hs211 => ?_)
    refine PR.stp (Fr.wrs Hs211) (fun s213 Hs213 => ?_)
    refine PR.gd ?_
    refine PR.stp (Fr.wAT Hs213 (by decide)) (fun s216 Hs216 => ?_)
    refine PR.gd ?_
    refine PR.stp (Fr.wswT Hs216 (by decide) (by decide +kernel) (by decide +kernel)) (fun s219 Hs219 => ?_)
    refine PR.stp (Fr.wrs Hs219) (fun s221 Hs221 => ?_)
    refine PR.gd ?_
    refine PR.stp (Fr.wAT Hs221 (by decide)) (fun s224 Hs224 => ?_)
    refine PR.gd ?_
    refine PR.stp (Fr.wswT Hs224 (by decide) (by decide +kernel) (by decide +kernel)) (fun s227 Hs227 => ?_)
    refine PR.stp (Fr.wrs Hs227) (fun s229 Hs229 => ?_)
    refine PR.gd ?_
    refine PR.stp (Fr.wAT Hs229 (by decide)) (fun s232 Hs232 => ?_)
    refine PR.gd ?_
    refine PR.stp (Fr.wswT Hs232 (by decide) (by decide +kernel) (by decide +kernel)) (fun s235 Hs235 => ?_)
    refine PR.stp (Fr.wrs Hs235) (fun s237 Hs237 => ?_)
    refine PR.gd ?_
    refine PR.stp (Fr.wAT Hs237 (by decide)) (fun s240 Hs240 => ?_)
    refine PR.gd ?_
    refine PR.stp (Fr.wswT Hs240 (by decide) (by decide +kernel) (by decide +kernel)) (fun s243 Hs243 => ?_)
    refine PR.stp (Fr.wrs Hs243) (fun s245 Hs245 => ?_)
    refine PR.gd ?_
    refine PR.stp (Fr.wAT Hs245 (by decide)) (fun s248 Hs248 => ?_)
    refine PR.gd ?_
    refine PR.stp (Fr.wswT Hs248 (by decide) (by decide +kernel) (by decide +kernel)) (fun s251 Hs251 => ?_)
    refine PR.stp (Fr.wrs Hs251) (fun s253 Hs253 => ?_)
    refine PR.gd ?_
    refine PR.stp (Fr.wAT Hs253 (by decide)) (fun s256 Hs256 => ?_)
    refine PR.gd ?_
    refine PR.stp (Fr.wswT Hs256 (by decide) (by decide +kernel) (by decide +kernel)) (fun s259 Hs259 => ?_)
    refine PR.stp (Fr.wrs Hs259) (fun s261 Hs261 => ?_)
    refine PR.gd ?_
    refine PR.stp (Fr.wAT Hs261 (by decide)) (fun s264 Hs264 => ?_)
    refine PR.gd ?_
    refine PR.stp (Fr.wswT Hs264 (by decide) (by decide +kernel) (by decide +kernel)) (fun s267 Hs267 => ?_)
    refine PR.stp (Fr.wrs Hs267) (fun s269 Hs269 => ?_)
    refine PR.gd ?_
    refine PR.stp (Fr.wAT Hs269 (by decide)) (fun s272 Hs272 => ?_)
    refine PR.gd ?_
    refine PR.stp (Fr.wswT Hs272 (by decide) (by decide +kernel) (by decide +kernel)) (fun s275 Hs275 => ?_)
    refine PR.stp (Fr.wrs Hs275) (fun s277 Hs277 => ?_)
    refine PR.gd ?_
    refine PR.stp (Fr.wAT Hs277 (by decide)) (fun s280 Hs280 => ?_)
    refine PR.gd ?_
    refine PR.stp (Fr.wswT Hs280 (by decide) (by decide +kernel) (by decide +kernel)) (fun s283 Hs283 => ?_)
    refine PR.stp (Fr.wrs Hs283) (fun s285 Hs285 => ?_)
    refine PR.gd ?_
    refine PR.stp (Fr.wAT Hs285 (by decide)) (fun s288 Hs288 => ?_)
    refine PR.gd ?_
    refine PR.stp (Fr.wswT Hs288 (by decide) (by decide +kernel) (by decide +kernel)) (fun s291 Hs291 => ?_)
    refine PR.stp (Fr.wrs Hs291) (fun s293 Hs293 => ?_)
    refine PR.gd ?_
    refine PR.stp (Fr.wAT Hs293 (by decide)) (fun s296 Hs296 => ?_)
    refine PR.gd ?_
    refine PR.stp (Fr.wswT Hs296 (by decide) (by decide +kernel) (by decide +kernel)) (fun s299 Hs299 => ?_)
    refine PR.stp (Fr.wrs Hs299) (fun s301 Hs301 => ?_)
    refine PR.gd ?_
    refine PR.stp (Fr.wAT Hs301 (by decide)) (fun s304 Hs304 => ?_)
    refine PR.gd ?_
    refine PR.stp (Fr.wswT Hs304 (by decide) (by decide +kernel) (by decide +kernel)) (fun s307 Hs307 => ?_)
    refine PR.stp (Fr.wrs Hs307) (fun s309 Hs309 => ?_)
    refine PR.gd ?_
    refine PR.stp (Fr.wAT Hs309 (by decide)) (fun s312 Hs312 => ?_)
    refine PR.gd ?_
    refine PR.stp (Fr.wswT Hs312 (by decide) (by decide +kernel) (by decide +kernel)) (fun s315 Hs315 => ?_)
    refine PR.stp (Fr.wrs Hs315) (fun s317 Hs317 => ?_)
    refine PR.gd ?_
    refine PR.stp (Fr.wAT Hs317 (by decide)) (fun s320 Hs320 => ?_)
    refine PR.gd ?_
    refine PR.stp (Fr.wswT Hs320 (by decide) (by decide +kernel) (by decide +kernel)) (fun s323 Hs323 => ?_)
    refine PR.stp (Fr.wrs Hs323) (fun s325 Hs325 => ?_)
    refine PR.gd ?_
    refine PR.stp (Fr.wAT Hs325 (by decide)) (fun s328 Hs328 => ?_)
    refine PR.gd ?_
    refine PR.stp (Fr.wswT Hs328 (by decide) (by decide +kernel) (by decide +kernel)) (fun s331 Hs331 => ?_)
    refine PR.stp (Fr.wrs Hs331) (fun s333 Hs333 => ?_)
    refine PR.gd ?_
    refine PR.stp (Fr.wAT Hs333 (by decide)) (fun s336 Hs336 => ?_)
    refine PR.gd ?_
    refine PR.stp (Fr.wswT Hs336 (by decide) (by decide +kernel) (by decide +kernel)) (fun s339 Hs339 => ?_)
    refine PR.stp (Fr.wrs Hs339) (fun s341 Hs341 => ?_)
    refine PR.gd ?_
    refine PR.stp (Fr.wAT Hs341 (by decide)) (fun s344 Hs344 => ?_)
    refine PR.gd ?_
    refine PR.stp (Fr.wswT Hs344 (by decide) (by decide +kernel) (by decide +kernel)) (fun s347 Hs347 => ?_)
    refine PR.stp (Fr.wrs Hs347) (fun s349 Hs349 => ?_)
    refine PR.gd ?_
    refine PR.stp (Fr.wAT Hs349 (by decide)) (fun s352 Hs352 => ?_)
    refine PR.gd ?_
    refine PR.stp (Fr.wswT Hs352 (by decide) (by decide +kernel) (by decide +kernel)) (fun s355 Hs355 => ?_)
    refine PR.stp (Fr.wrs Hs355) (fun s357 Hs357 => ?_)
    refine PR.gd ?_
    refine PR.stp (Fr.wAT Hs357 (by decide)) (fun s360 Hs360 => ?_)
    refine PR.gd ?_
    refine PR.stp (Fr.wswT Hs360 (by decide) (by decide +kernel) (by decide +kernel)) (fun s363 Hs363 => ?_)
    refine PR.stp (Fr.wrs Hs363) (fun s365 Hs365 => ?_)
    refine PR.gd ?_
    refine PR.stp (Fr.wAT Hs365 (by decide)) (fun s368 Hs368 => ?_)
    refine PR.gd ?_
    refine PR.stp (Fr.wswT Hs368 (by decide) (by decide +kernel) (by decide +kernel)) (fun s371 Hs371 => ?_)
    refine PR.stp (Fr.wrs Hs371) (fun s373 Hs373 => ?_)
    refine PR.gd ?_
    refine PR.stp (Fr.wAT Hs373 (by decide)) (fun s376 Hs376 => ?_)
    refine PR.gd ?_
    refine PR.stp (Fr.wswT Hs376 (by decide) (by decide +kernel) (by decide +kernel)) (fun s379 Hs379 => ?_)
    refine PR.stp (Fr.wrs Hs379) (fun s381 Hs381 => ?_)
    refine PR.gd ?_
    refine PR.stp (Fr.wAT Hs381 (by decide)) (fun s384 Hs384 => ?_)
    refine PR.gd ?_
    refine PR.stp (Fr.wswT Hs384 (by decide) (by decide +kernel) (by decide +kernel)) (fun s387 Hs387 => ?_)
    refine PR.stp (Fr.wrs Hs387) (fun s389 Hs389 => ?_)
    refine PR.gd ?_
    refine PR.stp (Fr.wAT Hs389 (by decide)) (fun s392 Hs392 => ?_)
    refine PR.gd ?_
    refine PR.stp (Fr.wswT Hs392 (by decide) (by decide +kernel) (by decide +kernel)) (fun s395 Hs395 => ?_)
    refine PR.stp (Fr.wrs Hs395) (fun s397 Hs397 => ?_)
    refine PR.gd ?_
    refine PR.stp (Fr.wAT Hs397 (by decide)) (fun s400 Hs400 => ?_)
    refine PR.gd ?_
    refine PR.stp (Fr.wswT Hs400 (by decide) (by decide +kernel) (by decide +kernel)) (fun s403 Hs403 => ?_)
    refine PR.stp (Fr.wrs Hs403) (fun s405 Hs405 => ?_)
    refine PR.gd ?_
    refine PR.stp (Fr.wAT Hs405 (by decide)) (fun s408 Hs408 => ?_)
    refine PR.gd ?_
    refine PR.stp (Fr.wswT Hs408 (by decide) (by decide +kernel) (by decide +kernel)) (fun s411 Hs411 => ?_)
    refine PR.stp (Fr.wrs Hs411) (fun s413 Hs413 => ?_)
    refine PR.gd ?_
    refine PR.stp (Fr.wAT Hs413 (by decide)) (fun s416 Hs416 => ?_)
    refine PR.gd ?_
    refine PR.stp (Fr.wswT Hs416 (by decide) (by decide +kernel) (by decide +kernel)) (fun s419 Hs419 => ?_)
    refine PR.stp (Fr.wrs Hs419) (fun s421 Hs421 => ?_)
    refine PR.gd ?_
    refine PR.stp (Fr.wAT Hs421 (by decide)) (fun s424 Hs424 => ?_)
    refine PR.gd ?_
    refine PR.stp (Fr.wswT Hs424 (by decide) (by decide +kernel) (by decide +kernel)) (fun s427 Hs427 => ?_)
    refine PR.stp (Fr.wrs Hs427) (fun s429 Hs429 => ?_)
    refine PR.gd ?_
    refine PR.stp (Fr.wAT Hs429 (by decide)) (fun s432 Hs432 => ?_)
    refine PR.gd ?_
    refine PR.stp (Fr.wswT Hs432 (by decide) (by decide +kernel) (by decide +kernel)) (fun s435 Hs435 => ?_)
    refine PR.stp (Fr.wrs Hs435) (fun s437 Hs437 => ?_)
    refine PR.gd ?_
    refine PR.stp (Fr.wAT Hs437 (by decide)) (fun s440 Hs440 => ?_)
    refine PR.gd ?_
    refine PR.stp (Fr.wswT Hs440 (by decide) (by decide +kernel) (by decide +kernel)) (fun s443 Hs443 => ?_)
    refine PR.stp (Fr.wrs Hs443) (fun s445 Hs445 => ?_)
    refine PR.gd ?_
    refine PR.stp (Fr.wAT Hs445 (by decide)) (fun s448 Hs448 => ?_)
    refine PR.gd ?_
    refine PR.stp (Fr.wswT Hs448 (by decide) (by decide +kernel) (by decide +kernel)) (fun s451 Hs451 => ?_)
    refine PR.stp (Fr.wrs Hs451) (fun s453 Hs453 => ?_)
    refine PR.gd ?_
    refine PR.stp (Fr.wAT Hs453 (by decide)) (fun s456 Hs456 => ?_)
    refine PR.gd ?_
    refine PR.stp (Fr.wswT Hs456 (by decide) (by decide +kernel) (by decide +kernel)) (fun s459 Hs459 => ?_)
    refine PR.stp (Fr.wrs Hs459) (fun s461 Hs461 => ?_)
    refine PR.gd ?_
    refine PR.stp (Fr.wAT Hs461 (by decide)) (fun s464 Hs464 => ?_)
    refine PR.gd ?_
    refine PR.stp (Fr.wswT Hs464 (by decide) (by decide +kernel) (by decide +kernel)) (fun s467 Hs467 => ?_)
    refine PR.stp (Fr.wrs Hs467) (fun s469 Hs469 => ?_)
    refine PR.gd ?_
    refine PR.stp (Fr.wAT Hs469 (by decide)) (fun s472 Hs472 => ?_)
    refine PR.gd ?_
    refine PR.stp (Fr.wswT Hs472 (by decide) (by decide +kernel) (by decide +kernel)) (fun s475 Hs475 => ?_)
    refine PR.stp (Fr.wrs Hs475) (fun s477 Hs477 => ?_)
    exact PR.some Hs477
  · exact PR.some Hs
def W_f_X14_roomForElements : List Nat := [172998, 172999, 173998, 173999, 174998, 174999, 175998, 175999, 176998, 176999, 177998, 177999, 178998, 178999, 179998, 179999, 180998, 180999, 181998, 181999, 182998, 182999, 194998, 194999, 195998, 195999, 196998, 196999, 197998, 197999]
theorem fr_f_X14_roomForElements (s : vS) : PR (W_f_X14_roomForElements) s (fun q => q) (f_X14_roomForElements s) := by
  unfold f_X14_roomForElements
  have Hs : Fr (W_f_X14_roomForElements) s s := Fr.rfl
  refine PR.ite (fun _ => ?_) (fun _ => ?_)
  · refine PR.bd (PR.pure Hs (fr_f_X14_room (w32 ((d32 (gI s 87 127) 2) + 4)) 16392 s)) (fun r5 s2 Hs2 => ?_)
    refine PR.gd ?_
    refine PR.stp (Fr.wAT Hs2 (by decide)) (fun s8 Hs8 => ?_)
    refine PR.gd ?_
    refine PR.stp (Fr.wswT Hs8 (by decide) (by decide +kernel) (by decide +kernel)) (fun s11 Hs11 => ?_)
    refine PR.stp (Fr.wrs Hs11) (fun s13 Hs13 => ?_)
    refine PR.gd ?_
    refine PR.stp (Fr.wAT Hs13 (by decide)) (fun s16 Hs16 => ?_)
    refine PR.gd ?_
    refine PR.stp (Fr.wswT Hs16 (by decide) (by decide +kernel) (by decide +kernel)) (fun s19 Hs19 => ?_)
    refine PR.stp (Fr.wrs Hs19) (fun s21 Hs21 => ?_)
    refine PR.gd ?_
    refine PR.stp (Fr.wAT Hs21 (by decide)) (fun s24 Hs24 => ?_)
    refine PR.gd ?_
    refine PR.stp (Fr.wswT Hs24 (by decide) (by decide +kernel) (by decide +kernel)) (fun s27 Hs27 => ?_)
    refine PR.stp (Fr.wrs Hs27) (fun s29 Hs29 => ?_)
    refine PR.gd ?_
    refine PR.stp (Fr.wAT Hs29 (by decide)) (fun s32 Hs32 => ?_)
    refine PR.gd ?_
    refine PR.stp (Fr.wswT Hs32 (by decide) (by decide +kernel) (by decide +kernel)) (fun s35 Hs35 => ?_)
    refine PR.stp (Fr.wrs Hs35) (fun s37 Hs37 => ?_)
    refine PR.gd ?_
    refine PR.stp (Fr.wAT Hs37 (by decide)) (fun s40 Hs40 => ?_)
    refine PR.gd ?_
    refine PR.stp (Fr.wswT Hs40 (by decide) (by decide +kernel) (by decide +kernel)) (fun s43 Hs43 => ?_)
    refine PR.stp (Fr.wrs Hs43) (fun s45 Hs45 => ?_)
    refine PR.gd ?_
    refine PR.stp (Fr.wAT Hs45 (by decide)) (fun s48 Hs48 => ?_)
    refine PR.gd ?_
    refine PR.stp (Fr.wswT Hs48 (by decide) (by decide +kernel) (by decide +kernel)) (fun s51 Hs51 => ?_)
    refine PR.stp (Fr.wrs Hs51) (fun s53 Hs53 => ?_)
    refine PR.gd ?_
    refine PR.stp (Fr.wAT Hs53 (by decide)) (fun s56 Hs56 => ?_)
    refine PR.gd ?_
    refine PR.stp (Fr.wswT Hs56 (by decide) (by decide +kernel) (by decide +kernel)) (fun s59 Hs59 => ?_)
    refine PR.stp (Fr.wrs Hs59) (fun s61 Hs61 => ?_)
    refine PR.gd ?_
    refine PR.stp (Fr.wAT Hs61 (by decide)) (fun s64 Hs64 => ?_)
    refine PR.gd ?_
    refine PR.stp (Fr.wswT Hs64 (by decide) (by decide +kernel) (by decide +kernel)) (fun s67 Hs67 => ?_)
    refine PR.stp (Fr.wrs Hs67) (fun s69 Hs69 => ?_)
    refine PR.gd ?_
    refine PR.stp (Fr.wAT Hs69 (by decide)) (fun s72 Hs72 => ?_)
    refine PR.gd ?_
    refine PR.stp (Fr.wswT Hs72 (by decide) (by decide +kernel) (by decide +kernel)) (fun s75 Hs75 => ?_)
    refine PR.stp (Fr.wrs Hs75) (fun s77 Hs77 => ?_)
    refine PR.gd ?_
    refine PR.stp (Fr.wAT Hs77 (by decide)) (fun s80 Hs80 => ?_)
    refine PR.gd ?_
    refine PR.stp (Fr.wswT Hs80 (by decide) (by decide +kernel) (by decide +kernel)) (fun s83 Hs83 => ?_)
    refine PR.stp (Fr.wrs Hs83) (fun s85 Hs85 => ?_)
    refine PR.gd ?_
    refine PR.stp (Fr.wAT Hs85 (by decide)) (fun s88 Hs88 => ?_)
    refine PR.gd ?_
    refine PR.stp (Fr.wswT Hs88 (by decide) (by decide +kernel) (by decide +kernel)) (fun s91 Hs91 => ?_)
    refine PR.stp (Fr.wrs Hs91) (fun s93 Hs93 => ?_)
    refine PR.gd ?_
    refine PR.stp (Fr.wAT Hs93 (by decide)) (fun s96 Hs96 => ?_)
    refine PR.gd ?_
    refine PR.stp (Fr.wswT Hs96 (by decide) (by decide +kernel) (by decide +kernel)) (fun s99 Hs99 => ?_)
    refine PR.stp (Fr.wrs Hs99) (fun s101 Hs101 => ?_)
    refine PR.gd ?_
    refine PR.stp (Fr.wAT Hs101 (by decide)) (fun s104 Hs104 => ?_)
    refine PR.gd ?_
    refine PR.stp (Fr.wswT Hs104 (by decide) (by decide +kernel) (by decide +kernel)) (fun s107 Hs107 => ?_)
    refine PR.stp (Fr.wrs Hs107) (fun s109 Hs109 => ?_)
    refine PR.gd ?_
    refine PR.stp (Fr.wAT Hs109 (by decide)) (fun s112 Hs112 => ?_)
    refine PR.gd ?_
    refine PR.stp (Fr.wswT Hs112 (by decide) (by decide +kernel) (by decide +kernel)) (fun s115 Hs115 => ?_)
    refine PR.stp (Fr.wrs Hs115) (fun s117 Hs117 => ?_)
    refine PR.gd ?_
    refine PR.stp (Fr.wAT Hs117 (by decide)) (fun s120 Hs120 => ?_)
    refine PR.gd ?_
    refine PR.stp (Fr.wswT Hs120 (by decide) (by decide +kernel) (by decide +kernel)) (fun s123 Hs123 => ?_)
    refine PR.stp (Fr.wrs Hs123) (fun s125 Hs125 => ?_)
    exact PR.some Hs125
  · exact PR.some Hs
def W_l_X14_longer_6 : List Nat := []
theorem fr_l_X14_longer_6 (p0 : Nat) : ∀ (n : Nat) (x3 : Int) (s : vS), PR (W_l_X14_longer_6) s (fun q => q) (l_X14_longer_6 p0 n x3 s)
  := by
  intro n
  induction n with
  | zero => intro x3 s; exact PR.none
  | succ n ih =>
    intro x3 s
    unfold l_X14_longer_6
    have Hs : Fr (W_l_X14_longer_6) s s := Fr.rfl
    refine PR.ite (fun _ => ?_) (fun _ => ?_)
    · exact PR.some Hs
    · refine PR.gd ?_
      refine PR.gd ?_
      refine PR.stp (Fr.wET Hs (by decide)) (fun s4 Hs4 => ?_)
      refine PR.vl (fun y6 => ?_)
      exact PR.tail Hs4 (ih y6 s4)
def W_f_X14_longer : List Nat := []
theorem fr_f_X14_longer (p0 : Nat) (x1 : Int) (s : vS) : PR (W_f_X14_longer) s (fun q => q) (f_X14_longer p0 x1 s) := by
  unfold f_X14_longer
  have Hs : Fr (W_f_X14_longer) s s := Fr.rfl
  refine PR.gd ?_
  refine PR.stp (Fr.wAT Hs (by decide)) (fun s2 Hs2 => ?_)
  refine PR.lq_0 (PR.pure Hs2 (fr_l_X14_longer_6 p0 FU 0 s2)) (fun s4 Hs4 => ?_)
  exact PR.some Hs4
def W_f_X14_roomForFrames : List Nat := [186998, 186999, 187998, 187999, 188998, 188999, 189998, 189999, 190998, 190999, 191998, 191999, 192998, 192999, 193998, 193999]
theorem fr_f_X14_roomForFrames (s : vS) : PR (W_f_X14_roomForFrames) s (fun q => q) (f_X14_roomForFrames s) := by
  unfold f_X14_roomForFrames
  have Hs : Fr (W_f_X14_roomForFrames) s s := Fr.rfl
  refine PR.ite (fun _ => ?_) (fun _ => ?_)
  · refine PR.vl (fun y2 => ?_)
    refine PR.bdv (PR.pure Hs (fr_f_X14_longer 186 y2 s)) (fun s5 Hs5 => ?_)
    refine PR.gd ?_
    refine PR.stp (Fr.wswT Hs5 (by decide) (by decide +kernel) (by decide +kernel)) (fun s9 Hs9 => ?_)
    refine PR.stp (Fr.wrs Hs9) (fun s11 Hs11 => ?_)
    refine PR.bdv (PR.pure Hs11 (fr_f_X14_longer 187 y2 s11)) (fun s13 Hs13 => ?_)
    refine PR.gd ?_
    refine PR.stp (Fr.wswT Hs13 (by decide) (by decide +kernel) (by decide +kernel)) (fun s17 Hs17 => ?_)
    refine PR.stp (Fr.wrs Hs17) (fun s19 Hs19 => ?_)
    refine PR.bdv (PR.pure Hs19 (fr_f_X14_longer 188 y2 s19)) (fun s21 Hs21 => ?_)
    refine PR.gd ?_
    refine PR.stp (Fr.wswT Hs21 (by decide) (by decide +kernel) (by decide +kernel)) (fun s25 Hs25 => ?_)
    refine PR.stp (Fr.wrs Hs25) (fun s27 Hs27 => ?_)
    refine PR.bdv (PR.pure Hs27 (fr_f_X14_longer 189 y2 s27)) (fun s29 Hs29 => ?_)
    refine PR.gd ?_
    refine PR.stp (Fr.wswT Hs29 (by decide) (by decide +kernel) (by decide +kernel)) (fun s33 Hs33 => ?_)
    refine PR.stp (Fr.wrs Hs33) (fun s35 Hs35 => ?_)
    refine PR.bdv (PR.pure Hs35 (fr_f_X14_longer 190 y2 s35)) (fun s37 Hs37 => ?_)
    refine PR.gd ?_
    refine PR.stp (Fr.wswT Hs37 (by decide) (by decide +kernel) (by decide +kernel)) (fun s41 Hs41 => ?_)
    refine PR.stp (Fr.wrs Hs41) (fun s43 Hs43 => ?_)
    refine PR.bdv (PR.pure Hs43 (fr_f_X14_longer 191 y2 s43)) (fun s45 Hs45 => ?_)
    refine PR.gd ?_
    refine PR.stp (Fr.wswT Hs45 (by decide) (by decide +kernel) (by decide +kernel)) (fun s49 Hs49 => ?_)
    refine PR.stp (Fr.wrs Hs49) (fun s51 Hs51 => ?_)
    refine PR.bdv (PR.pure Hs51 (fr_f_X14_longer 192 y2 s51)) (fun s53 Hs53 => ?_)
    refine PR.gd ?_
    refine PR.stp (Fr.wswT Hs53 (by decide) (by decide +kernel) (by decide +kernel)) (fun s57 Hs57 => ?_)
    refine PR.stp (Fr.wrs Hs57) (fun s59 Hs59 => ?_)
    refine PR.bdv (PR.pure Hs59 (fr_f_X14_longer 193 y2 s59)) (fun s61 Hs61 => ?_)
    refine PR.gd ?_
    refine PR.stp (Fr.wswT Hs61 (by decide) (by decide +kernel) (by decide +kernel)) (fun s65 Hs65 => ?_)
    refine PR.stp (Fr.wrs Hs65) (fun s67 Hs67 => ?_)
    exact PR.some Hs67
  · exact PR.some Hs
def W_l_X14_feed_27 : List Nat := [91999]
theorem fr_j_X14_feed_80 (rec : Int → Int → Int → Int → Int → Int → vS → Option (vS)) (hrec : ∀ (y0 : Int) (y1 : Int) (y2 : Int) (y3 : Int) (y4 : Int) (y5 : Int) (s : vS), PR (W_l_X14_feed_27) s (fun q => q) (rec y0 y1 y2 y3 y4 y5 s)) (x1 : Int) (x2 : Int) (x3 : Int) (x4 : Int) (x5 : Int) (x6 : Int) (z0 : Int) (s : vS) : PR (W_l_X14_feed_27) s (fun q => q) (j_X14_feed_80 rec x1 x2 x3 x4 x5 x6 z0 s) := by
  unfold j_X14_feed_80
  have Hs : Fr (W_l_X14_feed_27) s s := Fr.rfl
  refine PR.gd ?_
  refine PR.stp (Fr.wE Hs (by decide +kernel)) (fun s2 Hs2 => ?_)
  refine PR.vl (fun y4 => ?_)
  exact PR.tail Hs2 (hrec x1 x2 x3 x4 x5 y4 s2)
theorem fr_l_X14_feed_27 : ∀ (n : Nat) (x1 : Int) (x2 : Int) (x3 : Int) (x4 : Int) (x5 : Int) (x6 : Int) (s : vS), PR (W_l_X14_feed_27) s (fun q => q) (l_X14_feed_27 n x1 x2 x3 x4 x5 x6 s)
  := by
  intro n
  induction n with
  | zero => intro x1 x2 x3 x4 x5 x6 s; exact PR.none
  | succ n ih =>
    intro x1 x2 x3 x4 x5 x6 s
    unfold l_X14_feed_27
    have Hs : Fr (W_l_X14_feed_27) s s := Fr.rfl
    refine PR.ite (fun _ => ?_) (fun _ => ?_)
    · exact PR.some Hs
    · refine PR.ite (fun _ => ?_) (fun _ => ?_)
      · refine PR.ite (fun _ => ?_) (fun _ => ?_)
        · refine PR.ite (fun _ => ?_) (fun _ => ?_)
          · refine PR.ite (fun _ => ?_) (fun _ => ?_)
            · exact PR.tail Hs (fr_j_X14_feed_80 (l_X14_feed_27 n) ih x1 x2 x3 x4 x5 x6 x5 s)
            · exact PR.tail Hs (fr_j_X14_feed_80 (l_X14_feed_27 n) ih x1 x2 x3 x4 x5 x6 x4 s)
          · exact PR.tail Hs (fr_j_X14_feed_80 (l_X14_feed_27 n) ih x1 x2 x3 x4 x5 x6 x3 s)
        · exact PR.tail Hs (fr_j_X14_feed_80 (l_X14_feed_27 n) ih x1 x2 x3 x4 x5 x6 x2 s)
      · exact PR.tail Hs (fr_j_X14_feed_80 (l_X14_feed_27 n) ih x1 x2 x3 x4 x5 x6 x1 s)
def W_f_X14_feed : List Nat := [87003, 87004, 91999]
theorem fr_f_X14_feed (x1 : Int) (x2 : Int) (x3 : Int) (x4 : Int) (x5 : Int) (s : vS) : PR (W_f_X14_feed) s (fun q => q.2) (f_X14_feed x1 x2 x3 x4 x5 s) := by
  unfold f_X14_feed
  have Hs : Fr (W_f_X14_feed) s s := Fr.rfl
  refine PR.stp (Fr.wI Hs (by decide +kernel)) (fun s1 Hs1 => ?_)
  refine PR.ite (fun _ => ?_) (fun _ => ?_)
  · refine PR.lq_0 (PR.call Hs1 (fr_l_X14_feed_27 FU x1 x2 x3 x4 x5 0 s1) (by decide +kernel)) (fun s4 Hs4 => ?_)
    refine PR.stp (Fr.wI Hs4 (by decide +kernel)) (fun s6 Hs6 => ?_)
    exact PR.some Hs6
  · refine PR.bd (PR.call Hs1 (fr_f_X14_fail 1 s1) (by decide +kernel)) (fun r11 s8 Hs8 => ?_)
    exact PR.some Hs8
def W_f_X14_end : List Nat := [87003, 87004]
theorem fr_f_X14_end (x1 : Int) (s : vS) : PR (W_f_X14_end) s (fun q => q.2) (f_X14_end x1 s) := by
  unfold f_X14_end
  have Hs : Fr (W_f_X14_end) s s := Fr.rfl
  refine PR.stp (Fr.wI Hs (by decide +kernel)) (fun s1 Hs1 => ?_)
  refine PR.bd (PR.pure Hs1 (fr_f_X14_within x1 0 20 s1)) (fun r6 s3 Hs3 => ?_)
  refine PR.ite (fun _ => ?_) (fun _ => ?_)
  · refine PR.bd (PR.call Hs3 (fr_f_X14_fail 1 s3) (by decide +kernel)) (fun r20 s17 Hs17 => ?_)
    exact PR.some Hs17
  · refine PR.ite (fun _ => ?_) (fun _ => ?_)
    · refine PR.stp (Fr.wI Hs3 (by decide +kernel)) (fun s10 Hs10 => ?_)
      exact PR.some Hs10
    · refine PR.bd (PR.call Hs3 (fr_f_X14_fail 2 s3) (by decide +kernel)) (fun r15 s12 Hs12 => ?_)
      exact PR.some Hs12
def W_f_X14_ch : List Nat := []
theorem fr_f_X14_ch (x1 : Int) (s : vS) : PR (W_f_X14_ch) s (fun q => q.2) (f_X14_ch x1 s) := by
  unfold f_X14_ch
  have Hs : Fr (W_f_X14_ch) s s := Fr.rfl
  refine PR.ite (fun _ => ?_) (fun _ => ?_)
  · exact PR.some Hs
  · refine PR.gd ?_
    exact PR.some Hs
def W_f_X14_isSmall : List Nat := []
theorem fr_f_X14_isSmall (x0 : Int) (s : vS) : PR (W_f_X14_isSmall) s (fun q => q.2) (f_X14_isSmall x0 s) := by
  unfold f_X14_isSmall
  have Hs : Fr (W_f_X14_isSmall) s s := Fr.rfl
  refine PR.bd (PR.pure Hs (fr_f_X14_within x0 97 122 s)) (fun r4 s1 Hs1 => ?_)
  refine PR.gd ?_
  exact PR.some Hs1
def W_f_X14_isLarge : List Nat := []
theorem fr_f_X14_isLarge (x0 : Int) (s : vS) : PR (W_f_X14_isLarge) s (fun q => q.2) (f_X14_isLarge x0 s) := by
  unfold f_X14_isLarge
  have Hs : Fr (W_f_X14_isLarge) s s := Fr.rfl
  refine PR.bd (PR.pure Hs (fr_f_X14_within x0 65 90 s)) (fun r4 s1 Hs1 => ?_)
  refine PR.gd ?_
  exact PR.some Hs1
def W_f_X14_isDigit : List Nat := []
theorem fr_f_X14_isDigit (x0 : Int) (s : vS) : PR (W_f_X14_isDigit) s (fun q => q.2) (f_X14_isDigit x0 s) := by
  unfold f_X14_isDigit
  have Hs : Fr (W_f_X14_isDigit) s s := Fr.rfl
  refine PR.bd (PR.pure Hs (fr_f_X14_within x0 48 57 s)) (fun r4 s1 Hs1 => ?_)
  refine PR.gd ?_
  exact PR.some Hs1
def W_f_X14_isNameChar : List Nat := []
theorem fr_f_X14_isNameChar (x0 : Int) (s : vS) : PR (W_f_X14_isNameChar) s (fun q => q.2) (f_X14_isNameChar x0 s) := by
  unfold f_X14_isNameChar
  have Hs : Fr (W_f_X14_isNameChar) s s := Fr.rfl
  refine PR.bd (PR.pure Hs (fr_f_X14_isSmall x0 s)) (fun r4 s1 Hs1 => ?_)
  refine PR.ite (fun _ => ?_) (fun _ => ?_)
  · refine PR.bd (PR.pure Hs1 (fr_f_X14_isLarge x0 s1)) (fun r10 s7 Hs7 => ?_)
    refine PR.ite (fun _ => ?_) (fun _ => ?_)
    · refine PR.bd (PR.pure Hs7 (fr_f_X14_isDigit x0 s7)) (fun r16 s13 Hs13 => ?_)
      refine PR.ite (fun _ => ?_) (fun _ => ?_)
      · exact PR.some Hs13
      · exact PR.some Hs13
    · exact PR.some Hs7
  · exact PR.some Hs1
def W_f_X14_isWhite : List Nat := []
theorem fr_f_X14_isWhite (x0 : Int) (s : vS) : PR (W_f_X14_isWhite) s (fun q => q.2) (f_X14_isWhite x0 s) := by
  unfold f_X14_isWhite
  have Hs : Fr (W_f_X14_isWhite) s s := Fr.rfl
  refine PR.bd (PR.pure Hs (fr_f_X14_within x0 9 13 s)) (fun r4 s1 Hs1 => ?_)
  refine PR.ite (fun _ => ?_) (fun _ => ?_)
  · refine PR.ite (fun _ => ?_) (fun _ => ?_)
    · exact PR.some Hs1
    · exact PR.some Hs1
  · exact PR.some Hs1
def W_l_X14_skipLine_2 : List Nat := []
theorem fr_l_X14_skipLine_2 : ∀ (n : Nat) (x2 : Int) (s : vS), PR (W_l_X14_skipLine_2) s (fun q => q.2) (l_X14_skipLine_2 n x2 s)
  := by
  intro n
  induction n with
  | zero => intro x2 s; exact PR.none
  | succ n ih =>
    intro x2 s
    unfold l_X14_skipLine_2
    have Hs : Fr (W_l_X14_skipLine_2) s s := Fr.rfl
    refine PR.ite (fun _ => ?_) (fun _ => ?_)
    · exact PR.some Hs
    · refine PR.bd (PR.pure Hs (fr_f_X14_ch x2 s)) (fun r5 s2 Hs2 => ?_)
      refine PR.bd (PR.pure Hs2 (fr_f_X14_within r5 10 13 s2)) (fun r10 s7 Hs7 => ?_)
      refine PR.ite (fun _ => ?_) (fun _ => ?_)
      · refine PR.bd (PR.pure Hs7 (fr_f_X14_ch x2 s7)) (fun r16 s13 Hs13 => ?_)
        refine PR.ite (fun _ => ?_) (fun _ => ?_)
        · refine PR.bd (PR.pure Hs13 (fr_f_X14_ch (w32 (x2 + 1)) s13)) (fun r25 s22 Hs22 => ?_)
          refine PR.ite (fun _ => ?_) (fun _ => ?_)
          · exact PR.some Hs22
          · refine PR.vl (fun y28 => ?_)
            exact PR.tail Hs22 (ih y28 s22)
        · refine PR.vl (fun y19 => ?_)
          exact PR.tail Hs13 (ih y19 s13)
      · exact PR.some Hs7
def W_j_X14_skipLine_53 : List Nat := []
theorem fr_j_X14_skipLine_53 (x2 : Int) (s : vS) : PR (W_j_X14_skipLine_53) s (fun q => q.2) (j_X14_skipLine_53 x2 s) := by
  unfold j_X14_skipLine_53
  have Hs : Fr (W_j_X14_skipLine_53) s s := Fr.rfl
  refine PR.ite (fun _ => ?_) (fun _ => ?_)
  · exact PR.some Hs
  · refine PR.bd (PR.pure Hs (fr_f_X14_ch x2 s)) (fun r5 s2 Hs2 => ?_)
    refine PR.ite (fun _ => ?_) (fun _ => ?_)
    · exact PR.some Hs2
    · exact PR.some Hs2
def W_f_X14_skipLine : List Nat := []
theorem fr_f_X14_skipLine (x1 : Int) (s : vS) : PR (W_f_X14_skipLine) s (fun q => q.2) (f_X14_skipLine x1 s) := by
  unfold f_X14_skipLine
  have Hs : Fr (W_f_X14_skipLine) s s := Fr.rfl
  refine PR.lq_1 (PR.pure Hs (fr_l_X14_skipLine_2 FU x1 s)) (fun y1 s2 Hs2 => ?_)
  exact PR.pure Hs2 (fr_j_X14_skipLine_53 y1 s2)
def W_l_X14_skipStars_6 : List Nat := []
theorem fr_j_X14_skipStars_49 (rec : Int → Int → Int → vS → Option (Int × Int × vS)) (hrec : ∀ (y0 : Int) (y1 : Int) (y2 : Int) (s : vS), PR (W_l_X14_skipStars_6) s (fun q => q.2.2) (rec y0 y1 y2 s)) (x1 : Int) (x2 : Int) (x3 : Int) (s : vS) : PR (W_l_X14_skipStars_6) s (fun q => q.2.2) (j_X14_skipStars_49 rec x1 x2 x3 s) := by
  unfold j_X14_skipStars_49
  have Hs : Fr (W_l_X14_skipStars_6) s s := Fr.rfl
  refine PR.bd (PR.pure Hs (fr_f_X14_ch x2 s)) (fun r4 s1 Hs1 => ?_)
  refine PR.ite (fun _ => ?_) (fun _ => ?_)
  · refine PR.bd (PR.pure Hs1 (fr_f_X14_ch (w32 (x2 + 1)) s1)) (fun r13 s10 Hs10 => ?_)
    refine PR.ite (fun _ => ?_) (fun _ => ?_)
    · refine PR.vl (fun y19 => ?_)
      refine PR.vl (fun y22 => ?_)
      exact PR.tail Hs10 (hrec x1 y22 y19 s10)
    · refine PR.vl (fun y16 => ?_)
      exact PR.tail Hs10 (hrec x1 y16 x3 s10)
  · refine PR.vl (fun y7 => ?_)
    exact PR.tail Hs1 (hrec x1 y7 x3 s1)
theorem fr_l_X14_skipStars_6 : ∀ (n : Nat) (x1 : Int) (x2 : Int) (x3 : Int) (s : vS), PR (W_l_X14_skipStars_6) s (fun q => q.2.2) (l_X14_skipStars_6 n x1 x2 x3 s)
  := by
  intro n
  induction n with
  | zero => intro x1 x2 x3 s; exact PR.none
  | succ n ih =>
    intro x1 x2 x3 s
    unfold l_X14_skipStars_6
    have Hs : Fr (W_l_X14_skipStars_6) s s := Fr.rfl
    refine PR.ite (fun _ => ?_) (fun _ => ?_)
    · exact PR.some Hs
    · refine PR.ite (fun _ => ?_) (fun _ => ?_)
      · exact PR.some Hs
      · refine PR.bd (PR.pure Hs (fr_f_X14_ch x2 s)) (fun r6 s3 Hs3 => ?_)
        refine PR.ite (fun _ => ?_) (fun _ => ?_)
        · refine PR.bd (PR.pure Hs3 (fr_f_X14_ch (w32 (x2 + 1)) s3)) (fun r12 s9 Hs9 => ?_)
          refine PR.ite (fun _ => ?_) (fun _ => ?_)
          · refine PR.vl (fun y15 => ?_)
            refine PR.vl (fun y18 => ?_)
            exact PR.tail Hs9 (ih x1 y18 y15 s9)
          · exact PR.tail Hs9 (fr_j_X14_skipStars_49 (l_X14_skipStars_6 n) ih x1 x2 x3 s9)
        · exact PR.tail Hs3 (fr_j_X14_skipStars_49 (l_X14_skipStars_6 n) ih x1 x2 x3 s3)
def W_j_X14_skipStars_86 : List Nat := [87008, 87009]
theorem fr_j_X14_skipStars_86 (x1 : Int) (x2 : Int) (x3 : Int) (s : vS) : PR (W_j_X14_skipStars_86) s (fun q => q.2) (j_X14_skipStars_86 x1 x2 x3 s) := by
  unfold j_X14_skipStars_86
  have Hs : Fr (W_j_X14_skipStars_86) s s := Fr.rfl
  refine PR.ite (fun _ => ?_) (fun _ => ?_)
  · exact PR.some Hs
  · refine PR.bdv (PR.call Hs (fr_f_X14_tell 1 x1 s) (by decide +kernel)) (fun s2 Hs2 => ?_)
    exact PR.some Hs2
def W_f_X14_skipStars : List Nat := [87008, 87009]
theorem fr_f_X14_skipStars (x1 : Int) (s : vS) : PR (W_f_X14_skipStars) s (fun q => q.2) (f_X14_skipStars x1 s) := by
  unfold f_X14_skipStars
  have Hs : Fr (W_f_X14_skipStars) s s := Fr.rfl
  refine PR.vl (fun y1 => ?_)
  refine PR.lq_2 (PR.pure Hs (fr_l_X14_skipStars_6 FU x1 y1 1 s)) (fun y4 y5 s6 Hs6 => ?_)
  exact PR.call Hs6 (fr_j_X14_skipStars_86 x1 y4 y5 s6) (by decide +kernel)
def W_l_X14_skip_4 : List Nat := [87008, 87009]
theorem fr_j_X14_skip_65 (rec : Int → Int → vS → Option (Int × vS)) (hrec : ∀ (y0 : Int) (y1 : Int) (s : vS), PR (W_l_X14_skip_4) s (fun q => q.2) (rec y0 y1 s)) (x2 : Int) (x3 : Int) (s : vS) : PR (W_l_X14_skip_4) s (fun q => q.2) (j_X14_skip_65 rec x2 x3 s) := by
  unfold j_X14_skip_65
  have Hs : Fr (W_l_X14_skip_4) s s := Fr.rfl
  refine PR.bd (PR.pure Hs (fr_f_X14_ch x2 s)) (fun r4 s1 Hs1 => ?_)
  refine PR.ite (fun _ => ?_) (fun _ => ?_)
  · refine PR.bd (PR.pure Hs1 (fr_f_X14_ch (w32 (x2 + 1)) s1)) (fun r10 s7 Hs7 => ?_)
    refine PR.ite (fun _ => ?_) (fun _ => ?_)
    · refine PR.bd (PR.call Hs7 (fr_f_X14_skipStars x2 s7) (by decide +kernel)) (fun r16 s13 Hs13 => ?_)
      exact PR.tail Hs13 (hrec r16 x3 s13)
    · exact PR.tail Hs7 (hrec x2 0 s7)
  · exact PR.tail Hs1 (hrec x2 0 s1)
theorem fr_l_X14_skip_4 : ∀ (n : Nat) (x2 : Int) (x3 : Int) (s : vS), PR (W_l_X14_skip_4) s (fun q => q.2) (l_X14_skip_4 n x2 x3 s)
  := by
  intro n
  induction n with
  | zero => intro x2 x3 s; exact PR.none
  | succ n ih =>
    intro x2 x3 s
    unfold l_X14_skip_4
    have Hs : Fr (W_l_X14_skip_4) s s := Fr.rfl
    refine PR.ite (fun _ => ?_) (fun _ => ?_)
    · exact PR.some Hs
    · refine PR.ite (fun _ => ?_) (fun _ => ?_)
      · refine PR.bd (PR.pure Hs (fr_f_X14_ch x2 s)) (fun r6 s3 Hs3 => ?_)
        refine PR.bd (PR.pure Hs3 (fr_f_X14_isWhite r6 s3)) (fun r11 s8 Hs8 => ?_)
        refine PR.ite (fun _ => ?_) (fun _ => ?_)
        · refine PR.bd (PR.pure Hs8 (fr_f_X14_ch x2 s8)) (fun r17 s14 Hs14 => ?_)
          refine PR.ite (fun _ => ?_) (fun _ => ?_)
          · refine PR.bd (PR.pure Hs14 (fr_f_X14_ch (w32 (x2 + 1)) s14)) (fun r23 s20 Hs20 => ?_)
            refine PR.ite (fun _ => ?_) (fun _ => ?_)
            · refine PR.bd (PR.pure Hs20 (fr_f_X14_skipLine (w32 (x2 + 2)) s20)) (fun r29 s26 Hs26 => ?_)
              exact PR.tail Hs26 (ih r29 x3 s26)
            · exact PR.tail Hs20 (fr_j_X14_skip_65 (l_X14_skip_4 n) ih x2 x3 s20)
          · exact PR.tail Hs14 (fr_j_X14_skip_65 (l_X14_skip_4 n) ih x2 x3 s14)
        · refine PR.vl (fun y31 => ?_)
          exact PR.tail Hs8 (ih y31 x3 s8)
      · exact PR.some Hs
def W_f_X14_skip : List Nat := [87008, 87009]
theorem fr_f_X14_skip (x1 : Int) (s : vS) : PR (W_f_X14_skip) s (fun q => q.2) (f_X14_skip x1 s) := by
  unfold f_X14_skip
  have Hs : Fr (W_f_X14_skip) s s := Fr.rfl
  refine PR.lq_1 (PR.call Hs (fr_l_X14_skip_4 FU x1 1 s) (by decide +kernel)) (fun y1 s2 Hs2 => ?_)
  exact PR.some Hs2
def W_l_X14_wordAt_16 : List Nat := []
theorem fr_l_X14_wordAt_16 : ∀ (n : Nat) (x1 : Int) (x2 : Int) (x3 : Int) (x4 : Int) (x5 : Int) (s : vS), PR (W_l_X14_wordAt_16) s (fun q => q.2) (l_X14_wordAt_16 n x1 x2 x3 x4 x5 s)
  := by
  intro n
  induction n with
  | zero => intro x1 x2 x3 x4 x5 s; exact PR.none
  | succ n ih =>
    intro x1 x2 x3 x4 x5 s
    unfold l_X14_wordAt_16
    have Hs : Fr (W_l_X14_wordAt_16) s s := Fr.rfl
    refine PR.gd ?_
    refine PR.ite (fun _ => ?_) (fun _ => ?_)
    · exact PR.some Hs
    · refine PR.ite (fun _ => ?_) (fun _ => ?_)
      · exact PR.some Hs
      · refine PR.gd ?_
        refine PR.gd ?_
        refine PR.ite (fun _ => ?_) (fun _ => ?_)
        · refine PR.vl (fun y7 => ?_)
          exact PR.tail Hs (ih x1 x2 x3 x4 y7 s)
        · exact PR.some Hs
def W_l_X14_wordAt_91 : List Nat := []
theorem fr_l_X14_wordAt_91 : ∀ (n : Nat) (x1 : Int) (x2 : Int) (x3 : Int) (x4 : Int) (s : vS), PR (W_l_X14_wordAt_91) s (fun q => q.2) (l_X14_wordAt_91 n x1 x2 x3 x4 s)
  := by
  intro n
  induction n with
  | zero => intro x1 x2 x3 x4 s; exact PR.none
  | succ n ih =>
    intro x1 x2 x3 x4 s
    unfold l_X14_wordAt_91
    have Hs : Fr (W_l_X14_wordAt_91) s s := Fr.rfl
    refine PR.gd ?_
    refine PR.ite (fun _ => ?_) (fun _ => ?_)
    · exact PR.some Hs
    · refine PR.vl (fun y3 => ?_)
      exact PR.tail Hs (ih x1 x2 x3 y3 s)
def W_l_X14_wordAt_5 : List Nat := []
theorem fr_j_X14_wordAt_65 (rec : Int → Int → Int → Int → vS → Option ((vS) ⊕ (Int × vS))) (hrec : ∀ (y0 : Int) (y1 : Int) (y2 : Int) (y3 : Int) (s : vS), PR (W_l_X14_wordAt_5) s (Sum.elim (fun q => q) (fun q => q.2)) (rec y0 y1 y2 y3 s)) (x1 : Int) (x2 : Int) (x3 : Int) (x4 : Int) (x5 : Int) (s : vS) : PR (W_l_X14_wordAt_5) s (Sum.elim (fun q => q) (fun q => q.2)) (j_X14_wordAt_65 rec x1 x2 x3 x4 x5 s) := by
  unfold j_X14_wordAt_65
  have Hs : Fr (W_l_X14_wordAt_5) s s := Fr.rfl
  refine PR.gd ?_
  refine PR.ite (fun _ => ?_) (fun _ => ?_)
  · refine PR.ite (fun _ => ?_) (fun _ => ?_)
    · exact PR.some Hs
    · refine PR.lq_1 (PR.pure Hs (fr_l_X14_wordAt_91 FU x1 x2 x3 x4 s)) (fun y14 s15 Hs15 => ?_)
      refine PR.vl (fun y18 => ?_)
      refine PR.vl (fun y21 => ?_)
      exact PR.tail Hs15 (hrec x1 x2 y21 y18 s15)
  · refine PR.lq_1 (PR.pure Hs (fr_l_X14_wordAt_91 FU x1 x2 x3 x4 s)) (fun y3 s4 Hs4 => ?_)
    refine PR.vl (fun y7 => ?_)
    refine PR.vl (fun y10 => ?_)
    exact PR.tail Hs4 (hrec x1 x2 y10 y7 s4)
theorem fr_l_X14_wordAt_5 : ∀ (n : Nat) (x1 : Int) (x2 : Int) (x3 : Int) (x4 : Int) (s : vS), PR (W_l_X14_wordAt_5) s (Sum.elim (fun q => q) (fun q => q.2)) (l_X14_wordAt_5 n x1 x2 x3 x4 s)
  := by
  intro n
  induction n with
  | zero => intro x1 x2 x3 x4 s; exact PR.none
  | succ n ih =>
    intro x1 x2 x3 x4 s
    unfold l_X14_wordAt_5
    have Hs : Fr (W_l_X14_wordAt_5) s s := Fr.rfl
    refine PR.ite (fun _ => ?_) (fun _ => ?_)
    · exact PR.some Hs
    · refine PR.lq_1 (PR.pure Hs (fr_l_X14_wordAt_16 FU x1 x2 x3 x4 0 s)) (fun y2 s3 Hs3 => ?_)
      exact PR.tail Hs3 (fr_j_X14_wordAt_65 (l_X14_wordAt_5 n) ih x1 x2 x3 x4 y2 s3)
def W_f_X14_wordAt : List Nat := []
theorem fr_f_X14_wordAt (x1 : Int) (x2 : Int) (s : vS) : PR (W_f_X14_wordAt) s (fun q => q.2) (f_X14_wordAt x1 x2 s) := by
  unfold f_X14_wordAt
  have Hs : Fr (W_f_X14_wordAt) s s := Fr.rfl
  refine PR.lqs_0 (PR.pure Hs (fr_l_X14_wordAt_5 FU x1 x2 0 0 s)) (fun s1 Hs1 => ?_) (fun q Hq => PR.some Hq)
  exact PR.some Hs1
def W_l_X14_nameEnd_2 : List Nat := []
theorem fr_l_X14_nameEnd_2 : ∀ (n : Nat) (x2 : Int) (s : vS), PR (W_l_X14_nameEnd_2) s (fun q => q.2) (l_X14_nameEnd_2 n x2 s)
  := by
  intro n
  induction n with
  | zero => intro x2 s; exact PR.none
  | succ n ih =>
    intro x2 s
    unfold l_X14_nameEnd_2
    have Hs : Fr (W_l_X14_nameEnd_2) s s := Fr.rfl
    refine PR.bd (PR.pure Hs (fr_f_X14_ch x2 s)) (fun r4 s1 Hs1 => ?_)
    refine PR.bd (PR.pure Hs1 (fr_f_X14_isNameChar r4 s1)) (fun r9 s6 Hs6 => ?_)
    refine PR.ite (fun _ => ?_) (fun _ => ?_)
    · refine PR.bd (PR.pure Hs6 (fr_f_X14_ch x2 s6)) (fun r18 s15 Hs15 => ?_)
      refine PR.ite (fun _ => ?_) (fun _ => ?_)
      · refine PR.bd (PR.pure Hs15 (fr_f_X14_ch (w32 (x2 + 1)) s15)) (fun r24 s21 Hs21 => ?_)
        refine PR.bd (PR.pure Hs21 (fr_f_X14_isNameChar r24 s21)) (fun r29 s26 Hs26 => ?_)
        refine PR.ite (fun _ => ?_) (fun _ => ?_)
        · exact PR.some Hs26
        · refine PR.vl (fun y32 => ?_)
          exact PR.tail Hs26 (ih y32 s26)
      · exact PR.some Hs15
    · refine PR.vl (fun y12 => ?_)
      exact PR.tail Hs6 (ih y12 s6)
def W_f_X14_nameEnd : List Nat := []
theorem fr_f_X14_nameEnd (x1 : Int) (s : vS) : PR (W_f_X14_nameEnd) s (fun q => q.2) (f_X14_nameEnd x1 s) := by
  unfold f_X14_nameEnd
  have Hs : Fr (W_f_X14_nameEnd) s s := Fr.rfl
  refine PR.lq_1 (PR.pure Hs (fr_l_X14_nameEnd_2 FU x1 s)) (fun y1 s2 Hs2 => ?_)
  exact PR.some Hs2
def W_l_X14_quoted_6 : List Nat := []
theorem fr_j_X14_quoted_43 (rec : Int → Int → Int → vS → Option (Int × Int × vS)) (hrec : ∀ (y0 : Int) (y1 : Int) (y2 : Int) (s : vS), PR (W_l_X14_quoted_6) s (fun q => q.2.2) (rec y0 y1 y2 s)) (x1 : Int) (x2 : Int) (x3 : Int) (s : vS) : PR (W_l_X14_quoted_6) s (fun q => q.2.2) (j_X14_quoted_43 rec x1 x2 x3 s) := by
  unfold j_X14_quoted_43
  have Hs : Fr (W_l_X14_quoted_6) s s := Fr.rfl
  refine PR.ite (fun _ => ?_) (fun _ => ?_)
  · refine PR.vl (fun y2 => ?_)
    exact PR.tail Hs (hrec x1 y2 0 s)
  · refine PR.bd (PR.pure Hs (fr_f_X14_ch x2 s)) (fun r8 s5 Hs5 => ?_)
    refine PR.bd (PR.pure Hs5 (fr_f_X14_isWhite r8 s5)) (fun r13 s10 Hs10 => ?_)
    refine PR.ite (fun _ => ?_) (fun _ => ?_)
    · refine PR.bd (PR.pure Hs10 (fr_f_X14_ch x2 s10)) (fun r22 s19 Hs19 => ?_)
      refine PR.bd (PR.pure Hs19 (fr_f_X14_within r22 48 49 s19)) (fun r27 s24 Hs24 => ?_)
      refine PR.ite (fun _ => ?_) (fun _ => ?_)
      · refine PR.vl (fun y30 => ?_)
        exact PR.tail Hs24 (hrec x1 y30 0 s24)
      · refine PR.vl (fun y33 => ?_)
        exact PR.tail Hs24 (hrec x1 y33 1 s24)
    · refine PR.vl (fun y16 => ?_)
      exact PR.tail Hs10 (hrec x1 y16 1 s10)
theorem fr_l_X14_quoted_6 : ∀ (n : Nat) (x1 : Int) (x2 : Int) (x3 : Int) (s : vS), PR (W_l_X14_quoted_6) s (fun q => q.2.2) (l_X14_quoted_6 n x1 x2 x3 s)
  := by
  intro n
  induction n with
  | zero => intro x1 x2 x3 s; exact PR.none
  | succ n ih =>
    intro x1 x2 x3 s
    unfold l_X14_quoted_6
    have Hs : Fr (W_l_X14_quoted_6) s s := Fr.rfl
    refine PR.bd (PR.pure Hs (fr_f_X14_ch x2 s)) (fun r4 s1 Hs1 => ?_)
    refine PR.bd (PR.pure Hs1 (fr_f_X14_isWhite r4 s1)) (fun r9 s6 Hs6 => ?_)
    refine PR.ite (fun _ => ?_) (fun _ => ?_)
    · refine PR.bd (PR.pure Hs6 (fr_f_X14_ch x2 s6)) (fun r15 s12 Hs12 => ?_)
      refine PR.bd (PR.pure Hs12 (fr_f_X14_isDigit r15 s12)) (fun r20 s17 Hs17 => ?_)
      refine PR.ite (fun _ => ?_) (fun _ => ?_)
      · refine PR.bd (PR.pure Hs17 (fr_f_X14_ch x2 s17)) (fun r26 s23 Hs23 => ?_)
        refine PR.bd (PR.pure Hs23 (fr_f_X14_within r26 65 70 s23)) (fun r31 s28 Hs28 => ?_)
        refine PR.ite (fun _ => ?_) (fun _ => ?_)
        · exact PR.some Hs28
        · exact PR.tail Hs28 (fr_j_X14_quoted_43 (l_X14_quoted_6 n) ih x1 x2 x3 s28)
      · exact PR.tail Hs17 (fr_j_X14_quoted_43 (l_X14_quoted_6 n) ih x1 x2 x3 s17)
    · exact PR.tail Hs6 (fr_j_X14_quoted_43 (l_X14_quoted_6 n) ih x1 x2 x3 s6)
def W_j_X14_quoted_141 : List Nat := [94999]
theorem fr_j_X14_quoted_141 (x2 : Int) (x4 : Int) (s : vS) : PR (W_j_X14_quoted_141) s (fun q => q.2) (j_X14_quoted_141 x2 x4 s) := by
  unfold j_X14_quoted_141
  have Hs : Fr (W_j_X14_quoted_141) s s := Fr.rfl
  refine PR.ite (fun _ => ?_) (fun _ => ?_)
  · refine PR.gd ?_
    refine PR.stp (Fr.wE Hs (by decide +kernel)) (fun s3 Hs3 => ?_)
    exact PR.some Hs3
  · refine PR.bd (PR.pure Hs (fr_f_X14_ch (w32 (x2 + 1)) s)) (fun r8 s5 Hs5 => ?_)
    refine PR.gd ?_
    refine PR.ite (fun _ => ?_) (fun _ => ?_)
    · refine PR.gd ?_
      refine PR.stp (Fr.wE Hs5 (by decide +kernel)) (fun s16 Hs16 => ?_)
      exact PR.some Hs16
    · refine PR.gd ?_
      refine PR.stp (Fr.wE Hs5 (by decide +kernel)) (fun s13 Hs13 => ?_)
      exact PR.some Hs13
def W_j_X14_quoted_128 : List Nat := [87008, 87009, 94999]
theorem fr_j_X14_quoted_128 (x1 : Int) (x2 : Int) (z0 : Int) (s : vS) : PR (W_j_X14_quoted_128) s (fun q => q.2) (j_X14_quoted_128 x1 x2 z0 s) := by
  unfold j_X14_quoted_128
  have Hs : Fr (W_j_X14_quoted_128) s s := Fr.rfl
  refine PR.ite (fun _ => ?_) (fun _ => ?_)
  · refine PR.bdv (PR.call Hs (fr_f_X14_tell 1 x1 s) (by decide +kernel)) (fun s2 Hs2 => ?_)
    exact PR.call Hs2 (fr_j_X14_quoted_141 x2 z0 s2) (by decide +kernel)
  · exact PR.call Hs (fr_j_X14_quoted_141 x2 z0 s) (by decide +kernel)
def W_f_X14_quoted : List Nat := [87008, 87009, 94999]
theorem fr_f_X14_quoted (x1 : Int) (s : vS) : PR (W_f_X14_quoted) s (fun q => q.2) (f_X14_quoted x1 s) := by
  unfold f_X14_quoted
  have Hs : Fr (W_f_X14_quoted) s s := Fr.rfl
  refine PR.vl (fun y1 => ?_)
  refine PR.lq_2 (PR.pure Hs (fr_l_X14_quoted_6 FU x1 y1 1 s)) (fun y4 y5 s6 Hs6 => ?_)
  refine PR.bd (PR.pure Hs6 (fr_f_X14_ch y4 s6)) (fun r13 s10 Hs10 => ?_)
  refine PR.ite (fun _ => ?_) (fun _ => ?_)
  · refine PR.bd (PR.pure Hs10 (fr_f_X14_ch (w32 (y4 + 1)) s10)) (fun r19 s16 Hs16 => ?_)
    refine PR.ite (fun _ => ?_) (fun _ => ?_)
    · exact PR.call Hs16 (fr_j_X14_quoted_128 x1 y4 1 s16) (by decide +kernel)
    · refine PR.bd (PR.pure Hs16 (fr_f_X14_ch (w32 (y4 + 1)) s16)) (fun r25 s22 Hs22 => ?_)
      refine PR.ite (fun _ => ?_) (fun _ => ?_)
      · refine PR.ite (fun _ => ?_) (fun _ => ?_)
        · exact PR.call Hs22 (fr_j_X14_quoted_128 x1 y4 0 s22) (by decide +kernel)
        · exact PR.call Hs22 (fr_j_X14_quoted_128 x1 y4 1 s22) (by decide +kernel)
      · exact PR.call Hs22 (fr_j_X14_quoted_128 x1 y4 0 s22) (by decide +kernel)
  · exact PR.call Hs10 (fr_j_X14_quoted_128 x1 y4 0 s10) (by decide +kernel)
def W_l_X14_textEnd_4 : List Nat := []
theorem fr_j_X14_textEnd_41 (rec : Int → Int → vS → Option (Int × vS)) (hrec : ∀ (y0 : Int) (y1 : Int) (s : vS), PR (W_l_X14_textEnd_4) s (fun q => q.2) (rec y0 y1 s)) (x1 : Int) (x2 : Int) (s : vS) : PR (W_l_X14_textEnd_4) s (fun q => q.2) (j_X14_textEnd_41 rec x1 x2 s) := by
  unfold j_X14_textEnd_41
  have Hs : Fr (W_l_X14_textEnd_4) s s := Fr.rfl
  refine PR.bd (PR.pure Hs (fr_f_X14_ch x2 s)) (fun r4 s1 Hs1 => ?_)
  refine PR.ite (fun _ => ?_) (fun _ => ?_)
  · refine PR.vl (fun y10 => ?_)
    exact PR.tail Hs1 (hrec x1 y10 s1)
  · refine PR.vl (fun y7 => ?_)
    exact PR.tail Hs1 (hrec x1 y7 s1)
theorem fr_l_X14_textEnd_4 : ∀ (n : Nat) (x1 : Int) (x2 : Int) (s : vS), PR (W_l_X14_textEnd_4) s (fun q => q.2) (l_X14_textEnd_4 n x1 x2 s)
  := by
  intro n
  induction n with
  | zero => intro x1 x2 s; exact PR.none
  | succ n ih =>
    intro x1 x2 s
    unfold l_X14_textEnd_4
    have Hs : Fr (W_l_X14_textEnd_4) s s := Fr.rfl
    refine PR.bd (PR.pure Hs (fr_f_X14_ch x2 s)) (fun r4 s1 Hs1 => ?_)
    refine PR.bd (PR.pure Hs1 (fr_f_X14_within r4 32 126 s1)) (fun r9 s6 Hs6 => ?_)
    refine PR.ite (fun _ => ?_) (fun _ => ?_)
    · exact PR.some Hs6
    · refine PR.bd (PR.pure Hs6 (fr_f_X14_ch x2 s6)) (fun r15 s12 Hs12 => ?_)
      refine PR.ite (fun _ => ?_) (fun _ => ?_)
      · refine PR.bd (PR.pure Hs12 (fr_f_X14_ch (w32 (x2 + 1)) s12)) (fun r21 s18 Hs18 => ?_)
        refine PR.ite (fun _ => ?_) (fun _ => ?_)
        · exact PR.tail Hs18 (fr_j_X14_textEnd_41 (l_X14_textEnd_4 n) ih x1 x2 s18)
        · exact PR.some Hs18
      · exact PR.tail Hs12 (fr_j_X14_textEnd_41 (l_X14_textEnd_4 n) ih x1 x2 s12)
def W_j_X14_textEnd_62 : List Nat := [87008, 87009]
theorem fr_j_X14_textEnd_62 (x1 : Int) (x2 : Int) (s : vS) : PR (W_j_X14_textEnd_62) s (fun q => q.2) (j_X14_textEnd_62 x1 x2 s) := by
  unfold j_X14_textEnd_62
  have Hs : Fr (W_j_X14_textEnd_62) s s := Fr.rfl
  refine PR.bd (PR.pure Hs (fr_f_X14_ch x2 s)) (fun r4 s1 Hs1 => ?_)
  refine PR.ite (fun _ => ?_) (fun _ => ?_)
  · exact PR.some Hs1
  · refine PR.bdv (PR.call Hs1 (fr_f_X14_tell 1 x1 s1) (by decide +kernel)) (fun s7 Hs7 => ?_)
    exact PR.some Hs7
def W_f_X14_textEnd : List Nat := [87008, 87009]
theorem fr_f_X14_textEnd (x1 : Int) (s : vS) : PR (W_f_X14_textEnd) s (fun q => q.2) (f_X14_textEnd x1 s) := by
  unfold f_X14_textEnd
  have Hs : Fr (W_f_X14_textEnd) s s := Fr.rfl
  refine PR.vl (fun y1 => ?_)
  refine PR.lq_1 (PR.pure Hs (fr_l_X14_textEnd_4 FU x1 y1 s)) (fun y4 s5 Hs5 => ?_)
  exact PR.call Hs5 (fr_j_X14_textEnd_62 x1 y4 s5) (by decide +kernel)
def W_l_X14_numberEnd_2 : List Nat := []
theorem fr_l_X14_numberEnd_2 : ∀ (n : Nat) (x1 : Int) (x2 : Int) (s : vS), PR (W_l_X14_numberEnd_2) s (fun q => q.2) (l_X14_numberEnd_2 n x1 x2 s)
  := by
  intro n
  induction n with
  | zero => intro x1 x2 s; exact PR.none
  | succ n ih =>
    intro x1 x2 s
    unfold l_X14_numberEnd_2
    have Hs : Fr (W_l_X14_numberEnd_2) s s := Fr.rfl
    refine PR.bd (PR.pure Hs (fr_f_X14_ch x2 s)) (fun r4 s1 Hs1 => ?_)
    refine PR.bd (PR.pure Hs1 (fr_f_X14_isDigit r4 s1)) (fun r9 s6 Hs6 => ?_)
    refine PR.ite (fun _ => ?_) (fun _ => ?_)
    · exact PR.some Hs6
    · refine PR.vl (fun y12 => ?_)
      exact PR.tail Hs6 (ih x1 y12 s6)
def W_f_X14_numberEnd : List Nat := [87008, 87009]
theorem fr_f_X14_numberEnd (x1 : Int) (s : vS) : PR (W_f_X14_numberEnd) s (fun q => q.2) (f_X14_numberEnd x1 s) := by
  unfold f_X14_numberEnd
  have Hs : Fr (W_f_X14_numberEnd) s s := Fr.rfl
  refine PR.lq_1 (PR.pure Hs (fr_l_X14_numberEnd_2 FU x1 x1 s)) (fun y1 s2 Hs2 => ?_)
  refine PR.bd (PR.pure Hs2 (fr_f_X14_ch x1 s2)) (fun r8 s5 Hs5 => ?_)
  refine PR.ite (fun _ => ?_) (fun _ => ?_)
  · refine PR.ite (fun _ => ?_) (fun _ => ?_)
    · exact PR.some Hs5
    · refine PR.bdv (PR.call Hs5 (fr_f_X14_tell 1 x1 s5) (by decide +kernel)) (fun s12 Hs12 => ?_)
      exact PR.some Hs12
  · exact PR.some Hs5
def W_j_X14_signEnd_341 : List Nat := [87008, 87009, 94999]
theorem fr_j_X14_signEnd_341 (x1 : Int) (x4 : Int) (x5 : Int) (z0 : Int) (s : vS) : PR (W_j_X14_signEnd_341) s (fun q => q.2) (j_X14_signEnd_341 x1 x4 x5 z0 s) := by
  unfold j_X14_signEnd_341
  have Hs : Fr (W_j_X14_signEnd_341) s s := Fr.rfl
  refine PR.ite (fun _ => ?_) (fun _ => ?_)
  · refine PR.ite (fun _ => ?_) (fun _ => ?_)
    · refine PR.bdv (PR.call Hs (fr_f_X14_tell 1 x1 s) (by decide +kernel)) (fun s9 Hs9 => ?_)
      refine PR.gd ?_
      refine PR.stp (Fr.wE Hs9 (by decide +kernel)) (fun s13 Hs13 => ?_)
      exact PR.some Hs13
    · refine PR.gd ?_
      refine PR.stp (Fr.wE Hs (by decide +kernel)) (fun s7 Hs7 => ?_)
      exact PR.some Hs7
  · refine PR.gd ?_
    refine PR.stp (Fr.wE Hs (by decide +kernel)) (fun s3 Hs3 => ?_)
    exact PR.some Hs3
def W_j_X14_signEnd_270 : List Nat := [87008, 87009, 94999]
theorem fr_j_X14_signEnd_270 (x1 : Int) (x2 : Int) (x4 : Int) (x5 : Int) (s : vS) : PR (W_j_X14_signEnd_270) s (fun q => q.2) (j_X14_signEnd_270 x1 x2 x4 x5 s) := by
  unfold j_X14_signEnd_270
  have Hs : Fr (W_j_X14_signEnd_270) s s := Fr.rfl
  refine PR.ite (fun _ => ?_) (fun _ => ?_)
  · exact PR.call Hs (fr_j_X14_signEnd_341 x1 x4 x5 1 s) (by decide +kernel)
  · refine PR.ite (fun _ => ?_) (fun _ => ?_)
    · exact PR.call Hs (fr_j_X14_signEnd_341 x1 x4 x5 1 s) (by decide +kernel)
    · refine PR.ite (fun _ => ?_) (fun _ => ?_)
      · exact PR.call Hs (fr_j_X14_signEnd_341 x1 x4 x5 1 s) (by decide +kernel)
      · refine PR.ite (fun _ => ?_) (fun _ => ?_)
        · exact PR.call Hs (fr_j_X14_signEnd_341 x1 x4 x5 1 s) (by decide +kernel)
        · refine PR.ite (fun _ => ?_) (fun _ => ?_)
          · exact PR.call Hs (fr_j_X14_signEnd_341 x1 x4 x5 1 s) (by decide +kernel)
          · refine PR.ite (fun _ => ?_) (fun _ => ?_)
            · exact PR.call Hs (fr_j_X14_signEnd_341 x1 x4 x5 1 s) (by decide +kernel)
            · refine PR.ite (fun _ => ?_) (fun _ => ?_)
              · exact PR.call Hs (fr_j_X14_signEnd_341 x1 x4 x5 1 s) (by decide +kernel)
              · refine PR.ite (fun _ => ?_) (fun _ => ?_)
                · exact PR.call Hs (fr_j_X14_signEnd_341 x1 x4 x5 1 s) (by decide +kernel)
                · refine PR.ite (fun _ => ?_) (fun _ => ?_)
                  · exact PR.call Hs (fr_j_X14_signEnd_341 x1 x4 x5 1 s) (by decide +kernel)
                  · refine PR.ite (fun _ => ?_) (fun _ => ?_)
                    · exact PR.call Hs (fr_j_X14_signEnd_341 x1 x4 x5 1 s) (by decide +kernel)
                    · refine PR.ite (fun _ => ?_) (fun _ => ?_)
                      · exact PR.call Hs (fr_j_X14_signEnd_341 x1 x4 x5 1 s) (by decide +kernel)
                      · exact PR.call Hs (fr_j_X14_signEnd_341 x1 x4 x5 0 s) (by decide +kernel)
def W_j_X14_signEnd_158 : List Nat := [87008, 87009, 94999]
theorem fr_j_X14_signEnd_158 (x1 : Int) (x2 : Int) (z0 : Int) (s : vS) : PR (W_j_X14_signEnd_158) s (fun q => q.2) (j_X14_signEnd_158 x1 x2 z0 s) := by
  unfold j_X14_signEnd_158
  have Hs : Fr (W_j_X14_signEnd_158) s s := Fr.rfl
  refine PR.ite (fun _ => ?_) (fun _ => ?_)
  · exact PR.call Hs (fr_j_X14_signEnd_270 x1 x2 z0 11 s) (by decide +kernel)
  · exact PR.call Hs (fr_j_X14_signEnd_270 x1 x2 z0 15 s) (by decide +kernel)
def W_j_X14_signEnd_121 : List Nat := [87008, 87009, 94999]
theorem fr_j_X14_signEnd_121 (x1 : Int) (x2 : Int) (z0 : Int) (s : vS) : PR (W_j_X14_signEnd_121) s (fun q => q.2) (j_X14_signEnd_121 x1 x2 z0 s) := by
  unfold j_X14_signEnd_121
  have Hs : Fr (W_j_X14_signEnd_121) s s := Fr.rfl
  refine PR.ite (fun _ => ?_) (fun _ => ?_)
  · exact PR.call Hs (fr_j_X14_signEnd_270 x1 x2 z0 10 s) (by decide +kernel)
  · exact PR.call Hs (fr_j_X14_signEnd_270 x1 x2 z0 14 s) (by decide +kernel)
def W_j_X14_signEnd_104 : List Nat := [87008, 87009, 94999]
theorem fr_j_X14_signEnd_104 (x1 : Int) (x2 : Int) (x3 : Int) (x4 : Int) (s : vS) : PR (W_j_X14_signEnd_104) s (fun q => q.2) (j_X14_signEnd_104 x1 x2 x3 x4 s) := by
  unfold j_X14_signEnd_104
  have Hs : Fr (W_j_X14_signEnd_104) s s := Fr.rfl
  refine PR.ite (fun _ => ?_) (fun _ => ?_)
  · refine PR.ite (fun _ => ?_) (fun _ => ?_)
    · exact PR.call Hs (fr_j_X14_signEnd_121 x1 x2 2 s) (by decide +kernel)
    · exact PR.call Hs (fr_j_X14_signEnd_121 x1 x2 1 s) (by decide +kernel)
  · refine PR.ite (fun _ => ?_) (fun _ => ?_)
    · refine PR.ite (fun _ => ?_) (fun _ => ?_)
      · exact PR.call Hs (fr_j_X14_signEnd_158 x1 x2 2 s) (by decide +kernel)
      · exact PR.call Hs (fr_j_X14_signEnd_158 x1 x2 1 s) (by decide +kernel)
    · refine PR.ite (fun _ => ?_) (fun _ => ?_)
      · exact PR.call Hs (fr_j_X14_signEnd_270 x1 x2 x4 12 s) (by decide +kernel)
      · refine PR.ite (fun _ => ?_) (fun _ => ?_)
        · exact PR.call Hs (fr_j_X14_signEnd_270 x1 x2 x4 13 s) (by decide +kernel)
        · refine PR.ite (fun _ => ?_) (fun _ => ?_)
          · exact PR.call Hs (fr_j_X14_signEnd_270 x1 x2 x4 16 s) (by decide +kernel)
          · refine PR.ite (fun _ => ?_) (fun _ => ?_)
            · exact PR.call Hs (fr_j_X14_signEnd_270 x1 x2 x4 17 s) (by decide +kernel)
            · refine PR.ite (fun _ => ?_) (fun _ => ?_)
              · exact PR.call Hs (fr_j_X14_signEnd_270 x1 x2 x4 18 s) (by decide +kernel)
              · refine PR.ite (fun _ => ?_) (fun _ => ?_)
                · exact PR.call Hs (fr_j_X14_signEnd_270 x1 x2 x4 19 s) (by decide +kernel)
                · refine PR.ite (fun _ => ?_) (fun _ => ?_)
                  · exact PR.call Hs (fr_j_X14_signEnd_270 x1 x2 x4 20 s) (by decide +kernel)
                  · refine PR.ite (fun _ => ?_) (fun _ => ?_)
                    · exact PR.call Hs (fr_j_X14_signEnd_270 x1 x2 x4 21 s) (by decide +kernel)
                    · exact PR.call Hs (fr_j_X14_signEnd_270 x1 x2 x4 22 s) (by decide +kernel)
def W_j_X14_signEnd_84 : List Nat := [87008, 87009, 94999]
theorem fr_j_X14_signEnd_84 (x1 : Int) (x2 : Int) (z0 : Int) (s : vS) : PR (W_j_X14_signEnd_84) s (fun q => q.2) (j_X14_signEnd_84 x1 x2 z0 s) := by
  unfold j_X14_signEnd_84
  have Hs : Fr (W_j_X14_signEnd_84) s s := Fr.rfl
  refine PR.ite (fun _ => ?_) (fun _ => ?_)
  · exact PR.call Hs (fr_j_X14_signEnd_270 x1 x2 z0 8 s) (by decide +kernel)
  · exact PR.call Hs (fr_j_X14_signEnd_270 x1 x2 z0 9 s) (by decide +kernel)
def W_j_X14_signEnd_55 : List Nat := [87008, 87009, 94999]
theorem fr_j_X14_signEnd_55 (x1 : Int) (x2 : Int) (x3 : Int) (x4 : Int) (s : vS) : PR (W_j_X14_signEnd_55) s (fun q => q.2) (j_X14_signEnd_55 x1 x2 x3 x4 s) := by
  unfold j_X14_signEnd_55
  have Hs : Fr (W_j_X14_signEnd_55) s s := Fr.rfl
  refine PR.ite (fun _ => ?_) (fun _ => ?_)
  · refine PR.ite (fun _ => ?_) (fun _ => ?_)
    · refine PR.bd (PR.pure Hs (fr_f_X14_ch (w32 (x1 + 2)) s)) (fun r6 s3 Hs3 => ?_)
      refine PR.ite (fun _ => ?_) (fun _ => ?_)
      · exact PR.call Hs3 (fr_j_X14_signEnd_84 x1 x2 3 s3) (by decide +kernel)
      · exact PR.call Hs3 (fr_j_X14_signEnd_84 x1 x2 2 s3) (by decide +kernel)
    · exact PR.call Hs (fr_j_X14_signEnd_104 x1 x2 x3 x4 s) (by decide +kernel)
  · exact PR.call Hs (fr_j_X14_signEnd_104 x1 x2 x3 x4 s) (by decide +kernel)
def W_f_X14_signEnd : List Nat := [87008, 87009, 94999]
theorem fr_f_X14_signEnd (x1 : Int) (s : vS) : PR (W_f_X14_signEnd) s (fun q => q.2) (f_X14_signEnd x1 s) := by
  unfold f_X14_signEnd
  have Hs : Fr (W_f_X14_signEnd) s s := Fr.rfl
  refine PR.bd (PR.pure Hs (fr_f_X14_ch x1 s)) (fun r4 s1 Hs1 => ?_)
  refine PR.bd (PR.pure Hs1 (fr_f_X14_ch (w32 (x1 + 1)) s1)) (fun r9 s6 Hs6 => ?_)
  refine PR.ite (fun _ => ?_) (fun _ => ?_)
  · refine PR.ite (fun _ => ?_) (fun _ => ?_)
    · refine PR.bd (PR.pure Hs6 (fr_f_X14_ch (w32 (x1 + 2)) s6)) (fun r16 s13 Hs13 => ?_)
      refine PR.ite (fun _ => ?_) (fun _ => ?_)
      · exact PR.call Hs13 (fr_j_X14_signEnd_270 x1 r4 3 7 s13) (by decide +kernel)
      · exact PR.call Hs13 (fr_j_X14_signEnd_55 x1 r4 r9 1 s13) (by decide +kernel)
    · exact PR.call Hs6 (fr_j_X14_signEnd_55 x1 r4 r9 1 s6) (by decide +kernel)
  · exact PR.call Hs6 (fr_j_X14_signEnd_55 x1 r4 r9 1 s6) (by decide +kernel)
def W_l_X14_cutText_11 : List Nat := [87008, 87009, 87015, 94999, 95999, 96999]
theorem fr_j_X14_cutText_154 (rec : Int → vS → Option (vS)) (hrec : ∀ (y0 : Int) (s : vS), PR (W_l_X14_cutText_11) s (fun q => q) (rec y0 s)) (x1 : Int) (x3 : Int) (s : vS) : PR (W_l_X14_cutText_11) s (fun q => q) (j_X14_cutText_154 rec x1 x3 s) := by
  unfold j_X14_cutText_154
  have Hs : Fr (W_l_X14_cutText_11) s s := Fr.rfl
  refine PR.gd ?_
  refine PR.stp (Fr.wE Hs (by decide +kernel)) (fun s2 Hs2 => ?_)
  refine PR.gd ?_
  refine PR.stp (Fr.wE Hs2 (by decide +kernel)) (fun s5 Hs5 => ?_)
  refine PR.stp (Fr.wI Hs5 (by decide +kernel)) (fun s7 Hs7 => ?_)
  refine PR.ite (fun _ => ?_) (fun _ => ?_)
  · refine PR.bd (PR.call Hs7 (fr_f_X14_skip x3 s7) (by decide +kernel)) (fun r13 s10 Hs10 => ?_)
    exact PR.tail Hs10 (hrec r13 s10)
  · exact PR.tail Hs7 (hrec x1 s7)
theorem fr_j_X14_cutText_46 (rec : Int → vS → Option (vS)) (hrec : ∀ (y0 : Int) (s : vS), PR (W_l_X14_cutText_11) s (fun q => q) (rec y0 s)) (x1 : Int) (x2 : Int) (s : vS) : PR (W_l_X14_cutText_11) s (fun q => q) (j_X14_cutText_46 rec x1 x2 s) := by
  unfold j_X14_cutText_46
  have Hs : Fr (W_l_X14_cutText_11) s s := Fr.rfl
  refine PR.bd (PR.pure Hs (fr_f_X14_nameEnd x1 s)) (fun r4 s1 Hs1 => ?_)
  refine PR.bd (PR.pure Hs1 (fr_f_X14_isSmall x2 s1)) (fun r9 s6 Hs6 => ?_)
  refine PR.gd ?_
  refine PR.ite (fun _ => ?_) (fun _ => ?_)
  · refine PR.bd (PR.pure Hs6 (fr_f_X14_wordAt x1 r4 s6)) (fun r16 s13 Hs13 => ?_)
    refine PR.gd ?_
    refine PR.gd ?_
    refine PR.stp (Fr.wE Hs13 (by decide +kernel)) (fun s20 Hs20 => ?_)
    exact PR.tail Hs20 (fr_j_X14_cutText_154 rec hrec x1 r4 s20)
  · refine PR.gd ?_
    refine PR.stp (Fr.wE Hs6 (by decide +kernel)) (fun s23 Hs23 => ?_)
    exact PR.tail Hs23 (fr_j_X14_cutText_154 rec hrec x1 r4 s23)
theorem fr_l_X14_cutText_11 : ∀ (n : Nat) (x1 : Int) (s : vS), PR (W_l_X14_cutText_11) s (fun q => q) (l_X14_cutText_11 n x1 s)
  := by
  intro n
  induction n with
  | zero => intro x1 s; exact PR.none
  | succ n ih =>
    intro x1 s
    unfold l_X14_cutText_11
    have Hs : Fr (W_l_X14_cutText_11) s s := Fr.rfl
    refine PR.ite (fun _ => ?_) (fun _ => ?_)
    · refine PR.ite (fun _ => ?_) (fun _ => ?_)
      · exact PR.some Hs
      · refine PR.bd (PR.pure Hs (fr_f_X14_ch x1 s)) (fun r6 s3 Hs3 => ?_)
        refine PR.bd (PR.pure Hs3 (fr_f_X14_isSmall r6 s3)) (fun r11 s8 Hs8 => ?_)
        refine PR.ite (fun _ => ?_) (fun _ => ?_)
        · refine PR.bd (PR.pure Hs8 (fr_f_X14_isLarge r6 s8)) (fun r17 s14 Hs14 => ?_)
          refine PR.ite (fun _ => ?_) (fun _ => ?_)
          · refine PR.bd (PR.pure Hs14 (fr_f_X14_isDigit r6 s14)) (fun r23 s20 Hs20 => ?_)
            refine PR.ite (fun _ => ?_) (fun _ => ?_)
            · refine PR.ite (fun _ => ?_) (fun _ => ?_)
              · refine PR.bd (PR.call Hs20 (fr_f_X14_quoted x1 s20) (by decide +kernel)) (fun r44 s41 Hs41 => ?_)
                exact PR.tail Hs41 (fr_j_X14_cutText_154 (l_X14_cutText_11 n) ih x1 r44 s41)
              · refine PR.ite (fun _ => ?_) (fun _ => ?_)
                · refine PR.bd (PR.call Hs20 (fr_f_X14_textEnd x1 s20) (by decide +kernel)) (fun r36 s33 Hs33 => ?_)
                  refine PR.gd ?_
                  refine PR.stp (Fr.wE Hs33 (by decide +kernel)) (fun s39 Hs39 => ?_)
                  exact PR.tail Hs39 (fr_j_X14_cutText_154 (l_X14_cutText_11 n) ih x1 r36 s39)
                · refine PR.bd (PR.call Hs20 (fr_f_X14_signEnd x1 s20) (by decide +kernel)) (fun r31 s28 Hs28 => ?_)
                  exact PR.tail Hs28 (fr_j_X14_cutText_154 (l_X14_cutText_11 n) ih x1 r31 s28)
            · refine PR.bd (PR.call Hs20 (fr_f_X14_numberEnd x1 s20) (by decide +kernel)) (fun r49 s46 Hs46 => ?_)
              refine PR.gd ?_
              refine PR.stp (Fr.wE Hs46 (by decide +kernel)) (fun s52 Hs52 => ?_)
              exact PR.tail Hs52 (fr_j_X14_cutText_154 (l_X14_cutText_11 n) ih x1 r49 s52)
          · exact PR.tail Hs14 (fr_j_X14_cutText_46 (l_X14_cutText_11 n) ih x1 r6 s14)
        · exact PR.tail Hs8 (fr_j_X14_cutText_46 (l_X14_cutText_11 n) ih x1 r6 s8)
    · exact PR.some Hs
def W_j_X14_cutText_200 : List Nat := [94999, 95999, 96999]
theorem fr_j_X14_cutText_200 (s : vS) : PR (W_j_X14_cutText_200) s (fun q => q) (j_X14_cutText_200 s) := by
  unfold j_X14_cutText_200
  have Hs : Fr (W_j_X14_cutText_200) s s := Fr.rfl
  refine PR.gd ?_
  refine PR.stp (Fr.wE Hs (by decide +kernel)) (fun s2 Hs2 => ?_)
  refine PR.gd ?_
  refine PR.stp (Fr.wE Hs2 (by decide +kernel)) (fun s5 Hs5 => ?_)
  refine PR.gd ?_
  refine PR.stp (Fr.wE Hs5 (by decide +kernel)) (fun s8 Hs8 => ?_)
  exact PR.some Hs8
def W_f_X14_cutText : List Nat := [87008, 87009, 87015, 94999, 95999, 96999]
theorem fr_f_X14_cutText (s : vS) : PR (W_f_X14_cutText) s (fun q => q) (f_X14_cutText s) := by
  unfold f_X14_cutText
  have Hs : Fr (W_f_X14_cutText) s s := Fr.rfl
  refine PR.stp (Fr.wI Hs (by decide +kernel)) (fun s1 Hs1 => ?_)
  refine PR.bd (PR.call Hs1 (fr_f_X14_skip 0 s1) (by decide +kernel)) (fun r6 s3 Hs3 => ?_)
  refine PR.lq_0 (PR.call Hs3 (fr_l_X14_cutText_11 FU r6 s3) (by decide +kernel)) (fun s8 Hs8 => ?_)
  exact PR.call Hs8 (fr_j_X14_cutText_200 s8) (by decide +kernel)
def W_f_X14_is : List Nat := []
theorem fr_f_X14_is (x1 : Int) (s : vS) : PR (W_f_X14_is) s (fun q => q.2) (f_X14_is x1 s) := by
  unfold f_X14_is
  have Hs : Fr (W_f_X14_is) s s := Fr.rfl
  refine PR.gd ?_
  refine PR.ite (fun _ => ?_) (fun _ => ?_)
  · exact PR.some Hs
  · exact PR.some Hs
def W_l_X14_misfit_43 : List Nat := []
theorem fr_l_X14_misfit_43 : ∀ (n : Nat) (x1 : Int) (x2 : Int) (x3 : Int) (x4 : Int) (s : vS), PR (W_l_X14_misfit_43) s (fun q => q.2) (l_X14_misfit_43 n x1 x2 x3 x4 s)
  := by
  intro n
  induction n with
  | zero => intro x1 x2 x3 x4 s; exact PR.none
  | succ n ih =>
    intro x1 x2 x3 x4 s
    unfold l_X14_misfit_43
    have Hs : Fr (W_l_X14_misfit_43) s s := Fr.rfl
    refine PR.ite (fun _ => ?_) (fun _ => ?_)
    · exact PR.some Hs
    · refine PR.ite (fun _ => ?_) (fun _ => ?_)
      · refine PR.gd ?_
        refine PR.ite (fun _ => ?_) (fun _ => ?_)
        · refine PR.vl (fun y11 => ?_)
          exact PR.tail Hs (ih x1 x2 1 y11 s)
        · refine PR.vl (fun y8 => ?_)
          exact PR.tail Hs (ih x1 x2 0 y8 s)
      · refine PR.vl (fun y3 => ?_)
        exact PR.tail Hs (ih x1 x2 1 y3 s)
def W_j_X14_misfit_129 : List Nat := [87008, 87009]
theorem fr_j_X14_misfit_129 (z1 : Int) (s : vS) : PR (W_j_X14_misfit_129) s (fun q => q) (j_X14_misfit_129 z1 s) := by
  unfold j_X14_misfit_129
  have Hs : Fr (W_j_X14_misfit_129) s s := Fr.rfl
  refine PR.gd ?_
  refine PR.bdv (PR.call Hs (fr_f_X14_tell z1 (gE s 95 (gI s 87 19)) s) (by decide +kernel)) (fun s2 Hs2 => ?_)
  exact PR.some Hs2
def W_j_X14_misfit_118 : List Nat := [87008, 87009]
theorem fr_j_X14_misfit_118 (z0 : Int) (s : vS) : PR (W_j_X14_misfit_118) s (fun q => q) (j_X14_misfit_118 z0 s) := by
  unfold j_X14_misfit_118
  have Hs : Fr (W_j_X14_misfit_118) s s := Fr.rfl
  refine PR.ite (fun _ => ?_) (fun _ => ?_)
  · exact PR.call Hs (fr_j_X14_misfit_129 2 s) (by decide +kernel)
  · exact PR.call Hs (fr_j_X14_misfit_129 3 s) (by decide +kernel)
def W_f_X14_misfit : List Nat := [87008, 87009]
theorem fr_f_X14_misfit (x1 : Int) (s : vS) : PR (W_f_X14_misfit) s (fun q => q) (f_X14_misfit x1 s) := by
  unfold f_X14_misfit
  have Hs : Fr (W_f_X14_misfit) s s := Fr.rfl
  refine PR.gd ?_
  refine PR.vl (fun y2 => ?_)
  refine PR.ite (fun _ => ?_) (fun _ => ?_)
  · refine PR.lq_1 (PR.pure Hs (fr_l_X14_misfit_43 FU x1 y2 1 0 s)) (fun y6 s7 Hs7 => ?_)
    refine PR.ite (fun _ => ?_) (fun _ => ?_)
    · refine PR.ite (fun _ => ?_) (fun _ => ?_)
      · exact PR.call Hs7 (fr_j_X14_misfit_118 0 s7) (by decide +kernel)
      · refine PR.ite (fun _ => ?_) (fun _ => ?_)
        · refine PR.ite (fun _ => ?_) (fun _ => ?_)
          · exact PR.call Hs7 (fr_j_X14_misfit_118 0 s7) (by decide +kernel)
          · refine PR.gd ?_
            refine PR.ite (fun _ => ?_) (fun _ => ?_)
            · exact PR.call Hs7 (fr_j_X14_misfit_118 1 s7) (by decide +kernel)
            · exact PR.call Hs7 (fr_j_X14_misfit_118 0 s7) (by decide +kernel)
        · exact PR.call Hs7 (fr_j_X14_misfit_118 0 s7) (by decide +kernel)
    · exact PR.call Hs7 (fr_j_X14_misfit_118 1 s7) (by decide +kernel)
  · refine PR.ite (fun _ => ?_) (fun _ => ?_)
    · refine PR.lq_1 (PR.pure Hs (fr_l_X14_misfit_43 FU x1 y2 1 0 s)) (fun y17 s18 Hs18 => ?_)
      refine PR.ite (fun _ => ?_) (fun _ => ?_)
      · refine PR.ite (fun _ => ?_) (fun _ => ?_)
        · exact PR.call Hs18 (fr_j_X14_misfit_118 0 s18) (by decide +kernel)
        · refine PR.ite (fun _ => ?_) (fun _ => ?_)
          · refine PR.ite (fun _ => ?_) (fun _ => ?_)
            · exact PR.call Hs18 (fr_j_X14_misfit_118 0 s18) (by decide +kernel)
            · refine PR.gd ?_
              refine PR.ite (fun _ => ?_) (fun _ => ?_)
              · exact PR.call Hs18 (fr_j_X14_misfit_118 1 s18) (by decide +kernel)
              · exact PR.call Hs18 (fr_j_X14_misfit_118 0 s18) (by decide +kernel)
          · exact PR.call Hs18 (fr_j_X14_misfit_118 0 s18) (by decide +kernel)
      · exact PR.call Hs18 (fr_j_X14_misfit_118 1 s18) (by decide +kernel)
    · refine PR.ite (fun _ => ?_) (fun _ => ?_)
      · refine PR.lq_1 (PR.pure Hs (fr_l_X14_misfit_43 FU x1 y2 1 0 s)) (fun y28 s29 Hs29 => ?_)
        refine PR.ite (fun _ => ?_) (fun _ => ?_)
        · refine PR.ite (fun _ => ?_) (fun _ => ?_)
          · exact PR.call Hs29 (fr_j_X14_misfit_118 0 s29) (by decide +kernel)
          · refine PR.ite (fun _ => ?_) (fun _ => ?_)
            · refine PR.ite (fun _ => ?_) (fun _ => ?_)
              · exact PR.call Hs29 (fr_j_X14_misfit_118 0 s29) (by decide +kernel)
              · refine PR.gd ?_
                refine PR.ite (fun _ => ?_) (fun _ => ?_)
                · exact PR.call Hs29 (fr_j_X14_misfit_118 1 s29) (by decide +kernel)
                · exact PR.call Hs29 (fr_j_X14_misfit_118 0 s29) (by decide +kernel)
            · exact PR.call Hs29 (fr_j_X14_misfit_118 0 s29) (by decide +kernel)
        · exact PR.call Hs29 (fr_j_X14_misfit_118 1 s29) (by decide +kernel)
      · refine PR.ite (fun _ => ?_) (fun _ => ?_)
        · refine PR.lq_1 (PR.pure Hs (fr_l_X14_misfit_43 FU x1 y2 1 0 s)) (fun y49 s50 Hs50 => ?_)
          refine PR.ite (fun _ => ?_) (fun _ => ?_)
          · refine PR.ite (fun _ => ?_) (fun _ => ?_)
            · exact PR.call Hs50 (fr_j_X14_misfit_118 0 s50) (by decide +kernel)
            · refine PR.ite (fun _ => ?_) (fun _ => ?_)
              · refine PR.ite (fun _ => ?_) (fun _ => ?_)
                · exact PR.call Hs50 (fr_j_X14_misfit_118 0 s50) (by decide +kernel)
                · refine PR.gd ?_
                  refine PR.ite (fun _ => ?_) (fun _ => ?_)
                  · exact PR.call Hs50 (fr_j_X14_misfit_118 1 s50) (by decide +kernel)
                  · exact PR.call Hs50 (fr_j_X14_misfit_118 0 s50) (by decide +kernel)
              · exact PR.call Hs50 (fr_j_X14_misfit_118 0 s50) (by decide +kernel)
          · exact PR.call Hs50 (fr_j_X14_misfit_118 1 s50) (by decide +kernel)
        · refine PR.lq_1 (PR.pure Hs (fr_l_X14_misfit_43 FU x1 y2 0 0 s)) (fun y39 s40 Hs40 => ?_)
          refine PR.ite (fun _ => ?_) (fun _ => ?_)
          · refine PR.ite (fun _ => ?_) (fun _ => ?_)
            · exact PR.call Hs40 (fr_j_X14_misfit_118 0 s40) (by decide +kernel)
            · refine PR.ite (fun _ => ?_) (fun _ => ?_)
              · refine PR.ite (fun _ => ?_) (fun _ => ?_)
                · exact PR.call Hs40 (fr_j_X14_misfit_118 0 s40) (by decide +kernel)
                · refine PR.gd ?_
                  refine PR.ite (fun _ => ?_) (fun _ => ?_)
                  · exact PR.call Hs40 (fr_j_X14_misfit_118 1 s40) (by decide +kernel)
                  · exact PR.call Hs40 (fr_j_X14_misfit_118 0 s40) (by decide +kernel)
              · exact PR.call Hs40 (fr_j_X14_misfit_118 0 s40) (by decide +kernel)
          · exact PR.call Hs40 (fr_j_X14_misfit_118 1 s40) (by decide +kernel)
def W_f_X14_take : List Nat := [87008, 87009, 87019]
theorem fr_f_X14_take (x1 : Int) (s : vS) : PR (W_f_X14_take) s (fun q => q.2) (f_X14_take x1 s) := by
  unfold f_X14_take
  have Hs : Fr (W_f_X14_take) s s := Fr.rfl
  refine PR.ite (fun _ => ?_) (fun _ => ?_)
  · refine PR.bd (PR.pure Hs (fr_f_X14_is x1 s)) (fun r5 s2 Hs2 => ?_)
    refine PR.ite (fun _ => ?_) (fun _ => ?_)
    · refine PR.bdv (PR.call Hs2 (fr_f_X14_misfit 1 s2) (by decide +kernel)) (fun s10 Hs10 => ?_)
      exact PR.some Hs10
    · refine PR.stp (Fr.wI Hs2 (by decide +kernel)) (fun s8 Hs8 => ?_)
      exact PR.some Hs8
  · exact PR.some Hs
def W_f_X14_eat : List Nat := [87019]
theorem fr_f_X14_eat (x1 : Int) (s : vS) : PR (W_f_X14_eat) s (fun q => q.2) (f_X14_eat x1 s) := by
  unfold f_X14_eat
  have Hs : Fr (W_f_X14_eat) s s := Fr.rfl
  refine PR.ite (fun _ => ?_) (fun _ => ?_)
  · exact PR.some Hs
  · refine PR.bd (PR.pure Hs (fr_f_X14_is x1 s)) (fun r5 s2 Hs2 => ?_)
    refine PR.ite (fun _ => ?_) (fun _ => ?_)
    · exact PR.some Hs2
    · refine PR.stp (Fr.wI Hs2 (by decide +kernel)) (fun s8 Hs8 => ?_)
      exact PR.some Hs8
def W_l_X14_roomForBytes_21 : List Nat := []
theorem fr_l_X14_roomForBytes_21 : ∀ (n : Nat) (x1 : Int) (x2 : Int) (s : vS), PR (W_l_X14_roomForBytes_21) s (fun q => q.2) (l_X14_roomForBytes_21 n x1 x2 s)
  := by
  intro n
  induction n with
  | zero => intro x1 x2 s; exact PR.none
  | succ n ih =>
    intro x1 x2 s
    unfold l_X14_roomForBytes_21
    have Hs : Fr (W_l_X14_roomForBytes_21) s s := Fr.rfl
    refine PR.ite (fun _ => ?_) (fun _ => ?_)
    · exact PR.some Hs
    · refine PR.vl (fun y2 => ?_)
      exact PR.tail Hs (ih x1 y2 s)
def W_f_X14_roomForBytes : List Nat := [149998, 149999]
theorem fr_f_X14_roomForBytes (x1 : Int) (s : vS) : PR (W_f_X14_roomForBytes) s (fun q => q) (f_X14_roomForBytes x1 s) := by
  unfold f_X14_roomForBytes
  have Hs : Fr (W_f_X14_roomForBytes) s s := Fr.rfl
  refine PR.ite (fun _ => ?_) (fun _ => ?_)
  · refine PR.vl (fun y2 => ?_)
    refine PR.lq_1 (PR.pure Hs (fr_l_X14_roomForBytes_21 FU x1 y2 s)) (fun y5 s6 Hs6 => ?_)
    refine PR.bdv (PR.pure Hs6 (fr_f_X14_longer 149 y5 s6)) (fun s9 Hs9 => ?_)
    refine PR.gd ?_
    refine PR.stp (Fr.wswT Hs9 (by decide) (by decide +kernel) (by decide +kernel)) (fun s13 Hs13 => ?_)
    refine PR.stp (Fr.wrs Hs13) (fun s15 Hs15 => ?_)
    exact PR.some Hs15
  · exact PR.some Hs
def W_f_X14_roomForDigits : List Nat := [152998, 152999]
theorem fr_f_X14_roomForDigits (x1 : Int) (s : vS) : PR (W_f_X14_roomForDigits) s (fun q => q) (f_X14_roomForDigits x1 s) := by
  unfold f_X14_roomForDigits
  have Hs : Fr (W_f_X14_roomForDigits) s s := Fr.rfl
  refine PR.ite (fun _ => ?_) (fun _ => ?_)
  · refine PR.gd ?_
    refine PR.stp (Fr.wAT Hs (by decide)) (fun s3 Hs3 => ?_)
    refine PR.gd ?_
    refine PR.stp (Fr.wswT Hs3 (by decide) (by decide +kernel) (by decide +kernel)) (fun s6 Hs6 => ?_)
    refine PR.stp (Fr.wrs Hs6) (fun s8 Hs8 => ?_)
    exact PR.some Hs8
  · exact PR.some Hs
def W_l_X14_keepNumber_4 : List Nat := []
theorem fr_j_X14_keepNumber_75 (rec : Int → Int → Int → vS → Option (Int × vS)) (hrec : ∀ (y0 : Int) (y1 : Int) (y2 : Int) (s : vS), PR (W_l_X14_keepNumber_4) s (fun q => q.2) (rec y0 y1 y2 s)) (x1 : Int) (x2 : Int) (z0 : Int) (s : vS) : PR (W_l_X14_keepNumber_4) s (fun q => q.2) (j_X14_keepNumber_75 rec x1 x2 z0 s) := by
  unfold j_X14_keepNumber_75
  have Hs : Fr (W_l_X14_keepNumber_4) s s := Fr.rfl
  refine PR.ite (fun _ => ?_) (fun _ => ?_)
  · exact PR.tail Hs (hrec x1 x2 z0 s)
  · refine PR.vl (fun y2 => ?_)
    exact PR.tail Hs (hrec x1 y2 z0 s)
theorem fr_j_X14_keepNumber_55 (rec : Int → Int → Int → vS → Option (Int × vS)) (hrec : ∀ (y0 : Int) (y1 : Int) (y2 : Int) (s : vS), PR (W_l_X14_keepNumber_4) s (fun q => q.2) (rec y0 y1 y2 s)) (x1 : Int) (x2 : Int) (x4 : Int) (x5 : Int) (s : vS) : PR (W_l_X14_keepNumber_4) s (fun q => q.2) (j_X14_keepNumber_55 rec x1 x2 x4 x5 s) := by
  unfold j_X14_keepNumber_55
  have Hs : Fr (W_l_X14_keepNumber_4) s s := Fr.rfl
  refine PR.ite (fun _ => ?_) (fun _ => ?_)
  · refine PR.ite (fun _ => ?_) (fun _ => ?_)
    · exact PR.tail Hs (fr_j_X14_keepNumber_75 rec hrec x1 x2 0 s)
    · exact PR.tail Hs (fr_j_X14_keepNumber_75 rec hrec x1 x2 1 s)
  · exact PR.tail Hs (fr_j_X14_keepNumber_75 rec hrec x1 x2 0 s)
theorem fr_l_X14_keepNumber_4 : ∀ (n : Nat) (x1 : Int) (x2 : Int) (x3 : Int) (s : vS), PR (W_l_X14_keepNumber_4) s (fun q => q.2) (l_X14_keepNumber_4 n x1 x2 x3 s)
  := by
  intro n
  induction n with
  | zero => intro x1 x2 x3 s; exact PR.none
  | succ n ih =>
    intro x1 x2 x3 s
    unfold l_X14_keepNumber_4
    have Hs : Fr (W_l_X14_keepNumber_4) s s := Fr.rfl
    refine PR.ite (fun _ => ?_) (fun _ => ?_)
    · exact PR.some Hs
    · refine PR.ite (fun _ => ?_) (fun _ => ?_)
      · exact PR.some Hs
      · refine PR.gd ?_
        refine PR.vl (fun y4 => ?_)
        refine PR.gd ?_
        refine PR.vl (fun y8 => ?_)
        refine PR.ite (fun _ => ?_) (fun _ => ?_)
        · refine PR.ite (fun _ => ?_) (fun _ => ?_)
          · exact PR.tail Hs (fr_j_X14_keepNumber_75 (l_X14_keepNumber_4 n) ih x1 x2 1 s)
          · exact PR.tail Hs (fr_j_X14_keepNumber_55 (l_X14_keepNumber_4 n) ih x1 x2 y4 y8 s)
        · exact PR.tail Hs (fr_j_X14_keepNumber_55 (l_X14_keepNumber_4 n) ih x1 x2 y4 y8 s)
def W_j_X14_keepNumber_132 : List Nat := [87084, 147999, 148999]
theorem fr_j_X14_keepNumber_132 (x1 : Int) (x2 : Int) (s : vS) : PR (W_j_X14_keepNumber_132) s (fun q => q.2) (j_X14_keepNumber_132 x1 x2 s) := by
  unfold j_X14_keepNumber_132
  have Hs : Fr (W_j_X14_keepNumber_132) s s := Fr.rfl
  refine PR.gd ?_
  refine PR.stp (Fr.wE Hs (by decide +kernel)) (fun s2 Hs2 => ?_)
  refine PR.gd ?_
  refine PR.stp (Fr.wE Hs2 (by decide +kernel)) (fun s5 Hs5 => ?_)
  refine PR.stp (Fr.wI Hs5 (by decide +kernel)) (fun s7 Hs7 => ?_)
  exact PR.some Hs7
def W_j_X14_keepNumber_86 : List Nat := [87084, 147998, 147999, 148998, 148999]
theorem fr_j_X14_keepNumber_86 (x1 : Int) (x2 : Int) (s : vS) : PR (W_j_X14_keepNumber_86) s (fun q => q.2) (j_X14_keepNumber_86 x1 x2 s) := by
  unfold j_X14_keepNumber_86
  have Hs : Fr (W_j_X14_keepNumber_86) s s := Fr.rfl
  refine PR.ite (fun _ => ?_) (fun _ => ?_)
  · refine PR.bdv (PR.pure Hs (fr_f_X14_longer 147 (w32 (2 * (gI s 87 84))) s)) (fun s2 Hs2 => ?_)
    refine PR.gd ?_
    refine PR.stp (Fr.wswT Hs2 (by decide) (by decide +kernel) (by decide +kernel)) (fun s6 Hs6 => ?_)
    refine PR.stp (Fr.wrs Hs6) (fun s8 Hs8 => ?_)
    refine PR.bdv (PR.pure Hs8 (fr_f_X14_longer 148 (w32 (2 * (gI s8 87 84))) s8)) (fun s10 Hs10 => ?_)
    refine PR.gd ?_
    refine PR.stp (Fr.wswT Hs10 (by decide) (by decide +kernel) (by decide +kernel)) (fun s14 Hs14 => ?_)
    refine PR.stp (Fr.wrs Hs14) (fun s16 Hs16 => ?_)
    exact PR.call Hs16 (fr_j_X14_keepNumber_132 x1 x2 s16) (by decide +kernel)
  · exact PR.call Hs (fr_j_X14_keepNumber_132 x1 x2 s) (by decide +kernel)
def W_f_X14_keepNumber : List Nat := [87084, 147998, 147999, 148998, 148999]
theorem fr_f_X14_keepNumber (x1 : Int) (s : vS) : PR (W_f_X14_keepNumber) s (fun q => q.2) (f_X14_keepNumber x1 s) := by
  unfold f_X14_keepNumber
  have Hs : Fr (W_f_X14_keepNumber) s s := Fr.rfl
  refine PR.lq_1 (PR.pure Hs (fr_l_X14_keepNumber_4 FU x1 0 1 s)) (fun y1 s2 Hs2 => ?_)
  exact PR.call Hs2 (fr_j_X14_keepNumber_86 x1 y1 s2) (by decide +kernel)
def W_l_X14_makeNumber_65 : List Nat := [152999]
theorem fr_l_X14_makeNumber_65 : ∀ (n : Nat) (x1 : Int) (x2 : Int) (x4 : Int) (x5 : Int) (x6 : Int) (x7 : Int) (s : vS), PR (W_l_X14_makeNumber_65) s (fun q => q.2) (l_X14_makeNumber_65 n x1 x2 x4 x5 x6 x7 s)
  := by
  intro n
  induction n with
  | zero => intro x1 x2 x4 x5 x6 x7 s; exact PR.none
  | succ n ih =>
    intro x1 x2 x4 x5 x6 x7 s
    unfold l_X14_makeNumber_65
    have Hs : Fr (W_l_X14_makeNumber_65) s s := Fr.rfl
    refine PR.ite (fun _ => ?_) (fun _ => ?_)
    · exact PR.some Hs
    · refine PR.gd ?_
      refine PR.vl (fun y3 => ?_)
      refine PR.gd ?_
      refine PR.stp (Fr.wE Hs (by decide +kernel)) (fun s7 Hs7 => ?_)
      refine PR.vl (fun y9 => ?_)
      refine PR.vl (fun y12 => ?_)
      exact PR.tail Hs7 (ih x1 x2 x4 x5 y9 y12 s7)
def W_l_X14_makeNumber_39 : List Nat := [152999]
theorem fr_l_X14_makeNumber_39 : ∀ (n : Nat) (x1 : Int) (x2 : Int) (x4 : Int) (x5 : Int) (s : vS), PR (W_l_X14_makeNumber_39) s (fun q => q.2) (l_X14_makeNumber_39 n x1 x2 x4 x5 s)
  := by
  intro n
  induction n with
  | zero => intro x1 x2 x4 x5 s; exact PR.none
  | succ n ih =>
    intro x1 x2 x4 x5 s
    unfold l_X14_makeNumber_39
    have Hs : Fr (W_l_X14_makeNumber_39) s s := Fr.rfl
    refine PR.gd ?_
    refine PR.ite (fun _ => ?_) (fun _ => ?_)
    · exact PR.some Hs
    · refine PR.gd ?_
      refine PR.vl (fun y4 => ?_)
      refine PR.lq_1 (PR.call Hs (fr_l_X14_makeNumber_65 FU x1 x2 x4 x5 y4 0 s) (by decide +kernel)) (fun y7 s8 Hs8 => ?_)
      refine PR.ite (fun _ => ?_) (fun _ => ?_)
      · refine PR.vl (fun y12 => ?_)
        exact PR.tail Hs8 (ih x1 x2 x4 y12 s8)
      · refine PR.gd ?_
        refine PR.stp (Fr.wE Hs8 (by decide +kernel)) (fun s16 Hs16 => ?_)
        refine PR.vl (fun y18 => ?_)
        refine PR.vl (fun y21 => ?_)
        exact PR.tail Hs16 (ih x1 x2 y18 y21 s16)
def W_l_X14_makeNumber_224 : List Nat := [87085, 149999]
theorem fr_l_X14_makeNumber_224 : ∀ (n : Nat) (x5 : Int) (x6 : Int) (s : vS), PR (W_l_X14_makeNumber_224) s (fun q => q) (l_X14_makeNumber_224 n x5 x6 s)
  := by
  intro n
  induction n with
  | zero => intro x5 x6 s; exact PR.none
  | succ n ih =>
    intro x5 x6 s
    unfold l_X14_makeNumber_224
    have Hs : Fr (W_l_X14_makeNumber_224) s s := Fr.rfl
    refine PR.ite (fun _ => ?_) (fun _ => ?_)
    · exact PR.some Hs
    · refine PR.gd ?_
      refine PR.gd ?_
      refine PR.stp (Fr.wE Hs (by decide +kernel)) (fun s4 Hs4 => ?_)
      refine PR.stp (Fr.wI Hs4 (by decide +kernel)) (fun s6 Hs6 => ?_)
      refine PR.vl (fun y8 => ?_)
      exact PR.tail Hs6 (ih x5 y8 s6)
def W_j_X14_makeNumber_206 : List Nat := [87084, 87085, 147998, 147999, 148998, 148999, 149998, 149999]
theorem fr_j_X14_makeNumber_206 (x4 : Int) (s : vS) : PR (W_j_X14_makeNumber_206) s (fun q => q.2) (j_X14_makeNumber_206 x4 s) := by
  unfold j_X14_makeNumber_206
  have Hs : Fr (W_j_X14_makeNumber_206) s s := Fr.rfl
  refine PR.bdv (PR.call Hs (fr_f_X14_roomForBytes x4 s) (by decide +kernel)) (fun s1 Hs1 => ?_)
  refine PR.vl (fun y4 => ?_)
  refine PR.vl (fun y7 => ?_)
  refine PR.lq_0 (PR.call Hs1 (fr_l_X14_makeNumber_224 FU y4 y7 s1) (by decide +kernel)) (fun s10 Hs10 => ?_)
  refine PR.bd (PR.call Hs10 (fr_f_X14_keepNumber y4 s10) (by decide +kernel)) (fun r15 s12 Hs12 => ?_)
  exact PR.some Hs12
def W_l_X14_makeNumber_157 : List Nat := [152999]
theorem fr_l_X14_makeNumber_157 : ∀ (n : Nat) (x4 : Int) (x5 : Int) (x6 : Int) (s : vS), PR (W_l_X14_makeNumber_157) s (fun q => q) (l_X14_makeNumber_157 n x4 x5 x6 s)
  := by
  intro n
  induction n with
  | zero => intro x4 x5 x6 s; exact PR.none
  | succ n ih =>
    intro x4 x5 x6 s
    unfold l_X14_makeNumber_157
    have Hs : Fr (W_l_X14_makeNumber_157) s s := Fr.rfl
    refine PR.ite (fun _ => ?_) (fun _ => ?_)
    · exact PR.some Hs
    · refine PR.gd ?_
      refine PR.vl (fun y3 => ?_)
      refine PR.gd ?_
      refine PR.stp (Fr.wE Hs (by decide +kernel)) (fun s7 Hs7 => ?_)
      refine PR.vl (fun y9 => ?_)
      refine PR.vl (fun y12 => ?_)
      exact PR.tail Hs7 (ih x4 y9 y12 s7)
def W_f_X14_makeNumber : List Nat := [87084, 87085, 147998, 147999, 148998, 148999, 149998, 149999, 152998, 152999]
theorem fr_f_X14_makeNumber (x1 : Int) (x2 : Int) (s : vS) : PR (W_f_X14_makeNumber) s (fun q => q.2) (f_X14_makeNumber x1 x2 s) := by
  unfold f_X14_makeNumber
  have Hs : Fr (W_f_X14_makeNumber) s s := Fr.rfl
  refine PR.gd ?_
  refine PR.gd ?_
  refine PR.vl (fun y3 => ?_)
  refine PR.bdv (PR.call Hs (fr_f_X14_roomForDigits (w32 (y3 + 2)) s) (by decide +kernel)) (fun s6 Hs6 => ?_)
  refine PR.gd ?_
  refine PR.stp (Fr.wE Hs6 (by decide +kernel)) (fun s10 Hs10 => ?_)
  refine PR.gd ?_
  refine PR.vl (fun y13 => ?_)
  refine PR.lq_1 (PR.call Hs10 (fr_l_X14_makeNumber_39 FU x1 x2 1 y13 s10) (by decide +kernel)) (fun y16 s17 Hs17 => ?_)
  refine PR.gd ?_
  refine PR.stp (Fr.wE Hs17 (by decide +kernel)) (fun s21 Hs21 => ?_)
  refine PR.vl (fun y23 => ?_)
  refine PR.ite (fun _ => ?_) (fun _ => ?_)
  · exact PR.call Hs21 (fr_j_X14_makeNumber_206 y23 s21) (by decide +kernel)
  · refine PR.lq_0 (PR.call Hs21 (fr_l_X14_makeNumber_157 FU y23 1 0 s21) (by decide +kernel)) (fun s27 Hs27 => ?_)
    exact PR.call Hs27 (fr_j_X14_makeNumber_206 y23 s27) (by decide +kernel)
def W_f_X14_numberOf : List Nat := [87084, 87085, 147998, 147999, 148998, 148999, 149998, 149999, 150999, 151999, 152998, 152999]
theorem fr_f_X14_numberOf (x1 : Int) (x2 : Int) (s : vS) : PR (W_f_X14_numberOf) s (fun q => q.2) (f_X14_numberOf x1 x2 s) := by
  unfold f_X14_numberOf
  have Hs : Fr (W_f_X14_numberOf) s s := Fr.rfl
  refine PR.ite (fun _ => ?_) (fun _ => ?_)
  · refine PR.gd ?_
    refine PR.ite (fun _ => ?_) (fun _ => ?_)
    · refine PR.gd ?_
      exact PR.some Hs
    · refine PR.bd (PR.call Hs (fr_f_X14_makeNumber x1 0 s) (by decide +kernel)) (fun r8 s5 Hs5 => ?_)
      refine PR.gd ?_
      refine PR.gd ?_
      refine PR.stp (Fr.wE Hs5 (by decide +kernel)) (fun s12 Hs12 => ?_)
      refine PR.gd ?_
      exact PR.some Hs12
  · refine PR.gd ?_
    refine PR.ite (fun _ => ?_) (fun _ => ?_)
    · refine PR.gd ?_
      exact PR.some Hs
    · refine PR.bd (PR.call Hs (fr_f_X14_makeNumber x1 1 s) (by decide +kernel)) (fun r21 s18 Hs18 => ?_)
      refine PR.gd ?_
      refine PR.gd ?_
      refine PR.stp (Fr.wE Hs18 (by decide +kernel)) (fun s25 Hs25 => ?_)
      refine PR.gd ?_
      exact PR.some Hs25
def W_l_X14_smallNumber_12 : List Nat := [87085, 149999]
theorem fr_l_X14_smallNumber_12 : ∀ (n : Nat) (x1 : Int) (x2 : Int) (x3 : Int) (s : vS), PR (W_l_X14_smallNumber_12) s (fun q => q) (l_X14_smallNumber_12 n x1 x2 x3 s)
  := by
  intro n
  induction n with
  | zero => intro x1 x2 x3 s; exact PR.none
  | succ n ih =>
    intro x1 x2 x3 s
    unfold l_X14_smallNumber_12
    have Hs : Fr (W_l_X14_smallNumber_12) s s := Fr.rfl
    refine PR.ite (fun _ => ?_) (fun _ => ?_)
    · exact PR.some Hs
    · refine PR.gd ?_
      refine PR.stp (Fr.wE Hs (by decide +kernel)) (fun s3 Hs3 => ?_)
      refine PR.stp (Fr.wI Hs3 (by decide +kernel)) (fun s5 Hs5 => ?_)
      refine PR.vl (fun y7 => ?_)
      exact PR.tail Hs5 (ih x1 x2 y7 s5)
def W_f_X14_smallNumber : List Nat := [87084, 87085, 147998, 147999, 148998, 148999, 149998, 149999]
theorem fr_f_X14_smallNumber (x1 : Int) (s : vS) : PR (W_f_X14_smallNumber) s (fun q => q.2) (f_X14_smallNumber x1 s) := by
  unfold f_X14_smallNumber
  have Hs : Fr (W_f_X14_smallNumber) s s := Fr.rfl
  refine PR.bdv (PR.call Hs (fr_f_X14_roomForBytes 4 s) (by decide +kernel)) (fun s1 Hs1 => ?_)
  refine PR.vl (fun y4 => ?_)
  refine PR.lq_0 (PR.call Hs1 (fr_l_X14_smallNumber_12 FU x1 y4 3 s1) (by decide +kernel)) (fun s7 Hs7 => ?_)
  refine PR.bd (PR.call Hs7 (fr_f_X14_keepNumber y4 s7) (by decide +kernel)) (fun r12 s9 Hs9 => ?_)
  exact PR.some Hs9
def W_l_X14_compareNumbers_109 : List Nat := []
theorem fr_l_X14_compareNumbers_109 : ∀ (n : Nat) (x1 : Int) (x2 : Int) (x5 : Int) (s : vS), PR (W_l_X14_compareNumbers_109) s (Sum.elim (fun q => q) (fun q => q.2)) (l_X14_compareNumbers_109 n x1 x2 x5 s)
  := by
  intro n
  induction n with
  | zero => intro x1 x2 x5 s; exact PR.none
  | succ n ih =>
    intro x1 x2 x5 s
    unfold l_X14_compareNumbers_109
    have Hs : Fr (W_l_X14_compareNumbers_109) s s := Fr.rfl
    refine PR.gd ?_
    refine PR.ite (fun _ => ?_) (fun _ => ?_)
    · exact PR.some Hs
    · refine PR.gd ?_
      refine PR.gd ?_
      refine PR.gd ?_
      refine PR.gd ?_
      refine PR.ite (fun _ => ?_) (fun _ => ?_)
      · refine PR.vl (fun y8 => ?_)
        exact PR.tail Hs (ih x1 x2 y8 s)
      · refine PR.gd ?_
        refine PR.gd ?_
        refine PR.gd ?_
        refine PR.gd ?_
        refine PR.ite (fun _ => ?_) (fun _ => ?_)
        · exact PR.some Hs
        · exact PR.some Hs
def W_j_X14_compareNumbers_96 : List Nat := []
theorem fr_j_X14_compareNumbers_96 (x3 : Int) (z0 : Int) (s : vS) : PR (W_j_X14_compareNumbers_96) s (fun q => q.2) (j_X14_compareNumbers_96 x3 z0 s) := by
  unfold j_X14_compareNumbers_96
  have Hs : Fr (W_j_X14_compareNumbers_96) s s := Fr.rfl
  refine PR.ite (fun _ => ?_) (fun _ => ?_)
  · exact PR.some Hs
  · exact PR.some Hs
def W_j_X14_compareNumbers_43 : List Nat := []
theorem fr_j_X14_compareNumbers_43 (x1 : Int) (x2 : Int) (x3 : Int) (z0 : Int) (s : vS) : PR (W_j_X14_compareNumbers_43) s (fun q => q.2) (j_X14_compareNumbers_43 x1 x2 x3 z0 s) := by
  unfold j_X14_compareNumbers_43
  have Hs : Fr (W_j_X14_compareNumbers_43) s s := Fr.rfl
  refine PR.ite (fun _ => ?_) (fun _ => ?_)
  · refine PR.gd ?_
    refine PR.gd ?_
    refine PR.ite (fun _ => ?_) (fun _ => ?_)
    · refine PR.lqs_0 (PR.pure Hs (fr_l_X14_compareNumbers_109 FU x1 x2 0 s)) (fun s5 Hs5 => ?_) (fun q Hq => PR.some Hq)
      exact PR.some Hs5
    · refine PR.gd ?_
      refine PR.gd ?_
      refine PR.ite (fun _ => ?_) (fun _ => ?_)
      · exact PR.pure Hs (fr_j_X14_compareNumbers_96 x3 0 s)
      · exact PR.pure Hs (fr_j_X14_compareNumbers_96 x3 1 s)
  · refine PR.ite (fun _ => ?_) (fun _ => ?_)
    · exact PR.some Hs
    · exact PR.some Hs
def W_j_X14_compareNumbers_21 : List Nat := []
theorem fr_j_X14_compareNumbers_21 (x1 : Int) (x2 : Int) (z0 : Int) (s : vS) : PR (W_j_X14_compareNumbers_21) s (fun q => q.2) (j_X14_compareNumbers_21 x1 x2 z0 s) := by
  unfold j_X14_compareNumbers_21
  have Hs : Fr (W_j_X14_compareNumbers_21) s s := Fr.rfl
  refine PR.gd ?_
  refine PR.gd ?_
  refine PR.ite (fun _ => ?_) (fun _ => ?_)
  · exact PR.pure Hs (fr_j_X14_compareNumbers_43 x1 x2 z0 0 s)
  · exact PR.pure Hs (fr_j_X14_compareNumbers_43 x1 x2 z0 1 s)
def W_f_X14_compareNumbers : List Nat := []
theorem fr_f_X14_compareNumbers (x1 : Int) (x2 : Int) (s : vS) : PR (W_f_X14_compareNumbers) s (fun q => q.2) (f_X14_compareNumbers x1 x2 s) := by
  unfold f_X14_compareNumbers
  have Hs : Fr (W_f_X14_compareNumbers) s s := Fr.rfl
  refine PR.gd ?_
  refine PR.gd ?_
  refine PR.ite (fun _ => ?_) (fun _ => ?_)
  · exact PR.pure Hs (fr_j_X14_compareNumbers_21 x1 x2 0 s)
  · exact PR.pure Hs (fr_j_X14_compareNumbers_21 x1 x2 1 s)
def W_l_X14_asInt_18 : List Nat := []
theorem fr_l_X14_asInt_18 : ∀ (n : Nat) (x1 : Int) (x2 : Int) (x3 : Int) (s : vS), PR (W_l_X14_asInt_18) s (fun q => q.2) (l_X14_asInt_18 n x1 x2 x3 s)
  := by
  intro n
  induction n with
  | zero => intro x1 x2 x3 s; exact PR.none
  | succ n ih =>
    intro x1 x2 x3 s
    unfold l_X14_asInt_18
    have Hs : Fr (W_l_X14_asInt_18) s s := Fr.rfl
    refine PR.gd ?_
    refine PR.ite (fun _ => ?_) (fun _ => ?_)
    · exact PR.some Hs
    · refine PR.gd ?_
      refine PR.gd ?_
      refine PR.vl (fun y5 => ?_)
      refine PR.vl (fun y8 => ?_)
      exact PR.tail Hs (ih x1 y5 y8 s)
def W_f_X14_asInt : List Nat := []
theorem fr_f_X14_asInt (x1 : Int) (s : vS) : PR (W_f_X14_asInt) s (fun q => q.2) (f_X14_asInt x1 s) := by
  unfold f_X14_asInt
  have Hs : Fr (W_f_X14_asInt) s s := Fr.rfl
  refine PR.gd ?_
  refine PR.ite (fun _ => ?_) (fun _ => ?_)
  · refine PR.lq_1 (PR.pure Hs (fr_l_X14_asInt_18 FU x1 0 0 s)) (fun y3 s4 Hs4 => ?_)
    exact PR.some Hs4
  · exact PR.some Hs
def W_j_X14_tag_186 : List Nat := [87032, 100999, 111999]
theorem fr_j_X14_tag_186 (x1 : Int) (z1 : Int) (z2 : Int) (s : vS) : PR (W_j_X14_tag_186) s (fun q => q) (j_X14_tag_186 x1 z1 z2 s) := by
  unfold j_X14_tag_186
  have Hs : Fr (W_j_X14_tag_186) s s := Fr.rfl
  refine PR.gd ?_
  refine PR.stp (Fr.wE Hs (by decide +kernel)) (fun s2 Hs2 => ?_)
  refine PR.stp (Fr.wI Hs2 (by decide +kernel)) (fun s4 Hs4 => ?_)
  refine PR.gd ?_
  refine PR.gd ?_
  refine PR.stp (Fr.wE Hs4 (by decide +kernel)) (fun s8 Hs8 => ?_)
  exact PR.some Hs8
def W_j_X14_tag_117 : List Nat := [87008, 87009, 87019, 87032, 87084, 87085, 100999, 110999, 111999, 147998, 147999, 148998, 148999, 149998, 149999, 150999, 151999, 152998, 152999]
theorem fr_j_X14_tag_117 (x1 : Int) (x2 : Int) (s : vS) : PR (W_j_X14_tag_117) s (fun q => q) (j_X14_tag_117 x1 x2 s) := by
  unfold j_X14_tag_117
  have Hs : Fr (W_j_X14_tag_117) s s := Fr.rfl
  refine PR.bd (PR.call Hs (fr_f_X14_take 3 s) (by decide +kernel)) (fun r4 s1 Hs1 => ?_)
  refine PR.ite (fun _ => ?_) (fun _ => ?_)
  · refine PR.bd (PR.call Hs1 (fr_f_X14_numberOf r4 0 s1) (by decide +kernel)) (fun r10 s7 Hs7 => ?_)
    refine PR.gd ?_
    refine PR.bd (PR.pure Hs7 (fr_f_X14_asInt r10 s7)) (fun r16 s13 Hs13 => ?_)
    refine PR.gd ?_
    refine PR.gd ?_
    refine PR.stp (Fr.wE Hs13 (by decide +kernel)) (fun s20 Hs20 => ?_)
    refine PR.bd (PR.call Hs20 (fr_f_X14_take 15 s20) (by decide +kernel)) (fun r25 s22 Hs22 => ?_)
    refine PR.bd (PR.call Hs22 (fr_f_X14_eat 74 s22) (by decide +kernel)) (fun r30 s27 Hs27 => ?_)
    refine PR.gd ?_
    refine PR.ite (fun _ => ?_) (fun _ => ?_)
    · refine PR.bd (PR.call Hs27 (fr_f_X14_eat 63 s27) (by decide +kernel)) (fun r37 s34 Hs34 => ?_)
      refine PR.gd ?_
      refine PR.ite (fun _ => ?_) (fun _ => ?_)
      · exact PR.call Hs34 (fr_j_X14_tag_186 x1 x2 0 s34) (by decide +kernel)
      · exact PR.call Hs34 (fr_j_X14_tag_186 x1 x2 2 s34) (by decide +kernel)
    · exact PR.call Hs27 (fr_j_X14_tag_186 x1 x2 1 s27) (by decide +kernel)
  · exact PR.some Hs1
def W_j_X14_tag_78 : List Nat := [87008, 87009, 87019, 87032, 87084, 87085, 100999, 110999, 111999, 147998, 147999, 148998, 148999, 149998, 149999, 150999, 151999, 152998, 152999]
theorem fr_j_X14_tag_78 (x1 : Int) (x2 : Int) (s : vS) : PR (W_j_X14_tag_78) s (fun q => q) (j_X14_tag_78 x1 x2 s) := by
  unfold j_X14_tag_78
  have Hs : Fr (W_j_X14_tag_78) s s := Fr.rfl
  refine PR.ite (fun _ => ?_) (fun _ => ?_)
  · refine PR.bd (PR.pure Hs (fr_f_X14_is 3 s)) (fun r5 s2 Hs2 => ?_)
    refine PR.ite (fun _ => ?_) (fun _ => ?_)
    · exact PR.call Hs2 (fr_j_X14_tag_117 x1 x2 s2) (by decide +kernel)
    · refine PR.bd (PR.call Hs2 (fr_f_X14_numberOf (gI s2 87 19) 0 s2) (by decide +kernel)) (fun r11 s8 Hs8 => ?_)
      refine PR.bd (PR.pure Hs8 (fr_f_X14_asInt r11 s8)) (fun r16 s13 Hs13 => ?_)
      refine PR.ite (fun _ => ?_) (fun _ => ?_)
      · exact PR.call Hs13 (fr_j_X14_tag_117 x1 x2 s13) (by decide +kernel)
      · refine PR.bdv (PR.call Hs13 (fr_f_X14_misfit 1 s13) (by decide +kernel)) (fun s19 Hs19 => ?_)
        exact PR.call Hs19 (fr_j_X14_tag_117 x1 x2 s19) (by decide +kernel)
  · exact PR.call Hs (fr_j_X14_tag_117 x1 x2 s) (by decide +kernel)
def W_f_X14_tag : List Nat := [87008, 87009, 87019, 87032, 87084, 87085, 100999, 108999, 109999, 110999, 111999, 147998, 147999, 148998, 148999, 149998, 149999, 150999, 151999, 152998, 152999]
theorem fr_f_X14_tag (x1 : Int) (s : vS) : PR (W_f_X14_tag) s (fun q => q) (f_X14_tag x1 s) := by
  unfold f_X14_tag
  have Hs : Fr (W_f_X14_tag) s s := Fr.rfl
  refine PR.vl (fun y1 => ?_)
  refine PR.bd (PR.call Hs (fr_f_X14_take 14 s) (by decide +kernel)) (fun r7 s4 Hs4 => ?_)
  refine PR.gd ?_
  refine PR.gd ?_
  refine PR.stp (Fr.wE Hs4 (by decide +kernel)) (fun s11 Hs11 => ?_)
  refine PR.gd ?_
  refine PR.stp (Fr.wE Hs11 (by decide +kernel)) (fun s14 Hs14 => ?_)
  refine PR.bd (PR.call Hs14 (fr_f_X14_eat 110 s14) (by decide +kernel)) (fun r19 s16 Hs16 => ?_)
  refine PR.ite (fun _ => ?_) (fun _ => ?_)
  · refine PR.bd (PR.call Hs16 (fr_f_X14_eat 43 s16) (by decide +kernel)) (fun r25 s22 Hs22 => ?_)
    refine PR.ite (fun _ => ?_) (fun _ => ?_)
    · refine PR.bd (PR.call Hs22 (fr_f_X14_eat 95 s22) (by decide +kernel)) (fun r31 s28 Hs28 => ?_)
      refine PR.ite (fun _ => ?_) (fun _ => ?_)
      · exact PR.call Hs28 (fr_j_X14_tag_78 x1 y1 s28) (by decide +kernel)
      · refine PR.gd ?_
        refine PR.stp (Fr.wE Hs28 (by decide +kernel)) (fun s35 Hs35 => ?_)
        exact PR.call Hs35 (fr_j_X14_tag_78 x1 y1 s35) (by decide +kernel)
    · refine PR.gd ?_
      refine PR.stp (Fr.wE Hs22 (by decide +kernel)) (fun s38 Hs38 => ?_)
      exact PR.call Hs38 (fr_j_X14_tag_78 x1 y1 s38) (by decide +kernel)
  · refine PR.gd ?_
    refine PR.stp (Fr.wE Hs16 (by decide +kernel)) (fun s41 Hs41 => ?_)
    exact PR.call Hs41 (fr_j_X14_tag_78 x1 y1 s41) (by decide +kernel)
def W_f_X14_simple : List Nat := [87019, 97999]
theorem fr_f_X14_simple (x1 : Int) (x2 : Int) (x3 : Int) (s : vS) : PR (W_f_X14_simple) s (fun q => q.2) (f_X14_simple x1 x2 x3 s) := by
  unfold f_X14_simple
  have Hs : Fr (W_f_X14_simple) s s := Fr.rfl
  refine PR.bd (PR.call Hs (fr_f_X14_eat x2 s) (by decide +kernel)) (fun r4 s1 Hs1 => ?_)
  refine PR.ite (fun _ => ?_) (fun _ => ?_)
  · exact PR.some Hs1
  · refine PR.gd ?_
    refine PR.stp (Fr.wE Hs1 (by decide +kernel)) (fun s8 Hs8 => ?_)
    exact PR.some Hs8
def W_l_X14_itemsOf_19 : List Nat := [87008, 87009, 87019, 87037, 87084, 87085, 103999, 112999, 113999, 114999, 115999, 147998, 147999, 148998, 148999, 149998, 149999, 150999, 151999, 152998, 152999]
theorem fr_j_X14_itemsOf_223 (rec : Int → Int → vS → Option (vS)) (hrec : ∀ (y0 : Int) (y1 : Int) (s : vS), PR (W_l_X14_itemsOf_19) s (fun q => q) (rec y0 y1 s)) (x1 : Int) (s : vS) : PR (W_l_X14_itemsOf_19) s (fun q => q) (j_X14_itemsOf_223 rec x1 s) := by
  unfold j_X14_itemsOf_223
  have Hs : Fr (W_l_X14_itemsOf_19) s s := Fr.rfl
  refine PR.bd (PR.call Hs (fr_f_X14_eat 18 s) (by decide +kernel)) (fun r4 s1 Hs1 => ?_)
  exact PR.tail Hs1 (hrec x1 r4 s1)
theorem fr_j_X14_itemsOf_196 (rec : Int → Int → vS → Option (vS)) (hrec : ∀ (y0 : Int) (y1 : Int) (s : vS), PR (W_l_X14_itemsOf_19) s (fun q => q) (rec y0 y1 s)) (x1 : Int) (s : vS) : PR (W_l_X14_itemsOf_19) s (fun q => q) (j_X14_itemsOf_196 rec x1 s) := by
  unfold j_X14_itemsOf_196
  have Hs : Fr (W_l_X14_itemsOf_19) s s := Fr.rfl
  refine PR.ite (fun _ => ?_) (fun _ => ?_)
  · refine PR.stp (Fr.wI Hs (by decide +kernel)) (fun s2 Hs2 => ?_)
    refine PR.gd ?_
    refine PR.gd ?_
    refine PR.stp (Fr.wE Hs2 (by decide +kernel)) (fun s6 Hs6 => ?_)
    exact PR.tail Hs6 (fr_j_X14_itemsOf_223 rec hrec x1 s6)
  · exact PR.tail Hs (fr_j_X14_itemsOf_223 rec hrec x1 s)
theorem fr_j_X14_itemsOf_178 (rec : Int → Int → vS → Option (vS)) (hrec : ∀ (y0 : Int) (y1 : Int) (s : vS), PR (W_l_X14_itemsOf_19) s (fun q => q) (rec y0 y1 s)) (x1 : Int) (x3 : Int) (s : vS) : PR (W_l_X14_itemsOf_19) s (fun q => q) (j_X14_itemsOf_178 rec x1 x3 s) := by
  unfold j_X14_itemsOf_178
  have Hs : Fr (W_l_X14_itemsOf_19) s s := Fr.rfl
  refine PR.bd (PR.call Hs (fr_f_X14_take 3 s) (by decide +kernel)) (fun r4 s1 Hs1 => ?_)
  refine PR.gd ?_
  refine PR.gd ?_
  refine PR.stp (Fr.wE Hs1 (by decide +kernel)) (fun s8 Hs8 => ?_)
  refine PR.bd (PR.call Hs8 (fr_f_X14_take 17 s8) (by decide +kernel)) (fun r13 s10 Hs10 => ?_)
  exact PR.tail Hs10 (fr_j_X14_itemsOf_196 rec hrec x1 s10)
theorem fr_j_X14_itemsOf_129 (rec : Int → Int → vS → Option (vS)) (hrec : ∀ (y0 : Int) (y1 : Int) (s : vS), PR (W_l_X14_itemsOf_19) s (fun q => q) (rec y0 y1 s)) (x1 : Int) (x3 : Int) (z1 : Int) (z2 : Int) (s : vS) : PR (W_l_X14_itemsOf_19) s (fun q => q) (j_X14_itemsOf_129 rec x1 x3 z1 z2 s) := by
  unfold j_X14_itemsOf_129
  have Hs : Fr (W_l_X14_itemsOf_19) s s := Fr.rfl
  refine PR.gd ?_
  refine PR.stp (Fr.wE Hs (by decide +kernel)) (fun s2 Hs2 => ?_)
  refine PR.ite (fun _ => ?_) (fun _ => ?_)
  · refine PR.gd ?_
    refine PR.ite (fun _ => ?_) (fun _ => ?_)
    · refine PR.bd (PR.pure Hs2 (fr_f_X14_is 3 s2)) (fun r10 s7 Hs7 => ?_)
      refine PR.ite (fun _ => ?_) (fun _ => ?_)
      · exact PR.tail Hs7 (fr_j_X14_itemsOf_178 rec hrec x1 x3 s7)
      · refine PR.bd (PR.call Hs7 (fr_f_X14_numberOf (gI s7 87 19) 0 s7) (by decide +kernel)) (fun r16 s13 Hs13 => ?_)
        refine PR.bd (PR.pure Hs13 (fr_f_X14_asInt r16 s13)) (fun r21 s18 Hs18 => ?_)
        refine PR.ite (fun _ => ?_) (fun _ => ?_)
        · exact PR.tail Hs18 (fr_j_X14_itemsOf_178 rec hrec x1 x3 s18)
        · refine PR.bdv (PR.call Hs18 (fr_f_X14_misfit 1 s18) (by decide +kernel)) (fun s24 Hs24 => ?_)
          exact PR.tail Hs24 (fr_j_X14_itemsOf_178 rec hrec x1 x3 s24)
    · exact PR.tail Hs2 (fr_j_X14_itemsOf_178 rec hrec x1 x3 s2)
  · exact PR.tail Hs2 (fr_j_X14_itemsOf_178 rec hrec x1 x3 s2)
theorem fr_j_X14_itemsOf_93 (rec : Int → Int → vS → Option (vS)) (hrec : ∀ (y0 : Int) (y1 : Int) (s : vS), PR (W_l_X14_itemsOf_19) s (fun q => q) (rec y0 y1 s)) (x1 : Int) (x3 : Int) (s : vS) : PR (W_l_X14_itemsOf_19) s (fun q => q) (j_X14_itemsOf_93 rec x1 x3 s) := by
  unfold j_X14_itemsOf_93
  have Hs : Fr (W_l_X14_itemsOf_19) s s := Fr.rfl
  refine PR.bd (PR.call Hs (fr_f_X14_take 16 s) (by decide +kernel)) (fun r4 s1 Hs1 => ?_)
  refine PR.gd ?_
  refine PR.ite (fun _ => ?_) (fun _ => ?_)
  · exact PR.tail Hs1 (fr_j_X14_itemsOf_129 rec hrec x1 x3 x3 0 s1)
  · refine PR.bd (PR.call Hs1 (fr_f_X14_eat 19 s1) (by decide +kernel)) (fun r11 s8 Hs8 => ?_)
    refine PR.gd ?_
    refine PR.ite (fun _ => ?_) (fun _ => ?_)
    · exact PR.tail Hs8 (fr_j_X14_itemsOf_129 rec hrec x1 x3 x3 0 s8)
    · exact PR.tail Hs8 (fr_j_X14_itemsOf_129 rec hrec x1 x3 x3 1 s8)
theorem fr_l_X14_itemsOf_19 : ∀ (n : Nat) (x1 : Int) (x2 : Int) (s : vS), PR (W_l_X14_itemsOf_19) s (fun q => q) (l_X14_itemsOf_19 n x1 x2 s)
  := by
  intro n
  induction n with
  | zero => intro x1 x2 s; exact PR.none
  | succ n ih =>
    intro x1 x2 s
    unfold l_X14_itemsOf_19
    have Hs : Fr (W_l_X14_itemsOf_19) s s := Fr.rfl
    refine PR.ite (fun _ => ?_) (fun _ => ?_)
    · refine PR.ite (fun _ => ?_) (fun _ => ?_)
      · exact PR.some Hs
      · refine PR.vl (fun y3 => ?_)
        refine PR.bd (PR.call Hs (fr_f_X14_take 2 s) (by decide +kernel)) (fun r9 s6 Hs6 => ?_)
        refine PR.gd ?_
        refine PR.gd ?_
        refine PR.stp (Fr.wE Hs6 (by decide +kernel)) (fun s13 Hs13 => ?_)
        refine PR.gd ?_
        refine PR.stp (Fr.wE Hs13 (by decide +kernel)) (fun s16 Hs16 => ?_)
        refine PR.gd ?_
        refine PR.stp (Fr.wE Hs16 (by decide +kernel)) (fun s19 Hs19 => ?_)
        refine PR.gd ?_
        refine PR.stp (Fr.wE Hs19 (by decide +kernel)) (fun s22 Hs22 => ?_)
        refine PR.ite (fun _ => ?_) (fun _ => ?_)
        · refine PR.gd ?_
          refine PR.ite (fun _ => ?_) (fun _ => ?_)
          · refine PR.bd (PR.pure Hs22 (fr_f_X14_is 16 s22)) (fun r30 s27 Hs27 => ?_)
            refine PR.ite (fun _ => ?_) (fun _ => ?_)
            · exact PR.tail Hs27 (fr_j_X14_itemsOf_196 (l_X14_itemsOf_19 n) ih x1 s27)
            · exact PR.tail Hs27 (fr_j_X14_itemsOf_93 (l_X14_itemsOf_19 n) ih x1 y3 s27)
          · exact PR.tail Hs22 (fr_j_X14_itemsOf_93 (l_X14_itemsOf_19 n) ih x1 y3 s22)
        · exact PR.tail Hs22 (fr_j_X14_itemsOf_196 (l_X14_itemsOf_19 n) ih x1 s22)
    · exact PR.some Hs
def W_j_X14_itemsOf_233 : List Nat := [87008, 87009, 87019]
theorem fr_j_X14_itemsOf_233 (s : vS) : PR (W_j_X14_itemsOf_233) s (fun q => q) (j_X14_itemsOf_233 s) := by
  unfold j_X14_itemsOf_233
  have Hs : Fr (W_j_X14_itemsOf_233) s s := Fr.rfl
  refine PR.bd (PR.call Hs (fr_f_X14_take 13 s) (by decide +kernel)) (fun r4 s1 Hs1 => ?_)
  exact PR.some Hs1
def W_f_X14_itemsOf : List Nat := [87008, 87009, 87019, 87037, 87084, 87085, 102999, 103999, 112999, 113999, 114999, 115999, 147998, 147999, 148998, 148999, 149998, 149999, 150999, 151999, 152998, 152999]
theorem fr_f_X14_itemsOf (x1 : Int) (s : vS) : PR (W_f_X14_itemsOf) s (fun q => q) (f_X14_itemsOf x1 s) := by
  unfold f_X14_itemsOf
  have Hs : Fr (W_f_X14_itemsOf) s s := Fr.rfl
  refine PR.bd (PR.call Hs (fr_f_X14_take 12 s) (by decide +kernel)) (fun r4 s1 Hs1 => ?_)
  refine PR.gd ?_
  refine PR.stp (Fr.wE Hs1 (by decide +kernel)) (fun s7 Hs7 => ?_)
  refine PR.lq_0 (PR.call Hs7 (fr_l_X14_itemsOf_19 FU x1 1 s7) (by decide +kernel)) (fun s9 Hs9 => ?_)
  exact PR.call Hs9 (fr_j_X14_itemsOf_233 s9) (by decide +kernel)
def W_j_X14_component_106 : List Nat := [87083, 146999]
theorem fr_j_X14_component_106 (x3 : Int) (s : vS) : PR (W_j_X14_component_106) s (fun q => q) (j_X14_component_106 x3 s) := by
  unfold j_X14_component_106
  have Hs : Fr (W_j_X14_component_106) s s := Fr.rfl
  refine PR.gd ?_
  refine PR.stp (Fr.wE Hs (by decide +kernel)) (fun s2 Hs2 => ?_)
  refine PR.stp (Fr.wI Hs2 (by decide +kernel)) (fun s4 Hs4 => ?_)
  exact PR.some Hs4
def W_f_X14_component : List Nat := [87008, 87009, 87019, 87042, 87079, 87083, 104999, 105999, 116999, 118999, 119999, 120999, 145999, 146999]
theorem fr_f_X14_component (x1 : Int) (x2 : Int) (s : vS) : PR (W_f_X14_component) s (fun q => q) (f_X14_component x1 x2 s) := by
  unfold f_X14_component
  have Hs : Fr (W_f_X14_component) s s := Fr.rfl
  refine PR.vl (fun y1 => ?_)
  refine PR.bd (PR.call Hs (fr_f_X14_take 2 s) (by decide +kernel)) (fun r7 s4 Hs4 => ?_)
  refine PR.gd ?_
  refine PR.gd ?_
  refine PR.stp (Fr.wE Hs4 (by decide +kernel)) (fun s11 Hs11 => ?_)
  refine PR.gd ?_
  refine PR.stp (Fr.wE Hs11 (by decide +kernel)) (fun s14 Hs14 => ?_)
  refine PR.gd ?_
  refine PR.stp (Fr.wE Hs14 (by decide +kernel)) (fun s17 Hs17 => ?_)
  refine PR.gd ?_
  refine PR.stp (Fr.wE Hs17 (by decide +kernel)) (fun s20 Hs20 => ?_)
  refine PR.ite (fun _ => ?_) (fun _ => ?_)
  · refine PR.stp (Fr.wI Hs20 (by decide +kernel)) (fun s23 Hs23 => ?_)
    refine PR.gd ?_
    refine PR.gd ?_
    refine PR.stp (Fr.wE Hs23 (by decide +kernel)) (fun s27 Hs27 => ?_)
    refine PR.ite (fun _ => ?_) (fun _ => ?_)
    · refine PR.gd ?_
      refine PR.stp (Fr.wE Hs27 (by decide +kernel)) (fun s31 Hs31 => ?_)
      exact PR.call Hs31 (fr_j_X14_component_106 y1 s31) (by decide +kernel)
    · refine PR.gd ?_
      refine PR.stp (Fr.wE Hs27 (by decide +kernel)) (fun s34 Hs34 => ?_)
      refine PR.gd ?_
      refine PR.stp (Fr.wE Hs34 (by decide +kernel)) (fun s37 Hs37 => ?_)
      refine PR.stp (Fr.wI Hs37 (by decide +kernel)) (fun s39 Hs39 => ?_)
      exact PR.call Hs39 (fr_j_X14_component_106 y1 s39) (by decide +kernel)
  · exact PR.some Hs20
def W_l_X14_addLimit_87 : List Nat := []
theorem fr_l_X14_addLimit_87 : ∀ (n : Nat) (x4 : Int) (x5 : Int) (s : vS), PR (W_l_X14_addLimit_87) s (fun q => q.2) (l_X14_addLimit_87 n x4 x5 s)
  := by
  intro n
  induction n with
  | zero => intro x4 x5 s; exact PR.none
  | succ n ih =>
    intro x4 x5 s
    unfold l_X14_addLimit_87
    have Hs : Fr (W_l_X14_addLimit_87) s s := Fr.rfl
    refine PR.gd ?_
    refine PR.ite (fun _ => ?_) (fun _ => ?_)
    · exact PR.some Hs
    · refine PR.gd ?_
      refine PR.vl (fun y4 => ?_)
      exact PR.tail Hs (ih x4 y4 s)
def W_f_X14_addLimit : List Nat := [87048, 107999, 121999, 122999, 123999, 124999, 125999]
theorem fr_f_X14_addLimit (x1 : Int) (x2 : Int) (x3 : Int) (s : vS) : PR (W_f_X14_addLimit) s (fun q => q.2) (f_X14_addLimit x1 x2 x3 s) := by
  unfold f_X14_addLimit
  have Hs : Fr (W_f_X14_addLimit) s s := Fr.rfl
  refine PR.vl (fun y1 => ?_)
  refine PR.stp (Fr.wI Hs (by decide +kernel)) (fun s4 Hs4 => ?_)
  refine PR.gd ?_
  refine PR.stp (Fr.wE Hs4 (by decide +kernel)) (fun s7 Hs7 => ?_)
  refine PR.gd ?_
  refine PR.stp (Fr.wE Hs7 (by decide +kernel)) (fun s10 Hs10 => ?_)
  refine PR.gd ?_
  refine PR.stp (Fr.wE Hs10 (by decide +kernel)) (fun s13 Hs13 => ?_)
  refine PR.gd ?_
  refine PR.stp (Fr.wE Hs13 (by decide +kernel)) (fun s16 Hs16 => ?_)
  refine PR.gd ?_
  refine PR.stp (Fr.wE Hs16 (by decide +kernel)) (fun s19 Hs19 => ?_)
  refine PR.gd ?_
  refine PR.ite (fun _ => ?_) (fun _ => ?_)
  · refine PR.gd ?_
    refine PR.vl (fun y24 => ?_)
    refine PR.lq_1 (PR.pure Hs19 (fr_l_X14_addLimit_87 FU y1 y24 s19)) (fun y27 s28 Hs28 => ?_)
    refine PR.gd ?_
    refine PR.stp (Fr.wE Hs28 (by decide +kernel)) (fun s32 Hs32 => ?_)
    exact PR.some Hs32
  · refine PR.gd ?_
    refine PR.stp (Fr.wE Hs19 (by decide +kernel)) (fun s35 Hs35 => ?_)
    exact PR.some Hs35
def W_j_X14_bound_47 : List Nat := [87019]
theorem fr_j_X14_bound_47 (s : vS) : PR (W_j_X14_bound_47) s (fun q => q.2) (j_X14_bound_47 s) := by
  unfold j_X14_bound_47
  have Hs : Fr (W_j_X14_bound_47) s s := Fr.rfl
  refine PR.stp (Fr.wI Hs (by decide +kernel)) (fun s1 Hs1 => ?_)
  exact PR.some Hs1
def W_j_X14_bound_64 : List Nat := [87008, 87009]
theorem fr_j_X14_bound_64 (s : vS) : PR (W_j_X14_bound_64) s (fun q => q.2) (j_X14_bound_64 s) := by
  unfold j_X14_bound_64
  have Hs : Fr (W_j_X14_bound_64) s s := Fr.rfl
  refine PR.bdv (PR.call Hs (fr_f_X14_misfit 1 s) (by decide +kernel)) (fun s1 Hs1 => ?_)
  exact PR.some Hs1
def W_f_X14_bound : List Nat := [87008, 87009, 87019]
theorem fr_f_X14_bound (x1 : Int) (s : vS) : PR (W_f_X14_bound) s (fun q => q.2) (f_X14_bound x1 s) := by
  unfold f_X14_bound
  have Hs : Fr (W_f_X14_bound) s s := Fr.rfl
  refine PR.ite (fun _ => ?_) (fun _ => ?_)
  · refine PR.bd (PR.pure Hs (fr_f_X14_is 3 s)) (fun r5 s2 Hs2 => ?_)
    refine PR.ite (fun _ => ?_) (fun _ => ?_)
    · refine PR.ite (fun _ => ?_) (fun _ => ?_)
      · refine PR.bd (PR.pure Hs2 (fr_f_X14_is 2 s2)) (fun r12 s9 Hs9 => ?_)
        refine PR.ite (fun _ => ?_) (fun _ => ?_)
        · refine PR.bd (PR.pure Hs9 (fr_f_X14_is 83 s9)) (fun r18 s15 Hs15 => ?_)
          refine PR.ite (fun _ => ?_) (fun _ => ?_)
          · refine PR.bd (PR.pure Hs15 (fr_f_X14_is 82 s15)) (fun r24 s21 Hs21 => ?_)
            refine PR.ite (fun _ => ?_) (fun _ => ?_)
            · exact PR.call Hs21 (fr_j_X14_bound_64 s21) (by decide +kernel)
            · exact PR.call Hs21 (fr_j_X14_bound_47 s21) (by decide +kernel)
          · exact PR.call Hs15 (fr_j_X14_bound_47 s15) (by decide +kernel)
        · exact PR.call Hs9 (fr_j_X14_bound_47 s9) (by decide +kernel)
      · exact PR.call Hs2 (fr_j_X14_bound_64 s2) (by decide +kernel)
    · exact PR.call Hs2 (fr_j_X14_bound_47 s2) (by decide +kernel)
  · exact PR.some Hs
def W_l_X14_rangesOf_2 : List Nat := [87008, 87009, 87019, 87054, 124999, 126999, 127999, 128999, 129999]
theorem fr_j_X14_rangesOf_134 (rec : Int → Int → vS → Option (vS)) (hrec : ∀ (y0 : Int) (y1 : Int) (s : vS), PR (W_l_X14_rangesOf_2) s (fun q => q) (rec y0 y1 s)) (x1 : Int) (s : vS) : PR (W_l_X14_rangesOf_2) s (fun q => q) (j_X14_rangesOf_134 rec x1 s) := by
  unfold j_X14_rangesOf_134
  have Hs : Fr (W_l_X14_rangesOf_2) s s := Fr.rfl
  refine PR.bd (PR.call Hs (fr_f_X14_eat 21 s) (by decide +kernel)) (fun r4 s1 Hs1 => ?_)
  exact PR.tail Hs1 (hrec x1 r4 s1)
theorem fr_j_X14_rangesOf_107 (rec : Int → Int → vS → Option (vS)) (hrec : ∀ (y0 : Int) (y1 : Int) (s : vS), PR (W_l_X14_rangesOf_2) s (fun q => q) (rec y0 y1 s)) (x1 : Int) (s : vS) : PR (W_l_X14_rangesOf_2) s (fun q => q) (j_X14_rangesOf_107 rec x1 s) := by
  unfold j_X14_rangesOf_107
  have Hs : Fr (W_l_X14_rangesOf_2) s s := Fr.rfl
  refine PR.ite (fun _ => ?_) (fun _ => ?_)
  · refine PR.stp (Fr.wI Hs (by decide +kernel)) (fun s2 Hs2 => ?_)
    refine PR.gd ?_
    refine PR.gd ?_
    refine PR.stp (Fr.wE Hs2 (by decide +kernel)) (fun s6 Hs6 => ?_)
    exact PR.tail Hs6 (fr_j_X14_rangesOf_134 rec hrec x1 s6)
  · exact PR.tail Hs (fr_j_X14_rangesOf_134 rec hrec x1 s)
theorem fr_l_X14_rangesOf_2 : ∀ (n : Nat) (x1 : Int) (x2 : Int) (s : vS), PR (W_l_X14_rangesOf_2) s (fun q => q) (l_X14_rangesOf_2 n x1 x2 s)
  := by
  intro n
  induction n with
  | zero => intro x1 x2 s; exact PR.none
  | succ n ih =>
    intro x1 x2 s
    unfold l_X14_rangesOf_2
    have Hs : Fr (W_l_X14_rangesOf_2) s s := Fr.rfl
    refine PR.ite (fun _ => ?_) (fun _ => ?_)
    · refine PR.ite (fun _ => ?_) (fun _ => ?_)
      · exact PR.some Hs
      · refine PR.vl (fun y3 => ?_)
        refine PR.bd (PR.call Hs (fr_f_X14_eat 19 s) (by decide +kernel)) (fun r9 s6 Hs6 => ?_)
        refine PR.gd ?_
        refine PR.gd ?_
        refine PR.stp (Fr.wE Hs6 (by decide +kernel)) (fun s13 Hs13 => ?_)
        refine PR.gd ?_
        refine PR.bd (PR.call Hs13 (fr_f_X14_bound (gZ s13 127 y3) s13) (by decide +kernel)) (fun r19 s16 Hs16 => ?_)
        refine PR.gd ?_
        refine PR.gd ?_
        refine PR.stp (Fr.wE Hs16 (by decide +kernel)) (fun s23 Hs23 => ?_)
        refine PR.gd ?_
        refine PR.gd ?_
        refine PR.stp (Fr.wE Hs23 (by decide +kernel)) (fun s27 Hs27 => ?_)
        refine PR.gd ?_
        refine PR.gd ?_
        refine PR.stp (Fr.wE Hs27 (by decide +kernel)) (fun s31 Hs31 => ?_)
        refine PR.bd (PR.call Hs31 (fr_f_X14_eat 9 s31) (by decide +kernel)) (fun r36 s33 Hs33 => ?_)
        refine PR.ite (fun _ => ?_) (fun _ => ?_)
        · exact PR.tail Hs33 (fr_j_X14_rangesOf_107 (l_X14_rangesOf_2 n) ih x1 s33)
        · refine PR.bd (PR.call Hs33 (fr_f_X14_eat 19 s33) (by decide +kernel)) (fun r42 s39 Hs39 => ?_)
          refine PR.gd ?_
          refine PR.gd ?_
          refine PR.stp (Fr.wE Hs39 (by decide +kernel)) (fun s46 Hs46 => ?_)
          refine PR.gd ?_
          refine PR.bd (PR.call Hs46 (fr_f_X14_bound (gZ s46 129 y3) s46) (by decide +kernel)) (fun r52 s49 Hs49 => ?_)
          refine PR.gd ?_
          refine PR.gd ?_
          refine PR.stp (Fr.wE Hs49 (by decide +kernel)) (fun s56 Hs56 => ?_)
          exact PR.tail Hs56 (fr_j_X14_rangesOf_107 (l_X14_rangesOf_2 n) ih x1 s56)
    · exact PR.some Hs
def W_f_X14_rangesOf : List Nat := [87008, 87009, 87019, 87054, 124999, 126999, 127999, 128999, 129999]
theorem fr_f_X14_rangesOf (x1 : Int) (s : vS) : PR (W_f_X14_rangesOf) s (fun q => q) (f_X14_rangesOf x1 s) := by
  unfold f_X14_rangesOf
  have Hs : Fr (W_f_X14_rangesOf) s s := Fr.rfl
  refine PR.lq_0 (PR.call Hs (fr_l_X14_rangesOf_2 FU x1 1 s) (by decide +kernel)) (fun s1 Hs1 => ?_)
  exact PR.some Hs1
def W_j_X14_sizeOf_32 : List Nat := [87008, 87009, 87019, 87048, 87054, 107999, 121999, 122999, 123999, 124999, 125999, 126999, 127999, 128999, 129999]
theorem fr_j_X14_sizeOf_32 (x3 : Int) (z1 : Int) (z2 : Int) (s : vS) : PR (W_j_X14_sizeOf_32) s (fun q => q) (j_X14_sizeOf_32 x3 z1 z2 s) := by
  unfold j_X14_sizeOf_32
  have Hs : Fr (W_j_X14_sizeOf_32) s s := Fr.rfl
  refine PR.bd (PR.call Hs (fr_f_X14_addLimit z1 z2 1 s) (by decide +kernel)) (fun r4 s1 Hs1 => ?_)
  refine PR.bdv (PR.call Hs1 (fr_f_X14_rangesOf r4 s1) (by decide +kernel)) (fun s6 Hs6 => ?_)
  refine PR.bd (PR.call Hs6 (fr_f_X14_take 17 s6) (by decide +kernel)) (fun r12 s9 Hs9 => ?_)
  refine PR.ite (fun _ => ?_) (fun _ => ?_)
  · exact PR.some Hs9
  · refine PR.bd (PR.call Hs9 (fr_f_X14_take 17 s9) (by decide +kernel)) (fun r18 s15 Hs15 => ?_)
    exact PR.some Hs15
def W_f_X14_sizeOf : List Nat := [87008, 87009, 87019, 87048, 87054, 107999, 121999, 122999, 123999, 124999, 125999, 126999, 127999, 128999, 129999]
theorem fr_f_X14_sizeOf (x1 : Int) (x2 : Int) (x3 : Int) (s : vS) : PR (W_f_X14_sizeOf) s (fun q => q) (f_X14_sizeOf x1 x2 x3 s) := by
  unfold f_X14_sizeOf
  have Hs : Fr (W_f_X14_sizeOf) s s := Fr.rfl
  refine PR.bd (PR.call Hs (fr_f_X14_take 101 s) (by decide +kernel)) (fun r4 s1 Hs1 => ?_)
  refine PR.vl (fun y6 => ?_)
  refine PR.bd (PR.call Hs1 (fr_f_X14_take 16 s1) (by decide +kernel)) (fun r12 s9 Hs9 => ?_)
  refine PR.ite (fun _ => ?_) (fun _ => ?_)
  · exact PR.call Hs9 (fr_j_X14_sizeOf_32 x3 x1 y6 s9) (by decide +kernel)
  · exact PR.call Hs9 (fr_j_X14_sizeOf_32 x3 x1 x2 s9) (by decide +kernel)
def W_j_X14_row_130 : List Nat := [87079, 87083, 97999, 145999, 146999]
theorem fr_j_X14_row_130 (x1 : Int) (z1 : Int) (z2 : Int) (s : vS) : PR (W_j_X14_row_130) s (fun q => q) (j_X14_row_130 x1 z1 z2 s) := by
  unfold j_X14_row_130
  have Hs : Fr (W_j_X14_row_130) s s := Fr.rfl
  refine PR.gd ?_
  refine PR.stp (Fr.wE Hs (by decide +kernel)) (fun s2 Hs2 => ?_)
  refine PR.gd ?_
  refine PR.stp (Fr.wE Hs2 (by decide +kernel)) (fun s5 Hs5 => ?_)
  refine PR.gd ?_
  refine PR.stp (Fr.wE Hs5 (by decide +kernel)) (fun s8 Hs8 => ?_)
  refine PR.stp (Fr.wI Hs8 (by decide +kernel)) (fun s10 Hs10 => ?_)
  refine PR.stp (Fr.wI Hs10 (by decide +kernel)) (fun s12 Hs12 => ?_)
  exact PR.some Hs12
def W_j_X14_row_92 : List Nat := [87008, 87009, 87019, 87079, 87083, 97999, 145999, 146999]
theorem fr_j_X14_row_92 (x1 : Int) (s : vS) : PR (W_j_X14_row_92) s (fun q => q) (j_X14_row_92 x1 s) := by
  unfold j_X14_row_92
  have Hs : Fr (W_j_X14_row_92) s s := Fr.rfl
  refine PR.bd (PR.call Hs (fr_f_X14_take 89 s) (by decide +kernel)) (fun r4 s1 Hs1 => ?_)
  refine PR.ite (fun _ => ?_) (fun _ => ?_)
  · refine PR.gd ?_
    refine PR.ite (fun _ => ?_) (fun _ => ?_)
    · exact PR.call Hs1 (fr_j_X14_row_130 x1 x1 14 s1) (by decide +kernel)
    · exact PR.call Hs1 (fr_j_X14_row_130 x1 x1 15 s1) (by decide +kernel)
  · exact PR.some Hs1
def W_j_X14_row_54 : List Nat := [87008, 87009, 87019, 87048, 87054, 87079, 87083, 97999, 107999, 121999, 122999, 123999, 124999, 125999, 126999, 127999, 128999, 129999, 145999, 146999]
theorem fr_j_X14_row_54 (x1 : Int) (s : vS) : PR (W_j_X14_row_54) s (fun q => q) (j_X14_row_54 x1 s) := by
  unfold j_X14_row_54
  have Hs : Fr (W_j_X14_row_54) s s := Fr.rfl
  refine PR.ite (fun _ => ?_) (fun _ => ?_)
  · refine PR.bd (PR.pure Hs (fr_f_X14_is 16 s)) (fun r5 s2 Hs2 => ?_)
    refine PR.ite (fun _ => ?_) (fun _ => ?_)
    · exact PR.call Hs2 (fr_j_X14_row_92 x1 s2) (by decide +kernel)
    · refine PR.vl (fun y8 => ?_)
      refine PR.stp (Fr.wI Hs2 (by decide +kernel)) (fun s11 Hs11 => ?_)
      refine PR.bdv (PR.call Hs11 (fr_f_X14_sizeOf x1 y8 1 s11) (by decide +kernel)) (fun s13 Hs13 => ?_)
      exact PR.call Hs13 (fr_j_X14_row_92 x1 s13) (by decide +kernel)
  · exact PR.call Hs (fr_j_X14_row_92 x1 s) (by decide +kernel)
def W_f_X14_row : List Nat := [87008, 87009, 87019, 87042, 87048, 87054, 87079, 87083, 97999, 104999, 105999, 107999, 116999, 118999, 119999, 120999, 121999, 122999, 123999, 124999, 125999, 126999, 127999, 128999, 129999, 145999, 146999]
theorem fr_f_X14_row (x1 : Int) (s : vS) : PR (W_f_X14_row) s (fun q => q) (f_X14_row x1 s) := by
  unfold f_X14_row
  have Hs : Fr (W_f_X14_row) s s := Fr.rfl
  refine PR.bd (PR.call Hs (fr_f_X14_eat 12 s) (by decide +kernel)) (fun r4 s1 Hs1 => ?_)
  refine PR.ite (fun _ => ?_) (fun _ => ?_)
  · refine PR.ite (fun _ => ?_) (fun _ => ?_)
    · refine PR.bd (PR.pure Hs1 (fr_f_X14_is 101 s1)) (fun r11 s8 Hs8 => ?_)
      refine PR.ite (fun _ => ?_) (fun _ => ?_)
      · exact PR.call Hs8 (fr_j_X14_row_54 x1 s8) (by decide +kernel)
      · refine PR.bdv (PR.call Hs8 (fr_f_X14_sizeOf x1 (gI s8 87 19) 0 s8) (by decide +kernel)) (fun s14 Hs14 => ?_)
        exact PR.call Hs14 (fr_j_X14_row_92 x1 s14) (by decide +kernel)
    · exact PR.call Hs1 (fr_j_X14_row_54 x1 s1) (by decide +kernel)
  · refine PR.bd (PR.call Hs1 (fr_f_X14_eat 13 s1) (by decide +kernel)) (fun r20 s17 Hs17 => ?_)
    refine PR.ite (fun _ => ?_) (fun _ => ?_)
    · refine PR.bdv (PR.call Hs17 (fr_f_X14_component x1 (-1) s17) (by decide +kernel)) (fun s23 Hs23 => ?_)
      exact PR.some Hs23
    · exact PR.some Hs17
def W_j_X14_base_239 : List Nat := [87008, 87009, 87019, 87042, 87048, 87054, 87079, 87083, 97999, 104999, 105999, 107999, 116999, 118999, 119999, 120999, 121999, 122999, 123999, 124999, 125999, 126999, 127999, 128999, 129999, 145999, 146999]
theorem fr_j_X14_base_239 (x1 : Int) (s : vS) : PR (W_j_X14_base_239) s (fun q => q) (j_X14_base_239 x1 s) := by
  unfold j_X14_base_239
  have Hs : Fr (W_j_X14_base_239) s s := Fr.rfl
  refine PR.bdv (PR.call Hs (fr_f_X14_row x1 s) (by decide +kernel)) (fun s1 Hs1 => ?_)
  exact PR.some Hs1
def W_f_X14_base : List Nat := [87008, 87009, 87019, 87037, 87042, 87048, 87054, 87079, 87083, 87084, 87085, 97999, 101999, 102999, 103999, 104999, 105999, 107999, 112999, 113999, 114999, 115999, 116999, 118999, 119999, 120999, 121999, 122999, 123999, 124999, 125999, 126999, 127999, 128999, 129999, 145999, 146999, 147998, 147999, 148998, 148999, 149998, 149999, 150999, 151999, 152998, 152999]
theorem fr_f_X14_base (x1 : Int) (s : vS) : PR (W_f_X14_base) s (fun q => q) (f_X14_base x1 s) := by
  unfold f_X14_base
  have Hs : Fr (W_f_X14_base) s s := Fr.rfl
  refine PR.bd (PR.call Hs (fr_f_X14_simple x1 48 0 s) (by decide +kernel)) (fun r4 s1 Hs1 => ?_)
  refine PR.ite (fun _ => ?_) (fun _ => ?_)
  · refine PR.bd (PR.call Hs1 (fr_f_X14_simple x1 85 1 s1) (by decide +kernel)) (fun r10 s7 Hs7 => ?_)
    refine PR.ite (fun _ => ?_) (fun _ => ?_)
    · refine PR.bd (PR.call Hs7 (fr_f_X14_simple x1 112 7 s7) (by decide +kernel)) (fun r16 s13 Hs13 => ?_)
      refine PR.ite (fun _ => ?_) (fun _ => ?_)
      · refine PR.bd (PR.call Hs13 (fr_f_X14_simple x1 96 8 s13) (by decide +kernel)) (fun r22 s19 Hs19 => ?_)
        refine PR.ite (fun _ => ?_) (fun _ => ?_)
        · refine PR.bd (PR.call Hs19 (fr_f_X14_simple x1 72 9 s19) (by decide +kernel)) (fun r28 s25 Hs25 => ?_)
          refine PR.ite (fun _ => ?_) (fun _ => ?_)
          · refine PR.bd (PR.call Hs25 (fr_f_X14_simple x1 111 10 s25) (by decide +kernel)) (fun r34 s31 Hs31 => ?_)
            refine PR.ite (fun _ => ?_) (fun _ => ?_)
            · refine PR.bd (PR.call Hs31 (fr_f_X14_simple x1 70 11 s31) (by decide +kernel)) (fun r40 s37 Hs37 => ?_)
              refine PR.ite (fun _ => ?_) (fun _ => ?_)
              · refine PR.bd (PR.call Hs37 (fr_f_X14_simple x1 79 2 s37) (by decide +kernel)) (fun r46 s43 Hs43 => ?_)
                refine PR.ite (fun _ => ?_) (fun _ => ?_)
                · refine PR.bd (PR.call Hs43 (fr_f_X14_simple x1 61 3 s43) (by decide +kernel)) (fun r52 s49 Hs49 => ?_)
                  refine PR.ite (fun _ => ?_) (fun _ => ?_)
                  · refine PR.bd (PR.call Hs49 (fr_f_X14_simple x1 46 4 s49) (by decide +kernel)) (fun r58 s55 Hs55 => ?_)
                    refine PR.ite (fun _ => ?_) (fun _ => ?_)
                    · refine PR.bd (PR.call Hs55 (fr_f_X14_simple x1 88 5 s55) (by decide +kernel)) (fun r64 s61 Hs61 => ?_)
                      refine PR.ite (fun _ => ?_) (fun _ => ?_)
                      · refine PR.bd (PR.call Hs61 (fr_f_X14_simple x1 87 6 s61) (by decide +kernel)) (fun r70 s67 Hs67 => ?_)
                        refine PR.ite (fun _ => ?_) (fun _ => ?_)
                        · refine PR.bd (PR.call Hs67 (fr_f_X14_simple x1 99 12 s67) (by decide +kernel)) (fun r76 s73 Hs73 => ?_)
                          refine PR.ite (fun _ => ?_) (fun _ => ?_)
                          · refine PR.bd (PR.call Hs73 (fr_f_X14_simple x1 100 13 s73) (by decide +kernel)) (fun r82 s79 Hs79 => ?_)
                            refine PR.ite (fun _ => ?_) (fun _ => ?_)
                            · refine PR.bd (PR.call Hs79 (fr_f_X14_simple x1 51 16 s79) (by decide +kernel)) (fun r88 s85 Hs85 => ?_)
                              refine PR.ite (fun _ => ?_) (fun _ => ?_)
                              · refine PR.bd (PR.pure Hs85 (fr_f_X14_is 1 s85)) (fun r94 s91 Hs91 => ?_)
                                refine PR.ite (fun _ => ?_) (fun _ => ?_)
                                · refine PR.bdv (PR.call Hs91 (fr_f_X14_misfit 1 s91) (by decide +kernel)) (fun s97 Hs97 => ?_)
                                  exact PR.some Hs97
                                · refine PR.gd ?_
                                  refine PR.stp (Fr.wE Hs91 (by decide +kernel)) (fun s101 Hs101 => ?_)
                                  refine PR.gd ?_
                                  refine PR.stp (Fr.wE Hs101 (by decide +kernel)) (fun s104 Hs104 => ?_)
                                  refine PR.stp (Fr.wI Hs104 (by decide +kernel)) (fun s106 Hs106 => ?_)
                                  exact PR.some Hs106
                              · refine PR.bd (PR.call Hs85 (fr_f_X14_take 12 s85) (by decide +kernel)) (fun r111 s108 Hs108 => ?_)
                                refine PR.bdv (PR.call Hs108 (fr_f_X14_component x1 (-1) s108) (by decide +kernel)) (fun s113 Hs113 => ?_)
                                exact PR.some Hs113
                            · exact PR.call Hs79 (fr_j_X14_base_239 x1 s79) (by decide +kernel)
                          · exact PR.call Hs73 (fr_j_X14_base_239 x1 s73) (by decide +kernel)
                        · refine PR.bd (PR.call Hs67 (fr_f_X14_take 73 s67) (by decide +kernel)) (fun r119 s116 Hs116 => ?_)
                          exact PR.some Hs116
                      · refine PR.bd (PR.call Hs61 (fr_f_X14_take 102 s61) (by decide +kernel)) (fun r124 s121 Hs121 => ?_)
                        exact PR.some Hs121
                    · refine PR.bd (PR.call Hs55 (fr_f_X14_take 102 s55) (by decide +kernel)) (fun r129 s126 Hs126 => ?_)
                      refine PR.ite (fun _ => ?_) (fun _ => ?_)
                      · refine PR.bd (PR.pure Hs126 (fr_f_X14_is 12 s126)) (fun r135 s132 Hs132 => ?_)
                        refine PR.ite (fun _ => ?_) (fun _ => ?_)
                        · exact PR.some Hs132
                        · refine PR.bdv (PR.call Hs132 (fr_f_X14_itemsOf x1 s132) (by decide +kernel)) (fun s138 Hs138 => ?_)
                          exact PR.some Hs138
                      · exact PR.some Hs126
                  · refine PR.bdv (PR.call Hs49 (fr_f_X14_itemsOf x1 s49) (by decide +kernel)) (fun s141 Hs141 => ?_)
                    exact PR.some Hs141
                · refine PR.bd (PR.pure Hs43 (fr_f_X14_is 12 s43)) (fun r147 s144 Hs144 => ?_)
                  refine PR.ite (fun _ => ?_) (fun _ => ?_)
                  · exact PR.some Hs144
                  · refine PR.bdv (PR.call Hs144 (fr_f_X14_itemsOf x1 s144) (by decide +kernel)) (fun s150 Hs150 => ?_)
                    exact PR.some Hs150
              · exact PR.some Hs37
            · exact PR.some Hs31
          · exact PR.some Hs25
        · exact PR.some Hs19
      · exact PR.some Hs13
    · exact PR.some Hs7
  · exact PR.some Hs1
def W_l_X14_begin_132 : List Nat := [87008, 87009, 87019, 87032, 87084, 87085, 100999, 108999, 109999, 110999, 111999, 147998, 147999, 148998, 148999, 149998, 149999, 150999, 151999, 152998, 152999]
theorem fr_l_X14_begin_132 : ∀ (n : Nat) (x1 : Int) (s : vS), PR (W_l_X14_begin_132) s (fun q => q) (l_X14_begin_132 n x1 s)
  := by
  intro n
  induction n with
  | zero => intro x1 s; exact PR.none
  | succ n ih =>
    intro x1 s
    unfold l_X14_begin_132
    have Hs : Fr (W_l_X14_begin_132) s s := Fr.rfl
    refine PR.ite (fun _ => ?_) (fun _ => ?_)
    · refine PR.bd (PR.pure Hs (fr_f_X14_is 14 s)) (fun r5 s2 Hs2 => ?_)
      refine PR.ite (fun _ => ?_) (fun _ => ?_)
      · exact PR.some Hs2
      · refine PR.bdv (PR.call Hs2 (fr_f_X14_tag x1 s2) (by decide +kernel)) (fun s8 Hs8 => ?_)
        exact PR.tail Hs8 (ih x1 s8)
    · exact PR.some Hs
def W_j_X14_begin_156 : List Nat := [87008, 87009, 87019, 87037, 87042, 87048, 87054, 87079, 87083, 87084, 87085, 97999, 101999, 102999, 103999, 104999, 105999, 107999, 112999, 113999, 114999, 115999, 116999, 118999, 119999, 120999, 121999, 122999, 123999, 124999, 125999, 126999, 127999, 128999, 129999, 145999, 146999, 147998, 147999, 148998, 148999, 149998, 149999, 150999, 151999, 152998, 152999]
theorem fr_j_X14_begin_156 (x1 : Int) (s : vS) : PR (W_j_X14_begin_156) s (fun q => q) (j_X14_begin_156 x1 s) := by
  unfold j_X14_begin_156
  have Hs : Fr (W_j_X14_begin_156) s s := Fr.rfl
  refine PR.ite (fun _ => ?_) (fun _ => ?_)
  · refine PR.bdv (PR.call Hs (fr_f_X14_base x1 s) (by decide +kernel)) (fun s2 Hs2 => ?_)
    exact PR.some Hs2
  · exact PR.some Hs
def W_f_X14_begin : List Nat := [87008, 87009, 87019, 87020, 87032, 87037, 87042, 87048, 87054, 87079, 87082, 87083, 87084, 87085, 97999, 98999, 99999, 100999, 101999, 102999, 103999, 104999, 105999, 106999, 107999, 108999, 109999, 110999, 111999, 112999, 113999, 114999, 115999, 116999, 118999, 119999, 120999, 121999, 122999, 123999, 124999, 125999, 126999, 127999, 128999, 129999, 145999, 146999, 147998, 147999, 148998, 148999, 149998, 149999, 150999, 151999, 152998, 152999]
theorem fr_f_X14_begin (s : vS) : PR (W_f_X14_begin) s (fun q => q) (f_X14_begin s) := by
  unfold f_X14_begin
  have Hs : Fr (W_f_X14_begin) s s := Fr.rfl
  refine PR.ite (fun _ => ?_) (fun _ => ?_)
  · refine PR.gd ?_
    refine PR.bdv (PR.call Hs (fr_f_X14_tell 4 (gE s 95 (gI s 87 19)) s) (by decide +kernel)) (fun s47 Hs47 => ?_)
    exact PR.some Hs47
  · refine PR.vl (fun y2 => ?_)
    refine PR.stp (Fr.wI Hs (by decide +kernel)) (fun s5 Hs5 => ?_)
    refine PR.stp (Fr.wI Hs5 (by decide +kernel)) (fun s7 Hs7 => ?_)
    refine PR.gd ?_
    refine PR.stp (Fr.wE Hs7 (by decide +kernel)) (fun s10 Hs10 => ?_)
    refine PR.gd ?_
    refine PR.stp (Fr.wE Hs10 (by decide +kernel)) (fun s13 Hs13 => ?_)
    refine PR.gd ?_
    refine PR.stp (Fr.wE Hs13 (by decide +kernel)) (fun s16 Hs16 => ?_)
    refine PR.gd ?_
    refine PR.stp (Fr.wE Hs16 (by decide +kernel)) (fun s19 Hs19 => ?_)
    refine PR.gd ?_
    refine PR.stp (Fr.wE Hs19 (by decide +kernel)) (fun s22 Hs22 => ?_)
    refine PR.gd ?_
    refine PR.stp (Fr.wE Hs22 (by decide +kernel)) (fun s25 Hs25 => ?_)
    refine PR.gd ?_
    refine PR.stp (Fr.wE Hs25 (by decide +kernel)) (fun s28 Hs28 => ?_)
    refine PR.gd ?_
    refine PR.stp (Fr.wE Hs28 (by decide +kernel)) (fun s31 Hs31 => ?_)
    refine PR.gd ?_
    refine PR.stp (Fr.wE Hs31 (by decide +kernel)) (fun s34 Hs34 => ?_)
    refine PR.gd ?_
    refine PR.stp (Fr.wE Hs34 (by decide +kernel)) (fun s37 Hs37 => ?_)
    refine PR.gd ?_
    refine PR.stp (Fr.wE Hs37 (by decide +kernel)) (fun s40 Hs40 => ?_)
    refine PR.stp (Fr.wI Hs40 (by decide +kernel)) (fun s42 Hs42 => ?_)
    refine PR.lq_0 (PR.call Hs42 (fr_l_X14_begin_132 FU y2 s42) (by decide +kernel)) (fun s44 Hs44 => ?_)
    exact PR.call Hs44 (fr_j_X14_begin_156 y2 s44) (by decide +kernel)
def W_l_X14_limitsOf_0 : List Nat := [87008, 87009, 87019, 87048, 87054, 107999, 121999, 122999, 123999, 124999, 125999, 126999, 127999, 128999, 129999]
theorem fr_l_X14_limitsOf_0 : ∀ (n : Nat) (x1 : Int) (s : vS), PR (W_l_X14_limitsOf_0) s (fun q => q) (l_X14_limitsOf_0 n x1 s)
  := by
  intro n
  induction n with
  | zero => intro x1 s; exact PR.none
  | succ n ih =>
    intro x1 s
    unfold l_X14_limitsOf_0
    have Hs : Fr (W_l_X14_limitsOf_0) s s := Fr.rfl
    refine PR.ite (fun _ => ?_) (fun _ => ?_)
    · refine PR.bd (PR.pure Hs (fr_f_X14_is 16 s)) (fun r5 s2 Hs2 => ?_)
      refine PR.ite (fun _ => ?_) (fun _ => ?_)
      · exact PR.some Hs2
      · refine PR.vl (fun y8 => ?_)
        refine PR.stp (Fr.wI Hs2 (by decide +kernel)) (fun s11 Hs11 => ?_)
        refine PR.bd (PR.pure Hs11 (fr_f_X14_is 101 s11)) (fun r16 s13 Hs13 => ?_)
        refine PR.ite (fun _ => ?_) (fun _ => ?_)
        · refine PR.bd (PR.call Hs13 (fr_f_X14_addLimit x1 y8 0 s13) (by decide +kernel)) (fun r22 s19 Hs19 => ?_)
          refine PR.bdv (PR.call Hs19 (fr_f_X14_rangesOf r22 s19) (by decide +kernel)) (fun s24 Hs24 => ?_)
          refine PR.bd (PR.call Hs24 (fr_f_X14_take 17 s24) (by decide +kernel)) (fun r30 s27 Hs27 => ?_)
          exact PR.tail Hs27 (ih x1 s27)
        · refine PR.bdv (PR.call Hs13 (fr_f_X14_sizeOf x1 y8 1 s13) (by decide +kernel)) (fun s32 Hs32 => ?_)
          exact PR.tail Hs32 (ih x1 s32)
    · exact PR.some Hs
def W_f_X14_limitsOf : List Nat := [87008, 87009, 87019, 87048, 87054, 107999, 121999, 122999, 123999, 124999, 125999, 126999, 127999, 128999, 129999]
theorem fr_f_X14_limitsOf (x1 : Int) (s : vS) : PR (W_f_X14_limitsOf) s (fun q => q) (f_X14_limitsOf x1 s) := by
  unfold f_X14_limitsOf
  have Hs : Fr (W_f_X14_limitsOf) s s := Fr.rfl
  refine PR.lq_0 (PR.call Hs (fr_l_X14_limitsOf_0 FU x1 s) (by decide +kernel)) (fun s1 Hs1 => ?_)
  exact PR.some Hs1
def W_l_X14_partsOf_2 : List Nat := [87008, 87009, 87019, 87069, 137999, 139999, 140999]
theorem fr_j_X14_partsOf_127 (rec : Int → Int → vS → Option (vS)) (hrec : ∀ (y0 : Int) (y1 : Int) (s : vS), PR (W_l_X14_partsOf_2) s (fun q => q) (rec y0 y1 s)) (x1 : Int) (s : vS) : PR (W_l_X14_partsOf_2) s (fun q => q) (j_X14_partsOf_127 rec x1 s) := by
  unfold j_X14_partsOf_127
  have Hs : Fr (W_l_X14_partsOf_2) s s := Fr.rfl
  refine PR.stp (Fr.wI Hs (by decide +kernel)) (fun s1 Hs1 => ?_)
  refine PR.gd ?_
  refine PR.gd ?_
  refine PR.stp (Fr.wE Hs1 (by decide +kernel)) (fun s5 Hs5 => ?_)
  refine PR.bd (PR.call Hs5 (fr_f_X14_eat 18 s5) (by decide +kernel)) (fun r10 s7 Hs7 => ?_)
  exact PR.tail Hs7 (hrec x1 r10 s7)
theorem fr_j_X14_partsOf_29 (rec : Int → Int → vS → Option (vS)) (hrec : ∀ (y0 : Int) (y1 : Int) (s : vS), PR (W_l_X14_partsOf_2) s (fun q => q) (rec y0 y1 s)) (x1 : Int) (s : vS) : PR (W_l_X14_partsOf_2) s (fun q => q) (j_X14_partsOf_29 rec x1 s) := by
  unfold j_X14_partsOf_29
  have Hs : Fr (W_l_X14_partsOf_2) s s := Fr.rfl
  refine PR.gd ?_
  refine PR.stp (Fr.wE Hs (by decide +kernel)) (fun s2 Hs2 => ?_)
  refine PR.gd ?_
  refine PR.stp (Fr.wE Hs2 (by decide +kernel)) (fun s5 Hs5 => ?_)
  refine PR.bd (PR.pure Hs5 (fr_f_X14_is 3 s5)) (fun r10 s7 Hs7 => ?_)
  refine PR.ite (fun _ => ?_) (fun _ => ?_)
  · refine PR.bd (PR.call Hs7 (fr_f_X14_take 2 s7) (by decide +kernel)) (fun r16 s13 Hs13 => ?_)
    refine PR.gd ?_
    refine PR.gd ?_
    refine PR.stp (Fr.wE Hs13 (by decide +kernel)) (fun s20 Hs20 => ?_)
    refine PR.bd (PR.call Hs20 (fr_f_X14_eat 16 s20) (by decide +kernel)) (fun r25 s22 Hs22 => ?_)
    refine PR.ite (fun _ => ?_) (fun _ => ?_)
    · exact PR.tail Hs22 (fr_j_X14_partsOf_127 rec hrec x1 s22)
    · refine PR.bd (PR.call Hs22 (fr_f_X14_take 3 s22) (by decide +kernel)) (fun r31 s28 Hs28 => ?_)
      refine PR.gd ?_
      refine PR.gd ?_
      refine PR.stp (Fr.wE Hs28 (by decide +kernel)) (fun s35 Hs35 => ?_)
      refine PR.bd (PR.call Hs35 (fr_f_X14_take 17 s35) (by decide +kernel)) (fun r40 s37 Hs37 => ?_)
      exact PR.tail Hs37 (fr_j_X14_partsOf_127 rec hrec x1 s37)
  · refine PR.gd ?_
    refine PR.stp (Fr.wE Hs7 (by decide +kernel)) (fun s43 Hs43 => ?_)
    refine PR.stp (Fr.wI Hs43 (by decide +kernel)) (fun s45 Hs45 => ?_)
    exact PR.tail Hs45 (fr_j_X14_partsOf_127 rec hrec x1 s45)
theorem fr_l_X14_partsOf_2 : ∀ (n : Nat) (x1 : Int) (x2 : Int) (s : vS), PR (W_l_X14_partsOf_2) s (fun q => q) (l_X14_partsOf_2 n x1 x2 s)
  := by
  intro n
  induction n with
  | zero => intro x1 x2 s; exact PR.none
  | succ n ih =>
    intro x1 x2 s
    unfold l_X14_partsOf_2
    have Hs : Fr (W_l_X14_partsOf_2) s s := Fr.rfl
    refine PR.ite (fun _ => ?_) (fun _ => ?_)
    · refine PR.ite (fun _ => ?_) (fun _ => ?_)
      · refine PR.bd (PR.pure Hs (fr_f_X14_is 2 s)) (fun r6 s3 Hs3 => ?_)
        refine PR.ite (fun _ => ?_) (fun _ => ?_)
        · refine PR.bd (PR.pure Hs3 (fr_f_X14_is 3 s3)) (fun r12 s9 Hs9 => ?_)
          refine PR.ite (fun _ => ?_) (fun _ => ?_)
          · exact PR.some Hs9
          · exact PR.tail Hs9 (fr_j_X14_partsOf_29 (l_X14_partsOf_2 n) ih x1 s9)
        · exact PR.tail Hs3 (fr_j_X14_partsOf_29 (l_X14_partsOf_2 n) ih x1 s3)
      · exact PR.tail Hs (fr_j_X14_partsOf_29 (l_X14_partsOf_2 n) ih x1 s)
    · exact PR.some Hs
def W_f_X14_partsOf : List Nat := [87008, 87009, 87019, 87069, 137999, 139999, 140999]
theorem fr_f_X14_partsOf (x1 : Int) (s : vS) : PR (W_f_X14_partsOf) s (fun q => q) (f_X14_partsOf x1 s) := by
  unfold f_X14_partsOf
  have Hs : Fr (W_f_X14_partsOf) s s := Fr.rfl
  refine PR.lq_0 (PR.call Hs (fr_l_X14_partsOf_2 FU x1 0 s) (by decide +kernel)) (fun s1 Hs1 => ?_)
  exact PR.some Hs1
def W_j_X14_parseValue_221 : List Nat := [87008, 87009, 87061]
theorem fr_j_X14_parseValue_221 (x2 : Int) (s : vS) : PR (W_j_X14_parseValue_221) s (fun q => q.2) (j_X14_parseValue_221 x2 s) := by
  unfold j_X14_parseValue_221
  have Hs : Fr (W_j_X14_parseValue_221) s s := Fr.rfl
  refine PR.bdv (PR.call Hs (fr_f_X14_misfit 1 s) (by decide +kernel)) (fun s1 Hs1 => ?_)
  refine PR.stp (Fr.wI Hs1 (by decide +kernel)) (fun s4 Hs4 => ?_)
  exact PR.some Hs4
def W_j_X14_parseValue_188 : List Nat := [87008, 87009, 87019, 87061, 87069, 137999, 139999, 140999]
theorem fr_j_X14_parseValue_188 (x2 : Int) (s : vS) : PR (W_j_X14_parseValue_188) s (fun q => q.2) (j_X14_parseValue_188 x2 s) := by
  unfold j_X14_parseValue_188
  have Hs : Fr (W_j_X14_parseValue_188) s s := Fr.rfl
  refine PR.gd ?_
  refine PR.ite (fun _ => ?_) (fun _ => ?_)
  · refine PR.bd (PR.call Hs (fr_f_X14_eat 12 s) (by decide +kernel)) (fun r6 s3 Hs3 => ?_)
    refine PR.ite (fun _ => ?_) (fun _ => ?_)
    · exact PR.call Hs3 (fr_j_X14_parseValue_221 x2 s3) (by decide +kernel)
    · refine PR.bdv (PR.call Hs3 (fr_f_X14_partsOf x2 s3) (by decide +kernel)) (fun s9 Hs9 => ?_)
      refine PR.bd (PR.call Hs9 (fr_f_X14_take 13 s9) (by decide +kernel)) (fun r15 s12 Hs12 => ?_)
      refine PR.stp (Fr.wI Hs12 (by decide +kernel)) (fun s17 Hs17 => ?_)
      exact PR.some Hs17
  · exact PR.call Hs (fr_j_X14_parseValue_221 x2 s) (by decide +kernel)
def W_j_X14_parseValue_175 : List Nat := [87019, 87061]
theorem fr_j_X14_parseValue_175 (x2 : Int) (s : vS) : PR (W_j_X14_parseValue_175) s (fun q => q.2) (j_X14_parseValue_175 x2 s) := by
  unfold j_X14_parseValue_175
  have Hs : Fr (W_j_X14_parseValue_175) s s := Fr.rfl
  refine PR.stp (Fr.wI Hs (by decide +kernel)) (fun s1 Hs1 => ?_)
  refine PR.stp (Fr.wI Hs1 (by decide +kernel)) (fun s3 Hs3 => ?_)
  exact PR.some Hs3
def W_f_X14_parseValue : List Nat := [87008, 87009, 87019, 87061, 87069, 132999, 133999, 134999, 135999, 136999, 137999, 138999, 139999, 140999]
theorem fr_f_X14_parseValue (x1 : Int) (s : vS) : PR (W_f_X14_parseValue) s (fun q => q.2) (f_X14_parseValue x1 s) := by
  unfold f_X14_parseValue
  have Hs : Fr (W_f_X14_parseValue) s s := Fr.rfl
  refine PR.vl (fun y1 => ?_)
  refine PR.ite (fun _ => ?_) (fun _ => ?_)
  · refine PR.gd ?_
    refine PR.stp (Fr.wE Hs (by decide +kernel)) (fun s6 Hs6 => ?_)
    refine PR.gd ?_
    refine PR.stp (Fr.wE Hs6 (by decide +kernel)) (fun s9 Hs9 => ?_)
    refine PR.bd (PR.call Hs9 (fr_f_X14_eat 19 s9) (by decide +kernel)) (fun r14 s11 Hs11 => ?_)
    refine PR.gd ?_
    refine PR.gd ?_
    refine PR.stp (Fr.wE Hs11 (by decide +kernel)) (fun s18 Hs18 => ?_)
    refine PR.gd ?_
    refine PR.stp (Fr.wE Hs18 (by decide +kernel)) (fun s21 Hs21 => ?_)
    refine PR.gd ?_
    refine PR.stp (Fr.wE Hs21 (by decide +kernel)) (fun s24 Hs24 => ?_)
    refine PR.gd ?_
    refine PR.gd ?_
    refine PR.stp (Fr.wE Hs24 (by decide +kernel)) (fun s28 Hs28 => ?_)
    refine PR.gd ?_
    refine PR.stp (Fr.wE Hs28 (by decide +kernel)) (fun s31 Hs31 => ?_)
    refine PR.bd (PR.pure Hs31 (fr_f_X14_is 3 s31)) (fun r36 s33 Hs33 => ?_)
    refine PR.ite (fun _ => ?_) (fun _ => ?_)
    · refine PR.gd ?_
      refine PR.ite (fun _ => ?_) (fun _ => ?_)
      · refine PR.bd (PR.pure Hs33 (fr_f_X14_is 106 s33)) (fun r44 s41 Hs41 => ?_)
        refine PR.ite (fun _ => ?_) (fun _ => ?_)
        · refine PR.bd (PR.pure Hs41 (fr_f_X14_is 67 s41)) (fun r50 s47 Hs47 => ?_)
          refine PR.ite (fun _ => ?_) (fun _ => ?_)
          · refine PR.bd (PR.pure Hs47 (fr_f_X14_is 85 s47)) (fun r56 s53 Hs53 => ?_)
            refine PR.ite (fun _ => ?_) (fun _ => ?_)
            · refine PR.bd (PR.pure Hs53 (fr_f_X14_is 2 s53)) (fun r62 s59 Hs59 => ?_)
              refine PR.ite (fun _ => ?_) (fun _ => ?_)
              · refine PR.bd (PR.pure Hs59 (fr_f_X14_is 4 s59)) (fun r68 s65 Hs65 => ?_)
                refine PR.ite (fun _ => ?_) (fun _ => ?_)
                · refine PR.bd (PR.pure Hs65 (fr_f_X14_is 5 s65)) (fun r74 s71 Hs71 => ?_)
                  refine PR.ite (fun _ => ?_) (fun _ => ?_)
                  · refine PR.bd (PR.pure Hs71 (fr_f_X14_is 6 s71)) (fun r80 s77 Hs77 => ?_)
                    refine PR.ite (fun _ => ?_) (fun _ => ?_)
                    · exact PR.call Hs77 (fr_j_X14_parseValue_188 y1 s77) (by decide +kernel)
                    · exact PR.call Hs77 (fr_j_X14_parseValue_175 y1 s77) (by decide +kernel)
                  · exact PR.call Hs71 (fr_j_X14_parseValue_175 y1 s71) (by decide +kernel)
                · exact PR.call Hs65 (fr_j_X14_parseValue_175 y1 s65) (by decide +kernel)
              · exact PR.call Hs59 (fr_j_X14_parseValue_175 y1 s59) (by decide +kernel)
            · exact PR.call Hs53 (fr_j_X14_parseValue_175 y1 s53) (by decide +kernel)
          · exact PR.call Hs47 (fr_j_X14_parseValue_175 y1 s47) (by decide +kernel)
        · exact PR.call Hs41 (fr_j_X14_parseValue_175 y1 s41) (by decide +kernel)
      · exact PR.call Hs33 (fr_j_X14_parseValue_188 y1 s33) (by decide +kernel)
    · refine PR.stp (Fr.wI Hs33 (by decide +kernel)) (fun s83 Hs83 => ?_)
      refine PR.stp (Fr.wI Hs83 (by decide +kernel)) (fun s85 Hs85 => ?_)
      exact PR.some Hs85
  · exact PR.some Hs
def W_j_X14_resume_145 : List Nat := [87079, 87082, 87083]
theorem fr_j_X14_resume_145 (x1 : Int) (s : vS) : PR (W_j_X14_resume_145) s (fun q => q) (j_X14_resume_145 x1 s) := by
  unfold j_X14_resume_145
  have Hs : Fr (W_j_X14_resume_145) s s := Fr.rfl
  refine PR.stp (Fr.wI Hs (by decide +kernel)) (fun s1 Hs1 => ?_)
  refine PR.stp (Fr.wI Hs1 (by decide +kernel)) (fun s3 Hs3 => ?_)
  refine PR.stp (Fr.wI Hs3 (by decide +kernel)) (fun s5 Hs5 => ?_)
  exact PR.some Hs5
def W_j_X14_resume_122 : List Nat := [87008, 87009, 87019, 87042, 87079, 87082, 87083, 104999, 105999, 116999, 118999, 119999, 120999, 145999, 146999]
theorem fr_j_X14_resume_122 (x1 : Int) (x2 : Int) (s : vS) : PR (W_j_X14_resume_122) s (fun q => q) (j_X14_resume_122 x1 x2 s) := by
  unfold j_X14_resume_122
  have Hs : Fr (W_j_X14_resume_122) s s := Fr.rfl
  refine PR.bd (PR.call Hs (fr_f_X14_eat 18 s) (by decide +kernel)) (fun r4 s1 Hs1 => ?_)
  refine PR.ite (fun _ => ?_) (fun _ => ?_)
  · refine PR.bd (PR.call Hs1 (fr_f_X14_take 13 s1) (by decide +kernel)) (fun r10 s7 Hs7 => ?_)
    exact PR.call Hs7 (fr_j_X14_resume_145 x1 s7) (by decide +kernel)
  · refine PR.bdv (PR.call Hs1 (fr_f_X14_component x1 x2 s1) (by decide +kernel)) (fun s12 Hs12 => ?_)
    exact PR.some Hs12
def W_j_X14_resume_81 : List Nat := [87008, 87009, 87019, 87042, 87061, 87069, 87079, 87082, 87083, 104999, 105999, 116999, 118999, 119999, 120999, 132999, 133999, 134999, 135999, 136999, 137999, 138999, 139999, 140999, 145999, 146999]
theorem fr_j_X14_resume_81 (x1 : Int) (x2 : Int) (s : vS) : PR (W_j_X14_resume_81) s (fun q => q) (j_X14_resume_81 x1 x2 s) := by
  unfold j_X14_resume_81
  have Hs : Fr (W_j_X14_resume_81) s s := Fr.rfl
  refine PR.gd ?_
  refine PR.ite (fun _ => ?_) (fun _ => ?_)
  · exact PR.call Hs (fr_j_X14_resume_122 x1 x2 s) (by decide +kernel)
  · refine PR.bd (PR.call Hs (fr_f_X14_eat 56 s) (by decide +kernel)) (fun r6 s3 Hs3 => ?_)
    refine PR.ite (fun _ => ?_) (fun _ => ?_)
    · exact PR.call Hs3 (fr_j_X14_resume_122 x1 x2 s3) (by decide +kernel)
    · refine PR.gd ?_
      refine PR.stp (Fr.wE Hs3 (by decide +kernel)) (fun s10 Hs10 => ?_)
      refine PR.bd (PR.call Hs10 (fr_f_X14_parseValue (gI s10 87 82) s10) (by decide +kernel)) (fun r15 s12 Hs12 => ?_)
      refine PR.gd ?_
      refine PR.gd ?_
      refine PR.stp (Fr.wE Hs12 (by decide +kernel)) (fun s19 Hs19 => ?_)
      exact PR.call Hs19 (fr_j_X14_resume_122 x1 x2 s19) (by decide +kernel)
def W_f_X14_resume : List Nat := [87008, 87009, 87019, 87042, 87061, 87069, 87079, 87082, 87083, 104999, 105999, 106999, 116999, 117999, 118999, 119999, 120999, 132999, 133999, 134999, 135999, 136999, 137999, 138999, 139999, 140999, 145999, 146999]
theorem fr_f_X14_resume (s : vS) : PR (W_f_X14_resume) s (fun q => q) (f_X14_resume s) := by
  unfold f_X14_resume
  have Hs : Fr (W_f_X14_resume) s s := Fr.rfl
  refine PR.gd ?_
  refine PR.vl (fun y2 => ?_)
  refine PR.gd ?_
  refine PR.vl (fun y6 => ?_)
  refine PR.ite (fun _ => ?_) (fun _ => ?_)
  · refine PR.gd ?_
    refine PR.stp (Fr.wE Hs (by decide +kernel)) (fun s11 Hs11 => ?_)
    refine PR.gd ?_
    refine PR.ite (fun _ => ?_) (fun _ => ?_)
    · exact PR.call Hs11 (fr_j_X14_resume_81 y2 y6 s11) (by decide +kernel)
    · refine PR.bd (PR.call Hs11 (fr_f_X14_eat 90 s11) (by decide +kernel)) (fun r18 s15 Hs15 => ?_)
      refine PR.ite (fun _ => ?_) (fun _ => ?_)
      · exact PR.call Hs15 (fr_j_X14_resume_81 y2 y6 s15) (by decide +kernel)
      · refine PR.gd ?_
        refine PR.stp (Fr.wE Hs15 (by decide +kernel)) (fun s22 Hs22 => ?_)
        exact PR.call Hs22 (fr_j_X14_resume_122 y2 y6 s22) (by decide +kernel)
  · refine PR.gd ?_
    refine PR.stp (Fr.wE Hs (by decide +kernel)) (fun s25 Hs25 => ?_)
    exact PR.call Hs25 (fr_j_X14_resume_145 y2 s25) (by decide +kernel)
def W_l_X14_parseType_17 : List Nat := [87008, 87009, 87019, 87020, 87032, 87037, 87042, 87048, 87054, 87061, 87069, 87079, 87082, 87083, 87084, 87085, 97999, 98999, 99999, 100999, 101999, 102999, 103999, 104999, 105999, 106999, 107999, 108999, 109999, 110999, 111999, 112999, 113999, 114999, 115999, 116999, 117999, 118999, 119999, 120999, 121999, 122999, 123999, 124999, 125999, 126999, 127999, 128999, 129999, 132999, 133999, 134999, 135999, 136999, 137999, 138999, 139999, 140999, 145999, 146999, 147998, 147999, 148998, 148999, 149998, 149999, 150999, 151999, 152998, 152999]
theorem fr_l_X14_parseType_17 : ∀ (n : Nat) (x1 : Int) (s : vS), PR (W_l_X14_parseType_17) s (fun q => q) (l_X14_parseType_17 n x1 s)
  := by
  intro n
  induction n with
  | zero => intro x1 s; exact PR.none
  | succ n ih =>
    intro x1 s
    unfold l_X14_parseType_17
    have Hs : Fr (W_l_X14_parseType_17) s s := Fr.rfl
    refine PR.ite (fun _ => ?_) (fun _ => ?_)
    · refine PR.ite (fun _ => ?_) (fun _ => ?_)
      · refine PR.ite (fun _ => ?_) (fun _ => ?_)
        · refine PR.bdv (PR.call Hs (fr_f_X14_limitsOf (gI s 87 82) s) (by decide +kernel)) (fun s4 Hs4 => ?_)
          refine PR.ite (fun _ => ?_) (fun _ => ?_)
          · exact PR.tail Hs4 (ih 1 s4)
          · refine PR.bdv (PR.call Hs4 (fr_f_X14_resume s4) (by decide +kernel)) (fun s8 Hs8 => ?_)
            exact PR.tail Hs8 (ih x1 s8)
        · refine PR.bdv (PR.call Hs (fr_f_X14_begin s) (by decide +kernel)) (fun s11 Hs11 => ?_)
          exact PR.tail Hs11 (ih x1 s11)
      · exact PR.some Hs
    · exact PR.some Hs
def W_j_X14_parseType_69 : List Nat := []
theorem fr_j_X14_parseType_69 (s : vS) : PR (W_j_X14_parseType_69) s (fun q => q.2) (j_X14_parseType_69 s) := by
  unfold j_X14_parseType_69
  have Hs : Fr (W_j_X14_parseType_69) s s := Fr.rfl
  refine PR.ite (fun _ => ?_) (fun _ => ?_)
  · exact PR.some Hs
  · exact PR.some Hs
def W_f_X14_parseType : List Nat := [87008, 87009, 87019, 87020, 87032, 87037, 87042, 87048, 87054, 87061, 87069, 87079, 87082, 87083, 87084, 87085, 97999, 98999, 99999, 100999, 101999, 102999, 103999, 104999, 105999, 106999, 107999, 108999, 109999, 110999, 111999, 112999, 113999, 114999, 115999, 116999, 117999, 118999, 119999, 120999, 121999, 122999, 123999, 124999, 125999, 126999, 127999, 128999, 129999, 132999, 133999, 134999, 135999, 136999, 137999, 138999, 139999, 140999, 145999, 146999, 147998, 147999, 148998, 148999, 149998, 149999, 150999, 151999, 152998, 152999]
theorem fr_f_X14_parseType (s : vS) : PR (W_f_X14_parseType) s (fun q => q.2) (f_X14_parseType s) := by
  unfold f_X14_parseType
  have Hs : Fr (W_f_X14_parseType) s s := Fr.rfl
  refine PR.stp (Fr.wI Hs (by decide +kernel)) (fun s1 Hs1 => ?_)
  refine PR.stp (Fr.wI Hs1 (by decide +kernel)) (fun s3 Hs3 => ?_)
  refine PR.stp (Fr.wI Hs3 (by decide +kernel)) (fun s5 Hs5 => ?_)
  refine PR.lq_0 (PR.call Hs5 (fr_l_X14_parseType_17 FU 0 s5) (by decide +kernel)) (fun s7 Hs7 => ?_)
  exact PR.pure Hs7 (fr_j_X14_parseType_69 s7)
def W_f_X14_assignment : List Nat := [87008, 87009, 87019, 87020, 87032, 87037, 87042, 87048, 87054, 87061, 87069, 87072, 87076, 87079, 87082, 87083, 87084, 87085, 97999, 98999, 99999, 100999, 101999, 102999, 103999, 104999, 105999, 106999, 107999, 108999, 109999, 110999, 111999, 112999, 113999, 114999, 115999, 116999, 117999, 118999, 119999, 120999, 121999, 122999, 123999, 124999, 125999, 126999, 127999, 128999, 129999, 132999, 133999, 134999, 135999, 136999, 137999, 138999, 139999, 140999, 141999, 142999, 143999, 144999, 145999, 146999, 147998, 147999, 148998, 148999, 149998, 149999, 150999, 151999, 152998, 152999]
theorem fr_f_X14_assignment (s : vS) : PR (W_f_X14_assignment) s (fun q => q) (f_X14_assignment s) := by
  unfold f_X14_assignment
  have Hs : Fr (W_f_X14_assignment) s s := Fr.rfl
  refine PR.vl (fun y1 => ?_)
  refine PR.gd ?_
  refine PR.stp (Fr.wE Hs (by decide +kernel)) (fun s5 Hs5 => ?_)
  refine PR.gd ?_
  refine PR.stp (Fr.wE Hs5 (by decide +kernel)) (fun s8 Hs8 => ?_)
  refine PR.bd (PR.call Hs8 (fr_f_X14_eat 1 s8) (by decide +kernel)) (fun r13 s10 Hs10 => ?_)
  refine PR.ite (fun _ => ?_) (fun _ => ?_)
  · refine PR.bd (PR.call Hs10 (fr_f_X14_take 2 s10) (by decide +kernel)) (fun r19 s16 Hs16 => ?_)
    refine PR.bd (PR.call Hs16 (fr_f_X14_parseType s16) (by decide +kernel)) (fun r24 s21 Hs21 => ?_)
    refine PR.gd ?_
    refine PR.gd ?_
    refine PR.stp (Fr.wE Hs21 (by decide +kernel)) (fun s28 Hs28 => ?_)
    refine PR.bd (PR.call Hs28 (fr_f_X14_take 7 s28) (by decide +kernel)) (fun r33 s30 Hs30 => ?_)
    refine PR.gd ?_
    refine PR.bd (PR.call Hs30 (fr_f_X14_parseValue (gE s30 142 y1) s30) (by decide +kernel)) (fun r39 s36 Hs36 => ?_)
    refine PR.gd ?_
    refine PR.gd ?_
    refine PR.stp (Fr.wE Hs36 (by decide +kernel)) (fun s43 Hs43 => ?_)
    refine PR.stp (Fr.wI Hs43 (by decide +kernel)) (fun s45 Hs45 => ?_)
    exact PR.some Hs45
  · refine PR.bd (PR.call Hs10 (fr_f_X14_take 7 s10) (by decide +kernel)) (fun r50 s47 Hs47 => ?_)
    refine PR.bd (PR.call Hs47 (fr_f_X14_parseType s47) (by decide +kernel)) (fun r55 s52 Hs52 => ?_)
    refine PR.gd ?_
    refine PR.gd ?_
    refine PR.stp (Fr.wE Hs52 (by decide +kernel)) (fun s59 Hs59 => ?_)
    refine PR.gd ?_
    refine PR.stp (Fr.wE Hs59 (by decide +kernel)) (fun s62 Hs62 => ?_)
    refine PR.stp (Fr.wI Hs62 (by decide +kernel)) (fun s64 Hs64 => ?_)
    refine PR.stp (Fr.wI Hs64 (by decide +kernel)) (fun s66 Hs66 => ?_)
    exact PR.some Hs66
def W_l_X14_parseModule_159 : List Nat := [87008, 87009, 87019, 87020, 87032, 87037, 87042, 87048, 87054, 87061, 87069, 87072, 87076, 87079, 87082, 87083, 87084, 87085, 97999, 98999, 99999, 100999, 101999, 102999, 103999, 104999, 105999, 106999, 107999, 108999, 109999, 110999, 111999, 112999, 113999, 114999, 115999, 116999, 117999, 118999, 119999, 120999, 121999, 122999, 123999, 124999, 125999, 126999, 127999, 128999, 129999, 132999, 133999, 134999, 135999, 136999, 137999, 138999, 139999, 140999, 141999, 142999, 143999, 144999, 145999, 146999, 147998, 147999, 148998, 148999, 149998, 149999, 150999, 151999, 152998, 152999]
theorem fr_l_X14_parseModule_159 : ∀ (n : Nat) (s : vS), PR (W_l_X14_parseModule_159) s (fun q => q) (l_X14_parseModule_159 n s)
  := by
  intro n
  induction n with
  | zero => intro s; exact PR.none
  | succ n ih =>
    intro s
    unfold l_X14_parseModule_159
    have Hs : Fr (W_l_X14_parseModule_159) s s := Fr.rfl
    refine PR.ite (fun _ => ?_) (fun _ => ?_)
    · refine PR.bd (PR.pure Hs (fr_f_X14_is 60 s)) (fun r5 s2 Hs2 => ?_)
      refine PR.ite (fun _ => ?_) (fun _ => ?_)
      · refine PR.bdv (PR.call Hs2 (fr_f_X14_assignment s2) (by decide +kernel)) (fun s8 Hs8 => ?_)
        exact PR.tail Hs8 (ih s8)
      · exact PR.some Hs2
    · exact PR.some Hs
def W_j_X14_parseModule_182 : List Nat := [87008, 87009, 87019]
theorem fr_j_X14_parseModule_182 (s : vS) : PR (W_j_X14_parseModule_182) s (fun q => q) (j_X14_parseModule_182 s) := by
  unfold j_X14_parseModule_182
  have Hs : Fr (W_j_X14_parseModule_182) s s := Fr.rfl
  refine PR.bd (PR.call Hs (fr_f_X14_take 60 s) (by decide +kernel)) (fun r4 s1 Hs1 => ?_)
  refine PR.bd (PR.call Hs1 (fr_f_X14_take 0 s1) (by decide +kernel)) (fun r9 s6 Hs6 => ?_)
  exact PR.some Hs6
def W_j_X14_parseModule_145 : List Nat := [87008, 87009, 87019, 87020, 87032, 87037, 87042, 87048, 87054, 87061, 87069, 87072, 87076, 87079, 87082, 87083, 87084, 87085, 97999, 98999, 99999, 100999, 101999, 102999, 103999, 104999, 105999, 106999, 107999, 108999, 109999, 110999, 111999, 112999, 113999, 114999, 115999, 116999, 117999, 118999, 119999, 120999, 121999, 122999, 123999, 124999, 125999, 126999, 127999, 128999, 129999, 132999, 133999, 134999, 135999, 136999, 137999, 138999, 139999, 140999, 141999, 142999, 143999, 144999, 145999, 146999, 147998, 147999, 148998, 148999, 149998, 149999, 150999, 151999, 152998, 152999]
theorem fr_j_X14_parseModule_145 (s : vS) : PR (W_j_X14_parseModule_145) s (fun q => q) (j_X14_parseModule_145 s) := by
  unfold j_X14_parseModule_145
  have Hs : Fr (W_j_X14_parseModule_145) s s := Fr.rfl
  refine PR.bd (PR.call Hs (fr_f_X14_take 7 s) (by decide +kernel)) (fun r4 s1 Hs1 => ?_)
  refine PR.bd (PR.call Hs1 (fr_f_X14_take 45 s1) (by decide +kernel)) (fun r9 s6 Hs6 => ?_)
  refine PR.lq_0 (PR.call Hs6 (fr_l_X14_parseModule_159 FU s6) (by decide +kernel)) (fun s11 Hs11 => ?_)
  exact PR.call Hs11 (fr_j_X14_parseModule_182 s11) (by decide +kernel)
def W_j_X14_parseModule_118 : List Nat := [87008, 87009, 87019, 87020, 87032, 87037, 87042, 87048, 87054, 87061, 87069, 87072, 87076, 87078, 87079, 87082, 87083, 87084, 87085, 97999, 98999, 99999, 100999, 101999, 102999, 103999, 104999, 105999, 106999, 107999, 108999, 109999, 110999, 111999, 112999, 113999, 114999, 115999, 116999, 117999, 118999, 119999, 120999, 121999, 122999, 123999, 124999, 125999, 126999, 127999, 128999, 129999, 132999, 133999, 134999, 135999, 136999, 137999, 138999, 139999, 140999, 141999, 142999, 143999, 144999, 145999, 146999, 147998, 147999, 148998, 148999, 149998, 149999, 150999, 151999, 152998, 152999]
theorem fr_j_X14_parseModule_118 (s : vS) : PR (W_j_X14_parseModule_118) s (fun q => q) (j_X14_parseModule_118 s) := by
  unfold j_X14_parseModule_118
  have Hs : Fr (W_j_X14_parseModule_118) s s := Fr.rfl
  refine PR.bd (PR.pure Hs (fr_f_X14_is 74 s)) (fun r4 s1 Hs1 => ?_)
  refine PR.gd ?_
  refine PR.stp (Fr.wI Hs1 (by decide +kernel)) (fun s7 Hs7 => ?_)
  refine PR.stp (Fr.wI Hs7 (by decide +kernel)) (fun s9 Hs9 => ?_)
  refine PR.bd (PR.call Hs9 (fr_f_X14_take 105 s9) (by decide +kernel)) (fun r14 s11 Hs11 => ?_)
  exact PR.call Hs11 (fr_j_X14_parseModule_145 s11) (by decide +kernel)
def W_j_X14_parseModule_81 : List Nat := [87008, 87009, 87019, 87020, 87032, 87037, 87042, 87048, 87054, 87061, 87069, 87072, 87076, 87078, 87079, 87082, 87083, 87084, 87085, 97999, 98999, 99999, 100999, 101999, 102999, 103999, 104999, 105999, 106999, 107999, 108999, 109999, 110999, 111999, 112999, 113999, 114999, 115999, 116999, 117999, 118999, 119999, 120999, 121999, 122999, 123999, 124999, 125999, 126999, 127999, 128999, 129999, 132999, 133999, 134999, 135999, 136999, 137999, 138999, 139999, 140999, 141999, 142999, 143999, 144999, 145999, 146999, 147998, 147999, 148998, 148999, 149998, 149999, 150999, 151999, 152998, 152999]
theorem fr_j_X14_parseModule_81 (s : vS) : PR (W_j_X14_parseModule_81) s (fun q => q) (j_X14_parseModule_81 s) := by
  unfold j_X14_parseModule_81
  have Hs : Fr (W_j_X14_parseModule_81) s s := Fr.rfl
  refine PR.bd (PR.call Hs (fr_f_X14_take 58 s) (by decide +kernel)) (fun r4 s1 Hs1 => ?_)
  refine PR.stp (Fr.wI Hs1 (by decide +kernel)) (fun s6 Hs6 => ?_)
  refine PR.ite (fun _ => ?_) (fun _ => ?_)
  · refine PR.bd (PR.pure Hs6 (fr_f_X14_is 63 s6)) (fun r12 s9 Hs9 => ?_)
    refine PR.ite (fun _ => ?_) (fun _ => ?_)
    · refine PR.bd (PR.pure Hs9 (fr_f_X14_is 74 s9)) (fun r18 s15 Hs15 => ?_)
      refine PR.ite (fun _ => ?_) (fun _ => ?_)
      · exact PR.call Hs15 (fr_j_X14_parseModule_145 s15) (by decide +kernel)
      · exact PR.call Hs15 (fr_j_X14_parseModule_118 s15) (by decide +kernel)
    · exact PR.call Hs9 (fr_j_X14_parseModule_118 s9) (by decide +kernel)
  · exact PR.call Hs6 (fr_j_X14_parseModule_145 s6) (by decide +kernel)
def W_l_X14_parseModule_20 : List Nat := [87008, 87009, 87019]
theorem fr_j_X14_parseModule_53 (rec : vS → Option (vS)) (hrec : ∀ (s : vS), PR (W_l_X14_parseModule_20) s (fun q => q) (rec  s)) (s : vS) : PR (W_l_X14_parseModule_20) s (fun q => q) (j_X14_parseModule_53 rec s) := by
  unfold j_X14_parseModule_53
  have Hs : Fr (W_l_X14_parseModule_20) s s := Fr.rfl
  refine PR.bdv (PR.call Hs (fr_f_X14_misfit 0 s) (by decide +kernel)) (fun s1 Hs1 => ?_)
  exact PR.tail Hs1 (hrec s1)
theorem fr_l_X14_parseModule_20 : ∀ (n : Nat) (s : vS), PR (W_l_X14_parseModule_20) s (fun q => q) (l_X14_parseModule_20 n s)
  := by
  intro n
  induction n with
  | zero => intro s; exact PR.none
  | succ n ih =>
    intro s
    unfold l_X14_parseModule_20
    have Hs : Fr (W_l_X14_parseModule_20) s s := Fr.rfl
    refine PR.ite (fun _ => ?_) (fun _ => ?_)
    · refine PR.bd (PR.pure Hs (fr_f_X14_is 13 s)) (fun r5 s2 Hs2 => ?_)
      refine PR.ite (fun _ => ?_) (fun _ => ?_)
      · refine PR.bd (PR.pure Hs2 (fr_f_X14_is 12 s2)) (fun r11 s8 Hs8 => ?_)
        refine PR.ite (fun _ => ?_) (fun _ => ?_)
        · refine PR.bd (PR.pure Hs8 (fr_f_X14_is 0 s8)) (fun r17 s14 Hs14 => ?_)
          refine PR.ite (fun _ => ?_) (fun _ => ?_)
          · refine PR.stp (Fr.wI Hs14 (by decide +kernel)) (fun s20 Hs20 => ?_)
            exact PR.tail Hs20 (ih s20)
          · exact PR.tail Hs14 (fr_j_X14_parseModule_53 (l_X14_parseModule_20 n) ih s14)
        · exact PR.tail Hs8 (fr_j_X14_parseModule_53 (l_X14_parseModule_20 n) ih s8)
      · exact PR.some Hs2
    · exact PR.some Hs
def W_j_X14_parseModule_74 : List Nat := [87008, 87009, 87019, 87020, 87032, 87037, 87042, 87048, 87054, 87061, 87069, 87072, 87076, 87078, 87079, 87082, 87083, 87084, 87085, 97999, 98999, 99999, 100999, 101999, 102999, 103999, 104999, 105999, 106999, 107999, 108999, 109999, 110999, 111999, 112999, 113999, 114999, 115999, 116999, 117999, 118999, 119999, 120999, 121999, 122999, 123999, 124999, 125999, 126999, 127999, 128999, 129999, 132999, 133999, 134999, 135999, 136999, 137999, 138999, 139999, 140999, 141999, 142999, 143999, 144999, 145999, 146999, 147998, 147999, 148998, 148999, 149998, 149999, 150999, 151999, 152998, 152999]
theorem fr_j_X14_parseModule_74 (s : vS) : PR (W_j_X14_parseModule_74) s (fun q => q) (j_X14_parseModule_74 s) := by
  unfold j_X14_parseModule_74
  have Hs : Fr (W_j_X14_parseModule_74) s s := Fr.rfl
  refine PR.bd (PR.call Hs (fr_f_X14_take 13 s) (by decide +kernel)) (fun r4 s1 Hs1 => ?_)
  exact PR.call Hs1 (fr_j_X14_parseModule_81 s1) (by decide +kernel)
def W_f_X14_parseModule : List Nat := [87008, 87009, 87019, 87020, 87032, 87037, 87042, 87048, 87054, 87061, 87069, 87072, 87076, 87078, 87079, 87082, 87083, 87084, 87085, 97999, 98999, 99999, 100999, 101999, 102999, 103999, 104999, 105999, 106999, 107999, 108999, 109999, 110999, 111999, 112999, 113999, 114999, 115999, 116999, 117999, 118999, 119999, 120999, 121999, 122999, 123999, 124999, 125999, 126999, 127999, 128999, 129999, 132999, 133999, 134999, 135999, 136999, 137999, 138999, 139999, 140999, 141999, 142999, 143999, 144999, 145999, 146999, 147998, 147999, 148998, 148999, 149998, 149999, 150999, 151999, 152998, 152999]
theorem fr_f_X14_parseModule (s : vS) : PR (W_f_X14_parseModule) s (fun q => q) (f_X14_parseModule s) := by
  unfold f_X14_parseModule
  have Hs : Fr (W_f_X14_parseModule) s s := Fr.rfl
  refine PR.stp (Fr.wI Hs (by decide +kernel)) (fun s1 Hs1 => ?_)
  refine PR.bd (PR.call Hs1 (fr_f_X14_take 1 s1) (by decide +kernel)) (fun r6 s3 Hs3 => ?_)
  refine PR.bd (PR.call Hs3 (fr_f_X14_eat 12 s3) (by decide +kernel)) (fun r11 s8 Hs8 => ?_)
  refine PR.ite (fun _ => ?_) (fun _ => ?_)
  · exact PR.call Hs8 (fr_j_X14_parseModule_81 s8) (by decide +kernel)
  · refine PR.lq_0 (PR.call Hs8 (fr_l_X14_parseModule_20 FU s8) (by decide +kernel)) (fun s14 Hs14 => ?_)
    exact PR.call Hs14 (fr_j_X14_parseModule_74 s14) (by decide +kernel)
def W_l_X14_sameName_36 : List Nat := []
theorem fr_l_X14_sameName_36 : ∀ (n : Nat) (x1 : Int) (x2 : Int) (x3 : Int) (x4 : Int) (s : vS), PR (W_l_X14_sameName_36) s (Sum.elim (fun q => q) (fun q => q.2)) (l_X14_sameName_36 n x1 x2 x3 x4 s)
  := by
  intro n
  induction n with
  | zero => intro x1 x2 x3 x4 s; exact PR.none
  | succ n ih =>
    intro x1 x2 x3 x4 s
    unfold l_X14_sameName_36
    have Hs : Fr (W_l_X14_sameName_36) s s := Fr.rfl
    refine PR.ite (fun _ => ?_) (fun _ => ?_)
    · exact PR.some Hs
    · refine PR.gd ?_
      refine PR.gd ?_
      refine PR.gd ?_
      refine PR.gd ?_
      refine PR.ite (fun _ => ?_) (fun _ => ?_)
      · refine PR.vl (fun y7 => ?_)
        exact PR.tail Hs (ih x1 x2 x3 y7 s)
      · exact PR.some Hs
def W_f_X14_sameName : List Nat := []
theorem fr_f_X14_sameName (x1 : Int) (x2 : Int) (s : vS) : PR (W_f_X14_sameName) s (fun q => q.2) (f_X14_sameName x1 x2 s) := by
  unfold f_X14_sameName
  have Hs : Fr (W_f_X14_sameName) s s := Fr.rfl
  refine PR.gd ?_
  refine PR.gd ?_
  refine PR.vl (fun y3 => ?_)
  refine PR.gd ?_
  refine PR.gd ?_
  refine PR.ite (fun _ => ?_) (fun _ => ?_)
  · refine PR.lqs_0 (PR.pure Hs (fr_l_X14_sameName_36 FU x1 x2 y3 0 s)) (fun s9 Hs9 => ?_) (fun q Hq => PR.some Hq)
    exact PR.some Hs9
  · exact PR.some Hs
def W_l_X14_hash_9 : List Nat := []
theorem fr_l_X14_hash_9 : ∀ (n : Nat) (x1 : Int) (x2 : Int) (x3 : Int) (s : vS), PR (W_l_X14_hash_9) s (fun q => q.2) (l_X14_hash_9 n x1 x2 x3 s)
  := by
  intro n
  induction n with
  | zero => intro x1 x2 x3 s; exact PR.none
  | succ n ih =>
    intro x1 x2 x3 s
    unfold l_X14_hash_9
    have Hs : Fr (W_l_X14_hash_9) s s := Fr.rfl
    refine PR.gd ?_
    refine PR.ite (fun _ => ?_) (fun _ => ?_)
    · exact PR.some Hs
    · refine PR.gd ?_
      refine PR.vl (fun y4 => ?_)
      refine PR.vl (fun y7 => ?_)
      exact PR.tail Hs (ih x1 y4 y7 s)
def W_f_X14_hash : List Nat := []
theorem fr_f_X14_hash (x1 : Int) (s : vS) : PR (W_f_X14_hash) s (fun q => q.2) (f_X14_hash x1 s) := by
  unfold f_X14_hash
  have Hs : Fr (W_f_X14_hash) s s := Fr.rfl
  refine PR.gd ?_
  refine PR.vl (fun y2 => ?_)
  refine PR.lq_1 (PR.pure Hs (fr_l_X14_hash_9 FU x1 0 y2 s)) (fun y5 s6 Hs6 => ?_)
  exact PR.some Hs6
def W_l_X14_assignmentOf_11 : List Nat := []
theorem fr_l_X14_assignmentOf_11 : ∀ (n : Nat) (x1 : Int) (x2 : Int) (s : vS), PR (W_l_X14_assignmentOf_11) s (fun q => q.2) (l_X14_assignmentOf_11 n x1 x2 s)
  := by
  intro n
  induction n with
  | zero => intro x1 x2 s; exact PR.none
  | succ n ih =>
    intro x1 x2 s
    unfold l_X14_assignmentOf_11
    have Hs : Fr (W_l_X14_assignmentOf_11) s s := Fr.rfl
    refine PR.ite (fun _ => ?_) (fun _ => ?_)
    · exact PR.some Hs
    · refine PR.gd ?_
      refine PR.bd (PR.pure Hs (fr_f_X14_sameName (gE s 141 x2) x1 s)) (fun r6 s3 Hs3 => ?_)
      refine PR.ite (fun _ => ?_) (fun _ => ?_)
      · refine PR.gd ?_
        refine PR.vl (fun y10 => ?_)
        exact PR.tail Hs3 (ih x1 y10 s3)
      · exact PR.some Hs3
def W_f_X14_assignmentOf : List Nat := []
theorem fr_f_X14_assignmentOf (x1 : Int) (s : vS) : PR (W_f_X14_assignmentOf) s (fun q => q.2) (f_X14_assignmentOf x1 s) := by
  unfold f_X14_assignmentOf
  have Hs : Fr (W_f_X14_assignmentOf) s s := Fr.rfl
  refine PR.bd (PR.pure Hs (fr_f_X14_hash x1 s)) (fun r4 s1 Hs1 => ?_)
  refine PR.gd ?_
  refine PR.gd ?_
  refine PR.vl (fun y8 => ?_)
  refine PR.lq_1 (PR.pure Hs1 (fr_l_X14_assignmentOf_11 FU x1 y8 s1)) (fun y11 s12 Hs12 => ?_)
  exact PR.some Hs12
def W_f_X14_first : List Nat := [87094]
theorem fr_f_X14_first (x1 : Int) (s : vS) : PR (W_f_X14_first) s (fun q => q) (f_X14_first x1 s) := by
  unfold f_X14_first
  have Hs : Fr (W_f_X14_first) s s := Fr.rfl
  refine PR.ite (fun _ => ?_) (fun _ => ?_)
  · refine PR.stp (Fr.wI Hs (by decide +kernel)) (fun s2 Hs2 => ?_)
    exact PR.some Hs2
  · refine PR.ite (fun _ => ?_) (fun _ => ?_)
    · refine PR.stp (Fr.wI Hs (by decide +kernel)) (fun s5 Hs5 => ?_)
      exact PR.some Hs5
    · refine PR.stp (Fr.wI Hs (by decide +kernel)) (fun s7 Hs7 => ?_)
      exact PR.some Hs7
def W_f_X14_told : List Nat := [87008, 87009, 87094]
theorem fr_f_X14_told (x1 : Int) (s : vS) : PR (W_f_X14_told) s (fun q => q) (f_X14_told x1 s) := by
  unfold f_X14_told
  have Hs : Fr (W_f_X14_told) s s := Fr.rfl
  refine PR.ite (fun _ => ?_) (fun _ => ?_)
  · refine PR.stp (Fr.wI Hs (by decide +kernel)) (fun s2 Hs2 => ?_)
    exact PR.some Hs2
  · refine PR.bdv (PR.call Hs (fr_f_X14_tell x1 (gI s 87 94) s) (by decide +kernel)) (fun s4 Hs4 => ?_)
    refine PR.stp (Fr.wI Hs4 (by decide +kernel)) (fun s7 Hs7 => ?_)
    exact PR.some Hs7
def W_l_X14_checkTwice_2 : List Nat := [153999]
theorem fr_l_X14_checkTwice_2 : ∀ (n : Nat) (x1 : Int) (s : vS), PR (W_l_X14_checkTwice_2) s (fun q => q) (l_X14_checkTwice_2 n x1 s)
  := by
  intro n
  induction n with
  | zero => intro x1 s; exact PR.none
  | succ n ih =>
    intro x1 s
    unfold l_X14_checkTwice_2
    have Hs : Fr (W_l_X14_checkTwice_2) s s := Fr.rfl
    refine PR.ite (fun _ => ?_) (fun _ => ?_)
    · exact PR.some Hs
    · refine PR.gd ?_
      refine PR.stp (Fr.wE Hs (by decide +kernel)) (fun s3 Hs3 => ?_)
      refine PR.vl (fun y5 => ?_)
      exact PR.tail Hs3 (ih y5 s3)
def W_l_X14_checkTwice_24 : List Nat := [87094, 153999, 154999]
theorem fr_l_X14_checkTwice_24 : ∀ (n : Nat) (x1 : Int) (s : vS), PR (W_l_X14_checkTwice_24) s (fun q => q) (l_X14_checkTwice_24 n x1 s)
  := by
  intro n
  induction n with
  | zero => intro x1 s; exact PR.none
  | succ n ih =>
    intro x1 s
    unfold l_X14_checkTwice_24
    have Hs : Fr (W_l_X14_checkTwice_24) s s := Fr.rfl
    refine PR.ite (fun _ => ?_) (fun _ => ?_)
    · exact PR.some Hs
    · refine PR.gd ?_
      refine PR.bd (PR.pure Hs (fr_f_X14_assignmentOf (gE s 141 x1) s)) (fun r6 s3 Hs3 => ?_)
      refine PR.ite (fun _ => ?_) (fun _ => ?_)
      · refine PR.gd ?_
        refine PR.bd (PR.pure Hs3 (fr_f_X14_hash (gE s3 141 x1) s3)) (fun r13 s10 Hs10 => ?_)
        refine PR.gd ?_
        refine PR.gd ?_
        refine PR.stp (Fr.wE Hs10 (by decide +kernel)) (fun s17 Hs17 => ?_)
        refine PR.gd ?_
        refine PR.stp (Fr.wE Hs17 (by decide +kernel)) (fun s20 Hs20 => ?_)
        refine PR.vl (fun y22 => ?_)
        exact PR.tail Hs20 (ih y22 s20)
      · refine PR.gd ?_
        refine PR.gd ?_
        refine PR.bdv (PR.call Hs3 (fr_f_X14_first (gE s3 95 (gE s3 141 x1)) s3) (by decide +kernel)) (fun s27 Hs27 => ?_)
        refine PR.vl (fun y30 => ?_)
        exact PR.tail Hs27 (ih y30 s27)
def W_l_X14_checkTwice_175 : List Nat := [87094]
theorem fr_j_X14_checkTwice_214 (rec : Int → Int → Int → vS → Option (vS)) (hrec : ∀ (y0 : Int) (y1 : Int) (y2 : Int) (s : vS), PR (W_l_X14_checkTwice_175) s (fun q => q) (rec y0 y1 y2 s)) (x1 : Int) (x2 : Int) (x3 : Int) (s : vS) : PR (W_l_X14_checkTwice_175) s (fun q => q) (j_X14_checkTwice_214 rec x1 x2 x3 s) := by
  unfold j_X14_checkTwice_214
  have Hs : Fr (W_l_X14_checkTwice_175) s s := Fr.rfl
  refine PR.gd ?_
  refine PR.ite (fun _ => ?_) (fun _ => ?_)
  · refine PR.vl (fun y3 => ?_)
    exact PR.tail Hs (hrec x1 x2 y3 s)
  · refine PR.gd ?_
    refine PR.ite (fun _ => ?_) (fun _ => ?_)
    · refine PR.vl (fun y8 => ?_)
      exact PR.tail Hs (hrec x1 x2 y8 s)
    · refine PR.gd ?_
      refine PR.gd ?_
      refine PR.bd (PR.pure Hs (fr_f_X14_compareNumbers (gE s 115 x2) (gE s 115 x3) s)) (fun r16 s13 Hs13 => ?_)
      refine PR.ite (fun _ => ?_) (fun _ => ?_)
      · refine PR.gd ?_
        refine PR.gd ?_
        refine PR.bdv (PR.call Hs13 (fr_f_X14_first (gE s13 95 (gE s13 113 x2)) s13) (by decide +kernel)) (fun s24 Hs24 => ?_)
        refine PR.vl (fun y27 => ?_)
        exact PR.tail Hs24 (hrec x1 x2 y27 s24)
      · refine PR.vl (fun y19 => ?_)
        exact PR.tail Hs13 (hrec x1 x2 y19 s13)
theorem fr_l_X14_checkTwice_175 : ∀ (n : Nat) (x1 : Int) (x2 : Int) (x3 : Int) (s : vS), PR (W_l_X14_checkTwice_175) s (fun q => q) (l_X14_checkTwice_175 n x1 x2 x3 s)
  := by
  intro n
  induction n with
  | zero => intro x1 x2 x3 s; exact PR.none
  | succ n ih =>
    intro x1 x2 x3 s
    unfold l_X14_checkTwice_175
    have Hs : Fr (W_l_X14_checkTwice_175) s s := Fr.rfl
    refine PR.ite (fun _ => ?_) (fun _ => ?_)
    · exact PR.some Hs
    · refine PR.gd ?_
      refine PR.gd ?_
      refine PR.bd (PR.pure Hs (fr_f_X14_sameName (gE s 112 x2) (gE s 112 x3) s)) (fun r7 s4 Hs4 => ?_)
      refine PR.ite (fun _ => ?_) (fun _ => ?_)
      · exact PR.tail Hs4 (fr_j_X14_checkTwice_214 (l_X14_checkTwice_175 n) ih x1 x2 x3 s4)
      · refine PR.gd ?_
        refine PR.gd ?_
        refine PR.bdv (PR.call Hs4 (fr_f_X14_first (gE s4 95 (gE s4 112 x2)) s4) (by decide +kernel)) (fun s12 Hs12 => ?_)
        exact PR.tail Hs12 (fr_j_X14_checkTwice_214 (l_X14_checkTwice_175 n) ih x1 x2 x3 s12)
def W_l_X14_checkTwice_116 : List Nat := [87084, 87085, 87094, 115999, 147998, 147999, 148998, 148999, 149998, 149999, 150999, 151999, 152998, 152999]
theorem fr_j_X14_checkTwice_167 (rec : Int → Int → vS → Option (vS)) (hrec : ∀ (y0 : Int) (y1 : Int) (s : vS), PR (W_l_X14_checkTwice_116) s (fun q => q) (rec y0 y1 s)) (x1 : Int) (x2 : Int) (z1 : Int) (z2 : Int) (s : vS) : PR (W_l_X14_checkTwice_116) s (fun q => q) (j_X14_checkTwice_167 rec x1 x2 z1 z2 s) := by
  unfold j_X14_checkTwice_167
  have Hs : Fr (W_l_X14_checkTwice_116) s s := Fr.rfl
  refine PR.gd ?_
  refine PR.stp (Fr.wE Hs (by decide +kernel)) (fun s2 Hs2 => ?_)
  refine PR.gd ?_
  refine PR.vl (fun y5 => ?_)
  refine PR.lq_0 (PR.call Hs2 (fr_l_X14_checkTwice_175 FU x1 x2 y5 s2) (by decide +kernel)) (fun s8 Hs8 => ?_)
  refine PR.vl (fun y10 => ?_)
  exact PR.tail Hs8 (hrec x1 y10 s8)
theorem fr_l_X14_checkTwice_116 : ∀ (n : Nat) (x1 : Int) (x2 : Int) (s : vS), PR (W_l_X14_checkTwice_116) s (fun q => q) (l_X14_checkTwice_116 n x1 x2 s)
  := by
  intro n
  induction n with
  | zero => intro x1 x2 s; exact PR.none
  | succ n ih =>
    intro x1 x2 s
    unfold l_X14_checkTwice_116
    have Hs : Fr (W_l_X14_checkTwice_116) s s := Fr.rfl
    refine PR.gd ?_
    refine PR.gd ?_
    refine PR.ite (fun _ => ?_) (fun _ => ?_)
    · exact PR.some Hs
    · refine PR.gd ?_
      refine PR.ite (fun _ => ?_) (fun _ => ?_)
      · refine PR.gd ?_
        refine PR.gd ?_
        refine PR.bd (PR.call Hs (fr_f_X14_numberOf (gE s 113 x2) (gZ s 114 x2) s) (by decide +kernel)) (fun r11 s8 Hs8 => ?_)
        refine PR.gd ?_
        exact PR.tail Hs8 (fr_j_X14_checkTwice_167 (l_X14_checkTwice_116 n) ih x1 x2 x2 r11 s8)
      · exact PR.tail Hs (fr_j_X14_checkTwice_167 (l_X14_checkTwice_116 n) ih x1 x2 x2 (-1) s)
def W_l_X14_checkTwice_296 : List Nat := [87094]
theorem fr_l_X14_checkTwice_296 : ∀ (n : Nat) (x1 : Int) (x2 : Int) (x3 : Int) (s : vS), PR (W_l_X14_checkTwice_296) s (fun q => q) (l_X14_checkTwice_296 n x1 x2 x3 s)
  := by
  intro n
  induction n with
  | zero => intro x1 x2 x3 s; exact PR.none
  | succ n ih =>
    intro x1 x2 x3 s
    unfold l_X14_checkTwice_296
    have Hs : Fr (W_l_X14_checkTwice_296) s s := Fr.rfl
    refine PR.ite (fun _ => ?_) (fun _ => ?_)
    · exact PR.some Hs
    · refine PR.gd ?_
      refine PR.gd ?_
      refine PR.bd (PR.pure Hs (fr_f_X14_sameName (gE s 116 x2) (gE s 116 x3) s)) (fun r7 s4 Hs4 => ?_)
      refine PR.ite (fun _ => ?_) (fun _ => ?_)
      · refine PR.gd ?_
        refine PR.vl (fun y11 => ?_)
        exact PR.tail Hs4 (ih x1 x2 y11 s4)
      · refine PR.gd ?_
        refine PR.gd ?_
        refine PR.bdv (PR.call Hs4 (fr_f_X14_first (gE s4 95 (gE s4 116 x2)) s4) (by decide +kernel)) (fun s16 Hs16 => ?_)
        refine PR.gd ?_
        refine PR.vl (fun y20 => ?_)
        exact PR.tail Hs16 (ih x1 x2 y20 s16)
def W_l_X14_checkTwice_285 : List Nat := [87094]
theorem fr_l_X14_checkTwice_285 : ∀ (n : Nat) (x1 : Int) (x2 : Int) (s : vS), PR (W_l_X14_checkTwice_285) s (fun q => q) (l_X14_checkTwice_285 n x1 x2 s)
  := by
  intro n
  induction n with
  | zero => intro x1 x2 s; exact PR.none
  | succ n ih =>
    intro x1 x2 s
    unfold l_X14_checkTwice_285
    have Hs : Fr (W_l_X14_checkTwice_285) s s := Fr.rfl
    refine PR.ite (fun _ => ?_) (fun _ => ?_)
    · exact PR.some Hs
    · refine PR.gd ?_
      refine PR.vl (fun y3 => ?_)
      refine PR.lq_0 (PR.call Hs (fr_l_X14_checkTwice_296 FU x1 x2 y3 s) (by decide +kernel)) (fun s6 Hs6 => ?_)
      refine PR.gd ?_
      refine PR.vl (fun y9 => ?_)
      exact PR.tail Hs6 (ih x1 y9 s6)
def W_l_X14_checkTwice_101 : List Nat := [87084, 87085, 87094, 115999, 147998, 147999, 148998, 148999, 149998, 149999, 150999, 151999, 152998, 152999]
theorem fr_l_X14_checkTwice_101 : ∀ (n : Nat) (x1 : Int) (s : vS), PR (W_l_X14_checkTwice_101) s (fun q => q) (l_X14_checkTwice_101 n x1 s)
  := by
  intro n
  induction n with
  | zero => intro x1 s; exact PR.none
  | succ n ih =>
    intro x1 s
    unfold l_X14_checkTwice_101
    have Hs : Fr (W_l_X14_checkTwice_101) s s := Fr.rfl
    refine PR.ite (fun _ => ?_) (fun _ => ?_)
    · exact PR.some Hs
    · refine PR.gd ?_
      refine PR.vl (fun y3 => ?_)
      refine PR.lq_0 (PR.call Hs (fr_l_X14_checkTwice_116 FU x1 y3 s) (by decide +kernel)) (fun s6 Hs6 => ?_)
      refine PR.gd ?_
      refine PR.vl (fun y9 => ?_)
      refine PR.lq_0 (PR.call Hs6 (fr_l_X14_checkTwice_285 FU x1 y9 s6) (by decide +kernel)) (fun s12 Hs12 => ?_)
      refine PR.vl (fun y14 => ?_)
      exact PR.tail Hs12 (ih y14 s12)
def W_f_X14_checkTwice : List Nat := [87008, 87009, 87084, 87085, 87094, 115999, 147998, 147999, 148998, 148999, 149998, 149999, 150999, 151999, 152998, 152999, 153999, 154999]
theorem fr_f_X14_checkTwice (s : vS) : PR (W_f_X14_checkTwice) s (fun q => q) (f_X14_checkTwice s) := by
  unfold f_X14_checkTwice
  have Hs : Fr (W_f_X14_checkTwice) s s := Fr.rfl
  refine PR.lq_0 (PR.call Hs (fr_l_X14_checkTwice_2 FU 0 s) (by decide +kernel)) (fun s1 Hs1 => ?_)
  refine PR.lq_0 (PR.call Hs1 (fr_l_X14_checkTwice_24 FU 0 s1) (by decide +kernel)) (fun s3 Hs3 => ?_)
  refine PR.lq_0 (PR.call Hs3 (fr_l_X14_checkTwice_101 FU 0 s3) (by decide +kernel)) (fun s5 Hs5 => ?_)
  refine PR.bdv (PR.call Hs5 (fr_f_X14_told 5 s5) (by decide +kernel)) (fun s7 Hs7 => ?_)
  exact PR.some Hs7
def W_l_X14_hasNumber_10 : List Nat := []
theorem fr_l_X14_hasNumber_10 : ∀ (n : Nat) (x1 : Int) (x2 : Int) (x3 : Int) (x4 : Int) (s : vS), PR (W_l_X14_hasNumber_10) s (fun q => q.2) (l_X14_hasNumber_10 n x1 x2 x3 x4 s)
  := by
  intro n
  induction n with
  | zero => intro x1 x2 x3 x4 s; exact PR.none
  | succ n ih =>
    intro x1 x2 x3 x4 s
    unfold l_X14_hasNumber_10
    have Hs : Fr (W_l_X14_hasNumber_10) s s := Fr.rfl
    refine PR.gd ?_
    refine PR.gd ?_
    refine PR.ite (fun _ => ?_) (fun _ => ?_)
    · exact PR.some Hs
    · refine PR.ite (fun _ => ?_) (fun _ => ?_)
      · refine PR.gd ?_
        refine PR.ite (fun _ => ?_) (fun _ => ?_)
        · refine PR.vl (fun y10 => ?_)
          exact PR.tail Hs (ih x1 x2 0 y10 s)
        · refine PR.gd ?_
          refine PR.bd (PR.pure Hs (fr_f_X14_compareNumbers (gE s 115 x4) x2 s)) (fun r17 s14 Hs14 => ?_)
          refine PR.ite (fun _ => ?_) (fun _ => ?_)
          · refine PR.vl (fun y23 => ?_)
            exact PR.tail Hs14 (ih x1 x2 1 y23 s14)
          · refine PR.vl (fun y20 => ?_)
            exact PR.tail Hs14 (ih x1 x2 0 y20 s14)
      · refine PR.vl (fun y5 => ?_)
        exact PR.tail Hs (ih x1 x2 1 y5 s)
def W_f_X14_hasNumber : List Nat := []
theorem fr_f_X14_hasNumber (x1 : Int) (x2 : Int) (s : vS) : PR (W_f_X14_hasNumber) s (fun q => q.2) (f_X14_hasNumber x1 x2 s) := by
  unfold f_X14_hasNumber
  have Hs : Fr (W_f_X14_hasNumber) s s := Fr.rfl
  refine PR.gd ?_
  refine PR.vl (fun y2 => ?_)
  refine PR.lq_1 (PR.pure Hs (fr_l_X14_hasNumber_10 FU x1 x2 0 y2 s)) (fun y5 s6 Hs6 => ?_)
  refine PR.gd ?_
  exact PR.some Hs6
def W_l_X14_countItems_52 : List Nat := [87084, 87085, 147998, 147999, 148998, 148999, 149998, 149999]
theorem fr_l_X14_countItems_52 : ∀ (n : Nat) (x1 : Int) (x2 : Int) (x3 : Int) (x4 : Int) (s : vS), PR (W_l_X14_countItems_52) s (fun q => q.2.2) (l_X14_countItems_52 n x1 x2 x3 x4 s)
  := by
  intro n
  induction n with
  | zero => intro x1 x2 x3 x4 s; exact PR.none
  | succ n ih =>
    intro x1 x2 x3 x4 s
    unfold l_X14_countItems_52
    have Hs : Fr (W_l_X14_countItems_52) s s := Fr.rfl
    refine PR.bd (PR.pure Hs (fr_f_X14_hasNumber x1 x4 s)) (fun r4 s1 Hs1 => ?_)
    refine PR.ite (fun _ => ?_) (fun _ => ?_)
    · exact PR.some Hs1
    · refine PR.vl (fun y7 => ?_)
      refine PR.bd (PR.call Hs1 (fr_f_X14_smallNumber y7 s1) (by decide +kernel)) (fun r13 s10 Hs10 => ?_)
      exact PR.tail Hs10 (ih x1 y7 x3 r13 s10)
def W_l_X14_countItems_19 : List Nat := [87084, 87085, 115999, 147998, 147999, 148998, 148999, 149998, 149999]
theorem fr_l_X14_countItems_19 : ∀ (n : Nat) (x1 : Int) (x2 : Int) (x3 : Int) (s : vS), PR (W_l_X14_countItems_19) s (fun q => q) (l_X14_countItems_19 n x1 x2 x3 s)
  := by
  intro n
  induction n with
  | zero => intro x1 x2 x3 s; exact PR.none
  | succ n ih =>
    intro x1 x2 x3 s
    unfold l_X14_countItems_19
    have Hs : Fr (W_l_X14_countItems_19) s s := Fr.rfl
    refine PR.gd ?_
    refine PR.gd ?_
    refine PR.ite (fun _ => ?_) (fun _ => ?_)
    · exact PR.some Hs
    · refine PR.gd ?_
      refine PR.ite (fun _ => ?_) (fun _ => ?_)
      · refine PR.vl (fun y6 => ?_)
        exact PR.tail Hs (ih x1 x2 y6 s)
      · refine PR.bd (PR.call Hs (fr_f_X14_smallNumber x2 s) (by decide +kernel)) (fun r12 s9 Hs9 => ?_)
        refine PR.lq_2 (PR.call Hs9 (fr_l_X14_countItems_52 FU x1 x2 x3 r12 s9) (by decide +kernel)) (fun y14 y15 s16 Hs16 => ?_)
        refine PR.gd ?_
        refine PR.stp (Fr.wE Hs16 (by decide +kernel)) (fun s21 Hs21 => ?_)
        refine PR.vl (fun y23 => ?_)
        refine PR.vl (fun y26 => ?_)
        exact PR.tail Hs21 (ih x1 y23 y26 s21)
def W_l_X14_countItems_2 : List Nat := [87084, 87085, 115999, 147998, 147999, 148998, 148999, 149998, 149999]
theorem fr_l_X14_countItems_2 : ∀ (n : Nat) (x1 : Int) (s : vS), PR (W_l_X14_countItems_2) s (fun q => q) (l_X14_countItems_2 n x1 s)
  := by
  intro n
  induction n with
  | zero => intro x1 s; exact PR.none
  | succ n ih =>
    intro x1 s
    unfold l_X14_countItems_2
    have Hs : Fr (W_l_X14_countItems_2) s s := Fr.rfl
    refine PR.ite (fun _ => ?_) (fun _ => ?_)
    · exact PR.some Hs
    · refine PR.gd ?_
      refine PR.vl (fun y3 => ?_)
      refine PR.lq_0 (PR.call Hs (fr_l_X14_countItems_19 FU x1 0 y3 s) (by decide +kernel)) (fun s6 Hs6 => ?_)
      refine PR.vl (fun y8 => ?_)
      exact PR.tail Hs6 (ih y8 s6)
def W_f_X14_countItems : List Nat := [87084, 87085, 115999, 147998, 147999, 148998, 148999, 149998, 149999]
theorem fr_f_X14_countItems (s : vS) : PR (W_f_X14_countItems) s (fun q => q) (f_X14_countItems s) := by
  unfold f_X14_countItems
  have Hs : Fr (W_f_X14_countItems) s s := Fr.rfl
  refine PR.lq_0 (PR.call Hs (fr_l_X14_countItems_2 FU 0 s) (by decide +kernel)) (fun s1 Hs1 => ?_)
  exact PR.some Hs1
def W_l_X14_root_4 : List Nat := []
theorem fr_l_X14_root_4 : ∀ (n : Nat) (x2 : Int) (x3 : Int) (s : vS), PR (W_l_X14_root_4) s (fun q => q.2) (l_X14_root_4 n x2 x3 s)
  := by
  intro n
  induction n with
  | zero => intro x2 x3 s; exact PR.none
  | succ n ih =>
    intro x2 x3 s
    unfold l_X14_root_4
    have Hs : Fr (W_l_X14_root_4) s s := Fr.rfl
    refine PR.ite (fun _ => ?_) (fun _ => ?_)
    · exact PR.some Hs
    · refine PR.gd ?_
      refine PR.ite (fun _ => ?_) (fun _ => ?_)
      · refine PR.ite (fun _ => ?_) (fun _ => ?_)
        · exact PR.some Hs
        · refine PR.gd ?_
          refine PR.vl (fun y6 => ?_)
          refine PR.ite (fun _ => ?_) (fun _ => ?_)
          · refine PR.gd ?_
            refine PR.vl (fun y11 => ?_)
            refine PR.vl (fun y14 => ?_)
            exact PR.tail Hs (ih y11 y14 s)
          · refine PR.vl (fun y17 => ?_)
            exact PR.tail Hs (ih (-1) y17 s)
      · exact PR.some Hs
def W_j_X14_root_58 : List Nat := []
theorem fr_j_X14_root_58 (x2 : Int) (s : vS) : PR (W_j_X14_root_58) s (fun q => q.2) (j_X14_root_58 x2 s) := by
  unfold j_X14_root_58
  have Hs : Fr (W_j_X14_root_58) s s := Fr.rfl
  refine PR.ite (fun _ => ?_) (fun _ => ?_)
  · exact PR.some Hs
  · refine PR.gd ?_
    refine PR.ite (fun _ => ?_) (fun _ => ?_)
    · exact PR.some Hs
    · exact PR.some Hs
def W_f_X14_root : List Nat := []
theorem fr_f_X14_root (x1 : Int) (s : vS) : PR (W_f_X14_root) s (fun q => q.2) (f_X14_root x1 s) := by
  unfold f_X14_root
  have Hs : Fr (W_f_X14_root) s s := Fr.rfl
  refine PR.lq_1 (PR.pure Hs (fr_l_X14_root_4 FU x1 0 s)) (fun y1 s2 Hs2 => ?_)
  exact PR.pure Hs2 (fr_j_X14_root_58 y1 s2)
def W_l_X14_itemIn_7 : List Nat := []
theorem fr_l_X14_itemIn_7 : ∀ (n : Nat) (x1 : Int) (x2 : Int) (x3 : Int) (s : vS), PR (W_l_X14_itemIn_7) s (Sum.elim (fun q => q) (fun q => q.2)) (l_X14_itemIn_7 n x1 x2 x3 s)
  := by
  intro n
  induction n with
  | zero => intro x1 x2 x3 s; exact PR.none
  | succ n ih =>
    intro x1 x2 x3 s
    unfold l_X14_itemIn_7
    have Hs : Fr (W_l_X14_itemIn_7) s s := Fr.rfl
    refine PR.gd ?_
    refine PR.gd ?_
    refine PR.ite (fun _ => ?_) (fun _ => ?_)
    · exact PR.some Hs
    · refine PR.gd ?_
      refine PR.bd (PR.pure Hs (fr_f_X14_sameName (gE s 112 x3) x2 s)) (fun r8 s5 Hs5 => ?_)
      refine PR.ite (fun _ => ?_) (fun _ => ?_)
      · refine PR.vl (fun y11 => ?_)
        exact PR.tail Hs5 (ih x1 x2 y11 s5)
      · exact PR.some Hs5
def W_f_X14_itemIn : List Nat := []
theorem fr_f_X14_itemIn (x1 : Int) (x2 : Int) (s : vS) : PR (W_f_X14_itemIn) s (fun q => q.2) (f_X14_itemIn x1 x2 s) := by
  unfold f_X14_itemIn
  have Hs : Fr (W_f_X14_itemIn) s s := Fr.rfl
  refine PR.gd ?_
  refine PR.vl (fun y2 => ?_)
  refine PR.lqs_0 (PR.pure Hs (fr_l_X14_itemIn_7 FU x1 x2 y2 s)) (fun s5 Hs5 => ?_) (fun q Hq => PR.some Hq)
  exact PR.some Hs5
def W_j_X14_itemOf_40 : List Nat := []
theorem fr_j_X14_itemOf_40 (x2 : Int) (x4 : Int) (s : vS) : PR (W_j_X14_itemOf_40) s (fun q => q.2) (j_X14_itemOf_40 x2 x4 s) := by
  unfold j_X14_itemOf_40
  have Hs : Fr (W_j_X14_itemOf_40) s s := Fr.rfl
  refine PR.bd (PR.pure Hs (fr_f_X14_itemIn x4 x2 s)) (fun r4 s1 Hs1 => ?_)
  exact PR.some Hs1
def W_f_X14_itemOf : List Nat := []
theorem fr_f_X14_itemOf (x1 : Int) (x2 : Int) (x3 : Int) (s : vS) : PR (W_f_X14_itemOf) s (fun q => q.2) (f_X14_itemOf x1 x2 x3 s) := by
  unfold f_X14_itemOf
  have Hs : Fr (W_f_X14_itemOf) s s := Fr.rfl
  refine PR.bd (PR.pure Hs (fr_f_X14_root x1 s)) (fun r4 s1 Hs1 => ?_)
  refine PR.ite (fun _ => ?_) (fun _ => ?_)
  · exact PR.some Hs1
  · refine PR.gd ?_
    refine PR.ite (fun _ => ?_) (fun _ => ?_)
    · exact PR.pure Hs1 (fr_j_X14_itemOf_40 x2 r4 s1)
    · refine PR.gd ?_
      refine PR.ite (fun _ => ?_) (fun _ => ?_)
      · refine PR.ite (fun _ => ?_) (fun _ => ?_)
        · exact PR.some Hs1
        · exact PR.pure Hs1 (fr_j_X14_itemOf_40 x2 r4 s1)
      · exact PR.some Hs1
def W_f_X14_checkBound : List Nat := [87094]
theorem fr_f_X14_checkBound (x1 : Int) (x2 : Int) (s : vS) : PR (W_f_X14_checkBound) s (fun q => q) (f_X14_checkBound x1 x2 s) := by
  unfold f_X14_checkBound
  have Hs : Fr (W_f_X14_checkBound) s s := Fr.rfl
  refine PR.gd ?_
  refine PR.ite (fun _ => ?_) (fun _ => ?_)
  · refine PR.bd (PR.pure Hs (fr_f_X14_itemOf x1 x2 0 s)) (fun r6 s3 Hs3 => ?_)
    refine PR.ite (fun _ => ?_) (fun _ => ?_)
    · exact PR.some Hs3
    · refine PR.bd (PR.pure Hs3 (fr_f_X14_assignmentOf x2 s3)) (fun r12 s9 Hs9 => ?_)
      refine PR.ite (fun _ => ?_) (fun _ => ?_)
      · exact PR.some Hs9
      · refine PR.gd ?_
        refine PR.bdv (PR.call Hs9 (fr_f_X14_first (gE s9 95 x2) s9) (by decide +kernel)) (fun s16 Hs16 => ?_)
        exact PR.some Hs16
  · exact PR.some Hs
def W_l_X14_checkUnknown_2 : List Nat := [87094, 101999]
theorem fr_l_X14_checkUnknown_2 : ∀ (n : Nat) (x1 : Int) (s : vS), PR (W_l_X14_checkUnknown_2) s (fun q => q) (l_X14_checkUnknown_2 n x1 s)
  := by
  intro n
  induction n with
  | zero => intro x1 s; exact PR.none
  | succ n ih =>
    intro x1 s
    unfold l_X14_checkUnknown_2
    have Hs : Fr (W_l_X14_checkUnknown_2) s s := Fr.rfl
    refine PR.ite (fun _ => ?_) (fun _ => ?_)
    · exact PR.some Hs
    · refine PR.gd ?_
      refine PR.ite (fun _ => ?_) (fun _ => ?_)
      · refine PR.gd ?_
        refine PR.vl (fun y8 => ?_)
        refine PR.bd (PR.pure Hs (fr_f_X14_assignmentOf y8 s)) (fun r14 s11 Hs11 => ?_)
        refine PR.gd ?_
        refine PR.gd ?_
        refine PR.stp (Fr.wE Hs11 (by decide +kernel)) (fun s18 Hs18 => ?_)
        refine PR.gd ?_
        refine PR.ite (fun _ => ?_) (fun _ => ?_)
        · refine PR.vl (fun y22 => ?_)
          exact PR.tail Hs18 (ih y22 s18)
        · refine PR.gd ?_
          refine PR.bdv (PR.call Hs18 (fr_f_X14_first (gE s18 95 y8) s18) (by decide +kernel)) (fun s26 Hs26 => ?_)
          refine PR.vl (fun y29 => ?_)
          exact PR.tail Hs26 (ih y29 s26)
      · refine PR.vl (fun y4 => ?_)
        exact PR.tail Hs (ih y4 s)
def W_l_X14_checkUnknown_92 : List Nat := [87094]
theorem fr_l_X14_checkUnknown_92 : ∀ (n : Nat) (x1 : Int) (x2 : Int) (x3 : Int) (s : vS), PR (W_l_X14_checkUnknown_92) s (fun q => q) (l_X14_checkUnknown_92 n x1 x2 x3 s)
  := by
  intro n
  induction n with
  | zero => intro x1 x2 x3 s; exact PR.none
  | succ n ih =>
    intro x1 x2 x3 s
    unfold l_X14_checkUnknown_92
    have Hs : Fr (W_l_X14_checkUnknown_92) s s := Fr.rfl
    refine PR.gd ?_
    refine PR.gd ?_
    refine PR.ite (fun _ => ?_) (fun _ => ?_)
    · exact PR.some Hs
    · refine PR.gd ?_
      refine PR.bdv (PR.call Hs (fr_f_X14_checkBound x1 (gE s 126 x3) s) (by decide +kernel)) (fun s5 Hs5 => ?_)
      refine PR.gd ?_
      refine PR.bdv (PR.call Hs5 (fr_f_X14_checkBound x1 (gE s5 128 x3) s5) (by decide +kernel)) (fun s9 Hs9 => ?_)
      refine PR.vl (fun y12 => ?_)
      exact PR.tail Hs9 (ih x1 x2 y12 s9)
def W_l_X14_checkUnknown_81 : List Nat := [87094]
theorem fr_l_X14_checkUnknown_81 : ∀ (n : Nat) (x1 : Int) (x2 : Int) (s : vS), PR (W_l_X14_checkUnknown_81) s (fun q => q) (l_X14_checkUnknown_81 n x1 x2 s)
  := by
  intro n
  induction n with
  | zero => intro x1 x2 s; exact PR.none
  | succ n ih =>
    intro x1 x2 s
    unfold l_X14_checkUnknown_81
    have Hs : Fr (W_l_X14_checkUnknown_81) s s := Fr.rfl
    refine PR.ite (fun _ => ?_) (fun _ => ?_)
    · exact PR.some Hs
    · refine PR.gd ?_
      refine PR.vl (fun y3 => ?_)
      refine PR.lq_0 (PR.call Hs (fr_l_X14_checkUnknown_92 FU x1 x2 y3 s) (by decide +kernel)) (fun s6 Hs6 => ?_)
      refine PR.gd ?_
      refine PR.vl (fun y9 => ?_)
      exact PR.tail Hs6 (ih x1 y9 s6)
def W_l_X14_checkUnknown_66 : List Nat := [87094]
theorem fr_l_X14_checkUnknown_66 : ∀ (n : Nat) (x1 : Int) (s : vS), PR (W_l_X14_checkUnknown_66) s (fun q => q) (l_X14_checkUnknown_66 n x1 s)
  := by
  intro n
  induction n with
  | zero => intro x1 s; exact PR.none
  | succ n ih =>
    intro x1 s
    unfold l_X14_checkUnknown_66
    have Hs : Fr (W_l_X14_checkUnknown_66) s s := Fr.rfl
    refine PR.ite (fun _ => ?_) (fun _ => ?_)
    · exact PR.some Hs
    · refine PR.gd ?_
      refine PR.vl (fun y3 => ?_)
      refine PR.lq_0 (PR.call Hs (fr_l_X14_checkUnknown_81 FU x1 y3 s) (by decide +kernel)) (fun s6 Hs6 => ?_)
      refine PR.vl (fun y8 => ?_)
      exact PR.tail Hs6 (ih y8 s6)
def W_l_X14_checkUnknown_155 : List Nat := [87094]
theorem fr_l_X14_checkUnknown_155 : ∀ (n : Nat) (x1 : Int) (s : vS), PR (W_l_X14_checkUnknown_155) s (fun q => q) (l_X14_checkUnknown_155 n x1 s)
  := by
  intro n
  induction n with
  | zero => intro x1 s; exact PR.none
  | succ n ih =>
    intro x1 s
    unfold l_X14_checkUnknown_155
    have Hs : Fr (W_l_X14_checkUnknown_155) s s := Fr.rfl
    refine PR.ite (fun _ => ?_) (fun _ => ?_)
    · exact PR.some Hs
    · refine PR.gd ?_
      refine PR.ite (fun _ => ?_) (fun _ => ?_)
      · refine PR.gd ?_
        refine PR.gd ?_
        refine PR.bd (PR.pure Hs (fr_f_X14_itemOf (gE s 138 x1) (gE s 134 x1) 1 s)) (fun r12 s9 Hs9 => ?_)
        refine PR.ite (fun _ => ?_) (fun _ => ?_)
        · refine PR.vl (fun y15 => ?_)
          exact PR.tail Hs9 (ih y15 s9)
        · refine PR.gd ?_
          refine PR.bd (PR.pure Hs9 (fr_f_X14_assignmentOf (gE s9 134 x1) s9)) (fun r22 s19 Hs19 => ?_)
          refine PR.ite (fun _ => ?_) (fun _ => ?_)
          · refine PR.vl (fun y25 => ?_)
            exact PR.tail Hs19 (ih y25 s19)
          · refine PR.gd ?_
            refine PR.gd ?_
            refine PR.bdv (PR.call Hs19 (fr_f_X14_first (gE s19 95 (gE s19 134 x1)) s19) (by decide +kernel)) (fun s30 Hs30 => ?_)
            refine PR.vl (fun y33 => ?_)
            exact PR.tail Hs30 (ih y33 s30)
      · refine PR.vl (fun y4 => ?_)
        exact PR.tail Hs (ih y4 s)
def W_f_X14_checkUnknown : List Nat := [87008, 87009, 87094, 101999]
theorem fr_f_X14_checkUnknown (s : vS) : PR (W_f_X14_checkUnknown) s (fun q => q) (f_X14_checkUnknown s) := by
  unfold f_X14_checkUnknown
  have Hs : Fr (W_f_X14_checkUnknown) s s := Fr.rfl
  refine PR.lq_0 (PR.call Hs (fr_l_X14_checkUnknown_2 FU 0 s) (by decide +kernel)) (fun s1 Hs1 => ?_)
  refine PR.lq_0 (PR.call Hs1 (fr_l_X14_checkUnknown_66 FU 0 s1) (by decide +kernel)) (fun s3 Hs3 => ?_)
  refine PR.lq_0 (PR.call Hs3 (fr_l_X14_checkUnknown_155 FU 0 s3) (by decide +kernel)) (fun s5 Hs5 => ?_)
  refine PR.bdv (PR.call Hs5 (fr_f_X14_told 6 s5) (by decide +kernel)) (fun s7 Hs7 => ?_)
  exact PR.some Hs7
def W_l_X14_isFinite_63 : List Nat := []
theorem fr_j_X14_isFinite_102 (rec : Int → Int → Int → Int → vS → Option (Int × Int × vS)) (hrec : ∀ (y0 : Int) (y1 : Int) (y2 : Int) (y3 : Int) (s : vS), PR (W_l_X14_isFinite_63) s (fun q => q.2.2) (rec y0 y1 y2 y3 s)) (x2 : Int) (x4 : Int) (x5 : Int) (z0 : Int) (s : vS) : PR (W_l_X14_isFinite_63) s (fun q => q.2.2) (j_X14_isFinite_102 rec x2 x4 x5 z0 s) := by
  unfold j_X14_isFinite_102
  have Hs : Fr (W_l_X14_isFinite_63) s s := Fr.rfl
  refine PR.ite (fun _ => ?_) (fun _ => ?_)
  · refine PR.gd ?_
    refine PR.gd ?_
    refine PR.ite (fun _ => ?_) (fun _ => ?_)
    · refine PR.gd ?_
      refine PR.vl (fun y10 => ?_)
      exact PR.tail Hs (hrec x2 z0 0 y10 s)
    · refine PR.gd ?_
      refine PR.vl (fun y14 => ?_)
      exact PR.tail Hs (hrec x2 z0 1 y14 s)
  · refine PR.gd ?_
    refine PR.vl (fun y3 => ?_)
    exact PR.tail Hs (hrec x2 z0 1 y3 s)
theorem fr_l_X14_isFinite_63 : ∀ (n : Nat) (x2 : Int) (x3 : Int) (x4 : Int) (x5 : Int) (s : vS), PR (W_l_X14_isFinite_63) s (fun q => q.2.2) (l_X14_isFinite_63 n x2 x3 x4 x5 s)
  := by
  intro n
  induction n with
  | zero => intro x2 x3 x4 x5 s; exact PR.none
  | succ n ih =>
    intro x2 x3 x4 x5 s
    unfold l_X14_isFinite_63
    have Hs : Fr (W_l_X14_isFinite_63) s s := Fr.rfl
    refine PR.ite (fun _ => ?_) (fun _ => ?_)
    · exact PR.some Hs
    · refine PR.ite (fun _ => ?_) (fun _ => ?_)
      · exact PR.tail Hs (fr_j_X14_isFinite_102 (l_X14_isFinite_63 n) ih x2 x4 x5 0 s)
      · refine PR.gd ?_
        refine PR.ite (fun _ => ?_) (fun _ => ?_)
        · exact PR.tail Hs (fr_j_X14_isFinite_102 (l_X14_isFinite_63 n) ih x2 x4 x5 1 s)
        · refine PR.gd ?_
          refine PR.gd ?_
          refine PR.ite (fun _ => ?_) (fun _ => ?_)
          · exact PR.tail Hs (fr_j_X14_isFinite_102 (l_X14_isFinite_63 n) ih x2 x4 x5 0 s)
          · exact PR.tail Hs (fr_j_X14_isFinite_102 (l_X14_isFinite_63 n) ih x2 x4 x5 1 s)
def W_j_X14_isFinite_50 : List Nat := []
theorem fr_j_X14_isFinite_50 (x1 : Int) (x2 : Int) (s : vS) : PR (W_j_X14_isFinite_50) s (fun q => q.2) (j_X14_isFinite_50 x1 x2 s) := by
  unfold j_X14_isFinite_50
  have Hs : Fr (W_j_X14_isFinite_50) s s := Fr.rfl
  refine PR.gd ?_
  refine PR.vl (fun y2 => ?_)
  refine PR.lq_2 (PR.pure Hs (fr_l_X14_isFinite_63 FU x2 1 0 y2 s)) (fun y5 y6 s7 Hs7 => ?_)
  refine PR.ite (fun _ => ?_) (fun _ => ?_)
  · refine PR.gd ?_
    exact PR.some Hs7
  · refine PR.gd ?_
    exact PR.some Hs7
def W_f_X14_isFinite : List Nat := []
theorem fr_f_X14_isFinite (x1 : Int) (s : vS) : PR (W_f_X14_isFinite) s (fun q => q.2) (f_X14_isFinite x1 s) := by
  unfold f_X14_isFinite
  have Hs : Fr (W_f_X14_isFinite) s s := Fr.rfl
  refine PR.gd ?_
  refine PR.vl (fun y2 => ?_)
  refine PR.ite (fun _ => ?_) (fun _ => ?_)
  · refine PR.gd ?_
    refine PR.gd ?_
    refine PR.gd ?_
    refine PR.gd ?_
    exact PR.some Hs
  · refine PR.ite (fun _ => ?_) (fun _ => ?_)
    · exact PR.pure Hs (fr_j_X14_isFinite_50 x1 y2 s)
    · refine PR.ite (fun _ => ?_) (fun _ => ?_)
      · exact PR.pure Hs (fr_j_X14_isFinite_50 x1 y2 s)
      · refine PR.ite (fun _ => ?_) (fun _ => ?_)
        · exact PR.pure Hs (fr_j_X14_isFinite_50 x1 y2 s)
        · exact PR.some Hs
def W_l_X14_checkEndless_2 : List Nat := [155999]
theorem fr_l_X14_checkEndless_2 : ∀ (n : Nat) (x1 : Int) (s : vS), PR (W_l_X14_checkEndless_2) s (fun q => q) (l_X14_checkEndless_2 n x1 s)
  := by
  intro n
  induction n with
  | zero => intro x1 s; exact PR.none
  | succ n ih =>
    intro x1 s
    unfold l_X14_checkEndless_2
    have Hs : Fr (W_l_X14_checkEndless_2) s s := Fr.rfl
    refine PR.ite (fun _ => ?_) (fun _ => ?_)
    · exact PR.some Hs
    · refine PR.gd ?_
      refine PR.stp (Fr.wE Hs (by decide +kernel)) (fun s3 Hs3 => ?_)
      refine PR.vl (fun y5 => ?_)
      exact PR.tail Hs3 (ih y5 s3)
def W_l_X14_checkEndless_38 : List Nat := [155999]
theorem fr_l_X14_checkEndless_38 : ∀ (n : Nat) (x1 : Int) (x2 : Int) (s : vS), PR (W_l_X14_checkEndless_38) s (fun q => q.2) (l_X14_checkEndless_38 n x1 x2 s)
  := by
  intro n
  induction n with
  | zero => intro x1 x2 s; exact PR.none
  | succ n ih =>
    intro x1 x2 s
    unfold l_X14_checkEndless_38
    have Hs : Fr (W_l_X14_checkEndless_38) s s := Fr.rfl
    refine PR.ite (fun _ => ?_) (fun _ => ?_)
    · exact PR.some Hs
    · refine PR.gd ?_
      refine PR.ite (fun _ => ?_) (fun _ => ?_)
      · refine PR.bd (PR.pure Hs (fr_f_X14_isFinite x2 s)) (fun r10 s7 Hs7 => ?_)
        refine PR.ite (fun _ => ?_) (fun _ => ?_)
        · refine PR.vl (fun y13 => ?_)
          exact PR.tail Hs7 (ih x1 y13 s7)
        · refine PR.gd ?_
          refine PR.stp (Fr.wE Hs7 (by decide +kernel)) (fun s17 Hs17 => ?_)
          refine PR.vl (fun y19 => ?_)
          exact PR.tail Hs17 (ih 1 y19 s17)
      · refine PR.vl (fun y4 => ?_)
        exact PR.tail Hs (ih x1 y4 s)
def W_l_X14_checkEndless_25 : List Nat := [155999]
theorem fr_l_X14_checkEndless_25 : ∀ (n : Nat) (x1 : Int) (s : vS), PR (W_l_X14_checkEndless_25) s (fun q => q) (l_X14_checkEndless_25 n x1 s)
  := by
  intro n
  induction n with
  | zero => intro x1 s; exact PR.none
  | succ n ih =>
    intro x1 s
    unfold l_X14_checkEndless_25
    have Hs : Fr (W_l_X14_checkEndless_25) s s := Fr.rfl
    refine PR.ite (fun _ => ?_) (fun _ => ?_)
    · exact PR.some Hs
    · refine PR.vl (fun y2 => ?_)
      refine PR.lq_1 (PR.call Hs (fr_l_X14_checkEndless_38 FU 0 y2 s) (by decide +kernel)) (fun y5 s6 Hs6 => ?_)
      exact PR.tail Hs6 (ih y5 s6)
def W_l_X14_checkEndless_79 : List Nat := [87094]
theorem fr_l_X14_checkEndless_79 : ∀ (n : Nat) (x2 : Int) (s : vS), PR (W_l_X14_checkEndless_79) s (fun q => q) (l_X14_checkEndless_79 n x2 s)
  := by
  intro n
  induction n with
  | zero => intro x2 s; exact PR.none
  | succ n ih =>
    intro x2 s
    unfold l_X14_checkEndless_79
    have Hs : Fr (W_l_X14_checkEndless_79) s s := Fr.rfl
    refine PR.ite (fun _ => ?_) (fun _ => ?_)
    · exact PR.some Hs
    · refine PR.gd ?_
      refine PR.gd ?_
      refine PR.gd ?_
      refine PR.ite (fun _ => ?_) (fun _ => ?_)
      · refine PR.gd ?_
        refine PR.gd ?_
        refine PR.gd ?_
        refine PR.bdv (PR.call Hs (fr_f_X14_first (gE s 95 (gE s 141 (gE s 144 x2))) s) (by decide +kernel)) (fun s12 Hs12 => ?_)
        refine PR.vl (fun y15 => ?_)
        exact PR.tail Hs12 (ih y15 s12)
      · refine PR.vl (fun y6 => ?_)
        exact PR.tail Hs (ih y6 s)
def W_f_X14_checkEndless : List Nat := [87008, 87009, 87094, 155999]
theorem fr_f_X14_checkEndless (s : vS) : PR (W_f_X14_checkEndless) s (fun q => q) (f_X14_checkEndless s) := by
  unfold f_X14_checkEndless
  have Hs : Fr (W_f_X14_checkEndless) s s := Fr.rfl
  refine PR.lq_0 (PR.call Hs (fr_l_X14_checkEndless_2 FU 0 s) (by decide +kernel)) (fun s1 Hs1 => ?_)
  refine PR.lq_0 (PR.call Hs1 (fr_l_X14_checkEndless_25 FU 1 s1) (by decide +kernel)) (fun s3 Hs3 => ?_)
  refine PR.lq_0 (PR.call Hs3 (fr_l_X14_checkEndless_79 FU 0 s3) (by decide +kernel)) (fun s5 Hs5 => ?_)
  refine PR.bdv (PR.call Hs5 (fr_f_X14_told 7 s5) (by decide +kernel)) (fun s7 Hs7 => ?_)
  exact PR.some Hs7
