set_option maxRecDepth 100000
set_option maxHeartbeats 1000000
def f_X8_within (x0 : Int) (x1 : Int) (s : vS) : Option (Int × vS) :=
  if x0 < 0 then
    some (0, s)
  else
    if x1 < x0 then
      some (0, s)
    else
      some (1, s)
theorem yk_X8_within : yOk yX8_within 2 := ⟨by decide, by decide, by decide +kernel⟩
theorem c_X8_within {x0 : Int} {x1 : Int} {s : vS} {out : Int × vS} (h : f_X8_within x0 x1 s = some out)  (rx0 : rg x0) (rx1 : rg x1) : VC yX8_within cX8_within 2 (some .boolean) 0 0 [vI x0, vI x1] s (some (vI out.1)) out.2 [] := by
  unfold f_X8_within at h
  refine VC.of RX8 (by decide) rfl (Nat.le_of_ble_eq_true rfl) ?_
  show VW cX8_within (RX8, (some (vI out.1)), out.2, (some .boolean), 0, 0, 2, []) (P0 []) s 0 [(0, vI x0), (1, vI x1)] []
  refine v_iload_n dX8_within_0 0 rfl rfl ?_
  refine v_if_lt (tgt := 13) dX8_within_1 rx0 (by decide) (fun c1 => ?_) (fun c1 => ?_)
  · rw [if_pos c1] at h
    refine v_iconst dX8_within_13 ?_
    cases h
    exact v_zret (Or.inl rfl) dX8_within_14
  · rw [if_neg c1] at h
    refine v_iload_n dX8_within_4 0 rfl rfl ?_
    refine v_iload_n dX8_within_5 1 rfl rfl ?_
    refine v_icmp_gt (tgt := 13) dX8_within_6 rx0 rx1 (by decide) (fun c2 => ?_) (fun c2 => ?_)
    · rw [if_pos c2] at h
      refine v_iconst dX8_within_13 ?_
      cases h
      exact v_zret (Or.inl rfl) dX8_within_14
    · rw [if_neg c2] at h
      refine v_iconst dX8_within_9 ?_
      refine v_goto (tgt := 14) dX8_within_10 (by decide) ?_
      cases h
      exact v_zret (Or.inr rfl) dX8_within_14

def j_X8_date_57 (o : Nat) (s : vS) : Option (Int × vS) :=
  bd (f_X8_digits o 2 s) fun r4 s1 =>
  stp (sI s1 o 4 r4) fun s6 =>
  if (gI s6 o 4) < 1 then
    some (0, s6)
  else
    if (gI s6 o 4) ≤ 12 then
      bd (f_X8_digits o 2 s6) fun r13 s10 =>
      stp (sI s10 o 5 r13) fun s15 =>
      if (gI s15 o 5) < 1 then
        some (0, s15)
      else
        bd (f_X8_days (gI s15 o 3) (gI s15 o 4) s15) fun r21 s18 =>
        if (gI s15 o 5) ≤ r21 then
          bd (f_X8_digits o 2 s18) fun r27 s24 =>
          stp (sI s24 o 6 r27) fun s29 =>
          bd (f_X8_within (gI s29 o 6) 23 s29) fun r34 s31 =>
          gd (r34 = 0 ∨ r34 = 1) <|
          some (r34, s31)
        else
          some (0, s18)
    else
      some (0, s6)
theorem wj_X8_date_57 {o : Nat} {s : vS} {out : Int × vS} (h : j_X8_date_57 o s = some out) (ho : okB o 7) : VW cX8_date (RX8, (some (vI out.1)), out.2, (some .boolean), 2, 45, 2, []) (P0 []) s 57 [(0, vO o)] [] := by
  unfold j_X8_date_57 at h
  refine v_aload_n dX8_date_57 0 rfl rfl ?_
  refine v_aload_n dX8_date_58 0 rfl rfl ?_
  refine v_iconst dX8_date_59 ?_
  obtain ⟨r4, s1, e2, h⟩ := bd_some h
  have k3 := c_X8_digits e2 ho (rgl rfl)
  have r5 : rg r4 := k3.1.2.2
  refine v_callV (st := [vO o]) cf8 (okB_ok ho) k3 (lw_V q1866 q1868 qs105 q305 q1869) rfl yk_X8_digits ⟨Nat.le_of_ble_eq_true rfl, Nat.le_of_ble_eq_true rfl⟩ ⟨(okB_kp ho (by decide)), trivial⟩ ⟨(okB_kp ho (by decide)), trivial⟩ (Nat.le_of_ble_eq_true rfl) rfl dX8_date_60 ?_
  obtain ⟨s6, e7, h⟩ := stp_some h
  refine v_putI (f := 4) cf8 (okB_ok ho) rfl (by decide) q547 dX8_date_63 rfl rfl ?_
  rw [← e7]
  refine v_aload_n dX8_date_66 0 rfl rfl ?_
  refine v_getI (f := 4) cf8 (okB_ok ho) rfl (by decide) q547 dX8_date_67 ?_
  refine v_iconst dX8_date_70 ?_
  refine v_icmp_lt (tgt := 83) dX8_date_71 (gI_rg _ _ _) (rgl rfl) (by decide) (fun c8 => ?_) (fun c8 => ?_)
  · rw [if_pos c8] at h
    refine v_iconst dX8_date_83 ?_
    cases h
    exact v_zret (Or.inl rfl) dX8_date_84
  · rw [if_neg c8] at h
    refine v_aload_n dX8_date_74 0 rfl rfl ?_
    refine v_getI (f := 4) cf8 (okB_ok ho) rfl (by decide) q547 dX8_date_75 ?_
    refine v_bipush dX8_date_78 rfl ?_
    refine v_icmp_le (tgt := 85) dX8_date_80 (gI_rg _ _ _) (rgl rfl) (by decide) (fun c9 => ?_) (fun c9 => ?_)
    · rw [if_pos c9] at h
      refine v_aload_n dX8_date_85 0 rfl rfl ?_
      refine v_aload_n dX8_date_86 0 rfl rfl ?_
      refine v_iconst dX8_date_87 ?_
      obtain ⟨r13, s10, e11, h⟩ := bd_some h
      have k12 := c_X8_digits e11 ho (rgl rfl)
      have r14 : rg r13 := k12.1.2.2
      refine v_callV (st := [vO o]) cf8 (okB_ok ho) k12 (lw_V q1866 q1868 qs105 q305 q1869) rfl yk_X8_digits ⟨Nat.le_of_ble_eq_true rfl, Nat.le_of_ble_eq_true rfl⟩ ⟨(okB_kp ho (by decide)), trivial⟩ ⟨(okB_kp ho (by decide)), trivial⟩ (Nat.le_of_ble_eq_true rfl) rfl dX8_date_88 ?_
      obtain ⟨s15, e16, h⟩ := stp_some h
      refine v_putI (f := 5) cf8 (okB_ok ho) rfl (by decide) q548 dX8_date_91 rfl rfl ?_
      rw [← e16]
      refine v_aload_n dX8_date_94 0 rfl rfl ?_
      refine v_getI (f := 5) cf8 (okB_ok ho) rfl (by decide) q548 dX8_date_95 ?_
      refine v_iconst dX8_date_98 ?_
      refine v_icmp_lt (tgt := 120) dX8_date_99 (gI_rg _ _ _) (rgl rfl) (by decide) (fun c17 => ?_) (fun c17 => ?_)
      · rw [if_pos c17] at h
        refine v_iconst dX8_date_120 ?_
        cases h
        exact v_zret (Or.inl rfl) dX8_date_121
      · rw [if_neg c17] at h
        refine v_aload_n dX8_date_102 0 rfl rfl ?_
        refine v_getI (f := 5) cf8 (okB_ok ho) rfl (by decide) q548 dX8_date_103 ?_
        refine v_aload_n dX8_date_106 0 rfl rfl ?_
        refine v_getI (f := 3) cf8 (okB_ok ho) rfl (by decide) q546 dX8_date_107 ?_
        refine v_aload_n dX8_date_110 0 rfl rfl ?_
        refine v_getI (f := 4) cf8 (okB_ok ho) rfl (by decide) q547 dX8_date_111 ?_
        obtain ⟨r21, s18, e19, h⟩ := bd_some h
        have k20 := c_X8_days e19 (gI_rg _ _ _) (gI_rg _ _ _)
        have r22 : rg r21 := k20.1.2.2
        refine v_callS (st := [vI (gI s15 o 5)]) k20 (lw_S q1871 q1872 q305 q1873) yk_X8_days ⟨Nat.le_of_ble_eq_true rfl, Nat.le_of_ble_eq_true rfl⟩ trivial ⟨(okB_kp ho (by decide)), trivial⟩ (Nat.le_of_ble_eq_true rfl) rfl dX8_date_114 ?_
        refine v_icmp_le (tgt := 122) dX8_date_117 (gI_rg _ _ _) r22 (by decide) (fun c23 => ?_) (fun c23 => ?_)
        · rw [if_pos c23] at h
          refine v_aload_n dX8_date_122 0 rfl rfl ?_
          refine v_aload_n dX8_date_123 0 rfl rfl ?_
          refine v_iconst dX8_date_124 ?_
          obtain ⟨r27, s24, e25, h⟩ := bd_some h
          have k26 := c_X8_digits e25 ho (rgl rfl)
          have r28 : rg r27 := k26.1.2.2
          refine v_callV (st := [vO o]) cf8 (okB_ok ho) k26 (lw_V q1866 q1868 qs105 q305 q1869) rfl yk_X8_digits ⟨Nat.le_of_ble_eq_true rfl, Nat.le_of_ble_eq_true rfl⟩ ⟨(okB_kp ho (by decide)), trivial⟩ ⟨(okB_kp ho (by decide)), trivial⟩ (Nat.le_of_ble_eq_true rfl) rfl dX8_date_125 ?_
          obtain ⟨s29, e30, h⟩ := stp_some h
          refine v_putI (f := 6) cf8 (okB_ok ho) rfl (by decide) q549 dX8_date_128 rfl rfl ?_
          rw [← e30]
          refine v_aload_n dX8_date_131 0 rfl rfl ?_
          refine v_getI (f := 6) cf8 (okB_ok ho) rfl (by decide) q549 dX8_date_132 ?_
          refine v_bipush dX8_date_135 rfl ?_
          obtain ⟨r34, s31, e32, h⟩ := bd_some h
          have k33 := c_X8_within e32 (gI_rg _ _ _) (rgl rfl)
          have r35 : rg r34 := k33.1.2.2
          refine v_callS (st := []) k33 (lw_S q1874 q1875 q305 q1876) yk_X8_within ⟨Nat.le_of_ble_eq_true rfl, Nat.le_of_ble_eq_true rfl⟩ trivial ⟨(okB_kp ho (by decide)), trivial⟩ (Nat.le_of_ble_eq_true rfl) rfl dX8_date_137 ?_
          obtain ⟨g36, h⟩ := gd_some h
          cases h
          exact v_zret g36 dX8_date_140
        · rw [if_neg c23] at h
          refine v_iconst dX8_date_120 ?_
          cases h
          exact v_zret (Or.inl rfl) dX8_date_121
    · rw [if_neg c9] at h
      refine v_iconst dX8_date_83 ?_
      cases h
      exact v_zret (Or.inl rfl) dX8_date_84

def j_X8_date_11 (o : Nat) (x1 : Int) (z2 : Int) (s : vS) : Option (Int × vS) :=
  bd (f_X8_digits o z2 s) fun r4 s1 =>
  stp (sI s1 o 3 r4) fun s6 =>
  if 0 ≤ (gI s6 o 3) then
    if x1 = 0 then
      if 50 ≤ (gI s6 o 3) then
        stp (sI s6 o 3 (w32 ((gI s6 o 3) + 1900))) fun s11 =>
        j_X8_date_57 o s11
      else
        stp (sI s6 o 3 (w32 ((gI s6 o 3) + 2000))) fun s13 =>
        j_X8_date_57 o s13
    else
      j_X8_date_57 o s6
  else
    some (0, s6)
theorem wj_X8_date_11 {o : Nat} {x1 : Int} {z2 : Int} {s : vS} {out : Int × vS} (h : j_X8_date_11 o x1 z2 s = some out) (ho : okB o 7) (rx1 : rg x1) (rz2 : rg z2) : VW cX8_date (RX8, (some (vI out.1)), out.2, (some .boolean), 2, 45, 2, []) (P0 []) s 11 [(0, vO o), (1, vI x1)] [vI z2, vO o, vO o] := by
  unfold j_X8_date_11 at h
  obtain ⟨r4, s1, e2, h⟩ := bd_some h
  have k3 := c_X8_digits e2 ho rz2
  have r5 : rg r4 := k3.1.2.2
  refine v_callV (st := [vO o]) cf8 (okB_ok ho) k3 (lw_V q1866 q1868 qs105 q305 q1869) rfl yk_X8_digits ⟨Nat.le_of_ble_eq_true rfl, Nat.le_of_ble_eq_true rfl⟩ ⟨(okB_kp ho (by decide)), trivial⟩ ⟨(okB_kp ho (by decide)), trivial⟩ (Nat.le_of_ble_eq_true rfl) rfl dX8_date_11 ?_
  obtain ⟨s6, e7, h⟩ := stp_some h
  refine v_putI (f := 3) cf8 (okB_ok ho) rfl (by decide) q546 dX8_date_14 rfl rfl ?_
  rw [← e7]
  refine v_aload_n dX8_date_17 0 rfl rfl ?_
  refine v_getI (f := 3) cf8 (okB_ok ho) rfl (by decide) q546 dX8_date_18 ?_
  refine v_if_ge (tgt := 26) dX8_date_21 (gI_rg _ _ _) (by decide) (fun c8 => ?_) (fun c8 => ?_)
  · rw [if_pos c8] at h
    refine v_iload_n dX8_date_26 1 rfl rfl ?_
    refine v_if_ne (tgt := 57) dX8_date_27 rx1 (by decide) (fun c9 => ?_) (fun c9 => ?_)
    · rw [if_neg c9] at h
      refine v_sub [0] (L1 := [(0, vO o)]) rfl ?_
      exact wj_X8_date_57 h ho
    · rw [if_pos c9] at h
      refine v_aload_n dX8_date_30 0 rfl rfl ?_
      refine v_dupO dX8_date_31 ?_
      refine v_getI (f := 3) cf8 (okB_ok ho) rfl (by decide) q546 dX8_date_32 ?_
      refine v_aload_n dX8_date_35 0 rfl rfl ?_
      refine v_getI (f := 3) cf8 (okB_ok ho) rfl (by decide) q546 dX8_date_36 ?_
      refine v_bipush dX8_date_39 rfl ?_
      refine v_icmp_ge (tgt := 50) dX8_date_41 (gI_rg _ _ _) (rgl rfl) (by decide) (fun c10 => ?_) (fun c10 => ?_)
      · rw [if_pos c10] at h
        refine v_sipush dX8_date_50 rfl ?_
        refine v_iadd dX8_date_53 ?_
        obtain ⟨s11, e12, h⟩ := stp_some h
        refine v_putI (f := 3) cf8 (okB_ok ho) rfl (by decide) q546 dX8_date_54 rfl rfl ?_
        rw [← e12]
        refine v_sub [0] (L1 := [(0, vO o)]) rfl ?_
        exact wj_X8_date_57 h ho
      · rw [if_neg c10] at h
        refine v_sipush dX8_date_44 rfl ?_
        refine v_goto (tgt := 53) dX8_date_47 (by decide) ?_
        refine v_iadd dX8_date_53 ?_
        obtain ⟨s13, e14, h⟩ := stp_some h
        refine v_putI (f := 3) cf8 (okB_ok ho) rfl (by decide) q546 dX8_date_54 rfl rfl ?_
        rw [← e14]
        refine v_sub [0] (L1 := [(0, vO o)]) rfl ?_
        exact wj_X8_date_57 h ho
  · rw [if_neg c8] at h
    refine v_iconst dX8_date_24 ?_
    cases h
    exact v_zret (Or.inl rfl) dX8_date_25

def f_X8_date (o : Nat) (x1 : Int) (s : vS) : Option (Int × vS) :=
  if x1 = 0 then
    j_X8_date_11 o x1 2 s
  else
    j_X8_date_11 o x1 4 s
theorem yk_X8_date : yOk yX8_date 1 := ⟨by decide, by decide, by decide +kernel⟩
theorem c_X8_date {o : Nat} {x1 : Int} {s : vS} {out : Int × vS} (h : f_X8_date o x1 s = some out) (ho : okB o 7) (rx1 : rg x1) : VC yX8_date cX8_date 2 (some .boolean) 2 45 [vO o, vI x1] s (some (vI out.1)) out.2 [] := by
  unfold f_X8_date at h
  refine VC.of RX8 (by decide) rfl (Nat.le_of_ble_eq_true rfl) ?_
  show VW cX8_date (RX8, (some (vI out.1)), out.2, (some .boolean), 2, 45, 2, []) (P0 []) s 0 [(0, vO o), (1, vI x1)] []
  refine v_aload_n dX8_date_0 0 rfl rfl ?_
  refine v_aload_n dX8_date_1 0 rfl rfl ?_
  refine v_iload_n dX8_date_2 1 rfl rfl ?_
  refine v_if_eq (tgt := 10) dX8_date_3 rx1 (by decide) (fun c1 => ?_) (fun c1 => ?_)
  · rw [if_pos c1] at h
    refine v_iconst dX8_date_10 ?_
    exact wj_X8_date_11 h ho rx1 (rgl rfl)
  · rw [if_neg c1] at h
    refine v_iconst dX8_date_6 ?_
    refine v_goto (tgt := 11) dX8_date_7 (by decide) ?_
    exact wj_X8_date_11 h ho rx1 (rgl rfl)

def f_X8_here (o : Nat) (s : vS) : Option (Int × vS) :=
  if (gI s o 2) ≤ (gI s o 1) then
    some ((-1), s)
  else
    gd (okB (gR s o 0) 1) <|
    bd (f_X2_at (gR s o 0) (gI s o 1) s) fun r6 s3 =>
    some (r6, s3)
theorem yk_X8_here : yOk yX8_here 0 := ⟨by decide, by decide, by decide +kernel⟩
theorem c_X8_here {o : Nat} {s : vS} {out : Int × vS} (h : f_X8_here o s = some out) (ho : okB o 7)  : VC yX8_here cX8_here 1 (some .int) 1 21 [vO o] s (some (vI out.1)) out.2 [] := by
  unfold f_X8_here at h
  refine VC.of RX8 (by decide) rfl (Nat.le_of_ble_eq_true rfl) ?_
  show VW cX8_here (RX8, (some (vI out.1)), out.2, (some .int), 1, 21, 1, []) (P0 []) s 0 [(0, vO o)] []
  refine v_aload_n dX8_here_0 0 rfl rfl ?_
  refine v_getI (f := 1) cf8 (okB_ok ho) rfl (by decide) q544 dX8_here_1 ?_
  refine v_aload_n dX8_here_4 0 rfl rfl ?_
  refine v_getI (f := 2) cf8 (okB_ok ho) rfl (by decide) q545 dX8_here_5 ?_
  refine v_icmp_ge (tgt := 25) dX8_here_8 (gI_rg _ _ _) (gI_rg _ _ _) (by decide) (fun c1 => ?_) (fun c1 => ?_)
  · rw [if_pos c1] at h
    refine v_iconst dX8_here_25 ?_
    cases h
    exact v_iret (rgl rfl) dX8_here_26
  · rw [if_neg c1] at h
    refine v_aload_n dX8_here_11 0 rfl rfl ?_
    obtain ⟨g2, h⟩ := gd_some h
    refine v_getR (f := 0) cf8 (okB_ok ho) rfl (okB_R g2 (by decide) (by decide)) (by decide) q543 dX8_here_12 ?_
    refine v_aload_n dX8_here_15 0 rfl rfl ?_
    refine v_getI (f := 1) cf8 (okB_ok ho) rfl (by decide) q544 dX8_here_16 ?_
    obtain ⟨r6, s3, e4, h⟩ := bd_some h
    have k5 := c_X2_at e4 g2 (gI_rg _ _ _)
    have r7 : rg r6 := k5.1.2.2
    refine v_callV (st := []) cf2 (okB_ok g2) k5 (lw_V q1870 q1072 q1073 q299 q1074) rfl yk_X2_at ⟨Nat.le_of_ble_eq_true rfl, Nat.le_of_ble_eq_true rfl⟩ trivial ⟨(okB_kp ho (by decide)), trivial⟩ (Nat.le_of_ble_eq_true rfl) rfl dX8_here_19 ?_
    refine v_goto (tgt := 26) dX8_here_22 (by decide) ?_
    cases h
    exact v_iret r7 dX8_here_26

def f_X8_isDigit (o : Nat) (s : vS) : Option (Int × vS) :=
  bd (f_X8_here o s) fun r4 s1 =>
  if r4 < 48 then
    some (0, s1)
  else
    bd (f_X8_here o s1) fun r10 s7 =>
    if 57 < r10 then
      some (0, s7)
    else
      some (1, s7)
theorem yk_X8_isDigit : yOk yX8_isDigit 0 := ⟨by decide, by decide, by decide +kernel⟩
theorem c_X8_isDigit {o : Nat} {s : vS} {out : Int × vS} (h : f_X8_isDigit o s = some out) (ho : okB o 7)  : VC yX8_isDigit cX8_isDigit 1 (some .boolean) 2 41 [vO o] s (some (vI out.1)) out.2 [] := by
  unfold f_X8_isDigit at h
  refine VC.of RX8 (by decide) rfl (Nat.le_of_ble_eq_true rfl) ?_
  show VW cX8_isDigit (RX8, (some (vI out.1)), out.2, (some .boolean), 2, 41, 1, []) (P0 []) s 0 [(0, vO o)] []
  refine v_aload_n dX8_isDigit_0 0 rfl rfl ?_
  obtain ⟨r4, s1, e2, h⟩ := bd_some h
  have k3 := c_X8_here e2 ho
  have r5 : rg r4 := k3.1.2.2
  refine v_callV (st := []) cf8 (okB_ok ho) k3 (lw_V q1886 q1888 qs108 q305 q1889) rfl yk_X8_here ⟨Nat.le_of_ble_eq_true rfl, Nat.le_of_ble_eq_true rfl⟩ trivial ⟨(okB_kp ho (by decide)), trivial⟩ (Nat.le_of_ble_eq_true rfl) rfl dX8_isDigit_1 ?_
  refine v_bipush dX8_isDigit_4 rfl ?_
  refine v_icmp_lt (tgt := 22) dX8_isDigit_6 r5 (rgl rfl) (by decide) (fun c6 => ?_) (fun c6 => ?_)
  · rw [if_pos c6] at h
    refine v_iconst dX8_isDigit_22 ?_
    cases h
    exact v_zret (Or.inl rfl) dX8_isDigit_23
  · rw [if_neg c6] at h
    refine v_aload_n dX8_isDigit_9 0 rfl rfl ?_
    obtain ⟨r10, s7, e8, h⟩ := bd_some h
    have k9 := c_X8_here e8 ho
    have r11 : rg r10 := k9.1.2.2
    refine v_callV (st := []) cf8 (okB_ok ho) k9 (lw_V q1886 q1888 qs108 q305 q1889) rfl yk_X8_here ⟨Nat.le_of_ble_eq_true rfl, Nat.le_of_ble_eq_true rfl⟩ trivial ⟨(okB_kp ho (by decide)), trivial⟩ (Nat.le_of_ble_eq_true rfl) rfl dX8_isDigit_10 ?_
    refine v_bipush dX8_isDigit_13 rfl ?_
    refine v_icmp_gt (tgt := 22) dX8_isDigit_15 r11 (rgl rfl) (by decide) (fun c12 => ?_) (fun c12 => ?_)
    · rw [if_pos c12] at h
      refine v_iconst dX8_isDigit_22 ?_
      cases h
      exact v_zret (Or.inl rfl) dX8_isDigit_23
    · rw [if_neg c12] at h
      refine v_iconst dX8_isDigit_18 ?_
      refine v_goto (tgt := 23) dX8_isDigit_19 (by decide) ?_
      cases h
      exact v_zret (Or.inr rfl) dX8_isDigit_23

def E_X8_spread_12 (o : Nat) (x1 : Int) (rv : Option vA) (σo : vS) (q : Int × vS) : Prop := ∀ (x2' : Int) (s' : vS), q = (x2', s') → rg x2' → VW cX8_spread (RX8, rv, σo, none, 1, 22, 5, []) (P0 []) s' 55 [(0, vO o), (1, vI x1), (2, vI x2')] []
def l_X8_spread_12 (o : Nat) : Nat → Int → Int → Int → vS → Option (Int × vS)
  | 0, _, _, _, _ => none
  | n + 1, x1, x2, x3, s =>
    if x3 < 0 then
      some (x2, s)
    else
      bd (f_X2_at (o + 1) x3 s) fun r5 s2 =>
      vl (w32 ((w32 (r5 * x1)) + x2)) fun y7 =>
      bdv (f_X2_set (o + 1) x3 (m32 y7 10) s2) fun s10 =>
      vl (d32 y7 10) fun y13 =>
      vl (w32 (x3 + (-1))) fun y16 =>
      l_X8_spread_12 o n x1 y13 y16 s10
theorem wl_X8_spread_12 (o : Nat) {x1 : Int} {rv : Option vA} {σo : vS} (ho : okB o 7) (rx1 : rg x1) : ∀ (n : Nat) (x2 : Int) (x3 : Int) (s : vS) (q : Int × vS), l_X8_spread_12 o n x1 x2 x3 s = some q → rg x2 → rg x3 → E_X8_spread_12 o x1 rv σo q → VW cX8_spread (RX8, rv, σo, none, 1, 22, 5, []) (P0 []) s 12 [(0, vO o), (1, vI x1), (2, vI x2), (3, vI x3)] [] := by
  intro n
  induction n with
  | zero => intro x2 x3 s q h; cases h
  | succ n ih =>
    intro x2 x3 s q h rx2 rx3 hE
    unfold l_X8_spread_12 at h
    refine v_iload_n dX8_spread_12 3 rfl rfl ?_
    refine v_if_lt (tgt := 55) dX8_spread_13 rx3 (by decide) (fun c1 => ?_) (fun c1 => ?_)
    · rw [if_pos c1] at h
      cases h
      refine v_sub [0, 1, 2] (L1 := [(0, vO o), (1, vI x1), (2, vI x2)]) rfl ?_
      exact hE _ _ rfl rx2
    · rw [if_neg c1] at h
      refine v_aload_n dX8_spread_16 0 rfl rfl ?_
      refine v_getS (f := 9) (t := o + 1) cf8 (okB_ok ho) rfl rfl rfl (by decide) q552 dX8_spread_17 ?_
      refine v_iload_n dX8_spread_20 3 rfl rfl ?_
      obtain ⟨r5, s2, e3, h⟩ := bd_some h
      have k4 := c_X2_at e3 (ch_7_9 ho) rx3
      have r6 : rg r5 := k4.1.2.2
      refine v_callV (st := []) cf2 (okB_ok (ch_7_9 ho)) k4 (lw_V q1870 q1072 q1073 q299 q1074) rfl yk_X2_at ⟨Nat.le_of_ble_eq_true rfl, Nat.le_of_ble_eq_true rfl⟩ trivial ⟨(okB_kp ho (by decide)), trivial⟩ (Nat.le_of_ble_eq_true rfl) rfl dX8_spread_21 ?_
      refine v_iload_n dX8_spread_24 1 rfl rfl ?_
      refine v_imul dX8_spread_25 ?_
      refine v_iload_n dX8_spread_26 2 rfl rfl ?_
      refine v_iadd dX8_spread_27 ?_
      obtain ⟨y7, e8, h⟩ := vl_some h
      rw [← e8]
      have r9 : rg y7 := by rw [e8]; exact w32_rg _
      refine v_istore (L1 := [(4, vI y7), (0, vO o), (1, vI x1), (2, vI x2), (3, vI x3)]) dX8_spread_28 (by decide) rfl ?_
      refine v_aload_n dX8_spread_30 1 rfl rfl ?_
      refine v_getS (f := 9) (t := o + 1) cf8 (okB_ok ho) rfl rfl rfl (by decide) q552 dX8_spread_31 ?_
      refine v_iload_n dX8_spread_34 4 rfl rfl ?_
      refine v_iload dX8_spread_35 0 rfl ?_
      refine v_bipush dX8_spread_37 rfl ?_
      refine v_irem dX8_spread_39 (rgl rfl) (by decide) ?_
      obtain ⟨s10, e11, h⟩ := bdv_some h
      have k12 := c_X2_set e11 (ch_7_9 ho) rx3 (m32_rg _ _)
      refine v_callV (st := []) cf2 (okB_ok (ch_7_9 ho)) k12 (lw_V q1896 q1536 q1537 q299 q1538) rfl yk_X2_set ⟨Nat.le_of_ble_eq_true rfl, Nat.le_of_ble_eq_true rfl⟩ trivial ⟨(okB_kp ho (by decide)), trivial⟩ (Nat.le_of_ble_eq_true rfl) rfl dX8_spread_40 ?_
      refine v_iload dX8_spread_43 0 rfl ?_
      refine v_bipush dX8_spread_45 rfl ?_
      refine v_idiv dX8_spread_47 (rgl rfl) (by decide) ?_
      obtain ⟨y13, e14, h⟩ := vl_some h
      rw [← e14]
      have r15 : rg y13 := by rw [e14]; exact d32_rg _ _
      refine v_istore_n (L1 := [(2, vI y13), (4, vI y7), (0, vO o), (1, vI x1), (3, vI x3)]) dX8_spread_48 rfl (by decide) rfl ?_
      obtain ⟨y16, e17, h⟩ := vl_some h
      refine v_iinc (L1 := [(3, vI (w32 (x3 + (-1)))), (2, vI y13), (4, vI y7), (0, vO o), (1, vI x1)]) dX8_spread_49 4 rfl (by decide) rfl ?_
      rw [← e17]
      have r18 : rg y16 := by rw [e17]; exact w32_rg _
      refine v_goto (tgt := 12) dX8_spread_52 (by decide) ?_
      refine v_sub [3, 4, 1, 0] (L1 := [(0, vO o), (1, vI x1), (2, vI y13), (3, vI y16)]) rfl ?_
      exact ih y13 y16 s10 _ h r15 r18 hE

def E_X8_spread_91 (o : Nat) (rv : Option vA) (σo : vS) (q : Int × vS) : Prop := ∀ (x3' : Int) (s' : vS), q = (x3', s') → rg x3' → VW cX8_spread (RX8, rv, σo, none, 1, 22, 5, []) (P0 []) s' 114 [(0, vO o), (3, vI x3')] []
def l_X8_spread_91 (o : Nat) : Nat → Int → vS → Option (Int × vS)
  | 0, _, _ => none
  | n + 1, x3, s =>
    if x3 ≤ 0 then
      some (x3, s)
    else
      bd (f_X2_at (o + 1) (w32 (x3 - 1)) s) fun r5 s2 =>
      if r5 = 0 then
        vl (w32 (x3 + (-1))) fun y8 =>
        l_X8_spread_91 o n y8 s2
      else
        some (x3, s2)
theorem wl_X8_spread_91 (o : Nat) {rv : Option vA} {σo : vS} (ho : okB o 7) : ∀ (n : Nat) (x3 : Int) (s : vS) (q : Int × vS), l_X8_spread_91 o n x3 s = some q → rg x3 → E_X8_spread_91 o rv σo q → VW cX8_spread (RX8, rv, σo, none, 1, 22, 5, []) (P0 []) s 91 [(0, vO o), (3, vI x3)] [] := by
  intro n
  induction n with
  | zero => intro x3 s q h; cases h
  | succ n ih =>
    intro x3 s q h rx3 hE
    unfold l_X8_spread_91 at h
    refine v_iload_n dX8_spread_91 1 rfl rfl ?_
    refine v_if_le (tgt := 114) dX8_spread_92 rx3 (by decide) (fun c1 => ?_) (fun c1 => ?_)
    · rw [if_pos c1] at h
      cases h
      exact hE _ _ rfl rx3
    · rw [if_neg c1] at h
      refine v_aload_n dX8_spread_95 0 rfl rfl ?_
      refine v_getS (f := 9) (t := o + 1) cf8 (okB_ok ho) rfl rfl rfl (by decide) q552 dX8_spread_96 ?_
      refine v_iload_n dX8_spread_99 1 rfl rfl ?_
      refine v_iconst dX8_spread_100 ?_
      refine v_isub dX8_spread_101 ?_
      obtain ⟨r5, s2, e3, h⟩ := bd_some h
      have k4 := c_X2_at e3 (ch_7_9 ho) (w32_rg _)
      have r6 : rg r5 := k4.1.2.2
      refine v_callV (st := []) cf2 (okB_ok (ch_7_9 ho)) k4 (lw_V q1870 q1072 q1073 q299 q1074) rfl yk_X2_at ⟨Nat.le_of_ble_eq_true rfl, Nat.le_of_ble_eq_true rfl⟩ trivial ⟨(okB_kp ho (by decide)), trivial⟩ (Nat.le_of_ble_eq_true rfl) rfl dX8_spread_102 ?_
      refine v_if_ne (tgt := 114) dX8_spread_105 r6 (by decide) (fun c7 => ?_) (fun c7 => ?_)
      · rw [if_neg c7] at h
        cases h
        exact hE _ _ rfl rx3
      · rw [if_pos c7] at h
        obtain ⟨y8, e9, h⟩ := vl_some h
        refine v_iinc (L1 := [(3, vI (w32 (x3 + (-1)))), (0, vO o)]) dX8_spread_108 1 rfl (by decide) rfl ?_
        rw [← e9]
        have r10 : rg y8 := by rw [e9]; exact w32_rg _
        refine v_goto (tgt := 91) dX8_spread_111 (by decide) ?_
        refine v_sub [1, 0] (L1 := [(0, vO o), (3, vI y8)]) rfl ?_
        exact ih y8 s2 _ h r10 hE

def j_X8_spread_114 (o : Nat) (x3 : Int) (s : vS) : Option (vS) :=
  bdv (f_X2_cut (o + 1) x3 s) fun s1 =>
  some s1
theorem wj_X8_spread_114 {o : Nat} {x3 : Int} {s : vS} {out : vS} (h : j_X8_spread_114 o x3 s = some out) (ho : okB o 7) (rx3 : rg x3) : VW cX8_spread (RX8, none, out, none, 1, 22, 5, []) (P0 []) s 114 [(0, vO o), (3, vI x3)] [] := by
  unfold j_X8_spread_114 at h
  refine v_aload_n dX8_spread_114 0 rfl rfl ?_
  refine v_getS (f := 9) (t := o + 1) cf8 (okB_ok ho) rfl rfl rfl (by decide) q552 dX8_spread_115 ?_
  refine v_iload_n dX8_spread_118 1 rfl rfl ?_
  obtain ⟨s1, e2, h⟩ := bdv_some h
  have k3 := c_X2_cut e2 (ch_7_9 ho) rx3
  refine v_callV (st := []) cf2 (okB_ok (ch_7_9 ho)) k3 (lw_V q1897 q1040 q1041 q299 q1042) rfl yk_X2_cut ⟨Nat.le_of_ble_eq_true rfl, Nat.le_of_ble_eq_true rfl⟩ trivial ⟨(okB_kp ho (by decide)), trivial⟩ (Nat.le_of_ble_eq_true rfl) rfl dX8_spread_119 ?_
  cases h
  exact v_vret dX8_spread_122

def j_X8_spread_83 (o : Nat) (s : vS) : Option (vS) :=
  bd (f_X2_size (o + 1) s) fun r4 s1 =>
  lq_1 (l_X8_spread_91 o FU r4 s1) fun y6 s7 =>
  j_X8_spread_114 o y6 s7
theorem wj_X8_spread_83 {o : Nat} {s : vS} {out : vS} (h : j_X8_spread_83 o s = some out) (ho : okB o 7) : VW cX8_spread (RX8, none, out, none, 1, 22, 5, []) (P0 []) s 83 [(0, vO o)] [] := by
  unfold j_X8_spread_83 at h
  refine v_aload_n dX8_spread_83 0 rfl rfl ?_
  refine v_getS (f := 9) (t := o + 1) cf8 (okB_ok ho) rfl rfl rfl (by decide) q552 dX8_spread_84 ?_
  obtain ⟨r4, s1, e2, h⟩ := bd_some h
  have k3 := c_X2_size e2 (ch_7_9 ho)
  have r5 : rg r4 := k3.1.2.2
  refine v_callV (st := []) cf2 (okB_ok (ch_7_9 ho)) k3 (lw_V q1895 q918 q919 q299 q920) rfl yk_X2_size ⟨Nat.le_of_ble_eq_true rfl, Nat.le_of_ble_eq_true rfl⟩ trivial ⟨(okB_kp ho (by decide)), trivial⟩ (Nat.le_of_ble_eq_true rfl) rfl dX8_spread_87 ?_
  refine v_istore_n (L1 := [(3, vI r4), (0, vO o)]) dX8_spread_90 rfl (by decide) rfl ?_
  refine v_sub [1, 0] (L1 := [(0, vO o), (3, vI r4)]) rfl ?_
  obtain ⟨y6, s7, e8, h⟩ := lq_1_some h
  refine wl_X8_spread_91 o ho FU r4 s1 _ e8 r5 ?_
  unfold E_X8_spread_91
  intro y6' s7' z_ r9
  cases z_
  exact wj_X8_spread_114 h ho r9

def j_X8_spread_70 (o : Nat) (x1 : Int) (x2 : Int) (s : vS) : Option (vS) :=
  if x1 ≤ 1 then
    j_X8_spread_83 o s
  else
    stp (sI s o 8 (m32 x2 60)) fun s2 =>
    j_X8_spread_83 o s2
theorem wj_X8_spread_70 {o : Nat} {x1 : Int} {x2 : Int} {s : vS} {out : vS} (h : j_X8_spread_70 o x1 x2 s = some out) (ho : okB o 7) (rx1 : rg x1) (rx2 : rg x2) : VW cX8_spread (RX8, none, out, none, 1, 22, 5, []) (P0 []) s 70 [(0, vO o), (1, vI x1), (2, vI x2)] [] := by
  unfold j_X8_spread_70 at h
  refine v_iload_n dX8_spread_70 1 rfl rfl ?_
  refine v_iconst dX8_spread_71 ?_
  refine v_icmp_le (tgt := 83) dX8_spread_72 rx1 (rgl rfl) (by decide) (fun c1 => ?_) (fun c1 => ?_)
  · rw [if_pos c1] at h
    refine v_sub [0] (L1 := [(0, vO o)]) rfl ?_
    exact wj_X8_spread_83 h ho
  · rw [if_neg c1] at h
    refine v_aload_n dX8_spread_75 0 rfl rfl ?_
    refine v_iload_n dX8_spread_76 2 rfl rfl ?_
    refine v_bipush dX8_spread_77 rfl ?_
    refine v_irem dX8_spread_79 (rgl rfl) (by decide) ?_
    obtain ⟨s2, e3, h⟩ := stp_some h
    refine v_putI (f := 8) cf8 (okB_ok ho) rfl (by decide) q551 dX8_spread_80 rfl rfl ?_
    rw [← e3]
    refine v_sub [0] (L1 := [(0, vO o)]) rfl ?_
    exact wj_X8_spread_83 h ho

def f_X8_spread (o : Nat) (x1 : Int) (s : vS) : Option (vS) :=
  bd (f_X2_size (o + 1) s) fun r4 s1 =>
  vl (w32 (r4 - 1)) fun y6 =>
  lq_1 (l_X8_spread_12 o FU x1 0 y6 s1) fun y9 s10 =>
  if x1 = 3600 then
    stp (sI s10 o 7 (d32 y9 60)) fun s14 =>
    j_X8_spread_70 o x1 y9 s14
  else
    j_X8_spread_70 o x1 y9 s10
theorem yk_X8_spread : yOk yX8_spread 1 := ⟨by decide, by decide, by decide +kernel⟩
theorem c_X8_spread {o : Nat} {x1 : Int} {s : vS} {out : vS} (h : f_X8_spread o x1 s = some out) (ho : okB o 7) (rx1 : rg x1) : VC yX8_spread cX8_spread 5 none 1 22 [vO o, vI x1] s none out [] := by
  unfold f_X8_spread at h
  refine VC.of RX8 (by decide) rfl (Nat.le_of_ble_eq_true rfl) ?_
  show VW cX8_spread (RX8, none, out, none, 1, 22, 5, []) (P0 []) s 0 [(0, vO o), (1, vI x1)] []
  refine v_iconst dX8_spread_0 ?_
  refine v_istore_n (L1 := [(2, vI 0), (0, vO o), (1, vI x1)]) dX8_spread_1 rfl (by decide) rfl ?_
  refine v_aload_n dX8_spread_2 1 rfl rfl ?_
  refine v_getS (f := 9) (t := o + 1) cf8 (okB_ok ho) rfl rfl rfl (by decide) q552 dX8_spread_3 ?_
  obtain ⟨r4, s1, e2, h⟩ := bd_some h
  have k3 := c_X2_size e2 (ch_7_9 ho)
  have r5 : rg r4 := k3.1.2.2
  refine v_callV (st := []) cf2 (okB_ok (ch_7_9 ho)) k3 (lw_V q1895 q918 q919 q299 q920) rfl yk_X2_size ⟨Nat.le_of_ble_eq_true rfl, Nat.le_of_ble_eq_true rfl⟩ trivial ⟨(okB_kp ho (by decide)), trivial⟩ (Nat.le_of_ble_eq_true rfl) rfl dX8_spread_6 ?_
  refine v_iconst dX8_spread_9 ?_
  refine v_isub dX8_spread_10 ?_
  obtain ⟨y6, e7, h⟩ := vl_some h
  rw [← e7]
  have r8 : rg y6 := by rw [e7]; exact w32_rg _
  refine v_istore_n (L1 := [(3, vI y6), (2, vI 0), (0, vO o), (1, vI x1)]) dX8_spread_11 rfl (by decide) rfl ?_
  refine v_sub [2, 3, 1, 0] (L1 := [(0, vO o), (1, vI x1), (2, vI 0), (3, vI y6)]) rfl ?_
  obtain ⟨y9, s10, e11, h⟩ := lq_1_some h
  refine wl_X8_spread_12 o ho rx1 FU 0 y6 s1 _ e11 (rgl rfl) r8 ?_
  unfold E_X8_spread_12
  intro y9' s10' z_ r12
  cases z_
  refine v_iload_n dX8_spread_55 1 rfl rfl ?_
  refine v_sipush dX8_spread_56 rfl ?_
  refine v_icmp_ne (tgt := 70) dX8_spread_59 rx1 (rgl rfl) (by decide) (fun c13 => ?_) (fun c13 => ?_)
  · rw [if_neg c13] at h
    exact wj_X8_spread_70 h ho rx1 r12
  · rw [if_pos c13] at h
    refine v_aload_n dX8_spread_62 0 rfl rfl ?_
    refine v_iload_n dX8_spread_63 2 rfl rfl ?_
    refine v_bipush dX8_spread_64 rfl ?_
    refine v_idiv dX8_spread_66 (rgl rfl) (by decide) ?_
    obtain ⟨s14, e15, h⟩ := stp_some h
    refine v_putI (f := 7) cf8 (okB_ok ho) rfl (by decide) q550 dX8_spread_67 rfl rfl ?_
    rw [← e15]
    exact wj_X8_spread_70 h ho rx1 r12

def E_X8_clock_131 (o : Nat) (x2 : Int) (rv : Option vA) (σo : vS) (q : vS) : Prop := ∀ (s' : vS), q = s' → VW cX8_clock (RX8, rv, σo, (some .boolean), 3, 70, 3, []) (P0 []) s' 165 [(0, vO o), (2, vI x2)] []
def l_X8_clock_131 (o : Nat) : Nat → Int → vS → Option (vS)
  | 0, _, _ => none
  | n + 1, x2, s =>
    bd (f_X8_isDigit o s) fun r4 s1 =>
    if r4 = 0 then
      some s1
    else
      bd (f_X8_here o s1) fun r10 s7 =>
      bdv (f_X2_add (o + 1) (w32 (r10 - 48)) s7) fun s12 =>
      stp (sI s12 o 1 (w32 ((gI s12 o 1) + 1))) fun s15 =>
      l_X8_clock_131 o n x2 s15
theorem wl_X8_clock_131 (o : Nat) {x2 : Int} {rv : Option vA} {σo : vS} (ho : okB o 7) (rx2 : rg x2) : ∀ (n : Nat) (s : vS) (q : vS), l_X8_clock_131 o n x2 s = some q → E_X8_clock_131 o x2 rv σo q → VW cX8_clock (RX8, rv, σo, (some .boolean), 3, 70, 3, []) (P0 []) s 131 [(0, vO o), (2, vI x2)] [] := by
  intro n
  induction n with
  | zero => intro s q h; cases h
  | succ n ih =>
    intro s q h  hE
    unfold l_X8_clock_131 at h
    refine v_aload_n dX8_clock_131 0 rfl rfl ?_
    obtain ⟨r4, s1, e2, h⟩ := bd_some h
    have k3 := c_X8_isDigit e2 ho
    have r5 : rg r4 := k3.1.2.2
    refine v_callV (st := []) cf8 (okB_ok ho) k3 (lw_V q1882 q1884 qs107 q305 q1885) rfl yk_X8_isDigit ⟨Nat.le_of_ble_eq_true rfl, Nat.le_of_ble_eq_true rfl⟩ trivial ⟨(okB_kp ho (by decide)), trivial⟩ (Nat.le_of_ble_eq_true rfl) rfl dX8_clock_132 ?_
    refine v_if_eq (tgt := 165) dX8_clock_135 r5 (by decide) (fun c6 => ?_) (fun c6 => ?_)
    · rw [if_pos c6] at h
      cases h
      exact hE _ rfl 
    · rw [if_neg c6] at h
      refine v_aload_n dX8_clock_138 0 rfl rfl ?_
      refine v_getS (f := 9) (t := o + 1) cf8 (okB_ok ho) rfl rfl rfl (by decide) q552 dX8_clock_139 ?_
      refine v_aload_n dX8_clock_142 0 rfl rfl ?_
      obtain ⟨r10, s7, e8, h⟩ := bd_some h
      have k9 := c_X8_here e8 ho
      have r11 : rg r10 := k9.1.2.2
      refine v_callV (st := [vO (o + 1)]) cf8 (okB_ok ho) k9 (lw_V q1886 q1888 qs108 q305 q1889) rfl yk_X8_here ⟨Nat.le_of_ble_eq_true rfl, Nat.le_of_ble_eq_true rfl⟩ ⟨(okB_kp (ch_7_9 ho) (by decide)), trivial⟩ ⟨(okB_kp ho (by decide)), trivial⟩ (Nat.le_of_ble_eq_true rfl) rfl dX8_clock_143 ?_
      refine v_bipush dX8_clock_146 rfl ?_
      refine v_isub dX8_clock_148 ?_
      obtain ⟨s12, e13, h⟩ := bdv_some h
      have k14 := c_X2_add e13 (ch_7_9 ho) (w32_rg _)
      refine v_callV (st := []) cf2 (okB_ok (ch_7_9 ho)) k14 (lw_V q1890 q1003 q1004 q299 q1005) rfl yk_X2_add ⟨Nat.le_of_ble_eq_true rfl, Nat.le_of_ble_eq_true rfl⟩ trivial ⟨(okB_kp ho (by decide)), trivial⟩ (Nat.le_of_ble_eq_true rfl) rfl dX8_clock_149 ?_
      refine v_aload_n dX8_clock_152 0 rfl rfl ?_
      refine v_dupO dX8_clock_153 ?_
      refine v_getI (f := 1) cf8 (okB_ok ho) rfl (by decide) q544 dX8_clock_154 ?_
      refine v_iconst dX8_clock_157 ?_
      refine v_iadd dX8_clock_158 ?_
      obtain ⟨s15, e16, h⟩ := stp_some h
      refine v_putI (f := 1) cf8 (okB_ok ho) rfl (by decide) q544 dX8_clock_159 rfl rfl ?_
      rw [← e16]
      refine v_goto (tgt := 131) dX8_clock_162 (by decide) ?_
      exact ih s15 _ h  hE

def j_X8_clock_112 (o : Nat) (x2 : Int) (s : vS) : Option (Int × vS) :=
  stp (sI s o 1 (w32 ((gI s o 1) + 1))) fun s1 =>
  bd (f_X8_isDigit o s1) fun r6 s3 =>
  if r6 = 0 then
    some (0, s3)
  else
    lq_0 (l_X8_clock_131 o FU x2 s3) fun s9 =>
    bdv (f_X8_spread o x2 s9) fun s11 =>
    some (1, s11)
theorem wj_X8_clock_112 {o : Nat} {x2 : Int} {s : vS} {out : Int × vS} (h : j_X8_clock_112 o x2 s = some out) (ho : okB o 7) (rx2 : rg x2) : VW cX8_clock (RX8, (some (vI out.1)), out.2, (some .boolean), 3, 70, 3, []) (P0 []) s 112 [(0, vO o), (2, vI x2)] [] := by
  unfold j_X8_clock_112 at h
  refine v_aload_n dX8_clock_112 0 rfl rfl ?_
  refine v_dupO dX8_clock_113 ?_
  refine v_getI (f := 1) cf8 (okB_ok ho) rfl (by decide) q544 dX8_clock_114 ?_
  refine v_iconst dX8_clock_117 ?_
  refine v_iadd dX8_clock_118 ?_
  obtain ⟨s1, e2, h⟩ := stp_some h
  refine v_putI (f := 1) cf8 (okB_ok ho) rfl (by decide) q544 dX8_clock_119 rfl rfl ?_
  rw [← e2]
  refine v_aload_n dX8_clock_122 0 rfl rfl ?_
  obtain ⟨r6, s3, e4, h⟩ := bd_some h
  have k5 := c_X8_isDigit e4 ho
  have r7 : rg r6 := k5.1.2.2
  refine v_callV (st := []) cf8 (okB_ok ho) k5 (lw_V q1882 q1884 qs107 q305 q1885) rfl yk_X8_isDigit ⟨Nat.le_of_ble_eq_true rfl, Nat.le_of_ble_eq_true rfl⟩ trivial ⟨(okB_kp ho (by decide)), trivial⟩ (Nat.le_of_ble_eq_true rfl) rfl dX8_clock_123 ?_
  refine v_if_ne (tgt := 131) dX8_clock_126 r7 (by decide) (fun c8 => ?_) (fun c8 => ?_)
  · rw [if_neg c8] at h
    obtain ⟨s9, e10, h⟩ := lq_0_some h
    refine wl_X8_clock_131 o ho rx2 FU  s3 _ e10  ?_
    unfold E_X8_clock_131
    intro s9' z_
    cases z_
    refine v_aload_n dX8_clock_165 0 rfl rfl ?_
    refine v_iload_n dX8_clock_166 1 rfl rfl ?_
    obtain ⟨s11, e12, h⟩ := bdv_some h
    have k13 := c_X8_spread e12 ho rx2
    refine v_callV (st := []) cf8 (okB_ok ho) k13 (lw_V q1891 q1893 qs109 q305 q1894) rfl yk_X8_spread ⟨Nat.le_of_ble_eq_true rfl, Nat.le_of_ble_eq_true rfl⟩ trivial ⟨(okB_kp ho (by decide)), trivial⟩ (Nat.le_of_ble_eq_true rfl) rfl dX8_clock_167 ?_
    refine v_iconst dX8_clock_170 ?_
    cases h
    exact v_zret (Or.inr rfl) dX8_clock_171
  · rw [if_pos c8] at h
    refine v_iconst dX8_clock_129 ?_
    cases h
    exact v_zret (Or.inl rfl) dX8_clock_130

def j_X8_clock_90 (o : Nat) (x1 : Int) (x2 : Int) (s : vS) : Option (Int × vS) :=
  if x1 = 0 then
    some (1, s)
  else
    bd (f_X8_here o s) fun r5 s2 =>
    if r5 = 46 then
      j_X8_clock_112 o x2 s2
    else
      bd (f_X8_here o s2) fun r11 s8 =>
      if r11 = 44 then
        j_X8_clock_112 o x2 s8
      else
        some (1, s8)
theorem wj_X8_clock_90 {o : Nat} {x1 : Int} {x2 : Int} {s : vS} {out : Int × vS} (h : j_X8_clock_90 o x1 x2 s = some out) (ho : okB o 7) (rx1 : rg x1) (rx2 : rg x2) : VW cX8_clock (RX8, (some (vI out.1)), out.2, (some .boolean), 3, 70, 3, []) (P0 []) s 90 [(0, vO o), (1, vI x1), (2, vI x2)] [] := by
  unfold j_X8_clock_90 at h
  refine v_iload_n dX8_clock_90 1 rfl rfl ?_
  refine v_if_eq (tgt := 170) dX8_clock_91 rx1 (by decide) (fun c1 => ?_) (fun c1 => ?_)
  · rw [if_pos c1] at h
    refine v_iconst dX8_clock_170 ?_
    cases h
    exact v_zret (Or.inr rfl) dX8_clock_171
  · rw [if_neg c1] at h
    refine v_aload_n dX8_clock_94 0 rfl rfl ?_
    obtain ⟨r5, s2, e3, h⟩ := bd_some h
    have k4 := c_X8_here e3 ho
    have r6 : rg r5 := k4.1.2.2
    refine v_callV (st := []) cf8 (okB_ok ho) k4 (lw_V q1886 q1888 qs108 q305 q1889) rfl yk_X8_here ⟨Nat.le_of_ble_eq_true rfl, Nat.le_of_ble_eq_true rfl⟩ trivial ⟨(okB_kp ho (by decide)), trivial⟩ (Nat.le_of_ble_eq_true rfl) rfl dX8_clock_95 ?_
    refine v_bipush dX8_clock_98 rfl ?_
    refine v_icmp_eq (tgt := 112) dX8_clock_100 r6 (rgl rfl) (by decide) (fun c7 => ?_) (fun c7 => ?_)
    · rw [if_pos c7] at h
      refine v_sub [0, 2] (L1 := [(0, vO o), (2, vI x2)]) rfl ?_
      exact wj_X8_clock_112 h ho rx2
    · rw [if_neg c7] at h
      refine v_aload_n dX8_clock_103 0 rfl rfl ?_
      obtain ⟨r11, s8, e9, h⟩ := bd_some h
      have k10 := c_X8_here e9 ho
      have r12 : rg r11 := k10.1.2.2
      refine v_callV (st := []) cf8 (okB_ok ho) k10 (lw_V q1886 q1888 qs108 q305 q1889) rfl yk_X8_here ⟨Nat.le_of_ble_eq_true rfl, Nat.le_of_ble_eq_true rfl⟩ trivial ⟨(okB_kp ho (by decide)), trivial⟩ (Nat.le_of_ble_eq_true rfl) rfl dX8_clock_104 ?_
      refine v_bipush dX8_clock_107 rfl ?_
      refine v_icmp_ne (tgt := 170) dX8_clock_109 r12 (rgl rfl) (by decide) (fun c13 => ?_) (fun c13 => ?_)
      · rw [if_neg c13] at h
        refine v_iconst dX8_clock_170 ?_
        cases h
        exact v_zret (Or.inr rfl) dX8_clock_171
      · rw [if_pos c13] at h
        refine v_sub [0, 2] (L1 := [(0, vO o), (2, vI x2)]) rfl ?_
        exact wj_X8_clock_112 h ho rx2

def j_X8_clock_32 (o : Nat) (x1 : Int) (s : vS) : Option (Int × vS) :=
  bd (f_X8_digits o 2 s) fun r4 s1 =>
  stp (sI s1 o 7 r4) fun s6 =>
  bd (f_X8_within (gI s6 o 7) 59 s6) fun r11 s8 =>
  if r11 = 0 then
    some (0, s8)
  else
    bd (f_X8_isDigit o s8) fun r17 s14 =>
    if r17 = 0 then
      j_X8_clock_90 o x1 60 s14
    else
      bd (f_X8_digits o 2 s14) fun r23 s20 =>
      stp (sI s20 o 8 r23) fun s25 =>
      bd (f_X8_within (gI s25 o 8) 59 s25) fun r30 s27 =>
      if r30 = 0 then
        some (0, s27)
      else
        j_X8_clock_90 o x1 1 s27
theorem wj_X8_clock_32 {o : Nat} {x1 : Int} {s : vS} {out : Int × vS} (h : j_X8_clock_32 o x1 s = some out) (ho : okB o 7) (rx1 : rg x1) : VW cX8_clock (RX8, (some (vI out.1)), out.2, (some .boolean), 3, 70, 3, []) (P0 []) s 32 [(0, vO o), (1, vI x1)] [] := by
  unfold j_X8_clock_32 at h
  refine v_aload_n dX8_clock_32 0 rfl rfl ?_
  refine v_aload_n dX8_clock_33 0 rfl rfl ?_
  refine v_iconst dX8_clock_34 ?_
  obtain ⟨r4, s1, e2, h⟩ := bd_some h
  have k3 := c_X8_digits e2 ho (rgl rfl)
  have r5 : rg r4 := k3.1.2.2
  refine v_callV (st := [vO o]) cf8 (okB_ok ho) k3 (lw_V q1866 q1868 qs105 q305 q1869) rfl yk_X8_digits ⟨Nat.le_of_ble_eq_true rfl, Nat.le_of_ble_eq_true rfl⟩ ⟨(okB_kp ho (by decide)), trivial⟩ ⟨(okB_kp ho (by decide)), trivial⟩ (Nat.le_of_ble_eq_true rfl) rfl dX8_clock_35 ?_
  obtain ⟨s6, e7, h⟩ := stp_some h
  refine v_putI (f := 7) cf8 (okB_ok ho) rfl (by decide) q550 dX8_clock_38 rfl rfl ?_
  rw [← e7]
  refine v_aload_n dX8_clock_41 0 rfl rfl ?_
  refine v_getI (f := 7) cf8 (okB_ok ho) rfl (by decide) q550 dX8_clock_42 ?_
  refine v_bipush dX8_clock_45 rfl ?_
  obtain ⟨r11, s8, e9, h⟩ := bd_some h
  have k10 := c_X8_within e9 (gI_rg _ _ _) (rgl rfl)
  have r12 : rg r11 := k10.1.2.2
  refine v_callS (st := []) k10 (lw_S q1874 q1875 q305 q1876) yk_X8_within ⟨Nat.le_of_ble_eq_true rfl, Nat.le_of_ble_eq_true rfl⟩ trivial ⟨(okB_kp ho (by decide)), trivial⟩ (Nat.le_of_ble_eq_true rfl) rfl dX8_clock_47 ?_
  refine v_if_ne (tgt := 55) dX8_clock_50 r12 (by decide) (fun c13 => ?_) (fun c13 => ?_)
  · rw [if_neg c13] at h
    refine v_bipush dX8_clock_55 rfl ?_
    refine v_istore_n (L1 := [(2, vI 60), (0, vO o), (1, vI x1)]) dX8_clock_57 rfl (by decide) rfl ?_
    refine v_aload_n dX8_clock_58 1 rfl rfl ?_
    obtain ⟨r17, s14, e15, h⟩ := bd_some h
    have k16 := c_X8_isDigit e15 ho
    have r18 : rg r17 := k16.1.2.2
    refine v_callV (st := []) cf8 (okB_ok ho) k16 (lw_V q1882 q1884 qs107 q305 q1885) rfl yk_X8_isDigit ⟨Nat.le_of_ble_eq_true rfl, Nat.le_of_ble_eq_true rfl⟩ trivial ⟨(okB_kp ho (by decide)), trivial⟩ (Nat.le_of_ble_eq_true rfl) rfl dX8_clock_59 ?_
    refine v_if_eq (tgt := 90) dX8_clock_62 r18 (by decide) (fun c19 => ?_) (fun c19 => ?_)
    · rw [if_pos c19] at h
      refine v_sub [1, 2, 0] (L1 := [(0, vO o), (1, vI x1), (2, vI 60)]) rfl ?_
      exact wj_X8_clock_90 h ho rx1 (rgl rfl)
    · rw [if_neg c19] at h
      refine v_aload_n dX8_clock_65 1 rfl rfl ?_
      refine v_aload_n dX8_clock_66 1 rfl rfl ?_
      refine v_iconst dX8_clock_67 ?_
      obtain ⟨r23, s20, e21, h⟩ := bd_some h
      have k22 := c_X8_digits e21 ho (rgl rfl)
      have r24 : rg r23 := k22.1.2.2
      refine v_callV (st := [vO o]) cf8 (okB_ok ho) k22 (lw_V q1866 q1868 qs105 q305 q1869) rfl yk_X8_digits ⟨Nat.le_of_ble_eq_true rfl, Nat.le_of_ble_eq_true rfl⟩ ⟨(okB_kp ho (by decide)), trivial⟩ ⟨(okB_kp ho (by decide)), trivial⟩ (Nat.le_of_ble_eq_true rfl) rfl dX8_clock_68 ?_
      obtain ⟨s25, e26, h⟩ := stp_some h
      refine v_putI (f := 8) cf8 (okB_ok ho) rfl (by decide) q551 dX8_clock_71 rfl rfl ?_
      rw [← e26]
      refine v_aload_n dX8_clock_74 1 rfl rfl ?_
      refine v_getI (f := 8) cf8 (okB_ok ho) rfl (by decide) q551 dX8_clock_75 ?_
      refine v_bipush dX8_clock_78 rfl ?_
      obtain ⟨r30, s27, e28, h⟩ := bd_some h
      have k29 := c_X8_within e28 (gI_rg _ _ _) (rgl rfl)
      have r31 : rg r30 := k29.1.2.2
      refine v_callS (st := []) k29 (lw_S q1874 q1875 q305 q1876) yk_X8_within ⟨Nat.le_of_ble_eq_true rfl, Nat.le_of_ble_eq_true rfl⟩ trivial ⟨(okB_kp ho (by decide)), trivial⟩ (Nat.le_of_ble_eq_true rfl) rfl dX8_clock_80 ?_
      refine v_if_ne (tgt := 88) dX8_clock_83 r31 (by decide) (fun c32 => ?_) (fun c32 => ?_)
      · rw [if_neg c32] at h
        refine v_iconst dX8_clock_88 ?_
        refine v_istore_n (L1 := [(2, vI 1), (0, vO o), (1, vI x1)]) dX8_clock_89 rfl (by decide) rfl ?_
        refine v_sub [1, 2, 0] (L1 := [(0, vO o), (1, vI x1), (2, vI 1)]) rfl ?_
        exact wj_X8_clock_90 h ho rx1 (rgl rfl)
      · rw [if_pos c32] at h
        refine v_iconst dX8_clock_86 ?_
        cases h
        exact v_zret (Or.inl rfl) dX8_clock_87
  · rw [if_pos c13] at h
    refine v_iconst dX8_clock_53 ?_
    cases h
    exact v_zret (Or.inl rfl) dX8_clock_54

def f_X8_clock (o : Nat) (x1 : Int) (s : vS) : Option (Int × vS) :=
  stp (sI s o 7 0) fun s1 =>
  stp (sI s1 o 8 0) fun s3 =>
  bdv (f_X2_clear (o + 1) s3) fun s5 =>
  if x1 = 0 then
    j_X8_clock_32 o x1 s5
  else
    bd (f_X8_isDigit o s5) fun r12 s9 =>
    if r12 = 0 then
      j_X8_clock_90 o x1 3600 s9
    else
      j_X8_clock_32 o x1 s9
theorem yk_X8_clock : yOk yX8_clock 1 := ⟨by decide, by decide, by decide +kernel⟩
theorem c_X8_clock {o : Nat} {x1 : Int} {s : vS} {out : Int × vS} (h : f_X8_clock o x1 s = some out) (ho : okB o 7) (rx1 : rg x1) : VC yX8_clock cX8_clock 3 (some .boolean) 3 70 [vO o, vI x1] s (some (vI out.1)) out.2 [] := by
  unfold f_X8_clock at h
  refine VC.of RX8 (by decide) rfl (Nat.le_of_ble_eq_true rfl) ?_
  show VW cX8_clock (RX8, (some (vI out.1)), out.2, (some .boolean), 3, 70, 3, []) (P0 []) s 0 [(0, vO o), (1, vI x1)] []
  refine v_aload_n dX8_clock_0 0 rfl rfl ?_
  refine v_iconst dX8_clock_1 ?_
  obtain ⟨s1, e2, h⟩ := stp_some h
  refine v_putI (f := 7) cf8 (okB_ok ho) rfl (by decide) q550 dX8_clock_2 rfl rfl ?_
  rw [← e2]
  refine v_aload_n dX8_clock_5 0 rfl rfl ?_
  refine v_iconst dX8_clock_6 ?_
  obtain ⟨s3, e4, h⟩ := stp_some h
  refine v_putI (f := 8) cf8 (okB_ok ho) rfl (by decide) q551 dX8_clock_7 rfl rfl ?_
  rw [← e4]
  refine v_aload_n dX8_clock_10 0 rfl rfl ?_
  refine v_getS (f := 9) (t := o + 1) cf8 (okB_ok ho) rfl rfl rfl (by decide) q552 dX8_clock_11 ?_
  obtain ⟨s5, e6, h⟩ := bdv_some h
  have k7 := c_X2_clear e6 (ch_7_9 ho)
  refine v_callV (st := []) cf2 (okB_ok (ch_7_9 ho)) k7 (lw_V q1881 q1055 q1056 q299 q1057) rfl yk_X2_clear ⟨Nat.le_of_ble_eq_true rfl, Nat.le_of_ble_eq_true rfl⟩ trivial ⟨(okB_kp ho (by decide)), trivial⟩ (Nat.le_of_ble_eq_true rfl) rfl dX8_clock_14 ?_
  refine v_sipush dX8_clock_17 rfl ?_
  refine v_istore_n (L1 := [(2, vI 3600), (0, vO o), (1, vI x1)]) dX8_clock_20 rfl (by decide) rfl ?_
  refine v_iload_n dX8_clock_21 2 rfl rfl ?_
  refine v_if_eq (tgt := 32) dX8_clock_22 rx1 (by decide) (fun c8 => ?_) (fun c8 => ?_)
  · rw [if_pos c8] at h
    refine v_sub [1, 2] (L1 := [(0, vO o), (1, vI x1)]) rfl ?_
    exact wj_X8_clock_32 h ho rx1
  · rw [if_neg c8] at h
    refine v_aload_n dX8_clock_25 1 rfl rfl ?_
    obtain ⟨r12, s9, e10, h⟩ := bd_some h
    have k11 := c_X8_isDigit e10 ho
    have r13 : rg r12 := k11.1.2.2
    refine v_callV (st := []) cf8 (okB_ok ho) k11 (lw_V q1882 q1884 qs107 q305 q1885) rfl yk_X8_isDigit ⟨Nat.le_of_ble_eq_true rfl, Nat.le_of_ble_eq_true rfl⟩ trivial ⟨(okB_kp ho (by decide)), trivial⟩ (Nat.le_of_ble_eq_true rfl) rfl dX8_clock_26 ?_
    refine v_if_eq (tgt := 90) dX8_clock_29 r13 (by decide) (fun c14 => ?_) (fun c14 => ?_)
    · rw [if_pos c14] at h
      refine v_sub [1, 2, 0] (L1 := [(0, vO o), (1, vI x1), (2, vI 3600)]) rfl ?_
      exact wj_X8_clock_90 h ho rx1 (rgl rfl)
    · rw [if_neg c14] at h
      refine v_sub [1, 2] (L1 := [(0, vO o), (1, vI x1)]) rfl ?_
      exact wj_X8_clock_32 h ho rx1

def j_X8_shift_184 (o : Nat) (z1 : Int) (s : vS) : Option (vS) :=
  stp (sI s o 4 z1) fun s1 =>
  if (gI s1 o 4) = 1 then
    stp (sI s1 o 3 (w32 ((gI s1 o 3) + 1))) fun s6 =>
    some s6
  else
    stp (sI s1 o 3 (w32 ((gI s1 o 3) + 0))) fun s4 =>
    some s4
theorem wj_X8_shift_184 {o : Nat} {z1 : Int} {s : vS} {out : vS} (h : j_X8_shift_184 o z1 s = some out) (ho : okB o 7) (rz1 : rg z1) : VW cX8_shift (RX8, none, out, none, 1, 21, 4, []) (P0 []) s 184 [(0, vO o)] [vI z1, vO o] := by
  unfold j_X8_shift_184 at h
  obtain ⟨s1, e2, h⟩ := stp_some h
  refine v_putI (f := 4) cf8 (okB_ok ho) rfl (by decide) q547 dX8_shift_184 rfl rfl ?_
  rw [← e2]
  refine v_aload_n dX8_shift_187 0 rfl rfl ?_
  refine v_dupO dX8_shift_188 ?_
  refine v_getI (f := 3) cf8 (okB_ok ho) rfl (by decide) q546 dX8_shift_189 ?_
  refine v_aload_n dX8_shift_192 0 rfl rfl ?_
  refine v_getI (f := 4) cf8 (okB_ok ho) rfl (by decide) q547 dX8_shift_193 ?_
  refine v_iconst dX8_shift_196 ?_
  refine v_icmp_ne (tgt := 204) dX8_shift_197 (gI_rg _ _ _) (rgl rfl) (by decide) (fun c3 => ?_) (fun c3 => ?_)
  · rw [if_neg c3] at h
    refine v_iconst dX8_shift_204 ?_
    refine v_iadd dX8_shift_205 ?_
    obtain ⟨s4, e5, h⟩ := stp_some h
    refine v_putI (f := 3) cf8 (okB_ok ho) rfl (by decide) q546 dX8_shift_206 rfl rfl ?_
    rw [← e5]
    cases h
    exact v_vret dX8_shift_209
  · rw [if_pos c3] at h
    refine v_iconst dX8_shift_200 ?_
    refine v_goto (tgt := 205) dX8_shift_201 (by decide) ?_
    refine v_iadd dX8_shift_205 ?_
    obtain ⟨s6, e7, h⟩ := stp_some h
    refine v_putI (f := 3) cf8 (okB_ok ho) rfl (by decide) q546 dX8_shift_206 rfl rfl ?_
    rw [← e7]
    cases h
    exact v_vret dX8_shift_209

def j_X8_shift_119 (o : Nat) (z1 : Int) (z2 : Int) (s : vS) : Option (vS) :=
  stp (sI s o 3 (w32 (z1 - z2))) fun s1 =>
  bd (f_X8_days (gI s1 o 3) (gI s1 o 4) s1) fun r6 s3 =>
  stp (sI s3 o 5 r6) fun s8 =>
  some s8
theorem wj_X8_shift_119 {o : Nat} {z1 : Int} {z2 : Int} {s : vS} {out : vS} (h : j_X8_shift_119 o z1 z2 s = some out) (ho : okB o 7) (rz1 : rg z1) (rz2 : rg z2) : VW cX8_shift (RX8, none, out, none, 1, 21, 4, []) (P0 []) s 119 [(0, vO o)] [vI z2, vI z1, vO o] := by
  unfold j_X8_shift_119 at h
  refine v_isub dX8_shift_119 ?_
  obtain ⟨s1, e2, h⟩ := stp_some h
  refine v_putI (f := 3) cf8 (okB_ok ho) rfl (by decide) q546 dX8_shift_120 rfl rfl ?_
  rw [← e2]
  refine v_aload_n dX8_shift_123 0 rfl rfl ?_
  refine v_aload_n dX8_shift_124 0 rfl rfl ?_
  refine v_getI (f := 3) cf8 (okB_ok ho) rfl (by decide) q546 dX8_shift_125 ?_
  refine v_aload_n dX8_shift_128 0 rfl rfl ?_
  refine v_getI (f := 4) cf8 (okB_ok ho) rfl (by decide) q547 dX8_shift_129 ?_
  obtain ⟨r6, s3, e4, h⟩ := bd_some h
  have k5 := c_X8_days e4 (gI_rg _ _ _) (gI_rg _ _ _)
  have r7 : rg r6 := k5.1.2.2
  refine v_callS (st := [vO o]) k5 (lw_S q1871 q1872 q305 q1873) yk_X8_days ⟨Nat.le_of_ble_eq_true rfl, Nat.le_of_ble_eq_true rfl⟩ ⟨(okB_kp ho (by decide)), trivial⟩ ⟨(okB_kp ho (by decide)), trivial⟩ (Nat.le_of_ble_eq_true rfl) rfl dX8_shift_132 ?_
  obtain ⟨s8, e9, h⟩ := stp_some h
  refine v_putI (f := 5) cf8 (okB_ok ho) rfl (by decide) q548 dX8_shift_135 rfl rfl ?_
  rw [← e9]
  refine v_goto (tgt := 209) dX8_shift_138 (by decide) ?_
  cases h
  exact v_vret dX8_shift_209

def j_X8_shift_97 (o : Nat) (z1 : Int) (s : vS) : Option (vS) :=
  stp (sI s o 4 z1) fun s1 =>
  if (gI s1 o 4) = 12 then
    j_X8_shift_119 o (gI s1 o 3) 1 s1
  else
    j_X8_shift_119 o (gI s1 o 3) 0 s1
theorem wj_X8_shift_97 {o : Nat} {z1 : Int} {s : vS} {out : vS} (h : j_X8_shift_97 o z1 s = some out) (ho : okB o 7) (rz1 : rg z1) : VW cX8_shift (RX8, none, out, none, 1, 21, 4, []) (P0 []) s 97 [(0, vO o)] [vI z1, vO o] := by
  unfold j_X8_shift_97 at h
  obtain ⟨s1, e2, h⟩ := stp_some h
  refine v_putI (f := 4) cf8 (okB_ok ho) rfl (by decide) q547 dX8_shift_97 rfl rfl ?_
  rw [← e2]
  refine v_aload_n dX8_shift_100 0 rfl rfl ?_
  refine v_dupO dX8_shift_101 ?_
  refine v_getI (f := 3) cf8 (okB_ok ho) rfl (by decide) q546 dX8_shift_102 ?_
  refine v_aload_n dX8_shift_105 0 rfl rfl ?_
  refine v_getI (f := 4) cf8 (okB_ok ho) rfl (by decide) q547 dX8_shift_106 ?_
  refine v_bipush dX8_shift_109 rfl ?_
  refine v_icmp_ne (tgt := 118) dX8_shift_111 (gI_rg _ _ _) (rgl rfl) (by decide) (fun c3 => ?_) (fun c3 => ?_)
  · rw [if_neg c3] at h
    refine v_iconst dX8_shift_118 ?_
    exact wj_X8_shift_119 h ho (gI_rg _ _ _) (rgl rfl)
  · rw [if_pos c3] at h
    refine v_iconst dX8_shift_114 ?_
    refine v_goto (tgt := 119) dX8_shift_115 (by decide) ?_
    exact wj_X8_shift_119 h ho (gI_rg _ _ _) (rgl rfl)

def j_X8_shift_35 (o : Nat) (x2 : Int) (z0 : Int) (s : vS) : Option (vS) :=
  vl (w32 (x2 - (w32 (1440 * z0)))) fun y1 =>
  stp (sI s o 6 (d32 y1 60)) fun s4 =>
  stp (sI s4 o 7 (m32 y1 60)) fun s6 =>
  stp (sI s6 o 5 (w32 ((gI s6 o 5) + z0))) fun s8 =>
  if (gI s8 o 5) = 0 then
    if (gI s8 o 4) = 1 then
      j_X8_shift_97 o 12 s8
    else
      j_X8_shift_97 o (w32 ((gI s8 o 4) - 1)) s8
  else
    bd (f_X8_days (gI s8 o 3) (gI s8 o 4) s8) fun r14 s11 =>
    if (gI s8 o 5) ≤ r14 then
      some s11
    else
      stp (sI s11 o 5 1) fun s17 =>
      if (gI s17 o 4) = 12 then
        j_X8_shift_184 o 1 s17
      else
        j_X8_shift_184 o (w32 ((gI s17 o 4) + 1)) s17
theorem wj_X8_shift_35 {o : Nat} {x2 : Int} {z0 : Int} {s : vS} {out : vS} (h : j_X8_shift_35 o x2 z0 s = some out) (ho : okB o 7) (rx2 : rg x2) (rz0 : rg z0) : VW cX8_shift (RX8, none, out, none, 1, 21, 4, []) (P0 []) s 35 [(0, vO o), (2, vI x2)] [vI z0] := by
  unfold j_X8_shift_35 at h
  refine v_istore_n (L1 := [(3, vI z0), (0, vO o), (2, vI x2)]) dX8_shift_35 rfl (by decide) rfl ?_
  refine v_iload_n dX8_shift_36 2 rfl rfl ?_
  refine v_sipush dX8_shift_37 rfl ?_
  refine v_iload_n dX8_shift_40 0 rfl rfl ?_
  refine v_imul dX8_shift_41 ?_
  refine v_isub dX8_shift_42 ?_
  obtain ⟨y1, e2, h⟩ := vl_some h
  rw [← e2]
  have r3 : rg y1 := by rw [e2]; exact w32_rg _
  refine v_istore_n (L1 := [(2, vI y1), (3, vI z0), (0, vO o)]) dX8_shift_43 rfl (by decide) rfl ?_
  refine v_aload_n dX8_shift_44 2 rfl rfl ?_
  refine v_iload_n dX8_shift_45 0 rfl rfl ?_
  refine v_bipush dX8_shift_46 rfl ?_
  refine v_idiv dX8_shift_48 (rgl rfl) (by decide) ?_
  obtain ⟨s4, e5, h⟩ := stp_some h
  refine v_putI (f := 6) cf8 (okB_ok ho) rfl (by decide) q549 dX8_shift_49 rfl rfl ?_
  rw [← e5]
  refine v_aload_n dX8_shift_52 2 rfl rfl ?_
  refine v_iload_n dX8_shift_53 0 rfl rfl ?_
  refine v_bipush dX8_shift_54 rfl ?_
  refine v_irem dX8_shift_56 (rgl rfl) (by decide) ?_
  obtain ⟨s6, e7, h⟩ := stp_some h
  refine v_putI (f := 7) cf8 (okB_ok ho) rfl (by decide) q550 dX8_shift_57 rfl rfl ?_
  rw [← e7]
  refine v_aload_n dX8_shift_60 2 rfl rfl ?_
  refine v_dupO dX8_shift_61 ?_
  refine v_getI (f := 5) cf8 (okB_ok ho) rfl (by decide) q548 dX8_shift_62 ?_
  refine v_iload_n dX8_shift_65 1 rfl rfl ?_
  refine v_iadd dX8_shift_66 ?_
  obtain ⟨s8, e9, h⟩ := stp_some h
  refine v_putI (f := 5) cf8 (okB_ok ho) rfl (by decide) q548 dX8_shift_67 rfl rfl ?_
  rw [← e9]
  refine v_aload_n dX8_shift_70 2 rfl rfl ?_
  refine v_getI (f := 5) cf8 (okB_ok ho) rfl (by decide) q548 dX8_shift_71 ?_
  refine v_if_ne (tgt := 141) dX8_shift_74 (gI_rg _ _ _) (by decide) (fun c10 => ?_) (fun c10 => ?_)
  · rw [if_neg c10] at h
    refine v_aload_n dX8_shift_141 2 rfl rfl ?_
    refine v_getI (f := 5) cf8 (okB_ok ho) rfl (by decide) q548 dX8_shift_142 ?_
    refine v_aload_n dX8_shift_145 2 rfl rfl ?_
    refine v_getI (f := 3) cf8 (okB_ok ho) rfl (by decide) q546 dX8_shift_146 ?_
    refine v_aload_n dX8_shift_149 2 rfl rfl ?_
    refine v_getI (f := 4) cf8 (okB_ok ho) rfl (by decide) q547 dX8_shift_150 ?_
    obtain ⟨r14, s11, e12, h⟩ := bd_some h
    have k13 := c_X8_days e12 (gI_rg _ _ _) (gI_rg _ _ _)
    have r15 : rg r14 := k13.1.2.2
    refine v_callS (st := [vI (gI s8 o 5)]) k13 (lw_S q1871 q1872 q305 q1873) yk_X8_days ⟨Nat.le_of_ble_eq_true rfl, Nat.le_of_ble_eq_true rfl⟩ trivial ⟨(okB_kp ho (by decide)), trivial⟩ (Nat.le_of_ble_eq_true rfl) rfl dX8_shift_153 ?_
    refine v_icmp_le (tgt := 209) dX8_shift_156 (gI_rg _ _ _) r15 (by decide) (fun c16 => ?_) (fun c16 => ?_)
    · rw [if_pos c16] at h
      cases h
      exact v_vret dX8_shift_209
    · rw [if_neg c16] at h
      refine v_aload_n dX8_shift_159 2 rfl rfl ?_
      refine v_iconst dX8_shift_160 ?_
      obtain ⟨s17, e18, h⟩ := stp_some h
      refine v_putI (f := 5) cf8 (okB_ok ho) rfl (by decide) q548 dX8_shift_161 rfl rfl ?_
      rw [← e18]
      refine v_aload_n dX8_shift_164 2 rfl rfl ?_
      refine v_aload_n dX8_shift_165 2 rfl rfl ?_
      refine v_getI (f := 4) cf8 (okB_ok ho) rfl (by decide) q547 dX8_shift_166 ?_
      refine v_bipush dX8_shift_169 rfl ?_
      refine v_icmp_ne (tgt := 178) dX8_shift_171 (gI_rg _ _ _) (rgl rfl) (by decide) (fun c19 => ?_) (fun c19 => ?_)
      · rw [if_neg c19] at h
        refine v_aload_n dX8_shift_178 2 rfl rfl ?_
        refine v_getI (f := 4) cf8 (okB_ok ho) rfl (by decide) q547 dX8_shift_179 ?_
        refine v_iconst dX8_shift_182 ?_
        refine v_iadd dX8_shift_183 ?_
        refine v_sub [2] (L1 := [(0, vO o)]) rfl ?_
        exact wj_X8_shift_184 h ho (w32_rg _)
      · rw [if_pos c19] at h
        refine v_iconst dX8_shift_174 ?_
        refine v_goto (tgt := 184) dX8_shift_175 (by decide) ?_
        refine v_sub [2] (L1 := [(0, vO o)]) rfl ?_
        exact wj_X8_shift_184 h ho (rgl rfl)
  · rw [if_pos c10] at h
    refine v_aload_n dX8_shift_77 2 rfl rfl ?_
    refine v_aload_n dX8_shift_78 2 rfl rfl ?_
    refine v_getI (f := 4) cf8 (okB_ok ho) rfl (by decide) q547 dX8_shift_79 ?_
    refine v_iconst dX8_shift_82 ?_
    refine v_icmp_ne (tgt := 91) dX8_shift_83 (gI_rg _ _ _) (rgl rfl) (by decide) (fun c20 => ?_) (fun c20 => ?_)
    · rw [if_neg c20] at h
      refine v_aload_n dX8_shift_91 2 rfl rfl ?_
      refine v_getI (f := 4) cf8 (okB_ok ho) rfl (by decide) q547 dX8_shift_92 ?_
      refine v_iconst dX8_shift_95 ?_
      refine v_isub dX8_shift_96 ?_
      refine v_sub [2] (L1 := [(0, vO o)]) rfl ?_
      exact wj_X8_shift_97 h ho (w32_rg _)
    · rw [if_pos c20] at h
      refine v_bipush dX8_shift_86 rfl ?_
      refine v_goto (tgt := 97) dX8_shift_88 (by decide) ?_
      refine v_sub [2] (L1 := [(0, vO o)]) rfl ?_
      exact wj_X8_shift_97 h ho (rgl rfl)

def f_X8_shift (o : Nat) (x1 : Int) (s : vS) : Option (vS) :=
  vl (w32 ((w32 ((w32 (60 * (gI s o 6))) + (gI s o 7))) + x1)) fun y1 =>
  if 0 ≤ y1 then
    if y1 < 1440 then
      j_X8_shift_35 o y1 0 s
    else
      j_X8_shift_35 o y1 1 s
  else
    j_X8_shift_35 o y1 (-1) s
theorem yk_X8_shift : yOk yX8_shift 1 := ⟨by decide, by decide, by decide +kernel⟩
theorem c_X8_shift {o : Nat} {x1 : Int} {s : vS} {out : vS} (h : f_X8_shift o x1 s = some out) (ho : okB o 7) (rx1 : rg x1) : VC yX8_shift cX8_shift 4 none 1 21 [vO o, vI x1] s none out [] := by
  unfold f_X8_shift at h
  refine VC.of RX8 (by decide) rfl (Nat.le_of_ble_eq_true rfl) ?_
  show VW cX8_shift (RX8, none, out, none, 1, 21, 4, []) (P0 []) s 0 [(0, vO o), (1, vI x1)] []
  refine v_bipush dX8_shift_0 rfl ?_
  refine v_aload_n dX8_shift_2 0 rfl rfl ?_
  refine v_getI (f := 6) cf8 (okB_ok ho) rfl (by decide) q549 dX8_shift_3 ?_
  refine v_imul dX8_shift_6 ?_
  refine v_aload_n dX8_shift_7 0 rfl rfl ?_
  refine v_getI (f := 7) cf8 (okB_ok ho) rfl (by decide) q550 dX8_shift_8 ?_
  refine v_iadd dX8_shift_11 ?_
  refine v_iload_n dX8_shift_12 1 rfl rfl ?_
  refine v_iadd dX8_shift_13 ?_
  obtain ⟨y1, e2, h⟩ := vl_some h
  rw [← e2]
  have r3 : rg y1 := by rw [e2]; exact w32_rg _
  refine v_istore_n (L1 := [(2, vI y1), (0, vO o), (1, vI x1)]) dX8_shift_14 rfl (by decide) rfl ?_
  refine v_iload_n dX8_shift_15 0 rfl rfl ?_
  refine v_if_ge (tgt := 23) dX8_shift_16 r3 (by decide) (fun c4 => ?_) (fun c4 => ?_)
  · rw [if_pos c4] at h
    refine v_iload_n dX8_shift_23 0 rfl rfl ?_
    refine v_sipush dX8_shift_24 rfl ?_
    refine v_icmp_lt (tgt := 34) dX8_shift_27 r3 (rgl rfl) (by decide) (fun c5 => ?_) (fun c5 => ?_)
    · rw [if_pos c5] at h
      refine v_iconst dX8_shift_34 ?_
      refine v_sub [1, 0] (L1 := [(0, vO o), (2, vI y1)]) rfl ?_
      exact wj_X8_shift_35 h ho r3 (rgl rfl)
    · rw [if_neg c5] at h
      refine v_iconst dX8_shift_30 ?_
      refine v_goto (tgt := 35) dX8_shift_31 (by decide) ?_
      refine v_sub [1, 0] (L1 := [(0, vO o), (2, vI y1)]) rfl ?_
      exact wj_X8_shift_35 h ho r3 (rgl rfl)
  · rw [if_neg c4] at h
    refine v_iconst dX8_shift_19 ?_
    refine v_goto (tgt := 35) dX8_shift_20 (by decide) ?_
    refine v_sub [1, 0] (L1 := [(0, vO o), (2, vI y1)]) rfl ?_
    exact wj_X8_shift_35 h ho r3 (rgl rfl)

def j_X8_zone_158 (o : Nat) (z1 : Int) (s : vS) : Option (Int × vS) :=
  bdv (f_X8_shift o z1 s) fun s1 =>
  some (0, s1)
theorem wj_X8_zone_158 {o : Nat} {z1 : Int} {s : vS} {out : Int × vS} (h : j_X8_zone_158 o z1 s = some out) (ho : okB o 7) (rz1 : rg z1) : VW cX8_zone (RX8, (some (vI out.1)), out.2, (some .int), 2, 45, 6, []) (P0 []) s 158 [] [vI z1, vO o] := by
  unfold j_X8_zone_158 at h
  obtain ⟨s1, e2, h⟩ := bdv_some h
  have k3 := c_X8_shift e2 ho rz1
  refine v_callV (st := []) cf8 (okB_ok ho) k3 (lw_V q1902 q1904 qs111 q305 q1905) rfl yk_X8_shift ⟨Nat.le_of_ble_eq_true rfl, Nat.le_of_ble_eq_true rfl⟩ trivial trivial (Nat.le_of_ble_eq_true rfl) rfl dX8_zone_158 ?_
  refine v_iconst dX8_zone_161 ?_
  cases h
  exact v_iret (rgl rfl) dX8_zone_162

def j_X8_zone_108 (o : Nat) (x2 : Int) (x3 : Int) (z0 : Int) (s : vS) : Option (Int × vS) :=
  bd (f_X8_within z0 59 s) fun r4 s1 =>
  if r4 = 0 then
    some (18, s1)
  else
    if (gI s1 o 1) = (gI s1 o 2) then
      vl (w32 ((w32 (60 * x3)) + z0)) fun y8 =>
      if x2 = 43 then
        j_X8_zone_158 o (w32 (-y8)) s1
      else
        j_X8_zone_158 o y8 s1
    else
      some (18, s1)
theorem wj_X8_zone_108 {o : Nat} {x2 : Int} {x3 : Int} {z0 : Int} {s : vS} {out : Int × vS} (h : j_X8_zone_108 o x2 x3 z0 s = some out) (ho : okB o 7) (rx2 : rg x2) (rx3 : rg x3) (rz0 : rg z0) : VW cX8_zone (RX8, (some (vI out.1)), out.2, (some .int), 2, 45, 6, []) (P0 []) s 108 [(0, vO o), (2, vI x2), (3, vI x3)] [vI z0] := by
  unfold j_X8_zone_108 at h
  refine v_istore (L1 := [(4, vI z0), (0, vO o), (2, vI x2), (3, vI x3)]) dX8_zone_108 (by decide) rfl ?_
  refine v_iload dX8_zone_110 0 rfl ?_
  refine v_bipush dX8_zone_112 rfl ?_
  obtain ⟨r4, s1, e2, h⟩ := bd_some h
  have k3 := c_X8_within e2 rz0 (rgl rfl)
  have r5 : rg r4 := k3.1.2.2
  refine v_callS (st := []) k3 (lw_S q1874 q1875 q305 q1876) yk_X8_within ⟨Nat.le_of_ble_eq_true rfl, Nat.le_of_ble_eq_true rfl⟩ trivial ⟨(okB_kp ho (by decide)), trivial⟩ (Nat.le_of_ble_eq_true rfl) rfl dX8_zone_114 ?_
  refine v_if_eq (tgt := 131) dX8_zone_117 r5 (by decide) (fun c6 => ?_) (fun c6 => ?_)
  · rw [if_pos c6] at h
    refine v_bipush dX8_zone_131 rfl ?_
    cases h
    exact v_iret (rgl rfl) dX8_zone_133
  · rw [if_neg c6] at h
    refine v_aload_n dX8_zone_120 1 rfl rfl ?_
    refine v_getI (f := 1) cf8 (okB_ok ho) rfl (by decide) q544 dX8_zone_121 ?_
    refine v_aload_n dX8_zone_124 1 rfl rfl ?_
    refine v_getI (f := 2) cf8 (okB_ok ho) rfl (by decide) q545 dX8_zone_125 ?_
    refine v_icmp_eq (tgt := 134) dX8_zone_128 (gI_rg _ _ _) (gI_rg _ _ _) (by decide) (fun c7 => ?_) (fun c7 => ?_)
    · rw [if_pos c7] at h
      refine v_bipush dX8_zone_134 rfl ?_
      refine v_iload_n dX8_zone_136 3 rfl rfl ?_
      refine v_imul dX8_zone_137 ?_
      refine v_iload dX8_zone_138 0 rfl ?_
      refine v_iadd dX8_zone_140 ?_
      obtain ⟨y8, e9, h⟩ := vl_some h
      rw [← e9]
      have r10 : rg y8 := by rw [e9]; exact w32_rg _
      refine v_istore (L1 := [(5, vI y8), (4, vI z0), (0, vO o), (2, vI x2), (3, vI x3)]) dX8_zone_141 (by decide) rfl ?_
      refine v_aload_n dX8_zone_143 2 rfl rfl ?_
      refine v_iload_n dX8_zone_144 3 rfl rfl ?_
      refine v_bipush dX8_zone_145 rfl ?_
      refine v_icmp_ne (tgt := 156) dX8_zone_147 rx2 (rgl rfl) (by decide) (fun c11 => ?_) (fun c11 => ?_)
      · rw [if_neg c11] at h
        refine v_iload dX8_zone_156 0 rfl ?_
        refine v_sub [] (L1 := []) rfl ?_
        exact wj_X8_zone_158 h ho r10
      · rw [if_pos c11] at h
        refine v_iload dX8_zone_150 0 rfl ?_
        refine v_ineg dX8_zone_152 ?_
        refine v_goto (tgt := 158) dX8_zone_153 (by decide) ?_
        refine v_sub [] (L1 := []) rfl ?_
        exact wj_X8_zone_158 h ho (w32_rg _)
    · rw [if_neg c7] at h
      refine v_bipush dX8_zone_131 rfl ?_
      cases h
      exact v_iret (rgl rfl) dX8_zone_133

def j_X8_zone_103 (o : Nat) (x2 : Int) (x3 : Int) (s : vS) : Option (Int × vS) :=
  bd (f_X8_digits o 2 s) fun r4 s1 =>
  j_X8_zone_108 o x2 x3 r4 s1
theorem wj_X8_zone_103 {o : Nat} {x2 : Int} {x3 : Int} {s : vS} {out : Int × vS} (h : j_X8_zone_103 o x2 x3 s = some out) (ho : okB o 7) (rx2 : rg x2) (rx3 : rg x3) : VW cX8_zone (RX8, (some (vI out.1)), out.2, (some .int), 2, 45, 6, []) (P0 []) s 103 [(0, vO o), (2, vI x2), (3, vI x3)] [] := by
  unfold j_X8_zone_103 at h
  refine v_aload_n dX8_zone_103 0 rfl rfl ?_
  refine v_iconst dX8_zone_104 ?_
  obtain ⟨r4, s1, e2, h⟩ := bd_some h
  have k3 := c_X8_digits e2 ho (rgl rfl)
  have r5 : rg r4 := k3.1.2.2
  refine v_callV (st := []) cf8 (okB_ok ho) k3 (lw_V q1866 q1868 qs105 q305 q1869) rfl yk_X8_digits ⟨Nat.le_of_ble_eq_true rfl, Nat.le_of_ble_eq_true rfl⟩ trivial ⟨(okB_kp ho (by decide)), trivial⟩ (Nat.le_of_ble_eq_true rfl) rfl dX8_zone_105 ?_
  exact wj_X8_zone_108 h ho rx2 rx3 r5

def j_X8_zone_66 (o : Nat) (x1 : Int) (x2 : Int) (s : vS) : Option (Int × vS) :=
  bd (f_X8_digits o 2 s) fun r4 s1 =>
  bd (f_X8_within r4 23 s1) fun r9 s6 =>
  if r9 = 0 then
    some (18, s6)
  else
    if x1 = 0 then
      j_X8_zone_103 o x2 r4 s6
    else
      if (gI s6 o 1) = (gI s6 o 2) then
        j_X8_zone_108 o x2 r4 0 s6
      else
        j_X8_zone_103 o x2 r4 s6
theorem wj_X8_zone_66 {o : Nat} {x1 : Int} {x2 : Int} {s : vS} {out : Int × vS} (h : j_X8_zone_66 o x1 x2 s = some out) (ho : okB o 7) (rx1 : rg x1) (rx2 : rg x2) : VW cX8_zone (RX8, (some (vI out.1)), out.2, (some .int), 2, 45, 6, []) (P0 []) s 66 [(0, vO o), (1, vI x1), (2, vI x2)] [] := by
  unfold j_X8_zone_66 at h
  refine v_aload_n dX8_zone_66 0 rfl rfl ?_
  refine v_iconst dX8_zone_67 ?_
  obtain ⟨r4, s1, e2, h⟩ := bd_some h
  have k3 := c_X8_digits e2 ho (rgl rfl)
  have r5 : rg r4 := k3.1.2.2
  refine v_callV (st := []) cf8 (okB_ok ho) k3 (lw_V q1866 q1868 qs105 q305 q1869) rfl yk_X8_digits ⟨Nat.le_of_ble_eq_true rfl, Nat.le_of_ble_eq_true rfl⟩ trivial ⟨(okB_kp ho (by decide)), trivial⟩ (Nat.le_of_ble_eq_true rfl) rfl dX8_zone_68 ?_
  refine v_istore_n (L1 := [(3, vI r4), (0, vO o), (1, vI x1), (2, vI x2)]) dX8_zone_71 rfl (by decide) rfl ?_
  refine v_iload_n dX8_zone_72 0 rfl rfl ?_
  refine v_bipush dX8_zone_73 rfl ?_
  obtain ⟨r9, s6, e7, h⟩ := bd_some h
  have k8 := c_X8_within e7 r5 (rgl rfl)
  have r10 : rg r9 := k8.1.2.2
  refine v_callS (st := []) k8 (lw_S q1874 q1875 q305 q1876) yk_X8_within ⟨Nat.le_of_ble_eq_true rfl, Nat.le_of_ble_eq_true rfl⟩ trivial ⟨(okB_kp ho (by decide)), trivial⟩ (Nat.le_of_ble_eq_true rfl) rfl dX8_zone_75 ?_
  refine v_if_ne (tgt := 84) dX8_zone_78 r10 (by decide) (fun c11 => ?_) (fun c11 => ?_)
  · rw [if_neg c11] at h
    refine v_iload_n dX8_zone_84 2 rfl rfl ?_
    refine v_if_eq (tgt := 103) dX8_zone_85 rx1 (by decide) (fun c12 => ?_) (fun c12 => ?_)
    · rw [if_pos c12] at h
      refine v_sub [1, 3, 0] (L1 := [(0, vO o), (2, vI x2), (3, vI r4)]) rfl ?_
      exact wj_X8_zone_103 h ho rx2 r5
    · rw [if_neg c12] at h
      refine v_aload_n dX8_zone_88 1 rfl rfl ?_
      refine v_getI (f := 1) cf8 (okB_ok ho) rfl (by decide) q544 dX8_zone_89 ?_
      refine v_aload_n dX8_zone_92 1 rfl rfl ?_
      refine v_getI (f := 2) cf8 (okB_ok ho) rfl (by decide) q545 dX8_zone_93 ?_
      refine v_icmp_ne (tgt := 103) dX8_zone_96 (gI_rg _ _ _) (gI_rg _ _ _) (by decide) (fun c13 => ?_) (fun c13 => ?_)
      · rw [if_neg c13] at h
        refine v_sub [1, 3, 0] (L1 := [(0, vO o), (2, vI x2), (3, vI r4)]) rfl ?_
        exact wj_X8_zone_103 h ho rx2 r5
      · rw [if_pos c13] at h
        refine v_iconst dX8_zone_99 ?_
        refine v_goto (tgt := 108) dX8_zone_100 (by decide) ?_
        refine v_sub [1, 3, 0] (L1 := [(0, vO o), (2, vI x2), (3, vI r4)]) rfl ?_
        exact wj_X8_zone_108 h ho rx2 r5 (rgl rfl)
  · rw [if_pos c11] at h
    refine v_bipush dX8_zone_81 rfl ?_
    cases h
    exact v_iret (rgl rfl) dX8_zone_83

def j_X8_zone_17 (o : Nat) (x1 : Int) (x2 : Int) (s : vS) : Option (Int × vS) :=
  stp (sI s o 1 (w32 ((gI s o 1) + 1))) fun s1 =>
  if x2 = 90 then
    if (gI s1 o 1) = (gI s1 o 2) then
      some (0, s1)
    else
      some (18, s1)
  else
    if x2 = 43 then
      j_X8_zone_66 o x1 x2 s1
    else
      if x2 = 45 then
        j_X8_zone_66 o x1 x2 s1
      else
        some (18, s1)
theorem wj_X8_zone_17 {o : Nat} {x1 : Int} {x2 : Int} {s : vS} {out : Int × vS} (h : j_X8_zone_17 o x1 x2 s = some out) (ho : okB o 7) (rx1 : rg x1) (rx2 : rg x2) : VW cX8_zone (RX8, (some (vI out.1)), out.2, (some .int), 2, 45, 6, []) (P0 []) s 17 [(0, vO o), (1, vI x1), (2, vI x2)] [] := by
  unfold j_X8_zone_17 at h
  refine v_aload_n dX8_zone_17 0 rfl rfl ?_
  refine v_dupO dX8_zone_18 ?_
  refine v_getI (f := 1) cf8 (okB_ok ho) rfl (by decide) q544 dX8_zone_19 ?_
  refine v_iconst dX8_zone_22 ?_
  refine v_iadd dX8_zone_23 ?_
  obtain ⟨s1, e2, h⟩ := stp_some h
  refine v_putI (f := 1) cf8 (okB_ok ho) rfl (by decide) q544 dX8_zone_24 rfl rfl ?_
  rw [← e2]
  refine v_iload_n dX8_zone_27 2 rfl rfl ?_
  refine v_bipush dX8_zone_28 rfl ?_
  refine v_icmp_ne (tgt := 51) dX8_zone_30 rx2 (rgl rfl) (by decide) (fun c3 => ?_) (fun c3 => ?_)
  · rw [if_neg c3] at h
    refine v_iload_n dX8_zone_51 2 rfl rfl ?_
    refine v_bipush dX8_zone_52 rfl ?_
    refine v_icmp_eq (tgt := 66) dX8_zone_54 rx2 (rgl rfl) (by decide) (fun c4 => ?_) (fun c4 => ?_)
    · rw [if_pos c4] at h
      exact wj_X8_zone_66 h ho rx1 rx2
    · rw [if_neg c4] at h
      refine v_iload_n dX8_zone_57 2 rfl rfl ?_
      refine v_bipush dX8_zone_58 rfl ?_
      refine v_icmp_eq (tgt := 66) dX8_zone_60 rx2 (rgl rfl) (by decide) (fun c5 => ?_) (fun c5 => ?_)
      · rw [if_pos c5] at h
        exact wj_X8_zone_66 h ho rx1 rx2
      · rw [if_neg c5] at h
        refine v_bipush dX8_zone_63 rfl ?_
        cases h
        exact v_iret (rgl rfl) dX8_zone_65
  · rw [if_pos c3] at h
    refine v_aload_n dX8_zone_33 0 rfl rfl ?_
    refine v_getI (f := 1) cf8 (okB_ok ho) rfl (by decide) q544 dX8_zone_34 ?_
    refine v_aload_n dX8_zone_37 0 rfl rfl ?_
    refine v_getI (f := 2) cf8 (okB_ok ho) rfl (by decide) q545 dX8_zone_38 ?_
    refine v_icmp_ne (tgt := 48) dX8_zone_41 (gI_rg _ _ _) (gI_rg _ _ _) (by decide) (fun c6 => ?_) (fun c6 => ?_)
    · rw [if_neg c6] at h
      refine v_bipush dX8_zone_48 rfl ?_
      cases h
      exact v_iret (rgl rfl) dX8_zone_50
    · rw [if_pos c6] at h
      refine v_iconst dX8_zone_44 ?_
      refine v_goto (tgt := 50) dX8_zone_45 (by decide) ?_
      cases h
      exact v_iret (rgl rfl) dX8_zone_50

def f_X8_zone (o : Nat) (x1 : Int) (s : vS) : Option (Int × vS) :=
  bd (f_X8_here o s) fun r4 s1 =>
  if r4 = (-1) then
    if x1 = 0 then
      j_X8_zone_17 o x1 r4 s1
    else
      some (19, s1)
  else
    j_X8_zone_17 o x1 r4 s1
theorem yk_X8_zone : yOk yX8_zone 1 := ⟨by decide, by decide, by decide +kernel⟩
theorem c_X8_zone {o : Nat} {x1 : Int} {s : vS} {out : Int × vS} (h : f_X8_zone o x1 s = some out) (ho : okB o 7) (rx1 : rg x1) : VC yX8_zone cX8_zone 6 (some .int) 2 45 [vO o, vI x1] s (some (vI out.1)) out.2 [] := by
  unfold f_X8_zone at h
  refine VC.of RX8 (by decide) rfl (Nat.le_of_ble_eq_true rfl) ?_
  show VW cX8_zone (RX8, (some (vI out.1)), out.2, (some .int), 2, 45, 6, []) (P0 []) s 0 [(0, vO o), (1, vI x1)] []
  refine v_aload_n dX8_zone_0 0 rfl rfl ?_
  obtain ⟨r4, s1, e2, h⟩ := bd_some h
  have k3 := c_X8_here e2 ho
  have r5 : rg r4 := k3.1.2.2
  refine v_callV (st := []) cf8 (okB_ok ho) k3 (lw_V q1886 q1888 qs108 q305 q1889) rfl yk_X8_here ⟨Nat.le_of_ble_eq_true rfl, Nat.le_of_ble_eq_true rfl⟩ trivial ⟨(okB_kp ho (by decide)), trivial⟩ (Nat.le_of_ble_eq_true rfl) rfl dX8_zone_1 ?_
  refine v_istore_n (L1 := [(2, vI r4), (0, vO o), (1, vI x1)]) dX8_zone_4 rfl (by decide) rfl ?_
  refine v_iload_n dX8_zone_5 0 rfl rfl ?_
  refine v_iconst dX8_zone_6 ?_
  refine v_icmp_ne (tgt := 17) dX8_zone_7 r5 (rgl rfl) (by decide) (fun c6 => ?_) (fun c6 => ?_)
  · rw [if_neg c6] at h
    refine v_sub [1, 2, 0] (L1 := [(0, vO o), (1, vI x1), (2, vI r4)]) rfl ?_
    exact wj_X8_zone_17 h ho rx1 r5
  · rw [if_pos c6] at h
    refine v_iload_n dX8_zone_10 2 rfl rfl ?_
    refine v_if_eq (tgt := 17) dX8_zone_11 rx1 (by decide) (fun c7 => ?_) (fun c7 => ?_)
    · rw [if_pos c7] at h
      refine v_sub [1, 2, 0] (L1 := [(0, vO o), (1, vI x1), (2, vI r4)]) rfl ?_
      exact wj_X8_zone_17 h ho rx1 r5
    · rw [if_neg c7] at h
      refine v_bipush dX8_zone_14 rfl ?_
      cases h
      exact v_iret (rgl rfl) dX8_zone_16

def f_X8_two (p0 : Nat) (x1 : Int) (s : vS) : Option (vS) :=
  bdv (f_X2_add p0 (w32 (48 + (d32 x1 10))) s) fun s1 =>
  bdv (f_X2_add p0 (w32 (48 + (m32 x1 10))) s1) fun s4 =>
  some s4
theorem yk_X8_two : yOk yX8_two 2 := ⟨by decide, by decide, by decide +kernel⟩
theorem c_X8_two {p0 : Nat} {x1 : Int} {s : vS} {out : vS} (h : f_X8_two p0 x1 s = some out) (hp0 : okB p0 1) (rx1 : rg x1) : VC yX8_two cX8_two 2 none 3 70 [vO p0, vI x1] s none out [] := by
  unfold f_X8_two at h
  refine VC.of RX8 (by decide) rfl (Nat.le_of_ble_eq_true rfl) ?_
  show VW cX8_two (RX8, none, out, none, 3, 70, 2, []) (P0 []) s 0 [(0, vO p0), (1, vI x1)] []
  refine v_aload_n dX8_two_0 0 rfl rfl ?_
  refine v_bipush dX8_two_1 rfl ?_
  refine v_iload_n dX8_two_3 1 rfl rfl ?_
  refine v_bipush dX8_two_4 rfl ?_
  refine v_idiv dX8_two_6 (rgl rfl) (by decide) ?_
  refine v_iadd dX8_two_7 ?_
  obtain ⟨s1, e2, h⟩ := bdv_some h
  have k3 := c_X2_add e2 hp0 (w32_rg _)
  refine v_callV (st := []) cf2 (okB_ok hp0) k3 (lw_V q1890 q1003 q1004 q299 q1005) rfl yk_X2_add ⟨Nat.le_of_ble_eq_true rfl, Nat.le_of_ble_eq_true rfl⟩ trivial ⟨(okB_kp hp0 (by decide)), trivial⟩ (Nat.le_of_ble_eq_true rfl) rfl dX8_two_8 ?_
  refine v_aload_n dX8_two_11 0 rfl rfl ?_
  refine v_bipush dX8_two_12 rfl ?_
  refine v_iload_n dX8_two_14 1 rfl rfl ?_
  refine v_bipush dX8_two_15 rfl ?_
  refine v_irem dX8_two_17 (rgl rfl) (by decide) ?_
  refine v_iadd dX8_two_18 ?_
  obtain ⟨s4, e5, h⟩ := bdv_some h
  have k6 := c_X2_add e5 hp0 (w32_rg _)
  refine v_callV (st := []) cf2 (okB_ok hp0) k6 (lw_V q1890 q1003 q1004 q299 q1005) rfl yk_X2_add ⟨Nat.le_of_ble_eq_true rfl, Nat.le_of_ble_eq_true rfl⟩ trivial ⟨(okB_kp hp0 (by decide)), trivial⟩ (Nat.le_of_ble_eq_true rfl) rfl dX8_two_19 ?_
  cases h
  exact v_vret dX8_two_22

def j_X8_read_229 (o : Nat) (p1 : Nat) (p5 : Nat) (s : vS) : Option (Int × vS) :=
  bdv (f_X2_add p5 90 s) fun s1 =>
  some (0, s1)
theorem wj_X8_read_229 {o : Nat} {p1 : Nat} {p5 : Nat} {s : vS} {out : Int × vS} (h : j_X8_read_229 o p1 p5 s = some out) (ho : okB o 7) (hp1 : okB p1 1) (hp5 : okB p5 1) : VW cX8_read (RX8, (some (vI out.1)), out.2, (some .int), 4, 92, 8, []) (P0 []) s 229 [(5, vO p5)] [] := by
  unfold j_X8_read_229 at h
  refine v_aload dX8_read_229 0 rfl ?_
  refine v_bipush dX8_read_231 rfl ?_
  obtain ⟨s1, e2, h⟩ := bdv_some h
  have k3 := c_X2_add e2 hp5 (rgl rfl)
  refine v_callV (st := []) cf2 (okB_ok hp5) k3 (lw_V q1890 q1003 q1004 q299 q1005) rfl yk_X2_add ⟨Nat.le_of_ble_eq_true rfl, Nat.le_of_ble_eq_true rfl⟩ trivial ⟨(okB_kp hp5 (by decide)), trivial⟩ (Nat.le_of_ble_eq_true rfl) rfl dX8_read_233 ?_
  refine v_iconst dX8_read_236 ?_
  cases h
  exact v_iret (rgl rfl) dX8_read_237

def E_X8_read_194 (o : Nat) (p1 : Nat) (p5 : Nat) (rv : Option vA) (σo : vS) (q : vS) : Prop := ∀ (s' : vS), q = s' → VW cX8_read (RX8, rv, σo, (some .int), 4, 92, 8, []) (P0 []) s' 229 [(5, vO p5)] []
def l_X8_read_194 (o : Nat) (p1 : Nat) (p5 : Nat) : Nat → Int → vS → Option (vS)
  | 0, _, _ => none
  | n + 1, x7, s =>
    bd (f_X2_size (o + 1) s) fun r4 s1 =>
    if r4 ≤ x7 then
      some s1
    else
      bd (f_X2_at (o + 1) x7 s1) fun r10 s7 =>
      bdv (f_X2_add p5 (w32 (48 + r10)) s7) fun s12 =>
      vl (w32 (x7 + 1)) fun y15 =>
      l_X8_read_194 o p1 p5 n y15 s12
theorem wl_X8_read_194 (o : Nat) (p1 : Nat) (p5 : Nat) {rv : Option vA} {σo : vS} (ho : okB o 7) (hp1 : okB p1 1) (hp5 : okB p5 1) : ∀ (n : Nat) (x7 : Int) (s : vS) (q : vS), l_X8_read_194 o p1 p5 n x7 s = some q → rg x7 → E_X8_read_194 o p1 p5 rv σo q → VW cX8_read (RX8, rv, σo, (some .int), 4, 92, 8, []) (P0 []) s 194 [(0, vO o), (5, vO p5), (7, vI x7)] [] := by
  intro n
  induction n with
  | zero => intro x7 s q h; cases h
  | succ n ih =>
    intro x7 s q h rx7 hE
    unfold l_X8_read_194 at h
    refine v_iload dX8_read_194 2 rfl ?_
    refine v_aload_n dX8_read_196 0 rfl rfl ?_
    refine v_getS (f := 9) (t := o + 1) cf8 (okB_ok ho) rfl rfl rfl (by decide) q552 dX8_read_197 ?_
    obtain ⟨r4, s1, e2, h⟩ := bd_some h
    have k3 := c_X2_size e2 (ch_7_9 ho)
    have r5 : rg r4 := k3.1.2.2
    refine v_callV (st := [vI x7]) cf2 (okB_ok (ch_7_9 ho)) k3 (lw_V q1895 q918 q919 q299 q920) rfl yk_X2_size ⟨Nat.le_of_ble_eq_true rfl, Nat.le_of_ble_eq_true rfl⟩ trivial ⟨(okB_kp ho (by decide)), (okB_kp hp5 (by decide)), trivial⟩ (Nat.le_of_ble_eq_true rfl) rfl dX8_read_200 ?_
    refine v_icmp_ge (tgt := 229) dX8_read_203 rx7 r5 (by decide) (fun c6 => ?_) (fun c6 => ?_)
    · rw [if_pos c6] at h
      cases h
      refine v_sub [1] (L1 := [(5, vO p5)]) rfl ?_
      exact hE _ rfl 
    · rw [if_neg c6] at h
      refine v_aload dX8_read_206 1 rfl ?_
      refine v_bipush dX8_read_208 rfl ?_
      refine v_aload_n dX8_read_210 0 rfl rfl ?_
      refine v_getS (f := 9) (t := o + 1) cf8 (okB_ok ho) rfl rfl rfl (by decide) q552 dX8_read_211 ?_
      refine v_iload dX8_read_214 2 rfl ?_
      obtain ⟨r10, s7, e8, h⟩ := bd_some h
      have k9 := c_X2_at e8 (ch_7_9 ho) rx7
      have r11 : rg r10 := k9.1.2.2
      refine v_callV (st := [vI 48, vO p5]) cf2 (okB_ok (ch_7_9 ho)) k9 (lw_V q1870 q1072 q1073 q299 q1074) rfl yk_X2_at ⟨Nat.le_of_ble_eq_true rfl, Nat.le_of_ble_eq_true rfl⟩ ⟨(okB_kp hp5 (by decide)), trivial⟩ ⟨(okB_kp ho (by decide)), (okB_kp hp5 (by decide)), trivial⟩ (Nat.le_of_ble_eq_true rfl) rfl dX8_read_216 ?_
      refine v_iadd dX8_read_219 ?_
      obtain ⟨s12, e13, h⟩ := bdv_some h
      have k14 := c_X2_add e13 hp5 (w32_rg _)
      refine v_callV (st := []) cf2 (okB_ok hp5) k14 (lw_V q1890 q1003 q1004 q299 q1005) rfl yk_X2_add ⟨Nat.le_of_ble_eq_true rfl, Nat.le_of_ble_eq_true rfl⟩ trivial ⟨(okB_kp ho (by decide)), (okB_kp hp5 (by decide)), trivial⟩ (Nat.le_of_ble_eq_true rfl) rfl dX8_read_220 ?_
      obtain ⟨y15, e16, h⟩ := vl_some h
      refine v_iinc (L1 := [(7, vI (w32 (x7 + 1))), (0, vO o), (5, vO p5)]) dX8_read_223 2 rfl (by decide) rfl ?_
      rw [← e16]
      have r17 : rg y15 := by rw [e16]; exact w32_rg _
      refine v_goto (tgt := 194) dX8_read_226 (by decide) ?_
      refine v_sub [1, 2, 0] (L1 := [(0, vO o), (5, vO p5), (7, vI y15)]) rfl ?_
      exact ih y15 s12 _ h r17 hE

def j_X8_read_117 (o : Nat) (p1 : Nat) (p5 : Nat) (s : vS) : Option (Int × vS) :=
  bdv (f_X8_two p5 (m32 (gI s o 3) 100) s) fun s1 =>
  bdv (f_X8_two p5 (gI s1 o 4) s1) fun s4 =>
  bdv (f_X8_two p5 (gI s4 o 5) s4) fun s7 =>
  bdv (f_X8_two p5 (gI s7 o 6) s7) fun s10 =>
  bdv (f_X8_two p5 (gI s10 o 7) s10) fun s13 =>
  bdv (f_X8_two p5 (gI s13 o 8) s13) fun s16 =>
  bd (f_X2_size (o + 1) s16) fun r22 s19 =>
  if r22 ≤ 0 then
    j_X8_read_229 o p1 p5 s19
  else
    bdv (f_X2_add p5 46 s19) fun s25 =>
    lq_0 (l_X8_read_194 o p1 p5 FU 0 s25) fun s28 =>
    j_X8_read_229 o p1 p5 s28
theorem wj_X8_read_117 {o : Nat} {p1 : Nat} {p5 : Nat} {s : vS} {out : Int × vS} (h : j_X8_read_117 o p1 p5 s = some out) (ho : okB o 7) (hp1 : okB p1 1) (hp5 : okB p5 1) : VW cX8_read (RX8, (some (vI out.1)), out.2, (some .int), 4, 92, 8, []) (P0 []) s 117 [(0, vO o), (5, vO p5)] [] := by
  unfold j_X8_read_117 at h
  refine v_aload dX8_read_117 1 rfl ?_
  refine v_aload_n dX8_read_119 0 rfl rfl ?_
  refine v_getI (f := 3) cf8 (okB_ok ho) rfl (by decide) q546 dX8_read_120 ?_
  refine v_bipush dX8_read_123 rfl ?_
  refine v_irem dX8_read_125 (rgl rfl) (by decide) ?_
  obtain ⟨s1, e2, h⟩ := bdv_some h
  have k3 := c_X8_two e2 hp5 (m32_rg _ _)
  refine v_callS (st := []) k3 (lw_S q1906 q1907 q305 q1908) yk_X8_two ⟨Nat.le_of_ble_eq_true rfl, Nat.le_of_ble_eq_true rfl⟩ trivial ⟨(okB_kp ho (by decide)), (okB_kp hp5 (by decide)), trivial⟩ (Nat.le_of_ble_eq_true rfl) rfl dX8_read_126 ?_
  refine v_aload dX8_read_129 1 rfl ?_
  refine v_aload_n dX8_read_131 0 rfl rfl ?_
  refine v_getI (f := 4) cf8 (okB_ok ho) rfl (by decide) q547 dX8_read_132 ?_
  obtain ⟨s4, e5, h⟩ := bdv_some h
  have k6 := c_X8_two e5 hp5 (gI_rg _ _ _)
  refine v_callS (st := []) k6 (lw_S q1906 q1907 q305 q1908) yk_X8_two ⟨Nat.le_of_ble_eq_true rfl, Nat.le_of_ble_eq_true rfl⟩ trivial ⟨(okB_kp ho (by decide)), (okB_kp hp5 (by decide)), trivial⟩ (Nat.le_of_ble_eq_true rfl) rfl dX8_read_135 ?_
  refine v_aload dX8_read_138 1 rfl ?_
  refine v_aload_n dX8_read_140 0 rfl rfl ?_
  refine v_getI (f := 5) cf8 (okB_ok ho) rfl (by decide) q548 dX8_read_141 ?_
  obtain ⟨s7, e8, h⟩ := bdv_some h
  have k9 := c_X8_two e8 hp5 (gI_rg _ _ _)
  refine v_callS (st := []) k9 (lw_S q1906 q1907 q305 q1908) yk_X8_two ⟨Nat.le_of_ble_eq_true rfl, Nat.le_of_ble_eq_true rfl⟩ trivial ⟨(okB_kp ho (by decide)), (okB_kp hp5 (by decide)), trivial⟩ (Nat.le_of_ble_eq_true rfl) rfl dX8_read_144 ?_
  refine v_aload dX8_read_147 1 rfl ?_
  refine v_aload_n dX8_read_149 0 rfl rfl ?_
  refine v_getI (f := 6) cf8 (okB_ok ho) rfl (by decide) q549 dX8_read_150 ?_
  obtain ⟨s10, e11, h⟩ := bdv_some h
  have k12 := c_X8_two e11 hp5 (gI_rg _ _ _)
  refine v_callS (st := []) k12 (lw_S q1906 q1907 q305 q1908) yk_X8_two ⟨Nat.le_of_ble_eq_true rfl, Nat.le_of_ble_eq_true rfl⟩ trivial ⟨(okB_kp ho (by decide)), (okB_kp hp5 (by decide)), trivial⟩ (Nat.le_of_ble_eq_true rfl) rfl dX8_read_153 ?_
  refine v_aload dX8_read_156 1 rfl ?_
  refine v_aload_n dX8_read_158 0 rfl rfl ?_
  refine v_getI (f := 7) cf8 (okB_ok ho) rfl (by decide) q550 dX8_read_159 ?_
  obtain ⟨s13, e14, h⟩ := bdv_some h
  have k15 := c_X8_two e14 hp5 (gI_rg _ _ _)
  refine v_callS (st := []) k15 (lw_S q1906 q1907 q305 q1908) yk_X8_two ⟨Nat.le_of_ble_eq_true rfl, Nat.le_of_ble_eq_true rfl⟩ trivial ⟨(okB_kp ho (by decide)), (okB_kp hp5 (by decide)), trivial⟩ (Nat.le_of_ble_eq_true rfl) rfl dX8_read_162 ?_
  refine v_aload dX8_read_165 1 rfl ?_
  refine v_aload_n dX8_read_167 0 rfl rfl ?_
  refine v_getI (f := 8) cf8 (okB_ok ho) rfl (by decide) q551 dX8_read_168 ?_
  obtain ⟨s16, e17, h⟩ := bdv_some h
  have k18 := c_X8_two e17 hp5 (gI_rg _ _ _)
  refine v_callS (st := []) k18 (lw_S q1906 q1907 q305 q1908) yk_X8_two ⟨Nat.le_of_ble_eq_true rfl, Nat.le_of_ble_eq_true rfl⟩ trivial ⟨(okB_kp ho (by decide)), (okB_kp hp5 (by decide)), trivial⟩ (Nat.le_of_ble_eq_true rfl) rfl dX8_read_171 ?_
  refine v_aload_n dX8_read_174 0 rfl rfl ?_
  refine v_getS (f := 9) (t := o + 1) cf8 (okB_ok ho) rfl rfl rfl (by decide) q552 dX8_read_175 ?_
  obtain ⟨r22, s19, e20, h⟩ := bd_some h
  have k21 := c_X2_size e20 (ch_7_9 ho)
  have r23 : rg r22 := k21.1.2.2
  refine v_callV (st := []) cf2 (okB_ok (ch_7_9 ho)) k21 (lw_V q1895 q918 q919 q299 q920) rfl yk_X2_size ⟨Nat.le_of_ble_eq_true rfl, Nat.le_of_ble_eq_true rfl⟩ trivial ⟨(okB_kp ho (by decide)), (okB_kp hp5 (by decide)), trivial⟩ (Nat.le_of_ble_eq_true rfl) rfl dX8_read_178 ?_
  refine v_if_le (tgt := 229) dX8_read_181 r23 (by decide) (fun c24 => ?_) (fun c24 => ?_)
  · rw [if_pos c24] at h
    refine v_sub [1] (L1 := [(5, vO p5)]) rfl ?_
    exact wj_X8_read_229 h ho hp1 hp5
  · rw [if_neg c24] at h
    refine v_aload dX8_read_184 1 rfl ?_
    refine v_bipush dX8_read_186 rfl ?_
    obtain ⟨s25, e26, h⟩ := bdv_some h
    have k27 := c_X2_add e26 hp5 (rgl rfl)
    refine v_callV (st := []) cf2 (okB_ok hp5) k27 (lw_V q1890 q1003 q1004 q299 q1005) rfl yk_X2_add ⟨Nat.le_of_ble_eq_true rfl, Nat.le_of_ble_eq_true rfl⟩ trivial ⟨(okB_kp ho (by decide)), (okB_kp hp5 (by decide)), trivial⟩ (Nat.le_of_ble_eq_true rfl) rfl dX8_read_188 ?_
    refine v_iconst dX8_read_191 ?_
    refine v_istore (L1 := [(7, vI 0), (0, vO o), (5, vO p5)]) dX8_read_192 (by decide) rfl ?_
    refine v_sub [1, 2, 0] (L1 := [(0, vO o), (5, vO p5), (7, vI 0)]) rfl ?_
    obtain ⟨s28, e29, h⟩ := lq_0_some h
    refine wl_X8_read_194 o p1 p5 ho hp1 hp5 FU 0 s25 _ e29 (rgl rfl) ?_
    unfold E_X8_read_194
    intro s28' z_
    cases z_
    exact wj_X8_read_229 h ho hp1 hp5

def j_X8_read_100 (o : Nat) (p1 : Nat) (p5 : Nat) (x4 : Int) (s : vS) : Option (Int × vS) :=
  if x4 = 0 then
    j_X8_read_117 o p1 p5 s
  else
    bdv (f_X8_two p5 (d32 (gI s o 3) 100) s) fun s2 =>
    j_X8_read_117 o p1 p5 s2
theorem wj_X8_read_100 {o : Nat} {p1 : Nat} {p5 : Nat} {x4 : Int} {s : vS} {out : Int × vS} (h : j_X8_read_100 o p1 p5 x4 s = some out) (ho : okB o 7) (hp1 : okB p1 1) (hp5 : okB p5 1) (rx4 : rg x4) : VW cX8_read (RX8, (some (vI out.1)), out.2, (some .int), 4, 92, 8, []) (P0 []) s 100 [(0, vO o), (4, vI x4), (5, vO p5)] [] := by
  unfold j_X8_read_100 at h
  refine v_iload dX8_read_100 1 rfl ?_
  refine v_if_eq (tgt := 117) dX8_read_102 rx4 (by decide) (fun c1 => ?_) (fun c1 => ?_)
  · rw [if_pos c1] at h
    refine v_sub [0, 2] (L1 := [(0, vO o), (5, vO p5)]) rfl ?_
    exact wj_X8_read_117 h ho hp1 hp5
  · rw [if_neg c1] at h
    refine v_aload dX8_read_105 2 rfl ?_
    refine v_aload_n dX8_read_107 0 rfl rfl ?_
    refine v_getI (f := 3) cf8 (okB_ok ho) rfl (by decide) q546 dX8_read_108 ?_
    refine v_bipush dX8_read_111 rfl ?_
    refine v_idiv dX8_read_113 (rgl rfl) (by decide) ?_
    obtain ⟨s2, e3, h⟩ := bdv_some h
    have k4 := c_X8_two e3 hp5 (d32_rg _ _)
    refine v_callS (st := []) k4 (lw_S q1906 q1907 q305 q1908) yk_X8_two ⟨Nat.le_of_ble_eq_true rfl, Nat.le_of_ble_eq_true rfl⟩ trivial ⟨(okB_kp ho (by decide)), (okB_kp hp5 (by decide)), trivial⟩ (Nat.le_of_ble_eq_true rfl) rfl dX8_read_114 ?_
    refine v_sub [0, 2] (L1 := [(0, vO o), (5, vO p5)]) rfl ?_
    exact wj_X8_read_117 h ho hp1 hp5

def f_X8_read (o : Nat) (p1 : Nat) (x2 : Int) (x3 : Int) (x4 : Int) (p5 : Nat) (s : vS) : Option (Int × vS) :=
  stp (sR s o 0 p1) fun s1 =>
  stp (sI s1 o 1 x2) fun s3 =>
  stp (sI s3 o 2 x3) fun s5 =>
  bd (f_X8_date o x4 s5) fun r10 s7 =>
  if r10 = 0 then
    some (18, s7)
  else
    bd (f_X8_clock o x4 s7) fun r16 s13 =>
    if r16 = 0 then
      some (18, s13)
    else
      bd (f_X8_zone o x4 s13) fun r22 s19 =>
      if r22 = 0 then
        if x4 = 0 then
          if (gI s19 o 3) < 1950 then
            some (20, s19)
          else
            if (gI s19 o 3) ≤ 2049 then
              j_X8_read_100 o p1 p5 x4 s19
            else
              some (20, s19)
        else
          if (gI s19 o 3) < 0 then
            some (20, s19)
          else
            if (gI s19 o 3) ≤ 9999 then
              j_X8_read_100 o p1 p5 x4 s19
            else
              some (20, s19)
      else
        some (r22, s19)
theorem yk_X8_read : yOk yX8_read 5 := ⟨by decide, by decide, by decide +kernel⟩
theorem c_X8_read {o : Nat} {p1 : Nat} {x2 : Int} {x3 : Int} {x4 : Int} {p5 : Nat} {s : vS} {out : Int × vS} (h : f_X8_read o p1 x2 x3 x4 p5 s = some out) (ho : okB o 7) (hp1 : okB p1 1) (hp5 : okB p5 1) (rx2 : rg x2) (rx3 : rg x3) (rx4 : rg x4) : VC yX8_read cX8_read 8 (some .int) 4 92 [vO o, vO p1, vI x2, vI x3, vI x4, vO p5] s (some (vI out.1)) out.2 [] := by
  unfold f_X8_read at h
  refine VC.of RX8 (by decide) rfl (Nat.le_of_ble_eq_true rfl) ?_
  show VW cX8_read (RX8, (some (vI out.1)), out.2, (some .int), 4, 92, 8, []) (P0 []) s 0 [(0, vO o), (1, vO p1), (2, vI x2), (3, vI x3), (4, vI x4), (5, vO p5)] []
  refine v_aload_n dX8_read_0 0 rfl rfl ?_
  refine v_aload_n dX8_read_1 1 rfl rfl ?_
  obtain ⟨s1, e2, h⟩ := stp_some h
  refine v_putR (f := 0) cf8 (okB_ok ho) rfl (okB_R hp1 (by decide) (by decide)) (by decide) q543 dX8_read_2 rfl rfl ?_
  rw [← e2]
  refine v_aload_n dX8_read_5 0 rfl rfl ?_
  refine v_iload_n dX8_read_6 2 rfl rfl ?_
  obtain ⟨s3, e4, h⟩ := stp_some h
  refine v_putI (f := 1) cf8 (okB_ok ho) rfl (by decide) q544 dX8_read_7 rfl rfl ?_
  rw [← e4]
  refine v_aload_n dX8_read_10 0 rfl rfl ?_
  refine v_iload_n dX8_read_11 3 rfl rfl ?_
  obtain ⟨s5, e6, h⟩ := stp_some h
  refine v_putI (f := 2) cf8 (okB_ok ho) rfl (by decide) q545 dX8_read_12 rfl rfl ?_
  rw [← e6]
  refine v_aload_n dX8_read_15 0 rfl rfl ?_
  refine v_iload dX8_read_16 4 rfl ?_
  obtain ⟨r10, s7, e8, h⟩ := bd_some h
  have k9 := c_X8_date e8 ho rx4
  have r11 : rg r10 := k9.1.2.2
  refine v_callV (st := []) cf8 (okB_ok ho) k9 (lw_V q1862 q1864 qs104 q305 q1865) rfl yk_X8_date ⟨Nat.le_of_ble_eq_true rfl, Nat.le_of_ble_eq_true rfl⟩ trivial ⟨(okB_kp ho (by decide)), (okB_kp hp1 (by decide)), (okB_kp hp5 (by decide)), trivial⟩ (Nat.le_of_ble_eq_true rfl) rfl dX8_read_18 ?_
  refine v_if_eq (tgt := 33) dX8_read_21 r11 (by decide) (fun c12 => ?_) (fun c12 => ?_)
  · rw [if_pos c12] at h
    refine v_bipush dX8_read_33 rfl ?_
    cases h
    exact v_iret (rgl rfl) dX8_read_35
  · rw [if_neg c12] at h
    refine v_aload_n dX8_read_24 0 rfl rfl ?_
    refine v_iload dX8_read_25 4 rfl ?_
    obtain ⟨r16, s13, e14, h⟩ := bd_some h
    have k15 := c_X8_clock e14 ho rx4
    have r17 : rg r16 := k15.1.2.2
    refine v_callV (st := []) cf8 (okB_ok ho) k15 (lw_V q1877 q1879 qs106 q305 q1880) rfl yk_X8_clock ⟨Nat.le_of_ble_eq_true rfl, Nat.le_of_ble_eq_true rfl⟩ trivial ⟨(okB_kp ho (by decide)), (okB_kp hp1 (by decide)), (okB_kp hp5 (by decide)), trivial⟩ (Nat.le_of_ble_eq_true rfl) rfl dX8_read_27 ?_
    refine v_if_ne (tgt := 36) dX8_read_30 r17 (by decide) (fun c18 => ?_) (fun c18 => ?_)
    · rw [if_neg c18] at h
      refine v_aload_n dX8_read_36 0 rfl rfl ?_
      refine v_iload dX8_read_37 4 rfl ?_
      obtain ⟨r22, s19, e20, h⟩ := bd_some h
      have k21 := c_X8_zone e20 ho rx4
      have r23 : rg r22 := k21.1.2.2
      refine v_callV (st := []) cf8 (okB_ok ho) k21 (lw_V q1898 q1900 qs110 q305 q1901) rfl yk_X8_zone ⟨Nat.le_of_ble_eq_true rfl, Nat.le_of_ble_eq_true rfl⟩ trivial ⟨(okB_kp ho (by decide)), (okB_kp hp1 (by decide)), (okB_kp hp5 (by decide)), trivial⟩ (Nat.le_of_ble_eq_true rfl) rfl dX8_read_39 ?_
      refine v_istore (L1 := [(6, vI r22), (0, vO o), (1, vO p1), (2, vI x2), (3, vI x3), (4, vI x4), (5, vO p5)]) dX8_read_42 (by decide) rfl ?_
      refine v_iload dX8_read_44 0 rfl ?_
      refine v_if_eq (tgt := 52) dX8_read_46 r23 (by decide) (fun c24 => ?_) (fun c24 => ?_)
      · rw [if_pos c24] at h
        refine v_iload dX8_read_52 5 rfl ?_
        refine v_if_eq (tgt := 77) dX8_read_54 rx4 (by decide) (fun c25 => ?_) (fun c25 => ?_)
        · rw [if_pos c25] at h
          refine v_aload_n dX8_read_77 1 rfl rfl ?_
          refine v_getI (f := 3) cf8 (okB_ok ho) rfl (by decide) q546 dX8_read_78 ?_
          refine v_sipush dX8_read_81 rfl ?_
          refine v_icmp_lt (tgt := 97) dX8_read_84 (gI_rg _ _ _) (rgl rfl) (by decide) (fun c26 => ?_) (fun c26 => ?_)
          · rw [if_pos c26] at h
            refine v_bipush dX8_read_97 rfl ?_
            cases h
            exact v_iret (rgl rfl) dX8_read_99
          · rw [if_neg c26] at h
            refine v_aload_n dX8_read_87 1 rfl rfl ?_
            refine v_getI (f := 3) cf8 (okB_ok ho) rfl (by decide) q546 dX8_read_88 ?_
            refine v_sipush dX8_read_91 rfl ?_
            refine v_icmp_le (tgt := 100) dX8_read_94 (gI_rg _ _ _) (rgl rfl) (by decide) (fun c27 => ?_) (fun c27 => ?_)
            · rw [if_pos c27] at h
              refine v_sub [1, 5, 6] (L1 := [(0, vO o), (4, vI x4), (5, vO p5)]) rfl ?_
              exact wj_X8_read_100 h ho hp1 hp5 rx4
            · rw [if_neg c27] at h
              refine v_bipush dX8_read_97 rfl ?_
              cases h
              exact v_iret (rgl rfl) dX8_read_99
        · rw [if_neg c25] at h
          refine v_aload_n dX8_read_57 1 rfl rfl ?_
          refine v_getI (f := 3) cf8 (okB_ok ho) rfl (by decide) q546 dX8_read_58 ?_
          refine v_if_lt (tgt := 97) dX8_read_61 (gI_rg _ _ _) (by decide) (fun c28 => ?_) (fun c28 => ?_)
          · rw [if_pos c28] at h
            refine v_bipush dX8_read_97 rfl ?_
            cases h
            exact v_iret (rgl rfl) dX8_read_99
          · rw [if_neg c28] at h
            refine v_aload_n dX8_read_64 1 rfl rfl ?_
            refine v_getI (f := 3) cf8 (okB_ok ho) rfl (by decide) q546 dX8_read_65 ?_
            refine v_sipush dX8_read_68 rfl ?_
            refine v_icmp_le (tgt := 100) dX8_read_71 (gI_rg _ _ _) (rgl rfl) (by decide) (fun c29 => ?_) (fun c29 => ?_)
            · rw [if_pos c29] at h
              refine v_sub [1, 5, 6] (L1 := [(0, vO o), (4, vI x4), (5, vO p5)]) rfl ?_
              exact wj_X8_read_100 h ho hp1 hp5 rx4
            · rw [if_neg c29] at h
              refine v_goto (tgt := 97) dX8_read_74 (by decide) ?_
              refine v_bipush dX8_read_97 rfl ?_
              cases h
              exact v_iret (rgl rfl) dX8_read_99
      · rw [if_neg c24] at h
        refine v_iload dX8_read_49 0 rfl ?_
        cases h
        exact v_iret r23 dX8_read_51
    · rw [if_pos c18] at h
      refine v_bipush dX8_read_33 rfl ?_
      cases h
      exact v_iret (rgl rfl) dX8_read_35

def E_X11_bytesAt_76 (p0 : Nat) (x4 : Int) (rv : Option vA) (σo : vS) (q : (Int × vS) ⊕ (Int × vS)) : Prop := (∀ (x5' : Int) (s' : vS), q = .inl (x5', s') → rg x5' → VW cX11_bytesAt (RX11, rv, σo, (some .int), 1, 21, 7, []) (P0 []) s' 125 [(4, vI x4), (5, vI x5')] []) ∧ (∀ (v : Int) (s' : vS), q = .inr (v, s') → rv = some (vI v) ∧ σo = s')
def l_X11_bytesAt_76 (p0 : Nat) : Nat → Int → Int → Int → Int → vS → Option ((Int × vS) ⊕ (Int × vS))
  | 0, _, _, _, _, _ => none
  | n + 1, x1, x4, x5, x6, s =>
    if x4 ≤ x6 then
      some (.inl (x5, s))
    else
      bd (f_X2_at p0 (w32 (x1 + x6)) s) fun r5 s2 =>
      if (shr32 r5 6) = 2 then
        bd (f_X2_at p0 (w32 (x1 + x6)) s2) fun r11 s8 =>
        vl (or32 (shl32 x5 6) (and32 r11 63)) fun y13 =>
        vl (w32 (x6 + 1)) fun y16 =>
        l_X11_bytesAt_76 p0 n x1 x4 y13 y16 s8
      else
        some (.inr (0, s2))
theorem wl_X11_bytesAt_76 (p0 : Nat) {x1 : Int} {x4 : Int} {rv : Option vA} {σo : vS} (hp0 : okB p0 1) (rx1 : rg x1) (rx4 : rg x4) : ∀ (n : Nat) (x5 : Int) (x6 : Int) (s : vS) (q : (Int × vS) ⊕ (Int × vS)), l_X11_bytesAt_76 p0 n x1 x4 x5 x6 s = some q → rg x5 → rg x6 → E_X11_bytesAt_76 p0 x4 rv σo q → VW cX11_bytesAt (RX11, rv, σo, (some .int), 1, 21, 7, []) (P0 []) s 76 [(0, vO p0), (1, vI x1), (4, vI x4), (5, vI x5), (6, vI x6)] [] := by
  intro n
  induction n with
  | zero => intro x5 x6 s q h; cases h
  | succ n ih =>
    intro x5 x6 s q h rx5 rx6 hE
    unfold l_X11_bytesAt_76 at h
    refine v_iload dX11_bytesAt_76 4 rfl ?_
    refine v_iload dX11_bytesAt_78 2 rfl ?_
    refine v_icmp_ge (tgt := 125) dX11_bytesAt_80 rx6 rx4 (by decide) (fun c1 => ?_) (fun c1 => ?_)
    · rw [if_pos c1] at h
      cases h
      refine v_sub [2, 3] (L1 := [(4, vI x4), (5, vI x5)]) rfl ?_
      exact hE.1 _ _ rfl rx5
    · rw [if_neg c1] at h
      refine v_aload_n dX11_bytesAt_83 0 rfl rfl ?_
      refine v_iload_n dX11_bytesAt_84 1 rfl rfl ?_
      refine v_iload dX11_bytesAt_85 4 rfl ?_
      refine v_iadd dX11_bytesAt_87 ?_
      obtain ⟨r5, s2, e3, h⟩ := bd_some h
      have k4 := c_X2_at e3 hp0 (w32_rg _)
      have r6 : rg r5 := k4.1.2.2
      refine v_callV (st := []) cf2 (okB_ok hp0) k4 (lw_V q1747 q1072 q1073 q299 q1074) rfl yk_X2_at ⟨Nat.le_of_ble_eq_true rfl, Nat.le_of_ble_eq_true rfl⟩ trivial ⟨(okB_kp hp0 (by decide)), trivial⟩ (Nat.le_of_ble_eq_true rfl) rfl dX11_bytesAt_88 ?_
      refine v_bipush dX11_bytesAt_91 rfl ?_
      refine v_ishr dX11_bytesAt_93 ?_
      refine v_iconst dX11_bytesAt_94 ?_
      refine v_icmp_eq (tgt := 100) dX11_bytesAt_95 (shr32_rg _ _) (rgl rfl) (by decide) (fun c7 => ?_) (fun c7 => ?_)
      · rw [if_pos c7] at h
        refine v_iload dX11_bytesAt_100 3 rfl ?_
        refine v_bipush dX11_bytesAt_102 rfl ?_
        refine v_ishl dX11_bytesAt_104 ?_
        refine v_aload_n dX11_bytesAt_105 0 rfl rfl ?_
        refine v_iload_n dX11_bytesAt_106 1 rfl rfl ?_
        refine v_iload dX11_bytesAt_107 4 rfl ?_
        refine v_iadd dX11_bytesAt_109 ?_
        obtain ⟨r11, s8, e9, h⟩ := bd_some h
        have k10 := c_X2_at e9 hp0 (w32_rg _)
        have r12 : rg r11 := k10.1.2.2
        refine v_callV (st := [vI (shl32 x5 6)]) cf2 (okB_ok hp0) k10 (lw_V q1747 q1072 q1073 q299 q1074) rfl yk_X2_at ⟨Nat.le_of_ble_eq_true rfl, Nat.le_of_ble_eq_true rfl⟩ trivial ⟨(okB_kp hp0 (by decide)), trivial⟩ (Nat.le_of_ble_eq_true rfl) rfl dX11_bytesAt_110 ?_
        refine v_bipush dX11_bytesAt_113 rfl ?_
        refine v_iand dX11_bytesAt_115 ?_
        refine v_ior dX11_bytesAt_116 ?_
        obtain ⟨y13, e14, h⟩ := vl_some h
        rw [← e14]
        have r15 : rg y13 := by rw [e14]; exact or32_rg _ _
        refine v_istore (L1 := [(5, vI y13), (0, vO p0), (1, vI x1), (4, vI x4), (6, vI x6)]) dX11_bytesAt_117 (by decide) rfl ?_
        obtain ⟨y16, e17, h⟩ := vl_some h
        refine v_iinc (L1 := [(6, vI (w32 (x6 + 1))), (5, vI y13), (0, vO p0), (1, vI x1), (4, vI x4)]) dX11_bytesAt_119 4 rfl (by decide) rfl ?_
        rw [← e17]
        have r18 : rg y16 := by rw [e17]; exact w32_rg _
        refine v_goto (tgt := 76) dX11_bytesAt_122 (by decide) ?_
        refine v_sub [2, 3, 4, 1, 0] (L1 := [(0, vO p0), (1, vI x1), (4, vI x4), (5, vI y13), (6, vI y16)]) rfl ?_
        exact ih y13 y16 s8 _ h r15 r18 hE
      · rw [if_neg c7] at h
        refine v_iconst dX11_bytesAt_98 ?_
        cases h
        obtain ⟨z1, z2⟩ := hE.2 _ _ rfl
        subst z1
        subst z2
        exact v_iret (rgl rfl) dX11_bytesAt_99

def j_X11_bytesAt_184 (p0 : Nat) (x4 : Int) (z0 : Int) (s : vS) : Option (Int × vS) :=
  if z0 = 0 then
    some (0, s)
  else
    some (x4, s)
theorem wj_X11_bytesAt_184 {p0 : Nat} {x4 : Int} {z0 : Int} {s : vS} {out : Int × vS} (h : j_X11_bytesAt_184 p0 x4 z0 s = some out) (hp0 : okB p0 1) (rx4 : rg x4) (rz0 : rg z0) : VW cX11_bytesAt (RX11, (some (vI out.1)), out.2, (some .int), 1, 21, 7, []) (P0 []) s 184 [(4, vI x4)] [vI z0] := by
  unfold j_X11_bytesAt_184 at h
  refine v_istore (L1 := [(6, vI z0), (4, vI x4)]) dX11_bytesAt_184 (by decide) rfl ?_
  refine v_iload dX11_bytesAt_186 0 rfl ?_
  refine v_if_eq (tgt := 196) dX11_bytesAt_188 rz0 (by decide) (fun c1 => ?_) (fun c1 => ?_)
  · rw [if_pos c1] at h
    refine v_iconst dX11_bytesAt_196 ?_
    cases h
    exact v_iret (rgl rfl) dX11_bytesAt_197
  · rw [if_neg c1] at h
    refine v_iload dX11_bytesAt_191 1 rfl ?_
    refine v_goto (tgt := 197) dX11_bytesAt_193 (by decide) ?_
    cases h
    exact v_iret rx4 dX11_bytesAt_197

def j_X11_bytesAt_159 (p0 : Nat) (x4 : Int) (x5 : Int) (s : vS) : Option (Int × vS) :=
  if x4 = 4 then
    if x5 < 65536 then
      j_X11_bytesAt_184 p0 x4 0 s
    else
      if 1114111 < x5 then
        j_X11_bytesAt_184 p0 x4 0 s
      else
        j_X11_bytesAt_184 p0 x4 1 s
  else
    j_X11_bytesAt_184 p0 x4 0 s
theorem wj_X11_bytesAt_159 {p0 : Nat} {x4 : Int} {x5 : Int} {s : vS} {out : Int × vS} (h : j_X11_bytesAt_159 p0 x4 x5 s = some out) (hp0 : okB p0 1) (rx4 : rg x4) (rx5 : rg x5) : VW cX11_bytesAt (RX11, (some (vI out.1)), out.2, (some .int), 1, 21, 7, []) (P0 []) s 159 [(4, vI x4), (5, vI x5)] [] := by
  unfold j_X11_bytesAt_159 at h
  refine v_iload dX11_bytesAt_159 0 rfl ?_
  refine v_iconst dX11_bytesAt_161 ?_
  refine v_icmp_ne (tgt := 183) dX11_bytesAt_162 rx4 (rgl rfl) (by decide) (fun c1 => ?_) (fun c1 => ?_)
  · rw [if_neg c1] at h
    refine v_iconst dX11_bytesAt_183 ?_
    refine v_sub [0] (L1 := [(4, vI x4)]) rfl ?_
    exact wj_X11_bytesAt_184 h hp0 rx4 (rgl rfl)
  · rw [if_pos c1] at h
    refine v_iload dX11_bytesAt_165 1 rfl ?_
    refine v_ldc (n := 65536) dX11_bytesAt_167 q1922 rfl ?_
    refine v_icmp_lt (tgt := 183) dX11_bytesAt_169 rx5 (rgl rfl) (by decide) (fun c2 => ?_) (fun c2 => ?_)
    · rw [if_pos c2] at h
      refine v_iconst dX11_bytesAt_183 ?_
      refine v_sub [0] (L1 := [(4, vI x4)]) rfl ?_
      exact wj_X11_bytesAt_184 h hp0 rx4 (rgl rfl)
    · rw [if_neg c2] at h
      refine v_iload dX11_bytesAt_172 1 rfl ?_
      refine v_ldc (n := 1114111) dX11_bytesAt_174 q1923 rfl ?_
      refine v_icmp_gt (tgt := 183) dX11_bytesAt_176 rx5 (rgl rfl) (by decide) (fun c3 => ?_) (fun c3 => ?_)
      · rw [if_pos c3] at h
        refine v_iconst dX11_bytesAt_183 ?_
        refine v_sub [0] (L1 := [(4, vI x4)]) rfl ?_
        exact wj_X11_bytesAt_184 h hp0 rx4 (rgl rfl)
      · rw [if_neg c3] at h
        refine v_iconst dX11_bytesAt_179 ?_
        refine v_goto (tgt := 184) dX11_bytesAt_180 (by decide) ?_
        refine v_sub [0] (L1 := [(4, vI x4)]) rfl ?_
        exact wj_X11_bytesAt_184 h hp0 rx4 (rgl rfl)

def j_X11_bytesAt_38 (p0 : Nat) (x1 : Int) (x2 : Int) (x3 : Int) (z0 : Int) (s : vS) : Option (Int × vS) :=
  if x3 < 194 then
    some (0, s)
  else
    if 244 < x3 then
      some (0, s)
    else
      if (w32 (x1 + z0)) ≤ x2 then
        vl (and32 x3 (shr32 127 z0)) fun y4 =>
        lqs_1 (l_X11_bytesAt_76 p0 FU x1 z0 y4 1 s) (fun y7 s8 =>
          if z0 = 2 then
            j_X11_bytesAt_184 p0 z0 1 s8
          else
            if z0 = 3 then
              if y7 < 2048 then
                j_X11_bytesAt_159 p0 z0 y7 s8
              else
                if y7 < 55296 then
                  j_X11_bytesAt_184 p0 z0 1 s8
                else
                  if 57343 < y7 then
                    j_X11_bytesAt_184 p0 z0 1 s8
                  else
                    j_X11_bytesAt_159 p0 z0 y7 s8
            else
              j_X11_bytesAt_159 p0 z0 y7 s8)
          (fun q => some q)
      else
        some (0, s)
theorem wj_X11_bytesAt_38 {p0 : Nat} {x1 : Int} {x2 : Int} {x3 : Int} {z0 : Int} {s : vS} {out : Int × vS} (h : j_X11_bytesAt_38 p0 x1 x2 x3 z0 s = some out) (hp0 : okB p0 1) (rx1 : rg x1) (rx2 : rg x2) (rx3 : rg x3) (rz0 : rg z0) : VW cX11_bytesAt (RX11, (some (vI out.1)), out.2, (some .int), 1, 21, 7, []) (P0 []) s 38 [(0, vO p0), (1, vI x1), (2, vI x2), (3, vI x3)] [vI z0] := by
  unfold j_X11_bytesAt_38 at h
  refine v_istore (L1 := [(4, vI z0), (0, vO p0), (1, vI x1), (2, vI x2), (3, vI x3)]) dX11_bytesAt_38 (by decide) rfl ?_
  refine v_iload_n dX11_bytesAt_40 4 rfl rfl ?_
  refine v_sipush dX11_bytesAt_41 rfl ?_
  refine v_icmp_lt (tgt := 62) dX11_bytesAt_44 rx3 (rgl rfl) (by decide) (fun c1 => ?_) (fun c1 => ?_)
  · rw [if_pos c1] at h
    refine v_iconst dX11_bytesAt_62 ?_
    cases h
    exact v_iret (rgl rfl) dX11_bytesAt_63
  · rw [if_neg c1] at h
    refine v_iload_n dX11_bytesAt_47 4 rfl rfl ?_
    refine v_sipush dX11_bytesAt_48 rfl ?_
    refine v_icmp_gt (tgt := 62) dX11_bytesAt_51 rx3 (rgl rfl) (by decide) (fun c2 => ?_) (fun c2 => ?_)
    · rw [if_pos c2] at h
      refine v_iconst dX11_bytesAt_62 ?_
      cases h
      exact v_iret (rgl rfl) dX11_bytesAt_63
    · rw [if_neg c2] at h
      refine v_iload_n dX11_bytesAt_54 2 rfl rfl ?_
      refine v_iload dX11_bytesAt_55 0 rfl ?_
      refine v_iadd dX11_bytesAt_57 ?_
      refine v_iload_n dX11_bytesAt_58 3 rfl rfl ?_
      refine v_icmp_le (tgt := 64) dX11_bytesAt_59 (w32_rg _) rx2 (by decide) (fun c3 => ?_) (fun c3 => ?_)
      · rw [if_pos c3] at h
        refine v_iload_n dX11_bytesAt_64 4 rfl rfl ?_
        refine v_bipush dX11_bytesAt_65 rfl ?_
        refine v_iload dX11_bytesAt_67 0 rfl ?_
        refine v_ishr dX11_bytesAt_69 ?_
        refine v_iand dX11_bytesAt_70 ?_
        obtain ⟨y4, e5, h⟩ := vl_some h
        rw [← e5]
        have r6 : rg y4 := by rw [e5]; exact and32_rg _ _
        refine v_istore (L1 := [(5, vI y4), (4, vI z0), (0, vO p0), (1, vI x1), (2, vI x2), (3, vI x3)]) dX11_bytesAt_71 (by decide) rfl ?_
        refine v_iconst dX11_bytesAt_73 ?_
        refine v_istore (L1 := [(6, vI 1), (5, vI y4), (4, vI z0), (0, vO p0), (1, vI x1), (2, vI x2), (3, vI x3)]) dX11_bytesAt_74 (by decide) rfl ?_
        refine v_sub [3, 4, 2, 1, 0] (L1 := [(0, vO p0), (1, vI x1), (4, vI z0), (5, vI y4), (6, vI 1)]) rfl ?_
        rcases lqs_1_some h with ⟨y7, s8, e9, h⟩ | ⟨q9, e9, h⟩
        · refine wl_X11_bytesAt_76 p0 hp0 rx1 rz0 FU y4 1 s _ e9 r6 (rgl rfl) ?_
          unfold E_X11_bytesAt_76
          refine ⟨?_, fun v9 s9 z_ => (by cases z_)⟩
          intro y7' s8' z_ r10
          cases z_
          refine v_iload dX11_bytesAt_125 0 rfl ?_
          refine v_iconst dX11_bytesAt_127 ?_
          refine v_icmp_eq (tgt := 179) dX11_bytesAt_128 rz0 (rgl rfl) (by decide) (fun c11 => ?_) (fun c11 => ?_)
          · rw [if_pos c11] at h
            refine v_iconst dX11_bytesAt_179 ?_
            refine v_goto (tgt := 184) dX11_bytesAt_180 (by decide) ?_
            refine v_sub [0] (L1 := [(4, vI z0)]) rfl ?_
            exact wj_X11_bytesAt_184 h hp0 rz0 (rgl rfl)
          · rw [if_neg c11] at h
            refine v_iload dX11_bytesAt_131 0 rfl ?_
            refine v_iconst dX11_bytesAt_133 ?_
            refine v_icmp_ne (tgt := 159) dX11_bytesAt_134 rz0 (rgl rfl) (by decide) (fun c12 => ?_) (fun c12 => ?_)
            · rw [if_neg c12] at h
              exact wj_X11_bytesAt_159 h hp0 rz0 r10
            · rw [if_pos c12] at h
              refine v_iload dX11_bytesAt_137 1 rfl ?_
              refine v_sipush dX11_bytesAt_139 rfl ?_
              refine v_icmp_lt (tgt := 159) dX11_bytesAt_142 r10 (rgl rfl) (by decide) (fun c13 => ?_) (fun c13 => ?_)
              · rw [if_pos c13] at h
                exact wj_X11_bytesAt_159 h hp0 rz0 r10
              · rw [if_neg c13] at h
                refine v_iload dX11_bytesAt_145 1 rfl ?_
                refine v_ldc (n := 55296) dX11_bytesAt_147 q1920 rfl ?_
                refine v_icmp_lt (tgt := 179) dX11_bytesAt_149 r10 (rgl rfl) (by decide) (fun c14 => ?_) (fun c14 => ?_)
                · rw [if_pos c14] at h
                  refine v_iconst dX11_bytesAt_179 ?_
                  refine v_goto (tgt := 184) dX11_bytesAt_180 (by decide) ?_
                  refine v_sub [0] (L1 := [(4, vI z0)]) rfl ?_
                  exact wj_X11_bytesAt_184 h hp0 rz0 (rgl rfl)
                · rw [if_neg c14] at h
                  refine v_iload dX11_bytesAt_152 1 rfl ?_
                  refine v_ldc (n := 57343) dX11_bytesAt_154 q1921 rfl ?_
                  refine v_icmp_gt (tgt := 179) dX11_bytesAt_156 r10 (rgl rfl) (by decide) (fun c15 => ?_) (fun c15 => ?_)
                  · rw [if_pos c15] at h
                    refine v_iconst dX11_bytesAt_179 ?_
                    refine v_goto (tgt := 184) dX11_bytesAt_180 (by decide) ?_
                    refine v_sub [0] (L1 := [(4, vI z0)]) rfl ?_
                    exact wj_X11_bytesAt_184 h hp0 rz0 (rgl rfl)
                  · rw [if_neg c15] at h
                    exact wj_X11_bytesAt_159 h hp0 rz0 r10
        · cases h
          refine wl_X11_bytesAt_76 p0 hp0 rx1 rz0 FU y4 1 s _ e9 r6 (rgl rfl) ?_
          unfold E_X11_bytesAt_76
          refine ⟨fun _ _ z_ => (by cases z_), ?_⟩
          intro v9 s9 z_
          cases z_
          exact ⟨rfl, rfl⟩
      · rw [if_neg c3] at h
        refine v_iconst dX11_bytesAt_62 ?_
        cases h
        exact v_iret (rgl rfl) dX11_bytesAt_63

def f_X11_bytesAt (p0 : Nat) (x1 : Int) (x2 : Int) (s : vS) : Option (Int × vS) :=
  bd (f_X2_at p0 x1 s) fun r4 s1 =>
  if 128 ≤ r4 then
    if r4 < 240 then
      if r4 < 224 then
        j_X11_bytesAt_38 p0 x1 x2 r4 2 s1
      else
        j_X11_bytesAt_38 p0 x1 x2 r4 3 s1
    else
      j_X11_bytesAt_38 p0 x1 x2 r4 4 s1
  else
    some (1, s1)
theorem yk_X11_bytesAt : yOk yX11_bytesAt 3 := ⟨by decide, by decide, by decide +kernel⟩
theorem c_X11_bytesAt {p0 : Nat} {x1 : Int} {x2 : Int} {s : vS} {out : Int × vS} (h : f_X11_bytesAt p0 x1 x2 s = some out) (hp0 : okB p0 1) (rx1 : rg x1) (rx2 : rg x2) : VC yX11_bytesAt cX11_bytesAt 7 (some .int) 1 21 [vO p0, vI x1, vI x2] s (some (vI out.1)) out.2 [] := by
  unfold f_X11_bytesAt at h
  refine VC.of RX11 (by decide) rfl (Nat.le_of_ble_eq_true rfl) ?_
  show VW cX11_bytesAt (RX11, (some (vI out.1)), out.2, (some .int), 1, 21, 7, []) (P0 []) s 0 [(0, vO p0), (1, vI x1), (2, vI x2)] []
  refine v_aload_n dX11_bytesAt_0 0 rfl rfl ?_
  refine v_iload_n dX11_bytesAt_1 1 rfl rfl ?_
  obtain ⟨r4, s1, e2, h⟩ := bd_some h
  have k3 := c_X2_at e2 hp0 rx1
  have r5 : rg r4 := k3.1.2.2
  refine v_callV (st := []) cf2 (okB_ok hp0) k3 (lw_V q1747 q1072 q1073 q299 q1074) rfl yk_X2_at ⟨Nat.le_of_ble_eq_true rfl, Nat.le_of_ble_eq_true rfl⟩ trivial ⟨(okB_kp hp0 (by decide)), trivial⟩ (Nat.le_of_ble_eq_true rfl) rfl dX11_bytesAt_2 ?_
  refine v_istore_n (L1 := [(3, vI r4), (0, vO p0), (1, vI x1), (2, vI x2)]) dX11_bytesAt_5 rfl (by decide) rfl ?_
  refine v_iload_n dX11_bytesAt_6 0 rfl rfl ?_
  refine v_sipush dX11_bytesAt_7 rfl ?_
  refine v_icmp_ge (tgt := 15) dX11_bytesAt_10 r5 (rgl rfl) (by decide) (fun c6 => ?_) (fun c6 => ?_)
  · rw [if_pos c6] at h
    refine v_iload_n dX11_bytesAt_15 0 rfl rfl ?_
    refine v_sipush dX11_bytesAt_16 rfl ?_
    refine v_icmp_lt (tgt := 26) dX11_bytesAt_19 r5 (rgl rfl) (by decide) (fun c7 => ?_) (fun c7 => ?_)
    · rw [if_pos c7] at h
      refine v_iload_n dX11_bytesAt_26 0 rfl rfl ?_
      refine v_sipush dX11_bytesAt_27 rfl ?_
      refine v_icmp_lt (tgt := 37) dX11_bytesAt_30 r5 (rgl rfl) (by decide) (fun c8 => ?_) (fun c8 => ?_)
      · rw [if_pos c8] at h
        refine v_iconst dX11_bytesAt_37 ?_
        refine v_sub [1, 2, 3, 0] (L1 := [(0, vO p0), (1, vI x1), (2, vI x2), (3, vI r4)]) rfl ?_
        exact wj_X11_bytesAt_38 h hp0 rx1 rx2 r5 (rgl rfl)
      · rw [if_neg c8] at h
        refine v_iconst dX11_bytesAt_33 ?_
        refine v_goto (tgt := 38) dX11_bytesAt_34 (by decide) ?_
        refine v_sub [1, 2, 3, 0] (L1 := [(0, vO p0), (1, vI x1), (2, vI x2), (3, vI r4)]) rfl ?_
        exact wj_X11_bytesAt_38 h hp0 rx1 rx2 r5 (rgl rfl)
    · rw [if_neg c7] at h
      refine v_iconst dX11_bytesAt_22 ?_
      refine v_goto (tgt := 38) dX11_bytesAt_23 (by decide) ?_
      refine v_sub [1, 2, 3, 0] (L1 := [(0, vO p0), (1, vI x1), (2, vI x2), (3, vI r4)]) rfl ?_
      exact wj_X11_bytesAt_38 h hp0 rx1 rx2 r5 (rgl rfl)
  · rw [if_neg c6] at h
    refine v_iconst dX11_bytesAt_13 ?_
    cases h
    exact v_iret (rgl rfl) dX11_bytesAt_14

def E_X11_isUtf8_8 (o : Nat) (p1 : Nat) (rv : Option vA) (σo : vS) (q : (vS) ⊕ (Int × vS)) : Prop := (∀ (s' : vS), q = .inl s' → VW cX11_isUtf8 (RX11, rv, σo, (some .boolean), 2, 47, 6, []) (P0 []) s' 50 [] []) ∧ (∀ (v : Int) (s' : vS), q = .inr (v, s') → rv = some (vI v) ∧ σo = s')
def l_X11_isUtf8_8 (o : Nat) (p1 : Nat) : Nat → Int → Int → vS → Option ((vS) ⊕ (Int × vS))
  | 0, _, _, _ => none
  | n + 1, x3, x4, s =>
    if x3 ≤ x4 then
      some (.inl s)
    else
      bd (f_X11_bytesAt p1 x4 x3 s) fun r5 s2 =>
      if r5 = 0 then
        some (.inr (0, s2))
      else
        vl (w32 (x4 + r5)) fun y8 =>
        stp (sI s2 o 1 (w32 ((gI s2 o 1) + 1))) fun s11 =>
        l_X11_isUtf8_8 o p1 n x3 y8 s11
theorem wl_X11_isUtf8_8 (o : Nat) (p1 : Nat) {x3 : Int} {rv : Option vA} {σo : vS} (ho : okB o 10) (hp1 : okB p1 1) (rx3 : rg x3) : ∀ (n : Nat) (x4 : Int) (s : vS) (q : (vS) ⊕ (Int × vS)), l_X11_isUtf8_8 o p1 n x3 x4 s = some q → rg x4 → E_X11_isUtf8_8 o p1 rv σo q → VW cX11_isUtf8 (RX11, rv, σo, (some .boolean), 2, 47, 6, []) (P0 []) s 8 [(0, vO o), (1, vO p1), (3, vI x3), (4, vI x4)] [] := by
  intro n
  induction n with
  | zero => intro x4 s q h; cases h
  | succ n ih =>
    intro x4 s q h rx4 hE
    unfold l_X11_isUtf8_8 at h
    refine v_iload dX11_isUtf8_8 3 rfl ?_
    refine v_iload_n dX11_isUtf8_10 2 rfl rfl ?_
    refine v_icmp_ge (tgt := 50) dX11_isUtf8_11 rx4 rx3 (by decide) (fun c1 => ?_) (fun c1 => ?_)
    · rw [if_pos c1] at h
      cases h
      refine v_sub [] (L1 := []) rfl ?_
      exact hE.1 _ rfl 
    · rw [if_neg c1] at h
      refine v_aload_n dX11_isUtf8_14 1 rfl rfl ?_
      refine v_iload dX11_isUtf8_15 3 rfl ?_
      refine v_iload_n dX11_isUtf8_17 2 rfl rfl ?_
      obtain ⟨r5, s2, e3, h⟩ := bd_some h
      have k4 := c_X11_bytesAt e3 hp1 rx4 rx3
      have r6 : rg r5 := k4.1.2.2
      refine v_callS (st := []) k4 (lw_S q1917 q1918 q308 q1919) yk_X11_bytesAt ⟨Nat.le_of_ble_eq_true rfl, Nat.le_of_ble_eq_true rfl⟩ trivial ⟨(okB_kp ho (by decide)), (okB_kp hp1 (by decide)), trivial⟩ (Nat.le_of_ble_eq_true rfl) rfl dX11_isUtf8_18 ?_
      refine v_istore (L1 := [(5, vI r5), (0, vO o), (1, vO p1), (3, vI x3), (4, vI x4)]) dX11_isUtf8_21 (by decide) rfl ?_
      refine v_iload dX11_isUtf8_23 0 rfl ?_
      refine v_if_ne (tgt := 30) dX11_isUtf8_25 r6 (by decide) (fun c7 => ?_) (fun c7 => ?_)
      · rw [if_neg c7] at h
        refine v_iload dX11_isUtf8_30 4 rfl ?_
        refine v_iload dX11_isUtf8_32 0 rfl ?_
        refine v_iadd dX11_isUtf8_34 ?_
        obtain ⟨y8, e9, h⟩ := vl_some h
        rw [← e9]
        have r10 : rg y8 := by rw [e9]; exact w32_rg _
        refine v_istore (L1 := [(4, vI y8), (5, vI r5), (0, vO o), (1, vO p1), (3, vI x3)]) dX11_isUtf8_35 (by decide) rfl ?_
        refine v_aload_n dX11_isUtf8_37 2 rfl rfl ?_
        refine v_dupO dX11_isUtf8_38 ?_
        refine v_getI (f := 1) cf11 (okB_ok ho) rfl (by decide) q615 dX11_isUtf8_39 ?_
        refine v_iconst dX11_isUtf8_42 ?_
        refine v_iadd dX11_isUtf8_43 ?_
        obtain ⟨s11, e12, h⟩ := stp_some h
        refine v_putI (f := 1) cf11 (okB_ok ho) rfl (by decide) q615 dX11_isUtf8_44 rfl rfl ?_
        rw [← e12]
        refine v_goto (tgt := 8) dX11_isUtf8_47 (by decide) ?_
        refine v_sub [2, 3, 4, 0] (L1 := [(0, vO o), (1, vO p1), (3, vI x3), (4, vI y8)]) rfl ?_
        exact ih y8 s11 _ h r10 hE
      · rw [if_pos c7] at h
        refine v_iconst dX11_isUtf8_28 ?_
        cases h
        obtain ⟨z1, z2⟩ := hE.2 _ _ rfl
        subst z1
        subst z2
        exact v_zret (Or.inl rfl) dX11_isUtf8_29

def f_X11_isUtf8 (o : Nat) (p1 : Nat) (x2 : Int) (x3 : Int) (s : vS) : Option (Int × vS) :=
  stp (sI s o 1 0) fun s1 =>
  lqs_0 (l_X11_isUtf8_8 o p1 FU x3 x2 s1) (fun s3 =>
    some (1, s3))
    (fun q => some q)
theorem yk_X11_isUtf8 : yOk yX11_isUtf8 3 := ⟨by decide, by decide, by decide +kernel⟩
theorem c_X11_isUtf8 {o : Nat} {p1 : Nat} {x2 : Int} {x3 : Int} {s : vS} {out : Int × vS} (h : f_X11_isUtf8 o p1 x2 x3 s = some out) (ho : okB o 10) (hp1 : okB p1 1) (rx2 : rg x2) (rx3 : rg x3) : VC yX11_isUtf8 cX11_isUtf8 6 (some .boolean) 2 47 [vO o, vO p1, vI x2, vI x3] s (some (vI out.1)) out.2 [] := by
  unfold f_X11_isUtf8 at h
  refine VC.of RX11 (by decide) rfl (Nat.le_of_ble_eq_true rfl) ?_
  show VW cX11_isUtf8 (RX11, (some (vI out.1)), out.2, (some .boolean), 2, 47, 6, []) (P0 []) s 0 [(0, vO o), (1, vO p1), (2, vI x2), (3, vI x3)] []
  refine v_aload_n dX11_isUtf8_0 0 rfl rfl ?_
  refine v_iconst dX11_isUtf8_1 ?_
  obtain ⟨s1, e2, h⟩ := stp_some h
  refine v_putI (f := 1) cf11 (okB_ok ho) rfl (by decide) q615 dX11_isUtf8_2 rfl rfl ?_
  rw [← e2]
  refine v_iload_n dX11_isUtf8_5 2 rfl rfl ?_
  refine v_istore (L1 := [(4, vI x2), (0, vO o), (1, vO p1), (2, vI x2), (3, vI x3)]) dX11_isUtf8_6 (by decide) rfl ?_
  refine v_sub [1, 2, 4, 0] (L1 := [(0, vO o), (1, vO p1), (3, vI x3), (4, vI x2)]) rfl ?_
  rcases lqs_0_some h with ⟨s3, e4, h⟩ | ⟨q9, e4, h⟩
  · refine wl_X11_isUtf8_8 o p1 ho hp1 rx3 FU x2 s1 _ e4 rx2 ?_
    unfold E_X11_isUtf8_8
    refine ⟨?_, fun v9 s9 z_ => (by cases z_)⟩
    intro s3' z_
    cases z_
    refine v_iconst dX11_isUtf8_50 ?_
    cases h
    exact v_zret (Or.inr rfl) dX11_isUtf8_51
  · cases h
    refine wl_X11_isUtf8_8 o p1 ho hp1 rx3 FU x2 s1 _ e4 rx2 ?_
    unfold E_X11_isUtf8_8
    refine ⟨fun _ z_ => (by cases z_), ?_⟩
    intro v9 s9 z_
    cases z_
    exact ⟨rfl, rfl⟩

def j_X11_isLetter_12 (x0 : Int) (s : vS) : Option (Int × vS) :=
  if x0 < 97 then
    some (0, s)
  else
    if 122 < x0 then
      some (0, s)
    else
      some (1, s)
theorem wj_X11_isLetter_12 {x0 : Int} {s : vS} {out : Int × vS} (h : j_X11_isLetter_12 x0 s = some out)  (rx0 : rg x0) : VW cX11_isLetter (RX11, (some (vI out.1)), out.2, (some .boolean), 0, 0, 1, []) (P0 []) s 12 [(0, vI x0)] [] := by
  unfold j_X11_isLetter_12 at h
  refine v_iload_n dX11_isLetter_12 0 rfl rfl ?_
  refine v_bipush dX11_isLetter_13 rfl ?_
  refine v_icmp_lt (tgt := 28) dX11_isLetter_15 rx0 (rgl rfl) (by decide) (fun c1 => ?_) (fun c1 => ?_)
  · rw [if_pos c1] at h
    refine v_iconst dX11_isLetter_28 ?_
    cases h
    exact v_zret (Or.inl rfl) dX11_isLetter_29
  · rw [if_neg c1] at h
    refine v_iload_n dX11_isLetter_18 0 rfl rfl ?_
    refine v_bipush dX11_isLetter_19 rfl ?_
    refine v_icmp_gt (tgt := 28) dX11_isLetter_21 rx0 (rgl rfl) (by decide) (fun c2 => ?_) (fun c2 => ?_)
    · rw [if_pos c2] at h
      refine v_iconst dX11_isLetter_28 ?_
      cases h
      exact v_zret (Or.inl rfl) dX11_isLetter_29
    · rw [if_neg c2] at h
      refine v_iconst dX11_isLetter_24 ?_
      refine v_goto (tgt := 29) dX11_isLetter_25 (by decide) ?_
      cases h
      exact v_zret (Or.inr rfl) dX11_isLetter_29

def f_X11_isLetter (x0 : Int) (s : vS) : Option (Int × vS) :=
  if x0 < 65 then
    j_X11_isLetter_12 x0 s
  else
    if x0 ≤ 90 then
      some (1, s)
    else
      j_X11_isLetter_12 x0 s
theorem yk_X11_isLetter : yOk yX11_isLetter 1 := ⟨by decide, by decide, by decide +kernel⟩
theorem c_X11_isLetter {x0 : Int} {s : vS} {out : Int × vS} (h : f_X11_isLetter x0 s = some out)  (rx0 : rg x0) : VC yX11_isLetter cX11_isLetter 1 (some .boolean) 0 0 [vI x0] s (some (vI out.1)) out.2 [] := by
  unfold f_X11_isLetter at h
  refine VC.of RX11 (by decide) rfl (Nat.le_of_ble_eq_true rfl) ?_
  show VW cX11_isLetter (RX11, (some (vI out.1)), out.2, (some .boolean), 0, 0, 1, []) (P0 []) s 0 [(0, vI x0)] []
  refine v_iload_n dX11_isLetter_0 0 rfl rfl ?_
  refine v_bipush dX11_isLetter_1 rfl ?_
  refine v_icmp_lt (tgt := 12) dX11_isLetter_3 rx0 (rgl rfl) (by decide) (fun c1 => ?_) (fun c1 => ?_)
  · rw [if_pos c1] at h
    exact wj_X11_isLetter_12 h rx0
  · rw [if_neg c1] at h
    refine v_iload_n dX11_isLetter_6 0 rfl rfl ?_
    refine v_bipush dX11_isLetter_7 rfl ?_
    refine v_icmp_le (tgt := 24) dX11_isLetter_9 rx0 (rgl rfl) (by decide) (fun c2 => ?_) (fun c2 => ?_)
    · rw [if_pos c2] at h
      refine v_iconst dX11_isLetter_24 ?_
      refine v_goto (tgt := 29) dX11_isLetter_25 (by decide) ?_
      cases h
      exact v_zret (Or.inr rfl) dX11_isLetter_29
    · rw [if_neg c2] at h
      exact wj_X11_isLetter_12 h rx0

def j_X11_isPrintable_43 (x0 : Int) (s : vS) : Option (Int × vS) :=
  if x0 = 58 then
    some (1, s)
  else
    if x0 = 61 then
      some (1, s)
    else
      if x0 = 63 then
        some (1, s)
      else
        if x0 = 32 then
          some (1, s)
        else
          some (0, s)
theorem wj_X11_isPrintable_43 {x0 : Int} {s : vS} {out : Int × vS} (h : j_X11_isPrintable_43 x0 s = some out)  (rx0 : rg x0) : VW cX11_isPrintable (RX11, (some (vI out.1)), out.2, (some .boolean), 1, 20, 1, []) (P0 []) s 43 [(0, vI x0)] [] := by
  unfold j_X11_isPrintable_43 at h
  refine v_iload_n dX11_isPrintable_43 0 rfl rfl ?_
  refine v_bipush dX11_isPrintable_44 rfl ?_
  refine v_icmp_eq (tgt := 67) dX11_isPrintable_46 rx0 (rgl rfl) (by decide) (fun c1 => ?_) (fun c1 => ?_)
  · rw [if_pos c1] at h
    refine v_iconst dX11_isPrintable_67 ?_
    refine v_goto (tgt := 72) dX11_isPrintable_68 (by decide) ?_
    cases h
    exact v_zret (Or.inr rfl) dX11_isPrintable_72
  · rw [if_neg c1] at h
    refine v_iload_n dX11_isPrintable_49 0 rfl rfl ?_
    refine v_bipush dX11_isPrintable_50 rfl ?_
    refine v_icmp_eq (tgt := 67) dX11_isPrintable_52 rx0 (rgl rfl) (by decide) (fun c2 => ?_) (fun c2 => ?_)
    · rw [if_pos c2] at h
      refine v_iconst dX11_isPrintable_67 ?_
      refine v_goto (tgt := 72) dX11_isPrintable_68 (by decide) ?_
      cases h
      exact v_zret (Or.inr rfl) dX11_isPrintable_72
    · rw [if_neg c2] at h
      refine v_iload_n dX11_isPrintable_55 0 rfl rfl ?_
      refine v_bipush dX11_isPrintable_56 rfl ?_
      refine v_icmp_eq (tgt := 67) dX11_isPrintable_58 rx0 (rgl rfl) (by decide) (fun c3 => ?_) (fun c3 => ?_)
      · rw [if_pos c3] at h
        refine v_iconst dX11_isPrintable_67 ?_
        refine v_goto (tgt := 72) dX11_isPrintable_68 (by decide) ?_
        cases h
        exact v_zret (Or.inr rfl) dX11_isPrintable_72
      · rw [if_neg c3] at h
        refine v_iload_n dX11_isPrintable_61 0 rfl rfl ?_
        refine v_bipush dX11_isPrintable_62 rfl ?_
        refine v_icmp_ne (tgt := 71) dX11_isPrintable_64 rx0 (rgl rfl) (by decide) (fun c4 => ?_) (fun c4 => ?_)
        · rw [if_neg c4] at h
          refine v_iconst dX11_isPrintable_71 ?_
          cases h
          exact v_zret (Or.inl rfl) dX11_isPrintable_72
        · rw [if_pos c4] at h
          refine v_iconst dX11_isPrintable_67 ?_
          refine v_goto (tgt := 72) dX11_isPrintable_68 (by decide) ?_
          cases h
          exact v_zret (Or.inr rfl) dX11_isPrintable_72

def j_X11_isPrintable_31 (x0 : Int) (s : vS) : Option (Int × vS) :=
  if x0 < 43 then
    j_X11_isPrintable_43 x0 s
  else
    if x0 ≤ 47 then
      some (1, s)
    else
      j_X11_isPrintable_43 x0 s
theorem wj_X11_isPrintable_31 {x0 : Int} {s : vS} {out : Int × vS} (h : j_X11_isPrintable_31 x0 s = some out)  (rx0 : rg x0) : VW cX11_isPrintable (RX11, (some (vI out.1)), out.2, (some .boolean), 1, 20, 1, []) (P0 []) s 31 [(0, vI x0)] [] := by
  unfold j_X11_isPrintable_31 at h
  refine v_iload_n dX11_isPrintable_31 0 rfl rfl ?_
  refine v_bipush dX11_isPrintable_32 rfl ?_
  refine v_icmp_lt (tgt := 43) dX11_isPrintable_34 rx0 (rgl rfl) (by decide) (fun c1 => ?_) (fun c1 => ?_)
  · rw [if_pos c1] at h
    exact wj_X11_isPrintable_43 h rx0
  · rw [if_neg c1] at h
    refine v_iload_n dX11_isPrintable_37 0 rfl rfl ?_
    refine v_bipush dX11_isPrintable_38 rfl ?_
    refine v_icmp_le (tgt := 67) dX11_isPrintable_40 rx0 (rgl rfl) (by decide) (fun c2 => ?_) (fun c2 => ?_)
    · rw [if_pos c2] at h
      refine v_iconst dX11_isPrintable_67 ?_
      refine v_goto (tgt := 72) dX11_isPrintable_68 (by decide) ?_
      cases h
      exact v_zret (Or.inr rfl) dX11_isPrintable_72
    · rw [if_neg c2] at h
      exact wj_X11_isPrintable_43 h rx0

def j_X11_isPrintable_19 (x0 : Int) (s : vS) : Option (Int × vS) :=
  if x0 < 39 then
    j_X11_isPrintable_31 x0 s
  else
    if x0 ≤ 41 then
      some (1, s)
    else
      j_X11_isPrintable_31 x0 s
theorem wj_X11_isPrintable_19 {x0 : Int} {s : vS} {out : Int × vS} (h : j_X11_isPrintable_19 x0 s = some out)  (rx0 : rg x0) : VW cX11_isPrintable (RX11, (some (vI out.1)), out.2, (some .boolean), 1, 20, 1, []) (P0 []) s 19 [(0, vI x0)] [] := by
  unfold j_X11_isPrintable_19 at h
  refine v_iload_n dX11_isPrintable_19 0 rfl rfl ?_
  refine v_bipush dX11_isPrintable_20 rfl ?_
  refine v_icmp_lt (tgt := 31) dX11_isPrintable_22 rx0 (rgl rfl) (by decide) (fun c1 => ?_) (fun c1 => ?_)
  · rw [if_pos c1] at h
    exact wj_X11_isPrintable_31 h rx0
  · rw [if_neg c1] at h
    refine v_iload_n dX11_isPrintable_25 0 rfl rfl ?_
    refine v_bipush dX11_isPrintable_26 rfl ?_
    refine v_icmp_le (tgt := 67) dX11_isPrintable_28 rx0 (rgl rfl) (by decide) (fun c2 => ?_) (fun c2 => ?_)
    · rw [if_pos c2] at h
      refine v_iconst dX11_isPrintable_67 ?_
      refine v_goto (tgt := 72) dX11_isPrintable_68 (by decide) ?_
      cases h
      exact v_zret (Or.inr rfl) dX11_isPrintable_72
    · rw [if_neg c2] at h
      exact wj_X11_isPrintable_31 h rx0

def f_X11_isPrintable (x0 : Int) (s : vS) : Option (Int × vS) :=
  bd (f_X11_isLetter x0 s) fun r4 s1 =>
  if r4 = 0 then
    if x0 < 48 then
      j_X11_isPrintable_19 x0 s1
    else
      if x0 ≤ 57 then
        some (1, s1)
      else
        j_X11_isPrintable_19 x0 s1
  else
    some (1, s1)
theorem yk_X11_isPrintable : yOk yX11_isPrintable 1 := ⟨by decide, by decide, by decide +kernel⟩
theorem c_X11_isPrintable {x0 : Int} {s : vS} {out : Int × vS} (h : f_X11_isPrintable x0 s = some out)  (rx0 : rg x0) : VC yX11_isPrintable cX11_isPrintable 1 (some .boolean) 1 20 [vI x0] s (some (vI out.1)) out.2 [] := by
  unfold f_X11_isPrintable at h
  refine VC.of RX11 (by decide) rfl (Nat.le_of_ble_eq_true rfl) ?_
  show VW cX11_isPrintable (RX11, (some (vI out.1)), out.2, (some .boolean), 1, 20, 1, []) (P0 []) s 0 [(0, vI x0)] []
  refine v_iload_n dX11_isPrintable_0 0 rfl rfl ?_
  obtain ⟨r4, s1, e2, h⟩ := bd_some h
  have k3 := c_X11_isLetter e2 rx0
  have r5 : rg r4 := k3.1.2.2
  refine v_callS (st := []) k3 (lw_S q1927 q1928 q308 q1929) yk_X11_isLetter ⟨Nat.le_of_ble_eq_true rfl, Nat.le_of_ble_eq_true rfl⟩ trivial trivial (Nat.le_of_ble_eq_true rfl) rfl dX11_isPrintable_1 ?_
  refine v_if_ne (tgt := 67) dX11_isPrintable_4 r5 (by decide) (fun c6 => ?_) (fun c6 => ?_)
  · rw [if_neg c6] at h
    refine v_iconst dX11_isPrintable_67 ?_
    refine v_goto (tgt := 72) dX11_isPrintable_68 (by decide) ?_
    cases h
    exact v_zret (Or.inr rfl) dX11_isPrintable_72
  · rw [if_pos c6] at h
    refine v_iload_n dX11_isPrintable_7 0 rfl rfl ?_
    refine v_bipush dX11_isPrintable_8 rfl ?_
    refine v_icmp_lt (tgt := 19) dX11_isPrintable_10 rx0 (rgl rfl) (by decide) (fun c7 => ?_) (fun c7 => ?_)
    · rw [if_pos c7] at h
      exact wj_X11_isPrintable_19 h rx0
    · rw [if_neg c7] at h
      refine v_iload_n dX11_isPrintable_13 0 rfl rfl ?_
      refine v_bipush dX11_isPrintable_14 rfl ?_
      refine v_icmp_le (tgt := 67) dX11_isPrintable_16 rx0 (rgl rfl) (by decide) (fun c8 => ?_) (fun c8 => ?_)
      · rw [if_pos c8] at h
        refine v_iconst dX11_isPrintable_67 ?_
        refine v_goto (tgt := 72) dX11_isPrintable_68 (by decide) ?_
        cases h
        exact v_zret (Or.inr rfl) dX11_isPrintable_72
      · rw [if_neg c8] at h
        exact wj_X11_isPrintable_19 h rx0

def E_X11_isString_26 (o : Nat) (p2 : Nat) (rv : Option vA) (σo : vS) (q : (vS) ⊕ (Int × vS)) : Prop := (∀ (s' : vS), q = .inl s' → VW cX11_isString (RX11, rv, σo, (some .boolean), 3, 72, 6, []) (P0 []) s' 79 [] []) ∧ (∀ (v : Int) (s' : vS), q = .inr (v, s') → rv = some (vI v) ∧ σo = s')
def l_X11_isString_26 (o : Nat) (p2 : Nat) : Nat → Int → Int → Int → vS → Option ((vS) ⊕ (Int × vS))
  | 0, _, _, _, _ => none
  | n + 1, x1, x4, x5, s =>
    if x4 ≤ x5 then
      some (.inl s)
    else
      if x1 = 8 then
        bd (f_X2_at p2 x5 s) fun r19 s16 =>
        bd (f_X11_isPrintable r19 s16) fun r24 s21 =>
        if r24 = 0 then
          some (.inr (0, s21))
        else
          vl (w32 (x5 + 1)) fun y27 =>
          l_X11_isString_26 o p2 n x1 x4 y27 s21
      else
        if x1 = 9 then
          bd (f_X2_at p2 x5 s) fun r10 s7 =>
          if r10 ≤ 127 then
            vl (w32 (x5 + 1)) fun y13 =>
            l_X11_isString_26 o p2 n x1 x4 y13 s7
          else
            some (.inr (0, s7))
        else
          vl (w32 (x5 + 1)) fun y4 =>
          l_X11_isString_26 o p2 n x1 x4 y4 s
theorem wl_X11_isString_26 (o : Nat) (p2 : Nat) {x1 : Int} {x4 : Int} {rv : Option vA} {σo : vS} (ho : okB o 10) (hp2 : okB p2 1) (rx1 : rg x1) (rx4 : rg x4) : ∀ (n : Nat) (x5 : Int) (s : vS) (q : (vS) ⊕ (Int × vS)), l_X11_isString_26 o p2 n x1 x4 x5 s = some q → rg x5 → E_X11_isString_26 o p2 rv σo q → VW cX11_isString (RX11, rv, σo, (some .boolean), 3, 72, 6, []) (P0 []) s 26 [(1, vI x1), (2, vO p2), (4, vI x4), (5, vI x5)] [] := by
  intro n
  induction n with
  | zero => intro x5 s q h; cases h
  | succ n ih =>
    intro x5 s q h rx5 hE
    unfold l_X11_isString_26 at h
    refine v_iload dX11_isString_26 3 rfl ?_
    refine v_iload dX11_isString_28 2 rfl ?_
    refine v_icmp_ge (tgt := 79) dX11_isString_30 rx5 rx4 (by decide) (fun c1 => ?_) (fun c1 => ?_)
    · rw [if_pos c1] at h
      cases h
      refine v_sub [] (L1 := []) rfl ?_
      exact hE.1 _ rfl 
    · rw [if_neg c1] at h
      refine v_iload_n dX11_isString_33 0 rfl rfl ?_
      refine v_bipush dX11_isString_34 rfl ?_
      refine v_icmp_ne (tgt := 54) dX11_isString_36 rx1 (rgl rfl) (by decide) (fun c2 => ?_) (fun c2 => ?_)
      · rw [if_neg c2] at h
        refine v_iload_n dX11_isString_54 0 rfl rfl ?_
        refine v_bipush dX11_isString_55 rfl ?_
        refine v_icmp_ne (tgt := 73) dX11_isString_57 rx1 (rgl rfl) (by decide) (fun c3 => ?_) (fun c3 => ?_)
        · rw [if_neg c3] at h
          obtain ⟨y4, e5, h⟩ := vl_some h
          refine v_iinc (L1 := [(5, vI (w32 (x5 + 1))), (1, vI x1), (2, vO p2), (4, vI x4)]) dX11_isString_73 3 rfl (by decide) rfl ?_
          rw [← e5]
          have r6 : rg y4 := by rw [e5]; exact w32_rg _
          refine v_goto (tgt := 26) dX11_isString_76 (by decide) ?_
          refine v_sub [1, 2, 3, 0] (L1 := [(1, vI x1), (2, vO p2), (4, vI x4), (5, vI y4)]) rfl ?_
          exact ih y4 s _ h r6 hE
        · rw [if_pos c3] at h
          refine v_aload_n dX11_isString_60 1 rfl rfl ?_
          refine v_iload dX11_isString_61 3 rfl ?_
          obtain ⟨r10, s7, e8, h⟩ := bd_some h
          have k9 := c_X2_at e8 hp2 rx5
          have r11 : rg r10 := k9.1.2.2
          refine v_callV (st := []) cf2 (okB_ok hp2) k9 (lw_V q1747 q1072 q1073 q299 q1074) rfl yk_X2_at ⟨Nat.le_of_ble_eq_true rfl, Nat.le_of_ble_eq_true rfl⟩ trivial ⟨(okB_kp hp2 (by decide)), trivial⟩ (Nat.le_of_ble_eq_true rfl) rfl dX11_isString_63 ?_
          refine v_bipush dX11_isString_66 rfl ?_
          refine v_icmp_le (tgt := 73) dX11_isString_68 r11 (rgl rfl) (by decide) (fun c12 => ?_) (fun c12 => ?_)
          · rw [if_pos c12] at h
            obtain ⟨y13, e14, h⟩ := vl_some h
            refine v_iinc (L1 := [(5, vI (w32 (x5 + 1))), (1, vI x1), (2, vO p2), (4, vI x4)]) dX11_isString_73 3 rfl (by decide) rfl ?_
            rw [← e14]
            have r15 : rg y13 := by rw [e14]; exact w32_rg _
            refine v_goto (tgt := 26) dX11_isString_76 (by decide) ?_
            refine v_sub [1, 2, 3, 0] (L1 := [(1, vI x1), (2, vO p2), (4, vI x4), (5, vI y13)]) rfl ?_
            exact ih y13 s7 _ h r15 hE
          · rw [if_neg c12] at h
            refine v_iconst dX11_isString_71 ?_
            cases h
            obtain ⟨z1, z2⟩ := hE.2 _ _ rfl
            subst z1
            subst z2
            exact v_zret (Or.inl rfl) dX11_isString_72
      · rw [if_pos c2] at h
        refine v_aload_n dX11_isString_39 1 rfl rfl ?_
        refine v_iload dX11_isString_40 3 rfl ?_
        obtain ⟨r19, s16, e17, h⟩ := bd_some h
        have k18 := c_X2_at e17 hp2 rx5
        have r20 : rg r19 := k18.1.2.2
        refine v_callV (st := []) cf2 (okB_ok hp2) k18 (lw_V q1747 q1072 q1073 q299 q1074) rfl yk_X2_at ⟨Nat.le_of_ble_eq_true rfl, Nat.le_of_ble_eq_true rfl⟩ trivial ⟨(okB_kp hp2 (by decide)), trivial⟩ (Nat.le_of_ble_eq_true rfl) rfl dX11_isString_42 ?_
        obtain ⟨r24, s21, e22, h⟩ := bd_some h
        have k23 := c_X11_isPrintable e22 r20
        have r25 : rg r24 := k23.1.2.2
        refine v_callS (st := []) k23 (lw_S q1924 q1925 q308 q1926) yk_X11_isPrintable ⟨Nat.le_of_ble_eq_true rfl, Nat.le_of_ble_eq_true rfl⟩ trivial ⟨(okB_kp hp2 (by decide)), trivial⟩ (Nat.le_of_ble_eq_true rfl) rfl dX11_isString_45 ?_
        refine v_if_ne (tgt := 73) dX11_isString_48 r25 (by decide) (fun c26 => ?_) (fun c26 => ?_)
        · rw [if_neg c26] at h
          obtain ⟨y27, e28, h⟩ := vl_some h
          refine v_iinc (L1 := [(5, vI (w32 (x5 + 1))), (1, vI x1), (2, vO p2), (4, vI x4)]) dX11_isString_73 3 rfl (by decide) rfl ?_
          rw [← e28]
          have r29 : rg y27 := by rw [e28]; exact w32_rg _
          refine v_goto (tgt := 26) dX11_isString_76 (by decide) ?_
          refine v_sub [1, 2, 3, 0] (L1 := [(1, vI x1), (2, vO p2), (4, vI x4), (5, vI y27)]) rfl ?_
          exact ih y27 s21 _ h r29 hE
        · rw [if_pos c26] at h
          refine v_goto (tgt := 71) dX11_isString_51 (by decide) ?_
          refine v_iconst dX11_isString_71 ?_
          cases h
          obtain ⟨z1, z2⟩ := hE.2 _ _ rfl
          subst z1
          subst z2
          exact v_zret (Or.inl rfl) dX11_isString_72

def f_X11_isString (o : Nat) (x1 : Int) (p2 : Nat) (x3 : Int) (x4 : Int) (s : vS) : Option (Int × vS) :=
  if x1 = 7 then
    bd (f_X11_isUtf8 o p2 x3 x4 s) fun r9 s6 =>
    gd (r9 = 0 ∨ r9 = 1) <|
    some (r9, s6)
  else
    stp (sI s o 1 (w32 (x4 - x3))) fun s2 =>
    lqs_0 (l_X11_isString_26 o p2 FU x1 x4 x3 s2) (fun s4 =>
      some (1, s4))
      (fun q => some q)
theorem yk_X11_isString : yOk yX11_isString 4 := ⟨by decide, by decide, by decide +kernel⟩
theorem c_X11_isString {o : Nat} {x1 : Int} {p2 : Nat} {x3 : Int} {x4 : Int} {s : vS} {out : Int × vS} (h : f_X11_isString o x1 p2 x3 x4 s = some out) (ho : okB o 10) (hp2 : okB p2 1) (rx1 : rg x1) (rx3 : rg x3) (rx4 : rg x4) : VC yX11_isString cX11_isString 6 (some .boolean) 3 72 [vO o, vI x1, vO p2, vI x3, vI x4] s (some (vI out.1)) out.2 [] := by
  unfold f_X11_isString at h
  refine VC.of RX11 (by decide) rfl (Nat.le_of_ble_eq_true rfl) ?_
  show VW cX11_isString (RX11, (some (vI out.1)), out.2, (some .boolean), 3, 72, 6, []) (P0 []) s 0 [(0, vO o), (1, vI x1), (2, vO p2), (3, vI x3), (4, vI x4)] []
  refine v_iload_n dX11_isString_0 1 rfl rfl ?_
  refine v_bipush dX11_isString_1 rfl ?_
  refine v_icmp_ne (tgt := 15) dX11_isString_3 rx1 (rgl rfl) (by decide) (fun c1 => ?_) (fun c1 => ?_)
  · rw [if_neg c1] at h
    refine v_aload_n dX11_isString_15 0 rfl rfl ?_
    refine v_iload dX11_isString_16 4 rfl ?_
    refine v_iload_n dX11_isString_18 3 rfl rfl ?_
    refine v_isub dX11_isString_19 ?_
    obtain ⟨s2, e3, h⟩ := stp_some h
    refine v_putI (f := 1) cf11 (okB_ok ho) rfl (by decide) q615 dX11_isString_20 rfl rfl ?_
    rw [← e3]
    refine v_iload_n dX11_isString_23 3 rfl rfl ?_
    refine v_istore (L1 := [(5, vI x3), (0, vO o), (1, vI x1), (2, vO p2), (3, vI x3), (4, vI x4)]) dX11_isString_24 (by decide) rfl ?_
    refine v_sub [2, 3, 5, 0] (L1 := [(1, vI x1), (2, vO p2), (4, vI x4), (5, vI x3)]) rfl ?_
    rcases lqs_0_some h with ⟨s4, e5, h⟩ | ⟨q9, e5, h⟩
    · refine wl_X11_isString_26 o p2 ho hp2 rx1 rx4 FU x3 s2 _ e5 rx3 ?_
      unfold E_X11_isString_26
      refine ⟨?_, fun v9 s9 z_ => (by cases z_)⟩
      intro s4' z_
      cases z_
      refine v_iconst dX11_isString_79 ?_
      cases h
      exact v_zret (Or.inr rfl) dX11_isString_80
    · cases h
      refine wl_X11_isString_26 o p2 ho hp2 rx1 rx4 FU x3 s2 _ e5 rx3 ?_
      unfold E_X11_isString_26
      refine ⟨fun _ z_ => (by cases z_), ?_⟩
      intro v9 s9 z_
      cases z_
      exact ⟨rfl, rfl⟩
  · rw [if_pos c1] at h
    refine v_aload_n dX11_isString_6 0 rfl rfl ?_
    refine v_aload_n dX11_isString_7 2 rfl rfl ?_
    refine v_iload_n dX11_isString_8 3 rfl rfl ?_
    refine v_iload dX11_isString_9 4 rfl ?_
    obtain ⟨r9, s6, e7, h⟩ := bd_some h
    have k8 := c_X11_isUtf8 e7 ho hp2 rx3 rx4
    have r10 : rg r9 := k8.1.2.2
    refine v_callV (st := []) cf11 (okB_ok ho) k8 (lw_V q1913 q1915 qs112 q308 q1916) rfl yk_X11_isUtf8 ⟨Nat.le_of_ble_eq_true rfl, Nat.le_of_ble_eq_true rfl⟩ trivial ⟨(okB_kp ho (by decide)), (okB_kp hp2 (by decide)), trivial⟩ (Nat.le_of_ble_eq_true rfl) rfl dX11_isString_11 ?_
    obtain ⟨g11, h⟩ := gd_some h
    cases h
    exact v_zret g11 dX11_isString_14

def E_X6_text_18 (x2 : Int) (rv : Option vA) (σo : vS) (q : vS) : Prop := ∀ (s' : vS), q = s' → VW cX6_text (RX6, rv, σo, (some .boolean), 5, 119, 4, []) (P0 []) s' 75 [(0, vO 13), (2, vI x2)] []
def l_X6_text_18 : Nat → Int → Int → Int → vS → Option (vS)
  | 0, _, _, _, _ => none
  | n + 1, x1, x2, x3, s =>
    gd (gR s 13 0 = 5) <|
    bd (f_X3_end x1 s) fun r5 s2 =>
    if (w32 (r5 - 1)) ≤ x3 then
      some s2
    else
      gd (gR s2 13 0 = 5) <|
      bdo (f_X3_text s2) fun r12 s9 =>
      gd (okB r12 1) <|
      bd (f_X2_at r12 x3 s9) fun r17 s14 =>
      bdv (f_X2_add 32 r17 s14) fun s19 =>
      gd (gR s19 13 0 = 5) <|
      bdo (f_X3_text s19) fun r26 s23 =>
      gd (okB r26 1) <|
      bd (f_X2_at r26 x3 s23) fun r31 s28 =>
      if r31 = 34 then
        vl (w32 (x3 + 1)) fun y37 =>
        vl (w32 (y37 + 1)) fun y40 =>
        l_X6_text_18 n x1 x2 y40 s28
      else
        vl (w32 (x3 + 1)) fun y34 =>
        l_X6_text_18 n x1 x2 y34 s28
theorem wl_X6_text_18 {x1 : Int} {x2 : Int} {rv : Option vA} {σo : vS}  (rx1 : rg x1) (rx2 : rg x2) : ∀ (n : Nat) (x3 : Int) (s : vS) (q : vS), l_X6_text_18 n x1 x2 x3 s = some q → rg x3 → E_X6_text_18 x2 rv σo q → VW cX6_text (RX6, rv, σo, (some .boolean), 5, 119, 4, []) (P0 []) s 18 [(0, vO 13), (1, vI x1), (2, vI x2), (3, vI x3)] [] := by
  intro n
  induction n with
  | zero => intro x3 s q h; cases h
  | succ n ih =>
    intro x3 s q h rx3 hE
    unfold l_X6_text_18 at h
    refine v_iload_n dX6_text_18 3 rfl rfl ?_
    refine v_aload_n dX6_text_19 0 rfl rfl ?_
    obtain ⟨g1, h⟩ := gd_some h
    refine v_getR (f := 0) cf6 oc13 rfl (by rw [g1]; decide) (by decide) q627 dX6_text_20 ?_
    rw [g1]
    refine v_iload_n dX6_text_23 1 rfl rfl ?_
    obtain ⟨r5, s2, e3, h⟩ := bd_some h
    have k4 := c_X3_end e3 rx1
    have r6 : rg r5 := k4.1.2.2
    refine v_callV (st := [vI x3]) cf3 oc5 k4 (lw_V q1506 q1322 q1323 q300 q1324) rfl yk_X3_end ⟨Nat.le_of_ble_eq_true rfl, Nat.le_of_ble_eq_true rfl⟩ trivial ⟨kc13, trivial⟩ (Nat.le_of_ble_eq_true rfl) rfl dX6_text_24 ?_
    refine v_iconst dX6_text_27 ?_
    refine v_isub dX6_text_28 ?_
    refine v_icmp_ge (tgt := 75) dX6_text_29 rx3 (w32_rg _) (by decide) (fun c7 => ?_) (fun c7 => ?_)
    · rw [if_pos c7] at h
      cases h
      refine v_sub [0, 2] (L1 := [(0, vO 13), (2, vI x2)]) rfl ?_
      exact hE _ rfl 
    · rw [if_neg c7] at h
      refine v_aload_n dX6_text_32 0 rfl rfl ?_
      refine v_getS (f := 10) (t := 32) cf6 oc13 rfl rfl rfl (by decide) q637 dX6_text_33 ?_
      refine v_aload_n dX6_text_36 0 rfl rfl ?_
      obtain ⟨g8, h⟩ := gd_some h
      refine v_getR (f := 0) cf6 oc13 rfl (by rw [g8]; decide) (by decide) q627 dX6_text_37 ?_
      rw [g8]
      obtain ⟨r12, s9, e10, h⟩ := bdo_some h
      have k11 := c_X3_text e10
      obtain ⟨g13, h⟩ := gd_some h
      refine v_callV (st := [vO 32]) cf3 oc5 k11 (lw_V q1505 q1328 q1329 q300 q1330) rfl yk_X3_text ⟨Nat.le_of_ble_eq_true rfl, Nat.le_of_ble_eq_true rfl⟩ ⟨kc32, trivial⟩ ⟨kc13, trivial⟩ (Nat.le_of_ble_eq_true rfl) rfl dX6_text_40 ?_
      refine v_iload_n dX6_text_43 3 rfl rfl ?_
      obtain ⟨r17, s14, e15, h⟩ := bd_some h
      have k16 := c_X2_at e15 g13 rx3
      have r18 : rg r17 := k16.1.2.2
      refine v_callV (st := [vO 32]) cf2 (okB_ok g13) k16 (lw_V q1549 q1072 q1073 q299 q1074) rfl yk_X2_at ⟨Nat.le_of_ble_eq_true rfl, Nat.le_of_ble_eq_true rfl⟩ ⟨kc32, trivial⟩ ⟨kc13, trivial⟩ (Nat.le_of_ble_eq_true rfl) rfl dX6_text_44 ?_
      obtain ⟨s19, e20, h⟩ := bdv_some h
      have k21 := c_X2_add e20 (⟨by decide, rfl⟩ : okB 32 1) r18
      refine v_callV (st := []) cf2 oc32 k21 (lw_V q1790 q1003 q1004 q299 q1005) rfl yk_X2_add ⟨Nat.le_of_ble_eq_true rfl, Nat.le_of_ble_eq_true rfl⟩ trivial ⟨kc13, trivial⟩ (Nat.le_of_ble_eq_true rfl) rfl dX6_text_47 ?_
      refine v_aload_n dX6_text_50 0 rfl rfl ?_
      obtain ⟨g22, h⟩ := gd_some h
      refine v_getR (f := 0) cf6 oc13 rfl (by rw [g22]; decide) (by decide) q627 dX6_text_51 ?_
      rw [g22]
      obtain ⟨r26, s23, e24, h⟩ := bdo_some h
      have k25 := c_X3_text e24
      obtain ⟨g27, h⟩ := gd_some h
      refine v_callV (st := []) cf3 oc5 k25 (lw_V q1505 q1328 q1329 q300 q1330) rfl yk_X3_text ⟨Nat.le_of_ble_eq_true rfl, Nat.le_of_ble_eq_true rfl⟩ trivial ⟨kc13, trivial⟩ (Nat.le_of_ble_eq_true rfl) rfl dX6_text_54 ?_
      refine v_iload_n dX6_text_57 3 rfl rfl ?_
      obtain ⟨r31, s28, e29, h⟩ := bd_some h
      have k30 := c_X2_at e29 g27 rx3
      have r32 : rg r31 := k30.1.2.2
      refine v_callV (st := []) cf2 (okB_ok g27) k30 (lw_V q1549 q1072 q1073 q299 q1074) rfl yk_X2_at ⟨Nat.le_of_ble_eq_true rfl, Nat.le_of_ble_eq_true rfl⟩ trivial ⟨kc13, trivial⟩ (Nat.le_of_ble_eq_true rfl) rfl dX6_text_58 ?_
      refine v_bipush dX6_text_61 rfl ?_
      refine v_icmp_ne (tgt := 69) dX6_text_63 r32 (rgl rfl) (by decide) (fun c33 => ?_) (fun c33 => ?_)
      · rw [if_neg c33] at h
        obtain ⟨y34, e35, h⟩ := vl_some h
        refine v_iinc (L1 := [(3, vI (w32 (x3 + 1))), (0, vO 13), (1, vI x1), (2, vI x2)]) dX6_text_69 3 rfl (by decide) rfl ?_
        rw [← e35]
        have r36 : rg y34 := by rw [e35]; exact w32_rg _
        refine v_goto (tgt := 18) dX6_text_72 (by decide) ?_
        refine v_sub [1, 2, 3, 0] (L1 := [(0, vO 13), (1, vI x1), (2, vI x2), (3, vI y34)]) rfl ?_
        exact ih y34 s28 _ h r36 hE
      · rw [if_pos c33] at h
        obtain ⟨y37, e38, h⟩ := vl_some h
        refine v_iinc (L1 := [(3, vI (w32 (x3 + 1))), (0, vO 13), (1, vI x1), (2, vI x2)]) dX6_text_66 3 rfl (by decide) rfl ?_
        rw [← e38]
        have r39 : rg y37 := by rw [e38]; exact w32_rg _
        obtain ⟨y40, e41, h⟩ := vl_some h
        refine v_iinc (L1 := [(3, vI (w32 (y37 + 1))), (0, vO 13), (1, vI x1), (2, vI x2)]) dX6_text_69 0 rfl (by decide) rfl ?_
        rw [← e41]
        have r42 : rg y40 := by rw [e41]; exact w32_rg _
        refine v_goto (tgt := 18) dX6_text_72 (by decide) ?_
        refine v_sub [1, 2, 3, 0] (L1 := [(0, vO 13), (1, vI x1), (2, vI x2), (3, vI y40)]) rfl ?_
        exact ih y40 s28 _ h r42 hE

def j_X6_text_114 (z2 : Int) (z3 : Int) (z4 : Int) (s : vS) : Option (Int × vS) :=
  bd (f_X8_read 16 32 z2 z3 z4 30 s) fun r4 s1 =>
  if r4 = 0 then
    some (1, s1)
  else
    some (0, s1)
theorem wj_X6_text_114 {z2 : Int} {z3 : Int} {z4 : Int} {s : vS} {out : Int × vS} (h : j_X6_text_114 z2 z3 z4 s = some out)  (rz2 : rg z2) (rz3 : rg z3) (rz4 : rg z4) : VW cX6_text (RX6, (some (vI out.1)), out.2, (some .boolean), 5, 119, 4, []) (P0 []) s 114 [(0, vO 13)] [vI z4, vI z3, vI z2, vO 32, vO 16] := by
  unfold j_X6_text_114 at h
  refine v_aload_n dX6_text_114 0 rfl rfl ?_
  refine v_getS (f := 9) (t := 30) cf6 oc13 rfl rfl rfl (by decide) q636 dX6_text_115 ?_
  obtain ⟨r4, s1, e2, h⟩ := bd_some h
  have k3 := c_X8_read e2 (⟨by decide, rfl⟩ : okB 16 7) (⟨by decide, rfl⟩ : okB 32 1) (⟨by decide, rfl⟩ : okB 30 1) rz2 rz3 rz4
  have r5 : rg r4 := k3.1.2.2
  refine v_callV (st := []) cf8 oc16 k3 (lw_V q1858 q1859 q1860 q305 q1861) rfl yk_X8_read ⟨Nat.le_of_ble_eq_true rfl, Nat.le_of_ble_eq_true rfl⟩ trivial ⟨kc13, trivial⟩ (Nat.le_of_ble_eq_true rfl) rfl dX6_text_118 ?_
  refine v_if_ne (tgt := 128) dX6_text_121 r5 (by decide) (fun c6 => ?_) (fun c6 => ?_)
  · rw [if_neg c6] at h
    refine v_iconst dX6_text_128 ?_
    cases h
    exact v_zret (Or.inl rfl) dX6_text_129
  · rw [if_pos c6] at h
    refine v_iconst dX6_text_124 ?_
    refine v_goto (tgt := 129) dX6_text_125 (by decide) ?_
    cases h
    exact v_zret (Or.inr rfl) dX6_text_129

def j_X6_text_87 (x2 : Int) (s : vS) : Option (Int × vS) :=
  bd (f_X2_size 32 s) fun r4 s1 =>
  if x2 = 11 then
    j_X6_text_114 0 r4 1 s1
  else
    j_X6_text_114 0 r4 0 s1
theorem wj_X6_text_87 {x2 : Int} {s : vS} {out : Int × vS} (h : j_X6_text_87 x2 s = some out)  (rx2 : rg x2) : VW cX6_text (RX6, (some (vI out.1)), out.2, (some .boolean), 5, 119, 4, []) (P0 []) s 87 [(0, vO 13), (2, vI x2)] [] := by
  unfold j_X6_text_87 at h
  refine v_aload_n dX6_text_87 0 rfl rfl ?_
  refine v_getS (f := 3) (t := 16) cf6 oc13 rfl rfl rfl (by decide) q630 dX6_text_88 ?_
  refine v_aload_n dX6_text_91 0 rfl rfl ?_
  refine v_getS (f := 10) (t := 32) cf6 oc13 rfl rfl rfl (by decide) q637 dX6_text_92 ?_
  refine v_iconst dX6_text_95 ?_
  refine v_aload_n dX6_text_96 0 rfl rfl ?_
  refine v_getS (f := 10) (t := 32) cf6 oc13 rfl rfl rfl (by decide) q637 dX6_text_97 ?_
  obtain ⟨r4, s1, e2, h⟩ := bd_some h
  have k3 := c_X2_size e2 (⟨by decide, rfl⟩ : okB 32 1)
  have r5 : rg r4 := k3.1.2.2
  refine v_callV (st := [vI 0, vO 32, vO 16]) cf2 oc32 k3 (lw_V q1524 q918 q919 q299 q920) rfl yk_X2_size ⟨Nat.le_of_ble_eq_true rfl, Nat.le_of_ble_eq_true rfl⟩ ⟨kc32, kc16, trivial⟩ ⟨kc13, trivial⟩ (Nat.le_of_ble_eq_true rfl) rfl dX6_text_100 ?_
  refine v_iload_n dX6_text_103 1 rfl rfl ?_
  refine v_bipush dX6_text_104 rfl ?_
  refine v_icmp_ne (tgt := 113) dX6_text_106 rx2 (rgl rfl) (by decide) (fun c6 => ?_) (fun c6 => ?_)
  · rw [if_neg c6] at h
    refine v_iconst dX6_text_113 ?_
    refine v_sub [0] (L1 := [(0, vO 13)]) rfl ?_
    exact wj_X6_text_114 h (rgl rfl) r5 (rgl rfl)
  · rw [if_pos c6] at h
    refine v_iconst dX6_text_109 ?_
    refine v_goto (tgt := 114) dX6_text_110 (by decide) ?_
    refine v_sub [0] (L1 := [(0, vO 13)]) rfl ?_
    exact wj_X6_text_114 h (rgl rfl) r5 (rgl rfl)

def f_X6_text (x1 : Int) (x2 : Int) (s : vS) : Option (Int × vS) :=
  bdv (f_X2_clear 32 s) fun s1 =>
  gd (gR s1 13 0 = 5) <|
  bd (f_X3_start x1 s1) fun r8 s5 =>
  vl (w32 (r8 + 1)) fun y10 =>
  lq_0 (l_X6_text_18 FU x1 x2 y10 s5) fun s13 =>
  if x2 = 10 then
    j_X6_text_87 x2 s13
  else
    if x2 = 11 then
      j_X6_text_87 x2 s13
    else
      bd (f_X2_size 32 s13) fun r20 s17 =>
      bdv (f_X2_all 30 32 0 r20 s17) fun s22 =>
      bd (f_X2_size 32 s22) fun r28 s25 =>
      bd (f_X11_isString 43 x2 32 0 r28 s25) fun r33 s30 =>
      gd (r33 = 0 ∨ r33 = 1) <|
      some (r33, s30)
theorem yk_X6_text : yOk yX6_text 2 := ⟨by decide, by decide, by decide +kernel⟩
theorem c_X6_text {x1 : Int} {x2 : Int} {s : vS} {out : Int × vS} (h : f_X6_text x1 x2 s = some out)  (rx1 : rg x1) (rx2 : rg x2) : VC yX6_text cX6_text 4 (some .boolean) 5 119 [vO 13, vI x1, vI x2] s (some (vI out.1)) out.2 [] := by
  unfold f_X6_text at h
  refine VC.of RX6 (by decide) rfl (Nat.le_of_ble_eq_true rfl) ?_
  show VW cX6_text (RX6, (some (vI out.1)), out.2, (some .boolean), 5, 119, 4, []) (P0 []) s 0 [(0, vO 13), (1, vI x1), (2, vI x2)] []
  refine v_aload_n dX6_text_0 0 rfl rfl ?_
  refine v_getS (f := 10) (t := 32) cf6 oc13 rfl rfl rfl (by decide) q637 dX6_text_1 ?_
  obtain ⟨s1, e2, h⟩ := bdv_some h
  have k3 := c_X2_clear e2 (⟨by decide, rfl⟩ : okB 32 1)
  refine v_callV (st := []) cf2 oc32 k3 (lw_V q1436 q1055 q1056 q299 q1057) rfl yk_X2_clear ⟨Nat.le_of_ble_eq_true rfl, Nat.le_of_ble_eq_true rfl⟩ trivial ⟨kc13, trivial⟩ (Nat.le_of_ble_eq_true rfl) rfl dX6_text_4 ?_
  refine v_aload_n dX6_text_7 0 rfl rfl ?_
  obtain ⟨g4, h⟩ := gd_some h
  refine v_getR (f := 0) cf6 oc13 rfl (by rw [g4]; decide) (by decide) q627 dX6_text_8 ?_
  rw [g4]
  refine v_iload_n dX6_text_11 1 rfl rfl ?_
  obtain ⟨r8, s5, e6, h⟩ := bd_some h
  have k7 := c_X3_start e6 rx1
  have r9 : rg r8 := k7.1.2.2
  refine v_callV (st := []) cf3 oc5 k7 (lw_V q1482 q1288 q1289 q300 q1290) rfl yk_X3_start ⟨Nat.le_of_ble_eq_true rfl, Nat.le_of_ble_eq_true rfl⟩ trivial ⟨kc13, trivial⟩ (Nat.le_of_ble_eq_true rfl) rfl dX6_text_12 ?_
  refine v_iconst dX6_text_15 ?_
  refine v_iadd dX6_text_16 ?_
  obtain ⟨y10, e11, h⟩ := vl_some h
  rw [← e11]
  have r12 : rg y10 := by rw [e11]; exact w32_rg _
  refine v_istore_n (L1 := [(3, vI y10), (0, vO 13), (1, vI x1), (2, vI x2)]) dX6_text_17 rfl (by decide) rfl ?_
  refine v_sub [1, 2, 3, 0] (L1 := [(0, vO 13), (1, vI x1), (2, vI x2), (3, vI y10)]) rfl ?_
  obtain ⟨s13, e14, h⟩ := lq_0_some h
  refine wl_X6_text_18 rx1 rx2 FU y10 s5 _ e14 r12 ?_
  unfold E_X6_text_18
  intro s13' z_
  cases z_
  refine v_iload_n dX6_text_75 1 rfl rfl ?_
  refine v_bipush dX6_text_76 rfl ?_
  refine v_icmp_eq (tgt := 87) dX6_text_78 rx2 (rgl rfl) (by decide) (fun c15 => ?_) (fun c15 => ?_)
  · rw [if_pos c15] at h
    exact wj_X6_text_87 h rx2
  · rw [if_neg c15] at h
    refine v_iload_n dX6_text_81 1 rfl rfl ?_
    refine v_bipush dX6_text_82 rfl ?_
    refine v_icmp_ne (tgt := 130) dX6_text_84 rx2 (rgl rfl) (by decide) (fun c16 => ?_) (fun c16 => ?_)
    · rw [if_neg c16] at h
      refine v_aload_n dX6_text_130 0 rfl rfl ?_
      refine v_getS (f := 9) (t := 30) cf6 oc13 rfl rfl rfl (by decide) q636 dX6_text_131 ?_
      refine v_aload_n dX6_text_134 0 rfl rfl ?_
      refine v_getS (f := 10) (t := 32) cf6 oc13 rfl rfl rfl (by decide) q637 dX6_text_135 ?_
      refine v_iconst dX6_text_138 ?_
      refine v_aload_n dX6_text_139 0 rfl rfl ?_
      refine v_getS (f := 10) (t := 32) cf6 oc13 rfl rfl rfl (by decide) q637 dX6_text_140 ?_
      obtain ⟨r20, s17, e18, h⟩ := bd_some h
      have k19 := c_X2_size e18 (⟨by decide, rfl⟩ : okB 32 1)
      have r21 : rg r20 := k19.1.2.2
      refine v_callV (st := [vI 0, vO 32, vO 30]) cf2 oc32 k19 (lw_V q1524 q918 q919 q299 q920) rfl yk_X2_size ⟨Nat.le_of_ble_eq_true rfl, Nat.le_of_ble_eq_true rfl⟩ ⟨kc32, kc30, trivial⟩ ⟨kc13, trivial⟩ (Nat.le_of_ble_eq_true rfl) rfl dX6_text_143 ?_
      obtain ⟨s22, e23, h⟩ := bdv_some h
      have k24 := c_X2_all e23 (⟨by decide, rfl⟩ : okB 30 1) (⟨by decide, rfl⟩ : okB 32 1) (rgl rfl) r21
      refine v_callV (st := []) cf2 oc30 k24 (lw_V q1781 q1059 q1060 q299 q1061) rfl yk_X2_all ⟨Nat.le_of_ble_eq_true rfl, Nat.le_of_ble_eq_true rfl⟩ trivial ⟨kc13, trivial⟩ (Nat.le_of_ble_eq_true rfl) rfl dX6_text_146 ?_
      refine v_aload_n dX6_text_149 0 rfl rfl ?_
      refine v_getS (f := 4) (t := 43) cf6 oc13 rfl rfl rfl (by decide) q631 dX6_text_150 ?_
      refine v_iload_n dX6_text_153 1 rfl rfl ?_
      refine v_aload_n dX6_text_154 0 rfl rfl ?_
      refine v_getS (f := 10) (t := 32) cf6 oc13 rfl rfl rfl (by decide) q637 dX6_text_155 ?_
      refine v_iconst dX6_text_158 ?_
      refine v_aload_n dX6_text_159 0 rfl rfl ?_
      refine v_getS (f := 10) (t := 32) cf6 oc13 rfl rfl rfl (by decide) q637 dX6_text_160 ?_
      obtain ⟨r28, s25, e26, h⟩ := bd_some h
      have k27 := c_X2_size e26 (⟨by decide, rfl⟩ : okB 32 1)
      have r29 : rg r28 := k27.1.2.2
      refine v_callV (st := [vI 0, vO 32, vI x2, vO 43]) cf2 oc32 k27 (lw_V q1524 q918 q919 q299 q920) rfl yk_X2_size ⟨Nat.le_of_ble_eq_true rfl, Nat.le_of_ble_eq_true rfl⟩ ⟨kc32, kc43, trivial⟩ ⟨kc13, trivial⟩ (Nat.le_of_ble_eq_true rfl) rfl dX6_text_163 ?_
      obtain ⟨r33, s30, e31, h⟩ := bd_some h
      have k32 := c_X11_isString e31 (⟨by decide, rfl⟩ : okB 43 10) (⟨by decide, rfl⟩ : okB 32 1) rx2 (rgl rfl) r29
      have r34 : rg r33 := k32.1.2.2
      refine v_callV (st := []) cf11 oc43 k32 (lw_V q1909 q1910 q1911 q308 q1912) rfl yk_X11_isString ⟨Nat.le_of_ble_eq_true rfl, Nat.le_of_ble_eq_true rfl⟩ trivial ⟨kc13, trivial⟩ (Nat.le_of_ble_eq_true rfl) rfl dX6_text_166 ?_
      obtain ⟨g35, h⟩ := gd_some h
      cases h
      exact v_zret g35 dX6_text_169
    · rw [if_pos c16] at h
      exact wj_X6_text_87 h rx2

def j_X6_write_120 (x4 : Int) (z1 : Int) (s : vS) : Option (Int × vS) :=
  bdv (f_X2_add 30 z1 s) fun s1 =>
  if x4 = 0 then
    some (1, s1)
  else
    if x4 = 1 then
      some (1, s1)
    else
      some (0, s1)
theorem wj_X6_write_120 {x4 : Int} {z1 : Int} {s : vS} {out : Int × vS} (h : j_X6_write_120 x4 z1 s = some out)  (rx4 : rg x4) (rz1 : rg z1) : VW cX6_write (RX6, (some (vI out.1)), out.2, (some .boolean), 7, 170, 6, []) (P0 []) s 120 [(4, vI x4)] [vI z1, vO 30] := by
  unfold j_X6_write_120 at h
  obtain ⟨s1, e2, h⟩ := bdv_some h
  have k3 := c_X2_add e2 (⟨by decide, rfl⟩ : okB 30 1) rz1
  refine v_callV (st := []) cf2 oc30 k3 (lw_V q1790 q1003 q1004 q299 q1005) rfl yk_X2_add ⟨Nat.le_of_ble_eq_true rfl, Nat.le_of_ble_eq_true rfl⟩ trivial trivial (Nat.le_of_ble_eq_true rfl) rfl dX6_write_120 ?_
  refine v_iload dX6_write_123 0 rfl ?_
  refine v_if_eq (tgt := 134) dX6_write_125 rx4 (by decide) (fun c4 => ?_) (fun c4 => ?_)
  · rw [if_pos c4] at h
    refine v_iconst dX6_write_134 ?_
    refine v_goto (tgt := 139) dX6_write_135 (by decide) ?_
    cases h
    exact v_zret (Or.inr rfl) dX6_write_139
  · rw [if_neg c4] at h
    refine v_iload dX6_write_128 0 rfl ?_
    refine v_iconst dX6_write_130 ?_
    refine v_icmp_ne (tgt := 138) dX6_write_131 rx4 (rgl rfl) (by decide) (fun c5 => ?_) (fun c5 => ?_)
    · rw [if_neg c5] at h
      refine v_iconst dX6_write_138 ?_
      cases h
      exact v_zret (Or.inl rfl) dX6_write_139
    · rw [if_pos c5] at h
      refine v_iconst dX6_write_134 ?_
      refine v_goto (tgt := 139) dX6_write_135 (by decide) ?_
      cases h
      exact v_zret (Or.inr rfl) dX6_write_139

def j_X6_write_231 (z1 : Int) (s : vS) : Option (Int × vS) :=
  bdv (f_X7_write 14 z1 30 s) fun s1 =>
  some (1, s1)
theorem wj_X6_write_231 {z1 : Int} {s : vS} {out : Int × vS} (h : j_X6_write_231 z1 s = some out)  (rz1 : rg z1) : VW cX6_write (RX6, (some (vI out.1)), out.2, (some .boolean), 7, 170, 6, []) (P0 []) s 231 [(0, vO 13)] [vI z1, vO 14] := by
  unfold j_X6_write_231 at h
  refine v_aload_n dX6_write_231 0 rfl rfl ?_
  refine v_getS (f := 9) (t := 30) cf6 oc13 rfl rfl rfl (by decide) q636 dX6_write_232 ?_
  obtain ⟨s1, e2, h⟩ := bdv_some h
  have k3 := c_X7_write e2 (⟨by decide, rfl⟩ : okB 14 6) (⟨by decide, rfl⟩ : okB 30 1) rz1
  refine v_callV (st := []) cf7 oc14 k3 (lw_V q1525 q1526 q1527 q304 q1528) rfl yk_X7_write ⟨Nat.le_of_ble_eq_true rfl, Nat.le_of_ble_eq_true rfl⟩ trivial ⟨kc13, trivial⟩ (Nat.le_of_ble_eq_true rfl) rfl dX6_write_235 ?_
  refine v_iconst dX6_write_238 ?_
  cases h
  exact v_zret (Or.inr rfl) dX6_write_239

def j_X6_write_268 (z1 : Int) (z2 : Int) (s : vS) : Option (Int × vS) :=
  bd (f_X6_digits z1 z2 1 s) fun r4 s1 =>
  gd (r4 = 0 ∨ r4 = 1) <|
  some (r4, s1)
theorem wj_X6_write_268 {z1 : Int} {z2 : Int} {s : vS} {out : Int × vS} (h : j_X6_write_268 z1 z2 s = some out)  (rz1 : rg z1) (rz2 : rg z2) : VW cX6_write (RX6, (some (vI out.1)), out.2, (some .boolean), 7, 170, 6, []) (P0 []) s 268 [] [vI z2, vI z1, vO 13] := by
  unfold j_X6_write_268 at h
  refine v_iconst dX6_write_268 ?_
  obtain ⟨r4, s1, e2, h⟩ := bd_some h
  have k3 := c_X6_digits e2 rz1 rz2 (rgl rfl)
  have r5 : rg r4 := k3.1.2.2
  refine v_callV (st := []) cf6 oc13 k3 (lw_V q1791 q1793 qs96 q303 q1794) rfl yk_X6_digits ⟨Nat.le_of_ble_eq_true rfl, Nat.le_of_ble_eq_true rfl⟩ trivial trivial (Nat.le_of_ble_eq_true rfl) rfl dX6_write_269 ?_
  refine v_goto (tgt := 296) dX6_write_272 (by decide) ?_
  obtain ⟨g6, h⟩ := gd_some h
  cases h
  exact v_zret g6 dX6_write_296

def j_X6_write_253 (x4 : Int) (x5 : Int) (s : vS) : Option (Int × vS) :=
  if x4 = 6 then
    j_X6_write_268 x5 1 s
  else
    j_X6_write_268 x5 0 s
theorem wj_X6_write_253 {x4 : Int} {x5 : Int} {s : vS} {out : Int × vS} (h : j_X6_write_253 x4 x5 s = some out)  (rx4 : rg x4) (rx5 : rg x5) : VW cX6_write (RX6, (some (vI out.1)), out.2, (some .boolean), 7, 170, 6, []) (P0 []) s 253 [(0, vO 13), (4, vI x4), (5, vI x5)] [] := by
  unfold j_X6_write_253 at h
  refine v_aload_n dX6_write_253 0 rfl rfl ?_
  refine v_iload dX6_write_254 2 rfl ?_
  refine v_iload dX6_write_256 1 rfl ?_
  refine v_bipush dX6_write_258 rfl ?_
  refine v_icmp_ne (tgt := 267) dX6_write_260 rx4 (rgl rfl) (by decide) (fun c1 => ?_) (fun c1 => ?_)
  · rw [if_neg c1] at h
    refine v_iconst dX6_write_267 ?_
    refine v_sub [] (L1 := []) rfl ?_
    exact wj_X6_write_268 h rx5 (rgl rfl)
  · rw [if_pos c1] at h
    refine v_iconst dX6_write_263 ?_
    refine v_goto (tgt := 268) dX6_write_264 (by decide) ?_
    refine v_sub [] (L1 := []) rfl ?_
    exact wj_X6_write_268 h rx5 (rgl rfl)

def j_X6_write_325 (z1 : Int) (z2 : Int) (s : vS) : Option (Int × vS) :=
  bd (f_X6_digits z1 z2 0 s) fun r4 s1 =>
  if r4 = 0 then
    some (0, s1)
  else
    some (1, s1)
theorem wj_X6_write_325 {z1 : Int} {z2 : Int} {s : vS} {out : Int × vS} (h : j_X6_write_325 z1 z2 s = some out)  (rz1 : rg z1) (rz2 : rg z2) : VW cX6_write (RX6, (some (vI out.1)), out.2, (some .boolean), 7, 170, 6, []) (P0 []) s 325 [] [vI z2, vI z1, vO 13] := by
  unfold j_X6_write_325 at h
  refine v_iconst dX6_write_325 ?_
  obtain ⟨r4, s1, e2, h⟩ := bd_some h
  have k3 := c_X6_digits e2 rz1 rz2 (rgl rfl)
  have r5 : rg r4 := k3.1.2.2
  refine v_callV (st := []) cf6 oc13 k3 (lw_V q1791 q1793 qs96 q303 q1794) rfl yk_X6_digits ⟨Nat.le_of_ble_eq_true rfl, Nat.le_of_ble_eq_true rfl⟩ trivial trivial (Nat.le_of_ble_eq_true rfl) rfl dX6_write_326 ?_
  refine v_if_eq (tgt := 336) dX6_write_329 r5 (by decide) (fun c6 => ?_) (fun c6 => ?_)
  · rw [if_pos c6] at h
    refine v_iconst dX6_write_336 ?_
    cases h
    exact v_zret (Or.inl rfl) dX6_write_337
  · rw [if_neg c6] at h
    refine v_iconst dX6_write_332 ?_
    refine v_goto (tgt := 337) dX6_write_333 (by decide) ?_
    cases h
    exact v_zret (Or.inr rfl) dX6_write_337

def j_X6_write_310 (x4 : Int) (x5 : Int) (s : vS) : Option (Int × vS) :=
  if x4 = 6 then
    j_X6_write_325 x5 1 s
  else
    j_X6_write_325 x5 0 s
theorem wj_X6_write_310 {x4 : Int} {x5 : Int} {s : vS} {out : Int × vS} (h : j_X6_write_310 x4 x5 s = some out)  (rx4 : rg x4) (rx5 : rg x5) : VW cX6_write (RX6, (some (vI out.1)), out.2, (some .boolean), 7, 170, 6, []) (P0 []) s 310 [(0, vO 13), (4, vI x4), (5, vI x5)] [] := by
  unfold j_X6_write_310 at h
  refine v_aload_n dX6_write_310 0 rfl rfl ?_
  refine v_iload dX6_write_311 2 rfl ?_
  refine v_iload dX6_write_313 1 rfl ?_
  refine v_bipush dX6_write_315 rfl ?_
  refine v_icmp_ne (tgt := 324) dX6_write_317 rx4 (rgl rfl) (by decide) (fun c1 => ?_) (fun c1 => ?_)
  · rw [if_neg c1] at h
    refine v_iconst dX6_write_324 ?_
    refine v_sub [] (L1 := []) rfl ?_
    exact wj_X6_write_325 h rx5 (rgl rfl)
  · rw [if_pos c1] at h
    refine v_iconst dX6_write_320 ?_
    refine v_goto (tgt := 325) dX6_write_321 (by decide) ?_
    refine v_sub [] (L1 := []) rfl ?_
    exact wj_X6_write_325 h rx5 (rgl rfl)

def f_X6_write (x1 : Int) (x2 : Int) (x3 : Int) (s : vS) : Option (Int × vS) :=
  bd (f_X4_at x1 5 s) fun r4 s1 =>
  bd (f_X4_lexeme x1 s1) fun r9 s6 =>
  if x3 = 0 then
    if r4 = 0 then
      j_X6_write_120 r4 255 s6
    else
      j_X6_write_120 r4 0 s6
  else
  if x3 = 1 then
    if r4 = 2 then
      some (1, s6)
    else
      some (0, s6)
  else
  if x3 = 2 then
    if r4 = 3 then
      gd (gR s6 13 0 = 5) <|
      bdo (f_X3_text s6) fun r21 s18 =>
      gd (okB r21 1) <|
      gd (gR s18 13 0 = 5) <|
      bd (f_X4_at x1 7 s18) fun r27 s24 =>
      bd (f_X3_start r27 s24) fun r32 s29 =>
      gd (gR s29 13 0 = 5) <|
      bd (f_X4_at x1 7 s29) fun r38 s35 =>
      bd (f_X3_end r38 s35) fun r43 s40 =>
      bdv (f_X7_read 14 r21 r32 r43 s40) fun s45 =>
      bd (f_X4_at x1 6 s45) fun r51 s48 =>
      if r51 = 1 then
        j_X6_write_231 1 s48
      else
        j_X6_write_231 0 s48
    else
      some (0, s6)
  else
  if x3 = 3 then
    some (0, s6)
  else
  if x3 = 4 then
    if r4 = 5 then
      j_X6_write_253 r4 r9 s6
    else
      if r4 = 6 then
        j_X6_write_253 r4 r9 s6
      else
        if r4 = 8 then
          bd (f_X6_bitList x1 x2 s6) fun r62 s59 =>
          if r62 = 0 then
            some (0, s59)
          else
            some (1, s59)
        else
          some (0, s6)
  else
  if x3 = 5 then
    if r4 = 5 then
      j_X6_write_310 r4 r9 s6
    else
      if r4 = 6 then
        j_X6_write_310 r4 r9 s6
      else
        some (0, s6)
  else
  if x3 = 6 then
    if r4 = 8 then
      bd (f_X6_oid x1 s6) fun r73 s70 =>
      if r73 = 0 then
        some (0, s70)
      else
        some (1, s70)
    else
      some (0, s6)
  else
  if x3 = 7 then
    if r4 = 7 then
      bd (f_X6_text r9 x3 s6) fun r81 s78 =>
      if r81 = 0 then
        some (0, s78)
      else
        some (1, s78)
    else
      some (0, s6)
  else
  if x3 = 8 then
    if r4 = 7 then
      bd (f_X6_text r9 x3 s6) fun r89 s86 =>
      if r89 = 0 then
        some (0, s86)
      else
        some (1, s86)
    else
      some (0, s6)
  else
  if x3 = 9 then
    if r4 = 7 then
      bd (f_X6_text r9 x3 s6) fun r97 s94 =>
      if r97 = 0 then
        some (0, s94)
      else
        some (1, s94)
    else
      some (0, s6)
  else
  if x3 = 10 then
    if r4 = 7 then
      bd (f_X6_text r9 x3 s6) fun r105 s102 =>
      if r105 = 0 then
        some (0, s102)
      else
        some (1, s102)
    else
      some (0, s6)
  else
  if x3 = 11 then
    if r4 = 7 then
      bd (f_X6_text r9 x3 s6) fun r113 s110 =>
      if r113 = 0 then
        some (0, s110)
      else
        some (1, s110)
    else
      some (0, s6)
  else
  if x3 = 12 then
    if r4 = 8 then
      bd (f_X4_parts x1 s6) fun r121 s118 =>
      if r121 = (-1) then
        bd (f_X6_mayBeEmpty x2 s118) fun r127 s124 =>
        if r127 = 0 then
          some (0, s124)
        else
          some (1, s124)
      else
        some (0, s118)
    else
      some (0, s6)
  else
  if x3 = 13 then
    if r4 = 8 then
      bd (f_X4_parts x1 s6) fun r135 s132 =>
      if r135 = (-1) then
        bd (f_X6_mayBeEmpty x2 s132) fun r141 s138 =>
        if r141 = 0 then
          some (0, s138)
        else
          some (1, s138)
      else
        some (0, s132)
    else
      some (0, s6)
  else
  if x3 = 14 then
    if r4 = 8 then
      bd (f_X4_parts x1 s6) fun r149 s146 =>
      if r149 = (-1) then
        bd (f_X6_mayBeEmpty x2 s146) fun r155 s152 =>
        if r155 = 0 then
          some (0, s152)
        else
          some (1, s152)
      else
        some (0, s146)
    else
      some (0, s6)
  else
  if x3 = 15 then
    if r4 = 8 then
      bd (f_X4_parts x1 s6) fun r163 s160 =>
      if r163 = (-1) then
        bd (f_X6_mayBeEmpty x2 s160) fun r169 s166 =>
        if r169 = 0 then
          some (0, s166)
        else
          some (1, s166)
      else
        some (0, s160)
    else
      some (0, s6)
  else
  if x3 = 16 then
    some (0, s6)
  else
    if r4 = 8 then
      bd (f_X4_parts x1 s6) fun r177 s174 =>
      if r177 = (-1) then
        bd (f_X6_mayBeEmpty x2 s174) fun r183 s180 =>
        if r183 = 0 then
          some (0, s180)
        else
          some (1, s180)
      else
        some (0, s174)
    else
      some (0, s6)
theorem yk_X6_write : yOk yX6_write 3 := ⟨by decide, by decide, by decide +kernel⟩
theorem c_X6_write {x1 : Int} {x2 : Int} {x3 : Int} {s : vS} {out : Int × vS} (h : f_X6_write x1 x2 x3 s = some out)  (rx1 : rg x1) (rx2 : rg x2) (rx3 : rg x3) : VC yX6_write cX6_write 6 (some .boolean) 7 170 [vO 13, vI x1, vI x2, vI x3] s (some (vI out.1)) out.2 [] := by
  unfold f_X6_write at h
  refine VC.of RX6 (by decide) rfl (Nat.le_of_ble_eq_true rfl) ?_
  show VW cX6_write (RX6, (some (vI out.1)), out.2, (some .boolean), 7, 170, 6, []) (P0 []) s 0 [(0, vO 13), (1, vI x1), (2, vI x2), (3, vI x3)] []
  refine v_aload_n dX6_write_0 0 rfl rfl ?_
  refine v_getS (f := 1) (t := 10) cf6 oc13 rfl rfl rfl (by decide) q628 dX6_write_1 ?_
  refine v_iload_n dX6_write_4 1 rfl rfl ?_
  refine v_iconst dX6_write_5 ?_
  obtain ⟨r4, s1, e2, h⟩ := bd_some h
  have k3 := c_X4_at e2 rx1 (rgl rfl)
  have r5 : rg r4 := k3.1.2.2
  refine v_callV (st := []) cf4 oc10 k3 (lw_V q1500 q1400 q1401 q301 q1402) rfl yk_X4_at ⟨Nat.le_of_ble_eq_true rfl, Nat.le_of_ble_eq_true rfl⟩ trivial ⟨kc13, trivial⟩ (Nat.le_of_ble_eq_true rfl) rfl dX6_write_6 ?_
  refine v_istore (L1 := [(4, vI r4), (0, vO 13), (1, vI x1), (2, vI x2), (3, vI x3)]) dX6_write_9 (by decide) rfl ?_
  refine v_aload_n dX6_write_11 1 rfl rfl ?_
  refine v_getS (f := 1) (t := 10) cf6 oc13 rfl rfl rfl (by decide) q628 dX6_write_12 ?_
  refine v_iload_n dX6_write_15 2 rfl rfl ?_
  obtain ⟨r9, s6, e7, h⟩ := bd_some h
  have k8 := c_X4_lexeme e7 rx1
  have r10 : rg r9 := k8.1.2.2
  refine v_callV (st := []) cf4 oc10 k8 (lw_V q1449 q1450 q1451 q301 q1452) rfl yk_X4_lexeme ⟨Nat.le_of_ble_eq_true rfl, Nat.le_of_ble_eq_true rfl⟩ trivial ⟨kc13, trivial⟩ (Nat.le_of_ble_eq_true rfl) rfl dX6_write_16 ?_
  refine v_istore (L1 := [(5, vI r9), (4, vI r4), (0, vO 13), (1, vI x1), (2, vI x2), (3, vI x3)]) dX6_write_19 (by decide) rfl ?_
  refine v_iload_n dX6_write_21 5 rfl rfl ?_
  by_cases c11 : x3 = 0
  · rw [if_pos c11] at h
    refine v_tswI (tgt := 104) dX6_write_22 rx3 (by rw [c11]; decide) (by rw [c11]; decide) (by rw [c11]; try rfl) (by decide) ?_
    refine v_aload_n dX6_write_104 2 rfl rfl ?_
    refine v_getS (f := 9) (t := 30) cf6 oc13 rfl rfl rfl (by decide) q636 dX6_write_105 ?_
    refine v_iload dX6_write_108 1 rfl ?_
    refine v_if_ne (tgt := 119) dX6_write_110 r5 (by decide) (fun c12 => ?_) (fun c12 => ?_)
    · rw [if_neg c12] at h
      refine v_iconst dX6_write_119 ?_
      refine v_sub [1] (L1 := [(4, vI r4)]) rfl ?_
      exact wj_X6_write_120 h r5 (rgl rfl)
    · rw [if_pos c12] at h
      refine v_sipush dX6_write_113 rfl ?_
      refine v_goto (tgt := 120) dX6_write_116 (by decide) ?_
      refine v_sub [1] (L1 := [(4, vI r4)]) rfl ?_
      exact wj_X6_write_120 h r5 (rgl rfl)
  rw [if_neg c11] at h
  by_cases c13 : x3 = 1
  · rw [if_pos c13] at h
    refine v_tswI (tgt := 140) dX6_write_22 rx3 (by rw [c13]; decide) (by rw [c13]; decide) (by rw [c13]; try rfl) (by decide) ?_
    refine v_iload dX6_write_140 1 rfl ?_
    refine v_iconst dX6_write_142 ?_
    refine v_icmp_ne (tgt := 150) dX6_write_143 r5 (rgl rfl) (by decide) (fun c14 => ?_) (fun c14 => ?_)
    · rw [if_neg c14] at h
      refine v_iconst dX6_write_150 ?_
      cases h
      exact v_zret (Or.inl rfl) dX6_write_151
    · rw [if_pos c14] at h
      refine v_iconst dX6_write_146 ?_
      refine v_goto (tgt := 151) dX6_write_147 (by decide) ?_
      cases h
      exact v_zret (Or.inr rfl) dX6_write_151
  rw [if_neg c13] at h
  by_cases c15 : x3 = 2
  · rw [if_pos c15] at h
    refine v_tswI (tgt := 152) dX6_write_22 rx3 (by rw [c15]; decide) (by rw [c15]; decide) (by rw [c15]; try rfl) (by decide) ?_
    refine v_iload dX6_write_152 1 rfl ?_
    refine v_iconst dX6_write_154 ?_
    refine v_icmp_eq (tgt := 160) dX6_write_155 r5 (rgl rfl) (by decide) (fun c16 => ?_) (fun c16 => ?_)
    · rw [if_pos c16] at h
      refine v_aload_n dX6_write_160 2 rfl rfl ?_
      refine v_getS (f := 2) (t := 14) cf6 oc13 rfl rfl rfl (by decide) q629 dX6_write_161 ?_
      refine v_aload_n dX6_write_164 2 rfl rfl ?_
      obtain ⟨g17, h⟩ := gd_some h
      refine v_getR (f := 0) cf6 oc13 rfl (by rw [g17]; decide) (by decide) q627 dX6_write_165 ?_
      rw [g17]
      obtain ⟨r21, s18, e19, h⟩ := bdo_some h
      have k20 := c_X3_text e19
      obtain ⟨g22, h⟩ := gd_some h
      refine v_callV (st := [vO 14]) cf3 oc5 k20 (lw_V q1505 q1328 q1329 q300 q1330) rfl yk_X3_text ⟨Nat.le_of_ble_eq_true rfl, Nat.le_of_ble_eq_true rfl⟩ ⟨kc14, trivial⟩ ⟨kc13, trivial⟩ (Nat.le_of_ble_eq_true rfl) rfl dX6_write_168 ?_
      refine v_aload_n dX6_write_171 2 rfl rfl ?_
      obtain ⟨g23, h⟩ := gd_some h
      refine v_getR (f := 0) cf6 oc13 rfl (by rw [g23]; decide) (by decide) q627 dX6_write_172 ?_
      rw [g23]
      refine v_aload_n dX6_write_175 2 rfl rfl ?_
      refine v_getS (f := 1) (t := 10) cf6 oc13 rfl rfl rfl (by decide) q628 dX6_write_176 ?_
      refine v_iload_n dX6_write_179 3 rfl rfl ?_
      refine v_bipush dX6_write_180 rfl ?_
      obtain ⟨r27, s24, e25, h⟩ := bd_some h
      have k26 := c_X4_at e25 rx1 (rgl rfl)
      have r28 : rg r27 := k26.1.2.2
      refine v_callV (st := [vO 5, vO r21, vO 14]) cf4 oc10 k26 (lw_V q1500 q1400 q1401 q301 q1402) rfl yk_X4_at ⟨Nat.le_of_ble_eq_true rfl, Nat.le_of_ble_eq_true rfl⟩ ⟨kc5, (okB_kp g22 (by decide)), kc14, trivial⟩ ⟨kc13, trivial⟩ (Nat.le_of_ble_eq_true rfl) rfl dX6_write_182 ?_
      obtain ⟨r32, s29, e30, h⟩ := bd_some h
      have k31 := c_X3_start e30 r28
      have r33 : rg r32 := k31.1.2.2
      refine v_callV (st := [vO r21, vO 14]) cf3 oc5 k31 (lw_V q1482 q1288 q1289 q300 q1290) rfl yk_X3_start ⟨Nat.le_of_ble_eq_true rfl, Nat.le_of_ble_eq_true rfl⟩ ⟨(okB_kp g22 (by decide)), kc14, trivial⟩ ⟨kc13, trivial⟩ (Nat.le_of_ble_eq_true rfl) rfl dX6_write_185 ?_
      refine v_aload_n dX6_write_188 2 rfl rfl ?_
      obtain ⟨g34, h⟩ := gd_some h
      refine v_getR (f := 0) cf6 oc13 rfl (by rw [g34]; decide) (by decide) q627 dX6_write_189 ?_
      rw [g34]
      refine v_aload_n dX6_write_192 2 rfl rfl ?_
      refine v_getS (f := 1) (t := 10) cf6 oc13 rfl rfl rfl (by decide) q628 dX6_write_193 ?_
      refine v_iload_n dX6_write_196 3 rfl rfl ?_
      refine v_bipush dX6_write_197 rfl ?_
      obtain ⟨r38, s35, e36, h⟩ := bd_some h
      have k37 := c_X4_at e36 rx1 (rgl rfl)
      have r39 : rg r38 := k37.1.2.2
      refine v_callV (st := [vO 5, vI r32, vO r21, vO 14]) cf4 oc10 k37 (lw_V q1500 q1400 q1401 q301 q1402) rfl yk_X4_at ⟨Nat.le_of_ble_eq_true rfl, Nat.le_of_ble_eq_true rfl⟩ ⟨kc5, (okB_kp g22 (by decide)), kc14, trivial⟩ ⟨kc13, trivial⟩ (Nat.le_of_ble_eq_true rfl) rfl dX6_write_199 ?_
      obtain ⟨r43, s40, e41, h⟩ := bd_some h
      have k42 := c_X3_end e41 r39
      have r44 : rg r43 := k42.1.2.2
      refine v_callV (st := [vI r32, vO r21, vO 14]) cf3 oc5 k42 (lw_V q1506 q1322 q1323 q300 q1324) rfl yk_X3_end ⟨Nat.le_of_ble_eq_true rfl, Nat.le_of_ble_eq_true rfl⟩ ⟨(okB_kp g22 (by decide)), kc14, trivial⟩ ⟨kc13, trivial⟩ (Nat.le_of_ble_eq_true rfl) rfl dX6_write_202 ?_
      obtain ⟨s45, e46, h⟩ := bdv_some h
      have k47 := c_X7_read e46 (⟨by decide, rfl⟩ : okB 14 6) g22 r33 r44
      refine v_callV (st := []) cf7 oc14 k47 (lw_V q1507 q1508 q1509 q304 q1510) rfl yk_X7_read ⟨Nat.le_of_ble_eq_true rfl, Nat.le_of_ble_eq_true rfl⟩ trivial ⟨kc13, trivial⟩ (Nat.le_of_ble_eq_true rfl) rfl dX6_write_205 ?_
      refine v_aload_n dX6_write_208 2 rfl rfl ?_
      refine v_getS (f := 2) (t := 14) cf6 oc13 rfl rfl rfl (by decide) q629 dX6_write_209 ?_
      refine v_aload_n dX6_write_212 2 rfl rfl ?_
      refine v_getS (f := 1) (t := 10) cf6 oc13 rfl rfl rfl (by decide) q628 dX6_write_213 ?_
      refine v_iload_n dX6_write_216 3 rfl rfl ?_
      refine v_bipush dX6_write_217 rfl ?_
      obtain ⟨r51, s48, e49, h⟩ := bd_some h
      have k50 := c_X4_at e49 rx1 (rgl rfl)
      have r52 : rg r51 := k50.1.2.2
      refine v_callV (st := [vO 14]) cf4 oc10 k50 (lw_V q1500 q1400 q1401 q301 q1402) rfl yk_X4_at ⟨Nat.le_of_ble_eq_true rfl, Nat.le_of_ble_eq_true rfl⟩ ⟨kc14, trivial⟩ ⟨kc13, trivial⟩ (Nat.le_of_ble_eq_true rfl) rfl dX6_write_219 ?_
      refine v_iconst dX6_write_222 ?_
      refine v_icmp_ne (tgt := 230) dX6_write_223 r52 (rgl rfl) (by decide) (fun c53 => ?_) (fun c53 => ?_)
      · rw [if_neg c53] at h
        refine v_iconst dX6_write_230 ?_
        refine v_sub [2] (L1 := [(0, vO 13)]) rfl ?_
        exact wj_X6_write_231 h (rgl rfl)
      · rw [if_pos c53] at h
        refine v_iconst dX6_write_226 ?_
        refine v_goto (tgt := 231) dX6_write_227 (by decide) ?_
        refine v_sub [2] (L1 := [(0, vO 13)]) rfl ?_
        exact wj_X6_write_231 h (rgl rfl)
    · rw [if_neg c16] at h
      refine v_iconst dX6_write_158 ?_
      cases h
      exact v_zret (Or.inl rfl) dX6_write_159
  rw [if_neg c15] at h
  by_cases c54 : x3 = 3
  · rw [if_pos c54] at h
    refine v_tswI (tgt := 382) dX6_write_22 rx3 (by rw [c54]; decide) (by rw [c54]; decide) (by rw [c54]; try rfl) (by decide) ?_
    refine v_iconst dX6_write_382 ?_
    cases h
    exact v_zret (Or.inl rfl) dX6_write_383
  rw [if_neg c54] at h
  by_cases c55 : x3 = 4
  · rw [if_pos c55] at h
    refine v_tswI (tgt := 240) dX6_write_22 rx3 (by rw [c55]; decide) (by rw [c55]; decide) (by rw [c55]; try rfl) (by decide) ?_
    refine v_iload dX6_write_240 1 rfl ?_
    refine v_iconst dX6_write_242 ?_
    refine v_icmp_eq (tgt := 253) dX6_write_243 r5 (rgl rfl) (by decide) (fun c56 => ?_) (fun c56 => ?_)
    · rw [if_pos c56] at h
      refine v_sub [2, 1, 0] (L1 := [(0, vO 13), (4, vI r4), (5, vI r9)]) rfl ?_
      exact wj_X6_write_253 h r5 r10
    · rw [if_neg c56] at h
      refine v_iload dX6_write_246 1 rfl ?_
      refine v_bipush dX6_write_248 rfl ?_
      refine v_icmp_ne (tgt := 275) dX6_write_250 r5 (rgl rfl) (by decide) (fun c57 => ?_) (fun c57 => ?_)
      · rw [if_neg c57] at h
        refine v_iload dX6_write_275 1 rfl ?_
        refine v_bipush dX6_write_277 rfl ?_
        refine v_icmp_ne (tgt := 295) dX6_write_279 r5 (rgl rfl) (by decide) (fun c58 => ?_) (fun c58 => ?_)
        · rw [if_neg c58] at h
          refine v_iconst dX6_write_295 ?_
          cases h
          exact v_zret (Or.inl rfl) dX6_write_296
        · rw [if_pos c58] at h
          refine v_aload_n dX6_write_282 2 rfl rfl ?_
          refine v_iload_n dX6_write_283 3 rfl rfl ?_
          refine v_iload_n dX6_write_284 4 rfl rfl ?_
          obtain ⟨r62, s59, e60, h⟩ := bd_some h
          have k61 := c_X6_bitList e60 rx1 rx2
          have r63 : rg r62 := k61.1.2.2
          refine v_callV (st := []) cf6 oc13 k61 (lw_V q1796 q1798 qs97 q303 q1799) rfl yk_X6_bitList ⟨Nat.le_of_ble_eq_true rfl, Nat.le_of_ble_eq_true rfl⟩ trivial ⟨kc13, trivial⟩ (Nat.le_of_ble_eq_true rfl) rfl dX6_write_285 ?_
          refine v_if_eq (tgt := 295) dX6_write_288 r63 (by decide) (fun c64 => ?_) (fun c64 => ?_)
          · rw [if_pos c64] at h
            refine v_iconst dX6_write_295 ?_
            cases h
            exact v_zret (Or.inl rfl) dX6_write_296
          · rw [if_neg c64] at h
            refine v_iconst dX6_write_291 ?_
            refine v_goto (tgt := 296) dX6_write_292 (by decide) ?_
            cases h
            exact v_zret (Or.inr rfl) dX6_write_296
      · rw [if_pos c57] at h
        refine v_sub [2, 1, 0] (L1 := [(0, vO 13), (4, vI r4), (5, vI r9)]) rfl ?_
        exact wj_X6_write_253 h r5 r10
  rw [if_neg c55] at h
  by_cases c65 : x3 = 5
  · rw [if_pos c65] at h
    refine v_tswI (tgt := 297) dX6_write_22 rx3 (by rw [c65]; decide) (by rw [c65]; decide) (by rw [c65]; try rfl) (by decide) ?_
    refine v_iload dX6_write_297 1 rfl ?_
    refine v_iconst dX6_write_299 ?_
    refine v_icmp_eq (tgt := 310) dX6_write_300 r5 (rgl rfl) (by decide) (fun c66 => ?_) (fun c66 => ?_)
    · rw [if_pos c66] at h
      refine v_sub [2, 1, 0] (L1 := [(0, vO 13), (4, vI r4), (5, vI r9)]) rfl ?_
      exact wj_X6_write_310 h r5 r10
    · rw [if_neg c66] at h
      refine v_iload dX6_write_303 1 rfl ?_
      refine v_bipush dX6_write_305 rfl ?_
      refine v_icmp_ne (tgt := 336) dX6_write_307 r5 (rgl rfl) (by decide) (fun c67 => ?_) (fun c67 => ?_)
      · rw [if_neg c67] at h
        refine v_iconst dX6_write_336 ?_
        cases h
        exact v_zret (Or.inl rfl) dX6_write_337
      · rw [if_pos c67] at h
        refine v_sub [2, 1, 0] (L1 := [(0, vO 13), (4, vI r4), (5, vI r9)]) rfl ?_
        exact wj_X6_write_310 h r5 r10
  rw [if_neg c65] at h
  by_cases c68 : x3 = 6
  · rw [if_pos c68] at h
    refine v_tswI (tgt := 338) dX6_write_22 rx3 (by rw [c68]; decide) (by rw [c68]; decide) (by rw [c68]; try rfl) (by decide) ?_
    refine v_iload dX6_write_338 1 rfl ?_
    refine v_bipush dX6_write_340 rfl ?_
    refine v_icmp_ne (tgt := 357) dX6_write_342 r5 (rgl rfl) (by decide) (fun c69 => ?_) (fun c69 => ?_)
    · rw [if_neg c69] at h
      refine v_iconst dX6_write_357 ?_
      cases h
      exact v_zret (Or.inl rfl) dX6_write_358
    · rw [if_pos c69] at h
      refine v_aload_n dX6_write_345 2 rfl rfl ?_
      refine v_iload_n dX6_write_346 3 rfl rfl ?_
      obtain ⟨r73, s70, e71, h⟩ := bd_some h
      have k72 := c_X6_oid e71 rx1
      have r74 : rg r73 := k72.1.2.2
      refine v_callV (st := []) cf6 oc13 k72 (lw_V q1800 q1802 qs98 q303 q1803) rfl yk_X6_oid ⟨Nat.le_of_ble_eq_true rfl, Nat.le_of_ble_eq_true rfl⟩ trivial ⟨kc13, trivial⟩ (Nat.le_of_ble_eq_true rfl) rfl dX6_write_347 ?_
      refine v_if_eq (tgt := 357) dX6_write_350 r74 (by decide) (fun c75 => ?_) (fun c75 => ?_)
      · rw [if_pos c75] at h
        refine v_iconst dX6_write_357 ?_
        cases h
        exact v_zret (Or.inl rfl) dX6_write_358
      · rw [if_neg c75] at h
        refine v_iconst dX6_write_353 ?_
        refine v_goto (tgt := 358) dX6_write_354 (by decide) ?_
        cases h
        exact v_zret (Or.inr rfl) dX6_write_358
  rw [if_neg c68] at h
  by_cases c76 : x3 = 7
  · rw [if_pos c76] at h
    refine v_tswI (tgt := 359) dX6_write_22 rx3 (by rw [c76]; decide) (by rw [c76]; decide) (by rw [c76]; try rfl) (by decide) ?_
    refine v_iload dX6_write_359 1 rfl ?_
    refine v_bipush dX6_write_361 rfl ?_
    refine v_icmp_ne (tgt := 380) dX6_write_363 r5 (rgl rfl) (by decide) (fun c77 => ?_) (fun c77 => ?_)
    · rw [if_neg c77] at h
      refine v_iconst dX6_write_380 ?_
      cases h
      exact v_zret (Or.inl rfl) dX6_write_381
    · rw [if_pos c77] at h
      refine v_aload_n dX6_write_366 2 rfl rfl ?_
      refine v_iload dX6_write_367 0 rfl ?_
      refine v_iload_n dX6_write_369 5 rfl rfl ?_
      obtain ⟨r81, s78, e79, h⟩ := bd_some h
      have k80 := c_X6_text e79 r10 rx3
      have r82 : rg r81 := k80.1.2.2
      refine v_callV (st := []) cf6 oc13 k80 (lw_V q1854 q1856 qs103 q303 q1857) rfl yk_X6_text ⟨Nat.le_of_ble_eq_true rfl, Nat.le_of_ble_eq_true rfl⟩ trivial ⟨kc13, trivial⟩ (Nat.le_of_ble_eq_true rfl) rfl dX6_write_370 ?_
      refine v_if_eq (tgt := 380) dX6_write_373 r82 (by decide) (fun c83 => ?_) (fun c83 => ?_)
      · rw [if_pos c83] at h
        refine v_iconst dX6_write_380 ?_
        cases h
        exact v_zret (Or.inl rfl) dX6_write_381
      · rw [if_neg c83] at h
        refine v_iconst dX6_write_376 ?_
        refine v_goto (tgt := 381) dX6_write_377 (by decide) ?_
        cases h
        exact v_zret (Or.inr rfl) dX6_write_381
  rw [if_neg c76] at h
  by_cases c84 : x3 = 8
  · rw [if_pos c84] at h
    refine v_tswI (tgt := 359) dX6_write_22 rx3 (by rw [c84]; decide) (by rw [c84]; decide) (by rw [c84]; try rfl) (by decide) ?_
    refine v_iload dX6_write_359 1 rfl ?_
    refine v_bipush dX6_write_361 rfl ?_
    refine v_icmp_ne (tgt := 380) dX6_write_363 r5 (rgl rfl) (by decide) (fun c85 => ?_) (fun c85 => ?_)
    · rw [if_neg c85] at h
      refine v_iconst dX6_write_380 ?_
      cases h
      exact v_zret (Or.inl rfl) dX6_write_381
    · rw [if_pos c85] at h
      refine v_aload_n dX6_write_366 2 rfl rfl ?_
      refine v_iload dX6_write_367 0 rfl ?_
      refine v_iload_n dX6_write_369 5 rfl rfl ?_
      obtain ⟨r89, s86, e87, h⟩ := bd_some h
      have k88 := c_X6_text e87 r10 rx3
      have r90 : rg r89 := k88.1.2.2
      refine v_callV (st := []) cf6 oc13 k88 (lw_V q1854 q1856 qs103 q303 q1857) rfl yk_X6_text ⟨Nat.le_of_ble_eq_true rfl, Nat.le_of_ble_eq_true rfl⟩ trivial ⟨kc13, trivial⟩ (Nat.le_of_ble_eq_true rfl) rfl dX6_write_370 ?_
      refine v_if_eq (tgt := 380) dX6_write_373 r90 (by decide) (fun c91 => ?_) (fun c91 => ?_)
      · rw [if_pos c91] at h
        refine v_iconst dX6_write_380 ?_
        cases h
        exact v_zret (Or.inl rfl) dX6_write_381
      · rw [if_neg c91] at h
        refine v_iconst dX6_write_376 ?_
        refine v_goto (tgt := 381) dX6_write_377 (by decide) ?_
        cases h
        exact v_zret (Or.inr rfl) dX6_write_381
  rw [if_neg c84] at h
  by_cases c92 : x3 = 9
  · rw [if_pos c92] at h
    refine v_tswI (tgt := 359) dX6_write_22 rx3 (by rw [c92]; decide) (by rw [c92]; decide) (by rw [c92]; try rfl) (by decide) ?_
    refine v_iload dX6_write_359 1 rfl ?_
    refine v_bipush dX6_write_361 rfl ?_
    refine v_icmp_ne (tgt := 380) dX6_write_363 r5 (rgl rfl) (by decide) (fun c93 => ?_) (fun c93 => ?_)
    · rw [if_neg c93] at h
      refine v_iconst dX6_write_380 ?_
      cases h
      exact v_zret (Or.inl rfl) dX6_write_381
    · rw [if_pos c93] at h
      refine v_aload_n dX6_write_366 2 rfl rfl ?_
      refine v_iload dX6_write_367 0 rfl ?_
      refine v_iload_n dX6_write_369 5 rfl rfl ?_
      obtain ⟨r97, s94, e95, h⟩ := bd_some h
      have k96 := c_X6_text e95 r10 rx3
      have r98 : rg r97 := k96.1.2.2
      refine v_callV (st := []) cf6 oc13 k96 (lw_V q1854 q1856 qs103 q303 q1857) rfl yk_X6_text ⟨Nat.le_of_ble_eq_true rfl, Nat.le_of_ble_eq_true rfl⟩ trivial ⟨kc13, trivial⟩ (Nat.le_of_ble_eq_true rfl) rfl dX6_write_370 ?_
      refine v_if_eq (tgt := 380) dX6_write_373 r98 (by decide) (fun c99 => ?_) (fun c99 => ?_)
      · rw [if_pos c99] at h
        refine v_iconst dX6_write_380 ?_
        cases h
        exact v_zret (Or.inl rfl) dX6_write_381
      · rw [if_neg c99] at h
        refine v_iconst dX6_write_376 ?_
        refine v_goto (tgt := 381) dX6_write_377 (by decide) ?_
        cases h
        exact v_zret (Or.inr rfl) dX6_write_381
  rw [if_neg c92] at h
  by_cases c100 : x3 = 10
  · rw [if_pos c100] at h
    refine v_tswI (tgt := 359) dX6_write_22 rx3 (by rw [c100]; decide) (by rw [c100]; decide) (by rw [c100]; try rfl) (by decide) ?_
    refine v_iload dX6_write_359 1 rfl ?_
    refine v_bipush dX6_write_361 rfl ?_
    refine v_icmp_ne (tgt := 380) dX6_write_363 r5 (rgl rfl) (by decide) (fun c101 => ?_) (fun c101 => ?_)
    · rw [if_neg c101] at h
      refine v_iconst dX6_write_380 ?_
      cases h
      exact v_zret (Or.inl rfl) dX6_write_381
    · rw [if_pos c101] at h
      refine v_aload_n dX6_write_366 2 rfl rfl ?_
      refine v_iload dX6_write_367 0 rfl ?_
      refine v_iload_n dX6_write_369 5 rfl rfl ?_
      obtain ⟨r105, s102, e103, h⟩ := bd_some h
      have k104 := c_X6_text e103 r10 rx3
      have r106 : rg r105 := k104.1.2.2
      refine v_callV (st := []) cf6 oc13 k104 (lw_V q1854 q1856 qs103 q303 q1857) rfl yk_X6_text ⟨Nat.le_of_ble_eq_true rfl, Nat.le_of_ble_eq_true rfl⟩ trivial ⟨kc13, trivial⟩ (Nat.le_of_ble_eq_true rfl) rfl dX6_write_370 ?_
      refine v_if_eq (tgt := 380) dX6_write_373 r106 (by decide) (fun c107 => ?_) (fun c107 => ?_)
      · rw [if_pos c107] at h
        refine v_iconst dX6_write_380 ?_
        cases h
        exact v_zret (Or.inl rfl) dX6_write_381
      · rw [if_neg c107] at h
        refine v_iconst dX6_write_376 ?_
        refine v_goto (tgt := 381) dX6_write_377 (by decide) ?_
        cases h
        exact v_zret (Or.inr rfl) dX6_write_381
  rw [if_neg c100] at h
  by_cases c108 : x3 = 11
  · rw [if_pos c108] at h
    refine v_tswI (tgt := 359) dX6_write_22 rx3 (by rw [c108]; decide) (by rw [c108]; decide) (by rw [c108]; try rfl) (by decide) ?_
    refine v_iload dX6_write_359 1 rfl ?_
    refine v_bipush dX6_write_361 rfl ?_
    refine v_icmp_ne (tgt := 380) dX6_write_363 r5 (rgl rfl) (by decide) (fun c109 => ?_) (fun c109 => ?_)
    · rw [if_neg c109] at h
      refine v_iconst dX6_write_380 ?_
      cases h
      exact v_zret (Or.inl rfl) dX6_write_381
    · rw [if_pos c109] at h
      refine v_aload_n dX6_write_366 2 rfl rfl ?_
      refine v_iload dX6_write_367 0 rfl ?_
      refine v_iload_n dX6_write_369 5 rfl rfl ?_
      obtain ⟨r113, s110, e111, h⟩ := bd_some h
      have k112 := c_X6_text e111 r10 rx3
      have r114 : rg r113 := k112.1.2.2
      refine v_callV (st := []) cf6 oc13 k112 (lw_V q1854 q1856 qs103 q303 q1857) rfl yk_X6_text ⟨Nat.le_of_ble_eq_true rfl, Nat.le_of_ble_eq_true rfl⟩ trivial ⟨kc13, trivial⟩ (Nat.le_of_ble_eq_true rfl) rfl dX6_write_370 ?_
      refine v_if_eq (tgt := 380) dX6_write_373 r114 (by decide) (fun c115 => ?_) (fun c115 => ?_)
      · rw [if_pos c115] at h
        refine v_iconst dX6_write_380 ?_
        cases h
        exact v_zret (Or.inl rfl) dX6_write_381
      · rw [if_neg c115] at h
        refine v_iconst dX6_write_376 ?_
        refine v_goto (tgt := 381) dX6_write_377 (by decide) ?_
        cases h
        exact v_zret (Or.inr rfl) dX6_write_381
  rw [if_neg c108] at h
  by_cases c116 : x3 = 12
  · rw [if_pos c116] at h
    refine v_tswI (tgt := 384) dX6_write_22 rx3 (by rw [c116]; decide) (by rw [c116]; decide) (by rw [c116]; try rfl) (by decide) ?_
    refine v_iload dX6_write_384 1 rfl ?_
    refine v_bipush dX6_write_386 rfl ?_
    refine v_icmp_ne (tgt := 415) dX6_write_388 r5 (rgl rfl) (by decide) (fun c117 => ?_) (fun c117 => ?_)
    · rw [if_neg c117] at h
      refine v_iconst dX6_write_415 ?_
      cases h
      exact v_zret (Or.inl rfl) dX6_write_416
    · rw [if_pos c117] at h
      refine v_aload_n dX6_write_391 2 rfl rfl ?_
      refine v_getS (f := 1) (t := 10) cf6 oc13 rfl rfl rfl (by decide) q628 dX6_write_392 ?_
      refine v_iload_n dX6_write_395 3 rfl rfl ?_
      obtain ⟨r121, s118, e119, h⟩ := bd_some h
      have k120 := c_X4_parts e119 rx1
      have r122 : rg r121 := k120.1.2.2
      refine v_callV (st := []) cf4 oc10 k120 (lw_V q1492 q1493 q1494 q301 q1495) rfl yk_X4_parts ⟨Nat.le_of_ble_eq_true rfl, Nat.le_of_ble_eq_true rfl⟩ trivial ⟨kc13, trivial⟩ (Nat.le_of_ble_eq_true rfl) rfl dX6_write_396 ?_
      refine v_iconst dX6_write_399 ?_
      refine v_icmp_ne (tgt := 415) dX6_write_400 r122 (rgl rfl) (by decide) (fun c123 => ?_) (fun c123 => ?_)
      · rw [if_neg c123] at h
        refine v_iconst dX6_write_415 ?_
        cases h
        exact v_zret (Or.inl rfl) dX6_write_416
      · rw [if_pos c123] at h
        refine v_aload_n dX6_write_403 2 rfl rfl ?_
        refine v_iload_n dX6_write_404 4 rfl rfl ?_
        obtain ⟨r127, s124, e125, h⟩ := bd_some h
        have k126 := c_X6_mayBeEmpty e125 rx2
        have r128 : rg r127 := k126.1.2.2
        refine v_callV (st := []) cf6 oc13 k126 (lw_V q1782 q1784 qs94 q303 q1785) rfl yk_X6_mayBeEmpty ⟨Nat.le_of_ble_eq_true rfl, Nat.le_of_ble_eq_true rfl⟩ trivial ⟨kc13, trivial⟩ (Nat.le_of_ble_eq_true rfl) rfl dX6_write_405 ?_
        refine v_if_eq (tgt := 415) dX6_write_408 r128 (by decide) (fun c129 => ?_) (fun c129 => ?_)
        · rw [if_pos c129] at h
          refine v_iconst dX6_write_415 ?_
          cases h
          exact v_zret (Or.inl rfl) dX6_write_416
        · rw [if_neg c129] at h
          refine v_iconst dX6_write_411 ?_
          refine v_goto (tgt := 416) dX6_write_412 (by decide) ?_
          cases h
          exact v_zret (Or.inr rfl) dX6_write_416
  rw [if_neg c116] at h
  by_cases c130 : x3 = 13
  · rw [if_pos c130] at h
    refine v_tswI (tgt := 384) dX6_write_22 rx3 (by rw [c130]; decide) (by rw [c130]; decide) (by rw [c130]; try rfl) (by decide) ?_
    refine v_iload dX6_write_384 1 rfl ?_
    refine v_bipush dX6_write_386 rfl ?_
    refine v_icmp_ne (tgt := 415) dX6_write_388 r5 (rgl rfl) (by decide) (fun c131 => ?_) (fun c131 => ?_)
    · rw [if_neg c131] at h
      refine v_iconst dX6_write_415 ?_
      cases h
      exact v_zret (Or.inl rfl) dX6_write_416
    · rw [if_pos c131] at h
      refine v_aload_n dX6_write_391 2 rfl rfl ?_
      refine v_getS (f := 1) (t := 10) cf6 oc13 rfl rfl rfl (by decide) q628 dX6_write_392 ?_
      refine v_iload_n dX6_write_395 3 rfl rfl ?_
      obtain ⟨r135, s132, e133, h⟩ := bd_some h
      have k134 := c_X4_parts e133 rx1
      have r136 : rg r135 := k134.1.2.2
      refine v_callV (st := []) cf4 oc10 k134 (lw_V q1492 q1493 q1494 q301 q1495) rfl yk_X4_parts ⟨Nat.le_of_ble_eq_true rfl, Nat.le_of_ble_eq_true rfl⟩ trivial ⟨kc13, trivial⟩ (Nat.le_of_ble_eq_true rfl) rfl dX6_write_396 ?_
      refine v_iconst dX6_write_399 ?_
      refine v_icmp_ne (tgt := 415) dX6_write_400 r136 (rgl rfl) (by decide) (fun c137 => ?_) (fun c137 => ?_)
      · rw [if_neg c137] at h
        refine v_iconst dX6_write_415 ?_
        cases h
        exact v_zret (Or.inl rfl) dX6_write_416
      · rw [if_pos c137] at h
        refine v_aload_n dX6_write_403 2 rfl rfl ?_
        refine v_iload_n dX6_write_404 4 rfl rfl ?_
        obtain ⟨r141, s138, e139, h⟩ := bd_some h
        have k140 := c_X6_mayBeEmpty e139 rx2
        have r142 : rg r141 := k140.1.2.2
        refine v_callV (st := []) cf6 oc13 k140 (lw_V q1782 q1784 qs94 q303 q1785) rfl yk_X6_mayBeEmpty ⟨Nat.le_of_ble_eq_true rfl, Nat.le_of_ble_eq_true rfl⟩ trivial ⟨kc13, trivial⟩ (Nat.le_of_ble_eq_true rfl) rfl dX6_write_405 ?_
        refine v_if_eq (tgt := 415) dX6_write_408 r142 (by decide) (fun c143 => ?_) (fun c143 => ?_)
        · rw [if_pos c143] at h
          refine v_iconst dX6_write_415 ?_
          cases h
          exact v_zret (Or.inl rfl) dX6_write_416
        · rw [if_neg c143] at h
          refine v_iconst dX6_write_411 ?_
          refine v_goto (tgt := 416) dX6_write_412 (by decide) ?_
          cases h
          exact v_zret (Or.inr rfl) dX6_write_416
  rw [if_neg c130] at h
  by_cases c144 : x3 = 14
  · rw [if_pos c144] at h
    refine v_tswI (tgt := 384) dX6_write_22 rx3 (by rw [c144]; decide) (by rw [c144]; decide) (by rw [c144]; try rfl) (by decide) ?_
    refine v_iload dX6_write_384 1 rfl ?_
    refine v_bipush dX6_write_386 rfl ?_
    refine v_icmp_ne (tgt := 415) dX6_write_388 r5 (rgl rfl) (by decide) (fun c145 => ?_) (fun c145 => ?_)
    · rw [if_neg c145] at h
      refine v_iconst dX6_write_415 ?_
      cases h
      exact v_zret (Or.inl rfl) dX6_write_416
    · rw [if_pos c145] at h
      refine v_aload_n dX6_write_391 2 rfl rfl ?_
      refine v_getS (f := 1) (t := 10) cf6 oc13 rfl rfl rfl (by decide) q628 dX6_write_392 ?_
      refine v_iload_n dX6_write_395 3 rfl rfl ?_
      obtain ⟨r149, s146, e147, h⟩ := bd_some h
      have k148 := c_X4_parts e147 rx1
      have r150 : rg r149 := k148.1.2.2
      refine v_callV (st := []) cf4 oc10 k148 (lw_V q1492 q1493 q1494 q301 q1495) rfl yk_X4_parts ⟨Nat.le_of_ble_eq_true rfl, Nat.le_of_ble_eq_true rfl⟩ trivial ⟨kc13, trivial⟩ (Nat.le_of_ble_eq_true rfl) rfl dX6_write_396 ?_
      refine v_iconst dX6_write_399 ?_
      refine v_icmp_ne (tgt := 415) dX6_write_400 r150 (rgl rfl) (by decide) (fun c151 => ?_) (fun c151 => ?_)
      · rw [if_neg c151] at h
        refine v_iconst dX6_write_415 ?_
        cases h
        exact v_zret (Or.inl rfl) dX6_write_416
      · rw [if_pos c151] at h
        refine v_aload_n dX6_write_403 2 rfl rfl ?_
        refine v_iload_n dX6_write_404 4 rfl rfl ?_
        obtain ⟨r155, s152, e153, h⟩ := bd_some h
        have k154 := c_X6_mayBeEmpty e153 rx2
        have r156 : rg r155 := k154.1.2.2
        refine v_callV (st := []) cf6 oc13 k154 (lw_V q1782 q1784 qs94 q303 q1785) rfl yk_X6_mayBeEmpty ⟨Nat.le_of_ble_eq_true rfl, Nat.le_of_ble_eq_true rfl⟩ trivial ⟨kc13, trivial⟩ (Nat.le_of_ble_eq_true rfl) rfl dX6_write_405 ?_
        refine v_if_eq (tgt := 415) dX6_write_408 r156 (by decide) (fun c157 => ?_) (fun c157 => ?_)
        · rw [if_pos c157] at h
          refine v_iconst dX6_write_415 ?_
          cases h
          exact v_zret (Or.inl rfl) dX6_write_416
        · rw [if_neg c157] at h
          refine v_iconst dX6_write_411 ?_
          refine v_goto (tgt := 416) dX6_write_412 (by decide) ?_
          cases h
          exact v_zret (Or.inr rfl) dX6_write_416
  rw [if_neg c144] at h
  by_cases c158 : x3 = 15
  · rw [if_pos c158] at h
    refine v_tswI (tgt := 384) dX6_write_22 rx3 (by rw [c158]; decide) (by rw [c158]; decide) (by rw [c158]; try rfl) (by decide) ?_
    refine v_iload dX6_write_384 1 rfl ?_
    refine v_bipush dX6_write_386 rfl ?_
    refine v_icmp_ne (tgt := 415) dX6_write_388 r5 (rgl rfl) (by decide) (fun c159 => ?_) (fun c159 => ?_)
    · rw [if_neg c159] at h
      refine v_iconst dX6_write_415 ?_
      cases h
      exact v_zret (Or.inl rfl) dX6_write_416
    · rw [if_pos c159] at h
      refine v_aload_n dX6_write_391 2 rfl rfl ?_
      refine v_getS (f := 1) (t := 10) cf6 oc13 rfl rfl rfl (by decide) q628 dX6_write_392 ?_
      refine v_iload_n dX6_write_395 3 rfl rfl ?_
      obtain ⟨r163, s160, e161, h⟩ := bd_some h
      have k162 := c_X4_parts e161 rx1
      have r164 : rg r163 := k162.1.2.2
      refine v_callV (st := []) cf4 oc10 k162 (lw_V q1492 q1493 q1494 q301 q1495) rfl yk_X4_parts ⟨Nat.le_of_ble_eq_true rfl, Nat.le_of_ble_eq_true rfl⟩ trivial ⟨kc13, trivial⟩ (Nat.le_of_ble_eq_true rfl) rfl dX6_write_396 ?_
      refine v_iconst dX6_write_399 ?_
      refine v_icmp_ne (tgt := 415) dX6_write_400 r164 (rgl rfl) (by decide) (fun c165 => ?_) (fun c165 => ?_)
      · rw [if_neg c165] at h
        refine v_iconst dX6_write_415 ?_
        cases h
        exact v_zret (Or.inl rfl) dX6_write_416
      · rw [if_pos c165] at h
        refine v_aload_n dX6_write_403 2 rfl rfl ?_
        refine v_iload_n dX6_write_404 4 rfl rfl ?_
        obtain ⟨r169, s166, e167, h⟩ := bd_some h
        have k168 := c_X6_mayBeEmpty e167 rx2
        have r170 : rg r169 := k168.1.2.2
        refine v_callV (st := []) cf6 oc13 k168 (lw_V q1782 q1784 qs94 q303 q1785) rfl yk_X6_mayBeEmpty ⟨Nat.le_of_ble_eq_true rfl, Nat.le_of_ble_eq_true rfl⟩ trivial ⟨kc13, trivial⟩ (Nat.le_of_ble_eq_true rfl) rfl dX6_write_405 ?_
        refine v_if_eq (tgt := 415) dX6_write_408 r170 (by decide) (fun c171 => ?_) (fun c171 => ?_)
        · rw [if_pos c171] at h
          refine v_iconst dX6_write_415 ?_
          cases h
          exact v_zret (Or.inl rfl) dX6_write_416
        · rw [if_neg c171] at h
          refine v_iconst dX6_write_411 ?_
          refine v_goto (tgt := 416) dX6_write_412 (by decide) ?_
          cases h
          exact v_zret (Or.inr rfl) dX6_write_416
  rw [if_neg c158] at h
  by_cases c172 : x3 = 16
  · rw [if_pos c172] at h
    refine v_tswI (tgt := 382) dX6_write_22 rx3 (by rw [c172]; decide) (by rw [c172]; decide) (by rw [c172]; try rfl) (by decide) ?_
    refine v_iconst dX6_write_382 ?_
    cases h
    exact v_zret (Or.inl rfl) dX6_write_383
  rw [if_neg c172] at h
  refine v_tswO (tgt := 384) dX6_write_22 rx3 (by omega) (by decide) ?_
  refine v_iload dX6_write_384 1 rfl ?_
  refine v_bipush dX6_write_386 rfl ?_
  refine v_icmp_ne (tgt := 415) dX6_write_388 r5 (rgl rfl) (by decide) (fun c173 => ?_) (fun c173 => ?_)
  · rw [if_neg c173] at h
    refine v_iconst dX6_write_415 ?_
    cases h
    exact v_zret (Or.inl rfl) dX6_write_416
  · rw [if_pos c173] at h
    refine v_aload_n dX6_write_391 2 rfl rfl ?_
    refine v_getS (f := 1) (t := 10) cf6 oc13 rfl rfl rfl (by decide) q628 dX6_write_392 ?_
    refine v_iload_n dX6_write_395 3 rfl rfl ?_
    obtain ⟨r177, s174, e175, h⟩ := bd_some h
    have k176 := c_X4_parts e175 rx1
    have r178 : rg r177 := k176.1.2.2
    refine v_callV (st := []) cf4 oc10 k176 (lw_V q1492 q1493 q1494 q301 q1495) rfl yk_X4_parts ⟨Nat.le_of_ble_eq_true rfl, Nat.le_of_ble_eq_true rfl⟩ trivial ⟨kc13, trivial⟩ (Nat.le_of_ble_eq_true rfl) rfl dX6_write_396 ?_
    refine v_iconst dX6_write_399 ?_
    refine v_icmp_ne (tgt := 415) dX6_write_400 r178 (rgl rfl) (by decide) (fun c179 => ?_) (fun c179 => ?_)
    · rw [if_neg c179] at h
      refine v_iconst dX6_write_415 ?_
      cases h
      exact v_zret (Or.inl rfl) dX6_write_416
    · rw [if_pos c179] at h
      refine v_aload_n dX6_write_403 2 rfl rfl ?_
      refine v_iload_n dX6_write_404 4 rfl rfl ?_
      obtain ⟨r183, s180, e181, h⟩ := bd_some h
      have k182 := c_X6_mayBeEmpty e181 rx2
      have r184 : rg r183 := k182.1.2.2
      refine v_callV (st := []) cf6 oc13 k182 (lw_V q1782 q1784 qs94 q303 q1785) rfl yk_X6_mayBeEmpty ⟨Nat.le_of_ble_eq_true rfl, Nat.le_of_ble_eq_true rfl⟩ trivial ⟨kc13, trivial⟩ (Nat.le_of_ble_eq_true rfl) rfl dX6_write_405 ?_
      refine v_if_eq (tgt := 415) dX6_write_408 r184 (by decide) (fun c185 => ?_) (fun c185 => ?_)
      · rw [if_pos c185] at h
        refine v_iconst dX6_write_415 ?_
        cases h
        exact v_zret (Or.inl rfl) dX6_write_416
      · rw [if_neg c185] at h
        refine v_iconst dX6_write_411 ?_
        refine v_goto (tgt := 416) dX6_write_412 (by decide) ?_
        cases h
        exact v_zret (Or.inr rfl) dX6_write_416

abbrev RT_X6_constant : Type := Int → vS → Option (Int × vS)
def HR_X6_constant (fr lr : Nat) (rcf : RT_X6_constant) : Prop := ∀ (x1 : Int) (s : vS) (out : Int × vS), rcf x1 s = some out → rg x1 → VC yX6_constant cX6_constant 5 (some .boolean) fr lr [vO 13, vI x1] s (some (vI out.1)) out.2 []
theorem yk_X6_constant : yOk yX6_constant 1 := ⟨by decide, by decide, by decide +kernel⟩
def f_X6_evaluate (fr : Nat) (lr : Nat) (rcf : RT_X6_constant) (x1 : Int) (x2 : Int) (s : vS) : Option (Int × vS) :=
  bd (f_X6_base x2 s) fun r4 s1 =>
  bd (f_X4_kind r4 s1) fun r9 s6 =>
  bd (f_X4_at x1 5 s6) fun r14 s11 =>
  if r14 = 4 then
    bd (f_X4_lexeme x1 s11) fun r50 s47 =>
    bd (f_X6_itemOf x2 r50 1 s47) fun r55 s52 =>
    if r55 = (-1) then
      bd (f_X4_lexeme x1 s52) fun r61 s58 =>
      bd (f_X9_find 22 r61 s58) fun r66 s63 =>
      bd (f_X4_parts r66 s63) fun r71 s68 =>
      bd (f_X6_base r71 s68) fun r76 s73 =>
      bd (f_X4_kind r76 s73) fun r81 s78 =>
      if r81 = r9 then
        bd (rcf r66 s78) fun r87 s84 =>
        if r87 = 0 then
          some (0, s84)
        else
          bd (f_X4_limits r66 s84) fun r93 s90 =>
          bd (f_X6_copy x1 r93 s90) fun r98 s95 =>
          if r98 = 0 then
            some (0, s95)
          else
            bd (f_X6_holds x1 x2 r4 s95) fun r104 s101 =>
            if r104 = 0 then
              some (0, s101)
            else
              some (1, s101)
      else
        some (0, s78)
    else
      bd (f_X6_copy x1 r55 s52) fun r110 s107 =>
      if r110 = 0 then
        some (0, s107)
      else
        bd (f_X6_holds x1 x2 r4 s107) fun r116 s113 =>
        if r116 = 0 then
          some (0, s113)
        else
          some (1, s113)
  else
    bd (f_X2_size 30 s11) fun r20 s17 =>
    gd (gN s17 34 = gN s11 34) <|
    gd (inb x1 (gN s17 34)) <|
    stp (sE s17 34 x1 r20) fun s24 =>
    bd (f_X6_write x1 r4 r9 s24) fun r29 s26 =>
    bd (f_X2_size 30 s26) fun r34 s31 =>
    gd (gN s31 35 = gN s26 35) <|
    gd (inb x1 (gN s31 35)) <|
    stp (sE s31 35 x1 r34) fun s38 =>
    if r29 = 0 then
      some (0, s38)
    else
      bd (f_X6_holds x1 x2 r4 s38) fun r44 s41 =>
      if r44 = 0 then
        some (0, s41)
      else
        some (1, s41)
theorem yk_X6_evaluate : yOk yX6_evaluate 2 := ⟨by decide, by decide, by decide +kernel⟩
theorem c_X6_evaluate {fr : Nat} {lr : Nat} {rcf : RT_X6_constant} {x1 : Int} {x2 : Int} {s : vS} {out : Int × vS} (h : f_X6_evaluate fr lr rcf x1 x2 s = some out) (hrcf : HR_X6_constant fr lr rcf) (rx1 : rg x1) (rx2 : rg x2) : VC yX6_evaluate cX6_evaluate 7 (some .boolean) (fr + 10) (lr + 239) [vO 13, vI x1, vI x2] s (some (vI out.1)) out.2 [] := by
  unfold f_X6_evaluate at h
  refine VC.of RX6 (by decide) rfl (Nat.le_of_ble_eq_true rfl) ?_
  show VW cX6_evaluate (RX6, (some (vI out.1)), out.2, (some .boolean), (fr + 10), (lr + 239), 7, []) (P0 []) s 0 [(0, vO 13), (1, vI x1), (2, vI x2)] []
  refine v_aload_n dX6_evaluate_0 0 rfl rfl ?_
  refine v_iload_n dX6_evaluate_1 2 rfl rfl ?_
  obtain ⟨r4, s1, e2, h⟩ := bd_some h
  have k3 := c_X6_base e2 rx2
  have r5 : rg r4 := k3.1.2.2
  refine v_callV (st := []) cf6 oc13 k3 (lw_V q1588 q1590 qs60 q303 q1591) rfl yk_X6_base ⟨by omega, by omega⟩ trivial ⟨kc13, trivial⟩ (Nat.le_of_ble_eq_true rfl) rfl dX6_evaluate_2 ?_
  refine v_istore_n (L1 := [(3, vI r4), (0, vO 13), (1, vI x1), (2, vI x2)]) dX6_evaluate_5 rfl (by decide) rfl ?_
  refine v_aload_n dX6_evaluate_6 1 rfl rfl ?_
  refine v_getS (f := 1) (t := 10) cf6 oc13 rfl rfl rfl (by decide) q628 dX6_evaluate_7 ?_
  refine v_iload_n dX6_evaluate_10 0 rfl rfl ?_
  obtain ⟨r9, s6, e7, h⟩ := bd_some h
  have k8 := c_X4_kind e7 r5
  have r10 : rg r9 := k8.1.2.2
  refine v_callV (st := []) cf4 oc10 k8 (lw_V q1445 q1446 q1447 q301 q1448) rfl yk_X4_kind ⟨by omega, by omega⟩ trivial ⟨kc13, trivial⟩ (Nat.le_of_ble_eq_true rfl) rfl dX6_evaluate_11 ?_
  refine v_istore (L1 := [(4, vI r9), (3, vI r4), (0, vO 13), (1, vI x1), (2, vI x2)]) dX6_evaluate_14 (by decide) rfl ?_
  refine v_aload_n dX6_evaluate_16 2 rfl rfl ?_
  refine v_getS (f := 1) (t := 10) cf6 oc13 rfl rfl rfl (by decide) q628 dX6_evaluate_17 ?_
  refine v_iload_n dX6_evaluate_20 3 rfl rfl ?_
  refine v_iconst dX6_evaluate_21 ?_
  obtain ⟨r14, s11, e12, h⟩ := bd_some h
  have k13 := c_X4_at e12 rx1 (rgl rfl)
  have r15 : rg r14 := k13.1.2.2
  refine v_callV (st := []) cf4 oc10 k13 (lw_V q1500 q1400 q1401 q301 q1402) rfl yk_X4_at ⟨by omega, by omega⟩ trivial ⟨kc13, trivial⟩ (Nat.le_of_ble_eq_true rfl) rfl dX6_evaluate_22 ?_
  refine v_iconst dX6_evaluate_25 ?_
  refine v_icmp_ne (tgt := 163) dX6_evaluate_26 r15 (rgl rfl) (by decide) (fun c16 => ?_) (fun c16 => ?_)
  · rw [if_neg c16] at h
    refine v_aload_n dX6_evaluate_163 2 rfl rfl ?_
    refine v_getS (f := 11) (t := 34) cf6 oc13 rfl rfl rfl (by decide) q638 dX6_evaluate_164 ?_
    refine v_iload_n dX6_evaluate_167 3 rfl rfl ?_
    refine v_aload_n dX6_evaluate_168 2 rfl rfl ?_
    refine v_getS (f := 9) (t := 30) cf6 oc13 rfl rfl rfl (by decide) q636 dX6_evaluate_169 ?_
    obtain ⟨r20, s17, e18, h⟩ := bd_some h
    have k19 := c_X2_size e18 (⟨by decide, rfl⟩ : okB 30 1)
    have r21 : rg r20 := k19.1.2.2
    obtain ⟨g22, h⟩ := gd_some h
    refine v_callV (st := [vI x1, vO 34]) cf2 oc30 k19 (lw_V q1524 q918 q919 q299 q920) rfl yk_X2_size ⟨by omega, by omega⟩ ⟨(kp_arr (by decide) g22), trivial⟩ ⟨kc13, trivial⟩ (Nat.le_of_ble_eq_true rfl) rfl dX6_evaluate_172 ?_
    obtain ⟨g23, h⟩ := gd_some h
    obtain ⟨s24, e25, h⟩ := stp_some h
    refine v_iast oc34 rx1 g23.1 g23.2 dX6_evaluate_175 ?_
    rw [← e25]
    refine v_aload_n dX6_evaluate_176 2 rfl rfl ?_
    refine v_iload_n dX6_evaluate_177 3 rfl rfl ?_
    refine v_iload_n dX6_evaluate_178 1 rfl rfl ?_
    refine v_iload dX6_evaluate_179 0 rfl ?_
    obtain ⟨r29, s26, e27, h⟩ := bd_some h
    have k28 := c_X6_write e27 rx1 r5 r10
    have r30 : rg r29 := k28.1.2.2
    refine v_callV (st := []) cf6 oc13 k28 (lw_V q1786 q1788 qs95 q303 q1789) rfl yk_X6_write ⟨by omega, by omega⟩ trivial ⟨kc13, trivial⟩ (Nat.le_of_ble_eq_true rfl) rfl dX6_evaluate_181 ?_
    refine v_istore (L1 := [(5, vI r29), (4, vI r9), (3, vI r4), (0, vO 13), (1, vI x1), (2, vI x2)]) dX6_evaluate_184 (by decide) rfl ?_
    refine v_aload_n dX6_evaluate_186 3 rfl rfl ?_
    refine v_getS (f := 12) (t := 35) cf6 oc13 rfl rfl rfl (by decide) q639 dX6_evaluate_187 ?_
    refine v_iload_n dX6_evaluate_190 4 rfl rfl ?_
    refine v_aload_n dX6_evaluate_191 3 rfl rfl ?_
    refine v_getS (f := 9) (t := 30) cf6 oc13 rfl rfl rfl (by decide) q636 dX6_evaluate_192 ?_
    obtain ⟨r34, s31, e32, h⟩ := bd_some h
    have k33 := c_X2_size e32 (⟨by decide, rfl⟩ : okB 30 1)
    have r35 : rg r34 := k33.1.2.2
    obtain ⟨g36, h⟩ := gd_some h
    refine v_callV (st := [vI x1, vO 35]) cf2 oc30 k33 (lw_V q1524 q918 q919 q299 q920) rfl yk_X2_size ⟨by omega, by omega⟩ ⟨(kp_arr (by decide) g36), trivial⟩ ⟨kc13, trivial⟩ (Nat.le_of_ble_eq_true rfl) rfl dX6_evaluate_195 ?_
    obtain ⟨g37, h⟩ := gd_some h
    obtain ⟨s38, e39, h⟩ := stp_some h
    refine v_iast oc35 rx1 g37.1 g37.2 dX6_evaluate_198 ?_
    rw [← e39]
    refine v_iload dX6_evaluate_199 0 rfl ?_
    refine v_if_eq (tgt := 218) dX6_evaluate_201 r30 (by decide) (fun c40 => ?_) (fun c40 => ?_)
    · rw [if_pos c40] at h
      refine v_iconst dX6_evaluate_218 ?_
      cases h
      exact v_zret (Or.inl rfl) dX6_evaluate_219
    · rw [if_neg c40] at h
      refine v_aload_n dX6_evaluate_204 3 rfl rfl ?_
      refine v_iload_n dX6_evaluate_205 4 rfl rfl ?_
      refine v_iload_n dX6_evaluate_206 5 rfl rfl ?_
      refine v_iload_n dX6_evaluate_207 2 rfl rfl ?_
      obtain ⟨r44, s41, e42, h⟩ := bd_some h
      have k43 := c_X6_holds e42 rx1 rx2 r5
      have r45 : rg r44 := k43.1.2.2
      refine v_callV (st := []) cf6 oc13 k43 (lw_V q1708 q1710 qs86 q303 q1711) rfl yk_X6_holds ⟨by omega, by omega⟩ trivial ⟨kc13, trivial⟩ (Nat.le_of_ble_eq_true rfl) rfl dX6_evaluate_208 ?_
      refine v_if_eq (tgt := 218) dX6_evaluate_211 r45 (by decide) (fun c46 => ?_) (fun c46 => ?_)
      · rw [if_pos c46] at h
        refine v_iconst dX6_evaluate_218 ?_
        cases h
        exact v_zret (Or.inl rfl) dX6_evaluate_219
      · rw [if_neg c46] at h
        refine v_iconst dX6_evaluate_214 ?_
        refine v_goto (tgt := 219) dX6_evaluate_215 (by decide) ?_
        cases h
        exact v_zret (Or.inr rfl) dX6_evaluate_219
  · rw [if_pos c16] at h
    refine v_aload_n dX6_evaluate_29 2 rfl rfl ?_
    refine v_iload_n dX6_evaluate_30 4 rfl rfl ?_
    refine v_aload_n dX6_evaluate_31 2 rfl rfl ?_
    refine v_getS (f := 1) (t := 10) cf6 oc13 rfl rfl rfl (by decide) q628 dX6_evaluate_32 ?_
    refine v_iload_n dX6_evaluate_35 3 rfl rfl ?_
    obtain ⟨r50, s47, e48, h⟩ := bd_some h
    have k49 := c_X4_lexeme e48 rx1
    have r51 : rg r50 := k49.1.2.2
    refine v_callV (st := [vI x2, vO 13]) cf4 oc10 k49 (lw_V q1449 q1450 q1451 q301 q1452) rfl yk_X4_lexeme ⟨by omega, by omega⟩ ⟨kc13, trivial⟩ ⟨kc13, trivial⟩ (Nat.le_of_ble_eq_true rfl) rfl dX6_evaluate_36 ?_
    refine v_iconst dX6_evaluate_39 ?_
    obtain ⟨r55, s52, e53, h⟩ := bd_some h
    have k54 := c_X6_itemOf e53 rx2 r51 (rgl rfl)
    have r56 : rg r55 := k54.1.2.2
    refine v_callV (st := []) cf6 oc13 k54 (lw_V q1584 q1586 qs59 q303 q1587) rfl yk_X6_itemOf ⟨by omega, by omega⟩ trivial ⟨kc13, trivial⟩ (Nat.le_of_ble_eq_true rfl) rfl dX6_evaluate_40 ?_
    refine v_istore (L1 := [(5, vI r55), (4, vI r9), (3, vI r4), (0, vO 13), (1, vI x1), (2, vI x2)]) dX6_evaluate_43 (by decide) rfl ?_
    refine v_iload dX6_evaluate_45 0 rfl ?_
    refine v_iconst dX6_evaluate_47 ?_
    refine v_icmp_eq (tgt := 77) dX6_evaluate_48 r56 (rgl rfl) (by decide) (fun c57 => ?_) (fun c57 => ?_)
    · rw [if_pos c57] at h
      refine v_aload_n dX6_evaluate_77 3 rfl rfl ?_
      refine v_getS (f := 6) (t := 22) cf6 oc13 rfl rfl rfl (by decide) q633 dX6_evaluate_78 ?_
      refine v_aload_n dX6_evaluate_81 3 rfl rfl ?_
      refine v_getS (f := 1) (t := 10) cf6 oc13 rfl rfl rfl (by decide) q628 dX6_evaluate_82 ?_
      refine v_iload_n dX6_evaluate_85 4 rfl rfl ?_
      obtain ⟨r61, s58, e59, h⟩ := bd_some h
      have k60 := c_X4_lexeme e59 rx1
      have r62 : rg r61 := k60.1.2.2
      refine v_callV (st := [vO 22]) cf4 oc10 k60 (lw_V q1449 q1450 q1451 q301 q1452) rfl yk_X4_lexeme ⟨by omega, by omega⟩ ⟨kc22, trivial⟩ ⟨kc13, trivial⟩ (Nat.le_of_ble_eq_true rfl) rfl dX6_evaluate_86 ?_
      obtain ⟨r66, s63, e64, h⟩ := bd_some h
      have k65 := c_X9_find e64 (⟨by decide, rfl⟩ : okB 22 8) r62
      have r67 : rg r66 := k65.1.2.2
      refine v_callV (st := []) cf9 oc22 k65 (lw_V q1575 q1576 q1577 q306 q1578) rfl yk_X9_find ⟨by omega, by omega⟩ trivial ⟨kc13, trivial⟩ (Nat.le_of_ble_eq_true rfl) rfl dX6_evaluate_89 ?_
      refine v_istore (L1 := [(6, vI r66), (5, vI r55), (4, vI r9), (3, vI r4), (0, vO 13), (1, vI x1), (2, vI x2)]) dX6_evaluate_92 (by decide) rfl ?_
      refine v_aload_n dX6_evaluate_94 4 rfl rfl ?_
      refine v_getS (f := 1) (t := 10) cf6 oc13 rfl rfl rfl (by decide) q628 dX6_evaluate_95 ?_
      refine v_aload_n dX6_evaluate_98 4 rfl rfl ?_
      refine v_aload_n dX6_evaluate_99 4 rfl rfl ?_
      refine v_getS (f := 1) (t := 10) cf6 oc13 rfl rfl rfl (by decide) q628 dX6_evaluate_100 ?_
      refine v_iload dX6_evaluate_103 0 rfl ?_
      obtain ⟨r71, s68, e69, h⟩ := bd_some h
      have k70 := c_X4_parts e69 r67
      have r72 : rg r71 := k70.1.2.2
      refine v_callV (st := [vO 13, vO 10]) cf4 oc10 k70 (lw_V q1492 q1493 q1494 q301 q1495) rfl yk_X4_parts ⟨by omega, by omega⟩ ⟨kc13, kc10, trivial⟩ ⟨kc13, trivial⟩ (Nat.le_of_ble_eq_true rfl) rfl dX6_evaluate_105 ?_
      obtain ⟨r76, s73, e74, h⟩ := bd_some h
      have k75 := c_X6_base e74 r72
      have r77 : rg r76 := k75.1.2.2
      refine v_callV (st := [vO 10]) cf6 oc13 k75 (lw_V q1588 q1590 qs60 q303 q1591) rfl yk_X6_base ⟨by omega, by omega⟩ ⟨kc10, trivial⟩ ⟨kc13, trivial⟩ (Nat.le_of_ble_eq_true rfl) rfl dX6_evaluate_108 ?_
      obtain ⟨r81, s78, e79, h⟩ := bd_some h
      have k80 := c_X4_kind e79 r77
      have r82 : rg r81 := k80.1.2.2
      refine v_callV (st := []) cf4 oc10 k80 (lw_V q1445 q1446 q1447 q301 q1448) rfl yk_X4_kind ⟨by omega, by omega⟩ trivial ⟨kc13, trivial⟩ (Nat.le_of_ble_eq_true rfl) rfl dX6_evaluate_111 ?_
      refine v_iload dX6_evaluate_114 2 rfl ?_
      refine v_icmp_ne (tgt := 128) dX6_evaluate_116 r82 r10 (by decide) (fun c83 => ?_) (fun c83 => ?_)
      · rw [if_neg c83] at h
        refine v_iconst dX6_evaluate_128 ?_
        cases h
        exact v_zret (Or.inl rfl) dX6_evaluate_129
      · rw [if_pos c83] at h
        refine v_aload_n dX6_evaluate_119 4 rfl rfl ?_
        refine v_iload dX6_evaluate_120 0 rfl ?_
        obtain ⟨r87, s84, e85, h⟩ := bd_some h
        have k86 := hrcf _ _ _ e85 r67
        have r88 : rg r87 := k86.1.2.2
        refine v_callV (st := []) cf6 oc13 k86 (lw_V q1696 q1698 qs83 q303 q1699) rfl yk_X6_constant ⟨by omega, by omega⟩ trivial ⟨kc13, trivial⟩ (Nat.le_of_ble_eq_true rfl) rfl dX6_evaluate_122 ?_
        refine v_if_ne (tgt := 130) dX6_evaluate_125 r88 (by decide) (fun c89 => ?_) (fun c89 => ?_)
        · rw [if_neg c89] at h
          refine v_aload_n dX6_evaluate_130 4 rfl rfl ?_
          refine v_iload_n dX6_evaluate_131 5 rfl rfl ?_
          refine v_aload_n dX6_evaluate_132 4 rfl rfl ?_
          refine v_getS (f := 1) (t := 10) cf6 oc13 rfl rfl rfl (by decide) q628 dX6_evaluate_133 ?_
          refine v_iload dX6_evaluate_136 0 rfl ?_
          obtain ⟨r93, s90, e91, h⟩ := bd_some h
          have k92 := c_X4_limits e91 r67
          have r94 : rg r93 := k92.1.2.2
          refine v_callV (st := [vI x1, vO 13]) cf4 oc10 k92 (lw_V q1579 q1396 q1397 q301 q1398) rfl yk_X4_limits ⟨by omega, by omega⟩ ⟨kc13, trivial⟩ ⟨kc13, trivial⟩ (Nat.le_of_ble_eq_true rfl) rfl dX6_evaluate_138 ?_
          obtain ⟨r98, s95, e96, h⟩ := bd_some h
          have k97 := c_X6_copy e96 rx1 r94
          have r99 : rg r98 := k97.1.2.2
          refine v_callV (st := []) cf6 oc13 k97 (lw_V q1704 q1706 qs85 q303 q1707) rfl yk_X6_copy ⟨by omega, by omega⟩ trivial ⟨kc13, trivial⟩ (Nat.le_of_ble_eq_true rfl) rfl dX6_evaluate_141 ?_
          refine v_if_eq (tgt := 161) dX6_evaluate_144 r99 (by decide) (fun c100 => ?_) (fun c100 => ?_)
          · rw [if_pos c100] at h
            refine v_iconst dX6_evaluate_161 ?_
            cases h
            exact v_zret (Or.inl rfl) dX6_evaluate_162
          · rw [if_neg c100] at h
            refine v_aload_n dX6_evaluate_147 4 rfl rfl ?_
            refine v_iload_n dX6_evaluate_148 5 rfl rfl ?_
            refine v_iload_n dX6_evaluate_149 6 rfl rfl ?_
            refine v_iload_n dX6_evaluate_150 3 rfl rfl ?_
            obtain ⟨r104, s101, e102, h⟩ := bd_some h
            have k103 := c_X6_holds e102 rx1 rx2 r5
            have r105 : rg r104 := k103.1.2.2
            refine v_callV (st := []) cf6 oc13 k103 (lw_V q1708 q1710 qs86 q303 q1711) rfl yk_X6_holds ⟨by omega, by omega⟩ trivial ⟨kc13, trivial⟩ (Nat.le_of_ble_eq_true rfl) rfl dX6_evaluate_151 ?_
            refine v_if_eq (tgt := 161) dX6_evaluate_154 r105 (by decide) (fun c106 => ?_) (fun c106 => ?_)
            · rw [if_pos c106] at h
              refine v_iconst dX6_evaluate_161 ?_
              cases h
              exact v_zret (Or.inl rfl) dX6_evaluate_162
            · rw [if_neg c106] at h
              refine v_iconst dX6_evaluate_157 ?_
              refine v_goto (tgt := 162) dX6_evaluate_158 (by decide) ?_
              cases h
              exact v_zret (Or.inr rfl) dX6_evaluate_162
        · rw [if_pos c89] at h
          refine v_iconst dX6_evaluate_128 ?_
          cases h
          exact v_zret (Or.inl rfl) dX6_evaluate_129
    · rw [if_neg c57] at h
      refine v_aload_n dX6_evaluate_51 3 rfl rfl ?_
      refine v_iload_n dX6_evaluate_52 4 rfl rfl ?_
      refine v_iload dX6_evaluate_53 0 rfl ?_
      obtain ⟨r110, s107, e108, h⟩ := bd_some h
      have k109 := c_X6_copy e108 rx1 r56
      have r111 : rg r110 := k109.1.2.2
      refine v_callV (st := []) cf6 oc13 k109 (lw_V q1704 q1706 qs85 q303 q1707) rfl yk_X6_copy ⟨by omega, by omega⟩ trivial ⟨kc13, trivial⟩ (Nat.le_of_ble_eq_true rfl) rfl dX6_evaluate_55 ?_
      refine v_if_eq (tgt := 75) dX6_evaluate_58 r111 (by decide) (fun c112 => ?_) (fun c112 => ?_)
      · rw [if_pos c112] at h
        refine v_iconst dX6_evaluate_75 ?_
        cases h
        exact v_zret (Or.inl rfl) dX6_evaluate_76
      · rw [if_neg c112] at h
        refine v_aload_n dX6_evaluate_61 3 rfl rfl ?_
        refine v_iload_n dX6_evaluate_62 4 rfl rfl ?_
        refine v_iload_n dX6_evaluate_63 5 rfl rfl ?_
        refine v_iload_n dX6_evaluate_64 2 rfl rfl ?_
        obtain ⟨r116, s113, e114, h⟩ := bd_some h
        have k115 := c_X6_holds e114 rx1 rx2 r5
        have r117 : rg r116 := k115.1.2.2
        refine v_callV (st := []) cf6 oc13 k115 (lw_V q1708 q1710 qs86 q303 q1711) rfl yk_X6_holds ⟨by omega, by omega⟩ trivial ⟨kc13, trivial⟩ (Nat.le_of_ble_eq_true rfl) rfl dX6_evaluate_65 ?_
        refine v_if_eq (tgt := 75) dX6_evaluate_68 r117 (by decide) (fun c118 => ?_) (fun c118 => ?_)
        · rw [if_pos c118] at h
          refine v_iconst dX6_evaluate_75 ?_
          cases h
          exact v_zret (Or.inl rfl) dX6_evaluate_76
        · rw [if_neg c118] at h
          refine v_iconst dX6_evaluate_71 ?_
          refine v_goto (tgt := 76) dX6_evaluate_72 (by decide) ?_
          cases h
          exact v_zret (Or.inr rfl) dX6_evaluate_76

def E_X6_constant_4 (fr : Nat) (lr : Nat) (rcf : RT_X6_constant) (x1 : Int) (rv : Option vA) (σo : vS) (q : Int × vS) : Prop := ∀ (x2' : Int) (s' : vS), q = (x2', s') → rg x2' → VW cX6_constant (RX6, rv, σo, (some .boolean), (fr + 11), (lr + 265), 5, []) (P0 []) s' 51 [(0, vO 13), (1, vI x1), (2, vI x2')] []
def l_X6_constant_4 (fr : Nat) (lr : Nat) (rcf : RT_X6_constant) : Nat → Int → Int → Int → vS → Option (Int × vS)
  | 0, _, _, _, _ => none
  | n + 1, x1, x2, x3, s =>
    if x3 = (-1) then
      some (x2, s)
    else
      gd (inb x3 (gN s 38)) <|
      if (gE s 38 x3) = 0 then
        bd (f_X6_grown 41 (w32 (x2 + 1)) s) fun r7 s8 =>
        gd (r7 = 0 ∨ (2 * gN s8 41 ≤ gN s8 199 ∧ 2 ≤ gN s8 199)) <|
        stp (grw s8 41 r7) fun s12 =>
        gd (inb x2 (gN s12 41)) <|
        stp (sE s12 41 x2 x3) fun s15 =>
        vl (w32 (x2 + 1)) fun y17 =>
        bd (f_X6_follow x3 s15) fun r23 s20 =>
        l_X6_constant_4 fr lr rcf n x1 y17 r23 s20
      else
        some (x2, s)
theorem wl_X6_constant_4 (fr : Nat) (lr : Nat) (rcf : RT_X6_constant) {x1 : Int} {rv : Option vA} {σo : vS} (hrcf : HR_X6_constant fr lr rcf) (rx1 : rg x1) : ∀ (n : Nat) (x2 : Int) (x3 : Int) (s : vS) (q : Int × vS), l_X6_constant_4 fr lr rcf n x1 x2 x3 s = some q → rg x2 → rg x3 → E_X6_constant_4 fr lr rcf x1 rv σo q → VW cX6_constant (RX6, rv, σo, (some .boolean), (fr + 11), (lr + 265), 5, []) (P0 []) s 4 [(0, vO 13), (1, vI x1), (2, vI x2), (3, vI x3)] [] := by
  intro n
  induction n with
  | zero => intro x2 x3 s q h; cases h
  | succ n ih =>
    intro x2 x3 s q h rx2 rx3 hE
    unfold l_X6_constant_4 at h
    refine v_iload_n dX6_constant_4 3 rfl rfl ?_
    refine v_iconst dX6_constant_5 ?_
    refine v_icmp_eq (tgt := 51) dX6_constant_6 rx3 (rgl rfl) (by decide) (fun c1 => ?_) (fun c1 => ?_)
    · rw [if_pos c1] at h
      cases h
      refine v_sub [0, 1, 2] (L1 := [(0, vO 13), (1, vI x1), (2, vI x2)]) rfl ?_
      exact hE _ _ rfl rx2
    · rw [if_neg c1] at h
      refine v_aload_n dX6_constant_9 0 rfl rfl ?_
      refine v_getS (f := 15) (t := 38) cf6 oc13 rfl rfl rfl (by decide) q642 dX6_constant_10 ?_
      refine v_iload_n dX6_constant_13 3 rfl rfl ?_
      obtain ⟨g2, h⟩ := gd_some h
      refine v_iald oc38 rx3 g2.1 g2.2 dX6_constant_14 ?_
      refine v_if_ne (tgt := 51) dX6_constant_15 (gE_rg _ _ _) (by decide) (fun c3 => ?_) (fun c3 => ?_)
      · rw [if_neg c3] at h
        cases h
        refine v_sub [0, 1, 2] (L1 := [(0, vO 13), (1, vI x1), (2, vI x2)]) rfl ?_
        exact hE _ _ rfl rx2
      · rw [if_pos c3] at h
        refine v_aload_n dX6_constant_18 0 rfl rfl ?_
        refine v_aload_n dX6_constant_19 0 rfl rfl ?_
        refine v_getS (f := 19) (t := 41) cf6 oc13 rfl rfl rfl (by decide) q646 dX6_constant_20 ?_
        refine v_iload_n dX6_constant_23 2 rfl rfl ?_
        refine v_iconst dX6_constant_24 ?_
        refine v_iadd dX6_constant_25 ?_
        obtain ⟨r7, s8, e9, h⟩ := bd_some h
        have k10 := c_X6_grown e9 (⟨by decide, rfl⟩ : okB 41 24) (w32_rg _)
        obtain ⟨g11, h⟩ := gd_some h
        obtain ⟨s12, e13, h⟩ := stp_some h
        refine v_regrow (f := 19) k10 (lw_S q1431 q1432 q303 q1433) yk_X6_grown ⟨Nat.le_of_ble_eq_true rfl, Nat.le_of_ble_eq_true rfl⟩ ⟨kc13, trivial⟩ ⟨kc13, trivial⟩ (Nat.le_of_ble_eq_true rfl) dX6_constant_26 cf6 (⟨by decide, rfl⟩ : okB 13 5) rfl (by decide) rfl rfl g11 q646 dX6_constant_29 rfl rfl rfl rfl ⟨(by decide), trivial⟩ trivial ?_
        rw [← e13]
        refine v_aload_n dX6_constant_32 0 rfl rfl ?_
        refine v_getS (f := 19) (t := 41) cf6 oc13 rfl rfl rfl (by decide) q646 dX6_constant_33 ?_
        refine v_iload_n dX6_constant_36 2 rfl rfl ?_
        refine v_iload_n dX6_constant_37 3 rfl rfl ?_
        obtain ⟨g14, h⟩ := gd_some h
        obtain ⟨s15, e16, h⟩ := stp_some h
        refine v_iast oc41 rx2 g14.1 g14.2 dX6_constant_38 ?_
        rw [← e16]
        obtain ⟨y17, e18, h⟩ := vl_some h
        refine v_iinc (L1 := [(2, vI (w32 (x2 + 1))), (0, vO 13), (1, vI x1), (3, vI x3)]) dX6_constant_39 2 rfl (by decide) rfl ?_
        rw [← e18]
        have r19 : rg y17 := by rw [e18]; exact w32_rg _
        refine v_aload_n dX6_constant_42 1 rfl rfl ?_
        refine v_iload_n dX6_constant_43 3 rfl rfl ?_
        obtain ⟨r23, s20, e21, h⟩ := bd_some h
        have k22 := c_X6_follow e21 rx3
        have r24 : rg r23 := k22.1.2.2
        refine v_callV (st := []) cf6 oc13 k22 (lw_V q1656 q1658 qs74 q303 q1659) rfl yk_X6_follow ⟨by omega, by omega⟩ trivial ⟨kc13, trivial⟩ (Nat.le_of_ble_eq_true rfl) rfl dX6_constant_44 ?_
        refine v_istore_n (L1 := [(3, vI r23), (2, vI y17), (0, vO 13), (1, vI x1)]) dX6_constant_47 rfl (by decide) rfl ?_
        refine v_goto (tgt := 4) dX6_constant_48 (by decide) ?_
        refine v_sub [2, 3, 1, 0] (L1 := [(0, vO 13), (1, vI x1), (2, vI y17), (3, vI r23)]) rfl ?_
        exact ih y17 r23 s20 _ h r19 r24 hE

def E_X6_constant_51 (fr : Nat) (lr : Nat) (rcf : RT_X6_constant) (x1 : Int) (rv : Option vA) (σo : vS) (q : vS) : Prop := ∀ (s' : vS), q = s' → VW cX6_constant (RX6, rv, σo, (some .boolean), (fr + 11), (lr + 265), 5, []) (P0 []) s' 106 [(0, vO 13), (1, vI x1)] []
def l_X6_constant_51 (fr : Nat) (lr : Nat) (rcf : RT_X6_constant) : Nat → Int → Int → vS → Option (vS)
  | 0, _, _, _ => none
  | n + 1, x1, x2, s =>
    if x2 ≤ 0 then
      some s
    else
      vl (w32 (x2 + (-1))) fun y2 =>
      gd (inb y2 (gN s 41)) <|
      vl (gE s 41 y2) fun y6 =>
      bd (f_X4_limits y6 s) fun r12 s9 =>
      gd (gN s9 38 = gN s 38) <|
      bd (f_X4_parts y6 s9) fun r18 s15 =>
      gd (gN s15 38 = gN s9 38) <|
      bd (f_X6_evaluate fr lr rcf r12 r18 s15) fun r24 s21 =>
      gd (gN s21 38 = gN s15 38) <|
      if r24 = 0 then
        gd (inb y6 (gN s21 38)) <|
        stp (sE s21 38 y6 2) fun s29 =>
        l_X6_constant_51 fr lr rcf n x1 y2 s29
      else
        gd (inb y6 (gN s21 38)) <|
        stp (sE s21 38 y6 1) fun s32 =>
        l_X6_constant_51 fr lr rcf n x1 y2 s32
theorem wl_X6_constant_51 (fr : Nat) (lr : Nat) (rcf : RT_X6_constant) {x1 : Int} {rv : Option vA} {σo : vS} (hrcf : HR_X6_constant fr lr rcf) (rx1 : rg x1) : ∀ (n : Nat) (x2 : Int) (s : vS) (q : vS), l_X6_constant_51 fr lr rcf n x1 x2 s = some q → rg x2 → E_X6_constant_51 fr lr rcf x1 rv σo q → VW cX6_constant (RX6, rv, σo, (some .boolean), (fr + 11), (lr + 265), 5, []) (P0 []) s 51 [(0, vO 13), (1, vI x1), (2, vI x2)] [] := by
  intro n
  induction n with
  | zero => intro x2 s q h; cases h
  | succ n ih =>
    intro x2 s q h rx2 hE
    unfold l_X6_constant_51 at h
    refine v_iload_n dX6_constant_51 2 rfl rfl ?_
    refine v_if_le (tgt := 106) dX6_constant_52 rx2 (by decide) (fun c1 => ?_) (fun c1 => ?_)
    · rw [if_pos c1] at h
      cases h
      refine v_sub [0, 1] (L1 := [(0, vO 13), (1, vI x1)]) rfl ?_
      exact hE _ rfl 
    · rw [if_neg c1] at h
      obtain ⟨y2, e3, h⟩ := vl_some h
      refine v_iinc (L1 := [(2, vI (w32 (x2 + (-1)))), (0, vO 13), (1, vI x1)]) dX6_constant_55 2 rfl (by decide) rfl ?_
      rw [← e3]
      have r4 : rg y2 := by rw [e3]; exact w32_rg _
      refine v_aload_n dX6_constant_58 1 rfl rfl ?_
      refine v_getS (f := 19) (t := 41) cf6 oc13 rfl rfl rfl (by decide) q646 dX6_constant_59 ?_
      refine v_iload_n dX6_constant_62 0 rfl rfl ?_
      obtain ⟨g5, h⟩ := gd_some h
      refine v_iald oc41 r4 g5.1 g5.2 dX6_constant_63 ?_
      obtain ⟨y6, e7, h⟩ := vl_some h
      rw [← e7]
      have r8 : rg y6 := by rw [e7]; exact gE_rg _ _ _
      refine v_istore (L1 := [(4, vI y6), (2, vI y2), (0, vO 13), (1, vI x1)]) dX6_constant_64 (by decide) rfl ?_
      refine v_aload_n dX6_constant_66 2 rfl rfl ?_
      refine v_getS (f := 15) (t := 38) cf6 oc13 rfl rfl rfl (by decide) q642 dX6_constant_67 ?_
      refine v_iload dX6_constant_70 0 rfl ?_
      refine v_aload_n dX6_constant_72 2 rfl rfl ?_
      refine v_aload_n dX6_constant_73 2 rfl rfl ?_
      refine v_getS (f := 1) (t := 10) cf6 oc13 rfl rfl rfl (by decide) q628 dX6_constant_74 ?_
      refine v_iload dX6_constant_77 0 rfl ?_
      obtain ⟨r12, s9, e10, h⟩ := bd_some h
      have k11 := c_X4_limits e10 r8
      have r13 : rg r12 := k11.1.2.2
      obtain ⟨g14, h⟩ := gd_some h
      refine v_callV (st := [vO 13, vI y6, vO 38]) cf4 oc10 k11 (lw_V q1579 q1396 q1397 q301 q1398) rfl yk_X4_limits ⟨by omega, by omega⟩ ⟨kc13, (kp_arr (by decide) g14), trivial⟩ ⟨kc13, trivial⟩ (Nat.le_of_ble_eq_true rfl) rfl dX6_constant_79 ?_
      refine v_aload_n dX6_constant_82 2 rfl rfl ?_
      refine v_getS (f := 1) (t := 10) cf6 oc13 rfl rfl rfl (by decide) q628 dX6_constant_83 ?_
      refine v_iload dX6_constant_86 0 rfl ?_
      obtain ⟨r18, s15, e16, h⟩ := bd_some h
      have k17 := c_X4_parts e16 r8
      have r19 : rg r18 := k17.1.2.2
      obtain ⟨g20, h⟩ := gd_some h
      refine v_callV (st := [vI r12, vO 13, vI y6, vO 38]) cf4 oc10 k17 (lw_V q1492 q1493 q1494 q301 q1495) rfl yk_X4_parts ⟨by omega, by omega⟩ ⟨kc13, (kp_arr (by decide) g20), trivial⟩ ⟨kc13, trivial⟩ (Nat.le_of_ble_eq_true rfl) rfl dX6_constant_88 ?_
      obtain ⟨r24, s21, e22, h⟩ := bd_some h
      have k23 := c_X6_evaluate e22 hrcf r13 r19
      have r25 : rg r24 := k23.1.2.2
      obtain ⟨g26, h⟩ := gd_some h
      refine v_callV (st := [vI y6, vO 38]) cf6 oc13 k23 (lw_V q1700 q1702 qs84 q303 q1703) rfl yk_X6_evaluate ⟨by omega, by omega⟩ ⟨(kp_arr (by decide) g26), trivial⟩ ⟨kc13, trivial⟩ (Nat.le_of_ble_eq_true rfl) rfl dX6_constant_91 ?_
      refine v_if_eq (tgt := 101) dX6_constant_94 r25 (by decide) (fun c27 => ?_) (fun c27 => ?_)
      · rw [if_pos c27] at h
        refine v_iconst dX6_constant_101 ?_
        obtain ⟨g28, h⟩ := gd_some h
        obtain ⟨s29, e30, h⟩ := stp_some h
        refine v_iast oc38 r8 g28.1 g28.2 dX6_constant_102 ?_
        rw [← e30]
        refine v_goto (tgt := 51) dX6_constant_103 (by decide) ?_
        refine v_sub [2, 3, 1] (L1 := [(0, vO 13), (1, vI x1), (2, vI y2)]) rfl ?_
        exact ih y2 s29 _ h r4 hE
      · rw [if_neg c27] at h
        refine v_iconst dX6_constant_97 ?_
        refine v_goto (tgt := 102) dX6_constant_98 (by decide) ?_
        obtain ⟨g31, h⟩ := gd_some h
        obtain ⟨s32, e33, h⟩ := stp_some h
        refine v_iast oc38 r8 g31.1 g31.2 dX6_constant_102 ?_
        rw [← e33]
        refine v_goto (tgt := 51) dX6_constant_103 (by decide) ?_
        refine v_sub [2, 3, 1] (L1 := [(0, vO 13), (1, vI x1), (2, vI y2)]) rfl ?_
        exact ih y2 s32 _ h r4 hE

def f_X6_constant (fr : Nat) (lr : Nat) (rcf : RT_X6_constant) (x1 : Int) (s : vS) : Option (Int × vS) :=
  lq_1 (l_X6_constant_4 fr lr rcf FU x1 0 x1 s) fun y1 s2 =>
  lq_0 (l_X6_constant_51 fr lr rcf FU x1 y1 s2) fun s5 =>
  gd (inb x1 (gN s5 38)) <|
  if (gE s5 38 x1) = 1 then
    some (1, s5)
  else
    some (0, s5)
theorem c_X6_constant {fr : Nat} {lr : Nat} {rcf : RT_X6_constant} {x1 : Int} {s : vS} {out : Int × vS} (h : f_X6_constant fr lr rcf x1 s = some out) (hrcf : HR_X6_constant fr lr rcf) (rx1 : rg x1) : VC yX6_constant cX6_constant 5 (some .boolean) (fr + 11) (lr + 265) [vO 13, vI x1] s (some (vI out.1)) out.2 [] := by
  unfold f_X6_constant at h
  refine VC.of RX6 (by decide) rfl (Nat.le_of_ble_eq_true rfl) ?_
  show VW cX6_constant (RX6, (some (vI out.1)), out.2, (some .boolean), (fr + 11), (lr + 265), 5, []) (P0 []) s 0 [(0, vO 13), (1, vI x1)] []
  refine v_iconst dX6_constant_0 ?_
  refine v_istore_n (L1 := [(2, vI 0), (0, vO 13), (1, vI x1)]) dX6_constant_1 rfl (by decide) rfl ?_
  refine v_iload_n dX6_constant_2 2 rfl rfl ?_
  refine v_istore_n (L1 := [(3, vI x1), (2, vI 0), (0, vO 13), (1, vI x1)]) dX6_constant_3 rfl (by decide) rfl ?_
  refine v_sub [2, 3, 1, 0] (L1 := [(0, vO 13), (1, vI x1), (2, vI 0), (3, vI x1)]) rfl ?_
  obtain ⟨y1, s2, e3, h⟩ := lq_1_some h
  refine wl_X6_constant_4 fr lr rcf hrcf rx1 FU 0 x1 s _ e3 (rgl rfl) rx1 ?_
  unfold E_X6_constant_4
  intro y1' s2' z_ r4
  cases z_
  obtain ⟨s5, e6, h⟩ := lq_0_some h
  refine wl_X6_constant_51 fr lr rcf hrcf rx1 FU y1 s2 _ e6 r4 ?_
  unfold E_X6_constant_51
  intro s5' z_
  cases z_
  refine v_aload_n dX6_constant_106 0 rfl rfl ?_
  refine v_getS (f := 15) (t := 38) cf6 oc13 rfl rfl rfl (by decide) q642 dX6_constant_107 ?_
  refine v_iload_n dX6_constant_110 1 rfl rfl ?_
  obtain ⟨g7, h⟩ := gd_some h
  refine v_iald oc38 rx1 g7.1 g7.2 dX6_constant_111 ?_
  refine v_iconst dX6_constant_112 ?_
  refine v_icmp_ne (tgt := 120) dX6_constant_113 (gE_rg _ _ _) (rgl rfl) (by decide) (fun c8 => ?_) (fun c8 => ?_)
  · rw [if_neg c8] at h
    refine v_iconst dX6_constant_120 ?_
    cases h
    exact v_zret (Or.inl rfl) dX6_constant_121
  · rw [if_pos c8] at h
    refine v_iconst dX6_constant_116 ?_
    refine v_goto (tgt := 121) dX6_constant_117 (by decide) ?_
    cases h
    exact v_zret (Or.inr rfl) dX6_constant_121

/-- the recursion, so many calls deep -/
def d_X6_constant : Nat → RT_X6_constant
  | 0 => fun _ _ => none
  | d + 1 => fun x1 s => f_X6_constant (11 * d) (265 * d) (d_X6_constant d) x1 s
theorem hd_X6_constant : ∀ d, HR_X6_constant (11 * d) (265 * d) (d_X6_constant d)
  | 0 => fun x1 s out h => by cases h
  | d + 1 => fun x1 s out h rx1 => by
    have k := c_X6_constant (fr := 11 * d) (lr := 265 * d) (rcf := d_X6_constant d) h (hd_X6_constant d) rx1
    exact k

def E_X6_valued_2 (rv : Option vA) (σo : vS) (q : vS) : Prop := ∀ (s' : vS), q = s' → VW cX6_valued (RX6, rv, σo, (some .boolean), 99, 2385, 4, []) (P0 []) s' 26 [(0, vO 13)] []
def l_X6_valued_2 : Nat → Int → vS → Option (vS)
  | 0, _, _ => none
  | n + 1, x1, s =>
    bd (f_X4_size s) fun r4 s1 =>
    if r4 ≤ x1 then
      some s1
    else
      gd (inb x1 (gN s1 38)) <|
      stp (sE s1 38 x1 0) fun s8 =>
      vl (w32 (x1 + 1)) fun y10 =>
      l_X6_valued_2 n y10 s8
theorem wl_X6_valued_2 {rv : Option vA} {σo : vS}  : ∀ (n : Nat) (x1 : Int) (s : vS) (q : vS), l_X6_valued_2 n x1 s = some q → rg x1 → E_X6_valued_2 rv σo q → VW cX6_valued (RX6, rv, σo, (some .boolean), 99, 2385, 4, []) (P0 []) s 2 [(0, vO 13), (1, vI x1)] [] := by
  intro n
  induction n with
  | zero => intro x1 s q h; cases h
  | succ n ih =>
    intro x1 s q h rx1 hE
    unfold l_X6_valued_2 at h
    refine v_iload_n dX6_valued_2 1 rfl rfl ?_
    refine v_aload_n dX6_valued_3 0 rfl rfl ?_
    refine v_getS (f := 1) (t := 10) cf6 oc13 rfl rfl rfl (by decide) q628 dX6_valued_4 ?_
    obtain ⟨r4, s1, e2, h⟩ := bd_some h
    have k3 := c_X4_size e2
    have r5 : rg r4 := k3.1.2.2
    refine v_callV (st := [vI x1]) cf4 oc10 k3 (lw_V q1427 q1428 q1429 q301 q1430) rfl yk_X4_size ⟨Nat.le_of_ble_eq_true rfl, Nat.le_of_ble_eq_true rfl⟩ trivial ⟨kc13, trivial⟩ (Nat.le_of_ble_eq_true rfl) rfl dX6_valued_7 ?_
    refine v_icmp_ge (tgt := 26) dX6_valued_10 rx1 r5 (by decide) (fun c6 => ?_) (fun c6 => ?_)
    · rw [if_pos c6] at h
      cases h
      refine v_sub [0] (L1 := [(0, vO 13)]) rfl ?_
      exact hE _ rfl 
    · rw [if_neg c6] at h
      refine v_aload_n dX6_valued_13 0 rfl rfl ?_
      refine v_getS (f := 15) (t := 38) cf6 oc13 rfl rfl rfl (by decide) q642 dX6_valued_14 ?_
      refine v_iload_n dX6_valued_17 1 rfl rfl ?_
      refine v_iconst dX6_valued_18 ?_
      obtain ⟨g7, h⟩ := gd_some h
      obtain ⟨s8, e9, h⟩ := stp_some h
      refine v_iast oc38 rx1 g7.1 g7.2 dX6_valued_19 ?_
      rw [← e9]
      obtain ⟨y10, e11, h⟩ := vl_some h
      refine v_iinc (L1 := [(1, vI (w32 (x1 + 1))), (0, vO 13)]) dX6_valued_20 1 rfl (by decide) rfl ?_
      rw [← e11]
      have r12 : rg y10 := by rw [e11]; exact w32_rg _
      refine v_goto (tgt := 2) dX6_valued_23 (by decide) ?_
      refine v_sub [1, 0] (L1 := [(0, vO 13), (1, vI y10)]) rfl ?_
      exact ih y10 s8 _ h r12 hE

def E_X6_valued_28 (rv : Option vA) (σo : vS) (q : vS) : Prop := ∀ (s' : vS), q = s' → VW cX6_valued (RX6, rv, σo, (some .boolean), 99, 2385, 4, []) (P0 []) s' 131 [(0, vO 13)] []
def j_X6_valued_111 (rec : Int → vS → Option (vS)) (x1 : Int) (x3 : Int) (s : vS) : Option (vS) :=
  bd (f_X4_lexeme x3 s) fun r4 s1 =>
  bdv (f_X6_blame 12 r4 s1) fun s6 =>
  vl (w32 (x1 + 1)) fun y9 =>
  rec y9 s6
theorem wj_X6_valued_111 {x1 : Int} {x3 : Int} {s : vS} {rv : Option vA} {σo : vS} {rec : Int → vS → Option (vS)} {q : vS} (h : j_X6_valued_111 rec x1 x3 s = some q)  (rx1 : rg x1) (rx3 : rg x3) (hrec : ∀ (y1 : Int) (s : vS) (q : vS), rec y1 s = some q → rg y1 → E_X6_valued_28 rv σo q → VW cX6_valued (RX6, rv, σo, (some .boolean), 99, 2385, 4, []) (P0 []) s 28 [(0, vO 13), (1, vI y1)] []) (hE : E_X6_valued_28 rv σo q) : VW cX6_valued (RX6, rv, σo, (some .boolean), 99, 2385, 4, []) (P0 []) s 111 [(0, vO 13), (1, vI x1), (3, vI x3)] [] := by
  unfold j_X6_valued_111 at h
  refine v_aload_n dX6_valued_111 0 rfl rfl ?_
  refine v_bipush dX6_valued_112 rfl ?_
  refine v_aload_n dX6_valued_114 0 rfl rfl ?_
  refine v_getS (f := 1) (t := 10) cf6 oc13 rfl rfl rfl (by decide) q628 dX6_valued_115 ?_
  refine v_iload_n dX6_valued_118 2 rfl rfl ?_
  obtain ⟨r4, s1, e2, h⟩ := bd_some h
  have k3 := c_X4_lexeme e2 rx3
  have r5 : rg r4 := k3.1.2.2
  refine v_callV (st := [vI 12, vO 13]) cf4 oc10 k3 (lw_V q1449 q1450 q1451 q301 q1452) rfl yk_X4_lexeme ⟨Nat.le_of_ble_eq_true rfl, Nat.le_of_ble_eq_true rfl⟩ ⟨kc13, trivial⟩ ⟨kc13, trivial⟩ (Nat.le_of_ble_eq_true rfl) rfl dX6_valued_119 ?_
  obtain ⟨s6, e7, h⟩ := bdv_some h
  have k8 := c_X6_blame e7 (rgl rfl) r5
  refine v_callV (st := []) cf6 oc13 k8 (lw_V q1478 q1480 qs45 q303 q1481) rfl yk_X6_blame ⟨Nat.le_of_ble_eq_true rfl, Nat.le_of_ble_eq_true rfl⟩ trivial ⟨kc13, trivial⟩ (Nat.le_of_ble_eq_true rfl) rfl dX6_valued_122 ?_
  obtain ⟨y9, e10, h⟩ := vl_some h
  refine v_iinc (L1 := [(1, vI (w32 (x1 + 1))), (0, vO 13), (3, vI x3)]) dX6_valued_125 1 rfl (by decide) rfl ?_
  rw [← e10]
  have r11 : rg y9 := by rw [e10]; exact w32_rg _
  refine v_goto (tgt := 28) dX6_valued_128 (by decide) ?_
  refine v_sub [1, 0] (L1 := [(0, vO 13), (1, vI y9)]) rfl ?_
  exact hrec y9 s6 _ h r11 hE

def j_X6_valued_72 (rec : Int → vS → Option (vS)) (x1 : Int) (x2 : Int) (z0 : Int) (s : vS) : Option (vS) :=
  if z0 = (-1) then
    vl (w32 (x1 + 1)) fun y2 =>
    rec y2 s
  else
    if x2 = 29 then
      bd (d_X6_constant 8 x1 s) fun r23 s20 =>
      if r23 = 0 then
        j_X6_valued_111 rec x1 z0 s20
      else
        vl (w32 (x1 + 1)) fun y26 =>
        rec y26 s20
    else
      bd (f_X4_parts x1 s) fun r9 s6 =>
      bd (f_X6_evaluate 88 2120 (d_X6_constant 8) z0 r9 s6) fun r14 s11 =>
      if r14 = 0 then
        j_X6_valued_111 rec x1 z0 s11
      else
        vl (w32 (x1 + 1)) fun y17 =>
        rec y17 s11
theorem wj_X6_valued_72 {x1 : Int} {x2 : Int} {z0 : Int} {s : vS} {rv : Option vA} {σo : vS} {rec : Int → vS → Option (vS)} {q : vS} (h : j_X6_valued_72 rec x1 x2 z0 s = some q)  (rx1 : rg x1) (rx2 : rg x2) (rz0 : rg z0) (hrec : ∀ (y1 : Int) (s : vS) (q : vS), rec y1 s = some q → rg y1 → E_X6_valued_28 rv σo q → VW cX6_valued (RX6, rv, σo, (some .boolean), 99, 2385, 4, []) (P0 []) s 28 [(0, vO 13), (1, vI y1)] []) (hE : E_X6_valued_28 rv σo q) : VW cX6_valued (RX6, rv, σo, (some .boolean), 99, 2385, 4, []) (P0 []) s 72 [(0, vO 13), (1, vI x1), (2, vI x2)] [vI z0] := by
  unfold j_X6_valued_72 at h
  refine v_istore_n (L1 := [(3, vI z0), (0, vO 13), (1, vI x1), (2, vI x2)]) dX6_valued_72 rfl (by decide) rfl ?_
  refine v_iload_n dX6_valued_73 0 rfl rfl ?_
  refine v_iconst dX6_valued_74 ?_
  refine v_icmp_eq (tgt := 125) dX6_valued_75 rz0 (rgl rfl) (by decide) (fun c1 => ?_) (fun c1 => ?_)
  · rw [if_pos c1] at h
    obtain ⟨y2, e3, h⟩ := vl_some h
    refine v_iinc (L1 := [(1, vI (w32 (x1 + 1))), (3, vI z0), (0, vO 13), (2, vI x2)]) dX6_valued_125 2 rfl (by decide) rfl ?_
    rw [← e3]
    have r4 : rg y2 := by rw [e3]; exact w32_rg _
    refine v_goto (tgt := 28) dX6_valued_128 (by decide) ?_
    refine v_sub [2, 0] (L1 := [(0, vO 13), (1, vI y2)]) rfl ?_
    exact hrec y2 s _ h r4 hE
  · rw [if_neg c1] at h
    refine v_iload_n dX6_valued_78 3 rfl rfl ?_
    refine v_bipush dX6_valued_79 rfl ?_
    refine v_icmp_ne (tgt := 95) dX6_valued_81 rx2 (rgl rfl) (by decide) (fun c5 => ?_) (fun c5 => ?_)
    · rw [if_neg c5] at h
      refine v_aload_n dX6_valued_95 1 rfl rfl ?_
      refine v_iload_n dX6_valued_96 0 rfl rfl ?_
      refine v_aload_n dX6_valued_97 1 rfl rfl ?_
      refine v_getS (f := 1) (t := 10) cf6 oc13 rfl rfl rfl (by decide) q628 dX6_valued_98 ?_
      refine v_iload_n dX6_valued_101 2 rfl rfl ?_
      obtain ⟨r9, s6, e7, h⟩ := bd_some h
      have k8 := c_X4_parts e7 rx1
      have r10 : rg r9 := k8.1.2.2
      refine v_callV (st := [vI z0, vO 13]) cf4 oc10 k8 (lw_V q1492 q1493 q1494 q301 q1495) rfl yk_X4_parts ⟨Nat.le_of_ble_eq_true rfl, Nat.le_of_ble_eq_true rfl⟩ ⟨kc13, trivial⟩ ⟨kc13, trivial⟩ (Nat.le_of_ble_eq_true rfl) rfl dX6_valued_102 ?_
      obtain ⟨r14, s11, e12, h⟩ := bd_some h
      have k13 := c_X6_evaluate e12 (hd_X6_constant 8) rz0 r10
      have r15 : rg r14 := k13.1.2.2
      refine v_callV (st := []) cf6 oc13 k13 (lw_V q1700 q1702 qs84 q303 q1703) rfl yk_X6_evaluate ⟨Nat.le_of_ble_eq_true rfl, Nat.le_of_ble_eq_true rfl⟩ trivial ⟨kc13, trivial⟩ (Nat.le_of_ble_eq_true rfl) rfl dX6_valued_105 ?_
      refine v_if_ne (tgt := 125) dX6_valued_108 r15 (by decide) (fun c16 => ?_) (fun c16 => ?_)
      · rw [if_neg c16] at h
        obtain ⟨y17, e18, h⟩ := vl_some h
        refine v_iinc (L1 := [(1, vI (w32 (x1 + 1))), (3, vI z0), (0, vO 13), (2, vI x2)]) dX6_valued_125 2 rfl (by decide) rfl ?_
        rw [← e18]
        have r19 : rg y17 := by rw [e18]; exact w32_rg _
        refine v_goto (tgt := 28) dX6_valued_128 (by decide) ?_
        refine v_sub [2, 0] (L1 := [(0, vO 13), (1, vI y17)]) rfl ?_
        exact hrec y17 s11 _ h r19 hE
      · rw [if_pos c16] at h
        refine v_sub [1, 2, 0] (L1 := [(0, vO 13), (1, vI x1), (3, vI z0)]) rfl ?_
        exact wj_X6_valued_111 h rx1 rz0 hrec hE
    · rw [if_pos c5] at h
      refine v_aload_n dX6_valued_84 1 rfl rfl ?_
      refine v_iload_n dX6_valued_85 2 rfl rfl ?_
      obtain ⟨r23, s20, e21, h⟩ := bd_some h
      have k22 := hd_X6_constant 8 _ _ _ e21 rx1
      have r24 : rg r23 := k22.1.2.2
      refine v_callV (st := []) cf6 oc13 k22 (lw_V q1696 q1698 qs83 q303 q1699) rfl yk_X6_constant ⟨Nat.le_of_ble_eq_true rfl, Nat.le_of_ble_eq_true rfl⟩ trivial ⟨kc13, trivial⟩ (Nat.le_of_ble_eq_true rfl) rfl dX6_valued_86 ?_
      refine v_if_eq (tgt := 111) dX6_valued_89 r24 (by decide) (fun c25 => ?_) (fun c25 => ?_)
      · rw [if_pos c25] at h
        refine v_sub [1, 2, 0] (L1 := [(0, vO 13), (1, vI x1), (3, vI z0)]) rfl ?_
        exact wj_X6_valued_111 h rx1 rz0 hrec hE
      · rw [if_neg c25] at h
        refine v_goto (tgt := 125) dX6_valued_92 (by decide) ?_
        obtain ⟨y26, e27, h⟩ := vl_some h
        refine v_iinc (L1 := [(1, vI (w32 (x1 + 1))), (3, vI z0), (0, vO 13), (2, vI x2)]) dX6_valued_125 2 rfl (by decide) rfl ?_
        rw [← e27]
        have r28 : rg y26 := by rw [e27]; exact w32_rg _
        refine v_goto (tgt := 28) dX6_valued_128 (by decide) ?_
        refine v_sub [2, 0] (L1 := [(0, vO 13), (1, vI y26)]) rfl ?_
        exact hrec y26 s20 _ h r28 hE

def j_X6_valued_60 (rec : Int → vS → Option (vS)) (x1 : Int) (x2 : Int) (s : vS) : Option (vS) :=
  bd (f_X4_limits x1 s) fun r4 s1 =>
  j_X6_valued_72 rec x1 x2 r4 s1
theorem wj_X6_valued_60 {x1 : Int} {x2 : Int} {s : vS} {rv : Option vA} {σo : vS} {rec : Int → vS → Option (vS)} {q : vS} (h : j_X6_valued_60 rec x1 x2 s = some q)  (rx1 : rg x1) (rx2 : rg x2) (hrec : ∀ (y1 : Int) (s : vS) (q : vS), rec y1 s = some q → rg y1 → E_X6_valued_28 rv σo q → VW cX6_valued (RX6, rv, σo, (some .boolean), 99, 2385, 4, []) (P0 []) s 28 [(0, vO 13), (1, vI y1)] []) (hE : E_X6_valued_28 rv σo q) : VW cX6_valued (RX6, rv, σo, (some .boolean), 99, 2385, 4, []) (P0 []) s 60 [(0, vO 13), (1, vI x1), (2, vI x2)] [] := by
  unfold j_X6_valued_60 at h
  refine v_aload_n dX6_valued_60 0 rfl rfl ?_
  refine v_getS (f := 1) (t := 10) cf6 oc13 rfl rfl rfl (by decide) q628 dX6_valued_61 ?_
  refine v_iload_n dX6_valued_64 1 rfl rfl ?_
  obtain ⟨r4, s1, e2, h⟩ := bd_some h
  have k3 := c_X4_limits e2 rx1
  have r5 : rg r4 := k3.1.2.2
  refine v_callV (st := []) cf4 oc10 k3 (lw_V q1579 q1396 q1397 q301 q1398) rfl yk_X4_limits ⟨Nat.le_of_ble_eq_true rfl, Nat.le_of_ble_eq_true rfl⟩ trivial ⟨kc13, trivial⟩ (Nat.le_of_ble_eq_true rfl) rfl dX6_valued_65 ?_
  refine v_goto (tgt := 72) dX6_valued_68 (by decide) ?_
  exact wj_X6_valued_72 h rx1 rx2 r5 hrec hE

def l_X6_valued_28 : Nat → Int → vS → Option (vS)
  | 0, _, _ => none
  | n + 1, x1, s =>
    bd (f_X4_size s) fun r4 s1 =>
    if r4 ≤ x1 then
      some s1
    else
      bd (f_X4_kind x1 s1) fun r10 s7 =>
      if r10 = 22 then
        j_X6_valued_60 (l_X6_valued_28 n) x1 r10 s7
      else
        if r10 = 29 then
          j_X6_valued_60 (l_X6_valued_28 n) x1 r10 s7
        else
          j_X6_valued_72 (l_X6_valued_28 n) x1 r10 (-1) s7
theorem wl_X6_valued_28 {rv : Option vA} {σo : vS}  : ∀ (n : Nat) (x1 : Int) (s : vS) (q : vS), l_X6_valued_28 n x1 s = some q → rg x1 → E_X6_valued_28 rv σo q → VW cX6_valued (RX6, rv, σo, (some .boolean), 99, 2385, 4, []) (P0 []) s 28 [(0, vO 13), (1, vI x1)] [] := by
  intro n
  induction n with
  | zero => intro x1 s q h; cases h
  | succ n ih =>
    intro x1 s q h rx1 hE
    unfold l_X6_valued_28 at h
    refine v_iload_n dX6_valued_28 1 rfl rfl ?_
    refine v_aload_n dX6_valued_29 0 rfl rfl ?_
    refine v_getS (f := 1) (t := 10) cf6 oc13 rfl rfl rfl (by decide) q628 dX6_valued_30 ?_
    obtain ⟨r4, s1, e2, h⟩ := bd_some h
    have k3 := c_X4_size e2
    have r5 : rg r4 := k3.1.2.2
    refine v_callV (st := [vI x1]) cf4 oc10 k3 (lw_V q1427 q1428 q1429 q301 q1430) rfl yk_X4_size ⟨Nat.le_of_ble_eq_true rfl, Nat.le_of_ble_eq_true rfl⟩ trivial ⟨kc13, trivial⟩ (Nat.le_of_ble_eq_true rfl) rfl dX6_valued_33 ?_
    refine v_icmp_ge (tgt := 131) dX6_valued_36 rx1 r5 (by decide) (fun c6 => ?_) (fun c6 => ?_)
    · rw [if_pos c6] at h
      cases h
      refine v_sub [0] (L1 := [(0, vO 13)]) rfl ?_
      exact hE _ rfl 
    · rw [if_neg c6] at h
      refine v_aload_n dX6_valued_39 0 rfl rfl ?_
      refine v_getS (f := 1) (t := 10) cf6 oc13 rfl rfl rfl (by decide) q628 dX6_valued_40 ?_
      refine v_iload_n dX6_valued_43 1 rfl rfl ?_
      obtain ⟨r10, s7, e8, h⟩ := bd_some h
      have k9 := c_X4_kind e8 rx1
      have r11 : rg r10 := k9.1.2.2
      refine v_callV (st := []) cf4 oc10 k9 (lw_V q1445 q1446 q1447 q301 q1448) rfl yk_X4_kind ⟨Nat.le_of_ble_eq_true rfl, Nat.le_of_ble_eq_true rfl⟩ trivial ⟨kc13, trivial⟩ (Nat.le_of_ble_eq_true rfl) rfl dX6_valued_44 ?_
      refine v_istore_n (L1 := [(2, vI r10), (0, vO 13), (1, vI x1)]) dX6_valued_47 rfl (by decide) rfl ?_
      refine v_iload_n dX6_valued_48 0 rfl rfl ?_
      refine v_bipush dX6_valued_49 rfl ?_
      refine v_icmp_eq (tgt := 60) dX6_valued_51 r11 (rgl rfl) (by decide) (fun c12 => ?_) (fun c12 => ?_)
      · rw [if_pos c12] at h
        refine v_sub [1, 2, 0] (L1 := [(0, vO 13), (1, vI x1), (2, vI r10)]) rfl ?_
        exact wj_X6_valued_60 h rx1 r11 ih hE
      · rw [if_neg c12] at h
        refine v_iload_n dX6_valued_54 0 rfl rfl ?_
        refine v_bipush dX6_valued_55 rfl ?_
        refine v_icmp_ne (tgt := 71) dX6_valued_57 r11 (rgl rfl) (by decide) (fun c13 => ?_) (fun c13 => ?_)
        · rw [if_neg c13] at h
          refine v_iconst dX6_valued_71 ?_
          refine v_sub [1, 2, 0] (L1 := [(0, vO 13), (1, vI x1), (2, vI r10)]) rfl ?_
          exact wj_X6_valued_72 h rx1 r11 (rgl rfl) ih hE
        · rw [if_pos c13] at h
          refine v_sub [1, 2, 0] (L1 := [(0, vO 13), (1, vI x1), (2, vI r10)]) rfl ?_
          exact wj_X6_valued_60 h rx1 r11 ih hE

def f_X6_valued (s : vS) : Option (Int × vS) :=
  lq_0 (l_X6_valued_2 FU 0 s) fun s1 =>
  lq_0 (l_X6_valued_28 FU 0 s1) fun s3 =>
  if (gI s3 13 20) = 0 then
    some (1, s3)
  else
    some (0, s3)
theorem yk_X6_valued : yOk yX6_valued 0 := ⟨by decide, by decide, by decide +kernel⟩
theorem c_X6_valued {s : vS} {out : Int × vS} (h : f_X6_valued s = some out)   : VC yX6_valued cX6_valued 4 (some .boolean) 99 2385 [vO 13] s (some (vI out.1)) out.2 [] := by
  unfold f_X6_valued at h
  refine VC.of RX6 (by decide) rfl (Nat.le_of_ble_eq_true rfl) ?_
  show VW cX6_valued (RX6, (some (vI out.1)), out.2, (some .boolean), 99, 2385, 4, []) (P0 []) s 0 [(0, vO 13)] []
  refine v_iconst dX6_valued_0 ?_
  refine v_istore_n (L1 := [(1, vI 0), (0, vO 13)]) dX6_valued_1 rfl (by decide) rfl ?_
  refine v_sub [1, 0] (L1 := [(0, vO 13), (1, vI 0)]) rfl ?_
  obtain ⟨s1, e2, h⟩ := lq_0_some h
  refine wl_X6_valued_2  FU 0 s _ e2 (rgl rfl) ?_
  unfold E_X6_valued_2
  intro s1' z_
  cases z_
  refine v_iconst dX6_valued_26 ?_
  refine v_istore_n (L1 := [(1, vI 0), (0, vO 13)]) dX6_valued_27 rfl (by decide) rfl ?_
  refine v_sub [1, 0] (L1 := [(0, vO 13), (1, vI 0)]) rfl ?_
  obtain ⟨s3, e4, h⟩ := lq_0_some h
  refine wl_X6_valued_28  FU 0 s1 _ e4 (rgl rfl) ?_
  unfold E_X6_valued_28
  intro s3' z_
  cases z_
  refine v_aload_n dX6_valued_131 0 rfl rfl ?_
  refine v_getI (f := 20) cf6 oc13 rfl (by decide) q647 dX6_valued_132 ?_
  refine v_if_ne (tgt := 142) dX6_valued_135 (gI_rg _ _ _) (by decide) (fun c5 => ?_) (fun c5 => ?_)
  · rw [if_neg c5] at h
    refine v_iconst dX6_valued_142 ?_
    cases h
    exact v_zret (Or.inl rfl) dX6_valued_143
  · rw [if_pos c5] at h
    refine v_iconst dX6_valued_138 ?_
    refine v_goto (tgt := 143) dX6_valued_139 (by decide) ?_
    cases h
    exact v_zret (Or.inr rfl) dX6_valued_143

def E_X6_check_101 (rv : Option vA) (σo : vS) (q : vS) : Prop := ∀ (s' : vS), q = s' → VW cX6_check (RX6, rv, σo, (some .boolean), 642, 14893, 4, []) (P0 []) s' 141 [(0, vO 13)] []
def l_X6_check_101 : Nat → Int → Int → vS → Option (vS)
  | 0, _, _, _ => none
  | n + 1, x2, x3, s =>
    if x2 ≤ x3 then
      some s
    else
      gd (inb x3 (gN s 34)) <|
      stp (sE s 34 x3 (-1)) fun s3 =>
      gd (inb x3 (gN s3 39)) <|
      stp (sE s3 39 x3 (-2)) fun s6 =>
      gd (inb x3 (gN s6 36)) <|
      stp (sE s6 36 x3 (-1)) fun s9 =>
      gd (inb x3 (gN s9 38)) <|
      stp (sE s9 38 x3 0) fun s12 =>
      vl (w32 (x3 + 1)) fun y14 =>
      l_X6_check_101 n x2 y14 s12
theorem wl_X6_check_101 {x2 : Int} {rv : Option vA} {σo : vS}  (rx2 : rg x2) : ∀ (n : Nat) (x3 : Int) (s : vS) (q : vS), l_X6_check_101 n x2 x3 s = some q → rg x3 → E_X6_check_101 rv σo q → VW cX6_check (RX6, rv, σo, (some .boolean), 642, 14893, 4, []) (P0 []) s 101 [(0, vO 13), (2, vI x2), (3, vI x3)] [] := by
  intro n
  induction n with
  | zero => intro x3 s q h; cases h
  | succ n ih =>
    intro x3 s q h rx3 hE
    unfold l_X6_check_101 at h
    refine v_iload_n dX6_check_101 2 rfl rfl ?_
    refine v_iload_n dX6_check_102 1 rfl rfl ?_
    refine v_icmp_ge (tgt := 141) dX6_check_103 rx3 rx2 (by decide) (fun c1 => ?_) (fun c1 => ?_)
    · rw [if_pos c1] at h
      cases h
      refine v_sub [0] (L1 := [(0, vO 13)]) rfl ?_
      exact hE _ rfl 
    · rw [if_neg c1] at h
      refine v_aload_n dX6_check_106 0 rfl rfl ?_
      refine v_getS (f := 11) (t := 34) cf6 oc13 rfl rfl rfl (by decide) q638 dX6_check_107 ?_
      refine v_iload_n dX6_check_110 2 rfl rfl ?_
      refine v_iconst dX6_check_111 ?_
      obtain ⟨g2, h⟩ := gd_some h
      obtain ⟨s3, e4, h⟩ := stp_some h
      refine v_iast oc34 rx3 g2.1 g2.2 dX6_check_112 ?_
      rw [← e4]
      refine v_aload_n dX6_check_113 0 rfl rfl ?_
      refine v_getS (f := 16) (t := 39) cf6 oc13 rfl rfl rfl (by decide) q643 dX6_check_114 ?_
      refine v_iload_n dX6_check_117 2 rfl rfl ?_
      refine v_bipush dX6_check_118 rfl ?_
      obtain ⟨g5, h⟩ := gd_some h
      obtain ⟨s6, e7, h⟩ := stp_some h
      refine v_iast oc39 rx3 g5.1 g5.2 dX6_check_120 ?_
      rw [← e7]
      refine v_aload_n dX6_check_121 0 rfl rfl ?_
      refine v_getS (f := 13) (t := 36) cf6 oc13 rfl rfl rfl (by decide) q640 dX6_check_122 ?_
      refine v_iload_n dX6_check_125 2 rfl rfl ?_
      refine v_iconst dX6_check_126 ?_
      obtain ⟨g8, h⟩ := gd_some h
      obtain ⟨s9, e10, h⟩ := stp_some h
      refine v_iast oc36 rx3 g8.1 g8.2 dX6_check_127 ?_
      rw [← e10]
      refine v_aload_n dX6_check_128 0 rfl rfl ?_
      refine v_getS (f := 15) (t := 38) cf6 oc13 rfl rfl rfl (by decide) q642 dX6_check_129 ?_
      refine v_iload_n dX6_check_132 2 rfl rfl ?_
      refine v_iconst dX6_check_133 ?_
      obtain ⟨g11, h⟩ := gd_some h
      obtain ⟨s12, e13, h⟩ := stp_some h
      refine v_iast oc38 rx3 g11.1 g11.2 dX6_check_134 ?_
      rw [← e13]
      obtain ⟨y14, e15, h⟩ := vl_some h
      refine v_iinc (L1 := [(3, vI (w32 (x3 + 1))), (0, vO 13), (2, vI x2)]) dX6_check_135 2 rfl (by decide) rfl ?_
      rw [← e15]
      have r16 : rg y14 := by rw [e15]; exact w32_rg _
      refine v_goto (tgt := 101) dX6_check_138 (by decide) ?_
      refine v_sub [1, 2, 0] (L1 := [(0, vO 13), (2, vI x2), (3, vI y14)]) rfl ?_
      exact ih y14 s12 _ h r16 hE

def f_X6_check (s : vS) : Option (Int × vS) :=
  stp (sR s 13 0 5) fun s1 =>
  bd (f_X4_size s1) fun r6 s3 =>
  bd (f_X6_grown 34 r6 s3) fun r11 s12 =>
  gd (r11 = 0 ∨ (2 * gN s12 34 ≤ gN s12 199 ∧ 2 ≤ gN s12 199)) <|
  stp (grw s12 34 r11) fun s16 =>
  bd (f_X6_grown 35 r6 s16) fun r21 s22 =>
  gd (r21 = 0 ∨ (2 * gN s22 35 ≤ gN s22 199 ∧ 2 ≤ gN s22 199)) <|
  stp (grw s22 35 r21) fun s26 =>
  bd (f_X6_grown 36 r6 s26) fun r31 s32 =>
  gd (r31 = 0 ∨ (2 * gN s32 36 ≤ gN s32 199 ∧ 2 ≤ gN s32 199)) <|
  stp (grw s32 36 r31) fun s36 =>
  bd (f_X6_grown 37 r6 s36) fun r41 s42 =>
  gd (r41 = 0 ∨ (2 * gN s42 37 ≤ gN s42 199 ∧ 2 ≤ gN s42 199)) <|
  stp (grw s42 37 r41) fun s46 =>
  bd (f_X6_grown 38 r6 s46) fun r51 s52 =>
  gd (r51 = 0 ∨ (2 * gN s52 38 ≤ gN s52 199 ∧ 2 ≤ gN s52 199)) <|
  stp (grw s52 38 r51) fun s56 =>
  bd (f_X6_grown 39 r6 s56) fun r61 s62 =>
  gd (r61 = 0 ∨ (2 * gN s62 39 ≤ gN s62 199 ∧ 2 ≤ gN s62 199)) <|
  stp (grw s62 39 r61) fun s66 =>
  bd (f_X6_grown 41 (w32 (r6 + 1)) s66) fun r71 s72 =>
  gd (r71 = 0 ∨ (2 * gN s72 41 ≤ gN s72 199 ∧ 2 ≤ gN s72 199)) <|
  stp (grw s72 41 r71) fun s76 =>
  lq_0 (l_X6_check_101 FU r6 0 s76) fun s78 =>
  bdv (f_X2_clear 30 s78) fun s80 =>
  stp (sI s80 13 18 0) fun s83 =>
  stp (sI s83 13 20 0) fun s85 =>
  stp (sI s85 13 21 0) fun s87 =>
  gd (gR s87 13 0 = 5) <|
  bdv (f_X9_clear 19 s87) fun s90 =>
  gd (gR s90 13 0 = 5) <|
  bdv (f_X9_clear 22 s90) fun s94 =>
  bd (f_X6_assigned s94) fun r100 s97 =>
  if r100 = 0 then
    some (0, s97)
  else
    bd (f_X6_lists s97) fun r106 s103 =>
    if r106 = 0 then
      some (0, s103)
    else
      bd (f_X6_known s103) fun r112 s109 =>
      if r112 = 0 then
        some (0, s109)
      else
        bd (f_X6_finite s109) fun r118 s115 =>
        if r118 = 0 then
          some (0, s115)
        else
          bd (f_X6_tagged s115) fun r124 s121 =>
          if r124 = 0 then
            some (0, s121)
          else
            bd (f_X6_distinct s121) fun r130 s127 =>
            if r130 = 0 then
              some (0, s127)
            else
              bd (f_X6_straight s127) fun r136 s133 =>
              if r136 = 0 then
                some (0, s133)
              else
                bd (f_X6_bounded s133) fun r142 s139 =>
                if r142 = 0 then
                  some (0, s139)
                else
                  bd (f_X6_valued s139) fun r148 s145 =>
                  if r148 = 0 then
                    some (0, s145)
                  else
                    some (1, s145)
theorem yk_X6_check : yOk yX6_check 1 := ⟨by decide, by decide, by decide +kernel⟩
theorem c_X6_check {s : vS} {out : Int × vS} (h : f_X6_check s = some out)   : VC yX6_check cX6_check 4 (some .boolean) 642 14893 [vO 13, vO 5] s (some (vI out.1)) out.2 [] := by
  unfold f_X6_check at h
  refine VC.of RX6 (by decide) rfl (Nat.le_of_ble_eq_true rfl) ?_
  show VW cX6_check (RX6, (some (vI out.1)), out.2, (some .boolean), 642, 14893, 4, []) (P0 []) s 0 [(0, vO 13), (1, vO 5)] []
  refine v_aload_n dX6_check_0 0 rfl rfl ?_
  refine v_aload_n dX6_check_1 1 rfl rfl ?_
  obtain ⟨s1, e2, h⟩ := stp_some h
  refine v_putR (f := 0) cf6 oc13 rfl (by decide) (by decide) q627 dX6_check_2 rfl rfl ?_
  rw [← e2]
  refine v_aload_n dX6_check_5 0 rfl rfl ?_
  refine v_getS (f := 1) (t := 10) cf6 oc13 rfl rfl rfl (by decide) q628 dX6_check_6 ?_
  obtain ⟨r6, s3, e4, h⟩ := bd_some h
  have k5 := c_X4_size e4
  have r7 : rg r6 := k5.1.2.2
  refine v_callV (st := []) cf4 oc10 k5 (lw_V q1427 q1428 q1429 q301 q1430) rfl yk_X4_size ⟨Nat.le_of_ble_eq_true rfl, Nat.le_of_ble_eq_true rfl⟩ trivial ⟨kc13, kc5, trivial⟩ (Nat.le_of_ble_eq_true rfl) rfl dX6_check_9 ?_
  refine v_istore_n (L1 := [(2, vI r6), (0, vO 13), (1, vO 5)]) dX6_check_12 rfl (by decide) rfl ?_
  refine v_aload_n dX6_check_13 1 rfl rfl ?_
  refine v_aload_n dX6_check_14 1 rfl rfl ?_
  refine v_getS (f := 11) (t := 34) cf6 oc13 rfl rfl rfl (by decide) q638 dX6_check_15 ?_
  refine v_iload_n dX6_check_18 0 rfl rfl ?_
  obtain ⟨r11, s12, e13, h⟩ := bd_some h
  have k14 := c_X6_grown e13 (⟨by decide, rfl⟩ : okB 34 24) r7
  obtain ⟨g15, h⟩ := gd_some h
  obtain ⟨s16, e17, h⟩ := stp_some h
  refine v_regrow (f := 11) k14 (lw_S q1431 q1432 q303 q1433) yk_X6_grown ⟨Nat.le_of_ble_eq_true rfl, Nat.le_of_ble_eq_true rfl⟩ ⟨kc13, trivial⟩ ⟨kc13, kc5, trivial⟩ (Nat.le_of_ble_eq_true rfl) dX6_check_19 cf6 (⟨by decide, rfl⟩ : okB 13 5) rfl (by decide) rfl rfl g15 q638 dX6_check_22 rfl rfl rfl rfl ⟨(by decide), (by decide), trivial⟩ trivial ?_
  rw [← e17]
  refine v_aload_n dX6_check_25 1 rfl rfl ?_
  refine v_aload_n dX6_check_26 1 rfl rfl ?_
  refine v_getS (f := 12) (t := 35) cf6 oc13 rfl rfl rfl (by decide) q639 dX6_check_27 ?_
  refine v_iload_n dX6_check_30 0 rfl rfl ?_
  obtain ⟨r21, s22, e23, h⟩ := bd_some h
  have k24 := c_X6_grown e23 (⟨by decide, rfl⟩ : okB 35 24) r7
  obtain ⟨g25, h⟩ := gd_some h
  obtain ⟨s26, e27, h⟩ := stp_some h
  refine v_regrow (f := 12) k24 (lw_S q1431 q1432 q303 q1433) yk_X6_grown ⟨Nat.le_of_ble_eq_true rfl, Nat.le_of_ble_eq_true rfl⟩ ⟨kc13, trivial⟩ ⟨kc13, kc5, trivial⟩ (Nat.le_of_ble_eq_true rfl) dX6_check_31 cf6 (⟨by decide, rfl⟩ : okB 13 5) rfl (by decide) rfl rfl g25 q639 dX6_check_34 rfl rfl rfl rfl ⟨(by decide), (by decide), trivial⟩ trivial ?_
  rw [← e27]
  refine v_aload_n dX6_check_37 1 rfl rfl ?_
  refine v_aload_n dX6_check_38 1 rfl rfl ?_
  refine v_getS (f := 13) (t := 36) cf6 oc13 rfl rfl rfl (by decide) q640 dX6_check_39 ?_
  refine v_iload_n dX6_check_42 0 rfl rfl ?_
  obtain ⟨r31, s32, e33, h⟩ := bd_some h
  have k34 := c_X6_grown e33 (⟨by decide, rfl⟩ : okB 36 24) r7
  obtain ⟨g35, h⟩ := gd_some h
  obtain ⟨s36, e37, h⟩ := stp_some h
  refine v_regrow (f := 13) k34 (lw_S q1431 q1432 q303 q1433) yk_X6_grown ⟨Nat.le_of_ble_eq_true rfl, Nat.le_of_ble_eq_true rfl⟩ ⟨kc13, trivial⟩ ⟨kc13, kc5, trivial⟩ (Nat.le_of_ble_eq_true rfl) dX6_check_43 cf6 (⟨by decide, rfl⟩ : okB 13 5) rfl (by decide) rfl rfl g35 q640 dX6_check_46 rfl rfl rfl rfl ⟨(by decide), (by decide), trivial⟩ trivial ?_
  rw [← e37]
  refine v_aload_n dX6_check_49 1 rfl rfl ?_
  refine v_aload_n dX6_check_50 1 rfl rfl ?_
  refine v_getS (f := 14) (t := 37) cf6 oc13 rfl rfl rfl (by decide) q641 dX6_check_51 ?_
  refine v_iload_n dX6_check_54 0 rfl rfl ?_
  obtain ⟨r41, s42, e43, h⟩ := bd_some h
  have k44 := c_X6_grown e43 (⟨by decide, rfl⟩ : okB 37 24) r7
  obtain ⟨g45, h⟩ := gd_some h
  obtain ⟨s46, e47, h⟩ := stp_some h
  refine v_regrow (f := 14) k44 (lw_S q1431 q1432 q303 q1433) yk_X6_grown ⟨Nat.le_of_ble_eq_true rfl, Nat.le_of_ble_eq_true rfl⟩ ⟨kc13, trivial⟩ ⟨kc13, kc5, trivial⟩ (Nat.le_of_ble_eq_true rfl) dX6_check_55 cf6 (⟨by decide, rfl⟩ : okB 13 5) rfl (by decide) rfl rfl g45 q641 dX6_check_58 rfl rfl rfl rfl ⟨(by decide), (by decide), trivial⟩ trivial ?_
  rw [← e47]
  refine v_aload_n dX6_check_61 1 rfl rfl ?_
  refine v_aload_n dX6_check_62 1 rfl rfl ?_
  refine v_getS (f := 15) (t := 38) cf6 oc13 rfl rfl rfl (by decide) q642 dX6_check_63 ?_
  refine v_iload_n dX6_check_66 0 rfl rfl ?_
  obtain ⟨r51, s52, e53, h⟩ := bd_some h
  have k54 := c_X6_grown e53 (⟨by decide, rfl⟩ : okB 38 24) r7
  obtain ⟨g55, h⟩ := gd_some h
  obtain ⟨s56, e57, h⟩ := stp_some h
  refine v_regrow (f := 15) k54 (lw_S q1431 q1432 q303 q1433) yk_X6_grown ⟨Nat.le_of_ble_eq_true rfl, Nat.le_of_ble_eq_true rfl⟩ ⟨kc13, trivial⟩ ⟨kc13, kc5, trivial⟩ (Nat.le_of_ble_eq_true rfl) dX6_check_67 cf6 (⟨by decide, rfl⟩ : okB 13 5) rfl (by decide) rfl rfl g55 q642 dX6_check_70 rfl rfl rfl rfl ⟨(by decide), (by decide), trivial⟩ trivial ?_
  rw [← e57]
  refine v_aload_n dX6_check_73 1 rfl rfl ?_
  refine v_aload_n dX6_check_74 1 rfl rfl ?_
  refine v_getS (f := 16) (t := 39) cf6 oc13 rfl rfl rfl (by decide) q643 dX6_check_75 ?_
  refine v_iload_n dX6_check_78 0 rfl rfl ?_
  obtain ⟨r61, s62, e63, h⟩ := bd_some h
  have k64 := c_X6_grown e63 (⟨by decide, rfl⟩ : okB 39 24) r7
  obtain ⟨g65, h⟩ := gd_some h
  obtain ⟨s66, e67, h⟩ := stp_some h
  refine v_regrow (f := 16) k64 (lw_S q1431 q1432 q303 q1433) yk_X6_grown ⟨Nat.le_of_ble_eq_true rfl, Nat.le_of_ble_eq_true rfl⟩ ⟨kc13, trivial⟩ ⟨kc13, kc5, trivial⟩ (Nat.le_of_ble_eq_true rfl) dX6_check_79 cf6 (⟨by decide, rfl⟩ : okB 13 5) rfl (by decide) rfl rfl g65 q643 dX6_check_82 rfl rfl rfl rfl ⟨(by decide), (by decide), trivial⟩ trivial ?_
  rw [← e67]
  refine v_aload_n dX6_check_85 1 rfl rfl ?_
  refine v_aload_n dX6_check_86 1 rfl rfl ?_
  refine v_getS (f := 19) (t := 41) cf6 oc13 rfl rfl rfl (by decide) q646 dX6_check_87 ?_
  refine v_iload_n dX6_check_90 0 rfl rfl ?_
  refine v_iconst dX6_check_91 ?_
  refine v_iadd dX6_check_92 ?_
  obtain ⟨r71, s72, e73, h⟩ := bd_some h
  have k74 := c_X6_grown e73 (⟨by decide, rfl⟩ : okB 41 24) (w32_rg _)
  obtain ⟨g75, h⟩ := gd_some h
  obtain ⟨s76, e77, h⟩ := stp_some h
  refine v_regrow (f := 19) k74 (lw_S q1431 q1432 q303 q1433) yk_X6_grown ⟨Nat.le_of_ble_eq_true rfl, Nat.le_of_ble_eq_true rfl⟩ ⟨kc13, trivial⟩ ⟨kc13, kc5, trivial⟩ (Nat.le_of_ble_eq_true rfl) dX6_check_93 cf6 (⟨by decide, rfl⟩ : okB 13 5) rfl (by decide) rfl rfl g75 q646 dX6_check_96 rfl rfl rfl rfl ⟨(by decide), (by decide), trivial⟩ trivial ?_
  rw [← e77]
  refine v_iconst dX6_check_99 ?_
  refine v_istore_n (L1 := [(3, vI 0), (2, vI r6), (0, vO 13), (1, vO 5)]) dX6_check_100 rfl (by decide) rfl ?_
  refine v_sub [2, 1, 0] (L1 := [(0, vO 13), (2, vI r6), (3, vI 0)]) rfl ?_
  obtain ⟨s78, e79, h⟩ := lq_0_some h
  refine wl_X6_check_101 r7 FU 0 s76 _ e79 (rgl rfl) ?_
  unfold E_X6_check_101
  intro s78' z_
  cases z_
  refine v_aload_n dX6_check_141 0 rfl rfl ?_
  refine v_getS (f := 9) (t := 30) cf6 oc13 rfl rfl rfl (by decide) q636 dX6_check_142 ?_
  obtain ⟨s80, e81, h⟩ := bdv_some h
  have k82 := c_X2_clear e81 (⟨by decide, rfl⟩ : okB 30 1)
  refine v_callV (st := []) cf2 oc30 k82 (lw_V q1436 q1055 q1056 q299 q1057) rfl yk_X2_clear ⟨Nat.le_of_ble_eq_true rfl, Nat.le_of_ble_eq_true rfl⟩ trivial ⟨kc13, trivial⟩ (Nat.le_of_ble_eq_true rfl) rfl dX6_check_145 ?_
  refine v_aload_n dX6_check_148 0 rfl rfl ?_
  refine v_iconst dX6_check_149 ?_
  obtain ⟨s83, e84, h⟩ := stp_some h
  refine v_putI (f := 18) cf6 oc13 rfl (by decide) q645 dX6_check_150 rfl rfl ?_
  rw [← e84]
  refine v_aload_n dX6_check_153 0 rfl rfl ?_
  refine v_iconst dX6_check_154 ?_
  obtain ⟨s85, e86, h⟩ := stp_some h
  refine v_putI (f := 20) cf6 oc13 rfl (by decide) q647 dX6_check_155 rfl rfl ?_
  rw [← e86]
  refine v_aload_n dX6_check_158 0 rfl rfl ?_
  refine v_iconst dX6_check_159 ?_
  obtain ⟨s87, e88, h⟩ := stp_some h
  refine v_putI (f := 21) cf6 oc13 rfl (by decide) q648 dX6_check_160 rfl rfl ?_
  rw [← e88]
  refine v_aload_n dX6_check_163 0 rfl rfl ?_
  refine v_getS (f := 5) (t := 19) cf6 oc13 rfl rfl rfl (by decide) q632 dX6_check_164 ?_
  refine v_aload_n dX6_check_167 0 rfl rfl ?_
  obtain ⟨g89, h⟩ := gd_some h
  refine v_getR (f := 0) cf6 oc13 rfl (by rw [g89]; decide) (by decide) q627 dX6_check_168 ?_
  rw [g89]
  obtain ⟨s90, e91, h⟩ := bdv_some h
  have k92 := c_X9_clear e91 (⟨by decide, rfl⟩ : okB 19 8)
  refine v_callV (st := []) cf9 oc19 k92 (lw_V q1437 q1438 q1439 q306 q1440) rfl yk_X9_clear ⟨Nat.le_of_ble_eq_true rfl, Nat.le_of_ble_eq_true rfl⟩ trivial ⟨kc13, trivial⟩ (Nat.le_of_ble_eq_true rfl) rfl dX6_check_171 ?_
  refine v_aload_n dX6_check_174 0 rfl rfl ?_
  refine v_getS (f := 6) (t := 22) cf6 oc13 rfl rfl rfl (by decide) q633 dX6_check_175 ?_
  refine v_aload_n dX6_check_178 0 rfl rfl ?_
  obtain ⟨g93, h⟩ := gd_some h
  refine v_getR (f := 0) cf6 oc13 rfl (by rw [g93]; decide) (by decide) q627 dX6_check_179 ?_
  rw [g93]
  obtain ⟨s94, e95, h⟩ := bdv_some h
  have k96 := c_X9_clear e95 (⟨by decide, rfl⟩ : okB 22 8)
  refine v_callV (st := []) cf9 oc22 k96 (lw_V q1437 q1438 q1439 q306 q1440) rfl yk_X9_clear ⟨Nat.le_of_ble_eq_true rfl, Nat.le_of_ble_eq_true rfl⟩ trivial ⟨kc13, trivial⟩ (Nat.le_of_ble_eq_true rfl) rfl dX6_check_182 ?_
  refine v_aload_n dX6_check_185 0 rfl rfl ?_
  obtain ⟨r100, s97, e98, h⟩ := bd_some h
  have k99 := c_X6_assigned e98
  have r101 : rg r100 := k99.1.2.2
  refine v_callV (st := []) cf6 oc13 k99 (lw_V q1441 q1443 qs42 q303 q1444) rfl yk_X6_assigned ⟨Nat.le_of_ble_eq_true rfl, Nat.le_of_ble_eq_true rfl⟩ trivial ⟨kc13, trivial⟩ (Nat.le_of_ble_eq_true rfl) rfl dX6_check_186 ?_
  refine v_if_eq (tgt := 252) dX6_check_189 r101 (by decide) (fun c102 => ?_) (fun c102 => ?_)
  · rw [if_pos c102] at h
    refine v_iconst dX6_check_252 ?_
    cases h
    exact v_zret (Or.inl rfl) dX6_check_253
  · rw [if_neg c102] at h
    refine v_aload_n dX6_check_192 0 rfl rfl ?_
    obtain ⟨r106, s103, e104, h⟩ := bd_some h
    have k105 := c_X6_lists e104
    have r107 : rg r106 := k105.1.2.2
    refine v_callV (st := []) cf6 oc13 k105 (lw_V q1484 q1486 qs46 q303 q1487) rfl yk_X6_lists ⟨Nat.le_of_ble_eq_true rfl, Nat.le_of_ble_eq_true rfl⟩ trivial ⟨kc13, trivial⟩ (Nat.le_of_ble_eq_true rfl) rfl dX6_check_193 ?_
    refine v_if_eq (tgt := 252) dX6_check_196 r107 (by decide) (fun c108 => ?_) (fun c108 => ?_)
    · rw [if_pos c108] at h
      refine v_iconst dX6_check_252 ?_
      cases h
      exact v_zret (Or.inl rfl) dX6_check_253
    · rw [if_neg c108] at h
      refine v_aload_n dX6_check_199 0 rfl rfl ?_
      obtain ⟨r112, s109, e110, h⟩ := bd_some h
      have k111 := c_X6_known e110
      have r113 : rg r112 := k111.1.2.2
      refine v_callV (st := []) cf6 oc13 k111 (lw_V q1567 q1569 qs56 q303 q1570) rfl yk_X6_known ⟨Nat.le_of_ble_eq_true rfl, Nat.le_of_ble_eq_true rfl⟩ trivial ⟨kc13, trivial⟩ (Nat.le_of_ble_eq_true rfl) rfl dX6_check_200 ?_
      refine v_if_eq (tgt := 252) dX6_check_203 r113 (by decide) (fun c114 => ?_) (fun c114 => ?_)
      · rw [if_pos c114] at h
        refine v_iconst dX6_check_252 ?_
        cases h
        exact v_zret (Or.inl rfl) dX6_check_253
      · rw [if_neg c114] at h
        refine v_aload_n dX6_check_206 0 rfl rfl ?_
        obtain ⟨r118, s115, e116, h⟩ := bd_some h
        have k117 := c_X6_finite e116
        have r119 : rg r118 := k117.1.2.2
        refine v_callV (st := []) cf6 oc13 k117 (lw_V q1601 q1603 qs63 q303 q1604) rfl yk_X6_finite ⟨Nat.le_of_ble_eq_true rfl, Nat.le_of_ble_eq_true rfl⟩ trivial ⟨kc13, trivial⟩ (Nat.le_of_ble_eq_true rfl) rfl dX6_check_207 ?_
        refine v_if_eq (tgt := 252) dX6_check_210 r119 (by decide) (fun c120 => ?_) (fun c120 => ?_)
        · rw [if_pos c120] at h
          refine v_iconst dX6_check_252 ?_
          cases h
          exact v_zret (Or.inl rfl) dX6_check_253
        · rw [if_neg c120] at h
          refine v_aload_n dX6_check_213 0 rfl rfl ?_
          obtain ⟨r124, s121, e122, h⟩ := bd_some h
          have k123 := c_X6_tagged e122
          have r125 : rg r124 := k123.1.2.2
          refine v_callV (st := []) cf6 oc13 k123 (lw_V q1609 q1611 qs65 q303 q1612) rfl yk_X6_tagged ⟨Nat.le_of_ble_eq_true rfl, Nat.le_of_ble_eq_true rfl⟩ trivial ⟨kc13, trivial⟩ (Nat.le_of_ble_eq_true rfl) rfl dX6_check_214 ?_
          refine v_if_eq (tgt := 252) dX6_check_217 r125 (by decide) (fun c126 => ?_) (fun c126 => ?_)
          · rw [if_pos c126] at h
            refine v_iconst dX6_check_252 ?_
            cases h
            exact v_zret (Or.inl rfl) dX6_check_253
          · rw [if_neg c126] at h
            refine v_aload_n dX6_check_220 0 rfl rfl ?_
            obtain ⟨r130, s127, e128, h⟩ := bd_some h
            have k129 := c_X6_distinct e128
            have r131 : rg r130 := k129.1.2.2
            refine v_callV (st := []) cf6 oc13 k129 (lw_V q1632 q1634 qs70 q303 q1635) rfl yk_X6_distinct ⟨Nat.le_of_ble_eq_true rfl, Nat.le_of_ble_eq_true rfl⟩ trivial ⟨kc13, trivial⟩ (Nat.le_of_ble_eq_true rfl) rfl dX6_check_221 ?_
            refine v_if_eq (tgt := 252) dX6_check_224 r131 (by decide) (fun c132 => ?_) (fun c132 => ?_)
            · rw [if_pos c132] at h
              refine v_iconst dX6_check_252 ?_
              cases h
              exact v_zret (Or.inl rfl) dX6_check_253
            · rw [if_neg c132] at h
              refine v_aload_n dX6_check_227 0 rfl rfl ?_
              obtain ⟨r136, s133, e134, h⟩ := bd_some h
              have k135 := c_X6_straight e134
              have r137 : rg r136 := k135.1.2.2
              refine v_callV (st := []) cf6 oc13 k135 (lw_V q1652 q1654 qs73 q303 q1655) rfl yk_X6_straight ⟨Nat.le_of_ble_eq_true rfl, Nat.le_of_ble_eq_true rfl⟩ trivial ⟨kc13, trivial⟩ (Nat.le_of_ble_eq_true rfl) rfl dX6_check_228 ?_
              refine v_if_eq (tgt := 252) dX6_check_231 r137 (by decide) (fun c138 => ?_) (fun c138 => ?_)
              · rw [if_pos c138] at h
                refine v_iconst dX6_check_252 ?_
                cases h
                exact v_zret (Or.inl rfl) dX6_check_253
              · rw [if_neg c138] at h
                refine v_aload_n dX6_check_234 0 rfl rfl ?_
                obtain ⟨r142, s139, e140, h⟩ := bd_some h
                have k141 := c_X6_bounded e140
                have r143 : rg r142 := k141.1.2.2
                refine v_callV (st := []) cf6 oc13 k141 (lw_V q1660 q1662 qs75 q303 q1663) rfl yk_X6_bounded ⟨Nat.le_of_ble_eq_true rfl, Nat.le_of_ble_eq_true rfl⟩ trivial ⟨kc13, trivial⟩ (Nat.le_of_ble_eq_true rfl) rfl dX6_check_235 ?_
                refine v_if_eq (tgt := 252) dX6_check_238 r143 (by decide) (fun c144 => ?_) (fun c144 => ?_)
                · rw [if_pos c144] at h
                  refine v_iconst dX6_check_252 ?_
                  cases h
                  exact v_zret (Or.inl rfl) dX6_check_253
                · rw [if_neg c144] at h
                  refine v_aload_n dX6_check_241 0 rfl rfl ?_
                  obtain ⟨r148, s145, e146, h⟩ := bd_some h
                  have k147 := c_X6_valued e146
                  have r149 : rg r148 := k147.1.2.2
                  refine v_callV (st := []) cf6 oc13 k147 (lw_V q1692 q1694 qs82 q303 q1695) rfl yk_X6_valued ⟨Nat.le_of_ble_eq_true rfl, Nat.le_of_ble_eq_true rfl⟩ trivial ⟨kc13, trivial⟩ (Nat.le_of_ble_eq_true rfl) rfl dX6_check_242 ?_
                  refine v_if_eq (tgt := 252) dX6_check_245 r149 (by decide) (fun c150 => ?_) (fun c150 => ?_)
                  · rw [if_pos c150] at h
                    refine v_iconst dX6_check_252 ?_
                    cases h
                    exact v_zret (Or.inl rfl) dX6_check_253
                  · rw [if_neg c150] at h
                    refine v_iconst dX6_check_248 ?_
                    refine v_goto (tgt := 253) dX6_check_249 (by decide) ?_
                    cases h
                    exact v_zret (Or.inr rfl) dX6_check_253

def f_X6_fault (s : vS) : Option (Int × vS) :=
  some (gI s 13 20, s)
theorem yk_X6_fault : yOk yX6_fault 0 := ⟨by decide, by decide, by decide +kernel⟩
theorem c_X6_fault {s : vS} {out : Int × vS} (h : f_X6_fault s = some out)   : VC yX6_fault cX6_fault 1 (some .int) 0 0 [vO 13] s (some (vI out.1)) out.2 [] := by
  unfold f_X6_fault at h
  refine VC.of RX6 (by decide) rfl (Nat.le_of_ble_eq_true rfl) ?_
  show VW cX6_fault (RX6, (some (vI out.1)), out.2, (some .int), 0, 0, 1, []) (P0 []) s 0 [(0, vO 13)] []
  refine v_aload_n dX6_fault_0 0 rfl rfl ?_
  refine v_getI (f := 20) cf6 oc13 rfl (by decide) q647 dX6_fault_1 ?_
  cases h
  exact v_iret (gI_rg _ _ _) dX6_fault_4

def f_X6_place (s : vS) : Option (Int × vS) :=
  some (gI s 13 21, s)
theorem yk_X6_place : yOk yX6_place 0 := ⟨by decide, by decide, by decide +kernel⟩
theorem c_X6_place {s : vS} {out : Int × vS} (h : f_X6_place s = some out)   : VC yX6_place cX6_place 1 (some .int) 0 0 [vO 13] s (some (vI out.1)) out.2 [] := by
  unfold f_X6_place at h
  refine VC.of RX6 (by decide) rfl (Nat.le_of_ble_eq_true rfl) ?_
  show VW cX6_place (RX6, (some (vI out.1)), out.2, (some .int), 0, 0, 1, []) (P0 []) s 0 [(0, vO 13)] []
  refine v_aload_n dX6_place_0 0 rfl rfl ?_
  refine v_getI (f := 21) cf6 oc13 rfl (by decide) q648 dX6_place_1 ?_
  cases h
  exact v_iret (gI_rg _ _ _) dX6_place_4

def j_X1_assign_40 (x1 : Int) (s : vS) : Option (vS) :=
  gd (inb (gI s 0 10) (gN s 86)) <|
  stp (sE s 86 (gI s 0 10) x1) fun s2 =>
  stp (sI s2 0 10 (w32 ((gI s2 0 10) + 1))) fun s4 =>
  some s4
theorem wj_X1_assign_40 {x1 : Int} {s : vS} {out : vS} (h : j_X1_assign_40 x1 s = some out)  (rx1 : rg x1) : VW cX1_assign (RX1, none, out, none, 1, 26, 3, []) (P0 []) s 40 [(0, vO 0), (1, vI x1)] [] := by
  unfold j_X1_assign_40 at h
  refine v_aload_n dX1_assign_40 0 rfl rfl ?_
  refine v_getS (f := 9) (t := 86) cf1 oc0 rfl rfl rfl (by decide) q870 dX1_assign_41 ?_
  refine v_aload_n dX1_assign_44 0 rfl rfl ?_
  refine v_getI (f := 10) cf1 oc0 rfl (by decide) q871 dX1_assign_45 ?_
  refine v_iload_n dX1_assign_48 1 rfl rfl ?_
  obtain ⟨g1, h⟩ := gd_some h
  obtain ⟨s2, e3, h⟩ := stp_some h
  refine v_iast oc86 (gI_rg _ _ _) g1.1 g1.2 dX1_assign_49 ?_
  rw [← e3]
  refine v_aload_n dX1_assign_50 0 rfl rfl ?_
  refine v_dupO dX1_assign_51 ?_
  refine v_getI (f := 10) cf1 oc0 rfl (by decide) q871 dX1_assign_52 ?_
  refine v_iconst dX1_assign_55 ?_
  refine v_iadd dX1_assign_56 ?_
  obtain ⟨s4, e5, h⟩ := stp_some h
  refine v_putI (f := 10) cf1 oc0 rfl (by decide) q871 dX1_assign_57 rfl rfl ?_
  rw [← e5]
  cases h
  exact v_vret dX1_assign_60

def f_X1_assign (x1 : Int) (s : vS) : Option (vS) :=
  if (gI s 0 10) = (w32 (gN s 86 : Int)) then
    gd (naG (w32 (2 * (gI s 0 10)))) <|
    stp (sA s 199 (Int.toNat (w32 (2 * (gI s 0 10))), fun _ => 0)) fun s3 =>
    gd (cpG 0 0 (gI s3 0 10) (gN s3 86) (gN s3 199)) <|
    stp (cpA s3 86 199 0 0 (gI s3 0 10)) fun s6 =>
    gd (2 * gN s6 86 ≤ gN s6 199 ∧ 2 ≤ gN s6 199) <|
    stp (sw2 s6 86 199) fun s9 =>
    stp (rs s9) fun s11 =>
    j_X1_assign_40 x1 s11
  else
    j_X1_assign_40 x1 s
theorem yk_X1_assign : yOk yX1_assign 1 := ⟨by decide, by decide, by decide +kernel⟩
theorem c_X1_assign {x1 : Int} {s : vS} {out : vS} (h : f_X1_assign x1 s = some out)  (rx1 : rg x1) : VC yX1_assign cX1_assign 3 none 1 26 [vO 0, vI x1] s none out [] := by
  unfold f_X1_assign at h
  refine VC.of RX1 (by decide) rfl (Nat.le_of_ble_eq_true rfl) ?_
  show VW cX1_assign (RX1, none, out, none, 1, 26, 3, []) (P0 []) s 0 [(0, vO 0), (1, vI x1)] []
  refine v_aload_n dX1_assign_0 0 rfl rfl ?_
  refine v_getI (f := 10) cf1 oc0 rfl (by decide) q871 dX1_assign_1 ?_
  refine v_aload_n dX1_assign_4 0 rfl rfl ?_
  refine v_getS (f := 9) (t := 86) cf1 oc0 rfl rfl rfl (by decide) q870 dX1_assign_5 ?_
  refine v_alen24 oc86 dX1_assign_8 ?_
  refine v_icmp_ne (tgt := 40) dX1_assign_9 (gI_rg _ _ _) (w32_rg _) (by decide) (fun c1 => ?_) (fun c1 => ?_)
  · rw [if_neg c1] at h
    exact wj_X1_assign_40 h rx1
  · rw [if_pos c1] at h
    refine v_iconst dX1_assign_12 ?_
    refine v_aload_n dX1_assign_13 0 rfl rfl ?_
    refine v_getI (f := 10) cf1 oc0 rfl (by decide) q871 dX1_assign_14 ?_
    refine v_imul dX1_assign_17 ?_
    obtain ⟨g2, h⟩ := gd_some h
    obtain ⟨s3, e4, h⟩ := stp_some h
    refine v_na24 (K := 199) (tk1 := [(24, 1)]) rfl rfl (by decide) (w32_rg _) g2 ⟨(by decide), trivial⟩ trivial q459 dX1_assign_18 ?_
    rw [← e4]
    refine v_astore_n (L1 := [(2, vO 199), (0, vO 0), (1, vI x1)]) dX1_assign_20 rfl (by decide) rfl ?_
    refine v_aload_n dX1_assign_21 1 rfl rfl ?_
    refine v_getS (f := 9) (t := 86) cf1 oc0 rfl rfl rfl (by decide) q870 dX1_assign_22 ?_
    refine v_iconst dX1_assign_25 ?_
    refine v_aload_n dX1_assign_26 0 rfl rfl ?_
    refine v_iconst dX1_assign_27 ?_
    refine v_aload_n dX1_assign_28 1 rfl rfl ?_
    refine v_getI (f := 10) cf1 oc0 rfl (by decide) q871 dX1_assign_29 ?_
    obtain ⟨g5, h⟩ := gd_some h
    obtain ⟨s6, e7, h⟩ := stp_some h
    refine v_cp (t := 24) (by decide) (by decide) oc86 (ok_tmp (i := 0) rfl) (rgl rfl) (rgl rfl) (gI_rg _ _ _) g5 (Nat.le_of_ble_eq_true rfl) (Nat.le_of_ble_eq_true rfl) q1943 dX1_assign_32 ?_
    rw [← e7]
    refine v_aload_n dX1_assign_35 1 rfl rfl ?_
    refine v_aload_n dX1_assign_36 0 rfl rfl ?_
    obtain ⟨g8, h⟩ := gd_some h
    obtain ⟨s9, e10, h⟩ := stp_some h
    refine v_pa (i := 0) (K := 199) (t0 := 86) (f := 9) (tk1 := [(24, 0)]) (L1 := [(2, vO 86), (0, vO 0), (1, vI x1)]) (st1 := []) rfl rfl (by decide) cf1 (⟨by decide, rfl⟩ : okB 0 0) rfl (by decide) rfl rfl (by decide) rfl g8 q870 dX1_assign_37 rfl rfl rfl rfl ?_
    rw [← e10]
    refine v_sub [1, 2] (L1 := [(0, vO 0), (1, vI x1)]) rfl ?_
    obtain ⟨s11, e12, h⟩ := stp_some h
    refine v_dr (by decide) (by decide) ⟨(by decide), trivial⟩ trivial ?_
    rw [← e12]
    exact wj_X1_assign_40 h rx1

def E_X1_compile_138 (rv : Option vA) (σo : vS) (q : vS) : Prop := ∀ (s' : vS), q = s' → VW cX1_compile (RX1, rv, σo, (some .int), 1411, 30915, 3, []) (P0 []) s' 173 [(0, vO 0)] []
def j_X1_compile_161 (rec : Int → vS → Option (vS)) (x2 : Int) (s : vS) : Option (vS) :=
  bd (f_X4_next x2 s) fun r4 s1 =>
  rec r4 s1
theorem wj_X1_compile_161 {x2 : Int} {s : vS} {rv : Option vA} {σo : vS} {rec : Int → vS → Option (vS)} {q : vS} (h : j_X1_compile_161 rec x2 s = some q)  (rx2 : rg x2) (hrec : ∀ (y2 : Int) (s : vS) (q : vS), rec y2 s = some q → rg y2 → E_X1_compile_138 rv σo q → VW cX1_compile (RX1, rv, σo, (some .int), 1411, 30915, 3, []) (P0 []) s 138 [(0, vO 0), (2, vI y2)] []) (hE : E_X1_compile_138 rv σo q) : VW cX1_compile (RX1, rv, σo, (some .int), 1411, 30915, 3, []) (P0 []) s 161 [(0, vO 0), (2, vI x2)] [] := by
  unfold j_X1_compile_161 at h
  refine v_aload_n dX1_compile_161 0 rfl rfl ?_
  refine v_getS (f := 3) (t := 10) cf1 oc0 rfl rfl rfl (by decide) q864 dX1_compile_162 ?_
  refine v_iload_n dX1_compile_165 1 rfl rfl ?_
  obtain ⟨r4, s1, e2, h⟩ := bd_some h
  have k3 := c_X4_next e2 rx2
  have r5 : rg r4 := k3.1.2.2
  refine v_callV (st := []) cf4 oc10 k3 (lw_V q1944 q1404 q1405 q301 q1406) rfl yk_X4_next ⟨Nat.le_of_ble_eq_true rfl, Nat.le_of_ble_eq_true rfl⟩ trivial ⟨kc0, trivial⟩ (Nat.le_of_ble_eq_true rfl) rfl dX1_compile_166 ?_
  refine v_istore_n (L1 := [(2, vI r4), (0, vO 0)]) dX1_compile_169 rfl (by decide) rfl ?_
  refine v_goto (tgt := 138) dX1_compile_170 (by decide) ?_
  refine v_sub [1, 0] (L1 := [(0, vO 0), (2, vI r4)]) rfl ?_
  exact hrec r4 s1 _ h r5 hE

def l_X1_compile_138 : Nat → Int → vS → Option (vS)
  | 0, _, _ => none
  | n + 1, x2, s =>
    if x2 = (-1) then
      some s
    else
      bd (f_X4_kind x2 s) fun r5 s2 =>
      if r5 = 28 then
        bdv (f_X1_assign x2 s2) fun s8 =>
        j_X1_compile_161 (l_X1_compile_138 n) x2 s8
      else
        j_X1_compile_161 (l_X1_compile_138 n) x2 s2
theorem wl_X1_compile_138 {rv : Option vA} {σo : vS}  : ∀ (n : Nat) (x2 : Int) (s : vS) (q : vS), l_X1_compile_138 n x2 s = some q → rg x2 → E_X1_compile_138 rv σo q → VW cX1_compile (RX1, rv, σo, (some .int), 1411, 30915, 3, []) (P0 []) s 138 [(0, vO 0), (2, vI x2)] [] := by
  intro n
  induction n with
  | zero => intro x2 s q h; cases h
  | succ n ih =>
    intro x2 s q h rx2 hE
    unfold l_X1_compile_138 at h
    refine v_iload_n dX1_compile_138 1 rfl rfl ?_
    refine v_iconst dX1_compile_139 ?_
    refine v_icmp_eq (tgt := 173) dX1_compile_140 rx2 (rgl rfl) (by decide) (fun c1 => ?_) (fun c1 => ?_)
    · rw [if_pos c1] at h
      cases h
      refine v_sub [0] (L1 := [(0, vO 0)]) rfl ?_
      exact hE _ rfl 
    · rw [if_neg c1] at h
      refine v_aload_n dX1_compile_143 0 rfl rfl ?_
      refine v_getS (f := 3) (t := 10) cf1 oc0 rfl rfl rfl (by decide) q864 dX1_compile_144 ?_
      refine v_iload_n dX1_compile_147 1 rfl rfl ?_
      obtain ⟨r5, s2, e3, h⟩ := bd_some h
      have k4 := c_X4_kind e3 rx2
      have r6 : rg r5 := k4.1.2.2
      refine v_callV (st := []) cf4 oc10 k4 (lw_V q1938 q1446 q1447 q301 q1448) rfl yk_X4_kind ⟨Nat.le_of_ble_eq_true rfl, Nat.le_of_ble_eq_true rfl⟩ trivial ⟨kc0, trivial⟩ (Nat.le_of_ble_eq_true rfl) rfl dX1_compile_148 ?_
      refine v_bipush dX1_compile_151 rfl ?_
      refine v_icmp_ne (tgt := 161) dX1_compile_153 r6 (rgl rfl) (by decide) (fun c7 => ?_) (fun c7 => ?_)
      · rw [if_neg c7] at h
        exact wj_X1_compile_161 h rx2 ih hE
      · rw [if_pos c7] at h
        refine v_aload_n dX1_compile_156 0 rfl rfl ?_
        refine v_iload_n dX1_compile_157 1 rfl rfl ?_
        obtain ⟨s8, e9, h⟩ := bdv_some h
        have k10 := c_X1_assign e9 rx2
        refine v_callV (st := []) cf1 oc0 k10 (lw_V q1939 q1941 qs113 q298 q1942) rfl yk_X1_assign ⟨Nat.le_of_ble_eq_true rfl, Nat.le_of_ble_eq_true rfl⟩ trivial ⟨kc0, trivial⟩ (Nat.le_of_ble_eq_true rfl) rfl dX1_compile_158 ?_
        exact wj_X1_compile_161 h rx2 ih hE

def j_X1_compile_124 (s : vS) : Option ((Int × vS) ⊕ (Nat × vS)) :=
  bxv (f_X1_tell 0 0 s) fun s1 =>
  nx <|
  vl (gI s1 10 2) fun y4 =>
  lq_0 (l_X1_compile_138 FU y4 s1) fun s7 =>
  stp (sI s7 0 11 (gI s7 10 4)) fun s9 =>
  bd (f_X3_size s9) fun r14 s11 =>
  stp (sI s11 0 12 r14) fun s16 =>
  some (gI s16 0 10, s16)
theorem wj_X1_compile_124 {s : vS} {out : Int × vS} (h : j_X1_compile_124 s = some (.inl out))  : VW cX1_compile (RX1, (some (vI out.1)), out.2, (some .int), 1411, 30915, 3, []) (P0 []) s 124 [(0, vO 0)] [] := by
  unfold j_X1_compile_124 at h
  refine v_aload_n dX1_compile_124 0 rfl rfl ?_
  refine v_iconst dX1_compile_125 ?_
  refine v_iconst dX1_compile_126 ?_
  obtain ⟨s1, e2, h⟩ := bxv_inl h
  have k3 := c_X1_tell e2 (rgl rfl) (rgl rfl)
  refine v_callV (st := []) cf1 oc0 k3 (lw_V q1244 q1246 qs15 q298 q1247) rfl yk_X1_tell ⟨Nat.le_of_ble_eq_true rfl, Nat.le_of_ble_eq_true rfl⟩ trivial ⟨kc0, trivial⟩ (Nat.le_of_ble_eq_true rfl) rfl dX1_compile_127 ?_
  have h := nx_some h
  refine v_aload_n dX1_compile_130 0 rfl rfl ?_
  refine v_getS (f := 3) (t := 10) cf1 oc0 rfl rfl rfl (by decide) q864 dX1_compile_131 ?_
  refine v_getIN (f := 2) cf4 oc10 rfl (by decide) q470 dX1_compile_134 ?_
  obtain ⟨y4, e5, h⟩ := vl_some h
  rw [← e5]
  have r6 : rg y4 := by rw [e5]; exact gI_rg _ _ _
  refine v_istore_n (L1 := [(2, vI y4), (0, vO 0)]) dX1_compile_137 rfl (by decide) rfl ?_
  refine v_sub [1, 0] (L1 := [(0, vO 0), (2, vI y4)]) rfl ?_
  obtain ⟨s7, e8, h⟩ := lq_0_some h
  refine wl_X1_compile_138  FU y4 s1 _ e8 r6 ?_
  unfold E_X1_compile_138
  intro s7' z_
  cases z_
  refine v_aload_n dX1_compile_173 0 rfl rfl ?_
  refine v_aload_n dX1_compile_174 0 rfl rfl ?_
  refine v_getS (f := 3) (t := 10) cf1 oc0 rfl rfl rfl (by decide) q864 dX1_compile_175 ?_
  refine v_getIN (f := 4) cf4 oc10 rfl (by decide) q476 dX1_compile_178 ?_
  obtain ⟨s9, e10, h⟩ := stp_some h
  refine v_putI (f := 11) cf1 oc0 rfl (by decide) q872 dX1_compile_181 rfl rfl ?_
  rw [← e10]
  refine v_aload_n dX1_compile_184 0 rfl rfl ?_
  refine v_aload_n dX1_compile_185 0 rfl rfl ?_
  refine v_getS (f := 2) (t := 5) cf1 oc0 rfl rfl rfl (by decide) q863 dX1_compile_186 ?_
  obtain ⟨r14, s11, e12, h⟩ := bd_some h
  have k13 := c_X3_size e12
  have r15 : rg r14 := k13.1.2.2
  refine v_callV (st := [vO 0]) cf3 oc5 k13 (lw_V q1945 q1412 q1413 q300 q1414) rfl yk_X3_size ⟨Nat.le_of_ble_eq_true rfl, Nat.le_of_ble_eq_true rfl⟩ ⟨kc0, trivial⟩ ⟨kc0, trivial⟩ (Nat.le_of_ble_eq_true rfl) rfl dX1_compile_189 ?_
  obtain ⟨s16, e17, h⟩ := stp_some h
  refine v_putI (f := 12) cf1 oc0 rfl (by decide) q873 dX1_compile_192 rfl rfl ?_
  rw [← e17]
  refine v_aload_n dX1_compile_195 0 rfl rfl ?_
  refine v_getI (f := 10) cf1 oc0 rfl (by decide) q871 dX1_compile_196 ?_
  cases h
  exact v_iret (gI_rg _ _ _) dX1_compile_199

def j_X1_compile_92 (s : vS) : Option ((Int × vS) ⊕ (Nat × vS)) :=
  bd (f_X6_check s) fun r4 s1 =>
  if r4 = 0 then
    bd (f_X6_fault s1) fun r10 s7 =>
    bd (f_X6_place s7) fun r15 s12 =>
    bxv (f_X1_tell r10 r15 s12) fun s17 =>
    j_X1_compile_124 s17
  else
    j_X1_compile_124 s1
theorem wj_X1_compile_92 {s : vS} {out : Int × vS} (h : j_X1_compile_92 s = some (.inl out))  : VW cX1_compile (RX1, (some (vI out.1)), out.2, (some .int), 1411, 30915, 3, []) (P0 []) s 92 [(0, vO 0)] [] := by
  unfold j_X1_compile_92 at h
  refine v_aload_n dX1_compile_92 0 rfl rfl ?_
  refine v_getS (f := 5) (t := 13) cf1 oc0 rfl rfl rfl (by decide) q866 dX1_compile_93 ?_
  refine v_aload_n dX1_compile_96 0 rfl rfl ?_
  refine v_getS (f := 2) (t := 5) cf1 oc0 rfl rfl rfl (by decide) q863 dX1_compile_97 ?_
  obtain ⟨r4, s1, e2, h⟩ := bd_some h
  have k3 := c_X6_check e2
  have r5 : rg r4 := k3.1.2.2
  refine v_callV (st := []) cf6 oc13 k3 (lw_V q1423 q1424 q1425 q303 q1426) rfl yk_X6_check ⟨Nat.le_of_ble_eq_true rfl, Nat.le_of_ble_eq_true rfl⟩ trivial ⟨kc0, trivial⟩ (Nat.le_of_ble_eq_true rfl) rfl dX1_compile_100 ?_
  refine v_if_ne (tgt := 124) dX1_compile_103 r5 (by decide) (fun c6 => ?_) (fun c6 => ?_)
  · rw [if_neg c6] at h
    exact wj_X1_compile_124 h 
  · rw [if_pos c6] at h
    refine v_aload_n dX1_compile_106 0 rfl rfl ?_
    refine v_aload_n dX1_compile_107 0 rfl rfl ?_
    refine v_getS (f := 5) (t := 13) cf1 oc0 rfl rfl rfl (by decide) q866 dX1_compile_108 ?_
    obtain ⟨r10, s7, e8, h⟩ := bd_some h
    have k9 := c_X6_fault e8
    have r11 : rg r10 := k9.1.2.2
    refine v_callV (st := [vO 0]) cf6 oc13 k9 (lw_V q1930 q1931 q1932 q303 q1933) rfl yk_X6_fault ⟨Nat.le_of_ble_eq_true rfl, Nat.le_of_ble_eq_true rfl⟩ ⟨kc0, trivial⟩ ⟨kc0, trivial⟩ (Nat.le_of_ble_eq_true rfl) rfl dX1_compile_111 ?_
    refine v_aload_n dX1_compile_114 0 rfl rfl ?_
    refine v_getS (f := 5) (t := 13) cf1 oc0 rfl rfl rfl (by decide) q866 dX1_compile_115 ?_
    obtain ⟨r15, s12, e13, h⟩ := bd_some h
    have k14 := c_X6_place e13
    have r16 : rg r15 := k14.1.2.2
    refine v_callV (st := [vI r10, vO 0]) cf6 oc13 k14 (lw_V q1934 q1935 q1936 q303 q1937) rfl yk_X6_place ⟨Nat.le_of_ble_eq_true rfl, Nat.le_of_ble_eq_true rfl⟩ ⟨kc0, trivial⟩ ⟨kc0, trivial⟩ (Nat.le_of_ble_eq_true rfl) rfl dX1_compile_118 ?_
    obtain ⟨s17, e18, h⟩ := bxv_inl h
    have k19 := c_X1_tell e18 r11 r16
    refine v_callV (st := []) cf1 oc0 k19 (lw_V q1244 q1246 qs15 q298 q1247) rfl yk_X1_tell ⟨Nat.le_of_ble_eq_true rfl, Nat.le_of_ble_eq_true rfl⟩ trivial ⟨kc0, trivial⟩ (Nat.le_of_ble_eq_true rfl) rfl dX1_compile_121 ?_
    exact wj_X1_compile_124 h 

def j_X1_compile_60 (s : vS) : Option ((Int × vS) ⊕ (Nat × vS)) :=
  bd (f_X5_read s) fun r4 s1 =>
  if r4 = 0 then
    bd (f_X5_fault s1) fun r10 s7 =>
    bd (f_X5_place s7) fun r15 s12 =>
    bxv (f_X1_tell r10 r15 s12) fun s17 =>
    j_X1_compile_92 s17
  else
    j_X1_compile_92 s1
theorem wj_X1_compile_60 {s : vS} {out : Int × vS} (h : j_X1_compile_60 s = some (.inl out))  : VW cX1_compile (RX1, (some (vI out.1)), out.2, (some .int), 1411, 30915, 3, []) (P0 []) s 60 [(0, vO 0)] [] := by
  unfold j_X1_compile_60 at h
  refine v_aload_n dX1_compile_60 0 rfl rfl ?_
  refine v_getS (f := 4) (t := 12) cf1 oc0 rfl rfl rfl (by decide) q865 dX1_compile_61 ?_
  refine v_aload_n dX1_compile_64 0 rfl rfl ?_
  refine v_getS (f := 2) (t := 5) cf1 oc0 rfl rfl rfl (by decide) q863 dX1_compile_65 ?_
  obtain ⟨r4, s1, e2, h⟩ := bd_some h
  have k3 := c_X5_read e2
  have r5 : rg r4 := k3.1.2.2
  refine v_callV (st := []) cf5 oc12 k3 (lw_V q1248 q1249 q1250 q302 q1251) rfl yk_X5_read ⟨Nat.le_of_ble_eq_true rfl, Nat.le_of_ble_eq_true rfl⟩ trivial ⟨kc0, trivial⟩ (Nat.le_of_ble_eq_true rfl) rfl dX1_compile_68 ?_
  refine v_if_ne (tgt := 92) dX1_compile_71 r5 (by decide) (fun c6 => ?_) (fun c6 => ?_)
  · rw [if_neg c6] at h
    exact wj_X1_compile_92 h 
  · rw [if_pos c6] at h
    refine v_aload_n dX1_compile_74 0 rfl rfl ?_
    refine v_aload_n dX1_compile_75 0 rfl rfl ?_
    refine v_getS (f := 4) (t := 12) cf1 oc0 rfl rfl rfl (by decide) q865 dX1_compile_76 ?_
    obtain ⟨r10, s7, e8, h⟩ := bd_some h
    have k9 := c_X5_fault e8
    have r11 : rg r10 := k9.1.2.2
    refine v_callV (st := [vO 0]) cf5 oc12 k9 (lw_V q1415 q1416 q1417 q302 q1418) rfl yk_X5_fault ⟨Nat.le_of_ble_eq_true rfl, Nat.le_of_ble_eq_true rfl⟩ ⟨kc0, trivial⟩ ⟨kc0, trivial⟩ (Nat.le_of_ble_eq_true rfl) rfl dX1_compile_79 ?_
    refine v_aload_n dX1_compile_82 0 rfl rfl ?_
    refine v_getS (f := 4) (t := 12) cf1 oc0 rfl rfl rfl (by decide) q865 dX1_compile_83 ?_
    obtain ⟨r15, s12, e13, h⟩ := bd_some h
    have k14 := c_X5_place e13
    have r16 : rg r15 := k14.1.2.2
    refine v_callV (st := [vI r10, vO 0]) cf5 oc12 k14 (lw_V q1419 q1420 q1421 q302 q1422) rfl yk_X5_place ⟨Nat.le_of_ble_eq_true rfl, Nat.le_of_ble_eq_true rfl⟩ ⟨kc0, trivial⟩ ⟨kc0, trivial⟩ (Nat.le_of_ble_eq_true rfl) rfl dX1_compile_86 ?_
    obtain ⟨s17, e18, h⟩ := bxv_inl h
    have k19 := c_X1_tell e18 r11 r16
    refine v_callV (st := []) cf1 oc0 k19 (lw_V q1244 q1246 qs15 q298 q1247) rfl yk_X1_tell ⟨Nat.le_of_ble_eq_true rfl, Nat.le_of_ble_eq_true rfl⟩ trivial ⟨kc0, trivial⟩ (Nat.le_of_ble_eq_true rfl) rfl dX1_compile_89 ?_
    exact wj_X1_compile_92 h 

def f_X1_compile (s : vS) : Option ((Int × vS) ⊕ (Nat × vS)) :=
  bdv (f_X1_forget s) fun s1 =>
  bdv (f_X2_clear 3 s1) fun s4 =>
  bd (f_X2_size 1 s4) fun r10 s7 =>
  bdv (f_X2_all 3 1 0 r10 s7) fun s12 =>
  bdv (f_X2_clear 1 s12) fun s15 =>
  bd (f_X3_cut 3 s15) fun r21 s18 =>
  if r21 = (-1) then
    j_X1_compile_60 s18
  else
    bxv (f_X1_tell 1 r21 s18) fun s24 =>
    j_X1_compile_60 s24
theorem yk_X1_compile : yOk yX1_compile 0 := ⟨by decide, by decide, by decide +kernel⟩
theorem c_X1_compile {s : vS} {out : Int × vS} (h : f_X1_compile s = some (.inl out))   : VC yX1_compile cX1_compile 3 (some .int) 1411 30915 [vO 0] s (some (vI out.1)) out.2 [] := by
  unfold f_X1_compile at h
  refine VC.of RX1 (by decide) rfl (Nat.le_of_ble_eq_true rfl) ?_
  show VW cX1_compile (RX1, (some (vI out.1)), out.2, (some .int), 1411, 30915, 3, []) (P0 []) s 0 [(0, vO 0)] []
  refine v_aload_n dX1_compile_0 0 rfl rfl ?_
  obtain ⟨s1, e2, h⟩ := bdv_some h
  have k3 := c_X1_forget e2
  refine v_callV (st := []) cf1 oc0 k3 (lw_V q1050 q1052 qs3 q298 q1053) rfl yk_X1_forget ⟨Nat.le_of_ble_eq_true rfl, Nat.le_of_ble_eq_true rfl⟩ trivial ⟨kc0, trivial⟩ (Nat.le_of_ble_eq_true rfl) rfl dX1_compile_1 ?_
  refine v_aload_n dX1_compile_4 0 rfl rfl ?_
  refine v_getS (f := 1) (t := 3) cf1 oc0 rfl rfl rfl (by decide) q862 dX1_compile_5 ?_
  obtain ⟨s4, e5, h⟩ := bdv_some h
  have k6 := c_X2_clear e5 (⟨by decide, rfl⟩ : okB 3 1)
  refine v_callV (st := []) cf2 oc3 k6 (lw_V q1054 q1055 q1056 q299 q1057) rfl yk_X2_clear ⟨Nat.le_of_ble_eq_true rfl, Nat.le_of_ble_eq_true rfl⟩ trivial ⟨kc0, trivial⟩ (Nat.le_of_ble_eq_true rfl) rfl dX1_compile_8 ?_
  refine v_aload_n dX1_compile_11 0 rfl rfl ?_
  refine v_getS (f := 1) (t := 3) cf1 oc0 rfl rfl rfl (by decide) q862 dX1_compile_12 ?_
  refine v_aload_n dX1_compile_15 0 rfl rfl ?_
  refine v_getS (f := 0) (t := 1) cf1 oc0 rfl rfl rfl (by decide) q861 dX1_compile_16 ?_
  refine v_iconst dX1_compile_19 ?_
  refine v_aload_n dX1_compile_20 0 rfl rfl ?_
  refine v_getS (f := 0) (t := 1) cf1 oc0 rfl rfl rfl (by decide) q861 dX1_compile_21 ?_
  obtain ⟨r10, s7, e8, h⟩ := bd_some h
  have k9 := c_X2_size e8 (⟨by decide, rfl⟩ : okB 1 1)
  have r11 : rg r10 := k9.1.2.2
  refine v_callV (st := [vI 0, vO 1, vO 3]) cf2 oc1 k9 (lw_V q917 q918 q919 q299 q920) rfl yk_X2_size ⟨Nat.le_of_ble_eq_true rfl, Nat.le_of_ble_eq_true rfl⟩ ⟨kc1, kc3, trivial⟩ ⟨kc0, trivial⟩ (Nat.le_of_ble_eq_true rfl) rfl dX1_compile_24 ?_
  obtain ⟨s12, e13, h⟩ := bdv_some h
  have k14 := c_X2_all e13 (⟨by decide, rfl⟩ : okB 3 1) (⟨by decide, rfl⟩ : okB 1 1) (rgl rfl) r11
  refine v_callV (st := []) cf2 oc3 k14 (lw_V q1058 q1059 q1060 q299 q1061) rfl yk_X2_all ⟨Nat.le_of_ble_eq_true rfl, Nat.le_of_ble_eq_true rfl⟩ trivial ⟨kc0, trivial⟩ (Nat.le_of_ble_eq_true rfl) rfl dX1_compile_27 ?_
  refine v_aload_n dX1_compile_30 0 rfl rfl ?_
  refine v_getS (f := 0) (t := 1) cf1 oc0 rfl rfl rfl (by decide) q861 dX1_compile_31 ?_
  obtain ⟨s15, e16, h⟩ := bdv_some h
  have k17 := c_X2_clear e16 (⟨by decide, rfl⟩ : okB 1 1)
  refine v_callV (st := []) cf2 oc1 k17 (lw_V q1054 q1055 q1056 q299 q1057) rfl yk_X2_clear ⟨Nat.le_of_ble_eq_true rfl, Nat.le_of_ble_eq_true rfl⟩ trivial ⟨kc0, trivial⟩ (Nat.le_of_ble_eq_true rfl) rfl dX1_compile_34 ?_
  refine v_aload_n dX1_compile_37 0 rfl rfl ?_
  refine v_getS (f := 2) (t := 5) cf1 oc0 rfl rfl rfl (by decide) q863 dX1_compile_38 ?_
  refine v_aload_n dX1_compile_41 0 rfl rfl ?_
  refine v_getS (f := 1) (t := 3) cf1 oc0 rfl rfl rfl (by decide) q862 dX1_compile_42 ?_
  obtain ⟨r21, s18, e19, h⟩ := bd_some h
  have k20 := c_X3_cut e19 (⟨by decide, rfl⟩ : okB 3 1)
  have r22 : rg r21 := k20.1.2.2
  refine v_callV (st := []) cf3 oc5 k20 (lw_V q1062 q1063 q1064 q300 q1065) rfl yk_X3_cut ⟨Nat.le_of_ble_eq_true rfl, Nat.le_of_ble_eq_true rfl⟩ trivial ⟨kc0, trivial⟩ (Nat.le_of_ble_eq_true rfl) rfl dX1_compile_45 ?_
  refine v_istore_n (L1 := [(1, vI r21), (0, vO 0)]) dX1_compile_48 rfl (by decide) rfl ?_
  refine v_iload_n dX1_compile_49 0 rfl rfl ?_
  refine v_iconst dX1_compile_50 ?_
  refine v_icmp_eq (tgt := 60) dX1_compile_51 r22 (rgl rfl) (by decide) (fun c23 => ?_) (fun c23 => ?_)
  · rw [if_pos c23] at h
    refine v_sub [1] (L1 := [(0, vO 0)]) rfl ?_
    exact wj_X1_compile_60 h 
  · rw [if_neg c23] at h
    refine v_aload_n dX1_compile_54 1 rfl rfl ?_
    refine v_iconst dX1_compile_55 ?_
    refine v_iload_n dX1_compile_56 0 rfl rfl ?_
    obtain ⟨s24, e25, h⟩ := bxv_inl h
    have k26 := c_X1_tell e25 (rgl rfl) r22
    refine v_callV (st := []) cf1 oc0 k26 (lw_V q1244 q1246 qs15 q298 q1247) rfl yk_X1_tell ⟨Nat.le_of_ble_eq_true rfl, Nat.le_of_ble_eq_true rfl⟩ trivial ⟨kc0, trivial⟩ (Nat.le_of_ble_eq_true rfl) rfl dX1_compile_57 ?_
    refine v_sub [1] (L1 := [(0, vO 0)]) rfl ?_
    exact wj_X1_compile_60 h 
theorem tj_X1_compile_124 {s : vS} {q : Nat × vS} (h : j_X1_compile_124 s = some (.inr q))  : VW cX1_compile (tB (exE q.1) RX1 q.2 1411 30915 3) (P0 []) s 124 [(0, vO 0)] [] := by
  unfold j_X1_compile_124 at h
  refine v_aload_n dX1_compile_124 0 rfl rfl ?_
  refine v_iconst dX1_compile_125 ?_
  refine v_iconst dX1_compile_126 ?_
  rcases bxv_inr h with e9 | ⟨s1, e2, h⟩
  · exact v_callXV (st := []) cf1 oc0 (t_X1_tell e9 (rgl rfl) (rgl rfl)) (lw_V q1244 q1246 qs15 q298 q1247) rfl yk_X1_tell ⟨Nat.le_of_ble_eq_true rfl, Nat.le_of_ble_eq_true rfl⟩ (Nat.le_of_ble_eq_true rfl) rfl dX1_compile_127
  have k3 := c_X1_tell e2 (rgl rfl) (rgl rfl)
  refine v_callV (st := []) cf1 oc0 k3 (lw_V q1244 q1246 qs15 q298 q1247) rfl yk_X1_tell ⟨Nat.le_of_ble_eq_true rfl, Nat.le_of_ble_eq_true rfl⟩ trivial ⟨kc0, trivial⟩ (Nat.le_of_ble_eq_true rfl) rfl dX1_compile_127 ?_
  exact (nx_no h).elim

theorem tj_X1_compile_92 {s : vS} {q : Nat × vS} (h : j_X1_compile_92 s = some (.inr q))  : VW cX1_compile (tB (exE q.1) RX1 q.2 1411 30915 3) (P0 []) s 92 [(0, vO 0)] [] := by
  unfold j_X1_compile_92 at h
  refine v_aload_n dX1_compile_92 0 rfl rfl ?_
  refine v_getS (f := 5) (t := 13) cf1 oc0 rfl rfl rfl (by decide) q866 dX1_compile_93 ?_
  refine v_aload_n dX1_compile_96 0 rfl rfl ?_
  refine v_getS (f := 2) (t := 5) cf1 oc0 rfl rfl rfl (by decide) q863 dX1_compile_97 ?_
  obtain ⟨r4, s1, e2, h⟩ := bd_some h
  have k3 := c_X6_check e2
  have r5 : rg r4 := k3.1.2.2
  refine v_callV (st := []) cf6 oc13 k3 (lw_V q1423 q1424 q1425 q303 q1426) rfl yk_X6_check ⟨Nat.le_of_ble_eq_true rfl, Nat.le_of_ble_eq_true rfl⟩ trivial ⟨kc0, trivial⟩ (Nat.le_of_ble_eq_true rfl) rfl dX1_compile_100 ?_
  refine v_if_ne (tgt := 124) dX1_compile_103 r5 (by decide) (fun c6 => ?_) (fun c6 => ?_)
  · rw [if_neg c6] at h
    exact tj_X1_compile_124 h 
  · rw [if_pos c6] at h
    refine v_aload_n dX1_compile_106 0 rfl rfl ?_
    refine v_aload_n dX1_compile_107 0 rfl rfl ?_
    refine v_getS (f := 5) (t := 13) cf1 oc0 rfl rfl rfl (by decide) q866 dX1_compile_108 ?_
    obtain ⟨r10, s7, e8, h⟩ := bd_some h
    have k9 := c_X6_fault e8
    have r11 : rg r10 := k9.1.2.2
    refine v_callV (st := [vO 0]) cf6 oc13 k9 (lw_V q1930 q1931 q1932 q303 q1933) rfl yk_X6_fault ⟨Nat.le_of_ble_eq_true rfl, Nat.le_of_ble_eq_true rfl⟩ ⟨kc0, trivial⟩ ⟨kc0, trivial⟩ (Nat.le_of_ble_eq_true rfl) rfl dX1_compile_111 ?_
    refine v_aload_n dX1_compile_114 0 rfl rfl ?_
    refine v_getS (f := 5) (t := 13) cf1 oc0 rfl rfl rfl (by decide) q866 dX1_compile_115 ?_
    obtain ⟨r15, s12, e13, h⟩ := bd_some h
    have k14 := c_X6_place e13
    have r16 : rg r15 := k14.1.2.2
    refine v_callV (st := [vI r10, vO 0]) cf6 oc13 k14 (lw_V q1934 q1935 q1936 q303 q1937) rfl yk_X6_place ⟨Nat.le_of_ble_eq_true rfl, Nat.le_of_ble_eq_true rfl⟩ ⟨kc0, trivial⟩ ⟨kc0, trivial⟩ (Nat.le_of_ble_eq_true rfl) rfl dX1_compile_118 ?_
    rcases bxv_inr h with e9 | ⟨s17, e18, h⟩
    · exact v_callXV (st := []) cf1 oc0 (t_X1_tell e9 r11 r16) (lw_V q1244 q1246 qs15 q298 q1247) rfl yk_X1_tell ⟨Nat.le_of_ble_eq_true rfl, Nat.le_of_ble_eq_true rfl⟩ (Nat.le_of_ble_eq_true rfl) rfl dX1_compile_121
    have k19 := c_X1_tell e18 r11 r16
    refine v_callV (st := []) cf1 oc0 k19 (lw_V q1244 q1246 qs15 q298 q1247) rfl yk_X1_tell ⟨Nat.le_of_ble_eq_true rfl, Nat.le_of_ble_eq_true rfl⟩ trivial ⟨kc0, trivial⟩ (Nat.le_of_ble_eq_true rfl) rfl dX1_compile_121 ?_
    exact tj_X1_compile_124 h 

theorem tj_X1_compile_60 {s : vS} {q : Nat × vS} (h : j_X1_compile_60 s = some (.inr q))  : VW cX1_compile (tB (exE q.1) RX1 q.2 1411 30915 3) (P0 []) s 60 [(0, vO 0)] [] := by
  unfold j_X1_compile_60 at h
  refine v_aload_n dX1_compile_60 0 rfl rfl ?_
  refine v_getS (f := 4) (t := 12) cf1 oc0 rfl rfl rfl (by decide) q865 dX1_compile_61 ?_
  refine v_aload_n dX1_compile_64 0 rfl rfl ?_
  refine v_getS (f := 2) (t := 5) cf1 oc0 rfl rfl rfl (by decide) q863 dX1_compile_65 ?_
  obtain ⟨r4, s1, e2, h⟩ := bd_some h
  have k3 := c_X5_read e2
  have r5 : rg r4 := k3.1.2.2
  refine v_callV (st := []) cf5 oc12 k3 (lw_V q1248 q1249 q1250 q302 q1251) rfl yk_X5_read ⟨Nat.le_of_ble_eq_true rfl, Nat.le_of_ble_eq_true rfl⟩ trivial ⟨kc0, trivial⟩ (Nat.le_of_ble_eq_true rfl) rfl dX1_compile_68 ?_
  refine v_if_ne (tgt := 92) dX1_compile_71 r5 (by decide) (fun c6 => ?_) (fun c6 => ?_)
  · rw [if_neg c6] at h
    exact tj_X1_compile_92 h 
  · rw [if_pos c6] at h
    refine v_aload_n dX1_compile_74 0 rfl rfl ?_
    refine v_aload_n dX1_compile_75 0 rfl rfl ?_
    refine v_getS (f := 4) (t := 12) cf1 oc0 rfl rfl rfl (by decide) q865 dX1_compile_76 ?_
    obtain ⟨r10, s7, e8, h⟩ := bd_some h
    have k9 := c_X5_fault e8
    have r11 : rg r10 := k9.1.2.2
    refine v_callV (st := [vO 0]) cf5 oc12 k9 (lw_V q1415 q1416 q1417 q302 q1418) rfl yk_X5_fault ⟨Nat.le_of_ble_eq_true rfl, Nat.le_of_ble_eq_true rfl⟩ ⟨kc0, trivial⟩ ⟨kc0, trivial⟩ (Nat.le_of_ble_eq_true rfl) rfl dX1_compile_79 ?_
    refine v_aload_n dX1_compile_82 0 rfl rfl ?_
    refine v_getS (f := 4) (t := 12) cf1 oc0 rfl rfl rfl (by decide) q865 dX1_compile_83 ?_
    obtain ⟨r15, s12, e13, h⟩ := bd_some h
    have k14 := c_X5_place e13
    have r16 : rg r15 := k14.1.2.2
    refine v_callV (st := [vI r10, vO 0]) cf5 oc12 k14 (lw_V q1419 q1420 q1421 q302 q1422) rfl yk_X5_place ⟨Nat.le_of_ble_eq_true rfl, Nat.le_of_ble_eq_true rfl⟩ ⟨kc0, trivial⟩ ⟨kc0, trivial⟩ (Nat.le_of_ble_eq_true rfl) rfl dX1_compile_86 ?_
    rcases bxv_inr h with e9 | ⟨s17, e18, h⟩
    · exact v_callXV (st := []) cf1 oc0 (t_X1_tell e9 r11 r16) (lw_V q1244 q1246 qs15 q298 q1247) rfl yk_X1_tell ⟨Nat.le_of_ble_eq_true rfl, Nat.le_of_ble_eq_true rfl⟩ (Nat.le_of_ble_eq_true rfl) rfl dX1_compile_89
    have k19 := c_X1_tell e18 r11 r16
    refine v_callV (st := []) cf1 oc0 k19 (lw_V q1244 q1246 qs15 q298 q1247) rfl yk_X1_tell ⟨Nat.le_of_ble_eq_true rfl, Nat.le_of_ble_eq_true rfl⟩ trivial ⟨kc0, trivial⟩ (Nat.le_of_ble_eq_true rfl) rfl dX1_compile_89 ?_
    exact tj_X1_compile_92 h 

theorem t_X1_compile {s : vS} {q : Nat × vS} (h : f_X1_compile s = some (.inr q))   : VT yX1_compile cX1_compile 3 (some .int) 1411 30915 [vO 0] s (exE q.1) q.2 := by
  unfold f_X1_compile at h
  refine VT.of RX1 (by decide) rfl (Nat.le_of_ble_eq_true rfl) ?_
  show VW cX1_compile (tB (exE q.1) RX1 q.2 1411 30915 3) (P0 []) s 0 [(0, vO 0)] []
  refine v_aload_n dX1_compile_0 0 rfl rfl ?_
  obtain ⟨s1, e2, h⟩ := bdv_some h
  have k3 := c_X1_forget e2
  refine v_callV (st := []) cf1 oc0 k3 (lw_V q1050 q1052 qs3 q298 q1053) rfl yk_X1_forget ⟨Nat.le_of_ble_eq_true rfl, Nat.le_of_ble_eq_true rfl⟩ trivial ⟨kc0, trivial⟩ (Nat.le_of_ble_eq_true rfl) rfl dX1_compile_1 ?_
  refine v_aload_n dX1_compile_4 0 rfl rfl ?_
  refine v_getS (f := 1) (t := 3) cf1 oc0 rfl rfl rfl (by decide) q862 dX1_compile_5 ?_
  obtain ⟨s4, e5, h⟩ := bdv_some h
  have k6 := c_X2_clear e5 (⟨by decide, rfl⟩ : okB 3 1)
  refine v_callV (st := []) cf2 oc3 k6 (lw_V q1054 q1055 q1056 q299 q1057) rfl yk_X2_clear ⟨Nat.le_of_ble_eq_true rfl, Nat.le_of_ble_eq_true rfl⟩ trivial ⟨kc0, trivial⟩ (Nat.le_of_ble_eq_true rfl) rfl dX1_compile_8 ?_
  refine v_aload_n dX1_compile_11 0 rfl rfl ?_
  refine v_getS (f := 1) (t := 3) cf1 oc0 rfl rfl rfl (by decide) q862 dX1_compile_12 ?_
  refine v_aload_n dX1_compile_15 0 rfl rfl ?_
  refine v_getS (f := 0) (t := 1) cf1 oc0 rfl rfl rfl (by decide) q861 dX1_compile_16 ?_
  refine v_iconst dX1_compile_19 ?_
  refine v_aload_n dX1_compile_20 0 rfl rfl ?_
  refine v_getS (f := 0) (t := 1) cf1 oc0 rfl rfl rfl (by decide) q861 dX1_compile_21 ?_
  obtain ⟨r10, s7, e8, h⟩ := bd_some h
  have k9 := c_X2_size e8 (⟨by decide, rfl⟩ : okB 1 1)
  have r11 : rg r10 := k9.1.2.2
  refine v_callV (st := [vI 0, vO 1, vO 3]) cf2 oc1 k9 (lw_V q917 q918 q919 q299 q920) rfl yk_X2_size ⟨Nat.le_of_ble_eq_true rfl, Nat.le_of_ble_eq_true rfl⟩ ⟨kc1, kc3, trivial⟩ ⟨kc0, trivial⟩ (Nat.le_of_ble_eq_true rfl) rfl dX1_compile_24 ?_
  obtain ⟨s12, e13, h⟩ := bdv_some h
  have k14 := c_X2_all e13 (⟨by decide, rfl⟩ : okB 3 1) (⟨by decide, rfl⟩ : okB 1 1) (rgl rfl) r11
  refine v_callV (st := []) cf2 oc3 k14 (lw_V q1058 q1059 q1060 q299 q1061) rfl yk_X2_all ⟨Nat.le_of_ble_eq_true rfl, Nat.le_of_ble_eq_true rfl⟩ trivial ⟨kc0, trivial⟩ (Nat.le_of_ble_eq_true rfl) rfl dX1_compile_27 ?_
  refine v_aload_n dX1_compile_30 0 rfl rfl ?_
  refine v_getS (f := 0) (t := 1) cf1 oc0 rfl rfl rfl (by decide) q861 dX1_compile_31 ?_
  obtain ⟨s15, e16, h⟩ := bdv_some h
  have k17 := c_X2_clear e16 (⟨by decide, rfl⟩ : okB 1 1)
  refine v_callV (st := []) cf2 oc1 k17 (lw_V q1054 q1055 q1056 q299 q1057) rfl yk_X2_clear ⟨Nat.le_of_ble_eq_true rfl, Nat.le_of_ble_eq_true rfl⟩ trivial ⟨kc0, trivial⟩ (Nat.le_of_ble_eq_true rfl) rfl dX1_compile_34 ?_
  refine v_aload_n dX1_compile_37 0 rfl rfl ?_
  refine v_getS (f := 2) (t := 5) cf1 oc0 rfl rfl rfl (by decide) q863 dX1_compile_38 ?_
  refine v_aload_n dX1_compile_41 0 rfl rfl ?_
  refine v_getS (f := 1) (t := 3) cf1 oc0 rfl rfl rfl (by decide) q862 dX1_compile_42 ?_
  obtain ⟨r21, s18, e19, h⟩ := bd_some h
  have k20 := c_X3_cut e19 (⟨by decide, rfl⟩ : okB 3 1)
  have r22 : rg r21 := k20.1.2.2
  refine v_callV (st := []) cf3 oc5 k20 (lw_V q1062 q1063 q1064 q300 q1065) rfl yk_X3_cut ⟨Nat.le_of_ble_eq_true rfl, Nat.le_of_ble_eq_true rfl⟩ trivial ⟨kc0, trivial⟩ (Nat.le_of_ble_eq_true rfl) rfl dX1_compile_45 ?_
  refine v_istore_n (L1 := [(1, vI r21), (0, vO 0)]) dX1_compile_48 rfl (by decide) rfl ?_
  refine v_iload_n dX1_compile_49 0 rfl rfl ?_
  refine v_iconst dX1_compile_50 ?_
  refine v_icmp_eq (tgt := 60) dX1_compile_51 r22 (rgl rfl) (by decide) (fun c23 => ?_) (fun c23 => ?_)
  · rw [if_pos c23] at h
    refine v_sub [1] (L1 := [(0, vO 0)]) rfl ?_
    exact tj_X1_compile_60 h 
  · rw [if_neg c23] at h
    refine v_aload_n dX1_compile_54 1 rfl rfl ?_
    refine v_iconst dX1_compile_55 ?_
    refine v_iload_n dX1_compile_56 0 rfl rfl ?_
    rcases bxv_inr h with e9 | ⟨s24, e25, h⟩
    · exact v_callXV (st := []) cf1 oc0 (t_X1_tell e9 (rgl rfl) r22) (lw_V q1244 q1246 qs15 q298 q1247) rfl yk_X1_tell ⟨Nat.le_of_ble_eq_true rfl, Nat.le_of_ble_eq_true rfl⟩ (Nat.le_of_ble_eq_true rfl) rfl dX1_compile_57
    have k26 := c_X1_tell e25 (rgl rfl) r22
    refine v_callV (st := []) cf1 oc0 k26 (lw_V q1244 q1246 qs15 q298 q1247) rfl yk_X1_tell ⟨Nat.le_of_ble_eq_true rfl, Nat.le_of_ble_eq_true rfl⟩ trivial ⟨kc0, trivial⟩ (Nat.le_of_ble_eq_true rfl) rfl dX1_compile_57 ?_
    refine v_sub [1] (L1 := [(0, vO 0)]) rfl ?_
    exact tj_X1_compile_60 h 

def f_X1_fault (x1 : Int) (s : vS) : Option ((Int × vS) ⊕ (Nat × vS)) :=
  bxv (f_X1_within x1 2 s) fun s1 =>
  nx <|
  if x1 = 0 then
    some (gI s1 0 14, s1)
  else
    some (gI s1 0 15, s1)
theorem yk_X1_fault : yOk yX1_fault 1 := ⟨by decide, by decide, by decide +kernel⟩
theorem c_X1_fault {x1 : Int} {s : vS} {out : Int × vS} (h : f_X1_fault x1 s = some (.inl out))  (rx1 : rg x1) : VC yX1_fault cX1_fault 2 (some .int) 7 110 [vO 0, vI x1] s (some (vI out.1)) out.2 [] := by
  unfold f_X1_fault at h
  refine VC.of RX1 (by decide) rfl (Nat.le_of_ble_eq_true rfl) ?_
  show VW cX1_fault (RX1, (some (vI out.1)), out.2, (some .int), 7, 110, 2, []) (P0 []) s 0 [(0, vO 0), (1, vI x1)] []
  refine v_iload_n dX1_fault_0 1 rfl rfl ?_
  refine v_iconst dX1_fault_1 ?_
  obtain ⟨s1, e2, h⟩ := bxv_inl h
  have k3 := c_X1_within e2 rx1 (rgl rfl)
  refine v_callS (st := []) k3 (lw_S q1985 q1986 q298 q1987) yk_X1_within ⟨Nat.le_of_ble_eq_true rfl, Nat.le_of_ble_eq_true rfl⟩ trivial ⟨kc0, trivial⟩ (Nat.le_of_ble_eq_true rfl) rfl dX1_fault_2 ?_
  have h := nx_some h
  refine v_iload_n dX1_fault_5 1 rfl rfl ?_
  refine v_if_ne (tgt := 16) dX1_fault_6 rx1 (by decide) (fun c4 => ?_) (fun c4 => ?_)
  · rw [if_neg c4] at h
    refine v_aload_n dX1_fault_16 0 rfl rfl ?_
    refine v_getI (f := 15) cf1 oc0 rfl (by decide) q876 dX1_fault_17 ?_
    cases h
    exact v_iret (gI_rg _ _ _) dX1_fault_20
  · rw [if_pos c4] at h
    refine v_aload_n dX1_fault_9 0 rfl rfl ?_
    refine v_getI (f := 14) cf1 oc0 rfl (by decide) q875 dX1_fault_10 ?_
    refine v_goto (tgt := 20) dX1_fault_13 (by decide) ?_
    cases h
    exact v_iret (gI_rg _ _ _) dX1_fault_20
theorem t_X1_fault {x1 : Int} {s : vS} {q : Nat × vS} (h : f_X1_fault x1 s = some (.inr q))  (rx1 : rg x1) : VT yX1_fault cX1_fault 2 (some .int) 7 110 [vO 0, vI x1] s (exE q.1) q.2 := by
  unfold f_X1_fault at h
  refine VT.of RX1 (by decide) rfl (Nat.le_of_ble_eq_true rfl) ?_
  show VW cX1_fault (tB (exE q.1) RX1 q.2 7 110 2) (P0 []) s 0 [(0, vO 0), (1, vI x1)] []
  refine v_iload_n dX1_fault_0 1 rfl rfl ?_
  refine v_iconst dX1_fault_1 ?_
  rcases bxv_inr h with e9 | ⟨s1, e2, h⟩
  · exact v_callXS (st := []) (t_X1_within e9 rx1 (rgl rfl)) (lw_S q1985 q1986 q298 q1987) yk_X1_within ⟨Nat.le_of_ble_eq_true rfl, Nat.le_of_ble_eq_true rfl⟩ (Nat.le_of_ble_eq_true rfl) rfl dX1_fault_2
  have k3 := c_X1_within e2 rx1 (rgl rfl)
  refine v_callS (st := []) k3 (lw_S q1985 q1986 q298 q1987) yk_X1_within ⟨Nat.le_of_ble_eq_true rfl, Nat.le_of_ble_eq_true rfl⟩ trivial ⟨kc0, trivial⟩ (Nat.le_of_ble_eq_true rfl) rfl dX1_fault_2 ?_
  exact (nx_no h).elim

def f_X1_typeOf (x1 : Int) (s : vS) : Option (Int × vS) :=
  gd (inb x1 (gN s 86)) <|
  bd (f_X4_parts (gE s 86 x1) s) fun r5 s2 =>
  some (r5, s2)
theorem yk_X1_typeOf : yOk yX1_typeOf 1 := ⟨by decide, by decide, by decide +kernel⟩
theorem c_X1_typeOf {x1 : Int} {s : vS} {out : Int × vS} (h : f_X1_typeOf x1 s = some out)  (rx1 : rg x1) : VC yX1_typeOf cX1_typeOf 2 (some .int) 2 43 [vO 0, vI x1] s (some (vI out.1)) out.2 [] := by
  unfold f_X1_typeOf at h
  refine VC.of RX1 (by decide) rfl (Nat.le_of_ble_eq_true rfl) ?_
  show VW cX1_typeOf (RX1, (some (vI out.1)), out.2, (some .int), 2, 43, 2, []) (P0 []) s 0 [(0, vO 0), (1, vI x1)] []
  refine v_aload_n dX1_typeOf_0 0 rfl rfl ?_
  refine v_getS (f := 3) (t := 10) cf1 oc0 rfl rfl rfl (by decide) q864 dX1_typeOf_1 ?_
  refine v_aload_n dX1_typeOf_4 0 rfl rfl ?_
  refine v_getS (f := 9) (t := 86) cf1 oc0 rfl rfl rfl (by decide) q870 dX1_typeOf_5 ?_
  refine v_iload_n dX1_typeOf_8 1 rfl rfl ?_
  obtain ⟨g1, h⟩ := gd_some h
  refine v_iald oc86 rx1 g1.1 g1.2 dX1_typeOf_9 ?_
  obtain ⟨r5, s2, e3, h⟩ := bd_some h
  have k4 := c_X4_parts e3 (gE_rg _ _ _)
  have r6 : rg r5 := k4.1.2.2
  refine v_callV (st := []) cf4 oc10 k4 (lw_V q2014 q1493 q1494 q301 q1495) rfl yk_X4_parts ⟨Nat.le_of_ble_eq_true rfl, Nat.le_of_ble_eq_true rfl⟩ trivial ⟨kc0, trivial⟩ (Nat.le_of_ble_eq_true rfl) rfl dX1_typeOf_10 ?_
  cases h
  exact v_iret r6 dX1_typeOf_13

def f_X1_nameFrom (x1 : Int) (s : vS) : Option (Int × vS) :=
  gd (inb x1 (gN s 86)) <|
  bd (f_X4_lexeme (gE s 86 x1) s) fun r5 s2 =>
  bd (f_X3_start r5 s2) fun r10 s7 =>
  some (r10, s7)
theorem yk_X1_nameFrom : yOk yX1_nameFrom 1 := ⟨by decide, by decide, by decide +kernel⟩
theorem c_X1_nameFrom {x1 : Int} {s : vS} {out : Int × vS} (h : f_X1_nameFrom x1 s = some out)  (rx1 : rg x1) : VC yX1_nameFrom cX1_nameFrom 2 (some .int) 2 43 [vO 0, vI x1] s (some (vI out.1)) out.2 [] := by
  unfold f_X1_nameFrom at h
  refine VC.of RX1 (by decide) rfl (Nat.le_of_ble_eq_true rfl) ?_
  show VW cX1_nameFrom (RX1, (some (vI out.1)), out.2, (some .int), 2, 43, 2, []) (P0 []) s 0 [(0, vO 0), (1, vI x1)] []
  refine v_aload_n dX1_nameFrom_0 0 rfl rfl ?_
  refine v_getS (f := 2) (t := 5) cf1 oc0 rfl rfl rfl (by decide) q863 dX1_nameFrom_1 ?_
  refine v_aload_n dX1_nameFrom_4 0 rfl rfl ?_
  refine v_getS (f := 3) (t := 10) cf1 oc0 rfl rfl rfl (by decide) q864 dX1_nameFrom_5 ?_
  refine v_aload_n dX1_nameFrom_8 0 rfl rfl ?_
  refine v_getS (f := 9) (t := 86) cf1 oc0 rfl rfl rfl (by decide) q870 dX1_nameFrom_9 ?_
  refine v_iload_n dX1_nameFrom_12 1 rfl rfl ?_
  obtain ⟨g1, h⟩ := gd_some h
  refine v_iald oc86 rx1 g1.1 g1.2 dX1_nameFrom_13 ?_
  obtain ⟨r5, s2, e3, h⟩ := bd_some h
  have k4 := c_X4_lexeme e3 (gE_rg _ _ _)
  have r6 : rg r5 := k4.1.2.2
  refine v_callV (st := [vO 5]) cf4 oc10 k4 (lw_V q2023 q1450 q1451 q301 q1452) rfl yk_X4_lexeme ⟨Nat.le_of_ble_eq_true rfl, Nat.le_of_ble_eq_true rfl⟩ ⟨kc5, trivial⟩ ⟨kc0, trivial⟩ (Nat.le_of_ble_eq_true rfl) rfl dX1_nameFrom_14 ?_
  obtain ⟨r10, s7, e8, h⟩ := bd_some h
  have k9 := c_X3_start e8 r6
  have r11 : rg r10 := k9.1.2.2
  refine v_callV (st := []) cf3 oc5 k9 (lw_V q2029 q1288 q1289 q300 q1290) rfl yk_X3_start ⟨Nat.le_of_ble_eq_true rfl, Nat.le_of_ble_eq_true rfl⟩ trivial ⟨kc0, trivial⟩ (Nat.le_of_ble_eq_true rfl) rfl dX1_nameFrom_17 ?_
  cases h
  exact v_iret r11 dX1_nameFrom_20

def f_X1_nameLength (x1 : Int) (s : vS) : Option (Int × vS) :=
  gd (inb x1 (gN s 86)) <|
  bd (f_X4_lexeme (gE s 86 x1) s) fun r5 s2 =>
  bd (f_X3_end r5 s2) fun r10 s7 =>
  bd (f_X1_nameFrom x1 s7) fun r15 s12 =>
  some (w32 (r10 - r15), s12)
theorem yk_X1_nameLength : yOk yX1_nameLength 1 := ⟨by decide, by decide, by decide +kernel⟩
theorem c_X1_nameLength {x1 : Int} {s : vS} {out : Int × vS} (h : f_X1_nameLength x1 s = some out)  (rx1 : rg x1) : VC yX1_nameLength cX1_nameLength 2 (some .int) 3 64 [vO 0, vI x1] s (some (vI out.1)) out.2 [] := by
  unfold f_X1_nameLength at h
  refine VC.of RX1 (by decide) rfl (Nat.le_of_ble_eq_true rfl) ?_
  show VW cX1_nameLength (RX1, (some (vI out.1)), out.2, (some .int), 3, 64, 2, []) (P0 []) s 0 [(0, vO 0), (1, vI x1)] []
  refine v_aload_n dX1_nameLength_0 0 rfl rfl ?_
  refine v_getS (f := 2) (t := 5) cf1 oc0 rfl rfl rfl (by decide) q863 dX1_nameLength_1 ?_
  refine v_aload_n dX1_nameLength_4 0 rfl rfl ?_
  refine v_getS (f := 3) (t := 10) cf1 oc0 rfl rfl rfl (by decide) q864 dX1_nameLength_5 ?_
  refine v_aload_n dX1_nameLength_8 0 rfl rfl ?_
  refine v_getS (f := 9) (t := 86) cf1 oc0 rfl rfl rfl (by decide) q870 dX1_nameLength_9 ?_
  refine v_iload_n dX1_nameLength_12 1 rfl rfl ?_
  obtain ⟨g1, h⟩ := gd_some h
  refine v_iald oc86 rx1 g1.1 g1.2 dX1_nameLength_13 ?_
  obtain ⟨r5, s2, e3, h⟩ := bd_some h
  have k4 := c_X4_lexeme e3 (gE_rg _ _ _)
  have r6 : rg r5 := k4.1.2.2
  refine v_callV (st := [vO 5]) cf4 oc10 k4 (lw_V q2023 q1450 q1451 q301 q1452) rfl yk_X4_lexeme ⟨Nat.le_of_ble_eq_true rfl, Nat.le_of_ble_eq_true rfl⟩ ⟨kc5, trivial⟩ ⟨kc0, trivial⟩ (Nat.le_of_ble_eq_true rfl) rfl dX1_nameLength_14 ?_
  obtain ⟨r10, s7, e8, h⟩ := bd_some h
  have k9 := c_X3_end e8 r6
  have r11 : rg r10 := k9.1.2.2
  refine v_callV (st := []) cf3 oc5 k9 (lw_V q2024 q1322 q1323 q300 q1324) rfl yk_X3_end ⟨Nat.le_of_ble_eq_true rfl, Nat.le_of_ble_eq_true rfl⟩ trivial ⟨kc0, trivial⟩ (Nat.le_of_ble_eq_true rfl) rfl dX1_nameLength_17 ?_
  refine v_aload_n dX1_nameLength_20 0 rfl rfl ?_
  refine v_iload_n dX1_nameLength_21 1 rfl rfl ?_
  obtain ⟨r15, s12, e13, h⟩ := bd_some h
  have k14 := c_X1_nameFrom e13 rx1
  have r16 : rg r15 := k14.1.2.2
  refine v_callV (st := [vI r10]) cf1 oc0 k14 (lw_V q2025 q2027 qs116 q298 q2028) rfl yk_X1_nameFrom ⟨Nat.le_of_ble_eq_true rfl, Nat.le_of_ble_eq_true rfl⟩ trivial ⟨kc0, trivial⟩ (Nat.le_of_ble_eq_true rfl) rfl dX1_nameLength_22 ?_
  refine v_isub dX1_nameLength_25 ?_
  cases h
  exact v_iret (w32_rg _) dX1_nameLength_26

def E_X1_parts_37 (rv : Option vA) (σo : vS) (q : Int × vS) : Prop := ∀ (x2' : Int) (s' : vS), q = (x2', s') → rg x2' → VW cX1_parts (RX1, rv, σo, (some .int), 2, 43, 4, []) (P0 []) s' 57 [(2, vI x2')] []
def l_X1_parts_37 : Nat → Int → Int → vS → Option (Int × vS)
  | 0, _, _, _ => none
  | n + 1, x2, x3, s =>
    if x3 = (-1) then
      some (x2, s)
    else
      vl (w32 (x2 + 1)) fun y2 =>
      bd (f_X4_next x3 s) fun r8 s5 =>
      l_X1_parts_37 n y2 r8 s5
theorem wl_X1_parts_37 {rv : Option vA} {σo : vS}  : ∀ (n : Nat) (x2 : Int) (x3 : Int) (s : vS) (q : Int × vS), l_X1_parts_37 n x2 x3 s = some q → rg x2 → rg x3 → E_X1_parts_37 rv σo q → VW cX1_parts (RX1, rv, σo, (some .int), 2, 43, 4, []) (P0 []) s 37 [(0, vO 0), (2, vI x2), (3, vI x3)] [] := by
  intro n
  induction n with
  | zero => intro x2 x3 s q h; cases h
  | succ n ih =>
    intro x2 x3 s q h rx2 rx3 hE
    unfold l_X1_parts_37 at h
    refine v_iload_n dX1_parts_37 2 rfl rfl ?_
    refine v_iconst dX1_parts_38 ?_
    refine v_icmp_eq (tgt := 57) dX1_parts_39 rx3 (rgl rfl) (by decide) (fun c1 => ?_) (fun c1 => ?_)
    · rw [if_pos c1] at h
      cases h
      refine v_sub [1] (L1 := [(2, vI x2)]) rfl ?_
      exact hE _ _ rfl rx2
    · rw [if_neg c1] at h
      obtain ⟨y2, e3, h⟩ := vl_some h
      refine v_iinc (L1 := [(2, vI (w32 (x2 + 1))), (0, vO 0), (3, vI x3)]) dX1_parts_42 1 rfl (by decide) rfl ?_
      rw [← e3]
      have r4 : rg y2 := by rw [e3]; exact w32_rg _
      refine v_aload_n dX1_parts_45 1 rfl rfl ?_
      refine v_getS (f := 3) (t := 10) cf1 oc0 rfl rfl rfl (by decide) q864 dX1_parts_46 ?_
      refine v_iload_n dX1_parts_49 2 rfl rfl ?_
      obtain ⟨r8, s5, e6, h⟩ := bd_some h
      have k7 := c_X4_next e6 rx3
      have r9 : rg r8 := k7.1.2.2
      refine v_callV (st := []) cf4 oc10 k7 (lw_V q1944 q1404 q1405 q301 q1406) rfl yk_X4_next ⟨Nat.le_of_ble_eq_true rfl, Nat.le_of_ble_eq_true rfl⟩ trivial ⟨kc0, trivial⟩ (Nat.le_of_ble_eq_true rfl) rfl dX1_parts_50 ?_
      refine v_istore_n (L1 := [(3, vI r8), (2, vI y2), (0, vO 0)]) dX1_parts_53 rfl (by decide) rfl ?_
      refine v_goto (tgt := 37) dX1_parts_54 (by decide) ?_
      refine v_sub [2, 1, 0] (L1 := [(0, vO 0), (2, vI y2), (3, vI r8)]) rfl ?_
      exact ih y2 r8 s5 _ h r4 r9 hE

def f_X1_parts (x1 : Int) (s : vS) : Option (Int × vS) :=
  bd (f_X4_kind x1 s) fun r4 s1 =>
  if r4 = 14 then
    some (0, s1)
  else
    bd (f_X4_kind x1 s1) fun r10 s7 =>
    if r10 = 15 then
      some (0, s7)
    else
      bd (f_X4_parts x1 s7) fun r16 s13 =>
      lq_1 (l_X1_parts_37 FU 0 r16 s13) fun y18 s19 =>
      some (y18, s19)
theorem yk_X1_parts : yOk yX1_parts 1 := ⟨by decide, by decide, by decide +kernel⟩
theorem c_X1_parts {x1 : Int} {s : vS} {out : Int × vS} (h : f_X1_parts x1 s = some out)  (rx1 : rg x1) : VC yX1_parts cX1_parts 4 (some .int) 2 43 [vO 0, vI x1] s (some (vI out.1)) out.2 [] := by
  unfold f_X1_parts at h
  refine VC.of RX1 (by decide) rfl (Nat.le_of_ble_eq_true rfl) ?_
  show VW cX1_parts (RX1, (some (vI out.1)), out.2, (some .int), 2, 43, 4, []) (P0 []) s 0 [(0, vO 0), (1, vI x1)] []
  refine v_iconst dX1_parts_0 ?_
  refine v_istore_n (L1 := [(2, vI 0), (0, vO 0), (1, vI x1)]) dX1_parts_1 rfl (by decide) rfl ?_
  refine v_aload_n dX1_parts_2 1 rfl rfl ?_
  refine v_getS (f := 3) (t := 10) cf1 oc0 rfl rfl rfl (by decide) q864 dX1_parts_3 ?_
  refine v_iload_n dX1_parts_6 2 rfl rfl ?_
  obtain ⟨r4, s1, e2, h⟩ := bd_some h
  have k3 := c_X4_kind e2 rx1
  have r5 : rg r4 := k3.1.2.2
  refine v_callV (st := []) cf4 oc10 k3 (lw_V q1938 q1446 q1447 q301 q1448) rfl yk_X4_kind ⟨Nat.le_of_ble_eq_true rfl, Nat.le_of_ble_eq_true rfl⟩ trivial ⟨kc0, trivial⟩ (Nat.le_of_ble_eq_true rfl) rfl dX1_parts_7 ?_
  refine v_bipush dX1_parts_10 rfl ?_
  refine v_icmp_eq (tgt := 57) dX1_parts_12 r5 (rgl rfl) (by decide) (fun c6 => ?_) (fun c6 => ?_)
  · rw [if_pos c6] at h
    refine v_iload_n dX1_parts_57 0 rfl rfl ?_
    cases h
    exact v_iret (rgl rfl) dX1_parts_58
  · rw [if_neg c6] at h
    refine v_aload_n dX1_parts_15 1 rfl rfl ?_
    refine v_getS (f := 3) (t := 10) cf1 oc0 rfl rfl rfl (by decide) q864 dX1_parts_16 ?_
    refine v_iload_n dX1_parts_19 2 rfl rfl ?_
    obtain ⟨r10, s7, e8, h⟩ := bd_some h
    have k9 := c_X4_kind e8 rx1
    have r11 : rg r10 := k9.1.2.2
    refine v_callV (st := []) cf4 oc10 k9 (lw_V q1938 q1446 q1447 q301 q1448) rfl yk_X4_kind ⟨Nat.le_of_ble_eq_true rfl, Nat.le_of_ble_eq_true rfl⟩ trivial ⟨kc0, trivial⟩ (Nat.le_of_ble_eq_true rfl) rfl dX1_parts_20 ?_
    refine v_bipush dX1_parts_23 rfl ?_
    refine v_icmp_eq (tgt := 57) dX1_parts_25 r11 (rgl rfl) (by decide) (fun c12 => ?_) (fun c12 => ?_)
    · rw [if_pos c12] at h
      refine v_iload_n dX1_parts_57 0 rfl rfl ?_
      cases h
      exact v_iret (rgl rfl) dX1_parts_58
    · rw [if_neg c12] at h
      refine v_aload_n dX1_parts_28 1 rfl rfl ?_
      refine v_getS (f := 3) (t := 10) cf1 oc0 rfl rfl rfl (by decide) q864 dX1_parts_29 ?_
      refine v_iload_n dX1_parts_32 2 rfl rfl ?_
      obtain ⟨r16, s13, e14, h⟩ := bd_some h
      have k15 := c_X4_parts e14 rx1
      have r17 : rg r16 := k15.1.2.2
      refine v_callV (st := []) cf4 oc10 k15 (lw_V q2014 q1493 q1494 q301 q1495) rfl yk_X4_parts ⟨Nat.le_of_ble_eq_true rfl, Nat.le_of_ble_eq_true rfl⟩ trivial ⟨kc0, trivial⟩ (Nat.le_of_ble_eq_true rfl) rfl dX1_parts_33 ?_
      refine v_istore_n (L1 := [(3, vI r16), (2, vI 0), (0, vO 0), (1, vI x1)]) dX1_parts_36 rfl (by decide) rfl ?_
      refine v_sub [2, 1, 0] (L1 := [(0, vO 0), (2, vI 0), (3, vI r16)]) rfl ?_
      obtain ⟨y18, s19, e20, h⟩ := lq_1_some h
      refine wl_X1_parts_37  FU 0 r16 s13 _ e20 (rgl rfl) r17 ?_
      unfold E_X1_parts_37
      intro y18' s19' z_ r21
      cases z_
      refine v_iload_n dX1_parts_57 0 rfl rfl ?_
      cases h
      exact v_iret r21 dX1_parts_58

def f_X6_tagCount (x1 : Int) (s : vS) : Option (Int × vS) :=
  gd (inb x1 (gN s 37)) <|
  some (gE s 37 x1, s)
theorem yk_X6_tagCount : yOk yX6_tagCount 1 := ⟨by decide, by decide, by decide +kernel⟩
theorem c_X6_tagCount {x1 : Int} {s : vS} {out : Int × vS} (h : f_X6_tagCount x1 s = some out)  (rx1 : rg x1) : VC yX6_tagCount cX6_tagCount 2 (some .int) 0 0 [vO 13, vI x1] s (some (vI out.1)) out.2 [] := by
  unfold f_X6_tagCount at h
  refine VC.of RX6 (by decide) rfl (Nat.le_of_ble_eq_true rfl) ?_
  show VW cX6_tagCount (RX6, (some (vI out.1)), out.2, (some .int), 0, 0, 2, []) (P0 []) s 0 [(0, vO 13), (1, vI x1)] []
  refine v_aload_n dX6_tagCount_0 0 rfl rfl ?_
  refine v_getS (f := 14) (t := 37) cf6 oc13 rfl rfl rfl (by decide) q641 dX6_tagCount_1 ?_
  refine v_iload_n dX6_tagCount_4 1 rfl rfl ?_
  obtain ⟨g1, h⟩ := gd_some h
  refine v_iald oc37 rx1 g1.1 g1.2 dX6_tagCount_5 ?_
  cases h
  exact v_iret (gE_rg _ _ _) dX6_tagCount_6

def f_X1_type (x1 : Int) (x2 : Int) (s : vS) : Option ((Int × vS) ⊕ (Nat × vS)) :=
  bxv (f_X1_within x1 (gI s 0 10) s) fun s1 =>
  bxv (f_X1_within x2 6 s1) fun s4 =>
  nx <|
  bd (f_X1_typeOf x1 s4) fun r10 s7 =>
  bd (f_X6_tagCount r10 s7) fun r15 s12 =>
  if x2 = 0 then
    bd (f_X1_nameLength x1 s12) fun r21 s18 =>
    some (r21, s18)
  else
  if x2 = 1 then
    bd (f_X6_base r10 s12) fun r27 s24 =>
    bd (f_X4_kind r27 s24) fun r32 s29 =>
    some (r32, s29)
  else
  if x2 = 2 then
    some (r15, s12)
  else
  if x2 = 3 then
    if r15 = 0 then
      some ((-1), s12)
    else
      bd (f_X6_tag r10 0 s12) fun r40 s37 =>
      some (shr32 r40 28, s37)
  else
  if x2 = 4 then
    if r15 = 0 then
      some ((-1), s12)
    else
      bd (f_X6_tag r10 0 s12) fun r47 s44 =>
      some (and32 r47 268435455, s44)
  else
    bd (f_X6_base r10 s12) fun r52 s49 =>
    bd (f_X1_parts r52 s49) fun r57 s54 =>
    some (r57, s54)
theorem yk_X1_type : yOk yX1_type 2 := ⟨by decide, by decide, by decide +kernel⟩
theorem c_X1_type {x1 : Int} {x2 : Int} {s : vS} {out : Int × vS} (h : f_X1_type x1 x2 s = some (.inl out))  (rx1 : rg x1) (rx2 : rg x2) : VC yX1_type cX1_type 5 (some .int) 7 161 [vO 0, vI x1, vI x2] s (some (vI out.1)) out.2 [] := by
  unfold f_X1_type at h
  refine VC.of RX1 (by decide) rfl (Nat.le_of_ble_eq_true rfl) ?_
  show VW cX1_type (RX1, (some (vI out.1)), out.2, (some .int), 7, 161, 5, []) (P0 []) s 0 [(0, vO 0), (1, vI x1), (2, vI x2)] []
  refine v_iload_n dX1_type_0 1 rfl rfl ?_
  refine v_aload_n dX1_type_1 0 rfl rfl ?_
  refine v_getI (f := 10) cf1 oc0 rfl (by decide) q871 dX1_type_2 ?_
  obtain ⟨s1, e2, h⟩ := bxv_inl h
  have k3 := c_X1_within e2 rx1 (gI_rg _ _ _)
  refine v_callS (st := []) k3 (lw_S q1985 q1986 q298 q1987) yk_X1_within ⟨Nat.le_of_ble_eq_true rfl, Nat.le_of_ble_eq_true rfl⟩ trivial ⟨kc0, trivial⟩ (Nat.le_of_ble_eq_true rfl) rfl dX1_type_5 ?_
  refine v_iload_n dX1_type_8 2 rfl rfl ?_
  refine v_bipush dX1_type_9 rfl ?_
  obtain ⟨s4, e5, h⟩ := bxv_inl h
  have k6 := c_X1_within e5 rx2 (rgl rfl)
  refine v_callS (st := []) k6 (lw_S q1985 q1986 q298 q1987) yk_X1_within ⟨Nat.le_of_ble_eq_true rfl, Nat.le_of_ble_eq_true rfl⟩ trivial ⟨kc0, trivial⟩ (Nat.le_of_ble_eq_true rfl) rfl dX1_type_11 ?_
  have h := nx_some h
  refine v_aload_n dX1_type_14 0 rfl rfl ?_
  refine v_iload_n dX1_type_15 1 rfl rfl ?_
  obtain ⟨r10, s7, e8, h⟩ := bd_some h
  have k9 := c_X1_typeOf e8 rx1
  have r11 : rg r10 := k9.1.2.2
  refine v_callV (st := []) cf1 oc0 k9 (lw_V q2010 q2012 qs114 q298 q2013) rfl yk_X1_typeOf ⟨Nat.le_of_ble_eq_true rfl, Nat.le_of_ble_eq_true rfl⟩ trivial ⟨kc0, trivial⟩ (Nat.le_of_ble_eq_true rfl) rfl dX1_type_16 ?_
  refine v_istore_n (L1 := [(3, vI r10), (0, vO 0), (1, vI x1), (2, vI x2)]) dX1_type_19 rfl (by decide) rfl ?_
  refine v_aload_n dX1_type_20 1 rfl rfl ?_
  refine v_getS (f := 5) (t := 13) cf1 oc0 rfl rfl rfl (by decide) q866 dX1_type_21 ?_
  refine v_iload_n dX1_type_24 0 rfl rfl ?_
  obtain ⟨r15, s12, e13, h⟩ := bd_some h
  have k14 := c_X6_tagCount e13 r11
  have r16 : rg r15 := k14.1.2.2
  refine v_callV (st := []) cf6 oc13 k14 (lw_V q2015 q2016 q2017 q303 q2018) rfl yk_X6_tagCount ⟨Nat.le_of_ble_eq_true rfl, Nat.le_of_ble_eq_true rfl⟩ trivial ⟨kc0, trivial⟩ (Nat.le_of_ble_eq_true rfl) rfl dX1_type_25 ?_
  refine v_istore (L1 := [(4, vI r15), (3, vI r10), (0, vO 0), (1, vI x1), (2, vI x2)]) dX1_type_28 (by decide) rfl ?_
  refine v_iload_n dX1_type_30 4 rfl rfl ?_
  by_cases c17 : x2 = 0
  · rw [if_pos c17] at h
    refine v_tswI (tgt := 64) dX1_type_31 rx2 (by rw [c17]; decide) (by rw [c17]; decide) (by rw [c17]; try rfl) (by decide) ?_
    refine v_aload_n dX1_type_64 2 rfl rfl ?_
    refine v_iload_n dX1_type_65 3 rfl rfl ?_
    obtain ⟨r21, s18, e19, h⟩ := bd_some h
    have k20 := c_X1_nameLength e19 rx1
    have r22 : rg r21 := k20.1.2.2
    refine v_callV (st := []) cf1 oc0 k20 (lw_V q2019 q2021 qs115 q298 q2022) rfl yk_X1_nameLength ⟨Nat.le_of_ble_eq_true rfl, Nat.le_of_ble_eq_true rfl⟩ trivial ⟨kc0, trivial⟩ (Nat.le_of_ble_eq_true rfl) rfl dX1_type_66 ?_
    cases h
    exact v_iret r22 dX1_type_69
  rw [if_neg c17] at h
  by_cases c23 : x2 = 1
  · rw [if_pos c23] at h
    refine v_tswI (tgt := 70) dX1_type_31 rx2 (by rw [c23]; decide) (by rw [c23]; decide) (by rw [c23]; try rfl) (by decide) ?_
    refine v_aload_n dX1_type_70 2 rfl rfl ?_
    refine v_getS (f := 3) (t := 10) cf1 oc0 rfl rfl rfl (by decide) q864 dX1_type_71 ?_
    refine v_aload_n dX1_type_74 2 rfl rfl ?_
    refine v_getS (f := 5) (t := 13) cf1 oc0 rfl rfl rfl (by decide) q866 dX1_type_75 ?_
    refine v_iload_n dX1_type_78 1 rfl rfl ?_
    obtain ⟨r27, s24, e25, h⟩ := bd_some h
    have k26 := c_X6_base e25 r11
    have r28 : rg r27 := k26.1.2.2
    refine v_callVN (st := [vO 10]) cf6 oc13 k26 q1591 q2030 q1590 qs60 q303 yk_X6_base ⟨Nat.le_of_ble_eq_true rfl, Nat.le_of_ble_eq_true rfl⟩ ⟨kc10, trivial⟩ ⟨kc0, trivial⟩ (Nat.le_of_ble_eq_true rfl) rfl dX1_type_79 ?_
    obtain ⟨r32, s29, e30, h⟩ := bd_some h
    have k31 := c_X4_kind e30 r28
    have r33 : rg r32 := k31.1.2.2
    refine v_callV (st := []) cf4 oc10 k31 (lw_V q1938 q1446 q1447 q301 q1448) rfl yk_X4_kind ⟨Nat.le_of_ble_eq_true rfl, Nat.le_of_ble_eq_true rfl⟩ trivial ⟨kc0, trivial⟩ (Nat.le_of_ble_eq_true rfl) rfl dX1_type_82 ?_
    cases h
    exact v_iret r33 dX1_type_85
  rw [if_neg c23] at h
  by_cases c34 : x2 = 2
  · rw [if_pos c34] at h
    refine v_tswI (tgt := 86) dX1_type_31 rx2 (by rw [c34]; decide) (by rw [c34]; decide) (by rw [c34]; try rfl) (by decide) ?_
    refine v_iload dX1_type_86 0 rfl ?_
    cases h
    exact v_iret r16 dX1_type_88
  rw [if_neg c34] at h
  by_cases c35 : x2 = 3
  · rw [if_pos c35] at h
    refine v_tswI (tgt := 89) dX1_type_31 rx2 (by rw [c35]; decide) (by rw [c35]; decide) (by rw [c35]; try rfl) (by decide) ?_
    refine v_iload dX1_type_89 0 rfl ?_
    refine v_if_ne (tgt := 98) dX1_type_91 r16 (by decide) (fun c36 => ?_) (fun c36 => ?_)
    · rw [if_neg c36] at h
      refine v_aload_n dX1_type_98 2 rfl rfl ?_
      refine v_getS (f := 5) (t := 13) cf1 oc0 rfl rfl rfl (by decide) q866 dX1_type_99 ?_
      refine v_iload_n dX1_type_102 1 rfl rfl ?_
      refine v_iconst dX1_type_103 ?_
      obtain ⟨r40, s37, e38, h⟩ := bd_some h
      have k39 := c_X6_tag e38 r11 (rgl rfl)
      have r41 : rg r40 := k39.1.2.2
      refine v_callV (st := []) cf6 oc13 k39 (lw_V q2031 q1645 q1646 q303 q1647) rfl yk_X6_tag ⟨Nat.le_of_ble_eq_true rfl, Nat.le_of_ble_eq_true rfl⟩ trivial ⟨kc0, trivial⟩ (Nat.le_of_ble_eq_true rfl) rfl dX1_type_104 ?_
      refine v_bipush dX1_type_107 rfl ?_
      refine v_ishr dX1_type_109 ?_
      cases h
      exact v_iret (shr32_rg _ _) dX1_type_110
    · rw [if_pos c36] at h
      refine v_iconst dX1_type_94 ?_
      refine v_goto (tgt := 110) dX1_type_95 (by decide) ?_
      cases h
      exact v_iret (rgl rfl) dX1_type_110
  rw [if_neg c35] at h
  by_cases c42 : x2 = 4
  · rw [if_pos c42] at h
    refine v_tswI (tgt := 111) dX1_type_31 rx2 (by rw [c42]; decide) (by rw [c42]; decide) (by rw [c42]; try rfl) (by decide) ?_
    refine v_iload dX1_type_111 0 rfl ?_
    refine v_if_ne (tgt := 120) dX1_type_113 r16 (by decide) (fun c43 => ?_) (fun c43 => ?_)
    · rw [if_neg c43] at h
      refine v_aload_n dX1_type_120 2 rfl rfl ?_
      refine v_getS (f := 5) (t := 13) cf1 oc0 rfl rfl rfl (by decide) q866 dX1_type_121 ?_
      refine v_iload_n dX1_type_124 1 rfl rfl ?_
      refine v_iconst dX1_type_125 ?_
      obtain ⟨r47, s44, e45, h⟩ := bd_some h
      have k46 := c_X6_tag e45 r11 (rgl rfl)
      have r48 : rg r47 := k46.1.2.2
      refine v_callV (st := []) cf6 oc13 k46 (lw_V q2031 q1645 q1646 q303 q1647) rfl yk_X6_tag ⟨Nat.le_of_ble_eq_true rfl, Nat.le_of_ble_eq_true rfl⟩ trivial ⟨kc0, trivial⟩ (Nat.le_of_ble_eq_true rfl) rfl dX1_type_126 ?_
      refine v_ldc (n := 268435455) dX1_type_129 q2032 rfl ?_
      refine v_iand dX1_type_131 ?_
      cases h
      exact v_iret (and32_rg _ _) dX1_type_132
    · rw [if_pos c43] at h
      refine v_iconst dX1_type_116 ?_
      refine v_goto (tgt := 132) dX1_type_117 (by decide) ?_
      cases h
      exact v_iret (rgl rfl) dX1_type_132
  rw [if_neg c42] at h
  refine v_tswO (tgt := 133) dX1_type_31 rx2 (by omega) (by decide) ?_
  refine v_aload_n dX1_type_133 2 rfl rfl ?_
  refine v_aload_n dX1_type_134 2 rfl rfl ?_
  refine v_getS (f := 5) (t := 13) cf1 oc0 rfl rfl rfl (by decide) q866 dX1_type_135 ?_
  refine v_iload_n dX1_type_138 1 rfl rfl ?_
  obtain ⟨r52, s49, e50, h⟩ := bd_some h
  have k51 := c_X6_base e50 r11
  have r53 : rg r52 := k51.1.2.2
  refine v_callVN (st := [vO 0]) cf6 oc13 k51 q1591 q2030 q1590 qs60 q303 yk_X6_base ⟨Nat.le_of_ble_eq_true rfl, Nat.le_of_ble_eq_true rfl⟩ ⟨kc0, trivial⟩ ⟨kc0, trivial⟩ (Nat.le_of_ble_eq_true rfl) rfl dX1_type_139 ?_
  obtain ⟨r57, s54, e55, h⟩ := bd_some h
  have k56 := c_X1_parts e55 r53
  have r58 : rg r57 := k56.1.2.2
  refine v_callV (st := []) cf1 oc0 k56 (lw_V q2033 q2035 qs117 q298 q2036) rfl yk_X1_parts ⟨Nat.le_of_ble_eq_true rfl, Nat.le_of_ble_eq_true rfl⟩ trivial ⟨kc0, trivial⟩ (Nat.le_of_ble_eq_true rfl) rfl dX1_type_142 ?_
  cases h
  exact v_iret r58 dX1_type_145
theorem t_X1_type {x1 : Int} {x2 : Int} {s : vS} {q : Nat × vS} (h : f_X1_type x1 x2 s = some (.inr q))  (rx1 : rg x1) (rx2 : rg x2) : VT yX1_type cX1_type 5 (some .int) 7 161 [vO 0, vI x1, vI x2] s (exE q.1) q.2 := by
  unfold f_X1_type at h
  refine VT.of RX1 (by decide) rfl (Nat.le_of_ble_eq_true rfl) ?_
  show VW cX1_type (tB (exE q.1) RX1 q.2 7 161 5) (P0 []) s 0 [(0, vO 0), (1, vI x1), (2, vI x2)] []
  refine v_iload_n dX1_type_0 1 rfl rfl ?_
  refine v_aload_n dX1_type_1 0 rfl rfl ?_
  refine v_getI (f := 10) cf1 oc0 rfl (by decide) q871 dX1_type_2 ?_
  rcases bxv_inr h with e9 | ⟨s1, e2, h⟩
  · exact v_callXS (st := []) (t_X1_within e9 rx1 (gI_rg _ _ _)) (lw_S q1985 q1986 q298 q1987) yk_X1_within ⟨Nat.le_of_ble_eq_true rfl, Nat.le_of_ble_eq_true rfl⟩ (Nat.le_of_ble_eq_true rfl) rfl dX1_type_5
  have k3 := c_X1_within e2 rx1 (gI_rg _ _ _)
  refine v_callS (st := []) k3 (lw_S q1985 q1986 q298 q1987) yk_X1_within ⟨Nat.le_of_ble_eq_true rfl, Nat.le_of_ble_eq_true rfl⟩ trivial ⟨kc0, trivial⟩ (Nat.le_of_ble_eq_true rfl) rfl dX1_type_5 ?_
  refine v_iload_n dX1_type_8 2 rfl rfl ?_
  refine v_bipush dX1_type_9 rfl ?_
  rcases bxv_inr h with e9 | ⟨s4, e5, h⟩
  · exact v_callXS (st := []) (t_X1_within e9 rx2 (rgl rfl)) (lw_S q1985 q1986 q298 q1987) yk_X1_within ⟨Nat.le_of_ble_eq_true rfl, Nat.le_of_ble_eq_true rfl⟩ (Nat.le_of_ble_eq_true rfl) rfl dX1_type_11
  have k6 := c_X1_within e5 rx2 (rgl rfl)
  refine v_callS (st := []) k6 (lw_S q1985 q1986 q298 q1987) yk_X1_within ⟨Nat.le_of_ble_eq_true rfl, Nat.le_of_ble_eq_true rfl⟩ trivial ⟨kc0, trivial⟩ (Nat.le_of_ble_eq_true rfl) rfl dX1_type_11 ?_
  exact (nx_no h).elim

def f_X1_name (x1 : Int) (x2 : Int) (s : vS) : Option ((Int × vS) ⊕ (Nat × vS)) :=
  bxv (f_X1_within x1 (gI s 0 10) s) fun s1 =>
  bd (f_X1_nameLength x1 s1) fun r7 s4 =>
  bxv (f_X1_within x2 r7 s4) fun s9 =>
  nx <|
  bd (f_X1_nameFrom x1 s9) fun r15 s12 =>
  bd (f_X2_at 3 (w32 (r15 + x2)) s12) fun r20 s17 =>
  some (r20, s17)
theorem yk_X1_name : yOk yX1_name 2 := ⟨by decide, by decide, by decide +kernel⟩
theorem c_X1_name {x1 : Int} {x2 : Int} {s : vS} {out : Int × vS} (h : f_X1_name x1 x2 s = some (.inl out))  (rx1 : rg x1) (rx2 : rg x2) : VC yX1_name cX1_name 3 (some .int) 7 110 [vO 0, vI x1, vI x2] s (some (vI out.1)) out.2 [] := by
  unfold f_X1_name at h
  refine VC.of RX1 (by decide) rfl (Nat.le_of_ble_eq_true rfl) ?_
  show VW cX1_name (RX1, (some (vI out.1)), out.2, (some .int), 7, 110, 3, []) (P0 []) s 0 [(0, vO 0), (1, vI x1), (2, vI x2)] []
  refine v_iload_n dX1_name_0 1 rfl rfl ?_
  refine v_aload_n dX1_name_1 0 rfl rfl ?_
  refine v_getI (f := 10) cf1 oc0 rfl (by decide) q871 dX1_name_2 ?_
  obtain ⟨s1, e2, h⟩ := bxv_inl h
  have k3 := c_X1_within e2 rx1 (gI_rg _ _ _)
  refine v_callS (st := []) k3 (lw_S q1985 q1986 q298 q1987) yk_X1_within ⟨Nat.le_of_ble_eq_true rfl, Nat.le_of_ble_eq_true rfl⟩ trivial ⟨kc0, trivial⟩ (Nat.le_of_ble_eq_true rfl) rfl dX1_name_5 ?_
  refine v_iload_n dX1_name_8 2 rfl rfl ?_
  refine v_aload_n dX1_name_9 0 rfl rfl ?_
  refine v_iload_n dX1_name_10 1 rfl rfl ?_
  obtain ⟨r7, s4, e5, h⟩ := bd_some h
  have k6 := c_X1_nameLength e5 rx1
  have r8 : rg r7 := k6.1.2.2
  refine v_callV (st := [vI x2]) cf1 oc0 k6 (lw_V q2019 q2021 qs115 q298 q2022) rfl yk_X1_nameLength ⟨Nat.le_of_ble_eq_true rfl, Nat.le_of_ble_eq_true rfl⟩ trivial ⟨kc0, trivial⟩ (Nat.le_of_ble_eq_true rfl) rfl dX1_name_11 ?_
  obtain ⟨s9, e10, h⟩ := bxv_inl h
  have k11 := c_X1_within e10 rx2 r8
  refine v_callS (st := []) k11 (lw_S q1985 q1986 q298 q1987) yk_X1_within ⟨Nat.le_of_ble_eq_true rfl, Nat.le_of_ble_eq_true rfl⟩ trivial ⟨kc0, trivial⟩ (Nat.le_of_ble_eq_true rfl) rfl dX1_name_14 ?_
  have h := nx_some h
  refine v_aload_n dX1_name_17 0 rfl rfl ?_
  refine v_getS (f := 1) (t := 3) cf1 oc0 rfl rfl rfl (by decide) q862 dX1_name_18 ?_
  refine v_aload_n dX1_name_21 0 rfl rfl ?_
  refine v_iload_n dX1_name_22 1 rfl rfl ?_
  obtain ⟨r15, s12, e13, h⟩ := bd_some h
  have k14 := c_X1_nameFrom e13 rx1
  have r16 : rg r15 := k14.1.2.2
  refine v_callV (st := [vO 3]) cf1 oc0 k14 (lw_V q2025 q2027 qs116 q298 q2028) rfl yk_X1_nameFrom ⟨Nat.le_of_ble_eq_true rfl, Nat.le_of_ble_eq_true rfl⟩ ⟨kc3, trivial⟩ ⟨kc0, trivial⟩ (Nat.le_of_ble_eq_true rfl) rfl dX1_name_23 ?_
  refine v_iload_n dX1_name_26 2 rfl rfl ?_
  refine v_iadd dX1_name_27 ?_
  obtain ⟨r20, s17, e18, h⟩ := bd_some h
  have k19 := c_X2_at e18 (⟨by decide, rfl⟩ : okB 3 1) (w32_rg _)
  have r21 : rg r20 := k19.1.2.2
  refine v_callV (st := []) cf2 oc3 k19 (lw_V q2044 q1072 q1073 q299 q1074) rfl yk_X2_at ⟨Nat.le_of_ble_eq_true rfl, Nat.le_of_ble_eq_true rfl⟩ trivial ⟨kc0, trivial⟩ (Nat.le_of_ble_eq_true rfl) rfl dX1_name_28 ?_
  cases h
  exact v_iret r21 dX1_name_31
theorem t_X1_name {x1 : Int} {x2 : Int} {s : vS} {q : Nat × vS} (h : f_X1_name x1 x2 s = some (.inr q))  (rx1 : rg x1) (rx2 : rg x2) : VT yX1_name cX1_name 3 (some .int) 7 110 [vO 0, vI x1, vI x2] s (exE q.1) q.2 := by
  unfold f_X1_name at h
  refine VT.of RX1 (by decide) rfl (Nat.le_of_ble_eq_true rfl) ?_
  show VW cX1_name (tB (exE q.1) RX1 q.2 7 110 3) (P0 []) s 0 [(0, vO 0), (1, vI x1), (2, vI x2)] []
  refine v_iload_n dX1_name_0 1 rfl rfl ?_
  refine v_aload_n dX1_name_1 0 rfl rfl ?_
  refine v_getI (f := 10) cf1 oc0 rfl (by decide) q871 dX1_name_2 ?_
  rcases bxv_inr h with e9 | ⟨s1, e2, h⟩
  · exact v_callXS (st := []) (t_X1_within e9 rx1 (gI_rg _ _ _)) (lw_S q1985 q1986 q298 q1987) yk_X1_within ⟨Nat.le_of_ble_eq_true rfl, Nat.le_of_ble_eq_true rfl⟩ (Nat.le_of_ble_eq_true rfl) rfl dX1_name_5
  have k3 := c_X1_within e2 rx1 (gI_rg _ _ _)
  refine v_callS (st := []) k3 (lw_S q1985 q1986 q298 q1987) yk_X1_within ⟨Nat.le_of_ble_eq_true rfl, Nat.le_of_ble_eq_true rfl⟩ trivial ⟨kc0, trivial⟩ (Nat.le_of_ble_eq_true rfl) rfl dX1_name_5 ?_
  refine v_iload_n dX1_name_8 2 rfl rfl ?_
  refine v_aload_n dX1_name_9 0 rfl rfl ?_
  refine v_iload_n dX1_name_10 1 rfl rfl ?_
  obtain ⟨r7, s4, e5, h⟩ := bd_some h
  have k6 := c_X1_nameLength e5 rx1
  have r8 : rg r7 := k6.1.2.2
  refine v_callV (st := [vI x2]) cf1 oc0 k6 (lw_V q2019 q2021 qs115 q298 q2022) rfl yk_X1_nameLength ⟨Nat.le_of_ble_eq_true rfl, Nat.le_of_ble_eq_true rfl⟩ trivial ⟨kc0, trivial⟩ (Nat.le_of_ble_eq_true rfl) rfl dX1_name_11 ?_
  rcases bxv_inr h with e9 | ⟨s9, e10, h⟩
  · exact v_callXS (st := []) (t_X1_within e9 rx2 r8) (lw_S q1985 q1986 q298 q1987) yk_X1_within ⟨Nat.le_of_ble_eq_true rfl, Nat.le_of_ble_eq_true rfl⟩ (Nat.le_of_ble_eq_true rfl) rfl dX1_name_14
  have k11 := c_X1_within e10 rx2 r8
  refine v_callS (st := []) k11 (lw_S q1985 q1986 q298 q1987) yk_X1_within ⟨Nat.le_of_ble_eq_true rfl, Nat.le_of_ble_eq_true rfl⟩ trivial ⟨kc0, trivial⟩ (Nat.le_of_ble_eq_true rfl) rfl dX1_name_14 ?_
  exact (nx_no h).elim

def f_X6_valueTo (x1 : Int) (s : vS) : Option (Int × vS) :=
  bd (f_X4_limits x1 s) fun r4 s1 =>
  gd (gN s1 35 = gN s 35) <|
  gd (inb r4 (gN s1 35)) <|
  some (gE s1 35 r4, s1)
theorem yk_X6_valueTo : yOk yX6_valueTo 1 := ⟨by decide, by decide, by decide +kernel⟩
theorem c_X6_valueTo {x1 : Int} {s : vS} {out : Int × vS} (h : f_X6_valueTo x1 s = some out)  (rx1 : rg x1) : VC yX6_valueTo cX6_valueTo 2 (some .int) 2 43 [vO 13, vI x1] s (some (vI out.1)) out.2 [] := by
  unfold f_X6_valueTo at h
  refine VC.of RX6 (by decide) rfl (Nat.le_of_ble_eq_true rfl) ?_
  show VW cX6_valueTo (RX6, (some (vI out.1)), out.2, (some .int), 2, 43, 2, []) (P0 []) s 0 [(0, vO 13), (1, vI x1)] []
  refine v_aload_n dX6_valueTo_0 0 rfl rfl ?_
  refine v_getS (f := 12) (t := 35) cf6 oc13 rfl rfl rfl (by decide) q639 dX6_valueTo_1 ?_
  refine v_aload_n dX6_valueTo_4 0 rfl rfl ?_
  refine v_getS (f := 1) (t := 10) cf6 oc13 rfl rfl rfl (by decide) q628 dX6_valueTo_5 ?_
  refine v_iload_n dX6_valueTo_8 1 rfl rfl ?_
  obtain ⟨r4, s1, e2, h⟩ := bd_some h
  have k3 := c_X4_limits e2 rx1
  have r5 : rg r4 := k3.1.2.2
  obtain ⟨g6, h⟩ := gd_some h
  refine v_callV (st := [vO 35]) cf4 oc10 k3 (lw_V q1579 q1396 q1397 q301 q1398) rfl yk_X4_limits ⟨Nat.le_of_ble_eq_true rfl, Nat.le_of_ble_eq_true rfl⟩ ⟨(kp_arr (by decide) g6), trivial⟩ ⟨kc13, trivial⟩ (Nat.le_of_ble_eq_true rfl) rfl dX6_valueTo_9 ?_
  obtain ⟨g7, h⟩ := gd_some h
  refine v_iald oc35 r5 g7.1 g7.2 dX6_valueTo_12 ?_
  cases h
  exact v_iret (gE_rg _ _ _) dX6_valueTo_13

def f_X6_valueFrom (x1 : Int) (s : vS) : Option (Int × vS) :=
  bd (f_X4_limits x1 s) fun r4 s1 =>
  gd (gN s1 34 = gN s 34) <|
  gd (inb r4 (gN s1 34)) <|
  some (gE s1 34 r4, s1)
theorem yk_X6_valueFrom : yOk yX6_valueFrom 1 := ⟨by decide, by decide, by decide +kernel⟩
theorem c_X6_valueFrom {x1 : Int} {s : vS} {out : Int × vS} (h : f_X6_valueFrom x1 s = some out)  (rx1 : rg x1) : VC yX6_valueFrom cX6_valueFrom 2 (some .int) 2 43 [vO 13, vI x1] s (some (vI out.1)) out.2 [] := by
  unfold f_X6_valueFrom at h
  refine VC.of RX6 (by decide) rfl (Nat.le_of_ble_eq_true rfl) ?_
  show VW cX6_valueFrom (RX6, (some (vI out.1)), out.2, (some .int), 2, 43, 2, []) (P0 []) s 0 [(0, vO 13), (1, vI x1)] []
  refine v_aload_n dX6_valueFrom_0 0 rfl rfl ?_
  refine v_getS (f := 11) (t := 34) cf6 oc13 rfl rfl rfl (by decide) q638 dX6_valueFrom_1 ?_
  refine v_aload_n dX6_valueFrom_4 0 rfl rfl ?_
  refine v_getS (f := 1) (t := 10) cf6 oc13 rfl rfl rfl (by decide) q628 dX6_valueFrom_5 ?_
  refine v_iload_n dX6_valueFrom_8 1 rfl rfl ?_
  obtain ⟨r4, s1, e2, h⟩ := bd_some h
  have k3 := c_X4_limits e2 rx1
  have r5 : rg r4 := k3.1.2.2
  obtain ⟨g6, h⟩ := gd_some h
  refine v_callV (st := [vO 34]) cf4 oc10 k3 (lw_V q1579 q1396 q1397 q301 q1398) rfl yk_X4_limits ⟨Nat.le_of_ble_eq_true rfl, Nat.le_of_ble_eq_true rfl⟩ ⟨(kp_arr (by decide) g6), trivial⟩ ⟨kc13, trivial⟩ (Nat.le_of_ble_eq_true rfl) rfl dX6_valueFrom_9 ?_
  obtain ⟨g7, h⟩ := gd_some h
  refine v_iald oc34 r5 g7.1 g7.2 dX6_valueFrom_12 ?_
  cases h
  exact v_iret (gE_rg _ _ _) dX6_valueFrom_13

def E_X1_defaultSize_73 (rv : Option vA) (σo : vS) (q : Int × vS) : Prop := ∀ (x4' : Int) (s' : vS), q = (x4', s') → rg x4' → VW cX1_defaultSize (RX1, rv, σo, (some .int), 7, 161, 6, []) (P0 []) s' 96 [(0, vO 0), (4, vI x4')] []
def l_X1_defaultSize_73 : Nat → Int → Int → Int → vS → Option (Int × vS)
  | 0, _, _, _, _ => none
  | n + 1, x2, x4, x5, s =>
    if x2 ≤ x5 then
      some (x4, s)
    else
      bd (f_X4_next x4 s) fun r5 s2 =>
      vl (w32 (x5 + 1)) fun y7 =>
      l_X1_defaultSize_73 n x2 r5 y7 s2
theorem wl_X1_defaultSize_73 {x2 : Int} {rv : Option vA} {σo : vS}  (rx2 : rg x2) : ∀ (n : Nat) (x4 : Int) (x5 : Int) (s : vS) (q : Int × vS), l_X1_defaultSize_73 n x2 x4 x5 s = some q → rg x4 → rg x5 → E_X1_defaultSize_73 rv σo q → VW cX1_defaultSize (RX1, rv, σo, (some .int), 7, 161, 6, []) (P0 []) s 73 [(0, vO 0), (2, vI x2), (4, vI x4), (5, vI x5)] [] := by
  intro n
  induction n with
  | zero => intro x4 x5 s q h; cases h
  | succ n ih =>
    intro x4 x5 s q h rx4 rx5 hE
    unfold l_X1_defaultSize_73 at h
    refine v_iload dX1_defaultSize_73 3 rfl ?_
    refine v_iload_n dX1_defaultSize_75 1 rfl rfl ?_
    refine v_icmp_ge (tgt := 96) dX1_defaultSize_76 rx5 rx2 (by decide) (fun c1 => ?_) (fun c1 => ?_)
    · rw [if_pos c1] at h
      cases h
      refine v_sub [0, 2] (L1 := [(0, vO 0), (4, vI x4)]) rfl ?_
      exact hE _ _ rfl rx4
    · rw [if_neg c1] at h
      refine v_aload_n dX1_defaultSize_79 0 rfl rfl ?_
      refine v_getS (f := 3) (t := 10) cf1 oc0 rfl rfl rfl (by decide) q864 dX1_defaultSize_80 ?_
      refine v_iload dX1_defaultSize_83 2 rfl ?_
      obtain ⟨r5, s2, e3, h⟩ := bd_some h
      have k4 := c_X4_next e3 rx4
      have r6 : rg r5 := k4.1.2.2
      refine v_callV (st := []) cf4 oc10 k4 (lw_V q1944 q1404 q1405 q301 q1406) rfl yk_X4_next ⟨Nat.le_of_ble_eq_true rfl, Nat.le_of_ble_eq_true rfl⟩ trivial ⟨kc0, trivial⟩ (Nat.le_of_ble_eq_true rfl) rfl dX1_defaultSize_85 ?_
      refine v_istore (L1 := [(4, vI r5), (0, vO 0), (2, vI x2), (5, vI x5)]) dX1_defaultSize_88 (by decide) rfl ?_
      obtain ⟨y7, e8, h⟩ := vl_some h
      refine v_iinc (L1 := [(5, vI (w32 (x5 + 1))), (4, vI r5), (0, vO 0), (2, vI x2)]) dX1_defaultSize_90 3 rfl (by decide) rfl ?_
      rw [← e8]
      have r9 : rg y7 := by rw [e8]; exact w32_rg _
      refine v_goto (tgt := 73) dX1_defaultSize_93 (by decide) ?_
      refine v_sub [2, 3, 1, 0] (L1 := [(0, vO 0), (2, vI x2), (4, vI r5), (5, vI y7)]) rfl ?_
      exact ih r5 y7 s2 _ h r6 r9 hE

def j_X1_defaultSize_57 (x2 : Int) (x3 : Int) (z0 : Int) (z1 : Int) (s : vS) : Option ((Int × vS) ⊕ (Nat × vS)) :=
  bxv (f_X1_within z0 z1 s) fun s1 =>
  nx <|
  bd (f_X4_parts x3 s1) fun r7 s4 =>
  lq_1 (l_X1_defaultSize_73 FU x2 r7 0 s4) fun y9 s10 =>
  bd (f_X4_at y9 5 s10) fun r16 s13 =>
  if r16 = 2 then
    bd (f_X6_valueTo y9 s13) fun r22 s19 =>
    bd (f_X6_valueFrom y9 s19) fun r27 s24 =>
    some (w32 (r22 - r27), s24)
  else
    some ((-1), s13)
theorem wj_X1_defaultSize_57 {x2 : Int} {x3 : Int} {z0 : Int} {z1 : Int} {s : vS} {out : Int × vS} (h : j_X1_defaultSize_57 x2 x3 z0 z1 s = some (.inl out))  (rx2 : rg x2) (rx3 : rg x3) (rz0 : rg z0) (rz1 : rg z1) : VW cX1_defaultSize (RX1, (some (vI out.1)), out.2, (some .int), 7, 161, 6, []) (P0 []) s 57 [(0, vO 0), (2, vI x2), (3, vI x3)] [vI z1, vI z0] := by
  unfold j_X1_defaultSize_57 at h
  obtain ⟨s1, e2, h⟩ := bxv_inl h
  have k3 := c_X1_within e2 rz0 rz1
  refine v_callS (st := []) k3 (lw_S q1985 q1986 q298 q1987) yk_X1_within ⟨Nat.le_of_ble_eq_true rfl, Nat.le_of_ble_eq_true rfl⟩ trivial ⟨kc0, trivial⟩ (Nat.le_of_ble_eq_true rfl) rfl dX1_defaultSize_57 ?_
  have h := nx_some h
  refine v_aload_n dX1_defaultSize_60 0 rfl rfl ?_
  refine v_getS (f := 3) (t := 10) cf1 oc0 rfl rfl rfl (by decide) q864 dX1_defaultSize_61 ?_
  refine v_iload_n dX1_defaultSize_64 2 rfl rfl ?_
  obtain ⟨r7, s4, e5, h⟩ := bd_some h
  have k6 := c_X4_parts e5 rx3
  have r8 : rg r7 := k6.1.2.2
  refine v_callV (st := []) cf4 oc10 k6 (lw_V q2014 q1493 q1494 q301 q1495) rfl yk_X4_parts ⟨Nat.le_of_ble_eq_true rfl, Nat.le_of_ble_eq_true rfl⟩ trivial ⟨kc0, trivial⟩ (Nat.le_of_ble_eq_true rfl) rfl dX1_defaultSize_65 ?_
  refine v_istore (L1 := [(4, vI r7), (0, vO 0), (2, vI x2), (3, vI x3)]) dX1_defaultSize_68 (by decide) rfl ?_
  refine v_iconst dX1_defaultSize_70 ?_
  refine v_istore (L1 := [(5, vI 0), (4, vI r7), (0, vO 0), (2, vI x2), (3, vI x3)]) dX1_defaultSize_71 (by decide) rfl ?_
  refine v_sub [2, 3, 1, 0] (L1 := [(0, vO 0), (2, vI x2), (4, vI r7), (5, vI 0)]) rfl ?_
  obtain ⟨y9, s10, e11, h⟩ := lq_1_some h
  refine wl_X1_defaultSize_73 rx2 FU r7 0 s4 _ e11 r8 (rgl rfl) ?_
  unfold E_X1_defaultSize_73
  intro y9' s10' z_ r12
  cases z_
  refine v_aload_n dX1_defaultSize_96 0 rfl rfl ?_
  refine v_getS (f := 3) (t := 10) cf1 oc0 rfl rfl rfl (by decide) q864 dX1_defaultSize_97 ?_
  refine v_iload dX1_defaultSize_100 1 rfl ?_
  refine v_iconst dX1_defaultSize_102 ?_
  obtain ⟨r16, s13, e14, h⟩ := bd_some h
  have k15 := c_X4_at e14 r12 (rgl rfl)
  have r17 : rg r16 := k15.1.2.2
  refine v_callV (st := []) cf4 oc10 k15 (lw_V q2052 q1400 q1401 q301 q1402) rfl yk_X4_at ⟨Nat.le_of_ble_eq_true rfl, Nat.le_of_ble_eq_true rfl⟩ trivial ⟨kc0, trivial⟩ (Nat.le_of_ble_eq_true rfl) rfl dX1_defaultSize_103 ?_
  refine v_iconst dX1_defaultSize_106 ?_
  refine v_icmp_ne (tgt := 132) dX1_defaultSize_107 r17 (rgl rfl) (by decide) (fun c18 => ?_) (fun c18 => ?_)
  · rw [if_neg c18] at h
    refine v_iconst dX1_defaultSize_132 ?_
    cases h
    exact v_iret (rgl rfl) dX1_defaultSize_133
  · rw [if_pos c18] at h
    refine v_aload_n dX1_defaultSize_110 0 rfl rfl ?_
    refine v_getS (f := 5) (t := 13) cf1 oc0 rfl rfl rfl (by decide) q866 dX1_defaultSize_111 ?_
    refine v_iload dX1_defaultSize_114 1 rfl ?_
    obtain ⟨r22, s19, e20, h⟩ := bd_some h
    have k21 := c_X6_valueTo e20 r12
    have r23 : rg r22 := k21.1.2.2
    refine v_callV (st := []) cf6 oc13 k21 (lw_V q2053 q2054 q2055 q303 q2056) rfl yk_X6_valueTo ⟨Nat.le_of_ble_eq_true rfl, Nat.le_of_ble_eq_true rfl⟩ trivial ⟨kc0, trivial⟩ (Nat.le_of_ble_eq_true rfl) rfl dX1_defaultSize_116 ?_
    refine v_aload_n dX1_defaultSize_119 0 rfl rfl ?_
    refine v_getS (f := 5) (t := 13) cf1 oc0 rfl rfl rfl (by decide) q866 dX1_defaultSize_120 ?_
    refine v_iload dX1_defaultSize_123 1 rfl ?_
    obtain ⟨r27, s24, e25, h⟩ := bd_some h
    have k26 := c_X6_valueFrom e25 r12
    have r28 : rg r27 := k26.1.2.2
    refine v_callV (st := [vI r22]) cf6 oc13 k26 (lw_V q2057 q2058 q2059 q303 q2060) rfl yk_X6_valueFrom ⟨Nat.le_of_ble_eq_true rfl, Nat.le_of_ble_eq_true rfl⟩ trivial ⟨kc0, trivial⟩ (Nat.le_of_ble_eq_true rfl) rfl dX1_defaultSize_125 ?_
    refine v_isub dX1_defaultSize_128 ?_
    refine v_goto (tgt := 133) dX1_defaultSize_129 (by decide) ?_
    cases h
    exact v_iret (w32_rg _) dX1_defaultSize_133

def j_X1_defaultSize_48 (x2 : Int) (x3 : Int) (z0 : Int) (s : vS) : Option ((Int × vS) ⊕ (Nat × vS)) :=
  bd (f_X1_parts x3 s) fun r4 s1 =>
  j_X1_defaultSize_57 x2 x3 z0 r4 s1
theorem wj_X1_defaultSize_48 {x2 : Int} {x3 : Int} {z0 : Int} {s : vS} {out : Int × vS} (h : j_X1_defaultSize_48 x2 x3 z0 s = some (.inl out))  (rx2 : rg x2) (rx3 : rg x3) (rz0 : rg z0) : VW cX1_defaultSize (RX1, (some (vI out.1)), out.2, (some .int), 7, 161, 6, []) (P0 []) s 48 [(0, vO 0), (2, vI x2), (3, vI x3)] [vI z0] := by
  unfold j_X1_defaultSize_48 at h
  refine v_aload_n dX1_defaultSize_48 0 rfl rfl ?_
  refine v_iload_n dX1_defaultSize_49 2 rfl rfl ?_
  obtain ⟨r4, s1, e2, h⟩ := bd_some h
  have k3 := c_X1_parts e2 rx3
  have r5 : rg r4 := k3.1.2.2
  refine v_callV (st := [vI z0]) cf1 oc0 k3 (lw_V q2033 q2035 qs117 q298 q2036) rfl yk_X1_parts ⟨Nat.le_of_ble_eq_true rfl, Nat.le_of_ble_eq_true rfl⟩ trivial ⟨kc0, trivial⟩ (Nat.le_of_ble_eq_true rfl) rfl dX1_defaultSize_50 ?_
  refine v_goto (tgt := 57) dX1_defaultSize_53 (by decide) ?_
  exact wj_X1_defaultSize_57 h rx2 rx3 rz0 r5

def f_X1_defaultSize (x1 : Int) (x2 : Int) (s : vS) : Option ((Int × vS) ⊕ (Nat × vS)) :=
  bxv (f_X1_within x1 (gI s 0 10) s) fun s1 =>
  bd (f_X1_typeOf x1 s1) fun r7 s4 =>
  bd (f_X6_base r7 s4) fun r12 s9 =>
  bd (f_X4_kind r12 s9) fun r17 s14 =>
  if r17 = 12 then
    j_X1_defaultSize_48 x2 r12 x2 s14
  else
    bd (f_X4_kind r12 s14) fun r23 s20 =>
    if r23 = 13 then
      j_X1_defaultSize_48 x2 r12 x2 s20
    else
      j_X1_defaultSize_57 x2 r12 x2 0 s20
theorem yk_X1_defaultSize : yOk yX1_defaultSize 2 := ⟨by decide, by decide, by decide +kernel⟩
theorem c_X1_defaultSize {x1 : Int} {x2 : Int} {s : vS} {out : Int × vS} (h : f_X1_defaultSize x1 x2 s = some (.inl out))  (rx1 : rg x1) (rx2 : rg x2) : VC yX1_defaultSize cX1_defaultSize 6 (some .int) 7 161 [vO 0, vI x1, vI x2] s (some (vI out.1)) out.2 [] := by
  unfold f_X1_defaultSize at h
  refine VC.of RX1 (by decide) rfl (Nat.le_of_ble_eq_true rfl) ?_
  show VW cX1_defaultSize (RX1, (some (vI out.1)), out.2, (some .int), 7, 161, 6, []) (P0 []) s 0 [(0, vO 0), (1, vI x1), (2, vI x2)] []
  refine v_iload_n dX1_defaultSize_0 1 rfl rfl ?_
  refine v_aload_n dX1_defaultSize_1 0 rfl rfl ?_
  refine v_getI (f := 10) cf1 oc0 rfl (by decide) q871 dX1_defaultSize_2 ?_
  obtain ⟨s1, e2, h⟩ := bxv_inl h
  have k3 := c_X1_within e2 rx1 (gI_rg _ _ _)
  refine v_callS (st := []) k3 (lw_S q1985 q1986 q298 q1987) yk_X1_within ⟨Nat.le_of_ble_eq_true rfl, Nat.le_of_ble_eq_true rfl⟩ trivial ⟨kc0, trivial⟩ (Nat.le_of_ble_eq_true rfl) rfl dX1_defaultSize_5 ?_
  refine v_aload_n dX1_defaultSize_8 0 rfl rfl ?_
  refine v_getS (f := 5) (t := 13) cf1 oc0 rfl rfl rfl (by decide) q866 dX1_defaultSize_9 ?_
  refine v_aload_n dX1_defaultSize_12 0 rfl rfl ?_
  refine v_iload_n dX1_defaultSize_13 1 rfl rfl ?_
  obtain ⟨r7, s4, e5, h⟩ := bd_some h
  have k6 := c_X1_typeOf e5 rx1
  have r8 : rg r7 := k6.1.2.2
  refine v_callV (st := [vO 13]) cf1 oc0 k6 (lw_V q2010 q2012 qs114 q298 q2013) rfl yk_X1_typeOf ⟨Nat.le_of_ble_eq_true rfl, Nat.le_of_ble_eq_true rfl⟩ ⟨kc13, trivial⟩ ⟨kc0, trivial⟩ (Nat.le_of_ble_eq_true rfl) rfl dX1_defaultSize_14 ?_
  obtain ⟨r12, s9, e10, h⟩ := bd_some h
  have k11 := c_X6_base e10 r8
  have r13 : rg r12 := k11.1.2.2
  refine v_callVN (st := []) cf6 oc13 k11 q1591 q2030 q1590 qs60 q303 yk_X6_base ⟨Nat.le_of_ble_eq_true rfl, Nat.le_of_ble_eq_true rfl⟩ trivial ⟨kc0, trivial⟩ (Nat.le_of_ble_eq_true rfl) rfl dX1_defaultSize_17 ?_
  refine v_istore_n (L1 := [(3, vI r12), (0, vO 0), (1, vI x1), (2, vI x2)]) dX1_defaultSize_20 rfl (by decide) rfl ?_
  refine v_iload_n dX1_defaultSize_21 3 rfl rfl ?_
  refine v_aload_n dX1_defaultSize_22 1 rfl rfl ?_
  refine v_getS (f := 3) (t := 10) cf1 oc0 rfl rfl rfl (by decide) q864 dX1_defaultSize_23 ?_
  refine v_iload_n dX1_defaultSize_26 0 rfl rfl ?_
  obtain ⟨r17, s14, e15, h⟩ := bd_some h
  have k16 := c_X4_kind e15 r13
  have r18 : rg r17 := k16.1.2.2
  refine v_callV (st := [vI x2]) cf4 oc10 k16 (lw_V q1938 q1446 q1447 q301 q1448) rfl yk_X4_kind ⟨Nat.le_of_ble_eq_true rfl, Nat.le_of_ble_eq_true rfl⟩ trivial ⟨kc0, trivial⟩ (Nat.le_of_ble_eq_true rfl) rfl dX1_defaultSize_27 ?_
  refine v_bipush dX1_defaultSize_30 rfl ?_
  refine v_icmp_eq (tgt := 48) dX1_defaultSize_32 r18 (rgl rfl) (by decide) (fun c19 => ?_) (fun c19 => ?_)
  · rw [if_pos c19] at h
    refine v_sub [1, 3, 0] (L1 := [(0, vO 0), (2, vI x2), (3, vI r12)]) rfl ?_
    exact wj_X1_defaultSize_48 h rx2 r13 rx2
  · rw [if_neg c19] at h
    refine v_aload_n dX1_defaultSize_35 1 rfl rfl ?_
    refine v_getS (f := 3) (t := 10) cf1 oc0 rfl rfl rfl (by decide) q864 dX1_defaultSize_36 ?_
    refine v_iload_n dX1_defaultSize_39 0 rfl rfl ?_
    obtain ⟨r23, s20, e21, h⟩ := bd_some h
    have k22 := c_X4_kind e21 r13
    have r24 : rg r23 := k22.1.2.2
    refine v_callV (st := [vI x2]) cf4 oc10 k22 (lw_V q1938 q1446 q1447 q301 q1448) rfl yk_X4_kind ⟨Nat.le_of_ble_eq_true rfl, Nat.le_of_ble_eq_true rfl⟩ trivial ⟨kc0, trivial⟩ (Nat.le_of_ble_eq_true rfl) rfl dX1_defaultSize_40 ?_
    refine v_bipush dX1_defaultSize_43 rfl ?_
    refine v_icmp_ne (tgt := 56) dX1_defaultSize_45 r24 (rgl rfl) (by decide) (fun c25 => ?_) (fun c25 => ?_)
    · rw [if_neg c25] at h
      refine v_iconst dX1_defaultSize_56 ?_
      refine v_sub [1, 3, 0] (L1 := [(0, vO 0), (2, vI x2), (3, vI r12)]) rfl ?_
      exact wj_X1_defaultSize_57 h rx2 r13 rx2 (rgl rfl)
    · rw [if_pos c25] at h
      refine v_sub [1, 3, 0] (L1 := [(0, vO 0), (2, vI x2), (3, vI r12)]) rfl ?_
      exact wj_X1_defaultSize_48 h rx2 r13 rx2
theorem tj_X1_defaultSize_57 {x2 : Int} {x3 : Int} {z0 : Int} {z1 : Int} {s : vS} {q : Nat × vS} (h : j_X1_defaultSize_57 x2 x3 z0 z1 s = some (.inr q))  (rx2 : rg x2) (rx3 : rg x3) (rz0 : rg z0) (rz1 : rg z1) : VW cX1_defaultSize (tB (exE q.1) RX1 q.2 7 161 6) (P0 []) s 57 [(0, vO 0), (2, vI x2), (3, vI x3)] [vI z1, vI z0] := by
  unfold j_X1_defaultSize_57 at h
  rcases bxv_inr h with e9 | ⟨s1, e2, h⟩
  · exact v_callXS (st := []) (t_X1_within e9 rz0 rz1) (lw_S q1985 q1986 q298 q1987) yk_X1_within ⟨Nat.le_of_ble_eq_true rfl, Nat.le_of_ble_eq_true rfl⟩ (Nat.le_of_ble_eq_true rfl) rfl dX1_defaultSize_57
  have k3 := c_X1_within e2 rz0 rz1
  refine v_callS (st := []) k3 (lw_S q1985 q1986 q298 q1987) yk_X1_within ⟨Nat.le_of_ble_eq_true rfl, Nat.le_of_ble_eq_true rfl⟩ trivial ⟨kc0, trivial⟩ (Nat.le_of_ble_eq_true rfl) rfl dX1_defaultSize_57 ?_
  exact (nx_no h).elim

theorem tj_X1_defaultSize_48 {x2 : Int} {x3 : Int} {z0 : Int} {s : vS} {q : Nat × vS} (h : j_X1_defaultSize_48 x2 x3 z0 s = some (.inr q))  (rx2 : rg x2) (rx3 : rg x3) (rz0 : rg z0) : VW cX1_defaultSize (tB (exE q.1) RX1 q.2 7 161 6) (P0 []) s 48 [(0, vO 0), (2, vI x2), (3, vI x3)] [vI z0] := by
  unfold j_X1_defaultSize_48 at h
  refine v_aload_n dX1_defaultSize_48 0 rfl rfl ?_
  refine v_iload_n dX1_defaultSize_49 2 rfl rfl ?_
  obtain ⟨r4, s1, e2, h⟩ := bd_some h
  have k3 := c_X1_parts e2 rx3
  have r5 : rg r4 := k3.1.2.2
  refine v_callV (st := [vI z0]) cf1 oc0 k3 (lw_V q2033 q2035 qs117 q298 q2036) rfl yk_X1_parts ⟨Nat.le_of_ble_eq_true rfl, Nat.le_of_ble_eq_true rfl⟩ trivial ⟨kc0, trivial⟩ (Nat.le_of_ble_eq_true rfl) rfl dX1_defaultSize_50 ?_
  refine v_goto (tgt := 57) dX1_defaultSize_53 (by decide) ?_
  exact tj_X1_defaultSize_57 h rx2 rx3 rz0 r5

theorem t_X1_defaultSize {x1 : Int} {x2 : Int} {s : vS} {q : Nat × vS} (h : f_X1_defaultSize x1 x2 s = some (.inr q))  (rx1 : rg x1) (rx2 : rg x2) : VT yX1_defaultSize cX1_defaultSize 6 (some .int) 7 161 [vO 0, vI x1, vI x2] s (exE q.1) q.2 := by
  unfold f_X1_defaultSize at h
  refine VT.of RX1 (by decide) rfl (Nat.le_of_ble_eq_true rfl) ?_
  show VW cX1_defaultSize (tB (exE q.1) RX1 q.2 7 161 6) (P0 []) s 0 [(0, vO 0), (1, vI x1), (2, vI x2)] []
  refine v_iload_n dX1_defaultSize_0 1 rfl rfl ?_
  refine v_aload_n dX1_defaultSize_1 0 rfl rfl ?_
  refine v_getI (f := 10) cf1 oc0 rfl (by decide) q871 dX1_defaultSize_2 ?_
  rcases bxv_inr h with e9 | ⟨s1, e2, h⟩
  · exact v_callXS (st := []) (t_X1_within e9 rx1 (gI_rg _ _ _)) (lw_S q1985 q1986 q298 q1987) yk_X1_within ⟨Nat.le_of_ble_eq_true rfl, Nat.le_of_ble_eq_true rfl⟩ (Nat.le_of_ble_eq_true rfl) rfl dX1_defaultSize_5
  have k3 := c_X1_within e2 rx1 (gI_rg _ _ _)
  refine v_callS (st := []) k3 (lw_S q1985 q1986 q298 q1987) yk_X1_within ⟨Nat.le_of_ble_eq_true rfl, Nat.le_of_ble_eq_true rfl⟩ trivial ⟨kc0, trivial⟩ (Nat.le_of_ble_eq_true rfl) rfl dX1_defaultSize_5 ?_
  refine v_aload_n dX1_defaultSize_8 0 rfl rfl ?_
  refine v_getS (f := 5) (t := 13) cf1 oc0 rfl rfl rfl (by decide) q866 dX1_defaultSize_9 ?_
  refine v_aload_n dX1_defaultSize_12 0 rfl rfl ?_
  refine v_iload_n dX1_defaultSize_13 1 rfl rfl ?_
  obtain ⟨r7, s4, e5, h⟩ := bd_some h
  have k6 := c_X1_typeOf e5 rx1
  have r8 : rg r7 := k6.1.2.2
  refine v_callV (st := [vO 13]) cf1 oc0 k6 (lw_V q2010 q2012 qs114 q298 q2013) rfl yk_X1_typeOf ⟨Nat.le_of_ble_eq_true rfl, Nat.le_of_ble_eq_true rfl⟩ ⟨kc13, trivial⟩ ⟨kc0, trivial⟩ (Nat.le_of_ble_eq_true rfl) rfl dX1_defaultSize_14 ?_
  obtain ⟨r12, s9, e10, h⟩ := bd_some h
  have k11 := c_X6_base e10 r8
  have r13 : rg r12 := k11.1.2.2
  refine v_callVN (st := []) cf6 oc13 k11 q1591 q2030 q1590 qs60 q303 yk_X6_base ⟨Nat.le_of_ble_eq_true rfl, Nat.le_of_ble_eq_true rfl⟩ trivial ⟨kc0, trivial⟩ (Nat.le_of_ble_eq_true rfl) rfl dX1_defaultSize_17 ?_
  refine v_istore_n (L1 := [(3, vI r12), (0, vO 0), (1, vI x1), (2, vI x2)]) dX1_defaultSize_20 rfl (by decide) rfl ?_
  refine v_iload_n dX1_defaultSize_21 3 rfl rfl ?_
  refine v_aload_n dX1_defaultSize_22 1 rfl rfl ?_
  refine v_getS (f := 3) (t := 10) cf1 oc0 rfl rfl rfl (by decide) q864 dX1_defaultSize_23 ?_
  refine v_iload_n dX1_defaultSize_26 0 rfl rfl ?_
  obtain ⟨r17, s14, e15, h⟩ := bd_some h
  have k16 := c_X4_kind e15 r13
  have r18 : rg r17 := k16.1.2.2
  refine v_callV (st := [vI x2]) cf4 oc10 k16 (lw_V q1938 q1446 q1447 q301 q1448) rfl yk_X4_kind ⟨Nat.le_of_ble_eq_true rfl, Nat.le_of_ble_eq_true rfl⟩ trivial ⟨kc0, trivial⟩ (Nat.le_of_ble_eq_true rfl) rfl dX1_defaultSize_27 ?_
  refine v_bipush dX1_defaultSize_30 rfl ?_
  refine v_icmp_eq (tgt := 48) dX1_defaultSize_32 r18 (rgl rfl) (by decide) (fun c19 => ?_) (fun c19 => ?_)
  · rw [if_pos c19] at h
    refine v_sub [1, 3, 0] (L1 := [(0, vO 0), (2, vI x2), (3, vI r12)]) rfl ?_
    exact tj_X1_defaultSize_48 h rx2 r13 rx2
  · rw [if_neg c19] at h
    refine v_aload_n dX1_defaultSize_35 1 rfl rfl ?_
    refine v_getS (f := 3) (t := 10) cf1 oc0 rfl rfl rfl (by decide) q864 dX1_defaultSize_36 ?_
    refine v_iload_n dX1_defaultSize_39 0 rfl rfl ?_
    obtain ⟨r23, s20, e21, h⟩ := bd_some h
    have k22 := c_X4_kind e21 r13
    have r24 : rg r23 := k22.1.2.2
    refine v_callV (st := [vI x2]) cf4 oc10 k22 (lw_V q1938 q1446 q1447 q301 q1448) rfl yk_X4_kind ⟨Nat.le_of_ble_eq_true rfl, Nat.le_of_ble_eq_true rfl⟩ trivial ⟨kc0, trivial⟩ (Nat.le_of_ble_eq_true rfl) rfl dX1_defaultSize_40 ?_
    refine v_bipush dX1_defaultSize_43 rfl ?_
    refine v_icmp_ne (tgt := 56) dX1_defaultSize_45 r24 (rgl rfl) (by decide) (fun c25 => ?_) (fun c25 => ?_)
    · rw [if_neg c25] at h
      refine v_iconst dX1_defaultSize_56 ?_
      refine v_sub [1, 3, 0] (L1 := [(0, vO 0), (2, vI x2), (3, vI r12)]) rfl ?_
      exact tj_X1_defaultSize_57 h rx2 r13 rx2 (rgl rfl)
    · rw [if_pos c25] at h
      refine v_sub [1, 3, 0] (L1 := [(0, vO 0), (2, vI x2), (3, vI r12)]) rfl ?_
      exact tj_X1_defaultSize_48 h rx2 r13 rx2

def j_X1_limit_17 (x1 : Int) (z0 : Int) (s : vS) : Option ((Int × vS) ⊕ (Nat × vS)) :=
  bxv (f_X1_right z0 s) fun s1 =>
  nx <|
  vl (gI s1 0 16) fun y4 =>
  stp (sI s1 0 16 x1) fun s7 =>
  some (y4, s7)
theorem wj_X1_limit_17 {x1 : Int} {z0 : Int} {s : vS} {out : Int × vS} (h : j_X1_limit_17 x1 z0 s = some (.inl out))  (rx1 : rg x1) (rz0 : rg z0) : VW cX1_limit (RX1, (some (vI out.1)), out.2, (some .int), 7, 109, 3, []) (P0 []) s 17 [(0, vO 0), (1, vI x1)] [vI z0] := by
  unfold j_X1_limit_17 at h
  obtain ⟨s1, e2, h⟩ := bxv_inl h
  have k3 := c_X1_right e2 rz0
  refine v_callS (st := []) k3 (lw_S q1021 q1022 q298 q1023) yk_X1_right ⟨Nat.le_of_ble_eq_true rfl, Nat.le_of_ble_eq_true rfl⟩ trivial ⟨kc0, trivial⟩ (Nat.le_of_ble_eq_true rfl) rfl dX1_limit_17 ?_
  have h := nx_some h
  refine v_aload_n dX1_limit_20 0 rfl rfl ?_
  refine v_getI (f := 16) cf1 oc0 rfl (by decide) q877 dX1_limit_21 ?_
  obtain ⟨y4, e5, h⟩ := vl_some h
  rw [← e5]
  have r6 : rg y4 := by rw [e5]; exact gI_rg _ _ _
  refine v_istore_n (L1 := [(2, vI y4), (0, vO 0), (1, vI x1)]) dX1_limit_24 rfl (by decide) rfl ?_
  refine v_aload_n dX1_limit_25 1 rfl rfl ?_
  refine v_iload_n dX1_limit_26 2 rfl rfl ?_
  obtain ⟨s7, e8, h⟩ := stp_some h
  refine v_putI (f := 16) cf1 oc0 rfl (by decide) q877 dX1_limit_27 rfl rfl ?_
  rw [← e8]
  refine v_iload_n dX1_limit_30 0 rfl rfl ?_
  cases h
  exact v_iret r6 dX1_limit_31

def f_X1_limit (x1 : Int) (s : vS) : Option ((Int × vS) ⊕ (Nat × vS)) :=
  if x1 < 4 then
    j_X1_limit_17 x1 0 s
  else
    if 1024 < x1 then
      j_X1_limit_17 x1 0 s
    else
      j_X1_limit_17 x1 1 s
theorem yk_X1_limit : yOk yX1_limit 1 := ⟨by decide, by decide, by decide +kernel⟩
theorem c_X1_limit {x1 : Int} {s : vS} {out : Int × vS} (h : f_X1_limit x1 s = some (.inl out))  (rx1 : rg x1) : VC yX1_limit cX1_limit 3 (some .int) 7 109 [vO 0, vI x1] s (some (vI out.1)) out.2 [] := by
  unfold f_X1_limit at h
  refine VC.of RX1 (by decide) rfl (Nat.le_of_ble_eq_true rfl) ?_
  show VW cX1_limit (RX1, (some (vI out.1)), out.2, (some .int), 7, 109, 3, []) (P0 []) s 0 [(0, vO 0), (1, vI x1)] []
  refine v_iload_n dX1_limit_0 1 rfl rfl ?_
  refine v_iconst dX1_limit_1 ?_
  refine v_icmp_lt (tgt := 16) dX1_limit_2 rx1 (rgl rfl) (by decide) (fun c1 => ?_) (fun c1 => ?_)
  · rw [if_pos c1] at h
    refine v_iconst dX1_limit_16 ?_
    exact wj_X1_limit_17 h rx1 (rgl rfl)
  · rw [if_neg c1] at h
    refine v_iload_n dX1_limit_5 1 rfl rfl ?_
    refine v_sipush dX1_limit_6 rfl ?_
    refine v_icmp_gt (tgt := 16) dX1_limit_9 rx1 (rgl rfl) (by decide) (fun c2 => ?_) (fun c2 => ?_)
    · rw [if_pos c2] at h
      refine v_iconst dX1_limit_16 ?_
      exact wj_X1_limit_17 h rx1 (rgl rfl)
    · rw [if_neg c2] at h
      refine v_iconst dX1_limit_12 ?_
      refine v_goto (tgt := 17) dX1_limit_13 (by decide) ?_
      exact wj_X1_limit_17 h rx1 (rgl rfl)
theorem tj_X1_limit_17 {x1 : Int} {z0 : Int} {s : vS} {q : Nat × vS} (h : j_X1_limit_17 x1 z0 s = some (.inr q))  (rx1 : rg x1) (rz0 : rg z0) : VW cX1_limit (tB (exE q.1) RX1 q.2 7 109 3) (P0 []) s 17 [(0, vO 0), (1, vI x1)] [vI z0] := by
  unfold j_X1_limit_17 at h
  rcases bxv_inr h with e9 | ⟨s1, e2, h⟩
  · exact v_callXS (st := []) (t_X1_right e9 rz0) (lw_S q1021 q1022 q298 q1023) yk_X1_right ⟨Nat.le_of_ble_eq_true rfl, Nat.le_of_ble_eq_true rfl⟩ (Nat.le_of_ble_eq_true rfl) rfl dX1_limit_17
  have k3 := c_X1_right e2 rz0
  refine v_callS (st := []) k3 (lw_S q1021 q1022 q298 q1023) yk_X1_right ⟨Nat.le_of_ble_eq_true rfl, Nat.le_of_ble_eq_true rfl⟩ trivial ⟨kc0, trivial⟩ (Nat.le_of_ble_eq_true rfl) rfl dX1_limit_17 ?_
  exact (nx_no h).elim

theorem t_X1_limit {x1 : Int} {s : vS} {q : Nat × vS} (h : f_X1_limit x1 s = some (.inr q))  (rx1 : rg x1) : VT yX1_limit cX1_limit 3 (some .int) 7 109 [vO 0, vI x1] s (exE q.1) q.2 := by
  unfold f_X1_limit at h
  refine VT.of RX1 (by decide) rfl (Nat.le_of_ble_eq_true rfl) ?_
  show VW cX1_limit (tB (exE q.1) RX1 q.2 7 109 3) (P0 []) s 0 [(0, vO 0), (1, vI x1)] []
  refine v_iload_n dX1_limit_0 1 rfl rfl ?_
  refine v_iconst dX1_limit_1 ?_
  refine v_icmp_lt (tgt := 16) dX1_limit_2 rx1 (rgl rfl) (by decide) (fun c1 => ?_) (fun c1 => ?_)
  · rw [if_pos c1] at h
    refine v_iconst dX1_limit_16 ?_
    exact tj_X1_limit_17 h rx1 (rgl rfl)
  · rw [if_neg c1] at h
    refine v_iload_n dX1_limit_5 1 rfl rfl ?_
    refine v_sipush dX1_limit_6 rfl ?_
    refine v_icmp_gt (tgt := 16) dX1_limit_9 rx1 (rgl rfl) (by decide) (fun c2 => ?_) (fun c2 => ?_)
    · rw [if_pos c2] at h
      refine v_iconst dX1_limit_16 ?_
      exact tj_X1_limit_17 h rx1 (rgl rfl)
    · rw [if_neg c2] at h
      refine v_iconst dX1_limit_12 ?_
      refine v_goto (tgt := 17) dX1_limit_13 (by decide) ?_
      exact tj_X1_limit_17 h rx1 (rgl rfl)

def f_X12_bound (s : vS) : Option (Int × vS) :=
  if (gI s 44 14) = 0 then
    gd (okB (gR s 44 0) 1) <|
    bd (f_X2_size (gR s 44 0) s) fun r7 s4 =>
    some (r7, s4)
  else
    gd (inb (w32 ((gI s 44 14) - 1)) (gN s 53)) <|
    some (gE s 53 (w32 ((gI s 44 14) - 1)), s)
theorem yk_X12_bound : yOk yX12_bound 0 := ⟨by decide, by decide, by decide +kernel⟩
theorem c_X12_bound {s : vS} {out : Int × vS} (h : f_X12_bound s = some out)   : VC yX12_bound cX12_bound 1 (some .int) 1 20 [vO 44] s (some (vI out.1)) out.2 [] := by
  unfold f_X12_bound at h
  refine VC.of RX12 (by decide) rfl (Nat.le_of_ble_eq_true rfl) ?_
  show VW cX12_bound (RX12, (some (vI out.1)), out.2, (some .int), 1, 20, 1, []) (P0 []) s 0 [(0, vO 44)] []
  refine v_aload_n dX12_bound_0 0 rfl rfl ?_
  refine v_getI (f := 14) cf12 oc44 rfl (by decide) q723 dX12_bound_1 ?_
  refine v_if_ne (tgt := 17) dX12_bound_4 (gI_rg _ _ _) (by decide) (fun c1 => ?_) (fun c1 => ?_)
  · rw [if_neg c1] at h
    refine v_aload_n dX12_bound_17 0 rfl rfl ?_
    refine v_getS (f := 13) (t := 53) cf12 oc44 rfl rfl rfl (by decide) q722 dX12_bound_18 ?_
    refine v_aload_n dX12_bound_21 0 rfl rfl ?_
    refine v_getI (f := 14) cf12 oc44 rfl (by decide) q723 dX12_bound_22 ?_
    refine v_iconst dX12_bound_25 ?_
    refine v_isub dX12_bound_26 ?_
    obtain ⟨g2, h⟩ := gd_some h
    refine v_iald oc53 (w32_rg _) g2.1 g2.2 dX12_bound_27 ?_
    cases h
    exact v_iret (gE_rg _ _ _) dX12_bound_28
  · rw [if_pos c1] at h
    refine v_aload_n dX12_bound_7 0 rfl rfl ?_
    obtain ⟨g3, h⟩ := gd_some h
    refine v_getR (f := 0) cf12 oc44 rfl (okB_R g3 (by decide) (by decide)) (by decide) q709 dX12_bound_8 ?_
    obtain ⟨r7, s4, e5, h⟩ := bd_some h
    have k6 := c_X2_size e5 g3
    have r8 : rg r7 := k6.1.2.2
    refine v_callV (st := []) cf2 (okB_ok g3) k6 (lw_V q2087 q918 q919 q299 q920) rfl yk_X2_size ⟨Nat.le_of_ble_eq_true rfl, Nat.le_of_ble_eq_true rfl⟩ trivial ⟨kc44, trivial⟩ (Nat.le_of_ble_eq_true rfl) rfl dX12_bound_11 ?_
    refine v_goto (tgt := 28) dX12_bound_14 (by decide) ?_
    cases h
    exact v_iret r8 dX12_bound_28

def f_X12_wrong (x1 : Int) (s : vS) : Option (Int × vS) :=
  stp (sI s 44 2 x1) fun s1 =>
  some (0, s1)
theorem yk_X12_wrong : yOk yX12_wrong 1 := ⟨by decide, by decide, by decide +kernel⟩
theorem c_X12_wrong {x1 : Int} {s : vS} {out : Int × vS} (h : f_X12_wrong x1 s = some out)  (rx1 : rg x1) : VC yX12_wrong cX12_wrong 2 (some .boolean) 0 0 [vO 44, vI x1] s (some (vI out.1)) out.2 [] := by
  unfold f_X12_wrong at h
  refine VC.of RX12 (by decide) rfl (Nat.le_of_ble_eq_true rfl) ?_
  show VW cX12_wrong (RX12, (some (vI out.1)), out.2, (some .boolean), 0, 0, 2, []) (P0 []) s 0 [(0, vO 44), (1, vI x1)] []
  refine v_aload_n dX12_wrong_0 0 rfl rfl ?_
  refine v_iload_n dX12_wrong_1 1 rfl rfl ?_
  obtain ⟨s1, e2, h⟩ := stp_some h
  refine v_putI (f := 2) cf12 oc44 rfl (by decide) q711 dX12_wrong_2 rfl rfl ?_
  rw [← e2]
  refine v_iconst dX12_wrong_5 ?_
  cases h
  exact v_zret (Or.inl rfl) dX12_wrong_6

def E_X12_tagNumber_7 (rv : Option vA) (σo : vS) (q : (Int × vS) ⊕ (Int × vS)) : Prop := (∀ (x2' : Int) (s' : vS), q = .inl (x2', s') → rg x2' → VW cX12_tagNumber (RX12, rv, σo, (some .int), 1, 21, 6, []) (P0 []) s' 107 [(0, vO 44), (2, vI x2')] []) ∧ (∀ (v : Int) (s' : vS), q = .inr (v, s') → rv = some (vI v) ∧ σo = s')
def j_X12_tagNumber_63 (rec : Int → Int → Int → Int → vS → Option ((Int × vS) ⊕ (Int × vS))) (x1 : Int) (x2 : Int) (x4 : Int) (x5 : Int) (s : vS) : Option ((Int × vS) ⊕ (Int × vS)) :=
  if x2 ≤ 2097151 then
    vl (or32 (shl32 x2 7) (and32 x5 127)) fun y2 =>
    if x5 ≤ 127 then
      vl (w32 (x4 + 1)) fun y6 =>
      rec x1 y2 0 y6 s
    else
      vl (w32 (x4 + 1)) fun y9 =>
      rec x1 y2 1 y9 s
  else
    bd (f_X12_wrong 2 s) fun r15 s12 =>
    some (.inr ((-1), s12))
theorem wj_X12_tagNumber_63 {x1 : Int} {x2 : Int} {x4 : Int} {x5 : Int} {s : vS} {rv : Option vA} {σo : vS} {rec : Int → Int → Int → Int → vS → Option ((Int × vS) ⊕ (Int × vS))} {q : (Int × vS) ⊕ (Int × vS)} (h : j_X12_tagNumber_63 rec x1 x2 x4 x5 s = some q)  (rx1 : rg x1) (rx2 : rg x2) (rx4 : rg x4) (rx5 : rg x5) (hrec : ∀ (y2 : Int) (y3 : Int) (y4 : Int) (s : vS) (q : (Int × vS) ⊕ (Int × vS)), rec x1 y2 y3 y4 s = some q → rg y2 → rg y3 → rg y4 → E_X12_tagNumber_7 rv σo q → VW cX12_tagNumber (RX12, rv, σo, (some .int), 1, 21, 6, []) (P0 []) s 7 [(0, vO 44), (1, vI x1), (2, vI y2), (3, vI y3), (4, vI y4)] []) (hE : E_X12_tagNumber_7 rv σo q) : VW cX12_tagNumber (RX12, rv, σo, (some .int), 1, 21, 6, []) (P0 []) s 63 [(0, vO 44), (1, vI x1), (2, vI x2), (4, vI x4), (5, vI x5)] [] := by
  unfold j_X12_tagNumber_63 at h
  refine v_iload_n dX12_tagNumber_63 2 rfl rfl ?_
  refine v_ldc (n := 2097151) dX12_tagNumber_64 q2097 rfl ?_
  refine v_icmp_le (tgt := 77) dX12_tagNumber_66 rx2 (rgl rfl) (by decide) (fun c1 => ?_) (fun c1 => ?_)
  · rw [if_pos c1] at h
    refine v_iload_n dX12_tagNumber_77 2 rfl rfl ?_
    refine v_bipush dX12_tagNumber_78 rfl ?_
    refine v_ishl dX12_tagNumber_80 ?_
    refine v_iload dX12_tagNumber_81 4 rfl ?_
    refine v_bipush dX12_tagNumber_83 rfl ?_
    refine v_iand dX12_tagNumber_85 ?_
    refine v_ior dX12_tagNumber_86 ?_
    obtain ⟨y2, e3, h⟩ := vl_some h
    rw [← e3]
    have r4 : rg y2 := by rw [e3]; exact or32_rg _ _
    refine v_istore_n (L1 := [(2, vI y2), (0, vO 44), (1, vI x1), (4, vI x4), (5, vI x5)]) dX12_tagNumber_87 rfl (by decide) rfl ?_
    refine v_iload dX12_tagNumber_88 4 rfl ?_
    refine v_bipush dX12_tagNumber_90 rfl ?_
    refine v_icmp_le (tgt := 99) dX12_tagNumber_92 rx5 (rgl rfl) (by decide) (fun c5 => ?_) (fun c5 => ?_)
    · rw [if_pos c5] at h
      refine v_iconst dX12_tagNumber_99 ?_
      refine v_istore_n (L1 := [(3, vI 0), (2, vI y2), (0, vO 44), (1, vI x1), (4, vI x4), (5, vI x5)]) dX12_tagNumber_100 rfl (by decide) rfl ?_
      obtain ⟨y6, e7, h⟩ := vl_some h
      refine v_iinc (L1 := [(4, vI (w32 (x4 + 1))), (3, vI 0), (2, vI y2), (0, vO 44), (1, vI x1), (5, vI x5)]) dX12_tagNumber_101 4 rfl (by decide) rfl ?_
      rw [← e7]
      have r8 : rg y6 := by rw [e7]; exact w32_rg _
      refine v_goto (tgt := 7) dX12_tagNumber_104 (by decide) ?_
      refine v_sub [3, 4, 2, 1, 0] (L1 := [(0, vO 44), (1, vI x1), (2, vI y2), (3, vI 0), (4, vI y6)]) rfl ?_
      exact hrec y2 0 y6 s _ h r4 (rgl rfl) r8 hE
    · rw [if_neg c5] at h
      refine v_iconst dX12_tagNumber_95 ?_
      refine v_goto (tgt := 100) dX12_tagNumber_96 (by decide) ?_
      refine v_istore_n (L1 := [(3, vI 1), (2, vI y2), (0, vO 44), (1, vI x1), (4, vI x4), (5, vI x5)]) dX12_tagNumber_100 rfl (by decide) rfl ?_
      obtain ⟨y9, e10, h⟩ := vl_some h
      refine v_iinc (L1 := [(4, vI (w32 (x4 + 1))), (3, vI 1), (2, vI y2), (0, vO 44), (1, vI x1), (5, vI x5)]) dX12_tagNumber_101 4 rfl (by decide) rfl ?_
      rw [← e10]
      have r11 : rg y9 := by rw [e10]; exact w32_rg _
      refine v_goto (tgt := 7) dX12_tagNumber_104 (by decide) ?_
      refine v_sub [3, 4, 2, 1, 0] (L1 := [(0, vO 44), (1, vI x1), (2, vI y2), (3, vI 1), (4, vI y9)]) rfl ?_
      exact hrec y2 1 y9 s _ h r4 (rgl rfl) r11 hE
  · rw [if_neg c1] at h
    refine v_aload_n dX12_tagNumber_69 0 rfl rfl ?_
    refine v_iconst dX12_tagNumber_70 ?_
    obtain ⟨r15, s12, e13, h⟩ := bd_some h
    have k14 := c_X12_wrong e13 (rgl rfl)
    have r16 : rg r15 := k14.1.2.2
    refine v_callV (st := []) cf12 oc44 k14 (lw_V q2088 q2090 qs120 q309 q2091) rfl yk_X12_wrong ⟨Nat.le_of_ble_eq_true rfl, Nat.le_of_ble_eq_true rfl⟩ trivial ⟨kc44, trivial⟩ (Nat.le_of_ble_eq_true rfl) rfl dX12_tagNumber_71 ?_
    refine v_popI dX12_tagNumber_74 ?_
    refine v_iconst dX12_tagNumber_75 ?_
    cases h
    obtain ⟨z1, z2⟩ := hE.2 _ _ rfl
    subst z1
    subst z2
    exact v_iret (rgl rfl) dX12_tagNumber_76

def l_X12_tagNumber_7 : Nat → Int → Int → Int → Int → vS → Option ((Int × vS) ⊕ (Int × vS))
  | 0, _, _, _, _, _ => none
  | n + 1, x1, x2, x3, x4, s =>
    if x3 = 0 then
      some (.inl (x2, s))
    else
      if (gI s 44 1) < x1 then
        gd (okB (gR s 44 0) 1) <|
        bd (f_X2_at (gR s 44 0) (gI s 44 1) s) fun r7 s4 =>
        stp (sI s4 44 1 (w32 ((gI s4 44 1) + 1))) fun s9 =>
        if x4 = 0 then
          if r7 = 128 then
            bd (f_X12_wrong 2 s9) fun r16 s13 =>
            some (.inr ((-1), s13))
          else
            j_X12_tagNumber_63 (l_X12_tagNumber_7 n) x1 x2 x4 r7 s9
        else
          j_X12_tagNumber_63 (l_X12_tagNumber_7 n) x1 x2 x4 r7 s9
      else
        bd (f_X12_wrong 1 s) fun r21 s18 =>
        some (.inr ((-1), s18))
theorem wl_X12_tagNumber_7 {x1 : Int} {rv : Option vA} {σo : vS}  (rx1 : rg x1) : ∀ (n : Nat) (x2 : Int) (x3 : Int) (x4 : Int) (s : vS) (q : (Int × vS) ⊕ (Int × vS)), l_X12_tagNumber_7 n x1 x2 x3 x4 s = some q → rg x2 → rg x3 → rg x4 → E_X12_tagNumber_7 rv σo q → VW cX12_tagNumber (RX12, rv, σo, (some .int), 1, 21, 6, []) (P0 []) s 7 [(0, vO 44), (1, vI x1), (2, vI x2), (3, vI x3), (4, vI x4)] [] := by
  intro n
  induction n with
  | zero => intro x2 x3 x4 s q h; cases h
  | succ n ih =>
    intro x2 x3 x4 s q h rx2 rx3 rx4 hE
    unfold l_X12_tagNumber_7 at h
    refine v_iload_n dX12_tagNumber_7 3 rfl rfl ?_
    refine v_if_eq (tgt := 107) dX12_tagNumber_8 rx3 (by decide) (fun c1 => ?_) (fun c1 => ?_)
    · rw [if_pos c1] at h
      cases h
      refine v_sub [0, 2] (L1 := [(0, vO 44), (2, vI x2)]) rfl ?_
      exact hE.1 _ _ rfl rx2
    · rw [if_neg c1] at h
      refine v_aload_n dX12_tagNumber_11 0 rfl rfl ?_
      refine v_getI (f := 1) cf12 oc44 rfl (by decide) q710 dX12_tagNumber_12 ?_
      refine v_iload_n dX12_tagNumber_15 1 rfl rfl ?_
      refine v_icmp_lt (tgt := 27) dX12_tagNumber_16 (gI_rg _ _ _) rx1 (by decide) (fun c2 => ?_) (fun c2 => ?_)
      · rw [if_pos c2] at h
        refine v_aload_n dX12_tagNumber_27 0 rfl rfl ?_
        obtain ⟨g3, h⟩ := gd_some h
        refine v_getR (f := 0) cf12 oc44 rfl (okB_R g3 (by decide) (by decide)) (by decide) q709 dX12_tagNumber_28 ?_
        refine v_aload_n dX12_tagNumber_31 0 rfl rfl ?_
        refine v_getI (f := 1) cf12 oc44 rfl (by decide) q710 dX12_tagNumber_32 ?_
        obtain ⟨r7, s4, e5, h⟩ := bd_some h
        have k6 := c_X2_at e5 g3 (gI_rg _ _ _)
        have r8 : rg r7 := k6.1.2.2
        refine v_callV (st := []) cf2 (okB_ok g3) k6 (lw_V q2092 q1072 q1073 q299 q1074) rfl yk_X2_at ⟨Nat.le_of_ble_eq_true rfl, Nat.le_of_ble_eq_true rfl⟩ trivial ⟨kc44, trivial⟩ (Nat.le_of_ble_eq_true rfl) rfl dX12_tagNumber_35 ?_
        refine v_istore (L1 := [(5, vI r7), (0, vO 44), (1, vI x1), (2, vI x2), (3, vI x3), (4, vI x4)]) dX12_tagNumber_38 (by decide) rfl ?_
        refine v_aload_n dX12_tagNumber_40 1 rfl rfl ?_
        refine v_dupO dX12_tagNumber_41 ?_
        refine v_getI (f := 1) cf12 oc44 rfl (by decide) q710 dX12_tagNumber_42 ?_
        refine v_iconst dX12_tagNumber_45 ?_
        refine v_iadd dX12_tagNumber_46 ?_
        obtain ⟨s9, e10, h⟩ := stp_some h
        refine v_putI (f := 1) cf12 oc44 rfl (by decide) q710 dX12_tagNumber_47 rfl rfl ?_
        rw [← e10]
        refine v_iload dX12_tagNumber_50 5 rfl ?_
        refine v_if_ne (tgt := 63) dX12_tagNumber_52 rx4 (by decide) (fun c11 => ?_) (fun c11 => ?_)
        · rw [if_neg c11] at h
          refine v_sub [1, 2, 3, 5, 0] (L1 := [(0, vO 44), (1, vI x1), (2, vI x2), (4, vI x4), (5, vI r7)]) rfl ?_
          exact wj_X12_tagNumber_63 h rx1 rx2 rx4 r8 ih hE
        · rw [if_pos c11] at h
          refine v_iload dX12_tagNumber_55 0 rfl ?_
          refine v_sipush dX12_tagNumber_57 rfl ?_
          refine v_icmp_eq (tgt := 69) dX12_tagNumber_60 r8 (rgl rfl) (by decide) (fun c12 => ?_) (fun c12 => ?_)
          · rw [if_pos c12] at h
            refine v_aload_n dX12_tagNumber_69 1 rfl rfl ?_
            refine v_iconst dX12_tagNumber_70 ?_
            obtain ⟨r16, s13, e14, h⟩ := bd_some h
            have k15 := c_X12_wrong e14 (rgl rfl)
            have r17 : rg r16 := k15.1.2.2
            refine v_callV (st := []) cf12 oc44 k15 (lw_V q2088 q2090 qs120 q309 q2091) rfl yk_X12_wrong ⟨Nat.le_of_ble_eq_true rfl, Nat.le_of_ble_eq_true rfl⟩ trivial ⟨kc44, trivial⟩ (Nat.le_of_ble_eq_true rfl) rfl dX12_tagNumber_71 ?_
            refine v_popI dX12_tagNumber_74 ?_
            refine v_iconst dX12_tagNumber_75 ?_
            cases h
            obtain ⟨z1, z2⟩ := hE.2 _ _ rfl
            subst z1
            subst z2
            exact v_iret (rgl rfl) dX12_tagNumber_76
          · rw [if_neg c12] at h
            refine v_sub [1, 2, 3, 5, 0] (L1 := [(0, vO 44), (1, vI x1), (2, vI x2), (4, vI x4), (5, vI r7)]) rfl ?_
            exact wj_X12_tagNumber_63 h rx1 rx2 rx4 r8 ih hE
      · rw [if_neg c2] at h
        refine v_aload_n dX12_tagNumber_19 0 rfl rfl ?_
        refine v_iconst dX12_tagNumber_20 ?_
        obtain ⟨r21, s18, e19, h⟩ := bd_some h
        have k20 := c_X12_wrong e19 (rgl rfl)
        have r22 : rg r21 := k20.1.2.2
        refine v_callV (st := []) cf12 oc44 k20 (lw_V q2088 q2090 qs120 q309 q2091) rfl yk_X12_wrong ⟨Nat.le_of_ble_eq_true rfl, Nat.le_of_ble_eq_true rfl⟩ trivial ⟨kc44, trivial⟩ (Nat.le_of_ble_eq_true rfl) rfl dX12_tagNumber_21 ?_
        refine v_popI dX12_tagNumber_24 ?_
        refine v_iconst dX12_tagNumber_25 ?_
        cases h
        obtain ⟨z1, z2⟩ := hE.2 _ _ rfl
        subst z1
        subst z2
        exact v_iret (rgl rfl) dX12_tagNumber_26

def f_X12_tagNumber (x1 : Int) (s : vS) : Option (Int × vS) :=
  lqs_1 (l_X12_tagNumber_7 FU x1 0 1 0 s) (fun y1 s2 =>
    if 31 ≤ y1 then
      some (y1, s2)
    else
      bd (f_X12_wrong 2 s2) fun r9 s6 =>
      some ((-1), s6))
    (fun q => some q)
theorem yk_X12_tagNumber : yOk yX12_tagNumber 1 := ⟨by decide, by decide, by decide +kernel⟩
theorem c_X12_tagNumber {x1 : Int} {s : vS} {out : Int × vS} (h : f_X12_tagNumber x1 s = some out)  (rx1 : rg x1) : VC yX12_tagNumber cX12_tagNumber 6 (some .int) 1 21 [vO 44, vI x1] s (some (vI out.1)) out.2 [] := by
  unfold f_X12_tagNumber at h
  refine VC.of RX12 (by decide) rfl (Nat.le_of_ble_eq_true rfl) ?_
  show VW cX12_tagNumber (RX12, (some (vI out.1)), out.2, (some .int), 1, 21, 6, []) (P0 []) s 0 [(0, vO 44), (1, vI x1)] []
  refine v_iconst dX12_tagNumber_0 ?_
  refine v_istore_n (L1 := [(2, vI 0), (0, vO 44), (1, vI x1)]) dX12_tagNumber_1 rfl (by decide) rfl ?_
  refine v_iconst dX12_tagNumber_2 ?_
  refine v_istore_n (L1 := [(3, vI 1), (2, vI 0), (0, vO 44), (1, vI x1)]) dX12_tagNumber_3 rfl (by decide) rfl ?_
  refine v_iconst dX12_tagNumber_4 ?_
  refine v_istore (L1 := [(4, vI 0), (3, vI 1), (2, vI 0), (0, vO 44), (1, vI x1)]) dX12_tagNumber_5 (by decide) rfl ?_
  refine v_sub [3, 4, 2, 1, 0] (L1 := [(0, vO 44), (1, vI x1), (2, vI 0), (3, vI 1), (4, vI 0)]) rfl ?_
  rcases lqs_1_some h with ⟨y1, s2, e3, h⟩ | ⟨q9, e3, h⟩
  · refine wl_X12_tagNumber_7 rx1 FU 0 1 0 s _ e3 (rgl rfl) (rgl rfl) (rgl rfl) ?_
    unfold E_X12_tagNumber_7
    refine ⟨?_, fun v9 s9 z_ => (by cases z_)⟩
    intro y1' s2' z_ r4
    cases z_
    refine v_iload_n dX12_tagNumber_107 1 rfl rfl ?_
    refine v_bipush dX12_tagNumber_108 rfl ?_
    refine v_icmp_ge (tgt := 121) dX12_tagNumber_110 r4 (rgl rfl) (by decide) (fun c5 => ?_) (fun c5 => ?_)
    · rw [if_pos c5] at h
      refine v_iload_n dX12_tagNumber_121 1 rfl rfl ?_
      cases h
      exact v_iret r4 dX12_tagNumber_122
    · rw [if_neg c5] at h
      refine v_aload_n dX12_tagNumber_113 0 rfl rfl ?_
      refine v_iconst dX12_tagNumber_114 ?_
      obtain ⟨r9, s6, e7, h⟩ := bd_some h
      have k8 := c_X12_wrong e7 (rgl rfl)
      have r10 : rg r9 := k8.1.2.2
      refine v_callV (st := []) cf12 oc44 k8 (lw_V q2088 q2090 qs120 q309 q2091) rfl yk_X12_wrong ⟨Nat.le_of_ble_eq_true rfl, Nat.le_of_ble_eq_true rfl⟩ trivial ⟨kc44, trivial⟩ (Nat.le_of_ble_eq_true rfl) rfl dX12_tagNumber_115 ?_
      refine v_popI dX12_tagNumber_118 ?_
      refine v_iconst dX12_tagNumber_119 ?_
      cases h
      exact v_iret (rgl rfl) dX12_tagNumber_120
  · cases h
    refine wl_X12_tagNumber_7 rx1 FU 0 1 0 s _ e3 (rgl rfl) (rgl rfl) (rgl rfl) ?_
    unfold E_X12_tagNumber_7
    refine ⟨fun _ _ z_ => (by cases z_), ?_⟩
    intro v9 s9 z_
    cases z_
    exact ⟨rfl, rfl⟩

def j_X12_length_65 (s : vS) : Option (Int × vS) :=
  bd (f_X12_wrong 3 s) fun r4 s1 =>
  some ((-1), s1)
theorem wj_X12_length_65 {s : vS} {out : Int × vS} (h : j_X12_length_65 s = some out)  : VW cX12_length (RX12, (some (vI out.1)), out.2, (some .int), 1, 21, 7, []) (P0 []) s 65 [(0, vO 44)] [] := by
  unfold j_X12_length_65 at h
  refine v_aload_n dX12_length_65 0 rfl rfl ?_
  refine v_iconst dX12_length_66 ?_
  obtain ⟨r4, s1, e2, h⟩ := bd_some h
  have k3 := c_X12_wrong e2 (rgl rfl)
  have r5 : rg r4 := k3.1.2.2
  refine v_callV (st := []) cf12 oc44 k3 (lw_V q2088 q2090 qs120 q309 q2091) rfl yk_X12_wrong ⟨Nat.le_of_ble_eq_true rfl, Nat.le_of_ble_eq_true rfl⟩ trivial ⟨kc44, trivial⟩ (Nat.le_of_ble_eq_true rfl) rfl dX12_length_67 ?_
  refine v_popI dX12_length_70 ?_
  refine v_iconst dX12_length_71 ?_
  cases h
  exact v_iret (rgl rfl) dX12_length_72

def E_X12_length_88 (rv : Option vA) (σo : vS) (q : (Int × vS) ⊕ (Int × vS)) : Prop := (∀ (x4' : Int) (s' : vS), q = .inl (x4', s') → rgL x4' → VW cX12_length (RX12, rv, σo, (some .int), 1, 21, 7, []) (P0 []) s' 167 [(4, vL x4')] []) ∧ (∀ (v : Int) (s' : vS), q = .inr (v, s') → rv = some (vI v) ∧ σo = s')
def l_X12_length_88 : Nat → Int → Int → Int → Int → vS → Option ((Int × vS) ⊕ (Int × vS))
  | 0, _, _, _, _, _ => none
  | n + 1, x1, x3, x4, x6, s =>
    if (w32 (x3 - 128)) ≤ x6 then
      some (.inl (x4, s))
    else
      if (gI s 44 1) < x1 then
        gd (okB (gR s 44 0) 1) <|
        bd (f_X2_at (gR s 44 0) (gI s 44 1) s) fun r7 s4 =>
        vl (or64 (shl64 x4 8) r7) fun y9 =>
        stp (sI s4 44 1 (w32 ((gI s4 44 1) + 1))) fun s12 =>
        if (cmp64 y9 2147483647) ≤ 0 then
          vl (w32 (x6 + 1)) fun y15 =>
          l_X12_length_88 n x1 x3 y9 y15 s12
        else
          bd (f_X12_wrong 3 s12) fun r21 s18 =>
          some (.inr ((-1), s18))
      else
        bd (f_X12_wrong 1 s) fun r26 s23 =>
        some (.inr ((-1), s23))
theorem wl_X12_length_88 {x1 : Int} {x3 : Int} {rv : Option vA} {σo : vS}  (rx1 : rg x1) (rx3 : rg x3) : ∀ (n : Nat) (x4 : Int) (x6 : Int) (s : vS) (q : (Int × vS) ⊕ (Int × vS)), l_X12_length_88 n x1 x3 x4 x6 s = some q → rgL x4 → rg x6 → E_X12_length_88 rv σo q → VW cX12_length (RX12, rv, σo, (some .int), 1, 21, 7, []) (P0 []) s 88 [(0, vO 44), (1, vI x1), (3, vI x3), (4, vL x4), (6, vI x6)] [] := by
  intro n
  induction n with
  | zero => intro x4 x6 s q h; cases h
  | succ n ih =>
    intro x4 x6 s q h rx4 rx6 hE
    unfold l_X12_length_88 at h
    refine v_iload dX12_length_88 4 rfl ?_
    refine v_iload_n dX12_length_90 2 rfl rfl ?_
    refine v_sipush dX12_length_91 rfl ?_
    refine v_isub dX12_length_94 ?_
    refine v_icmp_ge (tgt := 167) dX12_length_95 rx6 (w32_rg _) (by decide) (fun c1 => ?_) (fun c1 => ?_)
    · rw [if_pos c1] at h
      cases h
      refine v_sub [3] (L1 := [(4, vL x4)]) rfl ?_
      exact hE.1 _ _ rfl rx4
    · rw [if_neg c1] at h
      refine v_aload_n dX12_length_98 0 rfl rfl ?_
      refine v_getI (f := 1) cf12 oc44 rfl (by decide) q710 dX12_length_99 ?_
      refine v_iload_n dX12_length_102 1 rfl rfl ?_
      refine v_icmp_lt (tgt := 114) dX12_length_103 (gI_rg _ _ _) rx1 (by decide) (fun c2 => ?_) (fun c2 => ?_)
      · rw [if_pos c2] at h
        refine v_lload dX12_length_114 3 rfl ?_
        refine v_bipush dX12_length_116 rfl ?_
        refine v_lshl dX12_length_118 ?_
        refine v_aload_n dX12_length_119 0 rfl rfl ?_
        obtain ⟨g3, h⟩ := gd_some h
        refine v_getR (f := 0) cf12 oc44 rfl (okB_R g3 (by decide) (by decide)) (by decide) q709 dX12_length_120 ?_
        refine v_aload_n dX12_length_123 0 rfl rfl ?_
        refine v_getI (f := 1) cf12 oc44 rfl (by decide) q710 dX12_length_124 ?_
        obtain ⟨r7, s4, e5, h⟩ := bd_some h
        have k6 := c_X2_at e5 g3 (gI_rg _ _ _)
        have r8 : rg r7 := k6.1.2.2
        refine v_callV (st := [vL (shl64 x4 8)]) cf2 (okB_ok g3) k6 (lw_V q2092 q1072 q1073 q299 q1074) rfl yk_X2_at ⟨Nat.le_of_ble_eq_true rfl, Nat.le_of_ble_eq_true rfl⟩ trivial ⟨kc44, trivial⟩ (Nat.le_of_ble_eq_true rfl) rfl dX12_length_127 ?_
        refine v_i2l dX12_length_130 r8 ?_
        refine v_lor dX12_length_131 ?_
        obtain ⟨y9, e10, h⟩ := vl_some h
        rw [← e10]
        have r11 : rgL y9 := by rw [e10]; exact or64_rg _ _
        refine v_lstore (L1 := [(4, vL y9), (0, vO 44), (1, vI x1), (3, vI x3), (6, vI x6)]) dX12_length_132 (by decide) rfl ?_
        refine v_aload_n dX12_length_134 1 rfl rfl ?_
        refine v_dupO dX12_length_135 ?_
        refine v_getI (f := 1) cf12 oc44 rfl (by decide) q710 dX12_length_136 ?_
        refine v_iconst dX12_length_139 ?_
        refine v_iadd dX12_length_140 ?_
        obtain ⟨s12, e13, h⟩ := stp_some h
        refine v_putI (f := 1) cf12 oc44 rfl (by decide) q710 dX12_length_141 rfl rfl ?_
        rw [← e13]
        refine v_lload dX12_length_144 0 rfl ?_
        refine v_ldc2 (n := 2147483647) dX12_length_146 q2102 rfl ?_
        refine v_lcmp dX12_length_149 r11 (rglL rfl) ?_
        refine v_if_le (tgt := 161) dX12_length_150 (cmp64_rg _ _) (by decide) (fun c14 => ?_) (fun c14 => ?_)
        · rw [if_pos c14] at h
          obtain ⟨y15, e16, h⟩ := vl_some h
          refine v_iinc (L1 := [(6, vI (w32 (x6 + 1))), (4, vL y9), (0, vO 44), (1, vI x1), (3, vI x3)]) dX12_length_161 4 rfl (by decide) rfl ?_
          rw [← e16]
          have r17 : rg y15 := by rw [e16]; exact w32_rg _
          refine v_goto (tgt := 88) dX12_length_164 (by decide) ?_
          refine v_sub [2, 3, 4, 1, 0] (L1 := [(0, vO 44), (1, vI x1), (3, vI x3), (4, vL y9), (6, vI y15)]) rfl ?_
          exact ih y9 y15 s12 _ h r11 r17 hE
        · rw [if_neg c14] at h
          refine v_aload_n dX12_length_153 1 rfl rfl ?_
          refine v_iconst dX12_length_154 ?_
          obtain ⟨r21, s18, e19, h⟩ := bd_some h
          have k20 := c_X12_wrong e19 (rgl rfl)
          have r22 : rg r21 := k20.1.2.2
          refine v_callV (st := []) cf12 oc44 k20 (lw_V q2088 q2090 qs120 q309 q2091) rfl yk_X12_wrong ⟨Nat.le_of_ble_eq_true rfl, Nat.le_of_ble_eq_true rfl⟩ trivial ⟨kc44, trivial⟩ (Nat.le_of_ble_eq_true rfl) rfl dX12_length_155 ?_
          refine v_popI dX12_length_158 ?_
          refine v_iconst dX12_length_159 ?_
          cases h
          obtain ⟨z1, z2⟩ := hE.2 _ _ rfl
          subst z1
          subst z2
          exact v_iret (rgl rfl) dX12_length_160
      · rw [if_neg c2] at h
        refine v_aload_n dX12_length_106 0 rfl rfl ?_
        refine v_iconst dX12_length_107 ?_
        obtain ⟨r26, s23, e24, h⟩ := bd_some h
        have k25 := c_X12_wrong e24 (rgl rfl)
        have r27 : rg r26 := k25.1.2.2
        refine v_callV (st := []) cf12 oc44 k25 (lw_V q2088 q2090 qs120 q309 q2091) rfl yk_X12_wrong ⟨Nat.le_of_ble_eq_true rfl, Nat.le_of_ble_eq_true rfl⟩ trivial ⟨kc44, trivial⟩ (Nat.le_of_ble_eq_true rfl) rfl dX12_length_108 ?_
        refine v_popI dX12_length_111 ?_
        refine v_iconst dX12_length_112 ?_
        cases h
        obtain ⟨z1, z2⟩ := hE.2 _ _ rfl
        subst z1
        subst z2
        exact v_iret (rgl rfl) dX12_length_113

def j_X12_length_73 (x1 : Int) (x3 : Int) (s : vS) : Option (Int × vS) :=
  if x3 = 128 then
    some ((-1), s)
  else
    lqs_1 (l_X12_length_88 FU x1 x3 0 0 s) (fun y2 s3 =>
      some (w32 y2, s3))
      (fun q => some q)
theorem wj_X12_length_73 {x1 : Int} {x3 : Int} {s : vS} {out : Int × vS} (h : j_X12_length_73 x1 x3 s = some out)  (rx1 : rg x1) (rx3 : rg x3) : VW cX12_length (RX12, (some (vI out.1)), out.2, (some .int), 1, 21, 7, []) (P0 []) s 73 [(0, vO 44), (1, vI x1), (3, vI x3)] [] := by
  unfold j_X12_length_73 at h
  refine v_iload_n dX12_length_73 2 rfl rfl ?_
  refine v_sipush dX12_length_74 rfl ?_
  refine v_icmp_ne (tgt := 82) dX12_length_77 rx3 (rgl rfl) (by decide) (fun c1 => ?_) (fun c1 => ?_)
  · rw [if_neg c1] at h
    refine v_lconst (n := 0) dX12_length_82 rfl ?_
    refine v_lstore (L1 := [(4, vL 0), (0, vO 44), (1, vI x1), (3, vI x3)]) dX12_length_83 (by decide) rfl ?_
    refine v_iconst dX12_length_85 ?_
    refine v_istore (L1 := [(6, vI 0), (4, vL 0), (0, vO 44), (1, vI x1), (3, vI x3)]) dX12_length_86 (by decide) rfl ?_
    refine v_sub [2, 3, 4, 1, 0] (L1 := [(0, vO 44), (1, vI x1), (3, vI x3), (4, vL 0), (6, vI 0)]) rfl ?_
    rcases lqs_1_some h with ⟨y2, s3, e4, h⟩ | ⟨q9, e4, h⟩
    · refine wl_X12_length_88 rx1 rx3 FU 0 0 s _ e4 (rglL rfl) (rgl rfl) ?_
      unfold E_X12_length_88
      refine ⟨?_, fun v9 s9 z_ => (by cases z_)⟩
      intro y2' s3' z_ r5
      cases z_
      refine v_lload dX12_length_167 0 rfl ?_
      refine v_l2i dX12_length_169 ?_
      cases h
      exact v_iret (w32_rg _) dX12_length_170
    · cases h
      refine wl_X12_length_88 rx1 rx3 FU 0 0 s _ e4 (rglL rfl) (rgl rfl) ?_
      unfold E_X12_length_88
      refine ⟨fun _ _ z_ => (by cases z_), ?_⟩
      intro v9 s9 z_
      cases z_
      exact ⟨rfl, rfl⟩
  · rw [if_pos c1] at h
    refine v_iconst dX12_length_80 ?_
    cases h
    exact v_iret (rgl rfl) dX12_length_81

def f_X12_length (x1 : Int) (x2 : Int) (s : vS) : Option (Int × vS) :=
  if (gI s 44 1) < x1 then
    gd (okB (gR s 44 0) 1) <|
    bd (f_X2_at (gR s 44 0) (gI s 44 1) s) fun r6 s3 =>
    stp (sI s3 44 1 (w32 ((gI s3 44 1) + 1))) fun s8 =>
    if 128 ≤ r6 then
      if r6 = 255 then
        j_X12_length_65 s8
      else
        if r6 = 128 then
          if x2 = 0 then
            j_X12_length_65 s8
          else
            j_X12_length_73 x1 r6 s8
        else
          j_X12_length_73 x1 r6 s8
    else
      some (r6, s8)
  else
    bd (f_X12_wrong 1 s) fun r17 s14 =>
    some ((-1), s14)
theorem yk_X12_length : yOk yX12_length 2 := ⟨by decide, by decide, by decide +kernel⟩
theorem c_X12_length {x1 : Int} {x2 : Int} {s : vS} {out : Int × vS} (h : f_X12_length x1 x2 s = some out)  (rx1 : rg x1) (rx2 : rg x2) : VC yX12_length cX12_length 7 (some .int) 1 21 [vO 44, vI x1, vI x2] s (some (vI out.1)) out.2 [] := by
  unfold f_X12_length at h
  refine VC.of RX12 (by decide) rfl (Nat.le_of_ble_eq_true rfl) ?_
  show VW cX12_length (RX12, (some (vI out.1)), out.2, (some .int), 1, 21, 7, []) (P0 []) s 0 [(0, vO 44), (1, vI x1), (2, vI x2)] []
  refine v_aload_n dX12_length_0 0 rfl rfl ?_
  refine v_getI (f := 1) cf12 oc44 rfl (by decide) q710 dX12_length_1 ?_
  refine v_iload_n dX12_length_4 1 rfl rfl ?_
  refine v_icmp_lt (tgt := 16) dX12_length_5 (gI_rg _ _ _) rx1 (by decide) (fun c1 => ?_) (fun c1 => ?_)
  · rw [if_pos c1] at h
    refine v_aload_n dX12_length_16 0 rfl rfl ?_
    obtain ⟨g2, h⟩ := gd_some h
    refine v_getR (f := 0) cf12 oc44 rfl (okB_R g2 (by decide) (by decide)) (by decide) q709 dX12_length_17 ?_
    refine v_aload_n dX12_length_20 0 rfl rfl ?_
    refine v_getI (f := 1) cf12 oc44 rfl (by decide) q710 dX12_length_21 ?_
    obtain ⟨r6, s3, e4, h⟩ := bd_some h
    have k5 := c_X2_at e4 g2 (gI_rg _ _ _)
    have r7 : rg r6 := k5.1.2.2
    refine v_callV (st := []) cf2 (okB_ok g2) k5 (lw_V q2092 q1072 q1073 q299 q1074) rfl yk_X2_at ⟨Nat.le_of_ble_eq_true rfl, Nat.le_of_ble_eq_true rfl⟩ trivial ⟨kc44, trivial⟩ (Nat.le_of_ble_eq_true rfl) rfl dX12_length_24 ?_
    refine v_istore_n (L1 := [(3, vI r6), (0, vO 44), (1, vI x1), (2, vI x2)]) dX12_length_27 rfl (by decide) rfl ?_
    refine v_aload_n dX12_length_28 1 rfl rfl ?_
    refine v_dupO dX12_length_29 ?_
    refine v_getI (f := 1) cf12 oc44 rfl (by decide) q710 dX12_length_30 ?_
    refine v_iconst dX12_length_33 ?_
    refine v_iadd dX12_length_34 ?_
    obtain ⟨s8, e9, h⟩ := stp_some h
    refine v_putI (f := 1) cf12 oc44 rfl (by decide) q710 dX12_length_35 rfl rfl ?_
    rw [← e9]
    refine v_iload_n dX12_length_38 0 rfl rfl ?_
    refine v_sipush dX12_length_39 rfl ?_
    refine v_icmp_ge (tgt := 47) dX12_length_42 r7 (rgl rfl) (by decide) (fun c10 => ?_) (fun c10 => ?_)
    · rw [if_pos c10] at h
      refine v_iload_n dX12_length_47 0 rfl rfl ?_
      refine v_sipush dX12_length_48 rfl ?_
      refine v_icmp_eq (tgt := 65) dX12_length_51 r7 (rgl rfl) (by decide) (fun c11 => ?_) (fun c11 => ?_)
      · rw [if_pos c11] at h
        refine v_sub [1] (L1 := [(0, vO 44)]) rfl ?_
        exact wj_X12_length_65 h 
      · rw [if_neg c11] at h
        refine v_iload_n dX12_length_54 0 rfl rfl ?_
        refine v_sipush dX12_length_55 rfl ?_
        refine v_icmp_ne (tgt := 73) dX12_length_58 r7 (rgl rfl) (by decide) (fun c12 => ?_) (fun c12 => ?_)
        · rw [if_neg c12] at h
          refine v_sub [1, 2, 0] (L1 := [(0, vO 44), (1, vI x1), (3, vI r6)]) rfl ?_
          exact wj_X12_length_73 h rx1 r7
        · rw [if_pos c12] at h
          refine v_iload_n dX12_length_61 3 rfl rfl ?_
          refine v_if_ne (tgt := 73) dX12_length_62 rx2 (by decide) (fun c13 => ?_) (fun c13 => ?_)
          · rw [if_neg c13] at h
            refine v_sub [1, 2, 0] (L1 := [(0, vO 44), (1, vI x1), (3, vI r6)]) rfl ?_
            exact wj_X12_length_73 h rx1 r7
          · rw [if_pos c13] at h
            refine v_sub [1] (L1 := [(0, vO 44)]) rfl ?_
            exact wj_X12_length_65 h 
    · rw [if_neg c10] at h
      refine v_iload_n dX12_length_45 0 rfl rfl ?_
      cases h
      exact v_iret r7 dX12_length_46
  · rw [if_neg c1] at h
    refine v_aload_n dX12_length_8 0 rfl rfl ?_
    refine v_iconst dX12_length_9 ?_
    obtain ⟨r17, s14, e15, h⟩ := bd_some h
    have k16 := c_X12_wrong e15 (rgl rfl)
    have r18 : rg r17 := k16.1.2.2
    refine v_callV (st := []) cf12 oc44 k16 (lw_V q2088 q2090 qs120 q309 q2091) rfl yk_X12_wrong ⟨Nat.le_of_ble_eq_true rfl, Nat.le_of_ble_eq_true rfl⟩ trivial ⟨kc44, trivial⟩ (Nat.le_of_ble_eq_true rfl) rfl dX12_length_10 ?_
    refine v_popI dX12_length_13 ?_
    refine v_iconst dX12_length_14 ?_
    cases h
    exact v_iret (rgl rfl) dX12_length_15

def f_X12_grown (p0 : Nat) (s : vS) : Option (vS) :=
  gd (naG (w32 (2 * (w32 (gN s p0 : Int))))) <|
  stp (sA s 199 (Int.toNat (w32 (2 * (w32 (gN s p0 : Int)))), fun _ => 0)) fun s2 =>
  gd (cpG 0 0 (w32 (gN s2 p0 : Int)) (gN s2 p0) (gN s2 199)) <|
  stp (cpA s2 p0 199 0 0 (w32 (gN s2 p0 : Int))) fun s5 =>
  some s5
theorem yk_X12_grown : yOk yX12_grown 1 := ⟨by decide, by decide, by decide +kernel⟩
theorem c_X12_grown {p0 : Nat} {s : vS} {out : vS} (h : f_X12_grown p0 s = some out) (hp0 : okB p0 24)  : VC yX12_grown cX12_grown 2 (some (.array .int)) 1 26 [vO p0] s (some (vO 199)) out [(24, 1)] := by
  unfold f_X12_grown at h
  refine VC.of RX12 (by decide) rfl (Nat.le_of_ble_eq_true rfl) ?_
  show VW cX12_grown (RX12, (some (vO 199)), out, (some (.array .int)), 1, 26, 2, [(24, 1)]) (P0 []) s 0 [(0, vO p0)] []
  refine v_iconst dX12_grown_0 ?_
  refine v_aload_n dX12_grown_1 0 rfl rfl ?_
  refine v_alen24 (okB_ok hp0) dX12_grown_2 ?_
  refine v_imul dX12_grown_3 ?_
  obtain ⟨g1, h⟩ := gd_some h
  obtain ⟨s2, e3, h⟩ := stp_some h
  refine v_na24 (K := 199) (tk1 := [(24, 1)]) rfl rfl (by decide) (w32_rg _) g1 ⟨(Nat.lt_of_lt_of_le hp0.1 (by decide)), trivial⟩ trivial q459 dX12_grown_4 ?_
  rw [← e3]
  refine v_astore_n (L1 := [(1, vO 199), (0, vO p0)]) dX12_grown_6 rfl (by decide) rfl ?_
  refine v_aload_n dX12_grown_7 1 rfl rfl ?_
  refine v_iconst dX12_grown_8 ?_
  refine v_aload_n dX12_grown_9 0 rfl rfl ?_
  refine v_iconst dX12_grown_10 ?_
  refine v_aload_n dX12_grown_11 1 rfl rfl ?_
  refine v_alen24 (okB_ok hp0) dX12_grown_12 ?_
  obtain ⟨g4, h⟩ := gd_some h
  obtain ⟨s5, e6, h⟩ := stp_some h
  refine v_cp (t := 24) (by decide) (by decide) (okB_ok hp0) (ok_tmp (i := 0) rfl) (rgl rfl) (rgl rfl) (w32_rg _) g4 (Nat.le_of_ble_eq_true rfl) (Nat.le_of_ble_eq_true rfl) q2110 dX12_grown_13 ?_
  rw [← e6]
  refine v_aload_n dX12_grown_16 0 rfl rfl ?_
  cases h
  exact v_aretT dX12_grown_17

def j_X12_add_95 (x1 : Int) (x2 : Int) (s : vS) : Option (vS) :=
  gd (inb (gI s 44 10) (gN s 45)) <|
  stp (sE s 45 (gI s 44 10) x1) fun s2 =>
  gd (inb (gI s2 44 10) (gN s2 46)) <|
  stp (sE s2 46 (gI s2 44 10) (gI s2 44 3)) fun s5 =>
  gd (inb (gI s5 44 10) (gN s5 50)) <|
  stp (sE s5 50 (gI s5 44 10) x2) fun s8 =>
  stp (sI s8 44 10 (w32 ((gI s8 44 10) + 1))) fun s10 =>
  some s10
theorem wj_X12_add_95 {x1 : Int} {x2 : Int} {s : vS} {out : vS} (h : j_X12_add_95 x1 x2 s = some out)  (rx1 : rg x1) (rx2 : rg x2) : VW cX12_add (RX12, none, out, none, 2, 47, 4, []) (P0 []) s 95 [(0, vO 44), (1, vI x1), (2, vI x2)] [] := by
  unfold j_X12_add_95 at h
  refine v_aload_n dX12_add_95 0 rfl rfl ?_
  refine v_getS (f := 4) (t := 45) cf12 oc44 rfl rfl rfl (by decide) q713 dX12_add_96 ?_
  refine v_aload_n dX12_add_99 0 rfl rfl ?_
  refine v_getI (f := 10) cf12 oc44 rfl (by decide) q719 dX12_add_100 ?_
  refine v_iload_n dX12_add_103 1 rfl rfl ?_
  obtain ⟨g1, h⟩ := gd_some h
  obtain ⟨s2, e3, h⟩ := stp_some h
  refine v_iast oc45 (gI_rg _ _ _) g1.1 g1.2 dX12_add_104 ?_
  rw [← e3]
  refine v_aload_n dX12_add_105 0 rfl rfl ?_
  refine v_getS (f := 5) (t := 46) cf12 oc44 rfl rfl rfl (by decide) q714 dX12_add_106 ?_
  refine v_aload_n dX12_add_109 0 rfl rfl ?_
  refine v_getI (f := 10) cf12 oc44 rfl (by decide) q719 dX12_add_110 ?_
  refine v_aload_n dX12_add_113 0 rfl rfl ?_
  refine v_getI (f := 3) cf12 oc44 rfl (by decide) q712 dX12_add_114 ?_
  obtain ⟨g4, h⟩ := gd_some h
  obtain ⟨s5, e6, h⟩ := stp_some h
  refine v_iast oc46 (gI_rg _ _ _) g4.1 g4.2 dX12_add_117 ?_
  rw [← e6]
  refine v_aload_n dX12_add_118 0 rfl rfl ?_
  refine v_getS (f := 9) (t := 50) cf12 oc44 rfl rfl rfl (by decide) q718 dX12_add_119 ?_
  refine v_aload_n dX12_add_122 0 rfl rfl ?_
  refine v_getI (f := 10) cf12 oc44 rfl (by decide) q719 dX12_add_123 ?_
  refine v_iload_n dX12_add_126 2 rfl rfl ?_
  obtain ⟨g7, h⟩ := gd_some h
  obtain ⟨s8, e9, h⟩ := stp_some h
  refine v_zast oc50 (gI_rg _ _ _) g7.1 g7.2 dX12_add_127 ?_
  rw [← e9]
  refine v_aload_n dX12_add_128 0 rfl rfl ?_
  refine v_dupO dX12_add_129 ?_
  refine v_getI (f := 10) cf12 oc44 rfl (by decide) q719 dX12_add_130 ?_
  refine v_iconst dX12_add_133 ?_
  refine v_iadd dX12_add_134 ?_
  obtain ⟨s10, e11, h⟩ := stp_some h
  refine v_putI (f := 10) cf12 oc44 rfl (by decide) q719 dX12_add_135 rfl rfl ?_
  rw [← e11]
  cases h
  exact v_vret dX12_add_138

def f_X12_add (x1 : Int) (x2 : Int) (s : vS) : Option (vS) :=
  if (gI s 44 10) = (w32 (gN s 45 : Int)) then
    bdv (f_X12_grown 45 s) fun s2 =>
    gd (2 * gN s2 45 ≤ gN s2 199 ∧ 2 ≤ gN s2 199) <|
    stp (sw2 s2 45 199) fun s6 =>
    stp (rs s6) fun s8 =>
    bdv (f_X12_grown 46 s8) fun s10 =>
    gd (2 * gN s10 46 ≤ gN s10 199 ∧ 2 ≤ gN s10 199) <|
    stp (sw2 s10 46 199) fun s14 =>
    stp (rs s14) fun s16 =>
    bdv (f_X12_grown 47 s16) fun s18 =>
    gd (2 * gN s18 47 ≤ gN s18 199 ∧ 2 ≤ gN s18 199) <|
    stp (sw2 s18 47 199) fun s22 =>
    stp (rs s22) fun s24 =>
    bdv (f_X12_grown 48 s24) fun s26 =>
    gd (2 * gN s26 48 ≤ gN s26 199 ∧ 2 ≤ gN s26 199) <|
    stp (sw2 s26 48 199) fun s30 =>
    stp (rs s30) fun s32 =>
    bdv (f_X12_grown 49 s32) fun s34 =>
    gd (2 * gN s34 49 ≤ gN s34 199 ∧ 2 ≤ gN s34 199) <|
    stp (sw2 s34 49 199) fun s38 =>
    stp (rs s38) fun s40 =>
    gd (naG (w32 (2 * (gI s40 44 10)))) <|
    stp (sA s40 199 (Int.toNat (w32 (2 * (gI s40 44 10))), fun _ => 0)) fun s43 =>
    gd (cpG 0 0 (gI s43 44 10) (gN s43 50) (gN s43 199)) <|
    stp (cpA s43 50 199 0 0 (gI s43 44 10)) fun s46 =>
    gd (2 * gN s46 50 ≤ gN s46 199 ∧ 2 ≤ gN s46 199) <|
    stp (sw2 s46 50 199) fun s49 =>
    stp (rs s49) fun s51 =>
    j_X12_add_95 x1 x2 s51
  else
    j_X12_add_95 x1 x2 s
theorem yk_X12_add : yOk yX12_add 2 := ⟨by decide, by decide, by decide +kernel⟩
theorem c_X12_add {x1 : Int} {x2 : Int} {s : vS} {out : vS} (h : f_X12_add x1 x2 s = some out)  (rx1 : rg x1) (rx2 : rg x2) : VC yX12_add cX12_add 4 none 2 47 [vO 44, vI x1, vI x2] s none out [] := by
  unfold f_X12_add at h
  refine VC.of RX12 (by decide) rfl (Nat.le_of_ble_eq_true rfl) ?_
  show VW cX12_add (RX12, none, out, none, 2, 47, 4, []) (P0 []) s 0 [(0, vO 44), (1, vI x1), (2, vI x2)] []
  refine v_aload_n dX12_add_0 0 rfl rfl ?_
  refine v_getI (f := 10) cf12 oc44 rfl (by decide) q719 dX12_add_1 ?_
  refine v_aload_n dX12_add_4 0 rfl rfl ?_
  refine v_getS (f := 4) (t := 45) cf12 oc44 rfl rfl rfl (by decide) q713 dX12_add_5 ?_
  refine v_alen24 oc45 dX12_add_8 ?_
  refine v_icmp_ne (tgt := 95) dX12_add_9 (gI_rg _ _ _) (w32_rg _) (by decide) (fun c1 => ?_) (fun c1 => ?_)
  · rw [if_neg c1] at h
    exact wj_X12_add_95 h rx1 rx2
  · rw [if_pos c1] at h
    refine v_aload_n dX12_add_12 0 rfl rfl ?_
    refine v_aload_n dX12_add_13 0 rfl rfl ?_
    refine v_getS (f := 4) (t := 45) cf12 oc44 rfl rfl rfl (by decide) q713 dX12_add_14 ?_
    obtain ⟨s2, e3, h⟩ := bdv_some h
    have k4 := c_X12_grown e3 (⟨by decide, rfl⟩ : okB 45 24)
    refine v_callS (st := [vO 44]) k4 (lw_S q2107 q2108 q309 q2109) yk_X12_grown ⟨Nat.le_of_ble_eq_true rfl, Nat.le_of_ble_eq_true rfl⟩ ⟨kc44, trivial⟩ ⟨kc44, trivial⟩ (Nat.le_of_ble_eq_true rfl) rfl dX12_add_17 ?_
    obtain ⟨g5, h⟩ := gd_some h
    obtain ⟨s6, e7, h⟩ := stp_some h
    refine v_pa (i := 0) (K := 199) (t0 := 45) (f := 4) (tk1 := [(24, 0)]) (L1 := [(0, vO 44), (1, vI x1), (2, vI x2)]) (st1 := []) rfl rfl (by decide) cf12 (⟨by decide, rfl⟩ : okB 44 11) rfl (by decide) rfl rfl (by decide) rfl g5 q713 dX12_add_20 rfl rfl rfl rfl ?_
    rw [← e7]
    obtain ⟨s8, e9, h⟩ := stp_some h
    refine v_dr (by decide) (by decide) ⟨(by decide), trivial⟩ trivial ?_
    rw [← e9]
    refine v_aload_n dX12_add_23 0 rfl rfl ?_
    refine v_aload_n dX12_add_24 0 rfl rfl ?_
    refine v_getS (f := 5) (t := 46) cf12 oc44 rfl rfl rfl (by decide) q714 dX12_add_25 ?_
    obtain ⟨s10, e11, h⟩ := bdv_some h
    have k12 := c_X12_grown e11 (⟨by decide, rfl⟩ : okB 46 24)
    refine v_callS (st := [vO 44]) k12 (lw_S q2107 q2108 q309 q2109) yk_X12_grown ⟨Nat.le_of_ble_eq_true rfl, Nat.le_of_ble_eq_true rfl⟩ ⟨kc44, trivial⟩ ⟨kc44, trivial⟩ (Nat.le_of_ble_eq_true rfl) rfl dX12_add_28 ?_
    obtain ⟨g13, h⟩ := gd_some h
    obtain ⟨s14, e15, h⟩ := stp_some h
    refine v_pa (i := 0) (K := 199) (t0 := 46) (f := 5) (tk1 := [(24, 0)]) (L1 := [(0, vO 44), (1, vI x1), (2, vI x2)]) (st1 := []) rfl rfl (by decide) cf12 (⟨by decide, rfl⟩ : okB 44 11) rfl (by decide) rfl rfl (by decide) rfl g13 q714 dX12_add_31 rfl rfl rfl rfl ?_
    rw [← e15]
    obtain ⟨s16, e17, h⟩ := stp_some h
    refine v_dr (by decide) (by decide) ⟨(by decide), trivial⟩ trivial ?_
    rw [← e17]
    refine v_aload_n dX12_add_34 0 rfl rfl ?_
    refine v_aload_n dX12_add_35 0 rfl rfl ?_
    refine v_getS (f := 6) (t := 47) cf12 oc44 rfl rfl rfl (by decide) q715 dX12_add_36 ?_
    obtain ⟨s18, e19, h⟩ := bdv_some h
    have k20 := c_X12_grown e19 (⟨by decide, rfl⟩ : okB 47 24)
    refine v_callS (st := [vO 44]) k20 (lw_S q2107 q2108 q309 q2109) yk_X12_grown ⟨Nat.le_of_ble_eq_true rfl, Nat.le_of_ble_eq_true rfl⟩ ⟨kc44, trivial⟩ ⟨kc44, trivial⟩ (Nat.le_of_ble_eq_true rfl) rfl dX12_add_39 ?_
    obtain ⟨g21, h⟩ := gd_some h
    obtain ⟨s22, e23, h⟩ := stp_some h
    refine v_pa (i := 0) (K := 199) (t0 := 47) (f := 6) (tk1 := [(24, 0)]) (L1 := [(0, vO 44), (1, vI x1), (2, vI x2)]) (st1 := []) rfl rfl (by decide) cf12 (⟨by decide, rfl⟩ : okB 44 11) rfl (by decide) rfl rfl (by decide) rfl g21 q715 dX12_add_42 rfl rfl rfl rfl ?_
    rw [← e23]
    obtain ⟨s24, e25, h⟩ := stp_some h
    refine v_dr (by decide) (by decide) ⟨(by decide), trivial⟩ trivial ?_
    rw [← e25]
    refine v_aload_n dX12_add_45 0 rfl rfl ?_
    refine v_aload_n dX12_add_46 0 rfl rfl ?_
    refine v_getS (f := 7) (t := 48) cf12 oc44 rfl rfl rfl (by decide) q716 dX12_add_47 ?_
    obtain ⟨s26, e27, h⟩ := bdv_some h
    have k28 := c_X12_grown e27 (⟨by decide, rfl⟩ : okB 48 24)
    refine v_callS (st := [vO 44]) k28 (lw_S q2107 q2108 q309 q2109) yk_X12_grown ⟨Nat.le_of_ble_eq_true rfl, Nat.le_of_ble_eq_true rfl⟩ ⟨kc44, trivial⟩ ⟨kc44, trivial⟩ (Nat.le_of_ble_eq_true rfl) rfl dX12_add_50 ?_
    obtain ⟨g29, h⟩ := gd_some h
    obtain ⟨s30, e31, h⟩ := stp_some h
    refine v_pa (i := 0) (K := 199) (t0 := 48) (f := 7) (tk1 := [(24, 0)]) (L1 := [(0, vO 44), (1, vI x1), (2, vI x2)]) (st1 := []) rfl rfl (by decide) cf12 (⟨by decide, rfl⟩ : okB 44 11) rfl (by decide) rfl rfl (by decide) rfl g29 q716 dX12_add_53 rfl rfl rfl rfl ?_
    rw [← e31]
    obtain ⟨s32, e33, h⟩ := stp_some h
    refine v_dr (by decide) (by decide) ⟨(by decide), trivial⟩ trivial ?_
    rw [← e33]
    refine v_aload_n dX12_add_56 0 rfl rfl ?_
    refine v_aload_n dX12_add_57 0 rfl rfl ?_
    refine v_getS (f := 8) (t := 49) cf12 oc44 rfl rfl rfl (by decide) q717 dX12_add_58 ?_
    obtain ⟨s34, e35, h⟩ := bdv_some h
    have k36 := c_X12_grown e35 (⟨by decide, rfl⟩ : okB 49 24)
    refine v_callS (st := [vO 44]) k36 (lw_S q2107 q2108 q309 q2109) yk_X12_grown ⟨Nat.le_of_ble_eq_true rfl, Nat.le_of_ble_eq_true rfl⟩ ⟨kc44, trivial⟩ ⟨kc44, trivial⟩ (Nat.le_of_ble_eq_true rfl) rfl dX12_add_61 ?_
    obtain ⟨g37, h⟩ := gd_some h
    obtain ⟨s38, e39, h⟩ := stp_some h
    refine v_pa (i := 0) (K := 199) (t0 := 49) (f := 8) (tk1 := [(24, 0)]) (L1 := [(0, vO 44), (1, vI x1), (2, vI x2)]) (st1 := []) rfl rfl (by decide) cf12 (⟨by decide, rfl⟩ : okB 44 11) rfl (by decide) rfl rfl (by decide) rfl g37 q717 dX12_add_64 rfl rfl rfl rfl ?_
    rw [← e39]
    obtain ⟨s40, e41, h⟩ := stp_some h
    refine v_dr (by decide) (by decide) ⟨(by decide), trivial⟩ trivial ?_
    rw [← e41]
    refine v_iconst dX12_add_67 ?_
    refine v_aload_n dX12_add_68 0 rfl rfl ?_
    refine v_getI (f := 10) cf12 oc44 rfl (by decide) q719 dX12_add_69 ?_
    refine v_imul dX12_add_72 ?_
    obtain ⟨g42, h⟩ := gd_some h
    obtain ⟨s43, e44, h⟩ := stp_some h
    refine v_na26 (K := 199) (tk1 := [(26, 1)]) rfl rfl (by decide) (w32_rg _) g42 ⟨(by decide), trivial⟩ trivial q755 dX12_add_73 ?_
    rw [← e44]
    refine v_astore_n (L1 := [(3, vO 199), (0, vO 44), (1, vI x1), (2, vI x2)]) dX12_add_75 rfl (by decide) rfl ?_
    refine v_aload_n dX12_add_76 1 rfl rfl ?_
    refine v_getS (f := 9) (t := 50) cf12 oc44 rfl rfl rfl (by decide) q718 dX12_add_77 ?_
    refine v_iconst dX12_add_80 ?_
    refine v_aload_n dX12_add_81 0 rfl rfl ?_
    refine v_iconst dX12_add_82 ?_
    refine v_aload_n dX12_add_83 1 rfl rfl ?_
    refine v_getI (f := 10) cf12 oc44 rfl (by decide) q719 dX12_add_84 ?_
    obtain ⟨g45, h⟩ := gd_some h
    obtain ⟨s46, e47, h⟩ := stp_some h
    refine v_cp (t := 26) (by decide) (by decide) oc50 (ok_tmp (i := 0) rfl) (rgl rfl) (rgl rfl) (gI_rg _ _ _) g45 (Nat.le_of_ble_eq_true rfl) (Nat.le_of_ble_eq_true rfl) q2110 dX12_add_87 ?_
    rw [← e47]
    refine v_aload_n dX12_add_90 1 rfl rfl ?_
    refine v_aload_n dX12_add_91 0 rfl rfl ?_
    obtain ⟨g48, h⟩ := gd_some h
    obtain ⟨s49, e50, h⟩ := stp_some h
    refine v_pa (i := 0) (K := 199) (t0 := 50) (f := 9) (tk1 := [(26, 0)]) (L1 := [(3, vO 50), (0, vO 44), (1, vI x1), (2, vI x2)]) (st1 := []) rfl rfl (by decide) cf12 (⟨by decide, rfl⟩ : okB 44 11) rfl (by decide) rfl rfl (by decide) rfl g48 q718 dX12_add_92 rfl rfl rfl rfl ?_
    rw [← e50]
    refine v_sub [1, 2, 3] (L1 := [(0, vO 44), (1, vI x1), (2, vI x2)]) rfl ?_
    obtain ⟨s51, e52, h⟩ := stp_some h
    refine v_dr (by decide) (by decide) ⟨(by decide), trivial⟩ trivial ?_
    rw [← e52]
    exact wj_X12_add_95 h rx1 rx2

def j_X12_enter_45 (x1 : Int) (x2 : Int) (s : vS) : Option (vS) :=
  gd (inb (gI s 44 14) (gN s 51)) <|
  stp (sE s 51 (gI s 44 14) (w32 ((gI s 44 10) - 1))) fun s2 =>
  gd (inb (gI s2 44 14) (gN s2 52)) <|
  stp (sE s2 52 (gI s2 44 14) x1) fun s5 =>
  gd (inb (gI s5 44 14) (gN s5 53)) <|
  stp (sE s5 53 (gI s5 44 14) x2) fun s8 =>
  stp (sI s8 44 14 (w32 ((gI s8 44 14) + 1))) fun s10 =>
  some s10
theorem wj_X12_enter_45 {x1 : Int} {x2 : Int} {s : vS} {out : vS} (h : j_X12_enter_45 x1 x2 s = some out)  (rx1 : rg x1) (rx2 : rg x2) : VW cX12_enter (RX12, none, out, none, 2, 47, 3, []) (P0 []) s 45 [(0, vO 44), (1, vI x1), (2, vI x2)] [] := by
  unfold j_X12_enter_45 at h
  refine v_aload_n dX12_enter_45 0 rfl rfl ?_
  refine v_getS (f := 11) (t := 51) cf12 oc44 rfl rfl rfl (by decide) q720 dX12_enter_46 ?_
  refine v_aload_n dX12_enter_49 0 rfl rfl ?_
  refine v_getI (f := 14) cf12 oc44 rfl (by decide) q723 dX12_enter_50 ?_
  refine v_aload_n dX12_enter_53 0 rfl rfl ?_
  refine v_getI (f := 10) cf12 oc44 rfl (by decide) q719 dX12_enter_54 ?_
  refine v_iconst dX12_enter_57 ?_
  refine v_isub dX12_enter_58 ?_
  obtain ⟨g1, h⟩ := gd_some h
  obtain ⟨s2, e3, h⟩ := stp_some h
  refine v_iast oc51 (gI_rg _ _ _) g1.1 g1.2 dX12_enter_59 ?_
  rw [← e3]
  refine v_aload_n dX12_enter_60 0 rfl rfl ?_
  refine v_getS (f := 12) (t := 52) cf12 oc44 rfl rfl rfl (by decide) q721 dX12_enter_61 ?_
  refine v_aload_n dX12_enter_64 0 rfl rfl ?_
  refine v_getI (f := 14) cf12 oc44 rfl (by decide) q723 dX12_enter_65 ?_
  refine v_iload_n dX12_enter_68 1 rfl rfl ?_
  obtain ⟨g4, h⟩ := gd_some h
  obtain ⟨s5, e6, h⟩ := stp_some h
  refine v_iast oc52 (gI_rg _ _ _) g4.1 g4.2 dX12_enter_69 ?_
  rw [← e6]
  refine v_aload_n dX12_enter_70 0 rfl rfl ?_
  refine v_getS (f := 13) (t := 53) cf12 oc44 rfl rfl rfl (by decide) q722 dX12_enter_71 ?_
  refine v_aload_n dX12_enter_74 0 rfl rfl ?_
  refine v_getI (f := 14) cf12 oc44 rfl (by decide) q723 dX12_enter_75 ?_
  refine v_iload_n dX12_enter_78 2 rfl rfl ?_
  obtain ⟨g7, h⟩ := gd_some h
  obtain ⟨s8, e9, h⟩ := stp_some h
  refine v_iast oc53 (gI_rg _ _ _) g7.1 g7.2 dX12_enter_79 ?_
  rw [← e9]
  refine v_aload_n dX12_enter_80 0 rfl rfl ?_
  refine v_dupO dX12_enter_81 ?_
  refine v_getI (f := 14) cf12 oc44 rfl (by decide) q723 dX12_enter_82 ?_
  refine v_iconst dX12_enter_85 ?_
  refine v_iadd dX12_enter_86 ?_
  obtain ⟨s10, e11, h⟩ := stp_some h
  refine v_putI (f := 14) cf12 oc44 rfl (by decide) q723 dX12_enter_87 rfl rfl ?_
  rw [← e11]
  cases h
  exact v_vret dX12_enter_90

def f_X12_enter (x1 : Int) (x2 : Int) (s : vS) : Option (vS) :=
  if (gI s 44 14) = (w32 (gN s 51 : Int)) then
    bdv (f_X12_grown 51 s) fun s2 =>
    gd (2 * gN s2 51 ≤ gN s2 199 ∧ 2 ≤ gN s2 199) <|
    stp (sw2 s2 51 199) fun s6 =>
    stp (rs s6) fun s8 =>
    bdv (f_X12_grown 52 s8) fun s10 =>
    gd (2 * gN s10 52 ≤ gN s10 199 ∧ 2 ≤ gN s10 199) <|
    stp (sw2 s10 52 199) fun s14 =>
    stp (rs s14) fun s16 =>
    bdv (f_X12_grown 53 s16) fun s18 =>
    gd (2 * gN s18 53 ≤ gN s18 199 ∧ 2 ≤ gN s18 199) <|
    stp (sw2 s18 53 199) fun s22 =>
    stp (rs s22) fun s24 =>
    j_X12_enter_45 x1 x2 s24
  else
    j_X12_enter_45 x1 x2 s
theorem yk_X12_enter : yOk yX12_enter 2 := ⟨by decide, by decide, by decide +kernel⟩
theorem c_X12_enter {x1 : Int} {x2 : Int} {s : vS} {out : vS} (h : f_X12_enter x1 x2 s = some out)  (rx1 : rg x1) (rx2 : rg x2) : VC yX12_enter cX12_enter 3 none 2 47 [vO 44, vI x1, vI x2] s none out [] := by
  unfold f_X12_enter at h
  refine VC.of RX12 (by decide) rfl (Nat.le_of_ble_eq_true rfl) ?_
  show VW cX12_enter (RX12, none, out, none, 2, 47, 3, []) (P0 []) s 0 [(0, vO 44), (1, vI x1), (2, vI x2)] []
  refine v_aload_n dX12_enter_0 0 rfl rfl ?_
  refine v_getI (f := 14) cf12 oc44 rfl (by decide) q723 dX12_enter_1 ?_
  refine v_aload_n dX12_enter_4 0 rfl rfl ?_
  refine v_getS (f := 11) (t := 51) cf12 oc44 rfl rfl rfl (by decide) q720 dX12_enter_5 ?_
  refine v_alen24 oc51 dX12_enter_8 ?_
  refine v_icmp_ne (tgt := 45) dX12_enter_9 (gI_rg _ _ _) (w32_rg _) (by decide) (fun c1 => ?_) (fun c1 => ?_)
  · rw [if_neg c1] at h
    exact wj_X12_enter_45 h rx1 rx2
  · rw [if_pos c1] at h
    refine v_aload_n dX12_enter_12 0 rfl rfl ?_
    refine v_aload_n dX12_enter_13 0 rfl rfl ?_
    refine v_getS (f := 11) (t := 51) cf12 oc44 rfl rfl rfl (by decide) q720 dX12_enter_14 ?_
    obtain ⟨s2, e3, h⟩ := bdv_some h
    have k4 := c_X12_grown e3 (⟨by decide, rfl⟩ : okB 51 24)
    refine v_callS (st := [vO 44]) k4 (lw_S q2107 q2108 q309 q2109) yk_X12_grown ⟨Nat.le_of_ble_eq_true rfl, Nat.le_of_ble_eq_true rfl⟩ ⟨kc44, trivial⟩ ⟨kc44, trivial⟩ (Nat.le_of_ble_eq_true rfl) rfl dX12_enter_17 ?_
    obtain ⟨g5, h⟩ := gd_some h
    obtain ⟨s6, e7, h⟩ := stp_some h
    refine v_pa (i := 0) (K := 199) (t0 := 51) (f := 11) (tk1 := [(24, 0)]) (L1 := [(0, vO 44), (1, vI x1), (2, vI x2)]) (st1 := []) rfl rfl (by decide) cf12 (⟨by decide, rfl⟩ : okB 44 11) rfl (by decide) rfl rfl (by decide) rfl g5 q720 dX12_enter_20 rfl rfl rfl rfl ?_
    rw [← e7]
    obtain ⟨s8, e9, h⟩ := stp_some h
    refine v_dr (by decide) (by decide) ⟨(by decide), trivial⟩ trivial ?_
    rw [← e9]
    refine v_aload_n dX12_enter_23 0 rfl rfl ?_
    refine v_aload_n dX12_enter_24 0 rfl rfl ?_
    refine v_getS (f := 12) (t := 52) cf12 oc44 rfl rfl rfl (by decide) q721 dX12_enter_25 ?_
    obtain ⟨s10, e11, h⟩ := bdv_some h
    have k12 := c_X12_grown e11 (⟨by decide, rfl⟩ : okB 52 24)
    refine v_callS (st := [vO 44]) k12 (lw_S q2107 q2108 q309 q2109) yk_X12_grown ⟨Nat.le_of_ble_eq_true rfl, Nat.le_of_ble_eq_true rfl⟩ ⟨kc44, trivial⟩ ⟨kc44, trivial⟩ (Nat.le_of_ble_eq_true rfl) rfl dX12_enter_28 ?_
    obtain ⟨g13, h⟩ := gd_some h
    obtain ⟨s14, e15, h⟩ := stp_some h
    refine v_pa (i := 0) (K := 199) (t0 := 52) (f := 12) (tk1 := [(24, 0)]) (L1 := [(0, vO 44), (1, vI x1), (2, vI x2)]) (st1 := []) rfl rfl (by decide) cf12 (⟨by decide, rfl⟩ : okB 44 11) rfl (by decide) rfl rfl (by decide) rfl g13 q721 dX12_enter_31 rfl rfl rfl rfl ?_
    rw [← e15]
    obtain ⟨s16, e17, h⟩ := stp_some h
    refine v_dr (by decide) (by decide) ⟨(by decide), trivial⟩ trivial ?_
    rw [← e17]
    refine v_aload_n dX12_enter_34 0 rfl rfl ?_
    refine v_aload_n dX12_enter_35 0 rfl rfl ?_
    refine v_getS (f := 13) (t := 53) cf12 oc44 rfl rfl rfl (by decide) q722 dX12_enter_36 ?_
    obtain ⟨s18, e19, h⟩ := bdv_some h
    have k20 := c_X12_grown e19 (⟨by decide, rfl⟩ : okB 53 24)
    refine v_callS (st := [vO 44]) k20 (lw_S q2107 q2108 q309 q2109) yk_X12_grown ⟨Nat.le_of_ble_eq_true rfl, Nat.le_of_ble_eq_true rfl⟩ ⟨kc44, trivial⟩ ⟨kc44, trivial⟩ (Nat.le_of_ble_eq_true rfl) rfl dX12_enter_39 ?_
    obtain ⟨g21, h⟩ := gd_some h
    obtain ⟨s22, e23, h⟩ := stp_some h
    refine v_pa (i := 0) (K := 199) (t0 := 53) (f := 13) (tk1 := [(24, 0)]) (L1 := [(0, vO 44), (1, vI x1), (2, vI x2)]) (st1 := []) rfl rfl (by decide) cf12 (⟨by decide, rfl⟩ : okB 44 11) rfl (by decide) rfl rfl (by decide) rfl g21 q722 dX12_enter_42 rfl rfl rfl rfl ?_
    rw [← e23]
    obtain ⟨s24, e25, h⟩ := stp_some h
    refine v_dr (by decide) (by decide) ⟨(by decide), trivial⟩ trivial ?_
    rw [← e25]
    exact wj_X12_enter_45 h rx1 rx2
