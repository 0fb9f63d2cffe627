set_option maxRecDepth 100000
set_option maxHeartbeats 1000000
def j_X1_within_9 (s : vS) : Option ((vS) ⊕ (Nat × vS)) :=
  some (.inr (3, gh1 s))
theorem wj_X1_within_9 {s : vS} {out : vS} (h : j_X1_within_9 s = some (.inl out))  : VW cX1_within (RX1, none, out, none, 6, 89, 2, []) (P0 []) s 9 [] [] := by
  unfold j_X1_within_9 at h
  cases h

def f_X1_within (x0 : Int) (x1 : Int) (s : vS) : Option ((vS) ⊕ (Nat × vS)) :=
  if x0 < 0 then
    j_X1_within_9 s
  else
    if x0 < x1 then
      nx <|
      some s
    else
      j_X1_within_9 s
theorem yk_X1_within : yOk yX1_within 2 := ⟨by decide, by decide, by decide +kernel⟩
theorem c_X1_within {x0 : Int} {x1 : Int} {s : vS} {out : vS} (h : f_X1_within x0 x1 s = some (.inl out))  (rx0 : rg x0) (rx1 : rg x1) : VC yX1_within cX1_within 2 none 6 89 [vI x0, vI x1] s none out [] := by
  unfold f_X1_within at h
  refine VC.of RX1 (by decide) rfl (Nat.le_of_ble_eq_true rfl) ?_
  show VW cX1_within (RX1, none, out, none, 6, 89, 2, []) (P0 []) s 0 [(0, vI x0), (1, vI x1)] []
  refine v_iload_n dX1_within_0 0 rfl rfl ?_
  refine v_if_lt (tgt := 9) dX1_within_1 rx0 (by decide) (fun c1 => ?_) (fun c1 => ?_)
  · rw [if_pos c1] at h
    refine v_sub [] (L1 := []) rfl ?_
    exact wj_X1_within_9 h 
  · rw [if_neg c1] at h
    refine v_iload_n dX1_within_4 0 rfl rfl ?_
    refine v_iload_n dX1_within_5 1 rfl rfl ?_
    refine v_icmp_lt (tgt := 17) dX1_within_6 rx0 rx1 (by decide) (fun c2 => ?_) (fun c2 => ?_)
    · rw [if_pos c2] at h
      have h := nx_some h
      cases h
      exact v_vret dX1_within_17
    · rw [if_neg c2] at h
      refine v_sub [] (L1 := []) rfl ?_
      exact wj_X1_within_9 h 
theorem tj_X1_within_9 {s : vS} {q : Nat × vS} (h : j_X1_within_9 s = some (.inr q))  : VW cX1_within (tB (exE q.1) RX1 q.2 6 89 2) (P0 []) s 9 [] [] := by
  unfold j_X1_within_9 at h
  cases h
  exact v_throw0 (E := "java/lang/IndexOutOfBoundsException") (names := exNm) (by decide) (by decide) q1988 q324 at0_3 gd0_3 (Nat.le_of_ble_eq_true rfl) (Nat.le_of_ble_eq_true rfl) dX1_within_9 dX1_within_12 dX1_within_13 dX1_within_16

theorem t_X1_within {x0 : Int} {x1 : Int} {s : vS} {q : Nat × vS} (h : f_X1_within x0 x1 s = some (.inr q))  (rx0 : rg x0) (rx1 : rg x1) : VT yX1_within cX1_within 2 none 6 89 [vI x0, vI x1] s (exE q.1) q.2 := by
  unfold f_X1_within at h
  refine VT.of RX1 (by decide) rfl (Nat.le_of_ble_eq_true rfl) ?_
  show VW cX1_within (tB (exE q.1) RX1 q.2 6 89 2) (P0 []) s 0 [(0, vI x0), (1, vI x1)] []
  refine v_iload_n dX1_within_0 0 rfl rfl ?_
  refine v_if_lt (tgt := 9) dX1_within_1 rx0 (by decide) (fun c1 => ?_) (fun c1 => ?_)
  · rw [if_pos c1] at h
    refine v_sub [] (L1 := []) rfl ?_
    exact tj_X1_within_9 h 
  · rw [if_neg c1] at h
    refine v_iload_n dX1_within_4 0 rfl rfl ?_
    refine v_iload_n dX1_within_5 1 rfl rfl ?_
    refine v_icmp_lt (tgt := 17) dX1_within_6 rx0 rx1 (by decide) (fun c2 => ?_) (fun c2 => ?_)
    · rw [if_pos c2] at h
      exact (nx_no h).elim
    · rw [if_neg c2] at h
      refine v_sub [] (L1 := []) rfl ?_
      exact tj_X1_within_9 h 

def f_X1_right (x0 : Int) (s : vS) : Option ((vS) ⊕ (Nat × vS)) :=
  if x0 = 0 then
    some (.inr (2, gh1 s))
  else
    nx <|
    some s
theorem yk_X1_right : yOk yX1_right 1 := ⟨by decide, by decide, by decide +kernel⟩
theorem c_X1_right {x0 : Int} {s : vS} {out : vS} (h : f_X1_right x0 s = some (.inl out))  (rx0 : rg x0) : VC yX1_right cX1_right 1 none 6 89 [vI x0] s none out [] := by
  unfold f_X1_right at h
  refine VC.of RX1 (by decide) rfl (Nat.le_of_ble_eq_true rfl) ?_
  show VW cX1_right (RX1, none, out, none, 6, 89, 1, []) (P0 []) s 0 [(0, vI x0)] []
  refine v_iload_n dX1_right_0 0 rfl rfl ?_
  refine v_if_ne (tgt := 12) dX1_right_1 rx0 (by decide) (fun c1 => ?_) (fun c1 => ?_)
  · rw [if_neg c1] at h
    have h := nx_some h
    cases h
    exact v_vret dX1_right_12
  · rw [if_pos c1] at h
    cases h
theorem t_X1_right {x0 : Int} {s : vS} {q : Nat × vS} (h : f_X1_right x0 s = some (.inr q))  (rx0 : rg x0) : VT yX1_right cX1_right 1 none 6 89 [vI x0] s (exE q.1) q.2 := by
  unfold f_X1_right at h
  refine VT.of RX1 (by decide) rfl (Nat.le_of_ble_eq_true rfl) ?_
  show VW cX1_right (tB (exE q.1) RX1 q.2 6 89 1) (P0 []) s 0 [(0, vI x0)] []
  refine v_iload_n dX1_right_0 0 rfl rfl ?_
  refine v_if_ne (tgt := 12) dX1_right_1 rx0 (by decide) (fun c1 => ?_) (fun c1 => ?_)
  · rw [if_neg c1] at h
    exact (nx_no h).elim
  · rw [if_pos c1] at h
    cases h
    exact v_throw0 (E := "java/lang/IllegalArgumentException") (names := exNm) (by decide) (by decide) q1024 q317 at0_2 gd0_2 (Nat.le_of_ble_eq_true rfl) (Nat.le_of_ble_eq_true rfl) dX1_right_4 dX1_right_7 dX1_right_8 dX1_right_11

def f_X1_can (x0 : Int) (s : vS) : Option ((vS) ⊕ (Nat × vS)) :=
  if x0 = 0 then
    some (.inr (1, gh1 s))
  else
    nx <|
    some s
theorem yk_X1_can : yOk yX1_can 1 := ⟨by decide, by decide, by decide +kernel⟩
theorem c_X1_can {x0 : Int} {s : vS} {out : vS} (h : f_X1_can x0 s = some (.inl out))  (rx0 : rg x0) : VC yX1_can cX1_can 1 none 6 89 [vI x0] s none out [] := by
  unfold f_X1_can at h
  refine VC.of RX1 (by decide) rfl (Nat.le_of_ble_eq_true rfl) ?_
  show VW cX1_can (RX1, none, out, none, 6, 89, 1, []) (P0 []) s 0 [(0, vI x0)] []
  refine v_iload_n dX1_can_0 0 rfl rfl ?_
  refine v_if_ne (tgt := 12) dX1_can_1 rx0 (by decide) (fun c1 => ?_) (fun c1 => ?_)
  · rw [if_neg c1] at h
    have h := nx_some h
    cases h
    exact v_vret dX1_can_12
  · rw [if_pos c1] at h
    cases h
theorem t_X1_can {x0 : Int} {s : vS} {q : Nat × vS} (h : f_X1_can x0 s = some (.inr q))  (rx0 : rg x0) : VT yX1_can cX1_can 1 none 6 89 [vI x0] s (exE q.1) q.2 := by
  unfold f_X1_can at h
  refine VT.of RX1 (by decide) rfl (Nat.le_of_ble_eq_true rfl) ?_
  show VW cX1_can (tB (exE q.1) RX1 q.2 6 89 1) (P0 []) s 0 [(0, vI x0)] []
  refine v_iload_n dX1_can_0 0 rfl rfl ?_
  refine v_if_ne (tgt := 12) dX1_can_1 rx0 (by decide) (fun c1 => ?_) (fun c1 => ?_)
  · rw [if_neg c1] at h
    exact (nx_no h).elim
  · rw [if_pos c1] at h
    cases h
    exact v_throw0 (E := "java/lang/IllegalStateException") (names := exNm) (by decide) (by decide) q933 q315 at0_1 gd0_1 (Nat.le_of_ble_eq_true rfl) (Nat.le_of_ble_eq_true rfl) dX1_can_4 dX1_can_7 dX1_can_8 dX1_can_11

def f_X2_size (o : Nat) (s : vS) : Option (Int × vS) :=
  some (gI s o 1, s)
theorem yk_X2_size : yOk yX2_size 0 := ⟨by decide, by decide, by decide +kernel⟩
theorem c_X2_size {o : Nat} {s : vS} {out : Int × vS} (h : f_X2_size o s = some out) (ho : okB o 1)  : VC yX2_size cX2_size 1 (some .int) 0 0 [vO o] s (some (vI out.1)) out.2 [] := by
  unfold f_X2_size at h
  refine VC.of RX2 (by decide) rfl (Nat.le_of_ble_eq_true rfl) ?_
  show VW cX2_size (RX2, (some (vI out.1)), out.2, (some .int), 0, 0, 1, []) (P0 []) s 0 [(0, vO o)] []
  refine v_aload_n dX2_size_0 0 rfl rfl ?_
  refine v_getI (f := 1) cf2 (okB_ok ho) rfl (by decide) q341 dX2_size_1 ?_
  cases h
  exact v_iret (gI_rg _ _ _) dX2_size_4

def E_X2_ready_16 (o : Nat) (rv : Option vA) (σo : vS) (q : Int × vS) : Prop := ∀ (x2' : Int) (s' : vS), q = (x2', s') → rg x2' → VW cX2_ready (RX2, rv, σo, none, 1, 26, 4, []) (P0 []) s' 28 [(0, vO o), (2, vI x2')] []
def l_X2_ready_16 (o : Nat) : Nat → Int → Int → vS → Option (Int × vS)
  | 0, _, _, _ => none
  | n + 1, x1, x2, s =>
    if x1 ≤ x2 then
      some (x2, s)
    else
      vl (w32 (x2 * 2)) fun y2 =>
      l_X2_ready_16 o n x1 y2 s
theorem wl_X2_ready_16 (o : Nat) {x1 : Int} {rv : Option vA} {σo : vS} (ho : okB o 1) (rx1 : rg x1) : ∀ (n : Nat) (x2 : Int) (s : vS) (q : Int × vS), l_X2_ready_16 o n x1 x2 s = some q → rg x2 → E_X2_ready_16 o rv σo q → VW cX2_ready (RX2, rv, σo, none, 1, 26, 4, []) (P0 []) s 16 [(0, vO o), (1, vI x1), (2, vI x2)] [] := by
  intro n
  induction n with
  | zero => intro x2 s q h; cases h
  | succ n ih =>
    intro x2 s q h rx2 hE
    unfold l_X2_ready_16 at h
    refine v_iload_n dX2_ready_16 2 rfl rfl ?_
    refine v_iload_n dX2_ready_17 1 rfl rfl ?_
    refine v_icmp_ge (tgt := 28) dX2_ready_18 rx2 rx1 (by decide) (fun c1 => ?_) (fun c1 => ?_)
    · rw [if_pos c1] at h
      cases h
      refine v_sub [0, 2] (L1 := [(0, vO o), (2, vI x2)]) rfl ?_
      exact hE _ _ rfl rx2
    · rw [if_neg c1] at h
      refine v_iload_n dX2_ready_21 2 rfl rfl ?_
      refine v_iconst dX2_ready_22 ?_
      refine v_imul dX2_ready_23 ?_
      obtain ⟨y2, e3, h⟩ := vl_some h
      rw [← e3]
      have r4 : rg y2 := by rw [e3]; exact w32_rg _
      refine v_istore_n (L1 := [(2, vI y2), (0, vO o), (1, vI x1)]) dX2_ready_24 rfl (by decide) rfl ?_
      refine v_goto (tgt := 16) dX2_ready_25 (by decide) ?_
      refine v_sub [1, 2, 0] (L1 := [(0, vO o), (1, vI x1), (2, vI y2)]) rfl ?_
      exact ih y2 s _ h r4 hE

def f_X2_ready (o : Nat) (x1 : Int) (s : vS) : Option (vS) :=
  if (w32 (gN s (o + 1) : Int)) < x1 then
    vl (w32 (gN s (o + 1) : Int)) fun y2 =>
    lq_1 (l_X2_ready_16 o FU x1 y2 s) fun y5 s6 =>
    gd (naG y5) <|
    stp (sA s6 199 (Int.toNat y5, fun _ => 0)) fun s10 =>
    gd (cpG 0 0 (gI s10 o 1) (gN s10 (o + 1)) (gN s10 199)) <|
    stp (cpA s10 (o + 1) 199 0 0 (gI s10 o 1)) fun s13 =>
    gd (2 * gN s13 (o + 1) ≤ gN s13 199 ∧ 2 ≤ gN s13 199) <|
    stp (sw2 s13 (o + 1) 199) fun s16 =>
    stp (rs s16) fun s18 =>
    some s18
  else
    some s
theorem yk_X2_ready : yOk yX2_ready 1 := ⟨by decide, by decide, by decide +kernel⟩
theorem c_X2_ready {o : Nat} {x1 : Int} {s : vS} {out : vS} (h : f_X2_ready o x1 s = some out) (ho : okB o 1) (rx1 : rg x1) : VC yX2_ready cX2_ready 4 none 1 26 [vO o, vI x1] s none out [] := by
  unfold f_X2_ready at h
  refine VC.of RX2 (by decide) rfl (Nat.le_of_ble_eq_true rfl) ?_
  show VW cX2_ready (RX2, none, out, none, 1, 26, 4, []) (P0 []) s 0 [(0, vO o), (1, vI x1)] []
  refine v_iload_n dX2_ready_0 1 rfl rfl ?_
  refine v_aload_n dX2_ready_1 0 rfl rfl ?_
  refine v_getS (f := 0) (t := o + 1) cf2 (okB_ok ho) rfl rfl rfl (by decide) q340 dX2_ready_2 ?_
  refine v_alen25 (okB_ok (ch_1_0 ho)) dX2_ready_5 ?_
  refine v_icmp_gt (tgt := 10) dX2_ready_6 rx1 (w32_rg _) (by decide) (fun c1 => ?_) (fun c1 => ?_)
  · rw [if_pos c1] at h
    refine v_aload_n dX2_ready_10 0 rfl rfl ?_
    refine v_getS (f := 0) (t := o + 1) cf2 (okB_ok ho) rfl rfl rfl (by decide) q340 dX2_ready_11 ?_
    refine v_alen25 (okB_ok (ch_1_0 ho)) dX2_ready_14 ?_
    obtain ⟨y2, e3, h⟩ := vl_some h
    rw [← e3]
    have r4 : rg y2 := by rw [e3]; exact w32_rg _
    refine v_istore_n (L1 := [(2, vI y2), (0, vO o), (1, vI x1)]) dX2_ready_15 rfl (by decide) rfl ?_
    refine v_sub [1, 2, 0] (L1 := [(0, vO o), (1, vI x1), (2, vI y2)]) rfl ?_
    obtain ⟨y5, s6, e7, h⟩ := lq_1_some h
    refine wl_X2_ready_16 o ho rx1 FU y2 s _ e7 r4 ?_
    unfold E_X2_ready_16
    intro y5' s6' z_ r8
    cases z_
    refine v_iload_n dX2_ready_28 1 rfl rfl ?_
    obtain ⟨g9, h⟩ := gd_some h
    obtain ⟨s10, e11, h⟩ := stp_some h
    refine v_na25 (K := 199) (tk1 := [(25, 1)]) rfl rfl (by decide) r8 g9 ⟨(Nat.lt_of_lt_of_le ho.1 (by decide)), trivial⟩ trivial q347 dX2_ready_29 ?_
    rw [← e11]
    refine v_astore_n (L1 := [(3, vO 199), (0, vO o), (2, vI y5)]) dX2_ready_31 rfl (by decide) rfl ?_
    refine v_aload_n dX2_ready_32 1 rfl rfl ?_
    refine v_getS (f := 0) (t := o + 1) cf2 (okB_ok ho) rfl rfl rfl (by decide) q340 dX2_ready_33 ?_
    refine v_iconst dX2_ready_36 ?_
    refine v_aload_n dX2_ready_37 0 rfl rfl ?_
    refine v_iconst dX2_ready_38 ?_
    refine v_aload_n dX2_ready_39 1 rfl rfl ?_
    refine v_getI (f := 1) cf2 (okB_ok ho) rfl (by decide) q341 dX2_ready_40 ?_
    obtain ⟨g12, h⟩ := gd_some h
    obtain ⟨s13, e14, h⟩ := stp_some h
    refine v_cp (t := 25) (by decide) (by decide) (okB_ok (ch_1_0 ho)) (ok_tmp (i := 0) rfl) (rgl rfl) (rgl rfl) (gI_rg _ _ _) g12 (Nat.le_of_ble_eq_true rfl) (Nat.le_of_ble_eq_true rfl) q1010 dX2_ready_43 ?_
    rw [← e14]
    refine v_aload_n dX2_ready_46 1 rfl rfl ?_
    refine v_aload_n dX2_ready_47 0 rfl rfl ?_
    obtain ⟨g15, h⟩ := gd_some h
    obtain ⟨s16, e17, h⟩ := stp_some h
    refine v_pa (i := 0) (K := 199) (t0 := o + 1) (f := 0) (tk1 := [(25, 0)]) (L1 := [(3, vO (o + 1)), (0, vO o), (2, vI y5)]) (st1 := []) rfl rfl (by decide) cf2 ho rfl (by decide) rfl (ch_1_0 ho).2 (by decide) rfl g15 q340 dX2_ready_48 rfl rfl (by simp [rnL, rnA, swp, show o ≠ 199 by have := ho.1; unfold KF at this; omega, show o + 1 ≠ 199 by have := (ch_1_0 ho).1; unfold KF at this; omega] <;> (have h90 := ho.1; have h91 := (ch_1_0 ho).1; unfold KF at *; omega)) (by simp [rnL, rnA, swp, show o ≠ 199 by have := ho.1; unfold KF at this; omega, show o + 1 ≠ 199 by have := (ch_1_0 ho).1; unfold KF at this; omega] <;> (have h90 := ho.1; have h91 := (ch_1_0 ho).1; unfold KF at *; omega)) ?_
    rw [← e17]
    refine v_sub [] (L1 := []) rfl ?_
    obtain ⟨s18, e19, h⟩ := stp_some h
    refine v_dr (by decide) (by decide) trivial trivial ?_
    rw [← e19]
    cases h
    exact v_vret dX2_ready_51
  · rw [if_neg c1] at h
    cases h
    exact v_vret dX2_ready_9

def f_X2_add (o : Nat) (x1 : Int) (s : vS) : Option (vS) :=
  bdv (f_X2_ready o (w32 ((gI s o 1) + 1)) s) fun s1 =>
  gd (inb (gI s1 o 1) (gN s1 (o + 1))) <|
  stp (sE s1 (o + 1) (gI s1 o 1) (n8 x1)) fun s5 =>
  stp (sI s5 o 1 (w32 ((gI s5 o 1) + 1))) fun s7 =>
  some s7
theorem yk_X2_add : yOk yX2_add 1 := ⟨by decide, by decide, by decide +kernel⟩
theorem c_X2_add {o : Nat} {x1 : Int} {s : vS} {out : vS} (h : f_X2_add o x1 s = some out) (ho : okB o 1) (rx1 : rg x1) : VC yX2_add cX2_add 2 none 2 49 [vO o, vI x1] s none out [] := by
  unfold f_X2_add at h
  refine VC.of RX2 (by decide) rfl (Nat.le_of_ble_eq_true rfl) ?_
  show VW cX2_add (RX2, none, out, none, 2, 49, 2, []) (P0 []) s 0 [(0, vO o), (1, vI x1)] []
  refine v_aload_n dX2_add_0 0 rfl rfl ?_
  refine v_aload_n dX2_add_1 0 rfl rfl ?_
  refine v_getI (f := 1) cf2 (okB_ok ho) rfl (by decide) q341 dX2_add_2 ?_
  refine v_iconst dX2_add_5 ?_
  refine v_iadd dX2_add_6 ?_
  obtain ⟨s1, e2, h⟩ := bdv_some h
  have k3 := c_X2_ready e2 ho (w32_rg _)
  refine v_callV (st := []) cf2 (okB_ok ho) k3 (lw_V q1006 q1008 qs2 q299 q1009) rfl yk_X2_ready ⟨Nat.le_of_ble_eq_true rfl, Nat.le_of_ble_eq_true rfl⟩ trivial ⟨(okB_kp ho (by decide)), trivial⟩ (Nat.le_of_ble_eq_true rfl) rfl dX2_add_7 ?_
  refine v_aload_n dX2_add_10 0 rfl rfl ?_
  refine v_getS (f := 0) (t := o + 1) cf2 (okB_ok ho) rfl rfl rfl (by decide) q340 dX2_add_11 ?_
  refine v_aload_n dX2_add_14 0 rfl rfl ?_
  refine v_getI (f := 1) cf2 (okB_ok ho) rfl (by decide) q341 dX2_add_15 ?_
  refine v_iload_n dX2_add_18 1 rfl rfl ?_
  refine v_i2b dX2_add_19 ?_
  obtain ⟨g4, h⟩ := gd_some h
  obtain ⟨s5, e6, h⟩ := stp_some h
  refine v_bast (okB_ok (ch_1_0 ho)) (gI_rg _ _ _) g4.1 g4.2 dX2_add_20 ?_
  rw [← e6]
  refine v_aload_n dX2_add_21 0 rfl rfl ?_
  refine v_dupO dX2_add_22 ?_
  refine v_getI (f := 1) cf2 (okB_ok ho) rfl (by decide) q341 dX2_add_23 ?_
  refine v_iconst dX2_add_26 ?_
  refine v_iadd dX2_add_27 ?_
  obtain ⟨s7, e8, h⟩ := stp_some h
  refine v_putI (f := 1) cf2 (okB_ok ho) rfl (by decide) q341 dX2_add_28 rfl rfl ?_
  rw [← e8]
  cases h
  exact v_vret dX2_add_31

def E_X1_word_3 (rv : Option vA) (σo : vS) (q : vS) : Prop := ∀ (s' : vS), q = s' → VW cX1_word (RX1, rv, σo, none, 3, 70, 3, []) (P0 []) s' 27 [] []
def l_X1_word_3 : Nat → Int → Int → vS → Option (vS)
  | 0, _, _, _ => none
  | n + 1, x1, x2, s =>
    if x2 < 0 then
      some s
    else
      bdv (f_X2_add 1 (and32 (shr32 x1 x2) 255) s) fun s2 =>
      vl (w32 (x2 + (-8))) fun y5 =>
      l_X1_word_3 n x1 y5 s2
theorem wl_X1_word_3 {x1 : Int} {rv : Option vA} {σo : vS}  (rx1 : rg x1) : ∀ (n : Nat) (x2 : Int) (s : vS) (q : vS), l_X1_word_3 n x1 x2 s = some q → rg x2 → E_X1_word_3 rv σo q → VW cX1_word (RX1, rv, σo, none, 3, 70, 3, []) (P0 []) s 3 [(0, vO 0), (1, vI x1), (2, vI x2)] [] := by
  intro n
  induction n with
  | zero => intro x2 s q h; cases h
  | succ n ih =>
    intro x2 s q h rx2 hE
    unfold l_X1_word_3 at h
    refine v_iload_n dX1_word_3 2 rfl rfl ?_
    refine v_if_lt (tgt := 27) dX1_word_4 rx2 (by decide) (fun c1 => ?_) (fun c1 => ?_)
    · rw [if_pos c1] at h
      cases h
      refine v_sub [] (L1 := []) rfl ?_
      exact hE _ rfl 
    · rw [if_neg c1] at h
      refine v_aload_n dX1_word_7 0 rfl rfl ?_
      refine v_getS (f := 0) (t := 1) cf1 oc0 rfl rfl rfl (by decide) q861 dX1_word_8 ?_
      refine v_iload_n dX1_word_11 1 rfl rfl ?_
      refine v_iload_n dX1_word_12 2 rfl rfl ?_
      refine v_ishr dX1_word_13 ?_
      refine v_sipush dX1_word_14 rfl ?_
      refine v_iand dX1_word_17 ?_
      obtain ⟨s2, e3, h⟩ := bdv_some h
      have k4 := c_X2_add e3 (⟨by decide, rfl⟩ : okB 1 1) (and32_rg _ _)
      refine v_callV (st := []) cf2 oc1 k4 (lw_V q1002 q1003 q1004 q299 q1005) rfl yk_X2_add ⟨Nat.le_of_ble_eq_true rfl, Nat.le_of_ble_eq_true rfl⟩ trivial ⟨kc0, trivial⟩ (Nat.le_of_ble_eq_true rfl) rfl dX1_word_18 ?_
      obtain ⟨y5, e6, h⟩ := vl_some h
      refine v_iinc (L1 := [(2, vI (w32 (x2 + (-8)))), (0, vO 0), (1, vI x1)]) dX1_word_21 2 rfl (by decide) rfl ?_
      rw [← e6]
      have r7 : rg y5 := by rw [e6]; exact w32_rg _
      refine v_goto (tgt := 3) dX1_word_24 (by decide) ?_
      refine v_sub [1, 2, 0] (L1 := [(0, vO 0), (1, vI x1), (2, vI y5)]) rfl ?_
      exact ih y5 s2 _ h r7 hE

def f_X1_word (x1 : Int) (s : vS) : Option (vS) :=
  lq_0 (l_X1_word_3 FU x1 24 s) fun s1 =>
  some s1
theorem yk_X1_word : yOk yX1_word 1 := ⟨by decide, by decide, by decide +kernel⟩
theorem c_X1_word {x1 : Int} {s : vS} {out : vS} (h : f_X1_word x1 s = some out)  (rx1 : rg x1) : VC yX1_word cX1_word 3 none 3 70 [vO 0, vI x1] s none out [] := by
  unfold f_X1_word at h
  refine VC.of RX1 (by decide) rfl (Nat.le_of_ble_eq_true rfl) ?_
  show VW cX1_word (RX1, none, out, none, 3, 70, 3, []) (P0 []) s 0 [(0, vO 0), (1, vI x1)] []
  refine v_bipush dX1_word_0 rfl ?_
  refine v_istore_n (L1 := [(2, vI 24), (0, vO 0), (1, vI x1)]) dX1_word_2 rfl (by decide) rfl ?_
  refine v_sub [1, 2, 0] (L1 := [(0, vO 0), (1, vI x1), (2, vI 24)]) rfl ?_
  obtain ⟨s1, e2, h⟩ := lq_0_some h
  refine wl_X1_word_3 rx1 FU 24 s _ e2 (rgl rfl) ?_
  unfold E_X1_word_3
  intro s1' z_
  cases z_
  cases h
  exact v_vret dX1_word_27

def j_X1_feed_20 (x1 : Int) (x2 : Int) (x3 : Int) (x4 : Int) (x5 : Int) (z0 : Int) (s : vS) : Option ((Int × vS) ⊕ (Nat × vS)) :=
  bxv (f_X1_can z0 s) fun s1 =>
  nx <|
  bdv (f_X1_word x1 s1) fun s4 =>
  bdv (f_X1_word x2 s4) fun s7 =>
  bdv (f_X1_word x3 s7) fun s10 =>
  bdv (f_X1_word x4 s10) fun s13 =>
  bdv (f_X1_word x5 s13) fun s16 =>
  bd (f_X2_size 1 s16) fun r22 s19 =>
  some (r22, s19)
theorem wj_X1_feed_20 {x1 : Int} {x2 : Int} {x3 : Int} {x4 : Int} {x5 : Int} {z0 : Int} {s : vS} {out : Int × vS} (h : j_X1_feed_20 x1 x2 x3 x4 x5 z0 s = some (.inl out))  (rx1 : rg x1) (rx2 : rg x2) (rx3 : rg x3) (rx4 : rg x4) (rx5 : rg x5) (rz0 : rg z0) : VW cX1_feed (RX1, (some (vI out.1)), out.2, (some .int), 7, 109, 6, []) (P0 []) s 20 [(0, vO 0), (1, vI x1), (2, vI x2), (3, vI x3), (4, vI x4), (5, vI x5)] [vI z0] := by
  unfold j_X1_feed_20 at h
  obtain ⟨s1, e2, h⟩ := bxv_inl h
  have k3 := c_X1_can e2 rz0
  refine v_callS (st := []) k3 (lw_S q930 q931 q298 q932) yk_X1_can ⟨Nat.le_of_ble_eq_true rfl, Nat.le_of_ble_eq_true rfl⟩ trivial ⟨kc0, trivial⟩ (Nat.le_of_ble_eq_true rfl) rfl dX1_feed_20 ?_
  have h := nx_some h
  refine v_aload_n dX1_feed_23 0 rfl rfl ?_
  refine v_iload_n dX1_feed_24 1 rfl rfl ?_
  obtain ⟨s4, e5, h⟩ := bdv_some h
  have k6 := c_X1_word e5 rx1
  refine v_callV (st := []) cf1 oc0 k6 (lw_V q998 q1000 qs1 q298 q1001) rfl yk_X1_word ⟨Nat.le_of_ble_eq_true rfl, Nat.le_of_ble_eq_true rfl⟩ trivial ⟨kc0, trivial⟩ (Nat.le_of_ble_eq_true rfl) rfl dX1_feed_25 ?_
  refine v_aload_n dX1_feed_28 0 rfl rfl ?_
  refine v_iload_n dX1_feed_29 2 rfl rfl ?_
  obtain ⟨s7, e8, h⟩ := bdv_some h
  have k9 := c_X1_word e8 rx2
  refine v_callV (st := []) cf1 oc0 k9 (lw_V q998 q1000 qs1 q298 q1001) rfl yk_X1_word ⟨Nat.le_of_ble_eq_true rfl, Nat.le_of_ble_eq_true rfl⟩ trivial ⟨kc0, trivial⟩ (Nat.le_of_ble_eq_true rfl) rfl dX1_feed_30 ?_
  refine v_aload_n dX1_feed_33 0 rfl rfl ?_
  refine v_iload_n dX1_feed_34 3 rfl rfl ?_
  obtain ⟨s10, e11, h⟩ := bdv_some h
  have k12 := c_X1_word e11 rx3
  refine v_callV (st := []) cf1 oc0 k12 (lw_V q998 q1000 qs1 q298 q1001) rfl yk_X1_word ⟨Nat.le_of_ble_eq_true rfl, Nat.le_of_ble_eq_true rfl⟩ trivial ⟨kc0, trivial⟩ (Nat.le_of_ble_eq_true rfl) rfl dX1_feed_35 ?_
  refine v_aload_n dX1_feed_38 0 rfl rfl ?_
  refine v_iload dX1_feed_39 4 rfl ?_
  obtain ⟨s13, e14, h⟩ := bdv_some h
  have k15 := c_X1_word e14 rx4
  refine v_callV (st := []) cf1 oc0 k15 (lw_V q998 q1000 qs1 q298 q1001) rfl yk_X1_word ⟨Nat.le_of_ble_eq_true rfl, Nat.le_of_ble_eq_true rfl⟩ trivial ⟨kc0, trivial⟩ (Nat.le_of_ble_eq_true rfl) rfl dX1_feed_41 ?_
  refine v_aload_n dX1_feed_44 0 rfl rfl ?_
  refine v_iload dX1_feed_45 5 rfl ?_
  obtain ⟨s16, e17, h⟩ := bdv_some h
  have k18 := c_X1_word e17 rx5
  refine v_callV (st := []) cf1 oc0 k18 (lw_V q998 q1000 qs1 q298 q1001) rfl yk_X1_word ⟨Nat.le_of_ble_eq_true rfl, Nat.le_of_ble_eq_true rfl⟩ trivial ⟨kc0, trivial⟩ (Nat.le_of_ble_eq_true rfl) rfl dX1_feed_47 ?_
  refine v_aload_n dX1_feed_50 0 rfl rfl ?_
  refine v_getS (f := 0) (t := 1) cf1 oc0 rfl rfl rfl (by decide) q861 dX1_feed_51 ?_
  obtain ⟨r22, s19, e20, h⟩ := bd_some h
  have k21 := c_X2_size e20 (⟨by decide, rfl⟩ : okB 1 1)
  have r23 : rg r22 := k21.1.2.2
  refine v_callV (st := []) cf2 oc1 k21 (lw_V q917 q918 q919 q299 q920) rfl yk_X2_size ⟨Nat.le_of_ble_eq_true rfl, Nat.le_of_ble_eq_true rfl⟩ trivial ⟨kc0, trivial⟩ (Nat.le_of_ble_eq_true rfl) rfl dX1_feed_54 ?_
  cases h
  exact v_iret r23 dX1_feed_57

def f_X1_feed (x1 : Int) (x2 : Int) (x3 : Int) (x4 : Int) (x5 : Int) (s : vS) : Option ((Int × vS) ⊕ (Nat × vS)) :=
  bd (f_X2_size 1 s) fun r4 s1 =>
  if 32768 < (w32 (r4 + 20)) then
    j_X1_feed_20 x1 x2 x3 x4 x5 0 s1
  else
    j_X1_feed_20 x1 x2 x3 x4 x5 1 s1
theorem yk_X1_feed : yOk yX1_feed 5 := ⟨by decide, by decide, by decide +kernel⟩
theorem c_X1_feed {x1 : Int} {x2 : Int} {x3 : Int} {x4 : Int} {x5 : Int} {s : vS} {out : Int × vS} (h : f_X1_feed x1 x2 x3 x4 x5 s = some (.inl out))  (rx1 : rg x1) (rx2 : rg x2) (rx3 : rg x3) (rx4 : rg x4) (rx5 : rg x5) : VC yX1_feed cX1_feed 6 (some .int) 7 109 [vO 0, vI x1, vI x2, vI x3, vI x4, vI x5] s (some (vI out.1)) out.2 [] := by
  unfold f_X1_feed at h
  refine VC.of RX1 (by decide) rfl (Nat.le_of_ble_eq_true rfl) ?_
  show VW cX1_feed (RX1, (some (vI out.1)), out.2, (some .int), 7, 109, 6, []) (P0 []) s 0 [(0, vO 0), (1, vI x1), (2, vI x2), (3, vI x3), (4, vI x4), (5, vI x5)] []
  refine v_aload_n dX1_feed_0 0 rfl rfl ?_
  refine v_getS (f := 0) (t := 1) cf1 oc0 rfl rfl rfl (by decide) q861 dX1_feed_1 ?_
  obtain ⟨r4, s1, e2, h⟩ := bd_some h
  have k3 := c_X2_size e2 (⟨by decide, rfl⟩ : okB 1 1)
  have r5 : rg r4 := k3.1.2.2
  refine v_callV (st := []) cf2 oc1 k3 (lw_V q917 q918 q919 q299 q920) rfl yk_X2_size ⟨Nat.le_of_ble_eq_true rfl, Nat.le_of_ble_eq_true rfl⟩ trivial ⟨kc0, trivial⟩ (Nat.le_of_ble_eq_true rfl) rfl dX1_feed_4 ?_
  refine v_bipush dX1_feed_7 rfl ?_
  refine v_iadd dX1_feed_9 ?_
  refine v_ldc (n := 32768) dX1_feed_10 q929 rfl ?_
  refine v_icmp_gt (tgt := 19) dX1_feed_12 (w32_rg _) (rgl rfl) (by decide) (fun c6 => ?_) (fun c6 => ?_)
  · rw [if_pos c6] at h
    refine v_iconst dX1_feed_19 ?_
    exact wj_X1_feed_20 h rx1 rx2 rx3 rx4 rx5 (rgl rfl)
  · rw [if_neg c6] at h
    refine v_iconst dX1_feed_15 ?_
    refine v_goto (tgt := 20) dX1_feed_16 (by decide) ?_
    exact wj_X1_feed_20 h rx1 rx2 rx3 rx4 rx5 (rgl rfl)
theorem tj_X1_feed_20 {x1 : Int} {x2 : Int} {x3 : Int} {x4 : Int} {x5 : Int} {z0 : Int} {s : vS} {q : Nat × vS} (h : j_X1_feed_20 x1 x2 x3 x4 x5 z0 s = some (.inr q))  (rx1 : rg x1) (rx2 : rg x2) (rx3 : rg x3) (rx4 : rg x4) (rx5 : rg x5) (rz0 : rg z0) : VW cX1_feed (tB (exE q.1) RX1 q.2 7 109 6) (P0 []) s 20 [(0, vO 0), (1, vI x1), (2, vI x2), (3, vI x3), (4, vI x4), (5, vI x5)] [vI z0] := by
  unfold j_X1_feed_20 at h
  rcases bxv_inr h with e9 | ⟨s1, e2, h⟩
  · exact v_callXS (st := []) (t_X1_can e9 rz0) (lw_S q930 q931 q298 q932) yk_X1_can ⟨Nat.le_of_ble_eq_true rfl, Nat.le_of_ble_eq_true rfl⟩ (Nat.le_of_ble_eq_true rfl) rfl dX1_feed_20
  have k3 := c_X1_can e2 rz0
  refine v_callS (st := []) k3 (lw_S q930 q931 q298 q932) yk_X1_can ⟨Nat.le_of_ble_eq_true rfl, Nat.le_of_ble_eq_true rfl⟩ trivial ⟨kc0, trivial⟩ (Nat.le_of_ble_eq_true rfl) rfl dX1_feed_20 ?_
  exact (nx_no h).elim

theorem t_X1_feed {x1 : Int} {x2 : Int} {x3 : Int} {x4 : Int} {x5 : Int} {s : vS} {q : Nat × vS} (h : f_X1_feed x1 x2 x3 x4 x5 s = some (.inr q))  (rx1 : rg x1) (rx2 : rg x2) (rx3 : rg x3) (rx4 : rg x4) (rx5 : rg x5) : VT yX1_feed cX1_feed 6 (some .int) 7 109 [vO 0, vI x1, vI x2, vI x3, vI x4, vI x5] s (exE q.1) q.2 := by
  unfold f_X1_feed at h
  refine VT.of RX1 (by decide) rfl (Nat.le_of_ble_eq_true rfl) ?_
  show VW cX1_feed (tB (exE q.1) RX1 q.2 7 109 6) (P0 []) s 0 [(0, vO 0), (1, vI x1), (2, vI x2), (3, vI x3), (4, vI x4), (5, vI x5)] []
  refine v_aload_n dX1_feed_0 0 rfl rfl ?_
  refine v_getS (f := 0) (t := 1) cf1 oc0 rfl rfl rfl (by decide) q861 dX1_feed_1 ?_
  obtain ⟨r4, s1, e2, h⟩ := bd_some h
  have k3 := c_X2_size e2 (⟨by decide, rfl⟩ : okB 1 1)
  have r5 : rg r4 := k3.1.2.2
  refine v_callV (st := []) cf2 oc1 k3 (lw_V q917 q918 q919 q299 q920) rfl yk_X2_size ⟨Nat.le_of_ble_eq_true rfl, Nat.le_of_ble_eq_true rfl⟩ trivial ⟨kc0, trivial⟩ (Nat.le_of_ble_eq_true rfl) rfl dX1_feed_4 ?_
  refine v_bipush dX1_feed_7 rfl ?_
  refine v_iadd dX1_feed_9 ?_
  refine v_ldc (n := 32768) dX1_feed_10 q929 rfl ?_
  refine v_icmp_gt (tgt := 19) dX1_feed_12 (w32_rg _) (rgl rfl) (by decide) (fun c6 => ?_) (fun c6 => ?_)
  · rw [if_pos c6] at h
    refine v_iconst dX1_feed_19 ?_
    exact tj_X1_feed_20 h rx1 rx2 rx3 rx4 rx5 (rgl rfl)
  · rw [if_neg c6] at h
    refine v_iconst dX1_feed_15 ?_
    refine v_goto (tgt := 20) dX1_feed_16 (by decide) ?_
    exact tj_X1_feed_20 h rx1 rx2 rx3 rx4 rx5 (rgl rfl)

def f_X2_cut (o : Nat) (x1 : Int) (s : vS) : Option (vS) :=
  stp (sI s o 1 x1) fun s1 =>
  some s1
theorem yk_X2_cut : yOk yX2_cut 1 := ⟨by decide, by decide, by decide +kernel⟩
theorem c_X2_cut {o : Nat} {x1 : Int} {s : vS} {out : vS} (h : f_X2_cut o x1 s = some out) (ho : okB o 1) (rx1 : rg x1) : VC yX2_cut cX2_cut 2 none 0 0 [vO o, vI x1] s none out [] := by
  unfold f_X2_cut at h
  refine VC.of RX2 (by decide) rfl (Nat.le_of_ble_eq_true rfl) ?_
  show VW cX2_cut (RX2, none, out, none, 0, 0, 2, []) (P0 []) s 0 [(0, vO o), (1, vI x1)] []
  refine v_aload_n dX2_cut_0 0 rfl rfl ?_
  refine v_iload_n dX2_cut_1 1 rfl rfl ?_
  obtain ⟨s1, e2, h⟩ := stp_some h
  refine v_putI (f := 1) cf2 (okB_ok ho) rfl (by decide) q341 dX2_cut_2 rfl rfl ?_
  rw [← e2]
  cases h
  exact v_vret dX2_cut_5

def j_X1_end_35 (x1 : Int) (z0 : Int) (s : vS) : Option ((Int × vS) ⊕ (Nat × vS)) :=
  bxv (f_X1_can z0 s) fun s1 =>
  nx <|
  bd (f_X2_size 1 s1) fun r7 s4 =>
  bdv (f_X2_cut 1 (w32 ((w32 (r7 - 20)) + x1)) s4) fun s9 =>
  bd (f_X2_size 1 s9) fun r15 s12 =>
  some (r15, s12)
theorem wj_X1_end_35 {x1 : Int} {z0 : Int} {s : vS} {out : Int × vS} (h : j_X1_end_35 x1 z0 s = some (.inl out))  (rx1 : rg x1) (rz0 : rg z0) : VW cX1_end (RX1, (some (vI out.1)), out.2, (some .int), 7, 109, 2, []) (P0 []) s 35 [(0, vO 0), (1, vI x1)] [vI z0] := by
  unfold j_X1_end_35 at h
  obtain ⟨s1, e2, h⟩ := bxv_inl h
  have k3 := c_X1_can e2 rz0
  refine v_callS (st := []) k3 (lw_S q930 q931 q298 q932) yk_X1_can ⟨Nat.le_of_ble_eq_true rfl, Nat.le_of_ble_eq_true rfl⟩ trivial ⟨kc0, trivial⟩ (Nat.le_of_ble_eq_true rfl) rfl dX1_end_35 ?_
  have h := nx_some h
  refine v_aload_n dX1_end_38 0 rfl rfl ?_
  refine v_getS (f := 0) (t := 1) cf1 oc0 rfl rfl rfl (by decide) q861 dX1_end_39 ?_
  refine v_aload_n dX1_end_42 0 rfl rfl ?_
  refine v_getS (f := 0) (t := 1) cf1 oc0 rfl rfl rfl (by decide) q861 dX1_end_43 ?_
  obtain ⟨r7, s4, e5, h⟩ := bd_some h
  have k6 := c_X2_size e5 (⟨by decide, rfl⟩ : okB 1 1)
  have r8 : rg r7 := k6.1.2.2
  refine v_callV (st := [vO 1]) cf2 oc1 k6 (lw_V q917 q918 q919 q299 q920) rfl yk_X2_size ⟨Nat.le_of_ble_eq_true rfl, Nat.le_of_ble_eq_true rfl⟩ ⟨kc1, trivial⟩ ⟨kc0, trivial⟩ (Nat.le_of_ble_eq_true rfl) rfl dX1_end_46 ?_
  refine v_bipush dX1_end_49 rfl ?_
  refine v_isub dX1_end_51 ?_
  refine v_iload_n dX1_end_52 1 rfl rfl ?_
  refine v_iadd dX1_end_53 ?_
  obtain ⟨s9, e10, h⟩ := bdv_some h
  have k11 := c_X2_cut e10 (⟨by decide, rfl⟩ : okB 1 1) (w32_rg _)
  refine v_callV (st := []) cf2 oc1 k11 (lw_V q1039 q1040 q1041 q299 q1042) rfl yk_X2_cut ⟨Nat.le_of_ble_eq_true rfl, Nat.le_of_ble_eq_true rfl⟩ trivial ⟨kc0, trivial⟩ (Nat.le_of_ble_eq_true rfl) rfl dX1_end_54 ?_
  refine v_aload_n dX1_end_57 0 rfl rfl ?_
  refine v_getS (f := 0) (t := 1) cf1 oc0 rfl rfl rfl (by decide) q861 dX1_end_58 ?_
  obtain ⟨r15, s12, e13, h⟩ := bd_some h
  have k14 := c_X2_size e13 (⟨by decide, rfl⟩ : okB 1 1)
  have r16 : rg r15 := k14.1.2.2
  refine v_callV (st := []) cf2 oc1 k14 (lw_V q917 q918 q919 q299 q920) rfl yk_X2_size ⟨Nat.le_of_ble_eq_true rfl, Nat.le_of_ble_eq_true rfl⟩ trivial ⟨kc0, trivial⟩ (Nat.le_of_ble_eq_true rfl) rfl dX1_end_61 ?_
  cases h
  exact v_iret r16 dX1_end_64

def j_X1_end_15 (x1 : Int) (z0 : Int) (s : vS) : Option ((Int × vS) ⊕ (Nat × vS)) :=
  bxv (f_X1_right z0 s) fun s1 =>
  bd (f_X2_size 1 s1) fun r7 s4 =>
  if r7 < 20 then
    j_X1_end_35 x1 0 s4
  else
    j_X1_end_35 x1 1 s4
theorem wj_X1_end_15 {x1 : Int} {z0 : Int} {s : vS} {out : Int × vS} (h : j_X1_end_15 x1 z0 s = some (.inl out))  (rx1 : rg x1) (rz0 : rg z0) : VW cX1_end (RX1, (some (vI out.1)), out.2, (some .int), 7, 109, 2, []) (P0 []) s 15 [(0, vO 0), (1, vI x1)] [vI z0] := by
  unfold j_X1_end_15 at h
  obtain ⟨s1, e2, h⟩ := bxv_inl h
  have k3 := c_X1_right e2 rz0
  refine v_callS (st := []) k3 (lw_S q1021 q1022 q298 q1023) yk_X1_right ⟨Nat.le_of_ble_eq_true rfl, Nat.le_of_ble_eq_true rfl⟩ trivial ⟨kc0, trivial⟩ (Nat.le_of_ble_eq_true rfl) rfl dX1_end_15 ?_
  refine v_aload_n dX1_end_18 0 rfl rfl ?_
  refine v_getS (f := 0) (t := 1) cf1 oc0 rfl rfl rfl (by decide) q861 dX1_end_19 ?_
  obtain ⟨r7, s4, e5, h⟩ := bd_some h
  have k6 := c_X2_size e5 (⟨by decide, rfl⟩ : okB 1 1)
  have r8 : rg r7 := k6.1.2.2
  refine v_callV (st := []) cf2 oc1 k6 (lw_V q917 q918 q919 q299 q920) rfl yk_X2_size ⟨Nat.le_of_ble_eq_true rfl, Nat.le_of_ble_eq_true rfl⟩ trivial ⟨kc0, trivial⟩ (Nat.le_of_ble_eq_true rfl) rfl dX1_end_22 ?_
  refine v_bipush dX1_end_25 rfl ?_
  refine v_icmp_lt (tgt := 34) dX1_end_27 r8 (rgl rfl) (by decide) (fun c9 => ?_) (fun c9 => ?_)
  · rw [if_pos c9] at h
    refine v_iconst dX1_end_34 ?_
    exact wj_X1_end_35 h rx1 (rgl rfl)
  · rw [if_neg c9] at h
    refine v_iconst dX1_end_30 ?_
    refine v_goto (tgt := 35) dX1_end_31 (by decide) ?_
    exact wj_X1_end_35 h rx1 (rgl rfl)

def f_X1_end (x1 : Int) (s : vS) : Option ((Int × vS) ⊕ (Nat × vS)) :=
  if x1 < 0 then
    j_X1_end_15 x1 0 s
  else
    if 20 < x1 then
      j_X1_end_15 x1 0 s
    else
      j_X1_end_15 x1 1 s
theorem yk_X1_end : yOk yX1_end 1 := ⟨by decide, by decide, by decide +kernel⟩
theorem c_X1_end {x1 : Int} {s : vS} {out : Int × vS} (h : f_X1_end x1 s = some (.inl out))  (rx1 : rg x1) : VC yX1_end cX1_end 2 (some .int) 7 109 [vO 0, vI x1] s (some (vI out.1)) out.2 [] := by
  unfold f_X1_end at h
  refine VC.of RX1 (by decide) rfl (Nat.le_of_ble_eq_true rfl) ?_
  show VW cX1_end (RX1, (some (vI out.1)), out.2, (some .int), 7, 109, 2, []) (P0 []) s 0 [(0, vO 0), (1, vI x1)] []
  refine v_iload_n dX1_end_0 1 rfl rfl ?_
  refine v_if_lt (tgt := 14) dX1_end_1 rx1 (by decide) (fun c1 => ?_) (fun c1 => ?_)
  · rw [if_pos c1] at h
    refine v_iconst dX1_end_14 ?_
    exact wj_X1_end_15 h rx1 (rgl rfl)
  · rw [if_neg c1] at h
    refine v_iload_n dX1_end_4 1 rfl rfl ?_
    refine v_bipush dX1_end_5 rfl ?_
    refine v_icmp_gt (tgt := 14) dX1_end_7 rx1 (rgl rfl) (by decide) (fun c2 => ?_) (fun c2 => ?_)
    · rw [if_pos c2] at h
      refine v_iconst dX1_end_14 ?_
      exact wj_X1_end_15 h rx1 (rgl rfl)
    · rw [if_neg c2] at h
      refine v_iconst dX1_end_10 ?_
      refine v_goto (tgt := 15) dX1_end_11 (by decide) ?_
      exact wj_X1_end_15 h rx1 (rgl rfl)
theorem tj_X1_end_35 {x1 : Int} {z0 : Int} {s : vS} {q : Nat × vS} (h : j_X1_end_35 x1 z0 s = some (.inr q))  (rx1 : rg x1) (rz0 : rg z0) : VW cX1_end (tB (exE q.1) RX1 q.2 7 109 2) (P0 []) s 35 [(0, vO 0), (1, vI x1)] [vI z0] := by
  unfold j_X1_end_35 at h
  rcases bxv_inr h with e9 | ⟨s1, e2, h⟩
  · exact v_callXS (st := []) (t_X1_can e9 rz0) (lw_S q930 q931 q298 q932) yk_X1_can ⟨Nat.le_of_ble_eq_true rfl, Nat.le_of_ble_eq_true rfl⟩ (Nat.le_of_ble_eq_true rfl) rfl dX1_end_35
  have k3 := c_X1_can e2 rz0
  refine v_callS (st := []) k3 (lw_S q930 q931 q298 q932) yk_X1_can ⟨Nat.le_of_ble_eq_true rfl, Nat.le_of_ble_eq_true rfl⟩ trivial ⟨kc0, trivial⟩ (Nat.le_of_ble_eq_true rfl) rfl dX1_end_35 ?_
  exact (nx_no h).elim

theorem tj_X1_end_15 {x1 : Int} {z0 : Int} {s : vS} {q : Nat × vS} (h : j_X1_end_15 x1 z0 s = some (.inr q))  (rx1 : rg x1) (rz0 : rg z0) : VW cX1_end (tB (exE q.1) RX1 q.2 7 109 2) (P0 []) s 15 [(0, vO 0), (1, vI x1)] [vI z0] := by
  unfold j_X1_end_15 at h
  rcases bxv_inr h with e9 | ⟨s1, e2, h⟩
  · exact v_callXS (st := []) (t_X1_right e9 rz0) (lw_S q1021 q1022 q298 q1023) yk_X1_right ⟨Nat.le_of_ble_eq_true rfl, Nat.le_of_ble_eq_true rfl⟩ (Nat.le_of_ble_eq_true rfl) rfl dX1_end_15
  have k3 := c_X1_right e2 rz0
  refine v_callS (st := []) k3 (lw_S q1021 q1022 q298 q1023) yk_X1_right ⟨Nat.le_of_ble_eq_true rfl, Nat.le_of_ble_eq_true rfl⟩ trivial ⟨kc0, trivial⟩ (Nat.le_of_ble_eq_true rfl) rfl dX1_end_15 ?_
  refine v_aload_n dX1_end_18 0 rfl rfl ?_
  refine v_getS (f := 0) (t := 1) cf1 oc0 rfl rfl rfl (by decide) q861 dX1_end_19 ?_
  obtain ⟨r7, s4, e5, h⟩ := bd_some h
  have k6 := c_X2_size e5 (⟨by decide, rfl⟩ : okB 1 1)
  have r8 : rg r7 := k6.1.2.2
  refine v_callV (st := []) cf2 oc1 k6 (lw_V q917 q918 q919 q299 q920) rfl yk_X2_size ⟨Nat.le_of_ble_eq_true rfl, Nat.le_of_ble_eq_true rfl⟩ trivial ⟨kc0, trivial⟩ (Nat.le_of_ble_eq_true rfl) rfl dX1_end_22 ?_
  refine v_bipush dX1_end_25 rfl ?_
  refine v_icmp_lt (tgt := 34) dX1_end_27 r8 (rgl rfl) (by decide) (fun c9 => ?_) (fun c9 => ?_)
  · rw [if_pos c9] at h
    refine v_iconst dX1_end_34 ?_
    exact tj_X1_end_35 h rx1 (rgl rfl)
  · rw [if_neg c9] at h
    refine v_iconst dX1_end_30 ?_
    refine v_goto (tgt := 35) dX1_end_31 (by decide) ?_
    exact tj_X1_end_35 h rx1 (rgl rfl)

theorem t_X1_end {x1 : Int} {s : vS} {q : Nat × vS} (h : f_X1_end x1 s = some (.inr q))  (rx1 : rg x1) : VT yX1_end cX1_end 2 (some .int) 7 109 [vO 0, vI x1] s (exE q.1) q.2 := by
  unfold f_X1_end at h
  refine VT.of RX1 (by decide) rfl (Nat.le_of_ble_eq_true rfl) ?_
  show VW cX1_end (tB (exE q.1) RX1 q.2 7 109 2) (P0 []) s 0 [(0, vO 0), (1, vI x1)] []
  refine v_iload_n dX1_end_0 1 rfl rfl ?_
  refine v_if_lt (tgt := 14) dX1_end_1 rx1 (by decide) (fun c1 => ?_) (fun c1 => ?_)
  · rw [if_pos c1] at h
    refine v_iconst dX1_end_14 ?_
    exact tj_X1_end_15 h rx1 (rgl rfl)
  · rw [if_neg c1] at h
    refine v_iload_n dX1_end_4 1 rfl rfl ?_
    refine v_bipush dX1_end_5 rfl ?_
    refine v_icmp_gt (tgt := 14) dX1_end_7 rx1 (rgl rfl) (by decide) (fun c2 => ?_) (fun c2 => ?_)
    · rw [if_pos c2] at h
      refine v_iconst dX1_end_14 ?_
      exact tj_X1_end_15 h rx1 (rgl rfl)
    · rw [if_neg c2] at h
      refine v_iconst dX1_end_10 ?_
      refine v_goto (tgt := 15) dX1_end_11 (by decide) ?_
      exact tj_X1_end_15 h rx1 (rgl rfl)

def f_X1_forget (s : vS) : Option (vS) :=
  stp (sI s 0 10 0) fun s1 =>
  stp (sI s1 0 11 0) fun s3 =>
  stp (sI s3 0 12 0) fun s5 =>
  some s5
theorem yk_X1_forget : yOk yX1_forget 0 := ⟨by decide, by decide, by decide +kernel⟩
theorem c_X1_forget {s : vS} {out : vS} (h : f_X1_forget s = some out)   : VC yX1_forget cX1_forget 1 none 0 0 [vO 0] s none out [] := by
  unfold f_X1_forget at h
  refine VC.of RX1 (by decide) rfl (Nat.le_of_ble_eq_true rfl) ?_
  show VW cX1_forget (RX1, none, out, none, 0, 0, 1, []) (P0 []) s 0 [(0, vO 0)] []
  refine v_aload_n dX1_forget_0 0 rfl rfl ?_
  refine v_iconst dX1_forget_1 ?_
  obtain ⟨s1, e2, h⟩ := stp_some h
  refine v_putI (f := 10) cf1 oc0 rfl (by decide) q871 dX1_forget_2 rfl rfl ?_
  rw [← e2]
  refine v_aload_n dX1_forget_5 0 rfl rfl ?_
  refine v_iconst dX1_forget_6 ?_
  obtain ⟨s3, e4, h⟩ := stp_some h
  refine v_putI (f := 11) cf1 oc0 rfl (by decide) q872 dX1_forget_7 rfl rfl ?_
  rw [← e4]
  refine v_aload_n dX1_forget_10 0 rfl rfl ?_
  refine v_iconst dX1_forget_11 ?_
  obtain ⟨s5, e6, h⟩ := stp_some h
  refine v_putI (f := 12) cf1 oc0 rfl (by decide) q873 dX1_forget_12 rfl rfl ?_
  rw [← e6]
  cases h
  exact v_vret dX1_forget_15

def j_X1_tell_19 (z0 : Int) (s : vS) : Option ((vS) ⊕ (Nat × vS)) :=
  bxv (f_X1_right z0 s) fun s1 =>
  nx <|
  some s1
theorem wj_X1_tell_19 {z0 : Int} {s : vS} {out : vS} (h : j_X1_tell_19 z0 s = some (.inl out))  (rz0 : rg z0) : VW cX1_tell (RX1, none, out, none, 7, 109, 3, []) (P0 []) s 19 [] [vI z0] := by
  unfold j_X1_tell_19 at h
  obtain ⟨s1, e2, h⟩ := bxv_inl h
  have k3 := c_X1_right e2 rz0
  refine v_callS (st := []) k3 (lw_S q1021 q1022 q298 q1023) yk_X1_right ⟨Nat.le_of_ble_eq_true rfl, Nat.le_of_ble_eq_true rfl⟩ trivial trivial (Nat.le_of_ble_eq_true rfl) rfl dX1_tell_19 ?_
  have h := nx_some h
  cases h
  exact v_vret dX1_tell_22

def f_X1_tell (x1 : Int) (x2 : Int) (s : vS) : Option ((vS) ⊕ (Nat × vS)) :=
  stp (sI s 0 14 x1) fun s1 =>
  stp (sI s1 0 15 x2) fun s3 =>
  if x1 = 0 then
    j_X1_tell_19 1 s3
  else
    j_X1_tell_19 0 s3
theorem yk_X1_tell : yOk yX1_tell 2 := ⟨by decide, by decide, by decide +kernel⟩
theorem c_X1_tell {x1 : Int} {x2 : Int} {s : vS} {out : vS} (h : f_X1_tell x1 x2 s = some (.inl out))  (rx1 : rg x1) (rx2 : rg x2) : VC yX1_tell cX1_tell 3 none 7 109 [vO 0, vI x1, vI x2] s none out [] := by
  unfold f_X1_tell at h
  refine VC.of RX1 (by decide) rfl (Nat.le_of_ble_eq_true rfl) ?_
  show VW cX1_tell (RX1, none, out, none, 7, 109, 3, []) (P0 []) s 0 [(0, vO 0), (1, vI x1), (2, vI x2)] []
  refine v_aload_n dX1_tell_0 0 rfl rfl ?_
  refine v_iload_n dX1_tell_1 1 rfl rfl ?_
  obtain ⟨s1, e2, h⟩ := stp_some h
  refine v_putI (f := 14) cf1 oc0 rfl (by decide) q875 dX1_tell_2 rfl rfl ?_
  rw [← e2]
  refine v_aload_n dX1_tell_5 0 rfl rfl ?_
  refine v_iload_n dX1_tell_6 2 rfl rfl ?_
  obtain ⟨s3, e4, h⟩ := stp_some h
  refine v_putI (f := 15) cf1 oc0 rfl (by decide) q876 dX1_tell_7 rfl rfl ?_
  rw [← e4]
  refine v_iload_n dX1_tell_10 1 rfl rfl ?_
  refine v_if_ne (tgt := 18) dX1_tell_11 rx1 (by decide) (fun c5 => ?_) (fun c5 => ?_)
  · rw [if_neg c5] at h
    refine v_iconst dX1_tell_18 ?_
    refine v_sub [] (L1 := []) rfl ?_
    exact wj_X1_tell_19 h (rgl rfl)
  · rw [if_pos c5] at h
    refine v_iconst dX1_tell_14 ?_
    refine v_goto (tgt := 19) dX1_tell_15 (by decide) ?_
    refine v_sub [] (L1 := []) rfl ?_
    exact wj_X1_tell_19 h (rgl rfl)
theorem tj_X1_tell_19 {z0 : Int} {s : vS} {q : Nat × vS} (h : j_X1_tell_19 z0 s = some (.inr q))  (rz0 : rg z0) : VW cX1_tell (tB (exE q.1) RX1 q.2 7 109 3) (P0 []) s 19 [] [vI z0] := by
  unfold j_X1_tell_19 at h
  rcases bxv_inr h with e9 | ⟨s1, e2, h⟩
  · exact v_callXS (st := []) (t_X1_right e9 rz0) (lw_S q1021 q1022 q298 q1023) yk_X1_right ⟨Nat.le_of_ble_eq_true rfl, Nat.le_of_ble_eq_true rfl⟩ (Nat.le_of_ble_eq_true rfl) rfl dX1_tell_19
  have k3 := c_X1_right e2 rz0
  refine v_callS (st := []) k3 (lw_S q1021 q1022 q298 q1023) yk_X1_right ⟨Nat.le_of_ble_eq_true rfl, Nat.le_of_ble_eq_true rfl⟩ trivial trivial (Nat.le_of_ble_eq_true rfl) rfl dX1_tell_19 ?_
  exact (nx_no h).elim

theorem t_X1_tell {x1 : Int} {x2 : Int} {s : vS} {q : Nat × vS} (h : f_X1_tell x1 x2 s = some (.inr q))  (rx1 : rg x1) (rx2 : rg x2) : VT yX1_tell cX1_tell 3 none 7 109 [vO 0, vI x1, vI x2] s (exE q.1) q.2 := by
  unfold f_X1_tell at h
  refine VT.of RX1 (by decide) rfl (Nat.le_of_ble_eq_true rfl) ?_
  show VW cX1_tell (tB (exE q.1) RX1 q.2 7 109 3) (P0 []) s 0 [(0, vO 0), (1, vI x1), (2, vI x2)] []
  refine v_aload_n dX1_tell_0 0 rfl rfl ?_
  refine v_iload_n dX1_tell_1 1 rfl rfl ?_
  obtain ⟨s1, e2, h⟩ := stp_some h
  refine v_putI (f := 14) cf1 oc0 rfl (by decide) q875 dX1_tell_2 rfl rfl ?_
  rw [← e2]
  refine v_aload_n dX1_tell_5 0 rfl rfl ?_
  refine v_iload_n dX1_tell_6 2 rfl rfl ?_
  obtain ⟨s3, e4, h⟩ := stp_some h
  refine v_putI (f := 15) cf1 oc0 rfl (by decide) q876 dX1_tell_7 rfl rfl ?_
  rw [← e4]
  refine v_iload_n dX1_tell_10 1 rfl rfl ?_
  refine v_if_ne (tgt := 18) dX1_tell_11 rx1 (by decide) (fun c5 => ?_) (fun c5 => ?_)
  · rw [if_neg c5] at h
    refine v_iconst dX1_tell_18 ?_
    refine v_sub [] (L1 := []) rfl ?_
    exact tj_X1_tell_19 h (rgl rfl)
  · rw [if_pos c5] at h
    refine v_iconst dX1_tell_14 ?_
    refine v_goto (tgt := 19) dX1_tell_15 (by decide) ?_
    refine v_sub [] (L1 := []) rfl ?_
    exact tj_X1_tell_19 h (rgl rfl)

def f_X2_clear (o : Nat) (s : vS) : Option (vS) :=
  stp (sI s o 1 0) fun s1 =>
  some s1
theorem yk_X2_clear : yOk yX2_clear 0 := ⟨by decide, by decide, by decide +kernel⟩
theorem c_X2_clear {o : Nat} {s : vS} {out : vS} (h : f_X2_clear o s = some out) (ho : okB o 1)  : VC yX2_clear cX2_clear 1 none 0 0 [vO o] s none out [] := by
  unfold f_X2_clear at h
  refine VC.of RX2 (by decide) rfl (Nat.le_of_ble_eq_true rfl) ?_
  show VW cX2_clear (RX2, none, out, none, 0, 0, 1, []) (P0 []) s 0 [(0, vO o)] []
  refine v_aload_n dX2_clear_0 0 rfl rfl ?_
  refine v_iconst dX2_clear_1 ?_
  obtain ⟨s1, e2, h⟩ := stp_some h
  refine v_putI (f := 1) cf2 (okB_ok ho) rfl (by decide) q341 dX2_clear_2 rfl rfl ?_
  rw [← e2]
  cases h
  exact v_vret dX2_clear_5

def f_X2_all (o : Nat) (p1 : Nat) (x2 : Int) (x3 : Int) (s : vS) : Option (vS) :=
  bdv (f_X2_ready o (w32 ((w32 ((gI s o 1) + x3)) - x2)) s) fun s1 =>
  gd (cpG x2 (gI s1 o 1) (w32 (x3 - x2)) (gN s1 (p1 + 1)) (gN s1 (o + 1))) <|
  stp (cpA s1 (p1 + 1) (o + 1) x2 (gI s1 o 1) (w32 (x3 - x2))) fun s5 =>
  stp (sI s5 o 1 (w32 ((gI s5 o 1) + (w32 (x3 - x2))))) fun s7 =>
  some s7
theorem yk_X2_all : yOk yX2_all 3 := ⟨by decide, by decide, by decide +kernel⟩
theorem c_X2_all {o : Nat} {p1 : Nat} {x2 : Int} {x3 : Int} {s : vS} {out : vS} (h : f_X2_all o p1 x2 x3 s = some out) (ho : okB o 1) (hp1 : okB p1 1) (rx2 : rg x2) (rx3 : rg x3) : VC yX2_all cX2_all 4 none 2 49 [vO o, vO p1, vI x2, vI x3] s none out [] := by
  unfold f_X2_all at h
  refine VC.of RX2 (by decide) rfl (Nat.le_of_ble_eq_true rfl) ?_
  show VW cX2_all (RX2, none, out, none, 2, 49, 4, []) (P0 []) s 0 [(0, vO o), (1, vO p1), (2, vI x2), (3, vI x3)] []
  refine v_aload_n dX2_all_0 0 rfl rfl ?_
  refine v_aload_n dX2_all_1 0 rfl rfl ?_
  refine v_getI (f := 1) cf2 (okB_ok ho) rfl (by decide) q341 dX2_all_2 ?_
  refine v_iload_n dX2_all_5 3 rfl rfl ?_
  refine v_iadd dX2_all_6 ?_
  refine v_iload_n dX2_all_7 2 rfl rfl ?_
  refine v_isub dX2_all_8 ?_
  obtain ⟨s1, e2, h⟩ := bdv_some h
  have k3 := c_X2_ready e2 ho (w32_rg _)
  refine v_callV (st := []) cf2 (okB_ok ho) k3 (lw_V q1006 q1008 qs2 q299 q1009) rfl yk_X2_ready ⟨Nat.le_of_ble_eq_true rfl, Nat.le_of_ble_eq_true rfl⟩ trivial ⟨(okB_kp ho (by decide)), (okB_kp hp1 (by decide)), trivial⟩ (Nat.le_of_ble_eq_true rfl) rfl dX2_all_9 ?_
  refine v_aload_n dX2_all_12 1 rfl rfl ?_
  refine v_getS (f := 0) (t := p1 + 1) cf2 (okB_ok hp1) rfl rfl rfl (by decide) q340 dX2_all_13 ?_
  refine v_iload_n dX2_all_16 2 rfl rfl ?_
  refine v_aload_n dX2_all_17 0 rfl rfl ?_
  refine v_getS (f := 0) (t := o + 1) cf2 (okB_ok ho) rfl rfl rfl (by decide) q340 dX2_all_18 ?_
  refine v_aload_n dX2_all_21 0 rfl rfl ?_
  refine v_getI (f := 1) cf2 (okB_ok ho) rfl (by decide) q341 dX2_all_22 ?_
  refine v_iload_n dX2_all_25 3 rfl rfl ?_
  refine v_iload_n dX2_all_26 2 rfl rfl ?_
  refine v_isub dX2_all_27 ?_
  obtain ⟨g4, h⟩ := gd_some h
  obtain ⟨s5, e6, h⟩ := stp_some h
  refine v_cp (t := 25) (by decide) (by decide) (okB_ok (ch_1_0 hp1)) (okB_ok (ch_1_0 ho)) rx2 (gI_rg _ _ _) (w32_rg _) g4 (Nat.le_of_ble_eq_true rfl) (Nat.le_of_ble_eq_true rfl) q1010 dX2_all_28 ?_
  rw [← e6]
  refine v_aload_n dX2_all_31 0 rfl rfl ?_
  refine v_dupO dX2_all_32 ?_
  refine v_getI (f := 1) cf2 (okB_ok ho) rfl (by decide) q341 dX2_all_33 ?_
  refine v_iload_n dX2_all_36 3 rfl rfl ?_
  refine v_iload_n dX2_all_37 2 rfl rfl ?_
  refine v_isub dX2_all_38 ?_
  refine v_iadd dX2_all_39 ?_
  obtain ⟨s7, e8, h⟩ := stp_some h
  refine v_putI (f := 1) cf2 (okB_ok ho) rfl (by decide) q341 dX2_all_40 rfl rfl ?_
  rw [← e8]
  cases h
  exact v_vret dX2_all_43

def f_X2_at (o : Nat) (x1 : Int) (s : vS) : Option (Int × vS) :=
  gd (inb x1 (gN s (o + 1))) <|
  some (and32 (gB s (o + 1) x1) 255, s)
theorem yk_X2_at : yOk yX2_at 1 := ⟨by decide, by decide, by decide +kernel⟩
theorem c_X2_at {o : Nat} {x1 : Int} {s : vS} {out : Int × vS} (h : f_X2_at o x1 s = some out) (ho : okB o 1) (rx1 : rg x1) : VC yX2_at cX2_at 2 (some .int) 0 0 [vO o, vI x1] s (some (vI out.1)) out.2 [] := by
  unfold f_X2_at at h
  refine VC.of RX2 (by decide) rfl (Nat.le_of_ble_eq_true rfl) ?_
  show VW cX2_at (RX2, (some (vI out.1)), out.2, (some .int), 0, 0, 2, []) (P0 []) s 0 [(0, vO o), (1, vI x1)] []
  refine v_aload_n dX2_at_0 0 rfl rfl ?_
  refine v_getS (f := 0) (t := o + 1) cf2 (okB_ok ho) rfl rfl rfl (by decide) q340 dX2_at_1 ?_
  refine v_iload_n dX2_at_4 1 rfl rfl ?_
  obtain ⟨g1, h⟩ := gd_some h
  refine v_bald (okB_ok (ch_1_0 ho)) rx1 g1.1 g1.2 dX2_at_5 ?_
  refine v_sipush dX2_at_6 rfl ?_
  refine v_iand dX2_at_9 ?_
  cases h
  exact v_iret (and32_rg _ _) dX2_at_10

def f_X3_here (x1 : Int) (s : vS) : Option (Int × vS) :=
  gd (okB (gR s 5 2) 1) <|
  bd (f_X2_size (gR s 5 2) s) fun r5 s2 =>
  if r5 ≤ (w32 ((gI s 5 3) + x1)) then
    some ((-1), s2)
  else
    gd (okB (gR s2 5 2) 1) <|
    bd (f_X2_at (gR s2 5 2) (w32 ((gI s2 5 3) + x1)) s2) fun r12 s9 =>
    some (r12, s9)
theorem yk_X3_here : yOk yX3_here 1 := ⟨by decide, by decide, by decide +kernel⟩
theorem c_X3_here {x1 : Int} {s : vS} {out : Int × vS} (h : f_X3_here x1 s = some out)  (rx1 : rg x1) : VC yX3_here cX3_here 2 (some .int) 1 21 [vO 5, vI x1] s (some (vI out.1)) out.2 [] := by
  unfold f_X3_here at h
  refine VC.of RX3 (by decide) rfl (Nat.le_of_ble_eq_true rfl) ?_
  show VW cX3_here (RX3, (some (vI out.1)), out.2, (some .int), 1, 21, 2, []) (P0 []) s 0 [(0, vO 5), (1, vI x1)] []
  refine v_aload_n dX3_here_0 0 rfl rfl ?_
  refine v_getI (f := 3) cf3 oc5 rfl (by decide) q437 dX3_here_1 ?_
  refine v_iload_n dX3_here_4 1 rfl rfl ?_
  refine v_iadd dX3_here_5 ?_
  refine v_aload_n dX3_here_6 0 rfl rfl ?_
  obtain ⟨g1, h⟩ := gd_some h
  refine v_getR (f := 2) cf3 oc5 rfl (okB_R g1 (by decide) (by decide)) (by decide) q436 dX3_here_7 ?_
  obtain ⟨r5, s2, e3, h⟩ := bd_some h
  have k4 := c_X2_size e3 g1
  have r6 : rg r5 := k4.1.2.2
  refine v_callV (st := [vI (w32 ((gI s 5 3) + x1))]) cf2 (okB_ok g1) k4 (lw_V q1066 q918 q919 q299 q920) rfl yk_X2_size ⟨Nat.le_of_ble_eq_true rfl, Nat.le_of_ble_eq_true rfl⟩ trivial ⟨kc5, trivial⟩ (Nat.le_of_ble_eq_true rfl) rfl dX3_here_10 ?_
  refine v_icmp_ge (tgt := 32) dX3_here_13 (w32_rg _) r6 (by decide) (fun c7 => ?_) (fun c7 => ?_)
  · rw [if_pos c7] at h
    refine v_iconst dX3_here_32 ?_
    cases h
    exact v_iret (rgl rfl) dX3_here_33
  · rw [if_neg c7] at h
    refine v_aload_n dX3_here_16 0 rfl rfl ?_
    obtain ⟨g8, h⟩ := gd_some h
    refine v_getR (f := 2) cf3 oc5 rfl (okB_R g8 (by decide) (by decide)) (by decide) q436 dX3_here_17 ?_
    refine v_aload_n dX3_here_20 0 rfl rfl ?_
    refine v_getI (f := 3) cf3 oc5 rfl (by decide) q437 dX3_here_21 ?_
    refine v_iload_n dX3_here_24 1 rfl rfl ?_
    refine v_iadd dX3_here_25 ?_
    obtain ⟨r12, s9, e10, h⟩ := bd_some h
    have k11 := c_X2_at e10 g8 (w32_rg _)
    have r13 : rg r12 := k11.1.2.2
    refine v_callV (st := []) cf2 (okB_ok g8) k11 (lw_V q1071 q1072 q1073 q299 q1074) rfl yk_X2_at ⟨Nat.le_of_ble_eq_true rfl, Nat.le_of_ble_eq_true rfl⟩ trivial ⟨kc5, trivial⟩ (Nat.le_of_ble_eq_true rfl) rfl dX3_here_26 ?_
    refine v_goto (tgt := 33) dX3_here_29 (by decide) ?_
    cases h
    exact v_iret r13 dX3_here_33

def j_X3_isWhite_12 (x0 : Int) (s : vS) : Option (Int × vS) :=
  if x0 = 32 then
    some (1, s)
  else
    some (0, s)
theorem wj_X3_isWhite_12 {x0 : Int} {s : vS} {out : Int × vS} (h : j_X3_isWhite_12 x0 s = some out)  (rx0 : rg x0) : VW cX3_isWhite (RX3, (some (vI out.1)), out.2, (some .boolean), 0, 0, 1, []) (P0 []) s 12 [(0, vI x0)] [] := by
  unfold j_X3_isWhite_12 at h
  refine v_iload_n dX3_isWhite_12 0 rfl rfl ?_
  refine v_bipush dX3_isWhite_13 rfl ?_
  refine v_icmp_ne (tgt := 22) dX3_isWhite_15 rx0 (rgl rfl) (by decide) (fun c1 => ?_) (fun c1 => ?_)
  · rw [if_neg c1] at h
    refine v_iconst dX3_isWhite_22 ?_
    cases h
    exact v_zret (Or.inl rfl) dX3_isWhite_23
  · rw [if_pos c1] at h
    refine v_iconst dX3_isWhite_18 ?_
    refine v_goto (tgt := 23) dX3_isWhite_19 (by decide) ?_
    cases h
    exact v_zret (Or.inr rfl) dX3_isWhite_23

def f_X3_isWhite (x0 : Int) (s : vS) : Option (Int × vS) :=
  if x0 < 9 then
    j_X3_isWhite_12 x0 s
  else
    if x0 ≤ 13 then
      some (1, s)
    else
      j_X3_isWhite_12 x0 s
theorem yk_X3_isWhite : yOk yX3_isWhite 1 := ⟨by decide, by decide, by decide +kernel⟩
theorem c_X3_isWhite {x0 : Int} {s : vS} {out : Int × vS} (h : f_X3_isWhite x0 s = some out)  (rx0 : rg x0) : VC yX3_isWhite cX3_isWhite 1 (some .boolean) 0 0 [vI x0] s (some (vI out.1)) out.2 [] := by
  unfold f_X3_isWhite at h
  refine VC.of RX3 (by decide) rfl (Nat.le_of_ble_eq_true rfl) ?_
  show VW cX3_isWhite (RX3, (some (vI out.1)), out.2, (some .boolean), 0, 0, 1, []) (P0 []) s 0 [(0, vI x0)] []
  refine v_iload_n dX3_isWhite_0 0 rfl rfl ?_
  refine v_bipush dX3_isWhite_1 rfl ?_
  refine v_icmp_lt (tgt := 12) dX3_isWhite_3 rx0 (rgl rfl) (by decide) (fun c1 => ?_) (fun c1 => ?_)
  · rw [if_pos c1] at h
    exact wj_X3_isWhite_12 h rx0
  · rw [if_neg c1] at h
    refine v_iload_n dX3_isWhite_6 0 rfl rfl ?_
    refine v_bipush dX3_isWhite_7 rfl ?_
    refine v_icmp_le (tgt := 18) dX3_isWhite_9 rx0 (rgl rfl) (by decide) (fun c2 => ?_) (fun c2 => ?_)
    · rw [if_pos c2] at h
      refine v_iconst dX3_isWhite_18 ?_
      refine v_goto (tgt := 23) dX3_isWhite_19 (by decide) ?_
      cases h
      exact v_zret (Or.inr rfl) dX3_isWhite_23
    · rw [if_neg c2] at h
      exact wj_X3_isWhite_12 h rx0

def f_X3_isLineEnd (x0 : Int) (s : vS) : Option (Int × vS) :=
  if x0 < 10 then
    some (0, s)
  else
    if 13 < x0 then
      some (0, s)
    else
      some (1, s)
theorem yk_X3_isLineEnd : yOk yX3_isLineEnd 1 := ⟨by decide, by decide, by decide +kernel⟩
theorem c_X3_isLineEnd {x0 : Int} {s : vS} {out : Int × vS} (h : f_X3_isLineEnd x0 s = some out)  (rx0 : rg x0) : VC yX3_isLineEnd cX3_isLineEnd 1 (some .boolean) 0 0 [vI x0] s (some (vI out.1)) out.2 [] := by
  unfold f_X3_isLineEnd at h
  refine VC.of RX3 (by decide) rfl (Nat.le_of_ble_eq_true rfl) ?_
  show VW cX3_isLineEnd (RX3, (some (vI out.1)), out.2, (some .boolean), 0, 0, 1, []) (P0 []) s 0 [(0, vI x0)] []
  refine v_iload_n dX3_isLineEnd_0 0 rfl rfl ?_
  refine v_bipush dX3_isLineEnd_1 rfl ?_
  refine v_icmp_lt (tgt := 16) dX3_isLineEnd_3 rx0 (rgl rfl) (by decide) (fun c1 => ?_) (fun c1 => ?_)
  · rw [if_pos c1] at h
    refine v_iconst dX3_isLineEnd_16 ?_
    cases h
    exact v_zret (Or.inl rfl) dX3_isLineEnd_17
  · rw [if_neg c1] at h
    refine v_iload_n dX3_isLineEnd_6 0 rfl rfl ?_
    refine v_bipush dX3_isLineEnd_7 rfl ?_
    refine v_icmp_gt (tgt := 16) dX3_isLineEnd_9 rx0 (rgl rfl) (by decide) (fun c2 => ?_) (fun c2 => ?_)
    · rw [if_pos c2] at h
      refine v_iconst dX3_isLineEnd_16 ?_
      cases h
      exact v_zret (Or.inl rfl) dX3_isLineEnd_17
    · rw [if_neg c2] at h
      refine v_iconst dX3_isLineEnd_12 ?_
      refine v_goto (tgt := 17) dX3_isLineEnd_13 (by decide) ?_
      cases h
      exact v_zret (Or.inr rfl) dX3_isLineEnd_17

def E_X3_skipLine_10 (rv : Option vA) (σo : vS) (q : vS) : Prop := ∀ (s' : vS), q = s' → VW cX3_skipLine (RX3, rv, σo, none, 2, 42, 1, []) (P0 []) s' 68 [(0, vO 5)] []
def l_X3_skipLine_10 : Nat → vS → Option (vS)
  | 0, _ => none
  | n + 1, s =>
    gd (okB (gR s 5 2) 1) <|
    bd (f_X2_size (gR s 5 2) s) fun r5 s2 =>
    if r5 ≤ (gI s 5 3) then
      some s2
    else
      bd (f_X3_here 0 s2) fun r11 s8 =>
      bd (f_X3_isLineEnd r11 s8) fun r16 s13 =>
      if r16 = 0 then
        bd (f_X3_here 0 s13) fun r22 s19 =>
        if r22 = 45 then
          bd (f_X3_here 1 s19) fun r30 s27 =>
          if r30 = 45 then
            some s27
          else
            stp (sI s27 5 3 (w32 ((gI s27 5 3) + 1))) fun s33 =>
            l_X3_skipLine_10 n s33
        else
          stp (sI s19 5 3 (w32 ((gI s19 5 3) + 1))) fun s25 =>
          l_X3_skipLine_10 n s25
      else
        some s13
theorem wl_X3_skipLine_10 {rv : Option vA} {σo : vS}  : ∀ (n : Nat) (s : vS) (q : vS), l_X3_skipLine_10 n  s = some q → E_X3_skipLine_10 rv σo q → VW cX3_skipLine (RX3, rv, σo, none, 2, 42, 1, []) (P0 []) s 10 [(0, vO 5)] [] := by
  intro n
  induction n with
  | zero => intro s q h; cases h
  | succ n ih =>
    intro s q h  hE
    unfold l_X3_skipLine_10 at h
    refine v_aload_n dX3_skipLine_10 0 rfl rfl ?_
    refine v_getI (f := 3) cf3 oc5 rfl (by decide) q437 dX3_skipLine_11 ?_
    refine v_aload_n dX3_skipLine_14 0 rfl rfl ?_
    obtain ⟨g1, h⟩ := gd_some h
    refine v_getR (f := 2) cf3 oc5 rfl (okB_R g1 (by decide) (by decide)) (by decide) q436 dX3_skipLine_15 ?_
    obtain ⟨r5, s2, e3, h⟩ := bd_some h
    have k4 := c_X2_size e3 g1
    have r6 : rg r5 := k4.1.2.2
    refine v_callV (st := [vI (gI s 5 3)]) cf2 (okB_ok g1) k4 (lw_V q1066 q918 q919 q299 q920) rfl yk_X2_size ⟨Nat.le_of_ble_eq_true rfl, Nat.le_of_ble_eq_true rfl⟩ trivial ⟨kc5, trivial⟩ (Nat.le_of_ble_eq_true rfl) rfl dX3_skipLine_18 ?_
    refine v_icmp_ge (tgt := 68) dX3_skipLine_21 (gI_rg _ _ _) r6 (by decide) (fun c7 => ?_) (fun c7 => ?_)
    · rw [if_pos c7] at h
      cases h
      exact hE _ rfl 
    · rw [if_neg c7] at h
      refine v_aload_n dX3_skipLine_24 0 rfl rfl ?_
      refine v_iconst dX3_skipLine_25 ?_
      obtain ⟨r11, s8, e9, h⟩ := bd_some h
      have k10 := c_X3_here e9 (rgl rfl)
      have r12 : rg r11 := k10.1.2.2
      refine v_callV (st := []) cf3 oc5 k10 (lw_V q1067 q1069 qs4 q300 q1070) rfl yk_X3_here ⟨Nat.le_of_ble_eq_true rfl, Nat.le_of_ble_eq_true rfl⟩ trivial ⟨kc5, trivial⟩ (Nat.le_of_ble_eq_true rfl) rfl dX3_skipLine_26 ?_
      obtain ⟨r16, s13, e14, h⟩ := bd_some h
      have k15 := c_X3_isLineEnd e14 r12
      have r17 : rg r16 := k15.1.2.2
      refine v_callS (st := []) k15 (lw_S q1082 q1083 q300 q1084) yk_X3_isLineEnd ⟨Nat.le_of_ble_eq_true rfl, Nat.le_of_ble_eq_true rfl⟩ trivial ⟨kc5, trivial⟩ (Nat.le_of_ble_eq_true rfl) rfl dX3_skipLine_29 ?_
      refine v_if_ne (tgt := 68) dX3_skipLine_32 r17 (by decide) (fun c18 => ?_) (fun c18 => ?_)
      · rw [if_neg c18] at h
        cases h
        exact hE _ rfl 
      · rw [if_pos c18] at h
        refine v_aload_n dX3_skipLine_35 0 rfl rfl ?_
        refine v_iconst dX3_skipLine_36 ?_
        obtain ⟨r22, s19, e20, h⟩ := bd_some h
        have k21 := c_X3_here e20 (rgl rfl)
        have r23 : rg r22 := k21.1.2.2
        refine v_callV (st := []) cf3 oc5 k21 (lw_V q1067 q1069 qs4 q300 q1070) rfl yk_X3_here ⟨Nat.le_of_ble_eq_true rfl, Nat.le_of_ble_eq_true rfl⟩ trivial ⟨kc5, trivial⟩ (Nat.le_of_ble_eq_true rfl) rfl dX3_skipLine_37 ?_
        refine v_bipush dX3_skipLine_40 rfl ?_
        refine v_icmp_ne (tgt := 55) dX3_skipLine_42 r23 (rgl rfl) (by decide) (fun c24 => ?_) (fun c24 => ?_)
        · rw [if_neg c24] at h
          refine v_aload_n dX3_skipLine_55 0 rfl rfl ?_
          refine v_dupO dX3_skipLine_56 ?_
          refine v_getI (f := 3) cf3 oc5 rfl (by decide) q437 dX3_skipLine_57 ?_
          refine v_iconst dX3_skipLine_60 ?_
          refine v_iadd dX3_skipLine_61 ?_
          obtain ⟨s25, e26, h⟩ := stp_some h
          refine v_putI (f := 3) cf3 oc5 rfl (by decide) q437 dX3_skipLine_62 rfl rfl ?_
          rw [← e26]
          refine v_goto (tgt := 10) dX3_skipLine_65 (by decide) ?_
          exact ih s25 _ h  hE
        · rw [if_pos c24] at h
          refine v_aload_n dX3_skipLine_45 0 rfl rfl ?_
          refine v_iconst dX3_skipLine_46 ?_
          obtain ⟨r30, s27, e28, h⟩ := bd_some h
          have k29 := c_X3_here e28 (rgl rfl)
          have r31 : rg r30 := k29.1.2.2
          refine v_callV (st := []) cf3 oc5 k29 (lw_V q1067 q1069 qs4 q300 q1070) rfl yk_X3_here ⟨Nat.le_of_ble_eq_true rfl, Nat.le_of_ble_eq_true rfl⟩ trivial ⟨kc5, trivial⟩ (Nat.le_of_ble_eq_true rfl) rfl dX3_skipLine_47 ?_
          refine v_bipush dX3_skipLine_50 rfl ?_
          refine v_icmp_eq (tgt := 68) dX3_skipLine_52 r31 (rgl rfl) (by decide) (fun c32 => ?_) (fun c32 => ?_)
          · rw [if_pos c32] at h
            cases h
            exact hE _ rfl 
          · rw [if_neg c32] at h
            refine v_aload_n dX3_skipLine_55 0 rfl rfl ?_
            refine v_dupO dX3_skipLine_56 ?_
            refine v_getI (f := 3) cf3 oc5 rfl (by decide) q437 dX3_skipLine_57 ?_
            refine v_iconst dX3_skipLine_60 ?_
            refine v_iadd dX3_skipLine_61 ?_
            obtain ⟨s33, e34, h⟩ := stp_some h
            refine v_putI (f := 3) cf3 oc5 rfl (by decide) q437 dX3_skipLine_62 rfl rfl ?_
            rw [← e34]
            refine v_goto (tgt := 10) dX3_skipLine_65 (by decide) ?_
            exact ih s33 _ h  hE

def j_X3_skipLine_68 (s : vS) : Option (vS) :=
  bd (f_X3_here 0 s) fun r4 s1 =>
  if r4 = 45 then
    stp (sI s1 5 3 (w32 ((gI s1 5 3) + 2))) fun s7 =>
    some s7
  else
    some s1
theorem wj_X3_skipLine_68 {s : vS} {out : vS} (h : j_X3_skipLine_68 s = some out)  : VW cX3_skipLine (RX3, none, out, none, 2, 42, 1, []) (P0 []) s 68 [(0, vO 5)] [] := by
  unfold j_X3_skipLine_68 at h
  refine v_aload_n dX3_skipLine_68 0 rfl rfl ?_
  refine v_iconst dX3_skipLine_69 ?_
  obtain ⟨r4, s1, e2, h⟩ := bd_some h
  have k3 := c_X3_here e2 (rgl rfl)
  have r5 : rg r4 := k3.1.2.2
  refine v_callV (st := []) cf3 oc5 k3 (lw_V q1067 q1069 qs4 q300 q1070) rfl yk_X3_here ⟨Nat.le_of_ble_eq_true rfl, Nat.le_of_ble_eq_true rfl⟩ trivial ⟨kc5, trivial⟩ (Nat.le_of_ble_eq_true rfl) rfl dX3_skipLine_70 ?_
  refine v_bipush dX3_skipLine_73 rfl ?_
  refine v_icmp_ne (tgt := 88) dX3_skipLine_75 r5 (rgl rfl) (by decide) (fun c6 => ?_) (fun c6 => ?_)
  · rw [if_neg c6] at h
    cases h
    exact v_vret dX3_skipLine_88
  · rw [if_pos c6] at h
    refine v_aload_n dX3_skipLine_78 0 rfl rfl ?_
    refine v_dupO dX3_skipLine_79 ?_
    refine v_getI (f := 3) cf3 oc5 rfl (by decide) q437 dX3_skipLine_80 ?_
    refine v_iconst dX3_skipLine_83 ?_
    refine v_iadd dX3_skipLine_84 ?_
    obtain ⟨s7, e8, h⟩ := stp_some h
    refine v_putI (f := 3) cf3 oc5 rfl (by decide) q437 dX3_skipLine_85 rfl rfl ?_
    rw [← e8]
    cases h
    exact v_vret dX3_skipLine_88

def f_X3_skipLine (s : vS) : Option (vS) :=
  stp (sI s 5 3 (w32 ((gI s 5 3) + 2))) fun s1 =>
  lq_0 (l_X3_skipLine_10 FU s1) fun s3 =>
  j_X3_skipLine_68 s3
theorem yk_X3_skipLine : yOk yX3_skipLine 0 := ⟨by decide, by decide, by decide +kernel⟩
theorem c_X3_skipLine {s : vS} {out : vS} (h : f_X3_skipLine s = some out)   : VC yX3_skipLine cX3_skipLine 1 none 2 42 [vO 5] s none out [] := by
  unfold f_X3_skipLine at h
  refine VC.of RX3 (by decide) rfl (Nat.le_of_ble_eq_true rfl) ?_
  show VW cX3_skipLine (RX3, none, out, none, 2, 42, 1, []) (P0 []) s 0 [(0, vO 5)] []
  refine v_aload_n dX3_skipLine_0 0 rfl rfl ?_
  refine v_dupO dX3_skipLine_1 ?_
  refine v_getI (f := 3) cf3 oc5 rfl (by decide) q437 dX3_skipLine_2 ?_
  refine v_iconst dX3_skipLine_5 ?_
  refine v_iadd dX3_skipLine_6 ?_
  obtain ⟨s1, e2, h⟩ := stp_some h
  refine v_putI (f := 3) cf3 oc5 rfl (by decide) q437 dX3_skipLine_7 rfl rfl ?_
  rw [← e2]
  obtain ⟨s3, e4, h⟩ := lq_0_some h
  refine wl_X3_skipLine_10  FU  s1 _ e4  ?_
  unfold E_X3_skipLine_10
  intro s3' z_
  cases z_
  exact wj_X3_skipLine_68 h 

def E_X3_skipBlock_2 (rv : Option vA) (σo : vS) (q : Int × vS) : Prop := ∀ (x1' : Int) (s' : vS), q = (x1', s') → rg x1' → VW cX3_skipBlock (RX3, rv, σo, (some .boolean), 2, 42, 2, []) (P0 []) s' 102 [(1, vI x1')] []
def j_X3_skipBlock_84 (rec : Int → vS → Option (Int × vS)) (x1 : Int) (s : vS) : Option (Int × vS) :=
  if x1 ≤ 0 then
    some (x1, s)
  else
    gd (okB (gR s 5 2) 1) <|
    bd (f_X2_size (gR s 5 2) s) fun r6 s3 =>
    if (gI s 5 3) < r6 then
      rec x1 s3
    else
      some (x1, s3)
theorem wj_X3_skipBlock_84 {x1 : Int} {s : vS} {rv : Option vA} {σo : vS} {rec : Int → vS → Option (Int × vS)} {q : Int × vS} (h : j_X3_skipBlock_84 rec x1 s = some q)  (rx1 : rg x1) (hrec : ∀ (y1 : Int) (s : vS) (q : Int × vS), rec y1 s = some q → rg y1 → E_X3_skipBlock_2 rv σo q → VW cX3_skipBlock (RX3, rv, σo, (some .boolean), 2, 42, 2, []) (P0 []) s 2 [(0, vO 5), (1, vI y1)] []) (hE : E_X3_skipBlock_2 rv σo q) : VW cX3_skipBlock (RX3, rv, σo, (some .boolean), 2, 42, 2, []) (P0 []) s 84 [(0, vO 5), (1, vI x1)] [] := by
  unfold j_X3_skipBlock_84 at h
  refine v_iload_n dX3_skipBlock_84 1 rfl rfl ?_
  refine v_if_le (tgt := 102) dX3_skipBlock_85 rx1 (by decide) (fun c1 => ?_) (fun c1 => ?_)
  · rw [if_pos c1] at h
    cases h
    refine v_sub [1] (L1 := [(1, vI x1)]) rfl ?_
    exact hE _ _ rfl rx1
  · rw [if_neg c1] at h
    refine v_aload_n dX3_skipBlock_88 0 rfl rfl ?_
    refine v_getI (f := 3) cf3 oc5 rfl (by decide) q437 dX3_skipBlock_89 ?_
    refine v_aload_n dX3_skipBlock_92 0 rfl rfl ?_
    obtain ⟨g2, h⟩ := gd_some h
    refine v_getR (f := 2) cf3 oc5 rfl (okB_R g2 (by decide) (by decide)) (by decide) q436 dX3_skipBlock_93 ?_
    obtain ⟨r6, s3, e4, h⟩ := bd_some h
    have k5 := c_X2_size e4 g2
    have r7 : rg r6 := k5.1.2.2
    refine v_callV (st := [vI (gI s 5 3)]) cf2 (okB_ok g2) k5 (lw_V q1066 q918 q919 q299 q920) rfl yk_X2_size ⟨Nat.le_of_ble_eq_true rfl, Nat.le_of_ble_eq_true rfl⟩ trivial ⟨kc5, trivial⟩ (Nat.le_of_ble_eq_true rfl) rfl dX3_skipBlock_96 ?_
    refine v_icmp_lt (tgt := 2) dX3_skipBlock_99 (gI_rg _ _ _) r7 (by decide) (fun c8 => ?_) (fun c8 => ?_)
    · rw [if_pos c8] at h
      exact hrec x1 s3 _ h rx1 hE
    · rw [if_neg c8] at h
      cases h
      refine v_sub [1] (L1 := [(1, vI x1)]) rfl ?_
      exact hE _ _ rfl rx1

def j_X3_skipBlock_74 (rec : Int → vS → Option (Int × vS)) (x1 : Int) (s : vS) : Option (Int × vS) :=
  stp (sI s 5 3 (w32 ((gI s 5 3) + 1))) fun s1 =>
  j_X3_skipBlock_84 rec x1 s1
theorem wj_X3_skipBlock_74 {x1 : Int} {s : vS} {rv : Option vA} {σo : vS} {rec : Int → vS → Option (Int × vS)} {q : Int × vS} (h : j_X3_skipBlock_74 rec x1 s = some q)  (rx1 : rg x1) (hrec : ∀ (y1 : Int) (s : vS) (q : Int × vS), rec y1 s = some q → rg y1 → E_X3_skipBlock_2 rv σo q → VW cX3_skipBlock (RX3, rv, σo, (some .boolean), 2, 42, 2, []) (P0 []) s 2 [(0, vO 5), (1, vI y1)] []) (hE : E_X3_skipBlock_2 rv σo q) : VW cX3_skipBlock (RX3, rv, σo, (some .boolean), 2, 42, 2, []) (P0 []) s 74 [(0, vO 5), (1, vI x1)] [] := by
  unfold j_X3_skipBlock_74 at h
  refine v_aload_n dX3_skipBlock_74 0 rfl rfl ?_
  refine v_dupO dX3_skipBlock_75 ?_
  refine v_getI (f := 3) cf3 oc5 rfl (by decide) q437 dX3_skipBlock_76 ?_
  refine v_iconst dX3_skipBlock_79 ?_
  refine v_iadd dX3_skipBlock_80 ?_
  obtain ⟨s1, e2, h⟩ := stp_some h
  refine v_putI (f := 3) cf3 oc5 rfl (by decide) q437 dX3_skipBlock_81 rfl rfl ?_
  rw [← e2]
  exact wj_X3_skipBlock_84 h rx1 hrec hE

def j_X3_skipBlock_38 (rec : Int → vS → Option (Int × vS)) (x1 : Int) (s : vS) : Option (Int × vS) :=
  bd (f_X3_here 0 s) fun r4 s1 =>
  if r4 = 42 then
    bd (f_X3_here 1 s1) fun r10 s7 =>
    if r10 = 47 then
      vl (w32 (x1 + (-1))) fun y13 =>
      stp (sI s7 5 3 (w32 ((gI s7 5 3) + 2))) fun s16 =>
      j_X3_skipBlock_84 rec y13 s16
    else
      j_X3_skipBlock_74 rec x1 s7
  else
    j_X3_skipBlock_74 rec x1 s1
theorem wj_X3_skipBlock_38 {x1 : Int} {s : vS} {rv : Option vA} {σo : vS} {rec : Int → vS → Option (Int × vS)} {q : Int × vS} (h : j_X3_skipBlock_38 rec x1 s = some q)  (rx1 : rg x1) (hrec : ∀ (y1 : Int) (s : vS) (q : Int × vS), rec y1 s = some q → rg y1 → E_X3_skipBlock_2 rv σo q → VW cX3_skipBlock (RX3, rv, σo, (some .boolean), 2, 42, 2, []) (P0 []) s 2 [(0, vO 5), (1, vI y1)] []) (hE : E_X3_skipBlock_2 rv σo q) : VW cX3_skipBlock (RX3, rv, σo, (some .boolean), 2, 42, 2, []) (P0 []) s 38 [(0, vO 5), (1, vI x1)] [] := by
  unfold j_X3_skipBlock_38 at h
  refine v_aload_n dX3_skipBlock_38 0 rfl rfl ?_
  refine v_iconst dX3_skipBlock_39 ?_
  obtain ⟨r4, s1, e2, h⟩ := bd_some h
  have k3 := c_X3_here e2 (rgl rfl)
  have r5 : rg r4 := k3.1.2.2
  refine v_callV (st := []) cf3 oc5 k3 (lw_V q1067 q1069 qs4 q300 q1070) rfl yk_X3_here ⟨Nat.le_of_ble_eq_true rfl, Nat.le_of_ble_eq_true rfl⟩ trivial ⟨kc5, trivial⟩ (Nat.le_of_ble_eq_true rfl) rfl dX3_skipBlock_40 ?_
  refine v_bipush dX3_skipBlock_43 rfl ?_
  refine v_icmp_ne (tgt := 74) dX3_skipBlock_45 r5 (rgl rfl) (by decide) (fun c6 => ?_) (fun c6 => ?_)
  · rw [if_neg c6] at h
    exact wj_X3_skipBlock_74 h rx1 hrec hE
  · rw [if_pos c6] at h
    refine v_aload_n dX3_skipBlock_48 0 rfl rfl ?_
    refine v_iconst dX3_skipBlock_49 ?_
    obtain ⟨r10, s7, e8, h⟩ := bd_some h
    have k9 := c_X3_here e8 (rgl rfl)
    have r11 : rg r10 := k9.1.2.2
    refine v_callV (st := []) cf3 oc5 k9 (lw_V q1067 q1069 qs4 q300 q1070) rfl yk_X3_here ⟨Nat.le_of_ble_eq_true rfl, Nat.le_of_ble_eq_true rfl⟩ trivial ⟨kc5, trivial⟩ (Nat.le_of_ble_eq_true rfl) rfl dX3_skipBlock_50 ?_
    refine v_bipush dX3_skipBlock_53 rfl ?_
    refine v_icmp_ne (tgt := 74) dX3_skipBlock_55 r11 (rgl rfl) (by decide) (fun c12 => ?_) (fun c12 => ?_)
    · rw [if_neg c12] at h
      exact wj_X3_skipBlock_74 h rx1 hrec hE
    · rw [if_pos c12] at h
      obtain ⟨y13, e14, h⟩ := vl_some h
      refine v_iinc (L1 := [(1, vI (w32 (x1 + (-1)))), (0, vO 5)]) dX3_skipBlock_58 1 rfl (by decide) rfl ?_
      rw [← e14]
      have r15 : rg y13 := by rw [e14]; exact w32_rg _
      refine v_aload_n dX3_skipBlock_61 1 rfl rfl ?_
      refine v_dupO dX3_skipBlock_62 ?_
      refine v_getI (f := 3) cf3 oc5 rfl (by decide) q437 dX3_skipBlock_63 ?_
      refine v_iconst dX3_skipBlock_66 ?_
      refine v_iadd dX3_skipBlock_67 ?_
      obtain ⟨s16, e17, h⟩ := stp_some h
      refine v_putI (f := 3) cf3 oc5 rfl (by decide) q437 dX3_skipBlock_68 rfl rfl ?_
      rw [← e17]
      refine v_goto (tgt := 84) dX3_skipBlock_71 (by decide) ?_
      refine v_sub [1, 0] (L1 := [(0, vO 5), (1, vI y13)]) rfl ?_
      exact wj_X3_skipBlock_84 h r15 hrec hE

def l_X3_skipBlock_2 : Nat → Int → vS → Option (Int × vS)
  | 0, _, _ => none
  | n + 1, x1, s =>
    bd (f_X3_here 0 s) fun r4 s1 =>
    if r4 = 47 then
      bd (f_X3_here 1 s1) fun r10 s7 =>
      if r10 = 42 then
        vl (w32 (x1 + 1)) fun y13 =>
        stp (sI s7 5 3 (w32 ((gI s7 5 3) + 2))) fun s16 =>
        j_X3_skipBlock_84 (l_X3_skipBlock_2 n) y13 s16
      else
        j_X3_skipBlock_38 (l_X3_skipBlock_2 n) x1 s7
    else
      j_X3_skipBlock_38 (l_X3_skipBlock_2 n) x1 s1
theorem wl_X3_skipBlock_2 {rv : Option vA} {σo : vS}  : ∀ (n : Nat) (x1 : Int) (s : vS) (q : Int × vS), l_X3_skipBlock_2 n x1 s = some q → rg x1 → E_X3_skipBlock_2 rv σo q → VW cX3_skipBlock (RX3, rv, σo, (some .boolean), 2, 42, 2, []) (P0 []) s 2 [(0, vO 5), (1, vI x1)] [] := by
  intro n
  induction n with
  | zero => intro x1 s q h; cases h
  | succ n ih =>
    intro x1 s q h rx1 hE
    unfold l_X3_skipBlock_2 at h
    refine v_aload_n dX3_skipBlock_2 0 rfl rfl ?_
    refine v_iconst dX3_skipBlock_3 ?_
    obtain ⟨r4, s1, e2, h⟩ := bd_some h
    have k3 := c_X3_here e2 (rgl rfl)
    have r5 : rg r4 := k3.1.2.2
    refine v_callV (st := []) cf3 oc5 k3 (lw_V q1067 q1069 qs4 q300 q1070) rfl yk_X3_here ⟨Nat.le_of_ble_eq_true rfl, Nat.le_of_ble_eq_true rfl⟩ trivial ⟨kc5, trivial⟩ (Nat.le_of_ble_eq_true rfl) rfl dX3_skipBlock_4 ?_
    refine v_bipush dX3_skipBlock_7 rfl ?_
    refine v_icmp_ne (tgt := 38) dX3_skipBlock_9 r5 (rgl rfl) (by decide) (fun c6 => ?_) (fun c6 => ?_)
    · rw [if_neg c6] at h
      exact wj_X3_skipBlock_38 h rx1 ih hE
    · rw [if_pos c6] at h
      refine v_aload_n dX3_skipBlock_12 0 rfl rfl ?_
      refine v_iconst dX3_skipBlock_13 ?_
      obtain ⟨r10, s7, e8, h⟩ := bd_some h
      have k9 := c_X3_here e8 (rgl rfl)
      have r11 : rg r10 := k9.1.2.2
      refine v_callV (st := []) cf3 oc5 k9 (lw_V q1067 q1069 qs4 q300 q1070) rfl yk_X3_here ⟨Nat.le_of_ble_eq_true rfl, Nat.le_of_ble_eq_true rfl⟩ trivial ⟨kc5, trivial⟩ (Nat.le_of_ble_eq_true rfl) rfl dX3_skipBlock_14 ?_
      refine v_bipush dX3_skipBlock_17 rfl ?_
      refine v_icmp_ne (tgt := 38) dX3_skipBlock_19 r11 (rgl rfl) (by decide) (fun c12 => ?_) (fun c12 => ?_)
      · rw [if_neg c12] at h
        exact wj_X3_skipBlock_38 h rx1 ih hE
      · rw [if_pos c12] at h
        obtain ⟨y13, e14, h⟩ := vl_some h
        refine v_iinc (L1 := [(1, vI (w32 (x1 + 1))), (0, vO 5)]) dX3_skipBlock_22 1 rfl (by decide) rfl ?_
        rw [← e14]
        have r15 : rg y13 := by rw [e14]; exact w32_rg _
        refine v_aload_n dX3_skipBlock_25 1 rfl rfl ?_
        refine v_dupO dX3_skipBlock_26 ?_
        refine v_getI (f := 3) cf3 oc5 rfl (by decide) q437 dX3_skipBlock_27 ?_
        refine v_iconst dX3_skipBlock_30 ?_
        refine v_iadd dX3_skipBlock_31 ?_
        obtain ⟨s16, e17, h⟩ := stp_some h
        refine v_putI (f := 3) cf3 oc5 rfl (by decide) q437 dX3_skipBlock_32 rfl rfl ?_
        rw [← e17]
        refine v_goto (tgt := 84) dX3_skipBlock_35 (by decide) ?_
        refine v_sub [1, 0] (L1 := [(0, vO 5), (1, vI y13)]) rfl ?_
        exact wj_X3_skipBlock_84 h r15 ih hE

def j_X3_skipBlock_102 (x1 : Int) (s : vS) : Option (Int × vS) :=
  if x1 = 0 then
    some (1, s)
  else
    some (0, s)
theorem wj_X3_skipBlock_102 {x1 : Int} {s : vS} {out : Int × vS} (h : j_X3_skipBlock_102 x1 s = some out)  (rx1 : rg x1) : VW cX3_skipBlock (RX3, (some (vI out.1)), out.2, (some .boolean), 2, 42, 2, []) (P0 []) s 102 [(1, vI x1)] [] := by
  unfold j_X3_skipBlock_102 at h
  refine v_iload_n dX3_skipBlock_102 0 rfl rfl ?_
  refine v_if_ne (tgt := 110) dX3_skipBlock_103 rx1 (by decide) (fun c1 => ?_) (fun c1 => ?_)
  · rw [if_neg c1] at h
    refine v_iconst dX3_skipBlock_110 ?_
    cases h
    exact v_zret (Or.inl rfl) dX3_skipBlock_111
  · rw [if_pos c1] at h
    refine v_iconst dX3_skipBlock_106 ?_
    refine v_goto (tgt := 111) dX3_skipBlock_107 (by decide) ?_
    cases h
    exact v_zret (Or.inr rfl) dX3_skipBlock_111

def f_X3_skipBlock (s : vS) : Option (Int × vS) :=
  lq_1 (l_X3_skipBlock_2 FU 0 s) fun y1 s2 =>
  j_X3_skipBlock_102 y1 s2
theorem yk_X3_skipBlock : yOk yX3_skipBlock 0 := ⟨by decide, by decide, by decide +kernel⟩
theorem c_X3_skipBlock {s : vS} {out : Int × vS} (h : f_X3_skipBlock s = some out)   : VC yX3_skipBlock cX3_skipBlock 2 (some .boolean) 2 42 [vO 5] s (some (vI out.1)) out.2 [] := by
  unfold f_X3_skipBlock at h
  refine VC.of RX3 (by decide) rfl (Nat.le_of_ble_eq_true rfl) ?_
  show VW cX3_skipBlock (RX3, (some (vI out.1)), out.2, (some .boolean), 2, 42, 2, []) (P0 []) s 0 [(0, vO 5)] []
  refine v_iconst dX3_skipBlock_0 ?_
  refine v_istore_n (L1 := [(1, vI 0), (0, vO 5)]) dX3_skipBlock_1 rfl (by decide) rfl ?_
  refine v_sub [1, 0] (L1 := [(0, vO 5), (1, vI 0)]) rfl ?_
  obtain ⟨y1, s2, e3, h⟩ := lq_1_some h
  refine wl_X3_skipBlock_2  FU 0 s _ e3 (rgl rfl) ?_
  unfold E_X3_skipBlock_2
  intro y1' s2' z_ r4
  cases z_
  exact wj_X3_skipBlock_102 h r4

def f_X3_isLarge (x0 : Int) (s : vS) : Option (Int × vS) :=
  if x0 < 65 then
    some (0, s)
  else
    if 90 < x0 then
      some (0, s)
    else
      some (1, s)
theorem yk_X3_isLarge : yOk yX3_isLarge 1 := ⟨by decide, by decide, by decide +kernel⟩
theorem c_X3_isLarge {x0 : Int} {s : vS} {out : Int × vS} (h : f_X3_isLarge x0 s = some out)  (rx0 : rg x0) : VC yX3_isLarge cX3_isLarge 1 (some .boolean) 0 0 [vI x0] s (some (vI out.1)) out.2 [] := by
  unfold f_X3_isLarge at h
  refine VC.of RX3 (by decide) rfl (Nat.le_of_ble_eq_true rfl) ?_
  show VW cX3_isLarge (RX3, (some (vI out.1)), out.2, (some .boolean), 0, 0, 1, []) (P0 []) s 0 [(0, vI x0)] []
  refine v_iload_n dX3_isLarge_0 0 rfl rfl ?_
  refine v_bipush dX3_isLarge_1 rfl ?_
  refine v_icmp_lt (tgt := 16) dX3_isLarge_3 rx0 (rgl rfl) (by decide) (fun c1 => ?_) (fun c1 => ?_)
  · rw [if_pos c1] at h
    refine v_iconst dX3_isLarge_16 ?_
    cases h
    exact v_zret (Or.inl rfl) dX3_isLarge_17
  · rw [if_neg c1] at h
    refine v_iload_n dX3_isLarge_6 0 rfl rfl ?_
    refine v_bipush dX3_isLarge_7 rfl ?_
    refine v_icmp_gt (tgt := 16) dX3_isLarge_9 rx0 (rgl rfl) (by decide) (fun c2 => ?_) (fun c2 => ?_)
    · rw [if_pos c2] at h
      refine v_iconst dX3_isLarge_16 ?_
      cases h
      exact v_zret (Or.inl rfl) dX3_isLarge_17
    · rw [if_neg c2] at h
      refine v_iconst dX3_isLarge_12 ?_
      refine v_goto (tgt := 17) dX3_isLarge_13 (by decide) ?_
      cases h
      exact v_zret (Or.inr rfl) dX3_isLarge_17

def f_X3_isLetter (x0 : Int) (s : vS) : Option (Int × vS) :=
  bd (f_X3_isLarge x0 s) fun r4 s1 =>
  if r4 = 0 then
    if x0 < 97 then
      some (0, s1)
    else
      if 122 < x0 then
        some (0, s1)
      else
        some (1, s1)
  else
    some (1, s1)
theorem yk_X3_isLetter : yOk yX3_isLetter 1 := ⟨by decide, by decide, by decide +kernel⟩
theorem c_X3_isLetter {x0 : Int} {s : vS} {out : Int × vS} (h : f_X3_isLetter x0 s = some out)  (rx0 : rg x0) : VC yX3_isLetter cX3_isLetter 1 (some .boolean) 1 20 [vI x0] s (some (vI out.1)) out.2 [] := by
  unfold f_X3_isLetter at h
  refine VC.of RX3 (by decide) rfl (Nat.le_of_ble_eq_true rfl) ?_
  show VW cX3_isLetter (RX3, (some (vI out.1)), out.2, (some .boolean), 1, 20, 1, []) (P0 []) s 0 [(0, vI x0)] []
  refine v_iload_n dX3_isLetter_0 0 rfl rfl ?_
  obtain ⟨r4, s1, e2, h⟩ := bd_some h
  have k3 := c_X3_isLarge e2 rx0
  have r5 : rg r4 := k3.1.2.2
  refine v_callS (st := []) k3 (lw_S q1092 q1093 q300 q1094) yk_X3_isLarge ⟨Nat.le_of_ble_eq_true rfl, Nat.le_of_ble_eq_true rfl⟩ trivial trivial (Nat.le_of_ble_eq_true rfl) rfl dX3_isLetter_1 ?_
  refine v_if_ne (tgt := 19) dX3_isLetter_4 r5 (by decide) (fun c6 => ?_) (fun c6 => ?_)
  · rw [if_neg c6] at h
    refine v_iconst dX3_isLetter_19 ?_
    refine v_goto (tgt := 24) dX3_isLetter_20 (by decide) ?_
    cases h
    exact v_zret (Or.inr rfl) dX3_isLetter_24
  · rw [if_pos c6] at h
    refine v_iload_n dX3_isLetter_7 0 rfl rfl ?_
    refine v_bipush dX3_isLetter_8 rfl ?_
    refine v_icmp_lt (tgt := 23) dX3_isLetter_10 rx0 (rgl rfl) (by decide) (fun c7 => ?_) (fun c7 => ?_)
    · rw [if_pos c7] at h
      refine v_iconst dX3_isLetter_23 ?_
      cases h
      exact v_zret (Or.inl rfl) dX3_isLetter_24
    · rw [if_neg c7] at h
      refine v_iload_n dX3_isLetter_13 0 rfl rfl ?_
      refine v_bipush dX3_isLetter_14 rfl ?_
      refine v_icmp_gt (tgt := 23) dX3_isLetter_16 rx0 (rgl rfl) (by decide) (fun c8 => ?_) (fun c8 => ?_)
      · rw [if_pos c8] at h
        refine v_iconst dX3_isLetter_23 ?_
        cases h
        exact v_zret (Or.inl rfl) dX3_isLetter_24
      · rw [if_neg c8] at h
        refine v_iconst dX3_isLetter_19 ?_
        refine v_goto (tgt := 24) dX3_isLetter_20 (by decide) ?_
        cases h
        exact v_zret (Or.inr rfl) dX3_isLetter_24

def f_X3_isDigit (x0 : Int) (s : vS) : Option (Int × vS) :=
  if x0 < 48 then
    some (0, s)
  else
    if 57 < x0 then
      some (0, s)
    else
      some (1, s)
theorem yk_X3_isDigit : yOk yX3_isDigit 1 := ⟨by decide, by decide, by decide +kernel⟩
theorem c_X3_isDigit {x0 : Int} {s : vS} {out : Int × vS} (h : f_X3_isDigit x0 s = some out)  (rx0 : rg x0) : VC yX3_isDigit cX3_isDigit 1 (some .boolean) 0 0 [vI x0] s (some (vI out.1)) out.2 [] := by
  unfold f_X3_isDigit at h
  refine VC.of RX3 (by decide) rfl (Nat.le_of_ble_eq_true rfl) ?_
  show VW cX3_isDigit (RX3, (some (vI out.1)), out.2, (some .boolean), 0, 0, 1, []) (P0 []) s 0 [(0, vI x0)] []
  refine v_iload_n dX3_isDigit_0 0 rfl rfl ?_
  refine v_bipush dX3_isDigit_1 rfl ?_
  refine v_icmp_lt (tgt := 16) dX3_isDigit_3 rx0 (rgl rfl) (by decide) (fun c1 => ?_) (fun c1 => ?_)
  · rw [if_pos c1] at h
    refine v_iconst dX3_isDigit_16 ?_
    cases h
    exact v_zret (Or.inl rfl) dX3_isDigit_17
  · rw [if_neg c1] at h
    refine v_iload_n dX3_isDigit_6 0 rfl rfl ?_
    refine v_bipush dX3_isDigit_7 rfl ?_
    refine v_icmp_gt (tgt := 16) dX3_isDigit_9 rx0 (rgl rfl) (by decide) (fun c2 => ?_) (fun c2 => ?_)
    · rw [if_pos c2] at h
      refine v_iconst dX3_isDigit_16 ?_
      cases h
      exact v_zret (Or.inl rfl) dX3_isDigit_17
    · rw [if_neg c2] at h
      refine v_iconst dX3_isDigit_12 ?_
      refine v_goto (tgt := 17) dX3_isDigit_13 (by decide) ?_
      cases h
      exact v_zret (Or.inr rfl) dX3_isDigit_17

def E_X3_compare_10 (p2 : Nat) (x3 : Int) (rv : Option vA) (σo : vS) (q : (vS) ⊕ (Int × vS)) : Prop := (∀ (s' : vS), q = .inl s' → VW cX3_compare (RX3, rv, σo, (some .int), 4, 85, 5, []) (P0 []) s' 70 [(2, vO p2), (3, vI x3)] []) ∧ (∀ (v : Int) (s' : vS), q = .inr (v, s') → rv = some (vI v) ∧ σo = s')
def l_X3_compare_10 (p2 : Nat) : Nat → Int → Int → Int → vS → Option ((vS) ⊕ (Int × vS))
  | 0, _, _, _, _ => none
  | n + 1, x1, x3, x4, s =>
    if x3 ≤ x4 then
      some (.inl s)
    else
      if (sL p2) ≤ x4 then
        some (.inl s)
      else
        gd (okB (gR s 5 2) 1) <|
        bd (f_X2_at (gR s 5 2) (w32 (x1 + x4)) s) fun r7 s4 =>
        gd (0 ≤ x4 ∧ x4 < sL p2) <|
        if r7 = (sC p2 x4) then
          vl (w32 (x4 + 1)) fun y11 =>
          l_X3_compare_10 p2 n x1 x3 y11 s4
        else
          gd (okB (gR s4 5 2) 1) <|
          bd (f_X2_at (gR s4 5 2) (w32 (x1 + x4)) s4) fun r18 s15 =>
          gd (0 ≤ x4 ∧ x4 < sL p2) <|
          some (.inr (w32 (r18 - (sC p2 x4)), s15))
theorem wl_X3_compare_10 (p2 : Nat) {x1 : Int} {x3 : Int} {rv : Option vA} {σo : vS} (hp2 : oS p2) (rx1 : rg x1) (rx3 : rg x3) : ∀ (n : Nat) (x4 : Int) (s : vS) (q : (vS) ⊕ (Int × vS)), l_X3_compare_10 p2 n x1 x3 x4 s = some q → rg x4 → E_X3_compare_10 p2 x3 rv σo q → VW cX3_compare (RX3, rv, σo, (some .int), 4, 85, 5, []) (P0 []) s 10 [(0, vO 5), (1, vI x1), (2, vO p2), (3, vI x3), (4, vI x4)] [] := by
  intro n
  induction n with
  | zero => intro x4 s q h; cases h
  | succ n ih =>
    intro x4 s q h rx4 hE
    unfold l_X3_compare_10 at h
    refine v_iload dX3_compare_10 4 rfl ?_
    refine v_iload_n dX3_compare_12 3 rfl rfl ?_
    refine v_icmp_ge (tgt := 70) dX3_compare_13 rx4 rx3 (by decide) (fun c1 => ?_) (fun c1 => ?_)
    · rw [if_pos c1] at h
      cases h
      refine v_sub [2, 3] (L1 := [(2, vO p2), (3, vI x3)]) rfl ?_
      exact hE.1 _ rfl 
    · rw [if_neg c1] at h
      refine v_iload dX3_compare_16 4 rfl ?_
      refine v_aload_n dX3_compare_18 2 rfl rfl ?_
      refine v_callVS (st := [vI x4]) hp2 (c_yJ5_length (s := s) hp2) (lw_V q1110 q1111 q1112 q318 q1113) rfl yk_yJ5_length ⟨Nat.le_of_ble_eq_true rfl, Nat.le_of_ble_eq_true rfl⟩ trivial ⟨kc5, (Or.inr hp2.1), trivial⟩ (Nat.le_of_ble_eq_true rfl) rfl dX3_compare_19 ?_
      refine v_icmp_ge (tgt := 70) dX3_compare_22 rx4 ((sL_rg hp2)) (by decide) (fun c2 => ?_) (fun c2 => ?_)
      · rw [if_pos c2] at h
        cases h
        refine v_sub [2, 3] (L1 := [(2, vO p2), (3, vI x3)]) rfl ?_
        exact hE.1 _ rfl 
      · rw [if_neg c2] at h
        refine v_aload_n dX3_compare_25 0 rfl rfl ?_
        obtain ⟨g3, h⟩ := gd_some h
        refine v_getR (f := 2) cf3 oc5 rfl (okB_R g3 (by decide) (by decide)) (by decide) q436 dX3_compare_26 ?_
        refine v_iload_n dX3_compare_29 1 rfl rfl ?_
        refine v_iload dX3_compare_30 4 rfl ?_
        refine v_iadd dX3_compare_32 ?_
        obtain ⟨r7, s4, e5, h⟩ := bd_some h
        have k6 := c_X2_at e5 g3 (w32_rg _)
        have r8 : rg r7 := k6.1.2.2
        refine v_callV (st := []) cf2 (okB_ok g3) k6 (lw_V q1071 q1072 q1073 q299 q1074) rfl yk_X2_at ⟨Nat.le_of_ble_eq_true rfl, Nat.le_of_ble_eq_true rfl⟩ trivial ⟨kc5, (Or.inr hp2.1), trivial⟩ (Nat.le_of_ble_eq_true rfl) rfl dX3_compare_33 ?_
        refine v_aload_n dX3_compare_36 2 rfl rfl ?_
        refine v_iload dX3_compare_37 4 rfl ?_
        obtain ⟨g9, h⟩ := gd_some h
        refine v_callVS (st := [vI r7]) hp2 (c_yJ5_charAt (s := s4) hp2 rx4 g9) (lw_V q1120 q1121 q1122 q318 q1123) rfl yk_yJ5_charAt ⟨Nat.le_of_ble_eq_true rfl, Nat.le_of_ble_eq_true rfl⟩ trivial ⟨kc5, (Or.inr hp2.1), trivial⟩ (Nat.le_of_ble_eq_true rfl) rfl dX3_compare_39 ?_
        refine v_icmp_eq (tgt := 64) dX3_compare_42 r8 ((sC_rg hp2 _)) (by decide) (fun c10 => ?_) (fun c10 => ?_)
        · rw [if_pos c10] at h
          obtain ⟨y11, e12, h⟩ := vl_some h
          refine v_iinc (L1 := [(4, vI (w32 (x4 + 1))), (0, vO 5), (1, vI x1), (2, vO p2), (3, vI x3)]) dX3_compare_64 4 rfl (by decide) rfl ?_
          rw [← e12]
          have r13 : rg y11 := by rw [e12]; exact w32_rg _
          refine v_goto (tgt := 10) dX3_compare_67 (by decide) ?_
          refine v_sub [1, 2, 3, 4, 0] (L1 := [(0, vO 5), (1, vI x1), (2, vO p2), (3, vI x3), (4, vI y11)]) rfl ?_
          exact ih y11 s4 _ h r13 hE
        · rw [if_neg c10] at h
          refine v_aload_n dX3_compare_45 0 rfl rfl ?_
          obtain ⟨g14, h⟩ := gd_some h
          refine v_getR (f := 2) cf3 oc5 rfl (okB_R g14 (by decide) (by decide)) (by decide) q436 dX3_compare_46 ?_
          refine v_iload_n dX3_compare_49 1 rfl rfl ?_
          refine v_iload dX3_compare_50 4 rfl ?_
          refine v_iadd dX3_compare_52 ?_
          obtain ⟨r18, s15, e16, h⟩ := bd_some h
          have k17 := c_X2_at e16 g14 (w32_rg _)
          have r19 : rg r18 := k17.1.2.2
          refine v_callV (st := []) cf2 (okB_ok g14) k17 (lw_V q1071 q1072 q1073 q299 q1074) rfl yk_X2_at ⟨Nat.le_of_ble_eq_true rfl, Nat.le_of_ble_eq_true rfl⟩ trivial ⟨kc5, (Or.inr hp2.1), trivial⟩ (Nat.le_of_ble_eq_true rfl) rfl dX3_compare_53 ?_
          refine v_aload_n dX3_compare_56 2 rfl rfl ?_
          refine v_iload dX3_compare_57 4 rfl ?_
          obtain ⟨g20, h⟩ := gd_some h
          refine v_callVS (st := [vI r18]) hp2 (c_yJ5_charAt (s := s15) hp2 rx4 g20) (lw_V q1120 q1121 q1122 q318 q1123) rfl yk_yJ5_charAt ⟨Nat.le_of_ble_eq_true rfl, Nat.le_of_ble_eq_true rfl⟩ trivial ⟨kc5, (Or.inr hp2.1), trivial⟩ (Nat.le_of_ble_eq_true rfl) rfl dX3_compare_59 ?_
          refine v_isub dX3_compare_62 ?_
          cases h
          obtain ⟨z1, z2⟩ := hE.2 _ _ rfl
          subst z1
          subst z2
          exact v_iret (w32_rg _) dX3_compare_63

def j_X3_compare_70 (p2 : Nat) (x3 : Int) (s : vS) : Option (Int × vS) :=
  some (w32 (x3 - (sL p2)), s)
theorem wj_X3_compare_70 {p2 : Nat} {x3 : Int} {s : vS} {out : Int × vS} (h : j_X3_compare_70 p2 x3 s = some out) (hp2 : oS p2) (rx3 : rg x3) : VW cX3_compare (RX3, (some (vI out.1)), out.2, (some .int), 4, 85, 5, []) (P0 []) s 70 [(2, vO p2), (3, vI x3)] [] := by
  unfold j_X3_compare_70 at h
  refine v_iload_n dX3_compare_70 1 rfl rfl ?_
  refine v_aload_n dX3_compare_71 0 rfl rfl ?_
  refine v_callVS (st := [vI x3]) hp2 (c_yJ5_length (s := s) hp2) (lw_V q1110 q1111 q1112 q318 q1113) rfl yk_yJ5_length ⟨Nat.le_of_ble_eq_true rfl, Nat.le_of_ble_eq_true rfl⟩ trivial ⟨(Or.inr hp2.1), trivial⟩ (Nat.le_of_ble_eq_true rfl) rfl dX3_compare_72 ?_
  refine v_isub dX3_compare_75 ?_
  cases h
  exact v_iret (w32_rg _) dX3_compare_76

def f_X3_compare (x1 : Int) (p2 : Nat) (s : vS) : Option (Int × vS) :=
  vl (w32 ((gI s 5 3) - x1)) fun y1 =>
  lqs_0 (l_X3_compare_10 p2 FU x1 y1 0 s) (fun s4 =>
    j_X3_compare_70 p2 y1 s4)
    (fun q => some q)
theorem yk_X3_compare : yOk yX3_compare 2 := ⟨by decide, by decide, by decide +kernel⟩
theorem c_X3_compare {x1 : Int} {p2 : Nat} {s : vS} {out : Int × vS} (h : f_X3_compare x1 p2 s = some out) (hp2 : oS p2) (rx1 : rg x1) : VC yX3_compare cX3_compare 5 (some .int) 4 85 [vO 5, vI x1, vO p2] s (some (vI out.1)) out.2 [] := by
  unfold f_X3_compare at h
  refine VC.of RX3 (by decide) rfl (Nat.le_of_ble_eq_true rfl) ?_
  show VW cX3_compare (RX3, (some (vI out.1)), out.2, (some .int), 4, 85, 5, []) (P0 []) s 0 [(0, vO 5), (1, vI x1), (2, vO p2)] []
  refine v_aload_n dX3_compare_0 0 rfl rfl ?_
  refine v_getI (f := 3) cf3 oc5 rfl (by decide) q437 dX3_compare_1 ?_
  refine v_iload_n dX3_compare_4 1 rfl rfl ?_
  refine v_isub dX3_compare_5 ?_
  obtain ⟨y1, e2, h⟩ := vl_some h
  rw [← e2]
  have r3 : rg y1 := by rw [e2]; exact w32_rg _
  refine v_istore_n (L1 := [(3, vI y1), (0, vO 5), (1, vI x1), (2, vO p2)]) dX3_compare_6 rfl (by decide) rfl ?_
  refine v_iconst dX3_compare_7 ?_
  refine v_istore (L1 := [(4, vI 0), (3, vI y1), (0, vO 5), (1, vI x1), (2, vO p2)]) dX3_compare_8 (by decide) rfl ?_
  refine v_sub [2, 3, 4, 1, 0] (L1 := [(0, vO 5), (1, vI x1), (2, vO p2), (3, vI y1), (4, vI 0)]) rfl ?_
  rcases lqs_0_some h with ⟨s4, e5, h⟩ | ⟨q9, e5, h⟩
  · refine wl_X3_compare_10 p2 hp2 rx1 r3 FU 0 s _ e5 (rgl rfl) ?_
    unfold E_X3_compare_10
    refine ⟨?_, fun v9 s9 z_ => (by cases z_)⟩
    intro s4' z_
    cases z_
    exact wj_X3_compare_70 h hp2 r3
  · cases h
    refine wl_X3_compare_10 p2 hp2 rx1 r3 FU 0 s _ e5 (rgl rfl) ?_
    unfold E_X3_compare_10
    refine ⟨fun _ z_ => (by cases z_), ?_⟩
    intro v9 s9 z_
    cases z_
    exact ⟨rfl, rfl⟩

def E_X3_wordOf_10 (rv : Option vA) (σo : vS) (q : (vS) ⊕ (Int × vS)) : Prop := (∀ (s' : vS), q = .inl s' → VW cX3_wordOf (RX3, rv, σo, (some .int), 5, 109, 6, []) (P0 []) s' 65 [] []) ∧ (∀ (v : Int) (s' : vS), q = .inr (v, s') → rv = some (vI v) ∧ σo = s')
def l_X3_wordOf_10 : Nat → Int → Int → Int → vS → Option ((vS) ⊕ (Int × vS))
  | 0, _, _, _, _ => none
  | n + 1, x1, x2, x3, s =>
    if x3 < x2 then
      some (.inl s)
    else
      vl (d32 (w32 (x2 + x3)) 2) fun y2 =>
      gd ((inb y2 (gN s 6) ∧ y2 < 77) ∧ gE s 6 y2 = 1) <|
      bd (f_X3_compare x1 (1000 + Int.toNat y2) s) fun r9 s6 =>
      if r9 = 0 then
        some (.inr (y2, s6))
      else
        if 0 ≤ r9 then
          vl (w32 (y2 + 1)) fun y13 =>
          l_X3_wordOf_10 n x1 y13 x3 s6
        else
          vl (w32 (y2 - 1)) fun y16 =>
          l_X3_wordOf_10 n x1 x2 y16 s6
theorem wl_X3_wordOf_10 {x1 : Int} {rv : Option vA} {σo : vS}  (rx1 : rg x1) : ∀ (n : Nat) (x2 : Int) (x3 : Int) (s : vS) (q : (vS) ⊕ (Int × vS)), l_X3_wordOf_10 n x1 x2 x3 s = some q → rg x2 → rg x3 → E_X3_wordOf_10 rv σo q → VW cX3_wordOf (RX3, rv, σo, (some .int), 5, 109, 6, []) (P0 []) s 10 [(0, vO 5), (1, vI x1), (2, vI x2), (3, vI x3)] [] := by
  intro n
  induction n with
  | zero => intro x2 x3 s q h; cases h
  | succ n ih =>
    intro x2 x3 s q h rx2 rx3 hE
    unfold l_X3_wordOf_10 at h
    refine v_iload_n dX3_wordOf_10 2 rfl rfl ?_
    refine v_iload_n dX3_wordOf_11 3 rfl rfl ?_
    refine v_icmp_gt (tgt := 65) dX3_wordOf_12 rx2 rx3 (by decide) (fun c1 => ?_) (fun c1 => ?_)
    · rw [if_pos c1] at h
      cases h
      refine v_sub [] (L1 := []) rfl ?_
      exact hE.1 _ rfl 
    · rw [if_neg c1] at h
      refine v_iload_n dX3_wordOf_15 2 rfl rfl ?_
      refine v_iload_n dX3_wordOf_16 3 rfl rfl ?_
      refine v_iadd dX3_wordOf_17 ?_
      refine v_iconst dX3_wordOf_18 ?_
      refine v_idiv dX3_wordOf_19 (rgl rfl) (by decide) ?_
      obtain ⟨y2, e3, h⟩ := vl_some h
      rw [← e3]
      have r4 : rg y2 := by rw [e3]; exact d32_rg _ _
      refine v_istore (L1 := [(4, vI y2), (0, vO 5), (1, vI x1), (2, vI x2), (3, vI x3)]) dX3_wordOf_20 (by decide) rfl ?_
      refine v_aload_n dX3_wordOf_22 1 rfl rfl ?_
      refine v_iload_n dX3_wordOf_23 2 rfl rfl ?_
      refine v_aload_n dX3_wordOf_24 1 rfl rfl ?_
      refine v_getS (f := 1) (t := 6) cf3 oc5 rfl rfl rfl (by decide) q435 dX3_wordOf_25 ?_
      refine v_iload dX3_wordOf_28 0 rfl ?_
      obtain ⟨g5, h⟩ := gd_some h
      refine v_aa28 oc6 r4 g5 dX3_wordOf_30 ?_
      obtain ⟨r9, s6, e7, h⟩ := bd_some h
      have k8 := c_X3_compare e7 (okS_at g5) rx1
      have r10 : rg r9 := k8.1.2.2
      refine v_callV (st := []) cf3 oc5 k8 (lw_V q1106 q1108 qs9 q300 q1109) rfl yk_X3_compare ⟨Nat.le_of_ble_eq_true rfl, Nat.le_of_ble_eq_true rfl⟩ trivial ⟨kc5, trivial⟩ (Nat.le_of_ble_eq_true rfl) rfl dX3_wordOf_31 ?_
      refine v_istore (L1 := [(5, vI r9), (4, vI y2), (0, vO 5), (1, vI x1), (2, vI x2), (3, vI x3)]) dX3_wordOf_34 (by decide) rfl ?_
      refine v_iload dX3_wordOf_36 0 rfl ?_
      refine v_if_ne (tgt := 44) dX3_wordOf_38 r10 (by decide) (fun c11 => ?_) (fun c11 => ?_)
      · rw [if_neg c11] at h
        refine v_iload dX3_wordOf_44 0 rfl ?_
        refine v_if_ge (tgt := 57) dX3_wordOf_46 r10 (by decide) (fun c12 => ?_) (fun c12 => ?_)
        · rw [if_pos c12] at h
          refine v_iload dX3_wordOf_57 1 rfl ?_
          refine v_iconst dX3_wordOf_59 ?_
          refine v_iadd dX3_wordOf_60 ?_
          obtain ⟨y13, e14, h⟩ := vl_some h
          rw [← e14]
          have r15 : rg y13 := by rw [e14]; exact w32_rg _
          refine v_istore_n (L1 := [(2, vI y13), (5, vI r9), (4, vI y2), (0, vO 5), (1, vI x1), (3, vI x3)]) dX3_wordOf_61 rfl (by decide) rfl ?_
          refine v_goto (tgt := 10) dX3_wordOf_62 (by decide) ?_
          refine v_sub [3, 4, 0, 5] (L1 := [(0, vO 5), (1, vI x1), (2, vI y13), (3, vI x3)]) rfl ?_
          exact ih y13 x3 s6 _ h r15 rx3 hE
        · rw [if_neg c12] at h
          refine v_iload dX3_wordOf_49 1 rfl ?_
          refine v_iconst dX3_wordOf_51 ?_
          refine v_isub dX3_wordOf_52 ?_
          obtain ⟨y16, e17, h⟩ := vl_some h
          rw [← e17]
          have r18 : rg y16 := by rw [e17]; exact w32_rg _
          refine v_istore_n (L1 := [(3, vI y16), (5, vI r9), (4, vI y2), (0, vO 5), (1, vI x1), (2, vI x2)]) dX3_wordOf_53 rfl (by decide) rfl ?_
          refine v_goto (tgt := 62) dX3_wordOf_54 (by decide) ?_
          refine v_goto (tgt := 10) dX3_wordOf_62 (by decide) ?_
          refine v_sub [3, 4, 5, 0] (L1 := [(0, vO 5), (1, vI x1), (2, vI x2), (3, vI y16)]) rfl ?_
          exact ih x2 y16 s6 _ h rx2 r18 hE
      · rw [if_pos c11] at h
        refine v_iload dX3_wordOf_41 1 rfl ?_
        cases h
        obtain ⟨z1, z2⟩ := hE.2 _ _ rfl
        subst z1
        subst z2
        exact v_iret r4 dX3_wordOf_43

def f_X3_wordOf (x1 : Int) (s : vS) : Option (Int × vS) :=
  vl (w32 ((w32 (gN s 6 : Int)) - 1)) fun y1 =>
  lqs_0 (l_X3_wordOf_10 FU x1 0 y1 s) (fun s4 =>
    some ((-1), s4))
    (fun q => some q)
theorem yk_X3_wordOf : yOk yX3_wordOf 1 := ⟨by decide, by decide, by decide +kernel⟩
theorem c_X3_wordOf {x1 : Int} {s : vS} {out : Int × vS} (h : f_X3_wordOf x1 s = some out)  (rx1 : rg x1) : VC yX3_wordOf cX3_wordOf 6 (some .int) 5 109 [vO 5, vI x1] s (some (vI out.1)) out.2 [] := by
  unfold f_X3_wordOf at h
  refine VC.of RX3 (by decide) rfl (Nat.le_of_ble_eq_true rfl) ?_
  show VW cX3_wordOf (RX3, (some (vI out.1)), out.2, (some .int), 5, 109, 6, []) (P0 []) s 0 [(0, vO 5), (1, vI x1)] []
  refine v_iconst dX3_wordOf_0 ?_
  refine v_istore_n (L1 := [(2, vI 0), (0, vO 5), (1, vI x1)]) dX3_wordOf_1 rfl (by decide) rfl ?_
  refine v_aload_n dX3_wordOf_2 1 rfl rfl ?_
  refine v_getS (f := 1) (t := 6) cf3 oc5 rfl rfl rfl (by decide) q435 dX3_wordOf_3 ?_
  refine v_alen28 oc6 dX3_wordOf_6 ?_
  refine v_iconst dX3_wordOf_7 ?_
  refine v_isub dX3_wordOf_8 ?_
  obtain ⟨y1, e2, h⟩ := vl_some h
  rw [← e2]
  have r3 : rg y1 := by rw [e2]; exact w32_rg _
  refine v_istore_n (L1 := [(3, vI y1), (2, vI 0), (0, vO 5), (1, vI x1)]) dX3_wordOf_9 rfl (by decide) rfl ?_
  refine v_sub [2, 3, 1, 0] (L1 := [(0, vO 5), (1, vI x1), (2, vI 0), (3, vI y1)]) rfl ?_
  rcases lqs_0_some h with ⟨s4, e5, h⟩ | ⟨q9, e5, h⟩
  · refine wl_X3_wordOf_10 rx1 FU 0 y1 s _ e5 (rgl rfl) r3 ?_
    unfold E_X3_wordOf_10
    refine ⟨?_, fun v9 s9 z_ => (by cases z_)⟩
    intro s4' z_
    cases z_
    refine v_iconst dX3_wordOf_65 ?_
    cases h
    exact v_iret (rgl rfl) dX3_wordOf_66
  · cases h
    refine wl_X3_wordOf_10 rx1 FU 0 y1 s _ e5 (rgl rfl) r3 ?_
    unfold E_X3_wordOf_10
    refine ⟨fun _ z_ => (by cases z_), ?_⟩
    intro v9 s9 z_
    cases z_
    exact ⟨rfl, rfl⟩

def f_X3_grown (p0 : Nat) (s : vS) : Option (vS) :=
  gd (naG (w32 (2 * (w32 (gN s p0 : Int))))) <|
  stp (sA s 199 (Int.toNat (w32 (2 * (w32 (gN s p0 : Int)))), fun _ => 0)) fun s2 =>
  gd (cpG 0 0 (w32 (gN s2 p0 : Int)) (gN s2 p0) (gN s2 199)) <|
  stp (cpA s2 p0 199 0 0 (w32 (gN s2 p0 : Int))) fun s5 =>
  some s5
theorem yk_X3_grown : yOk yX3_grown 1 := ⟨by decide, by decide, by decide +kernel⟩
theorem c_X3_grown {p0 : Nat} {s : vS} {out : vS} (h : f_X3_grown p0 s = some out) (hp0 : okB p0 24)  : VC yX3_grown cX3_grown 2 (some (.array .int)) 1 26 [vO p0] s (some (vO 199)) out [(24, 1)] := by
  unfold f_X3_grown at h
  refine VC.of RX3 (by decide) rfl (Nat.le_of_ble_eq_true rfl) ?_
  show VW cX3_grown (RX3, (some (vO 199)), out, (some (.array .int)), 1, 26, 2, [(24, 1)]) (P0 []) s 0 [(0, vO p0)] []
  refine v_iconst dX3_grown_0 ?_
  refine v_aload_n dX3_grown_1 0 rfl rfl ?_
  refine v_alen24 (okB_ok hp0) dX3_grown_2 ?_
  refine v_imul dX3_grown_3 ?_
  obtain ⟨g1, h⟩ := gd_some h
  obtain ⟨s2, e3, h⟩ := stp_some h
  refine v_na24 (K := 199) (tk1 := [(24, 1)]) rfl rfl (by decide) (w32_rg _) g1 ⟨(Nat.lt_of_lt_of_le hp0.1 (by decide)), trivial⟩ trivial q459 dX3_grown_4 ?_
  rw [← e3]
  refine v_astore_n (L1 := [(1, vO 199), (0, vO p0)]) dX3_grown_6 rfl (by decide) rfl ?_
  refine v_aload_n dX3_grown_7 1 rfl rfl ?_
  refine v_iconst dX3_grown_8 ?_
  refine v_aload_n dX3_grown_9 0 rfl rfl ?_
  refine v_iconst dX3_grown_10 ?_
  refine v_aload_n dX3_grown_11 1 rfl rfl ?_
  refine v_alen24 (okB_ok hp0) dX3_grown_12 ?_
  obtain ⟨g4, h⟩ := gd_some h
  obtain ⟨s5, e6, h⟩ := stp_some h
  refine v_cp (t := 24) (by decide) (by decide) (okB_ok hp0) (ok_tmp (i := 0) rfl) (rgl rfl) (rgl rfl) (w32_rg _) g4 (Nat.le_of_ble_eq_true rfl) (Nat.le_of_ble_eq_true rfl) q1165 dX3_grown_13 ?_
  rw [← e6]
  refine v_aload_n dX3_grown_16 0 rfl rfl ?_
  cases h
  exact v_aretT dX3_grown_17

def j_X3_add_45 (x1 : Int) (x2 : Int) (s : vS) : Option (vS) :=
  gd (inb (gI s 5 7) (gN s 7)) <|
  stp (sE s 7 (gI s 5 7) x1) fun s2 =>
  gd (inb (gI s2 5 7) (gN s2 8)) <|
  stp (sE s2 8 (gI s2 5 7) x2) fun s5 =>
  gd (inb (gI s5 5 7) (gN s5 9)) <|
  stp (sE s5 9 (gI s5 5 7) (gI s5 5 3)) fun s8 =>
  stp (sI s8 5 7 (w32 ((gI s8 5 7) + 1))) fun s10 =>
  some s10
theorem wj_X3_add_45 {x1 : Int} {x2 : Int} {s : vS} {out : vS} (h : j_X3_add_45 x1 x2 s = some out)  (rx1 : rg x1) (rx2 : rg x2) : VW cX3_add (RX3, none, out, none, 2, 47, 3, []) (P0 []) s 45 [(0, vO 5), (1, vI x1), (2, vI x2)] [] := by
  unfold j_X3_add_45 at h
  refine v_aload_n dX3_add_45 0 rfl rfl ?_
  refine v_getS (f := 4) (t := 7) cf3 oc5 rfl rfl rfl (by decide) q438 dX3_add_46 ?_
  refine v_aload_n dX3_add_49 0 rfl rfl ?_
  refine v_getI (f := 7) cf3 oc5 rfl (by decide) q441 dX3_add_50 ?_
  refine v_iload_n dX3_add_53 1 rfl rfl ?_
  obtain ⟨g1, h⟩ := gd_some h
  obtain ⟨s2, e3, h⟩ := stp_some h
  refine v_iast oc7 (gI_rg _ _ _) g1.1 g1.2 dX3_add_54 ?_
  rw [← e3]
  refine v_aload_n dX3_add_55 0 rfl rfl ?_
  refine v_getS (f := 5) (t := 8) cf3 oc5 rfl rfl rfl (by decide) q439 dX3_add_56 ?_
  refine v_aload_n dX3_add_59 0 rfl rfl ?_
  refine v_getI (f := 7) cf3 oc5 rfl (by decide) q441 dX3_add_60 ?_
  refine v_iload_n dX3_add_63 2 rfl rfl ?_
  obtain ⟨g4, h⟩ := gd_some h
  obtain ⟨s5, e6, h⟩ := stp_some h
  refine v_iast oc8 (gI_rg _ _ _) g4.1 g4.2 dX3_add_64 ?_
  rw [← e6]
  refine v_aload_n dX3_add_65 0 rfl rfl ?_
  refine v_getS (f := 6) (t := 9) cf3 oc5 rfl rfl rfl (by decide) q440 dX3_add_66 ?_
  refine v_aload_n dX3_add_69 0 rfl rfl ?_
  refine v_getI (f := 7) cf3 oc5 rfl (by decide) q441 dX3_add_70 ?_
  refine v_aload_n dX3_add_73 0 rfl rfl ?_
  refine v_getI (f := 3) cf3 oc5 rfl (by decide) q437 dX3_add_74 ?_
  obtain ⟨g7, h⟩ := gd_some h
  obtain ⟨s8, e9, h⟩ := stp_some h
  refine v_iast oc9 (gI_rg _ _ _) g7.1 g7.2 dX3_add_77 ?_
  rw [← e9]
  refine v_aload_n dX3_add_78 0 rfl rfl ?_
  refine v_dupO dX3_add_79 ?_
  refine v_getI (f := 7) cf3 oc5 rfl (by decide) q441 dX3_add_80 ?_
  refine v_iconst dX3_add_83 ?_
  refine v_iadd dX3_add_84 ?_
  obtain ⟨s10, e11, h⟩ := stp_some h
  refine v_putI (f := 7) cf3 oc5 rfl (by decide) q441 dX3_add_85 rfl rfl ?_
  rw [← e11]
  cases h
  exact v_vret dX3_add_88

def f_X3_add (x1 : Int) (x2 : Int) (s : vS) : Option (vS) :=
  if (gI s 5 7) = (w32 (gN s 7 : Int)) then
    bdv (f_X3_grown 7 s) fun s2 =>
    gd (2 * gN s2 7 ≤ gN s2 199 ∧ 2 ≤ gN s2 199) <|
    stp (sw2 s2 7 199) fun s6 =>
    stp (rs s6) fun s8 =>
    bdv (f_X3_grown 8 s8) fun s10 =>
    gd (2 * gN s10 8 ≤ gN s10 199 ∧ 2 ≤ gN s10 199) <|
    stp (sw2 s10 8 199) fun s14 =>
    stp (rs s14) fun s16 =>
    bdv (f_X3_grown 9 s16) fun s18 =>
    gd (2 * gN s18 9 ≤ gN s18 199 ∧ 2 ≤ gN s18 199) <|
    stp (sw2 s18 9 199) fun s22 =>
    stp (rs s22) fun s24 =>
    j_X3_add_45 x1 x2 s24
  else
    j_X3_add_45 x1 x2 s
theorem yk_X3_add : yOk yX3_add 2 := ⟨by decide, by decide, by decide +kernel⟩
theorem c_X3_add {x1 : Int} {x2 : Int} {s : vS} {out : vS} (h : f_X3_add x1 x2 s = some out)  (rx1 : rg x1) (rx2 : rg x2) : VC yX3_add cX3_add 3 none 2 47 [vO 5, vI x1, vI x2] s none out [] := by
  unfold f_X3_add at h
  refine VC.of RX3 (by decide) rfl (Nat.le_of_ble_eq_true rfl) ?_
  show VW cX3_add (RX3, none, out, none, 2, 47, 3, []) (P0 []) s 0 [(0, vO 5), (1, vI x1), (2, vI x2)] []
  refine v_aload_n dX3_add_0 0 rfl rfl ?_
  refine v_getI (f := 7) cf3 oc5 rfl (by decide) q441 dX3_add_1 ?_
  refine v_aload_n dX3_add_4 0 rfl rfl ?_
  refine v_getS (f := 4) (t := 7) cf3 oc5 rfl rfl rfl (by decide) q438 dX3_add_5 ?_
  refine v_alen24 oc7 dX3_add_8 ?_
  refine v_icmp_ne (tgt := 45) dX3_add_9 (gI_rg _ _ _) (w32_rg _) (by decide) (fun c1 => ?_) (fun c1 => ?_)
  · rw [if_neg c1] at h
    exact wj_X3_add_45 h rx1 rx2
  · rw [if_pos c1] at h
    refine v_aload_n dX3_add_12 0 rfl rfl ?_
    refine v_aload_n dX3_add_13 0 rfl rfl ?_
    refine v_getS (f := 4) (t := 7) cf3 oc5 rfl rfl rfl (by decide) q438 dX3_add_14 ?_
    obtain ⟨s2, e3, h⟩ := bdv_some h
    have k4 := c_X3_grown e3 (⟨by decide, rfl⟩ : okB 7 24)
    refine v_callS (st := [vO 5]) k4 (lw_S q1162 q1163 q300 q1164) yk_X3_grown ⟨Nat.le_of_ble_eq_true rfl, Nat.le_of_ble_eq_true rfl⟩ ⟨kc5, trivial⟩ ⟨kc5, trivial⟩ (Nat.le_of_ble_eq_true rfl) rfl dX3_add_17 ?_
    obtain ⟨g5, h⟩ := gd_some h
    obtain ⟨s6, e7, h⟩ := stp_some h
    refine v_pa (i := 0) (K := 199) (t0 := 7) (f := 4) (tk1 := [(24, 0)]) (L1 := [(0, vO 5), (1, vI x1), (2, vI x2)]) (st1 := []) rfl rfl (by decide) cf3 (⟨by decide, rfl⟩ : okB 5 2) rfl (by decide) rfl rfl (by decide) rfl g5 q438 dX3_add_20 rfl rfl rfl rfl ?_
    rw [← e7]
    obtain ⟨s8, e9, h⟩ := stp_some h
    refine v_dr (by decide) (by decide) ⟨(by decide), trivial⟩ trivial ?_
    rw [← e9]
    refine v_aload_n dX3_add_23 0 rfl rfl ?_
    refine v_aload_n dX3_add_24 0 rfl rfl ?_
    refine v_getS (f := 5) (t := 8) cf3 oc5 rfl rfl rfl (by decide) q439 dX3_add_25 ?_
    obtain ⟨s10, e11, h⟩ := bdv_some h
    have k12 := c_X3_grown e11 (⟨by decide, rfl⟩ : okB 8 24)
    refine v_callS (st := [vO 5]) k12 (lw_S q1162 q1163 q300 q1164) yk_X3_grown ⟨Nat.le_of_ble_eq_true rfl, Nat.le_of_ble_eq_true rfl⟩ ⟨kc5, trivial⟩ ⟨kc5, trivial⟩ (Nat.le_of_ble_eq_true rfl) rfl dX3_add_28 ?_
    obtain ⟨g13, h⟩ := gd_some h
    obtain ⟨s14, e15, h⟩ := stp_some h
    refine v_pa (i := 0) (K := 199) (t0 := 8) (f := 5) (tk1 := [(24, 0)]) (L1 := [(0, vO 5), (1, vI x1), (2, vI x2)]) (st1 := []) rfl rfl (by decide) cf3 (⟨by decide, rfl⟩ : okB 5 2) rfl (by decide) rfl rfl (by decide) rfl g13 q439 dX3_add_31 rfl rfl rfl rfl ?_
    rw [← e15]
    obtain ⟨s16, e17, h⟩ := stp_some h
    refine v_dr (by decide) (by decide) ⟨(by decide), trivial⟩ trivial ?_
    rw [← e17]
    refine v_aload_n dX3_add_34 0 rfl rfl ?_
    refine v_aload_n dX3_add_35 0 rfl rfl ?_
    refine v_getS (f := 6) (t := 9) cf3 oc5 rfl rfl rfl (by decide) q440 dX3_add_36 ?_
    obtain ⟨s18, e19, h⟩ := bdv_some h
    have k20 := c_X3_grown e19 (⟨by decide, rfl⟩ : okB 9 24)
    refine v_callS (st := [vO 5]) k20 (lw_S q1162 q1163 q300 q1164) yk_X3_grown ⟨Nat.le_of_ble_eq_true rfl, Nat.le_of_ble_eq_true rfl⟩ ⟨kc5, trivial⟩ ⟨kc5, trivial⟩ (Nat.le_of_ble_eq_true rfl) rfl dX3_add_39 ?_
    obtain ⟨g21, h⟩ := gd_some h
    obtain ⟨s22, e23, h⟩ := stp_some h
    refine v_pa (i := 0) (K := 199) (t0 := 9) (f := 6) (tk1 := [(24, 0)]) (L1 := [(0, vO 5), (1, vI x1), (2, vI x2)]) (st1 := []) rfl rfl (by decide) cf3 (⟨by decide, rfl⟩ : okB 5 2) rfl (by decide) rfl rfl (by decide) rfl g21 q440 dX3_add_42 rfl rfl rfl rfl ?_
    rw [← e23]
    obtain ⟨s24, e25, h⟩ := stp_some h
    refine v_dr (by decide) (by decide) ⟨(by decide), trivial⟩ trivial ?_
    rw [← e25]
    exact wj_X3_add_45 h rx1 rx2

def E_X3_name_15 (x1 : Int) (rv : Option vA) (σo : vS) (q : vS) : Prop := ∀ (s' : vS), q = s' → VW cX3_name (RX3, rv, σo, none, 6, 134, 3, []) (P0 []) s' 82 [(0, vO 5), (1, vI x1)] []
def l_X3_name_15 : Nat → Int → vS → Option (vS)
  | 0, _, _ => none
  | n + 1, x1, s =>
    bd (f_X3_here 0 s) fun r4 s1 =>
    bd (f_X3_isLetter r4 s1) fun r9 s6 =>
    if r9 = 0 then
      bd (f_X3_here 0 s6) fun r17 s14 =>
      bd (f_X3_isDigit r17 s14) fun r22 s19 =>
      if r22 = 0 then
        bd (f_X3_here 0 s19) fun r30 s27 =>
        if r30 = 45 then
          bd (f_X3_here 1 s27) fun r36 s33 =>
          bd (f_X3_isLetter r36 s33) fun r41 s38 =>
          if r41 = 0 then
            bd (f_X3_here 1 s38) fun r49 s46 =>
            bd (f_X3_isDigit r49 s46) fun r54 s51 =>
            if r54 = 0 then
              some s51
            else
              stp (sI s51 5 3 (w32 ((gI s51 5 3) + 1))) fun s57 =>
              l_X3_name_15 n x1 s57
          else
            stp (sI s38 5 3 (w32 ((gI s38 5 3) + 1))) fun s44 =>
            l_X3_name_15 n x1 s44
        else
          some s27
      else
        stp (sI s19 5 3 (w32 ((gI s19 5 3) + 1))) fun s25 =>
        l_X3_name_15 n x1 s25
    else
      stp (sI s6 5 3 (w32 ((gI s6 5 3) + 1))) fun s12 =>
      l_X3_name_15 n x1 s12
theorem wl_X3_name_15 {x1 : Int} {rv : Option vA} {σo : vS}  (rx1 : rg x1) : ∀ (n : Nat) (s : vS) (q : vS), l_X3_name_15 n x1 s = some q → E_X3_name_15 x1 rv σo q → VW cX3_name (RX3, rv, σo, none, 6, 134, 3, []) (P0 []) s 15 [(0, vO 5), (1, vI x1)] [] := by
  intro n
  induction n with
  | zero => intro s q h; cases h
  | succ n ih =>
    intro s q h  hE
    unfold l_X3_name_15 at h
    refine v_aload_n dX3_name_15 0 rfl rfl ?_
    refine v_iconst dX3_name_16 ?_
    obtain ⟨r4, s1, e2, h⟩ := bd_some h
    have k3 := c_X3_here e2 (rgl rfl)
    have r5 : rg r4 := k3.1.2.2
    refine v_callV (st := []) cf3 oc5 k3 (lw_V q1067 q1069 qs4 q300 q1070) rfl yk_X3_here ⟨Nat.le_of_ble_eq_true rfl, Nat.le_of_ble_eq_true rfl⟩ trivial ⟨kc5, trivial⟩ (Nat.le_of_ble_eq_true rfl) rfl dX3_name_17 ?_
    obtain ⟨r9, s6, e7, h⟩ := bd_some h
    have k8 := c_X3_isLetter e7 r5
    have r10 : rg r9 := k8.1.2.2
    refine v_callS (st := []) k8 (lw_S q1089 q1090 q300 q1091) yk_X3_isLetter ⟨Nat.le_of_ble_eq_true rfl, Nat.le_of_ble_eq_true rfl⟩ trivial ⟨kc5, trivial⟩ (Nat.le_of_ble_eq_true rfl) rfl dX3_name_20 ?_
    refine v_if_ne (tgt := 69) dX3_name_23 r10 (by decide) (fun c11 => ?_) (fun c11 => ?_)
    · rw [if_neg c11] at h
      refine v_aload_n dX3_name_69 0 rfl rfl ?_
      refine v_dupO dX3_name_70 ?_
      refine v_getI (f := 3) cf3 oc5 rfl (by decide) q437 dX3_name_71 ?_
      refine v_iconst dX3_name_74 ?_
      refine v_iadd dX3_name_75 ?_
      obtain ⟨s12, e13, h⟩ := stp_some h
      refine v_putI (f := 3) cf3 oc5 rfl (by decide) q437 dX3_name_76 rfl rfl ?_
      rw [← e13]
      refine v_goto (tgt := 15) dX3_name_79 (by decide) ?_
      exact ih s12 _ h  hE
    · rw [if_pos c11] at h
      refine v_aload_n dX3_name_26 0 rfl rfl ?_
      refine v_iconst dX3_name_27 ?_
      obtain ⟨r17, s14, e15, h⟩ := bd_some h
      have k16 := c_X3_here e15 (rgl rfl)
      have r18 : rg r17 := k16.1.2.2
      refine v_callV (st := []) cf3 oc5 k16 (lw_V q1067 q1069 qs4 q300 q1070) rfl yk_X3_here ⟨Nat.le_of_ble_eq_true rfl, Nat.le_of_ble_eq_true rfl⟩ trivial ⟨kc5, trivial⟩ (Nat.le_of_ble_eq_true rfl) rfl dX3_name_28 ?_
      obtain ⟨r22, s19, e20, h⟩ := bd_some h
      have k21 := c_X3_isDigit e20 r18
      have r23 : rg r22 := k21.1.2.2
      refine v_callS (st := []) k21 (lw_S q1099 q1100 q300 q1101) yk_X3_isDigit ⟨Nat.le_of_ble_eq_true rfl, Nat.le_of_ble_eq_true rfl⟩ trivial ⟨kc5, trivial⟩ (Nat.le_of_ble_eq_true rfl) rfl dX3_name_31 ?_
      refine v_if_ne (tgt := 69) dX3_name_34 r23 (by decide) (fun c24 => ?_) (fun c24 => ?_)
      · rw [if_neg c24] at h
        refine v_aload_n dX3_name_69 0 rfl rfl ?_
        refine v_dupO dX3_name_70 ?_
        refine v_getI (f := 3) cf3 oc5 rfl (by decide) q437 dX3_name_71 ?_
        refine v_iconst dX3_name_74 ?_
        refine v_iadd dX3_name_75 ?_
        obtain ⟨s25, e26, h⟩ := stp_some h
        refine v_putI (f := 3) cf3 oc5 rfl (by decide) q437 dX3_name_76 rfl rfl ?_
        rw [← e26]
        refine v_goto (tgt := 15) dX3_name_79 (by decide) ?_
        exact ih s25 _ h  hE
      · rw [if_pos c24] at h
        refine v_aload_n dX3_name_37 0 rfl rfl ?_
        refine v_iconst dX3_name_38 ?_
        obtain ⟨r30, s27, e28, h⟩ := bd_some h
        have k29 := c_X3_here e28 (rgl rfl)
        have r31 : rg r30 := k29.1.2.2
        refine v_callV (st := []) cf3 oc5 k29 (lw_V q1067 q1069 qs4 q300 q1070) rfl yk_X3_here ⟨Nat.le_of_ble_eq_true rfl, Nat.le_of_ble_eq_true rfl⟩ trivial ⟨kc5, trivial⟩ (Nat.le_of_ble_eq_true rfl) rfl dX3_name_39 ?_
        refine v_bipush dX3_name_42 rfl ?_
        refine v_icmp_ne (tgt := 82) dX3_name_44 r31 (rgl rfl) (by decide) (fun c32 => ?_) (fun c32 => ?_)
        · rw [if_neg c32] at h
          cases h
          exact hE _ rfl 
        · rw [if_pos c32] at h
          refine v_aload_n dX3_name_47 0 rfl rfl ?_
          refine v_iconst dX3_name_48 ?_
          obtain ⟨r36, s33, e34, h⟩ := bd_some h
          have k35 := c_X3_here e34 (rgl rfl)
          have r37 : rg r36 := k35.1.2.2
          refine v_callV (st := []) cf3 oc5 k35 (lw_V q1067 q1069 qs4 q300 q1070) rfl yk_X3_here ⟨Nat.le_of_ble_eq_true rfl, Nat.le_of_ble_eq_true rfl⟩ trivial ⟨kc5, trivial⟩ (Nat.le_of_ble_eq_true rfl) rfl dX3_name_49 ?_
          obtain ⟨r41, s38, e39, h⟩ := bd_some h
          have k40 := c_X3_isLetter e39 r37
          have r42 : rg r41 := k40.1.2.2
          refine v_callS (st := []) k40 (lw_S q1089 q1090 q300 q1091) yk_X3_isLetter ⟨Nat.le_of_ble_eq_true rfl, Nat.le_of_ble_eq_true rfl⟩ trivial ⟨kc5, trivial⟩ (Nat.le_of_ble_eq_true rfl) rfl dX3_name_52 ?_
          refine v_if_ne (tgt := 69) dX3_name_55 r42 (by decide) (fun c43 => ?_) (fun c43 => ?_)
          · rw [if_neg c43] at h
            refine v_aload_n dX3_name_69 0 rfl rfl ?_
            refine v_dupO dX3_name_70 ?_
            refine v_getI (f := 3) cf3 oc5 rfl (by decide) q437 dX3_name_71 ?_
            refine v_iconst dX3_name_74 ?_
            refine v_iadd dX3_name_75 ?_
            obtain ⟨s44, e45, h⟩ := stp_some h
            refine v_putI (f := 3) cf3 oc5 rfl (by decide) q437 dX3_name_76 rfl rfl ?_
            rw [← e45]
            refine v_goto (tgt := 15) dX3_name_79 (by decide) ?_
            exact ih s44 _ h  hE
          · rw [if_pos c43] at h
            refine v_aload_n dX3_name_58 0 rfl rfl ?_
            refine v_iconst dX3_name_59 ?_
            obtain ⟨r49, s46, e47, h⟩ := bd_some h
            have k48 := c_X3_here e47 (rgl rfl)
            have r50 : rg r49 := k48.1.2.2
            refine v_callV (st := []) cf3 oc5 k48 (lw_V q1067 q1069 qs4 q300 q1070) rfl yk_X3_here ⟨Nat.le_of_ble_eq_true rfl, Nat.le_of_ble_eq_true rfl⟩ trivial ⟨kc5, trivial⟩ (Nat.le_of_ble_eq_true rfl) rfl dX3_name_60 ?_
            obtain ⟨r54, s51, e52, h⟩ := bd_some h
            have k53 := c_X3_isDigit e52 r50
            have r55 : rg r54 := k53.1.2.2
            refine v_callS (st := []) k53 (lw_S q1099 q1100 q300 q1101) yk_X3_isDigit ⟨Nat.le_of_ble_eq_true rfl, Nat.le_of_ble_eq_true rfl⟩ trivial ⟨kc5, trivial⟩ (Nat.le_of_ble_eq_true rfl) rfl dX3_name_63 ?_
            refine v_if_eq (tgt := 82) dX3_name_66 r55 (by decide) (fun c56 => ?_) (fun c56 => ?_)
            · rw [if_pos c56] at h
              cases h
              exact hE _ rfl 
            · rw [if_neg c56] at h
              refine v_aload_n dX3_name_69 0 rfl rfl ?_
              refine v_dupO dX3_name_70 ?_
              refine v_getI (f := 3) cf3 oc5 rfl (by decide) q437 dX3_name_71 ?_
              refine v_iconst dX3_name_74 ?_
              refine v_iadd dX3_name_75 ?_
              obtain ⟨s57, e58, h⟩ := stp_some h
              refine v_putI (f := 3) cf3 oc5 rfl (by decide) q437 dX3_name_76 rfl rfl ?_
              rw [← e58]
              refine v_goto (tgt := 15) dX3_name_79 (by decide) ?_
              exact ih s57 _ h  hE

def j_X3_name_138 (x1 : Int) (z1 : Int) (s : vS) : Option (vS) :=
  bdv (f_X3_add z1 x1 s) fun s1 =>
  some s1
theorem wj_X3_name_138 {x1 : Int} {z1 : Int} {s : vS} {out : vS} (h : j_X3_name_138 x1 z1 s = some out)  (rx1 : rg x1) (rz1 : rg z1) : VW cX3_name (RX3, none, out, none, 6, 134, 3, []) (P0 []) s 138 [(1, vI x1)] [vI z1, vO 5] := by
  unfold j_X3_name_138 at h
  refine v_iload_n dX3_name_138 0 rfl rfl ?_
  obtain ⟨s1, e2, h⟩ := bdv_some h
  have k3 := c_X3_add e2 rz1 rx1
  refine v_callV (st := []) cf3 oc5 k3 (lw_V q1158 q1160 qs10 q300 q1161) rfl yk_X3_add ⟨Nat.le_of_ble_eq_true rfl, Nat.le_of_ble_eq_true rfl⟩ trivial trivial (Nat.le_of_ble_eq_true rfl) rfl dX3_name_139 ?_
  cases h
  exact v_vret dX3_name_142

def j_X3_name_105 (x1 : Int) (z0 : Int) (s : vS) : Option (vS) :=
  if z0 = (-1) then
    gd (okB (gR s 5 2) 1) <|
    bd (f_X2_at (gR s 5 2) x1 s) fun r6 s3 =>
    bd (f_X3_isLarge r6 s3) fun r11 s8 =>
    if r11 = 0 then
      j_X3_name_138 x1 0 s8
    else
      j_X3_name_138 x1 1 s8
  else
    j_X3_name_138 x1 (w32 (100 + z0)) s
theorem wj_X3_name_105 {x1 : Int} {z0 : Int} {s : vS} {out : vS} (h : j_X3_name_105 x1 z0 s = some out)  (rx1 : rg x1) (rz0 : rg z0) : VW cX3_name (RX3, none, out, none, 6, 134, 3, []) (P0 []) s 105 [(0, vO 5), (1, vI x1)] [vI z0] := by
  unfold j_X3_name_105 at h
  refine v_istore_n (L1 := [(2, vI z0), (0, vO 5), (1, vI x1)]) dX3_name_105 rfl (by decide) rfl ?_
  refine v_aload_n dX3_name_106 1 rfl rfl ?_
  refine v_iload_n dX3_name_107 0 rfl rfl ?_
  refine v_iconst dX3_name_108 ?_
  refine v_icmp_eq (tgt := 119) dX3_name_109 rz0 (rgl rfl) (by decide) (fun c1 => ?_) (fun c1 => ?_)
  · rw [if_pos c1] at h
    refine v_aload_n dX3_name_119 1 rfl rfl ?_
    obtain ⟨g2, h⟩ := gd_some h
    refine v_getR (f := 2) cf3 oc5 rfl (okB_R g2 (by decide) (by decide)) (by decide) q436 dX3_name_120 ?_
    refine v_iload_n dX3_name_123 2 rfl rfl ?_
    obtain ⟨r6, s3, e4, h⟩ := bd_some h
    have k5 := c_X2_at e4 g2 rx1
    have r7 : rg r6 := k5.1.2.2
    refine v_callV (st := [vO 5]) cf2 (okB_ok g2) k5 (lw_V q1071 q1072 q1073 q299 q1074) rfl yk_X2_at ⟨Nat.le_of_ble_eq_true rfl, Nat.le_of_ble_eq_true rfl⟩ ⟨kc5, trivial⟩ ⟨kc5, trivial⟩ (Nat.le_of_ble_eq_true rfl) rfl dX3_name_124 ?_
    obtain ⟨r11, s8, e9, h⟩ := bd_some h
    have k10 := c_X3_isLarge e9 r7
    have r12 : rg r11 := k10.1.2.2
    refine v_callS (st := [vO 5]) k10 (lw_S q1092 q1093 q300 q1094) yk_X3_isLarge ⟨Nat.le_of_ble_eq_true rfl, Nat.le_of_ble_eq_true rfl⟩ ⟨kc5, trivial⟩ ⟨kc5, trivial⟩ (Nat.le_of_ble_eq_true rfl) rfl dX3_name_127 ?_
    refine v_if_eq (tgt := 137) dX3_name_130 r12 (by decide) (fun c13 => ?_) (fun c13 => ?_)
    · rw [if_pos c13] at h
      refine v_iconst dX3_name_137 ?_
      refine v_sub [2] (L1 := [(1, vI x1)]) rfl ?_
      exact wj_X3_name_138 h rx1 (rgl rfl)
    · rw [if_neg c13] at h
      refine v_iconst dX3_name_133 ?_
      refine v_goto (tgt := 138) dX3_name_134 (by decide) ?_
      refine v_sub [2] (L1 := [(1, vI x1)]) rfl ?_
      exact wj_X3_name_138 h rx1 (rgl rfl)
  · rw [if_neg c1] at h
    refine v_bipush dX3_name_112 rfl ?_
    refine v_iload_n dX3_name_114 0 rfl rfl ?_
    refine v_iadd dX3_name_115 ?_
    refine v_goto (tgt := 138) dX3_name_116 (by decide) ?_
    refine v_sub [2] (L1 := [(1, vI x1)]) rfl ?_
    exact wj_X3_name_138 h rx1 (w32_rg _)

def j_X3_name_82 (x1 : Int) (s : vS) : Option (vS) :=
  gd (okB (gR s 5 2) 1) <|
  bd (f_X2_at (gR s 5 2) x1 s) fun r5 s2 =>
  bd (f_X3_isLarge r5 s2) fun r10 s7 =>
  if r10 = 0 then
    j_X3_name_105 x1 (-1) s7
  else
    bd (f_X3_wordOf x1 s7) fun r16 s13 =>
    j_X3_name_105 x1 r16 s13
theorem wj_X3_name_82 {x1 : Int} {s : vS} {out : vS} (h : j_X3_name_82 x1 s = some out)  (rx1 : rg x1) : VW cX3_name (RX3, none, out, none, 6, 134, 3, []) (P0 []) s 82 [(0, vO 5), (1, vI x1)] [] := by
  unfold j_X3_name_82 at h
  refine v_aload_n dX3_name_82 0 rfl rfl ?_
  obtain ⟨g1, h⟩ := gd_some h
  refine v_getR (f := 2) cf3 oc5 rfl (okB_R g1 (by decide) (by decide)) (by decide) q436 dX3_name_83 ?_
  refine v_iload_n dX3_name_86 1 rfl rfl ?_
  obtain ⟨r5, s2, e3, h⟩ := bd_some h
  have k4 := c_X2_at e3 g1 rx1
  have r6 : rg r5 := k4.1.2.2
  refine v_callV (st := []) cf2 (okB_ok g1) k4 (lw_V q1071 q1072 q1073 q299 q1074) rfl yk_X2_at ⟨Nat.le_of_ble_eq_true rfl, Nat.le_of_ble_eq_true rfl⟩ trivial ⟨kc5, trivial⟩ (Nat.le_of_ble_eq_true rfl) rfl dX3_name_87 ?_
  obtain ⟨r10, s7, e8, h⟩ := bd_some h
  have k9 := c_X3_isLarge e8 r6
  have r11 : rg r10 := k9.1.2.2
  refine v_callS (st := []) k9 (lw_S q1092 q1093 q300 q1094) yk_X3_isLarge ⟨Nat.le_of_ble_eq_true rfl, Nat.le_of_ble_eq_true rfl⟩ trivial ⟨kc5, trivial⟩ (Nat.le_of_ble_eq_true rfl) rfl dX3_name_90 ?_
  refine v_if_eq (tgt := 104) dX3_name_93 r11 (by decide) (fun c12 => ?_) (fun c12 => ?_)
  · rw [if_pos c12] at h
    refine v_iconst dX3_name_104 ?_
    exact wj_X3_name_105 h rx1 (rgl rfl)
  · rw [if_neg c12] at h
    refine v_aload_n dX3_name_96 0 rfl rfl ?_
    refine v_iload_n dX3_name_97 1 rfl rfl ?_
    obtain ⟨r16, s13, e14, h⟩ := bd_some h
    have k15 := c_X3_wordOf e14 rx1
    have r17 : rg r16 := k15.1.2.2
    refine v_callV (st := []) cf3 oc5 k15 (lw_V q1102 q1104 qs8 q300 q1105) rfl yk_X3_wordOf ⟨Nat.le_of_ble_eq_true rfl, Nat.le_of_ble_eq_true rfl⟩ trivial ⟨kc5, trivial⟩ (Nat.le_of_ble_eq_true rfl) rfl dX3_name_98 ?_
    refine v_goto (tgt := 105) dX3_name_101 (by decide) ?_
    exact wj_X3_name_105 h rx1 r17

def f_X3_name (s : vS) : Option (vS) :=
  vl (gI s 5 3) fun y1 =>
  stp (sI s 5 3 (w32 ((gI s 5 3) + 1))) fun s4 =>
  lq_0 (l_X3_name_15 FU y1 s4) fun s6 =>
  j_X3_name_82 y1 s6
theorem yk_X3_name : yOk yX3_name 0 := ⟨by decide, by decide, by decide +kernel⟩
theorem c_X3_name {s : vS} {out : vS} (h : f_X3_name s = some out)   : VC yX3_name cX3_name 3 none 6 134 [vO 5] s none out [] := by
  unfold f_X3_name at h
  refine VC.of RX3 (by decide) rfl (Nat.le_of_ble_eq_true rfl) ?_
  show VW cX3_name (RX3, none, out, none, 6, 134, 3, []) (P0 []) s 0 [(0, vO 5)] []
  refine v_aload_n dX3_name_0 0 rfl rfl ?_
  refine v_getI (f := 3) cf3 oc5 rfl (by decide) q437 dX3_name_1 ?_
  obtain ⟨y1, e2, h⟩ := vl_some h
  rw [← e2]
  have r3 : rg y1 := by rw [e2]; exact gI_rg _ _ _
  refine v_istore_n (L1 := [(1, vI y1), (0, vO 5)]) dX3_name_4 rfl (by decide) rfl ?_
  refine v_aload_n dX3_name_5 1 rfl rfl ?_
  refine v_dupO dX3_name_6 ?_
  refine v_getI (f := 3) cf3 oc5 rfl (by decide) q437 dX3_name_7 ?_
  refine v_iconst dX3_name_10 ?_
  refine v_iadd dX3_name_11 ?_
  obtain ⟨s4, e5, h⟩ := stp_some h
  refine v_putI (f := 3) cf3 oc5 rfl (by decide) q437 dX3_name_12 rfl rfl ?_
  rw [← e5]
  refine v_sub [1, 0] (L1 := [(0, vO 5), (1, vI y1)]) rfl ?_
  obtain ⟨s6, e7, h⟩ := lq_0_some h
  refine wl_X3_name_15 r3 FU  s4 _ e7  ?_
  unfold E_X3_name_15
  intro s6' z_
  cases z_
  exact wj_X3_name_82 h r3

def E_X3_number_15 (x1 : Int) (rv : Option vA) (σo : vS) (q : vS) : Prop := ∀ (s' : vS), q = s' → VW cX3_number (RX3, rv, σo, (some .boolean), 3, 69, 2, []) (P0 []) s' 52 [(0, vO 5), (1, vI x1)] []
def l_X3_number_15 : Nat → Int → vS → Option (vS)
  | 0, _, _ => none
  | n + 1, x1, s =>
    gd (okB (gR s 5 2) 1) <|
    bd (f_X2_at (gR s 5 2) x1 s) fun r5 s2 =>
    if r5 = 48 then
      some s2
    else
      bd (f_X3_here 0 s2) fun r11 s8 =>
      bd (f_X3_isDigit r11 s8) fun r16 s13 =>
      if r16 = 0 then
        some s13
      else
        stp (sI s13 5 3 (w32 ((gI s13 5 3) + 1))) fun s19 =>
        l_X3_number_15 n x1 s19
theorem wl_X3_number_15 {x1 : Int} {rv : Option vA} {σo : vS}  (rx1 : rg x1) : ∀ (n : Nat) (s : vS) (q : vS), l_X3_number_15 n x1 s = some q → E_X3_number_15 x1 rv σo q → VW cX3_number (RX3, rv, σo, (some .boolean), 3, 69, 2, []) (P0 []) s 15 [(0, vO 5), (1, vI x1)] [] := by
  intro n
  induction n with
  | zero => intro s q h; cases h
  | succ n ih =>
    intro s q h  hE
    unfold l_X3_number_15 at h
    refine v_aload_n dX3_number_15 0 rfl rfl ?_
    obtain ⟨g1, h⟩ := gd_some h
    refine v_getR (f := 2) cf3 oc5 rfl (okB_R g1 (by decide) (by decide)) (by decide) q436 dX3_number_16 ?_
    refine v_iload_n dX3_number_19 1 rfl rfl ?_
    obtain ⟨r5, s2, e3, h⟩ := bd_some h
    have k4 := c_X2_at e3 g1 rx1
    have r6 : rg r5 := k4.1.2.2
    refine v_callV (st := []) cf2 (okB_ok g1) k4 (lw_V q1071 q1072 q1073 q299 q1074) rfl yk_X2_at ⟨Nat.le_of_ble_eq_true rfl, Nat.le_of_ble_eq_true rfl⟩ trivial ⟨kc5, trivial⟩ (Nat.le_of_ble_eq_true rfl) rfl dX3_number_20 ?_
    refine v_bipush dX3_number_23 rfl ?_
    refine v_icmp_eq (tgt := 52) dX3_number_25 r6 (rgl rfl) (by decide) (fun c7 => ?_) (fun c7 => ?_)
    · rw [if_pos c7] at h
      cases h
      exact hE _ rfl 
    · rw [if_neg c7] at h
      refine v_aload_n dX3_number_28 0 rfl rfl ?_
      refine v_iconst dX3_number_29 ?_
      obtain ⟨r11, s8, e9, h⟩ := bd_some h
      have k10 := c_X3_here e9 (rgl rfl)
      have r12 : rg r11 := k10.1.2.2
      refine v_callV (st := []) cf3 oc5 k10 (lw_V q1067 q1069 qs4 q300 q1070) rfl yk_X3_here ⟨Nat.le_of_ble_eq_true rfl, Nat.le_of_ble_eq_true rfl⟩ trivial ⟨kc5, trivial⟩ (Nat.le_of_ble_eq_true rfl) rfl dX3_number_30 ?_
      obtain ⟨r16, s13, e14, h⟩ := bd_some h
      have k15 := c_X3_isDigit e14 r12
      have r17 : rg r16 := k15.1.2.2
      refine v_callS (st := []) k15 (lw_S q1099 q1100 q300 q1101) yk_X3_isDigit ⟨Nat.le_of_ble_eq_true rfl, Nat.le_of_ble_eq_true rfl⟩ trivial ⟨kc5, trivial⟩ (Nat.le_of_ble_eq_true rfl) rfl dX3_number_33 ?_
      refine v_if_eq (tgt := 52) dX3_number_36 r17 (by decide) (fun c18 => ?_) (fun c18 => ?_)
      · rw [if_pos c18] at h
        cases h
        exact hE _ rfl 
      · rw [if_neg c18] at h
        refine v_aload_n dX3_number_39 0 rfl rfl ?_
        refine v_dupO dX3_number_40 ?_
        refine v_getI (f := 3) cf3 oc5 rfl (by decide) q437 dX3_number_41 ?_
        refine v_iconst dX3_number_44 ?_
        refine v_iadd dX3_number_45 ?_
        obtain ⟨s19, e20, h⟩ := stp_some h
        refine v_putI (f := 3) cf3 oc5 rfl (by decide) q437 dX3_number_46 rfl rfl ?_
        rw [← e20]
        refine v_goto (tgt := 15) dX3_number_49 (by decide) ?_
        exact ih s19 _ h  hE

def j_X3_number_78 (x1 : Int) (s : vS) : Option (Int × vS) :=
  bdv (f_X3_add 2 x1 s) fun s1 =>
  some (1, s1)
theorem wj_X3_number_78 {x1 : Int} {s : vS} {out : Int × vS} (h : j_X3_number_78 x1 s = some out)  (rx1 : rg x1) : VW cX3_number (RX3, (some (vI out.1)), out.2, (some .boolean), 3, 69, 2, []) (P0 []) s 78 [(0, vO 5), (1, vI x1)] [] := by
  unfold j_X3_number_78 at h
  refine v_aload_n dX3_number_78 0 rfl rfl ?_
  refine v_iconst dX3_number_79 ?_
  refine v_iload_n dX3_number_80 1 rfl rfl ?_
  obtain ⟨s1, e2, h⟩ := bdv_some h
  have k3 := c_X3_add e2 (rgl rfl) rx1
  refine v_callV (st := []) cf3 oc5 k3 (lw_V q1158 q1160 qs10 q300 q1161) rfl yk_X3_add ⟨Nat.le_of_ble_eq_true rfl, Nat.le_of_ble_eq_true rfl⟩ trivial ⟨kc5, trivial⟩ (Nat.le_of_ble_eq_true rfl) rfl dX3_number_81 ?_
  refine v_iconst dX3_number_84 ?_
  cases h
  exact v_zret (Or.inr rfl) dX3_number_85

def j_X3_number_52 (x1 : Int) (s : vS) : Option (Int × vS) :=
  gd (okB (gR s 5 2) 1) <|
  bd (f_X2_at (gR s 5 2) x1 s) fun r5 s2 =>
  if r5 = 48 then
    bd (f_X3_here 0 s2) fun r11 s8 =>
    bd (f_X3_isDigit r11 s8) fun r16 s13 =>
    if r16 = 0 then
      j_X3_number_78 x1 s13
    else
      some (0, s13)
  else
    j_X3_number_78 x1 s2
theorem wj_X3_number_52 {x1 : Int} {s : vS} {out : Int × vS} (h : j_X3_number_52 x1 s = some out)  (rx1 : rg x1) : VW cX3_number (RX3, (some (vI out.1)), out.2, (some .boolean), 3, 69, 2, []) (P0 []) s 52 [(0, vO 5), (1, vI x1)] [] := by
  unfold j_X3_number_52 at h
  refine v_aload_n dX3_number_52 0 rfl rfl ?_
  obtain ⟨g1, h⟩ := gd_some h
  refine v_getR (f := 2) cf3 oc5 rfl (okB_R g1 (by decide) (by decide)) (by decide) q436 dX3_number_53 ?_
  refine v_iload_n dX3_number_56 1 rfl rfl ?_
  obtain ⟨r5, s2, e3, h⟩ := bd_some h
  have k4 := c_X2_at e3 g1 rx1
  have r6 : rg r5 := k4.1.2.2
  refine v_callV (st := []) cf2 (okB_ok g1) k4 (lw_V q1071 q1072 q1073 q299 q1074) rfl yk_X2_at ⟨Nat.le_of_ble_eq_true rfl, Nat.le_of_ble_eq_true rfl⟩ trivial ⟨kc5, trivial⟩ (Nat.le_of_ble_eq_true rfl) rfl dX3_number_57 ?_
  refine v_bipush dX3_number_60 rfl ?_
  refine v_icmp_ne (tgt := 78) dX3_number_62 r6 (rgl rfl) (by decide) (fun c7 => ?_) (fun c7 => ?_)
  · rw [if_neg c7] at h
    exact wj_X3_number_78 h rx1
  · rw [if_pos c7] at h
    refine v_aload_n dX3_number_65 0 rfl rfl ?_
    refine v_iconst dX3_number_66 ?_
    obtain ⟨r11, s8, e9, h⟩ := bd_some h
    have k10 := c_X3_here e9 (rgl rfl)
    have r12 : rg r11 := k10.1.2.2
    refine v_callV (st := []) cf3 oc5 k10 (lw_V q1067 q1069 qs4 q300 q1070) rfl yk_X3_here ⟨Nat.le_of_ble_eq_true rfl, Nat.le_of_ble_eq_true rfl⟩ trivial ⟨kc5, trivial⟩ (Nat.le_of_ble_eq_true rfl) rfl dX3_number_67 ?_
    obtain ⟨r16, s13, e14, h⟩ := bd_some h
    have k15 := c_X3_isDigit e14 r12
    have r17 : rg r16 := k15.1.2.2
    refine v_callS (st := []) k15 (lw_S q1099 q1100 q300 q1101) yk_X3_isDigit ⟨Nat.le_of_ble_eq_true rfl, Nat.le_of_ble_eq_true rfl⟩ trivial ⟨kc5, trivial⟩ (Nat.le_of_ble_eq_true rfl) rfl dX3_number_70 ?_
    refine v_if_eq (tgt := 78) dX3_number_73 r17 (by decide) (fun c18 => ?_) (fun c18 => ?_)
    · rw [if_pos c18] at h
      exact wj_X3_number_78 h rx1
    · rw [if_neg c18] at h
      refine v_iconst dX3_number_76 ?_
      cases h
      exact v_zret (Or.inl rfl) dX3_number_77

def f_X3_number (s : vS) : Option (Int × vS) :=
  vl (gI s 5 3) fun y1 =>
  stp (sI s 5 3 (w32 ((gI s 5 3) + 1))) fun s4 =>
  lq_0 (l_X3_number_15 FU y1 s4) fun s6 =>
  j_X3_number_52 y1 s6
theorem yk_X3_number : yOk yX3_number 0 := ⟨by decide, by decide, by decide +kernel⟩
theorem c_X3_number {s : vS} {out : Int × vS} (h : f_X3_number s = some out)   : VC yX3_number cX3_number 2 (some .boolean) 3 69 [vO 5] s (some (vI out.1)) out.2 [] := by
  unfold f_X3_number at h
  refine VC.of RX3 (by decide) rfl (Nat.le_of_ble_eq_true rfl) ?_
  show VW cX3_number (RX3, (some (vI out.1)), out.2, (some .boolean), 3, 69, 2, []) (P0 []) s 0 [(0, vO 5)] []
  refine v_aload_n dX3_number_0 0 rfl rfl ?_
  refine v_getI (f := 3) cf3 oc5 rfl (by decide) q437 dX3_number_1 ?_
  obtain ⟨y1, e2, h⟩ := vl_some h
  rw [← e2]
  have r3 : rg y1 := by rw [e2]; exact gI_rg _ _ _
  refine v_istore_n (L1 := [(1, vI y1), (0, vO 5)]) dX3_number_4 rfl (by decide) rfl ?_
  refine v_aload_n dX3_number_5 1 rfl rfl ?_
  refine v_dupO dX3_number_6 ?_
  refine v_getI (f := 3) cf3 oc5 rfl (by decide) q437 dX3_number_7 ?_
  refine v_iconst dX3_number_10 ?_
  refine v_iadd dX3_number_11 ?_
  obtain ⟨s4, e5, h⟩ := stp_some h
  refine v_putI (f := 3) cf3 oc5 rfl (by decide) q437 dX3_number_12 rfl rfl ?_
  rw [← e5]
  refine v_sub [1, 0] (L1 := [(0, vO 5), (1, vI y1)]) rfl ?_
  obtain ⟨s6, e7, h⟩ := lq_0_some h
  refine wl_X3_number_15 r3 FU  s4 _ e7  ?_
  unfold E_X3_number_15
  intro s6' z_
  cases z_
  exact wj_X3_number_52 h r3

def E_X3_quoted_15 (x1 : Int) (rv : Option vA) (σo : vS) (q : vS) : Prop := ∀ (s' : vS), q = s' → VW cX3_quoted (RX3, rv, σo, (some .boolean), 3, 69, 2, []) (P0 []) s' 82 [(0, vO 5), (1, vI x1)] []
def j_X3_quoted_55 (rec : Int → vS → Option (vS)) (x1 : Int) (s : vS) : Option (vS) :=
  bd (f_X3_here 0 s) fun r4 s1 =>
  if r4 = 34 then
    stp (sI s1 5 3 (w32 ((gI s 5 3) + 2))) fun s9 =>
    rec x1 s9
  else
    stp (sI s1 5 3 (w32 ((gI s 5 3) + 1))) fun s7 =>
    rec x1 s7
theorem wj_X3_quoted_55 {x1 : Int} {s : vS} {rv : Option vA} {σo : vS} {rec : Int → vS → Option (vS)} {q : vS} (h : j_X3_quoted_55 rec x1 s = some q)  (rx1 : rg x1) (hrec : ∀ (s : vS) (q : vS), rec x1 s = some q → E_X3_quoted_15 x1 rv σo q → VW cX3_quoted (RX3, rv, σo, (some .boolean), 3, 69, 2, []) (P0 []) s 15 [(0, vO 5), (1, vI x1)] []) (hE : E_X3_quoted_15 x1 rv σo q) : VW cX3_quoted (RX3, rv, σo, (some .boolean), 3, 69, 2, []) (P0 []) s 55 [(0, vO 5), (1, vI x1)] [] := by
  unfold j_X3_quoted_55 at h
  refine v_aload_n dX3_quoted_55 0 rfl rfl ?_
  refine v_dupO dX3_quoted_56 ?_
  refine v_getI (f := 3) cf3 oc5 rfl (by decide) q437 dX3_quoted_57 ?_
  refine v_aload_n dX3_quoted_60 0 rfl rfl ?_
  refine v_iconst dX3_quoted_61 ?_
  obtain ⟨r4, s1, e2, h⟩ := bd_some h
  have k3 := c_X3_here e2 (rgl rfl)
  have r5 : rg r4 := k3.1.2.2
  refine v_callV (st := [vI (gI s 5 3), vO 5]) cf3 oc5 k3 (lw_V q1067 q1069 qs4 q300 q1070) rfl yk_X3_here ⟨Nat.le_of_ble_eq_true rfl, Nat.le_of_ble_eq_true rfl⟩ ⟨kc5, trivial⟩ ⟨kc5, trivial⟩ (Nat.le_of_ble_eq_true rfl) rfl dX3_quoted_62 ?_
  refine v_bipush dX3_quoted_65 rfl ?_
  refine v_icmp_ne (tgt := 74) dX3_quoted_67 r5 (rgl rfl) (by decide) (fun c6 => ?_) (fun c6 => ?_)
  · rw [if_neg c6] at h
    refine v_iconst dX3_quoted_74 ?_
    refine v_iadd dX3_quoted_75 ?_
    obtain ⟨s7, e8, h⟩ := stp_some h
    refine v_putI (f := 3) cf3 oc5 rfl (by decide) q437 dX3_quoted_76 rfl rfl ?_
    rw [← e8]
    refine v_goto (tgt := 15) dX3_quoted_79 (by decide) ?_
    exact hrec s7 _ h  hE
  · rw [if_pos c6] at h
    refine v_iconst dX3_quoted_70 ?_
    refine v_goto (tgt := 75) dX3_quoted_71 (by decide) ?_
    refine v_iadd dX3_quoted_75 ?_
    obtain ⟨s9, e10, h⟩ := stp_some h
    refine v_putI (f := 3) cf3 oc5 rfl (by decide) q437 dX3_quoted_76 rfl rfl ?_
    rw [← e10]
    refine v_goto (tgt := 15) dX3_quoted_79 (by decide) ?_
    exact hrec s9 _ h  hE

def l_X3_quoted_15 : Nat → Int → vS → Option (vS)
  | 0, _, _ => none
  | n + 1, x1, s =>
    bd (f_X3_here 0 s) fun r4 s1 =>
    if r4 < 32 then
      some s1
    else
      bd (f_X3_here 0 s1) fun r10 s7 =>
      if 126 < r10 then
        some s7
      else
        bd (f_X3_here 0 s7) fun r16 s13 =>
        if r16 = 34 then
          bd (f_X3_here 1 s13) fun r22 s19 =>
          if r22 = 34 then
            j_X3_quoted_55 (l_X3_quoted_15 n) x1 s19
          else
            some s19
        else
          j_X3_quoted_55 (l_X3_quoted_15 n) x1 s13
theorem wl_X3_quoted_15 {x1 : Int} {rv : Option vA} {σo : vS}  (rx1 : rg x1) : ∀ (n : Nat) (s : vS) (q : vS), l_X3_quoted_15 n x1 s = some q → E_X3_quoted_15 x1 rv σo q → VW cX3_quoted (RX3, rv, σo, (some .boolean), 3, 69, 2, []) (P0 []) s 15 [(0, vO 5), (1, vI x1)] [] := by
  intro n
  induction n with
  | zero => intro s q h; cases h
  | succ n ih =>
    intro s q h  hE
    unfold l_X3_quoted_15 at h
    refine v_aload_n dX3_quoted_15 0 rfl rfl ?_
    refine v_iconst dX3_quoted_16 ?_
    obtain ⟨r4, s1, e2, h⟩ := bd_some h
    have k3 := c_X3_here e2 (rgl rfl)
    have r5 : rg r4 := k3.1.2.2
    refine v_callV (st := []) cf3 oc5 k3 (lw_V q1067 q1069 qs4 q300 q1070) rfl yk_X3_here ⟨Nat.le_of_ble_eq_true rfl, Nat.le_of_ble_eq_true rfl⟩ trivial ⟨kc5, trivial⟩ (Nat.le_of_ble_eq_true rfl) rfl dX3_quoted_17 ?_
    refine v_bipush dX3_quoted_20 rfl ?_
    refine v_icmp_lt (tgt := 82) dX3_quoted_22 r5 (rgl rfl) (by decide) (fun c6 => ?_) (fun c6 => ?_)
    · rw [if_pos c6] at h
      cases h
      exact hE _ rfl 
    · rw [if_neg c6] at h
      refine v_aload_n dX3_quoted_25 0 rfl rfl ?_
      refine v_iconst dX3_quoted_26 ?_
      obtain ⟨r10, s7, e8, h⟩ := bd_some h
      have k9 := c_X3_here e8 (rgl rfl)
      have r11 : rg r10 := k9.1.2.2
      refine v_callV (st := []) cf3 oc5 k9 (lw_V q1067 q1069 qs4 q300 q1070) rfl yk_X3_here ⟨Nat.le_of_ble_eq_true rfl, Nat.le_of_ble_eq_true rfl⟩ trivial ⟨kc5, trivial⟩ (Nat.le_of_ble_eq_true rfl) rfl dX3_quoted_27 ?_
      refine v_bipush dX3_quoted_30 rfl ?_
      refine v_icmp_gt (tgt := 82) dX3_quoted_32 r11 (rgl rfl) (by decide) (fun c12 => ?_) (fun c12 => ?_)
      · rw [if_pos c12] at h
        cases h
        exact hE _ rfl 
      · rw [if_neg c12] at h
        refine v_aload_n dX3_quoted_35 0 rfl rfl ?_
        refine v_iconst dX3_quoted_36 ?_
        obtain ⟨r16, s13, e14, h⟩ := bd_some h
        have k15 := c_X3_here e14 (rgl rfl)
        have r17 : rg r16 := k15.1.2.2
        refine v_callV (st := []) cf3 oc5 k15 (lw_V q1067 q1069 qs4 q300 q1070) rfl yk_X3_here ⟨Nat.le_of_ble_eq_true rfl, Nat.le_of_ble_eq_true rfl⟩ trivial ⟨kc5, trivial⟩ (Nat.le_of_ble_eq_true rfl) rfl dX3_quoted_37 ?_
        refine v_bipush dX3_quoted_40 rfl ?_
        refine v_icmp_ne (tgt := 55) dX3_quoted_42 r17 (rgl rfl) (by decide) (fun c18 => ?_) (fun c18 => ?_)
        · rw [if_neg c18] at h
          exact wj_X3_quoted_55 h rx1 ih hE
        · rw [if_pos c18] at h
          refine v_aload_n dX3_quoted_45 0 rfl rfl ?_
          refine v_iconst dX3_quoted_46 ?_
          obtain ⟨r22, s19, e20, h⟩ := bd_some h
          have k21 := c_X3_here e20 (rgl rfl)
          have r23 : rg r22 := k21.1.2.2
          refine v_callV (st := []) cf3 oc5 k21 (lw_V q1067 q1069 qs4 q300 q1070) rfl yk_X3_here ⟨Nat.le_of_ble_eq_true rfl, Nat.le_of_ble_eq_true rfl⟩ trivial ⟨kc5, trivial⟩ (Nat.le_of_ble_eq_true rfl) rfl dX3_quoted_47 ?_
          refine v_bipush dX3_quoted_50 rfl ?_
          refine v_icmp_ne (tgt := 82) dX3_quoted_52 r23 (rgl rfl) (by decide) (fun c24 => ?_) (fun c24 => ?_)
          · rw [if_neg c24] at h
            cases h
            exact hE _ rfl 
          · rw [if_pos c24] at h
            exact wj_X3_quoted_55 h rx1 ih hE

def j_X3_quoted_82 (x1 : Int) (s : vS) : Option (Int × vS) :=
  bd (f_X3_here 0 s) fun r4 s1 =>
  if r4 = 34 then
    stp (sI s1 5 3 (w32 ((gI s1 5 3) + 1))) fun s7 =>
    bdv (f_X3_add 5 x1 s7) fun s9 =>
    some (1, s9)
  else
    some (0, s1)
theorem wj_X3_quoted_82 {x1 : Int} {s : vS} {out : Int × vS} (h : j_X3_quoted_82 x1 s = some out)  (rx1 : rg x1) : VW cX3_quoted (RX3, (some (vI out.1)), out.2, (some .boolean), 3, 69, 2, []) (P0 []) s 82 [(0, vO 5), (1, vI x1)] [] := by
  unfold j_X3_quoted_82 at h
  refine v_aload_n dX3_quoted_82 0 rfl rfl ?_
  refine v_iconst dX3_quoted_83 ?_
  obtain ⟨r4, s1, e2, h⟩ := bd_some h
  have k3 := c_X3_here e2 (rgl rfl)
  have r5 : rg r4 := k3.1.2.2
  refine v_callV (st := []) cf3 oc5 k3 (lw_V q1067 q1069 qs4 q300 q1070) rfl yk_X3_here ⟨Nat.le_of_ble_eq_true rfl, Nat.le_of_ble_eq_true rfl⟩ trivial ⟨kc5, trivial⟩ (Nat.le_of_ble_eq_true rfl) rfl dX3_quoted_84 ?_
  refine v_bipush dX3_quoted_87 rfl ?_
  refine v_icmp_eq (tgt := 94) dX3_quoted_89 r5 (rgl rfl) (by decide) (fun c6 => ?_) (fun c6 => ?_)
  · rw [if_pos c6] at h
    refine v_aload_n dX3_quoted_94 0 rfl rfl ?_
    refine v_dupO dX3_quoted_95 ?_
    refine v_getI (f := 3) cf3 oc5 rfl (by decide) q437 dX3_quoted_96 ?_
    refine v_iconst dX3_quoted_99 ?_
    refine v_iadd dX3_quoted_100 ?_
    obtain ⟨s7, e8, h⟩ := stp_some h
    refine v_putI (f := 3) cf3 oc5 rfl (by decide) q437 dX3_quoted_101 rfl rfl ?_
    rw [← e8]
    refine v_aload_n dX3_quoted_104 0 rfl rfl ?_
    refine v_iconst dX3_quoted_105 ?_
    refine v_iload_n dX3_quoted_106 1 rfl rfl ?_
    obtain ⟨s9, e10, h⟩ := bdv_some h
    have k11 := c_X3_add e10 (rgl rfl) rx1
    refine v_callV (st := []) cf3 oc5 k11 (lw_V q1158 q1160 qs10 q300 q1161) rfl yk_X3_add ⟨Nat.le_of_ble_eq_true rfl, Nat.le_of_ble_eq_true rfl⟩ trivial ⟨kc5, trivial⟩ (Nat.le_of_ble_eq_true rfl) rfl dX3_quoted_107 ?_
    refine v_iconst dX3_quoted_110 ?_
    cases h
    exact v_zret (Or.inr rfl) dX3_quoted_111
  · rw [if_neg c6] at h
    refine v_iconst dX3_quoted_92 ?_
    cases h
    exact v_zret (Or.inl rfl) dX3_quoted_93

def f_X3_quoted (s : vS) : Option (Int × vS) :=
  vl (gI s 5 3) fun y1 =>
  stp (sI s 5 3 (w32 ((gI s 5 3) + 1))) fun s4 =>
  lq_0 (l_X3_quoted_15 FU y1 s4) fun s6 =>
  j_X3_quoted_82 y1 s6
theorem yk_X3_quoted : yOk yX3_quoted 0 := ⟨by decide, by decide, by decide +kernel⟩
theorem c_X3_quoted {s : vS} {out : Int × vS} (h : f_X3_quoted s = some out)   : VC yX3_quoted cX3_quoted 2 (some .boolean) 3 69 [vO 5] s (some (vI out.1)) out.2 [] := by
  unfold f_X3_quoted at h
  refine VC.of RX3 (by decide) rfl (Nat.le_of_ble_eq_true rfl) ?_
  show VW cX3_quoted (RX3, (some (vI out.1)), out.2, (some .boolean), 3, 69, 2, []) (P0 []) s 0 [(0, vO 5)] []
  refine v_aload_n dX3_quoted_0 0 rfl rfl ?_
  refine v_getI (f := 3) cf3 oc5 rfl (by decide) q437 dX3_quoted_1 ?_
  obtain ⟨y1, e2, h⟩ := vl_some h
  rw [← e2]
  have r3 : rg y1 := by rw [e2]; exact gI_rg _ _ _
  refine v_istore_n (L1 := [(1, vI y1), (0, vO 5)]) dX3_quoted_4 rfl (by decide) rfl ?_
  refine v_aload_n dX3_quoted_5 1 rfl rfl ?_
  refine v_dupO dX3_quoted_6 ?_
  refine v_getI (f := 3) cf3 oc5 rfl (by decide) q437 dX3_quoted_7 ?_
  refine v_iconst dX3_quoted_10 ?_
  refine v_iadd dX3_quoted_11 ?_
  obtain ⟨s4, e5, h⟩ := stp_some h
  refine v_putI (f := 3) cf3 oc5 rfl (by decide) q437 dX3_quoted_12 rfl rfl ?_
  rw [← e5]
  refine v_sub [1, 0] (L1 := [(0, vO 5), (1, vI y1)]) rfl ?_
  obtain ⟨s6, e7, h⟩ := lq_0_some h
  refine wl_X3_quoted_15 r3 FU  s4 _ e7  ?_
  unfold E_X3_quoted_15
  intro s6' z_
  cases z_
  exact wj_X3_quoted_82 h r3

def f_X3_isHex (x0 : Int) (s : vS) : Option (Int × vS) :=
  bd (f_X3_isDigit x0 s) fun r4 s1 =>
  if r4 = 0 then
    if x0 < 65 then
      some (0, s1)
    else
      if 70 < x0 then
        some (0, s1)
      else
        some (1, s1)
  else
    some (1, s1)
theorem yk_X3_isHex : yOk yX3_isHex 1 := ⟨by decide, by decide, by decide +kernel⟩
theorem c_X3_isHex {x0 : Int} {s : vS} {out : Int × vS} (h : f_X3_isHex x0 s = some out)  (rx0 : rg x0) : VC yX3_isHex cX3_isHex 1 (some .boolean) 1 20 [vI x0] s (some (vI out.1)) out.2 [] := by
  unfold f_X3_isHex at h
  refine VC.of RX3 (by decide) rfl (Nat.le_of_ble_eq_true rfl) ?_
  show VW cX3_isHex (RX3, (some (vI out.1)), out.2, (some .boolean), 1, 20, 1, []) (P0 []) s 0 [(0, vI x0)] []
  refine v_iload_n dX3_isHex_0 0 rfl rfl ?_
  obtain ⟨r4, s1, e2, h⟩ := bd_some h
  have k3 := c_X3_isDigit e2 rx0
  have r5 : rg r4 := k3.1.2.2
  refine v_callS (st := []) k3 (lw_S q1099 q1100 q300 q1101) yk_X3_isDigit ⟨Nat.le_of_ble_eq_true rfl, Nat.le_of_ble_eq_true rfl⟩ trivial trivial (Nat.le_of_ble_eq_true rfl) rfl dX3_isHex_1 ?_
  refine v_if_ne (tgt := 19) dX3_isHex_4 r5 (by decide) (fun c6 => ?_) (fun c6 => ?_)
  · rw [if_neg c6] at h
    refine v_iconst dX3_isHex_19 ?_
    refine v_goto (tgt := 24) dX3_isHex_20 (by decide) ?_
    cases h
    exact v_zret (Or.inr rfl) dX3_isHex_24
  · rw [if_pos c6] at h
    refine v_iload_n dX3_isHex_7 0 rfl rfl ?_
    refine v_bipush dX3_isHex_8 rfl ?_
    refine v_icmp_lt (tgt := 23) dX3_isHex_10 rx0 (rgl rfl) (by decide) (fun c7 => ?_) (fun c7 => ?_)
    · rw [if_pos c7] at h
      refine v_iconst dX3_isHex_23 ?_
      cases h
      exact v_zret (Or.inl rfl) dX3_isHex_24
    · rw [if_neg c7] at h
      refine v_iload_n dX3_isHex_13 0 rfl rfl ?_
      refine v_bipush dX3_isHex_14 rfl ?_
      refine v_icmp_gt (tgt := 23) dX3_isHex_16 rx0 (rgl rfl) (by decide) (fun c8 => ?_) (fun c8 => ?_)
      · rw [if_pos c8] at h
        refine v_iconst dX3_isHex_23 ?_
        cases h
        exact v_zret (Or.inl rfl) dX3_isHex_24
      · rw [if_neg c8] at h
        refine v_iconst dX3_isHex_19 ?_
        refine v_goto (tgt := 24) dX3_isHex_20 (by decide) ?_
        cases h
        exact v_zret (Or.inr rfl) dX3_isHex_24

def E_X3_digits_17 (x1 : Int) (rv : Option vA) (σo : vS) (q : Int × vS) : Prop := ∀ (x2' : Int) (s' : vS), q = (x2', s') → rg x2' → VW cX3_digits (RX3, rv, σo, (some .boolean), 3, 69, 4, []) (P0 []) s' 83 [(0, vO 5), (1, vI x1), (2, vI x2')] []
def j_X3_digits_39 (rec : Int → Int → vS → Option (Int × vS)) (x1 : Int) (x2 : Int) (s : vS) : Option (Int × vS) :=
  if x2 = 0 then
    stp (sI s 5 3 (w32 ((gI s 5 3) + 1))) fun s2 =>
    rec x1 0 s2
  else
    bd (f_X3_here 0 s) fun r7 s4 =>
    bd (f_X3_isWhite r7 s4) fun r12 s9 =>
    if r12 = 0 then
      bd (f_X3_here 0 s9) fun r20 s17 =>
      if 50 ≤ r20 then
        stp (sI s17 5 3 (w32 ((gI s17 5 3) + 1))) fun s23 =>
        rec x1 0 s23
      else
        stp (sI s17 5 3 (w32 ((gI s17 5 3) + 1))) fun s25 =>
        rec x1 1 s25
    else
      stp (sI s9 5 3 (w32 ((gI s9 5 3) + 1))) fun s15 =>
      rec x1 1 s15
theorem wj_X3_digits_39 {x1 : Int} {x2 : Int} {s : vS} {rv : Option vA} {σo : vS} {rec : Int → Int → vS → Option (Int × vS)} {q : Int × vS} (h : j_X3_digits_39 rec x1 x2 s = some q)  (rx1 : rg x1) (rx2 : rg x2) (hrec : ∀ (y2 : Int) (s : vS) (q : Int × vS), rec x1 y2 s = some q → rg y2 → E_X3_digits_17 x1 rv σo q → VW cX3_digits (RX3, rv, σo, (some .boolean), 3, 69, 4, []) (P0 []) s 17 [(0, vO 5), (1, vI x1), (2, vI y2)] []) (hE : E_X3_digits_17 x1 rv σo q) : VW cX3_digits (RX3, rv, σo, (some .boolean), 3, 69, 4, []) (P0 []) s 39 [(0, vO 5), (1, vI x1), (2, vI x2)] [] := by
  unfold j_X3_digits_39 at h
  refine v_iload_n dX3_digits_39 2 rfl rfl ?_
  refine v_if_eq (tgt := 68) dX3_digits_40 rx2 (by decide) (fun c1 => ?_) (fun c1 => ?_)
  · rw [if_pos c1] at h
    refine v_iconst dX3_digits_68 ?_
    refine v_istore_n (L1 := [(2, vI 0), (0, vO 5), (1, vI x1)]) dX3_digits_69 rfl (by decide) rfl ?_
    refine v_aload_n dX3_digits_70 1 rfl rfl ?_
    refine v_dupO dX3_digits_71 ?_
    refine v_getI (f := 3) cf3 oc5 rfl (by decide) q437 dX3_digits_72 ?_
    refine v_iconst dX3_digits_75 ?_
    refine v_iadd dX3_digits_76 ?_
    obtain ⟨s2, e3, h⟩ := stp_some h
    refine v_putI (f := 3) cf3 oc5 rfl (by decide) q437 dX3_digits_77 rfl rfl ?_
    rw [← e3]
    refine v_goto (tgt := 17) dX3_digits_80 (by decide) ?_
    refine v_sub [1, 2, 0] (L1 := [(0, vO 5), (1, vI x1), (2, vI 0)]) rfl ?_
    exact hrec 0 s2 _ h (rgl rfl) hE
  · rw [if_neg c1] at h
    refine v_aload_n dX3_digits_43 0 rfl rfl ?_
    refine v_iconst dX3_digits_44 ?_
    obtain ⟨r7, s4, e5, h⟩ := bd_some h
    have k6 := c_X3_here e5 (rgl rfl)
    have r8 : rg r7 := k6.1.2.2
    refine v_callV (st := []) cf3 oc5 k6 (lw_V q1067 q1069 qs4 q300 q1070) rfl yk_X3_here ⟨Nat.le_of_ble_eq_true rfl, Nat.le_of_ble_eq_true rfl⟩ trivial ⟨kc5, trivial⟩ (Nat.le_of_ble_eq_true rfl) rfl dX3_digits_45 ?_
    obtain ⟨r12, s9, e10, h⟩ := bd_some h
    have k11 := c_X3_isWhite e10 r8
    have r13 : rg r12 := k11.1.2.2
    refine v_callS (st := []) k11 (lw_S q1075 q1076 q300 q1077) yk_X3_isWhite ⟨Nat.le_of_ble_eq_true rfl, Nat.le_of_ble_eq_true rfl⟩ trivial ⟨kc5, trivial⟩ (Nat.le_of_ble_eq_true rfl) rfl dX3_digits_48 ?_
    refine v_if_ne (tgt := 64) dX3_digits_51 r13 (by decide) (fun c14 => ?_) (fun c14 => ?_)
    · rw [if_neg c14] at h
      refine v_iconst dX3_digits_64 ?_
      refine v_goto (tgt := 69) dX3_digits_65 (by decide) ?_
      refine v_istore_n (L1 := [(2, vI 1), (0, vO 5), (1, vI x1)]) dX3_digits_69 rfl (by decide) rfl ?_
      refine v_aload_n dX3_digits_70 1 rfl rfl ?_
      refine v_dupO dX3_digits_71 ?_
      refine v_getI (f := 3) cf3 oc5 rfl (by decide) q437 dX3_digits_72 ?_
      refine v_iconst dX3_digits_75 ?_
      refine v_iadd dX3_digits_76 ?_
      obtain ⟨s15, e16, h⟩ := stp_some h
      refine v_putI (f := 3) cf3 oc5 rfl (by decide) q437 dX3_digits_77 rfl rfl ?_
      rw [← e16]
      refine v_goto (tgt := 17) dX3_digits_80 (by decide) ?_
      refine v_sub [1, 2, 0] (L1 := [(0, vO 5), (1, vI x1), (2, vI 1)]) rfl ?_
      exact hrec 1 s15 _ h (rgl rfl) hE
    · rw [if_pos c14] at h
      refine v_aload_n dX3_digits_54 0 rfl rfl ?_
      refine v_iconst dX3_digits_55 ?_
      obtain ⟨r20, s17, e18, h⟩ := bd_some h
      have k19 := c_X3_here e18 (rgl rfl)
      have r21 : rg r20 := k19.1.2.2
      refine v_callV (st := []) cf3 oc5 k19 (lw_V q1067 q1069 qs4 q300 q1070) rfl yk_X3_here ⟨Nat.le_of_ble_eq_true rfl, Nat.le_of_ble_eq_true rfl⟩ trivial ⟨kc5, trivial⟩ (Nat.le_of_ble_eq_true rfl) rfl dX3_digits_56 ?_
      refine v_bipush dX3_digits_59 rfl ?_
      refine v_icmp_ge (tgt := 68) dX3_digits_61 r21 (rgl rfl) (by decide) (fun c22 => ?_) (fun c22 => ?_)
      · rw [if_pos c22] at h
        refine v_iconst dX3_digits_68 ?_
        refine v_istore_n (L1 := [(2, vI 0), (0, vO 5), (1, vI x1)]) dX3_digits_69 rfl (by decide) rfl ?_
        refine v_aload_n dX3_digits_70 1 rfl rfl ?_
        refine v_dupO dX3_digits_71 ?_
        refine v_getI (f := 3) cf3 oc5 rfl (by decide) q437 dX3_digits_72 ?_
        refine v_iconst dX3_digits_75 ?_
        refine v_iadd dX3_digits_76 ?_
        obtain ⟨s23, e24, h⟩ := stp_some h
        refine v_putI (f := 3) cf3 oc5 rfl (by decide) q437 dX3_digits_77 rfl rfl ?_
        rw [← e24]
        refine v_goto (tgt := 17) dX3_digits_80 (by decide) ?_
        refine v_sub [1, 2, 0] (L1 := [(0, vO 5), (1, vI x1), (2, vI 0)]) rfl ?_
        exact hrec 0 s23 _ h (rgl rfl) hE
      · rw [if_neg c22] at h
        refine v_iconst dX3_digits_64 ?_
        refine v_goto (tgt := 69) dX3_digits_65 (by decide) ?_
        refine v_istore_n (L1 := [(2, vI 1), (0, vO 5), (1, vI x1)]) dX3_digits_69 rfl (by decide) rfl ?_
        refine v_aload_n dX3_digits_70 1 rfl rfl ?_
        refine v_dupO dX3_digits_71 ?_
        refine v_getI (f := 3) cf3 oc5 rfl (by decide) q437 dX3_digits_72 ?_
        refine v_iconst dX3_digits_75 ?_
        refine v_iadd dX3_digits_76 ?_
        obtain ⟨s25, e26, h⟩ := stp_some h
        refine v_putI (f := 3) cf3 oc5 rfl (by decide) q437 dX3_digits_77 rfl rfl ?_
        rw [← e26]
        refine v_goto (tgt := 17) dX3_digits_80 (by decide) ?_
        refine v_sub [1, 2, 0] (L1 := [(0, vO 5), (1, vI x1), (2, vI 1)]) rfl ?_
        exact hrec 1 s25 _ h (rgl rfl) hE

def l_X3_digits_17 : Nat → Int → Int → vS → Option (Int × vS)
  | 0, _, _, _ => none
  | n + 1, x1, x2, s =>
    bd (f_X3_here 0 s) fun r4 s1 =>
    bd (f_X3_isHex r4 s1) fun r9 s6 =>
    if r9 = 0 then
      bd (f_X3_here 0 s6) fun r15 s12 =>
      bd (f_X3_isWhite r15 s12) fun r20 s17 =>
      if r20 = 0 then
        some (x2, s17)
      else
        j_X3_digits_39 (l_X3_digits_17 n) x1 x2 s17
    else
      j_X3_digits_39 (l_X3_digits_17 n) x1 x2 s6
theorem wl_X3_digits_17 {x1 : Int} {rv : Option vA} {σo : vS}  (rx1 : rg x1) : ∀ (n : Nat) (x2 : Int) (s : vS) (q : Int × vS), l_X3_digits_17 n x1 x2 s = some q → rg x2 → E_X3_digits_17 x1 rv σo q → VW cX3_digits (RX3, rv, σo, (some .boolean), 3, 69, 4, []) (P0 []) s 17 [(0, vO 5), (1, vI x1), (2, vI x2)] [] := by
  intro n
  induction n with
  | zero => intro x2 s q h; cases h
  | succ n ih =>
    intro x2 s q h rx2 hE
    unfold l_X3_digits_17 at h
    refine v_aload_n dX3_digits_17 0 rfl rfl ?_
    refine v_iconst dX3_digits_18 ?_
    obtain ⟨r4, s1, e2, h⟩ := bd_some h
    have k3 := c_X3_here e2 (rgl rfl)
    have r5 : rg r4 := k3.1.2.2
    refine v_callV (st := []) cf3 oc5 k3 (lw_V q1067 q1069 qs4 q300 q1070) rfl yk_X3_here ⟨Nat.le_of_ble_eq_true rfl, Nat.le_of_ble_eq_true rfl⟩ trivial ⟨kc5, trivial⟩ (Nat.le_of_ble_eq_true rfl) rfl dX3_digits_19 ?_
    obtain ⟨r9, s6, e7, h⟩ := bd_some h
    have k8 := c_X3_isHex e7 r5
    have r10 : rg r9 := k8.1.2.2
    refine v_callS (st := []) k8 (lw_S q1178 q1179 q300 q1180) yk_X3_isHex ⟨Nat.le_of_ble_eq_true rfl, Nat.le_of_ble_eq_true rfl⟩ trivial ⟨kc5, trivial⟩ (Nat.le_of_ble_eq_true rfl) rfl dX3_digits_22 ?_
    refine v_if_ne (tgt := 39) dX3_digits_25 r10 (by decide) (fun c11 => ?_) (fun c11 => ?_)
    · rw [if_neg c11] at h
      exact wj_X3_digits_39 h rx1 rx2 ih hE
    · rw [if_pos c11] at h
      refine v_aload_n dX3_digits_28 0 rfl rfl ?_
      refine v_iconst dX3_digits_29 ?_
      obtain ⟨r15, s12, e13, h⟩ := bd_some h
      have k14 := c_X3_here e13 (rgl rfl)
      have r16 : rg r15 := k14.1.2.2
      refine v_callV (st := []) cf3 oc5 k14 (lw_V q1067 q1069 qs4 q300 q1070) rfl yk_X3_here ⟨Nat.le_of_ble_eq_true rfl, Nat.le_of_ble_eq_true rfl⟩ trivial ⟨kc5, trivial⟩ (Nat.le_of_ble_eq_true rfl) rfl dX3_digits_30 ?_
      obtain ⟨r20, s17, e18, h⟩ := bd_some h
      have k19 := c_X3_isWhite e18 r16
      have r21 : rg r20 := k19.1.2.2
      refine v_callS (st := []) k19 (lw_S q1075 q1076 q300 q1077) yk_X3_isWhite ⟨Nat.le_of_ble_eq_true rfl, Nat.le_of_ble_eq_true rfl⟩ trivial ⟨kc5, trivial⟩ (Nat.le_of_ble_eq_true rfl) rfl dX3_digits_33 ?_
      refine v_if_eq (tgt := 83) dX3_digits_36 r21 (by decide) (fun c22 => ?_) (fun c22 => ?_)
      · rw [if_pos c22] at h
        cases h
        exact hE _ _ rfl rx2
      · rw [if_neg c22] at h
        exact wj_X3_digits_39 h rx1 rx2 ih hE

def j_X3_digits_139 (x1 : Int) (z1 : Int) (s : vS) : Option (Int × vS) :=
  bdv (f_X3_add z1 x1 s) fun s1 =>
  some (1, s1)
theorem wj_X3_digits_139 {x1 : Int} {z1 : Int} {s : vS} {out : Int × vS} (h : j_X3_digits_139 x1 z1 s = some out)  (rx1 : rg x1) (rz1 : rg z1) : VW cX3_digits (RX3, (some (vI out.1)), out.2, (some .boolean), 3, 69, 4, []) (P0 []) s 139 [(1, vI x1)] [vI z1, vO 5] := by
  unfold j_X3_digits_139 at h
  refine v_iload_n dX3_digits_139 0 rfl rfl ?_
  obtain ⟨s1, e2, h⟩ := bdv_some h
  have k3 := c_X3_add e2 rz1 rx1
  refine v_callV (st := []) cf3 oc5 k3 (lw_V q1158 q1160 qs10 q300 q1161) rfl yk_X3_add ⟨Nat.le_of_ble_eq_true rfl, Nat.le_of_ble_eq_true rfl⟩ trivial trivial (Nat.le_of_ble_eq_true rfl) rfl dX3_digits_140 ?_
  refine v_iconst dX3_digits_143 ?_
  cases h
  exact v_zret (Or.inr rfl) dX3_digits_144

def j_X3_digits_117 (x1 : Int) (x3 : Int) (s : vS) : Option (Int × vS) :=
  stp (sI s 5 3 (w32 ((gI s 5 3) + 2))) fun s1 =>
  if x3 = 72 then
    j_X3_digits_139 x1 4 s1
  else
    j_X3_digits_139 x1 3 s1
theorem wj_X3_digits_117 {x1 : Int} {x3 : Int} {s : vS} {out : Int × vS} (h : j_X3_digits_117 x1 x3 s = some out)  (rx1 : rg x1) (rx3 : rg x3) : VW cX3_digits (RX3, (some (vI out.1)), out.2, (some .boolean), 3, 69, 4, []) (P0 []) s 117 [(0, vO 5), (1, vI x1), (3, vI x3)] [] := by
  unfold j_X3_digits_117 at h
  refine v_aload_n dX3_digits_117 0 rfl rfl ?_
  refine v_dupO dX3_digits_118 ?_
  refine v_getI (f := 3) cf3 oc5 rfl (by decide) q437 dX3_digits_119 ?_
  refine v_iconst dX3_digits_122 ?_
  refine v_iadd dX3_digits_123 ?_
  obtain ⟨s1, e2, h⟩ := stp_some h
  refine v_putI (f := 3) cf3 oc5 rfl (by decide) q437 dX3_digits_124 rfl rfl ?_
  rw [← e2]
  refine v_aload_n dX3_digits_127 0 rfl rfl ?_
  refine v_iload_n dX3_digits_128 2 rfl rfl ?_
  refine v_bipush dX3_digits_129 rfl ?_
  refine v_icmp_ne (tgt := 138) dX3_digits_131 rx3 (rgl rfl) (by decide) (fun c3 => ?_) (fun c3 => ?_)
  · rw [if_neg c3] at h
    refine v_iconst dX3_digits_138 ?_
    refine v_sub [1] (L1 := [(1, vI x1)]) rfl ?_
    exact wj_X3_digits_139 h rx1 (rgl rfl)
  · rw [if_pos c3] at h
    refine v_iconst dX3_digits_134 ?_
    refine v_goto (tgt := 139) dX3_digits_135 (by decide) ?_
    refine v_sub [1] (L1 := [(1, vI x1)]) rfl ?_
    exact wj_X3_digits_139 h rx1 (rgl rfl)

def f_X3_digits (s : vS) : Option (Int × vS) :=
  vl (gI s 5 3) fun y1 =>
  stp (sI s 5 3 (w32 ((gI s 5 3) + 1))) fun s4 =>
  lq_1 (l_X3_digits_17 FU y1 1 s4) fun y6 s7 =>
  bd (f_X3_here 1 s7) fun r13 s10 =>
  bd (f_X3_here 0 s10) fun r18 s15 =>
  if r18 = 39 then
    if r13 = 72 then
      j_X3_digits_117 y1 r13 s15
    else
      if r13 = 66 then
        if y6 = 0 then
          some (0, s15)
        else
          j_X3_digits_117 y1 r13 s15
      else
        some (0, s15)
  else
    some (0, s15)
theorem yk_X3_digits : yOk yX3_digits 0 := ⟨by decide, by decide, by decide +kernel⟩
theorem c_X3_digits {s : vS} {out : Int × vS} (h : f_X3_digits s = some out)   : VC yX3_digits cX3_digits 4 (some .boolean) 3 69 [vO 5] s (some (vI out.1)) out.2 [] := by
  unfold f_X3_digits at h
  refine VC.of RX3 (by decide) rfl (Nat.le_of_ble_eq_true rfl) ?_
  show VW cX3_digits (RX3, (some (vI out.1)), out.2, (some .boolean), 3, 69, 4, []) (P0 []) s 0 [(0, vO 5)] []
  refine v_aload_n dX3_digits_0 0 rfl rfl ?_
  refine v_getI (f := 3) cf3 oc5 rfl (by decide) q437 dX3_digits_1 ?_
  obtain ⟨y1, e2, h⟩ := vl_some h
  rw [← e2]
  have r3 : rg y1 := by rw [e2]; exact gI_rg _ _ _
  refine v_istore_n (L1 := [(1, vI y1), (0, vO 5)]) dX3_digits_4 rfl (by decide) rfl ?_
  refine v_iconst dX3_digits_5 ?_
  refine v_istore_n (L1 := [(2, vI 1), (1, vI y1), (0, vO 5)]) dX3_digits_6 rfl (by decide) rfl ?_
  refine v_aload_n dX3_digits_7 2 rfl rfl ?_
  refine v_dupO dX3_digits_8 ?_
  refine v_getI (f := 3) cf3 oc5 rfl (by decide) q437 dX3_digits_9 ?_
  refine v_iconst dX3_digits_12 ?_
  refine v_iadd dX3_digits_13 ?_
  obtain ⟨s4, e5, h⟩ := stp_some h
  refine v_putI (f := 3) cf3 oc5 rfl (by decide) q437 dX3_digits_14 rfl rfl ?_
  rw [← e5]
  refine v_sub [2, 1, 0] (L1 := [(0, vO 5), (1, vI y1), (2, vI 1)]) rfl ?_
  obtain ⟨y6, s7, e8, h⟩ := lq_1_some h
  refine wl_X3_digits_17 r3 FU 1 s4 _ e8 (rgl rfl) ?_
  unfold E_X3_digits_17
  intro y6' s7' z_ r9
  cases z_
  refine v_aload_n dX3_digits_83 0 rfl rfl ?_
  refine v_iconst dX3_digits_84 ?_
  obtain ⟨r13, s10, e11, h⟩ := bd_some h
  have k12 := c_X3_here e11 (rgl rfl)
  have r14 : rg r13 := k12.1.2.2
  refine v_callV (st := []) cf3 oc5 k12 (lw_V q1067 q1069 qs4 q300 q1070) rfl yk_X3_here ⟨Nat.le_of_ble_eq_true rfl, Nat.le_of_ble_eq_true rfl⟩ trivial ⟨kc5, trivial⟩ (Nat.le_of_ble_eq_true rfl) rfl dX3_digits_85 ?_
  refine v_istore_n (L1 := [(3, vI r13), (0, vO 5), (1, vI y1), (2, vI y6)]) dX3_digits_88 rfl (by decide) rfl ?_
  refine v_aload_n dX3_digits_89 1 rfl rfl ?_
  refine v_iconst dX3_digits_90 ?_
  obtain ⟨r18, s15, e16, h⟩ := bd_some h
  have k17 := c_X3_here e16 (rgl rfl)
  have r19 : rg r18 := k17.1.2.2
  refine v_callV (st := []) cf3 oc5 k17 (lw_V q1067 q1069 qs4 q300 q1070) rfl yk_X3_here ⟨Nat.le_of_ble_eq_true rfl, Nat.le_of_ble_eq_true rfl⟩ trivial ⟨kc5, trivial⟩ (Nat.le_of_ble_eq_true rfl) rfl dX3_digits_91 ?_
  refine v_bipush dX3_digits_94 rfl ?_
  refine v_icmp_ne (tgt := 115) dX3_digits_96 r19 (rgl rfl) (by decide) (fun c20 => ?_) (fun c20 => ?_)
  · rw [if_neg c20] at h
    refine v_iconst dX3_digits_115 ?_
    cases h
    exact v_zret (Or.inl rfl) dX3_digits_116
  · rw [if_pos c20] at h
    refine v_iload_n dX3_digits_99 0 rfl rfl ?_
    refine v_bipush dX3_digits_100 rfl ?_
    refine v_icmp_eq (tgt := 117) dX3_digits_102 r14 (rgl rfl) (by decide) (fun c21 => ?_) (fun c21 => ?_)
    · rw [if_pos c21] at h
      refine v_sub [1, 2, 0] (L1 := [(0, vO 5), (1, vI y1), (3, vI r13)]) rfl ?_
      exact wj_X3_digits_117 h r3 r14
    · rw [if_neg c21] at h
      refine v_iload_n dX3_digits_105 0 rfl rfl ?_
      refine v_bipush dX3_digits_106 rfl ?_
      refine v_icmp_ne (tgt := 115) dX3_digits_108 r14 (rgl rfl) (by decide) (fun c22 => ?_) (fun c22 => ?_)
      · rw [if_neg c22] at h
        refine v_iconst dX3_digits_115 ?_
        cases h
        exact v_zret (Or.inl rfl) dX3_digits_116
      · rw [if_pos c22] at h
        refine v_iload_n dX3_digits_111 3 rfl rfl ?_
        refine v_if_ne (tgt := 117) dX3_digits_112 r9 (by decide) (fun c23 => ?_) (fun c23 => ?_)
        · rw [if_neg c23] at h
          refine v_sub [1, 2, 0] (L1 := [(0, vO 5), (1, vI y1), (3, vI r13)]) rfl ?_
          exact wj_X3_digits_117 h r3 r14
        · rw [if_pos c23] at h
          refine v_iconst dX3_digits_115 ?_
          cases h
          exact v_zret (Or.inl rfl) dX3_digits_116

def j_X3_sign_197 (x1 : Int) (x3 : Int) (s : vS) : Option (Int × vS) :=
  bdv (f_X3_add (w32 (15 + x3)) x1 s) fun s1 =>
  some (1, s1)
theorem wj_X3_sign_197 {x1 : Int} {x3 : Int} {s : vS} {out : Int × vS} (h : j_X3_sign_197 x1 x3 s = some out)  (rx1 : rg x1) (rx3 : rg x3) : VW cX3_sign (RX3, (some (vI out.1)), out.2, (some .boolean), 4, 91, 4, []) (P0 []) s 197 [(0, vO 5), (1, vI x1), (3, vI x3)] [] := by
  unfold j_X3_sign_197 at h
  refine v_aload_n dX3_sign_197 0 rfl rfl ?_
  refine v_bipush dX3_sign_198 rfl ?_
  refine v_iload_n dX3_sign_200 2 rfl rfl ?_
  refine v_iadd dX3_sign_201 ?_
  refine v_iload_n dX3_sign_202 1 rfl rfl ?_
  obtain ⟨s1, e2, h⟩ := bdv_some h
  have k3 := c_X3_add e2 (w32_rg _) rx1
  refine v_callV (st := []) cf3 oc5 k3 (lw_V q1158 q1160 qs10 q300 q1161) rfl yk_X3_add ⟨Nat.le_of_ble_eq_true rfl, Nat.le_of_ble_eq_true rfl⟩ trivial ⟨kc5, trivial⟩ (Nat.le_of_ble_eq_true rfl) rfl dX3_sign_203 ?_
  refine v_iconst dX3_sign_206 ?_
  cases h
  exact v_zret (Or.inr rfl) dX3_sign_207

def j_X3_sign_190 (x1 : Int) (z1 : Int) (s : vS) : Option (Int × vS) :=
  bdv (f_X3_add z1 x1 s) fun s1 =>
  some (1, s1)
theorem wj_X3_sign_190 {x1 : Int} {z1 : Int} {s : vS} {out : Int × vS} (h : j_X3_sign_190 x1 z1 s = some out)  (rx1 : rg x1) (rz1 : rg z1) : VW cX3_sign (RX3, (some (vI out.1)), out.2, (some .boolean), 4, 91, 4, []) (P0 []) s 190 [(1, vI x1)] [vI z1, vO 5] := by
  unfold j_X3_sign_190 at h
  refine v_iload_n dX3_sign_190 0 rfl rfl ?_
  obtain ⟨s1, e2, h⟩ := bdv_some h
  have k3 := c_X3_add e2 rz1 rx1
  refine v_callV (st := []) cf3 oc5 k3 (lw_V q1158 q1160 qs10 q300 q1161) rfl yk_X3_add ⟨Nat.le_of_ble_eq_true rfl, Nat.le_of_ble_eq_true rfl⟩ trivial trivial (Nat.le_of_ble_eq_true rfl) rfl dX3_sign_191 ?_
  refine v_goto (tgt := 206) dX3_sign_194 (by decide) ?_
  refine v_iconst dX3_sign_206 ?_
  cases h
  exact v_zret (Or.inr rfl) dX3_sign_207

def j_X3_sign_157 (x1 : Int) (x2 : Int) (x3 : Int) (s : vS) : Option (Int × vS) :=
  bd (f_X3_here 0 s) fun r4 s1 =>
  if r4 = x2 then
    stp (sI s1 5 3 (w32 ((gI s1 5 3) + 1))) fun s7 =>
    if x2 = 91 then
      j_X3_sign_190 x1 13 s7
    else
      j_X3_sign_190 x1 14 s7
  else
    j_X3_sign_197 x1 x3 s1
theorem wj_X3_sign_157 {x1 : Int} {x2 : Int} {x3 : Int} {s : vS} {out : Int × vS} (h : j_X3_sign_157 x1 x2 x3 s = some out)  (rx1 : rg x1) (rx2 : rg x2) (rx3 : rg x3) : VW cX3_sign (RX3, (some (vI out.1)), out.2, (some .boolean), 4, 91, 4, []) (P0 []) s 157 [(0, vO 5), (1, vI x1), (2, vI x2), (3, vI x3)] [] := by
  unfold j_X3_sign_157 at h
  refine v_aload_n dX3_sign_157 0 rfl rfl ?_
  refine v_iconst dX3_sign_158 ?_
  obtain ⟨r4, s1, e2, h⟩ := bd_some h
  have k3 := c_X3_here e2 (rgl rfl)
  have r5 : rg r4 := k3.1.2.2
  refine v_callV (st := []) cf3 oc5 k3 (lw_V q1067 q1069 qs4 q300 q1070) rfl yk_X3_here ⟨Nat.le_of_ble_eq_true rfl, Nat.le_of_ble_eq_true rfl⟩ trivial ⟨kc5, trivial⟩ (Nat.le_of_ble_eq_true rfl) rfl dX3_sign_159 ?_
  refine v_iload_n dX3_sign_162 2 rfl rfl ?_
  refine v_icmp_ne (tgt := 197) dX3_sign_163 r5 rx2 (by decide) (fun c6 => ?_) (fun c6 => ?_)
  · rw [if_neg c6] at h
    refine v_sub [0, 1, 3] (L1 := [(0, vO 5), (1, vI x1), (3, vI x3)]) rfl ?_
    exact wj_X3_sign_197 h rx1 rx3
  · rw [if_pos c6] at h
    refine v_aload_n dX3_sign_166 0 rfl rfl ?_
    refine v_dupO dX3_sign_167 ?_
    refine v_getI (f := 3) cf3 oc5 rfl (by decide) q437 dX3_sign_168 ?_
    refine v_iconst dX3_sign_171 ?_
    refine v_iadd dX3_sign_172 ?_
    obtain ⟨s7, e8, h⟩ := stp_some h
    refine v_putI (f := 3) cf3 oc5 rfl (by decide) q437 dX3_sign_173 rfl rfl ?_
    rw [← e8]
    refine v_aload_n dX3_sign_176 0 rfl rfl ?_
    refine v_iload_n dX3_sign_177 2 rfl rfl ?_
    refine v_bipush dX3_sign_178 rfl ?_
    refine v_icmp_ne (tgt := 188) dX3_sign_180 rx2 (rgl rfl) (by decide) (fun c9 => ?_) (fun c9 => ?_)
    · rw [if_neg c9] at h
      refine v_bipush dX3_sign_188 rfl ?_
      refine v_sub [1] (L1 := [(1, vI x1)]) rfl ?_
      exact wj_X3_sign_190 h rx1 (rgl rfl)
    · rw [if_pos c9] at h
      refine v_bipush dX3_sign_183 rfl ?_
      refine v_goto (tgt := 190) dX3_sign_185 (by decide) ?_
      refine v_sub [1] (L1 := [(1, vI x1)]) rfl ?_
      exact wj_X3_sign_190 h rx1 (rgl rfl)

def j_X3_sign_145 (x1 : Int) (x2 : Int) (x3 : Int) (s : vS) : Option (Int × vS) :=
  if x2 = 91 then
    j_X3_sign_157 x1 x2 x3 s
  else
    if x2 = 93 then
      j_X3_sign_157 x1 x2 x3 s
    else
      j_X3_sign_197 x1 x3 s
theorem wj_X3_sign_145 {x1 : Int} {x2 : Int} {x3 : Int} {s : vS} {out : Int × vS} (h : j_X3_sign_145 x1 x2 x3 s = some out)  (rx1 : rg x1) (rx2 : rg x2) (rx3 : rg x3) : VW cX3_sign (RX3, (some (vI out.1)), out.2, (some .boolean), 4, 91, 4, []) (P0 []) s 145 [(0, vO 5), (1, vI x1), (2, vI x2), (3, vI x3)] [] := by
  unfold j_X3_sign_145 at h
  refine v_iload_n dX3_sign_145 2 rfl rfl ?_
  refine v_bipush dX3_sign_146 rfl ?_
  refine v_icmp_eq (tgt := 157) dX3_sign_148 rx2 (rgl rfl) (by decide) (fun c1 => ?_) (fun c1 => ?_)
  · rw [if_pos c1] at h
    exact wj_X3_sign_157 h rx1 rx2 rx3
  · rw [if_neg c1] at h
    refine v_iload_n dX3_sign_151 2 rfl rfl ?_
    refine v_bipush dX3_sign_152 rfl ?_
    refine v_icmp_ne (tgt := 197) dX3_sign_154 rx2 (rgl rfl) (by decide) (fun c2 => ?_) (fun c2 => ?_)
    · rw [if_neg c2] at h
      refine v_sub [0, 1, 3] (L1 := [(0, vO 5), (1, vI x1), (3, vI x3)]) rfl ?_
      exact wj_X3_sign_197 h rx1 rx3
    · rw [if_pos c2] at h
      exact wj_X3_sign_157 h rx1 rx2 rx3

def j_X3_sign_138 (x1 : Int) (z1 : Int) (s : vS) : Option (Int × vS) :=
  bdv (f_X3_add z1 x1 s) fun s1 =>
  some (1, s1)
theorem wj_X3_sign_138 {x1 : Int} {z1 : Int} {s : vS} {out : Int × vS} (h : j_X3_sign_138 x1 z1 s = some out)  (rx1 : rg x1) (rz1 : rg z1) : VW cX3_sign (RX3, (some (vI out.1)), out.2, (some .boolean), 4, 91, 4, []) (P0 []) s 138 [(1, vI x1)] [vI z1, vO 5] := by
  unfold j_X3_sign_138 at h
  refine v_iload_n dX3_sign_138 0 rfl rfl ?_
  obtain ⟨s1, e2, h⟩ := bdv_some h
  have k3 := c_X3_add e2 rz1 rx1
  refine v_callV (st := []) cf3 oc5 k3 (lw_V q1158 q1160 qs10 q300 q1161) rfl yk_X3_add ⟨Nat.le_of_ble_eq_true rfl, Nat.le_of_ble_eq_true rfl⟩ trivial trivial (Nat.le_of_ble_eq_true rfl) rfl dX3_sign_139 ?_
  refine v_goto (tgt := 206) dX3_sign_142 (by decide) ?_
  refine v_iconst dX3_sign_206 ?_
  cases h
  exact v_zret (Or.inr rfl) dX3_sign_207

def j_X3_sign_116 (x1 : Int) (z1 : Int) (z2 : Int) (s : vS) : Option (Int × vS) :=
  stp (sI s 5 3 (w32 (z1 + z2))) fun s1 =>
  if (w32 ((gI s1 5 3) - x1)) = 3 then
    j_X3_sign_138 x1 11 s1
  else
    j_X3_sign_138 x1 12 s1
theorem wj_X3_sign_116 {x1 : Int} {z1 : Int} {z2 : Int} {s : vS} {out : Int × vS} (h : j_X3_sign_116 x1 z1 z2 s = some out)  (rx1 : rg x1) (rz1 : rg z1) (rz2 : rg z2) : VW cX3_sign (RX3, (some (vI out.1)), out.2, (some .boolean), 4, 91, 4, []) (P0 []) s 116 [(0, vO 5), (1, vI x1)] [vI z2, vI z1, vO 5] := by
  unfold j_X3_sign_116 at h
  refine v_iadd dX3_sign_116 ?_
  obtain ⟨s1, e2, h⟩ := stp_some h
  refine v_putI (f := 3) cf3 oc5 rfl (by decide) q437 dX3_sign_117 rfl rfl ?_
  rw [← e2]
  refine v_aload_n dX3_sign_120 0 rfl rfl ?_
  refine v_aload_n dX3_sign_121 0 rfl rfl ?_
  refine v_getI (f := 3) cf3 oc5 rfl (by decide) q437 dX3_sign_122 ?_
  refine v_iload_n dX3_sign_125 1 rfl rfl ?_
  refine v_isub dX3_sign_126 ?_
  refine v_iconst dX3_sign_127 ?_
  refine v_icmp_ne (tgt := 136) dX3_sign_128 (w32_rg _) (rgl rfl) (by decide) (fun c3 => ?_) (fun c3 => ?_)
  · rw [if_neg c3] at h
    refine v_bipush dX3_sign_136 rfl ?_
    refine v_sub [1] (L1 := [(1, vI x1)]) rfl ?_
    exact wj_X3_sign_138 h rx1 (rgl rfl)
  · rw [if_pos c3] at h
    refine v_bipush dX3_sign_131 rfl ?_
    refine v_goto (tgt := 138) dX3_sign_133 (by decide) ?_
    refine v_sub [1] (L1 := [(1, vI x1)]) rfl ?_
    exact wj_X3_sign_138 h rx1 (rgl rfl)

def j_X3_sign_80 (x1 : Int) (x2 : Int) (x3 : Int) (s : vS) : Option (Int × vS) :=
  if x2 = 46 then
    bd (f_X3_here 0 s) fun r5 s2 =>
    if r5 = 46 then
      bd (f_X3_here 1 s2) fun r11 s8 =>
      if r11 = 46 then
        j_X3_sign_116 x1 (gI s2 5 3) 2 s8
      else
        j_X3_sign_116 x1 (gI s2 5 3) 1 s8
    else
      j_X3_sign_145 x1 x2 x3 s2
  else
    j_X3_sign_145 x1 x2 x3 s
theorem wj_X3_sign_80 {x1 : Int} {x2 : Int} {x3 : Int} {s : vS} {out : Int × vS} (h : j_X3_sign_80 x1 x2 x3 s = some out)  (rx1 : rg x1) (rx2 : rg x2) (rx3 : rg x3) : VW cX3_sign (RX3, (some (vI out.1)), out.2, (some .boolean), 4, 91, 4, []) (P0 []) s 80 [(0, vO 5), (1, vI x1), (2, vI x2), (3, vI x3)] [] := by
  unfold j_X3_sign_80 at h
  refine v_iload_n dX3_sign_80 2 rfl rfl ?_
  refine v_bipush dX3_sign_81 rfl ?_
  refine v_icmp_ne (tgt := 145) dX3_sign_83 rx2 (rgl rfl) (by decide) (fun c1 => ?_) (fun c1 => ?_)
  · rw [if_neg c1] at h
    exact wj_X3_sign_145 h rx1 rx2 rx3
  · rw [if_pos c1] at h
    refine v_aload_n dX3_sign_86 0 rfl rfl ?_
    refine v_iconst dX3_sign_87 ?_
    obtain ⟨r5, s2, e3, h⟩ := bd_some h
    have k4 := c_X3_here e3 (rgl rfl)
    have r6 : rg r5 := k4.1.2.2
    refine v_callV (st := []) cf3 oc5 k4 (lw_V q1067 q1069 qs4 q300 q1070) rfl yk_X3_here ⟨Nat.le_of_ble_eq_true rfl, Nat.le_of_ble_eq_true rfl⟩ trivial ⟨kc5, trivial⟩ (Nat.le_of_ble_eq_true rfl) rfl dX3_sign_88 ?_
    refine v_bipush dX3_sign_91 rfl ?_
    refine v_icmp_ne (tgt := 145) dX3_sign_93 r6 (rgl rfl) (by decide) (fun c7 => ?_) (fun c7 => ?_)
    · rw [if_neg c7] at h
      exact wj_X3_sign_145 h rx1 rx2 rx3
    · rw [if_pos c7] at h
      refine v_aload_n dX3_sign_96 0 rfl rfl ?_
      refine v_dupO dX3_sign_97 ?_
      refine v_getI (f := 3) cf3 oc5 rfl (by decide) q437 dX3_sign_98 ?_
      refine v_aload_n dX3_sign_101 0 rfl rfl ?_
      refine v_iconst dX3_sign_102 ?_
      obtain ⟨r11, s8, e9, h⟩ := bd_some h
      have k10 := c_X3_here e9 (rgl rfl)
      have r12 : rg r11 := k10.1.2.2
      refine v_callV (st := [vI (gI s2 5 3), vO 5]) cf3 oc5 k10 (lw_V q1067 q1069 qs4 q300 q1070) rfl yk_X3_here ⟨Nat.le_of_ble_eq_true rfl, Nat.le_of_ble_eq_true rfl⟩ ⟨kc5, trivial⟩ ⟨kc5, trivial⟩ (Nat.le_of_ble_eq_true rfl) rfl dX3_sign_103 ?_
      refine v_bipush dX3_sign_106 rfl ?_
      refine v_icmp_ne (tgt := 115) dX3_sign_108 r12 (rgl rfl) (by decide) (fun c13 => ?_) (fun c13 => ?_)
      · rw [if_neg c13] at h
        refine v_iconst dX3_sign_115 ?_
        refine v_sub [0, 1] (L1 := [(0, vO 5), (1, vI x1)]) rfl ?_
        exact wj_X3_sign_116 h rx1 (gI_rg _ _ _) (rgl rfl)
      · rw [if_pos c13] at h
        refine v_iconst dX3_sign_111 ?_
        refine v_goto (tgt := 116) dX3_sign_112 (by decide) ?_
        refine v_sub [0, 1] (L1 := [(0, vO 5), (1, vI x1)]) rfl ?_
        exact wj_X3_sign_116 h rx1 (gI_rg _ _ _) (rgl rfl)

def f_X3_sign (s : vS) : Option (Int × vS) :=
  vl (gI s 5 3) fun y1 =>
  bd (f_X3_here 0 s) fun r7 s4 =>
  gd (0 < sL 1077) <|
  vl (sX 1077 r7) fun y10 =>
  if 0 ≤ y10 then
    stp (sI s4 5 3 (w32 ((gI s4 5 3) + 1))) fun s14 =>
    if r7 = 58 then
      bd (f_X3_here 0 s14) fun r20 s17 =>
      if r20 = 58 then
        bd (f_X3_here 1 s17) fun r26 s23 =>
        if r26 = 61 then
          stp (sI s23 5 3 (w32 ((gI s23 5 3) + 2))) fun s29 =>
          bdv (f_X3_add 10 y1 s29) fun s31 =>
          some (1, s31)
        else
          j_X3_sign_80 y1 r7 y10 s23
      else
        j_X3_sign_80 y1 r7 y10 s17
    else
      j_X3_sign_80 y1 r7 y10 s14
  else
    some (0, s4)
theorem yk_X3_sign : yOk yX3_sign 0 := ⟨by decide, by decide, by decide +kernel⟩
theorem c_X3_sign {s : vS} {out : Int × vS} (h : f_X3_sign s = some out)   : VC yX3_sign cX3_sign 4 (some .boolean) 4 91 [vO 5] s (some (vI out.1)) out.2 [] := by
  unfold f_X3_sign at h
  refine VC.of RX3 (by decide) rfl (Nat.le_of_ble_eq_true rfl) ?_
  show VW cX3_sign (RX3, (some (vI out.1)), out.2, (some .boolean), 4, 91, 4, []) (P0 []) s 0 [(0, vO 5)] []
  refine v_aload_n dX3_sign_0 0 rfl rfl ?_
  refine v_getI (f := 3) cf3 oc5 rfl (by decide) q437 dX3_sign_1 ?_
  obtain ⟨y1, e2, h⟩ := vl_some h
  rw [← e2]
  have r3 : rg y1 := by rw [e2]; exact gI_rg _ _ _
  refine v_istore_n (L1 := [(1, vI y1), (0, vO 5)]) dX3_sign_4 rfl (by decide) rfl ?_
  refine v_aload_n dX3_sign_5 1 rfl rfl ?_
  refine v_iconst dX3_sign_6 ?_
  obtain ⟨r7, s4, e5, h⟩ := bd_some h
  have k6 := c_X3_here e5 (rgl rfl)
  have r8 : rg r7 := k6.1.2.2
  refine v_callV (st := []) cf3 oc5 k6 (lw_V q1067 q1069 qs4 q300 q1070) rfl yk_X3_here ⟨Nat.le_of_ble_eq_true rfl, Nat.le_of_ble_eq_true rfl⟩ trivial ⟨kc5, trivial⟩ (Nat.le_of_ble_eq_true rfl) rfl dX3_sign_7 ?_
  refine v_istore_n (L1 := [(2, vI r7), (1, vI y1), (0, vO 5)]) dX3_sign_10 rfl (by decide) rfl ?_
  refine v_ldcs (i := 77) (by decide) rfl rfl dX3_sign_11 ?_
  refine v_iload_n dX3_sign_13 0 rfl rfl ?_
  obtain ⟨g9, h⟩ := gd_some h
  refine v_callVS (st := []) (⟨by decide, by decide⟩ : oS 1077) (c_yJ5_indexOf (s := s4) (⟨by decide, by decide⟩ : oS 1077) g9 r8) (lw_V q1185 q1186 q1187 q318 q1188) rfl yk_yJ5_indexOf ⟨Nat.le_of_ble_eq_true rfl, Nat.le_of_ble_eq_true rfl⟩ trivial ⟨kc5, trivial⟩ (Nat.le_of_ble_eq_true rfl) rfl dX3_sign_14 ?_
  obtain ⟨y10, e11, h⟩ := vl_some h
  rw [← e11]
  have r12 : rg y10 := by rw [e11]; exact (sX_rg (⟨by decide, by decide⟩ : oS 1077) _)
  refine v_istore_n (L1 := [(3, vI y10), (2, vI r7), (1, vI y1), (0, vO 5)]) dX3_sign_17 rfl (by decide) rfl ?_
  refine v_iload_n dX3_sign_18 0 rfl rfl ?_
  refine v_if_ge (tgt := 24) dX3_sign_19 r12 (by decide) (fun c13 => ?_) (fun c13 => ?_)
  · rw [if_pos c13] at h
    refine v_aload_n dX3_sign_24 3 rfl rfl ?_
    refine v_dupO dX3_sign_25 ?_
    refine v_getI (f := 3) cf3 oc5 rfl (by decide) q437 dX3_sign_26 ?_
    refine v_iconst dX3_sign_29 ?_
    refine v_iadd dX3_sign_30 ?_
    obtain ⟨s14, e15, h⟩ := stp_some h
    refine v_putI (f := 3) cf3 oc5 rfl (by decide) q437 dX3_sign_31 rfl rfl ?_
    rw [← e15]
    refine v_iload_n dX3_sign_34 1 rfl rfl ?_
    refine v_bipush dX3_sign_35 rfl ?_
    refine v_icmp_ne (tgt := 80) dX3_sign_37 r8 (rgl rfl) (by decide) (fun c16 => ?_) (fun c16 => ?_)
    · rw [if_neg c16] at h
      refine v_sub [3, 2, 1, 0] (L1 := [(0, vO 5), (1, vI y1), (2, vI r7), (3, vI y10)]) rfl ?_
      exact wj_X3_sign_80 h r3 r8 r12
    · rw [if_pos c16] at h
      refine v_aload_n dX3_sign_40 3 rfl rfl ?_
      refine v_iconst dX3_sign_41 ?_
      obtain ⟨r20, s17, e18, h⟩ := bd_some h
      have k19 := c_X3_here e18 (rgl rfl)
      have r21 : rg r20 := k19.1.2.2
      refine v_callV (st := []) cf3 oc5 k19 (lw_V q1067 q1069 qs4 q300 q1070) rfl yk_X3_here ⟨Nat.le_of_ble_eq_true rfl, Nat.le_of_ble_eq_true rfl⟩ trivial ⟨kc5, trivial⟩ (Nat.le_of_ble_eq_true rfl) rfl dX3_sign_42 ?_
      refine v_bipush dX3_sign_45 rfl ?_
      refine v_icmp_ne (tgt := 80) dX3_sign_47 r21 (rgl rfl) (by decide) (fun c22 => ?_) (fun c22 => ?_)
      · rw [if_neg c22] at h
        refine v_sub [3, 2, 1, 0] (L1 := [(0, vO 5), (1, vI y1), (2, vI r7), (3, vI y10)]) rfl ?_
        exact wj_X3_sign_80 h r3 r8 r12
      · rw [if_pos c22] at h
        refine v_aload_n dX3_sign_50 3 rfl rfl ?_
        refine v_iconst dX3_sign_51 ?_
        obtain ⟨r26, s23, e24, h⟩ := bd_some h
        have k25 := c_X3_here e24 (rgl rfl)
        have r27 : rg r26 := k25.1.2.2
        refine v_callV (st := []) cf3 oc5 k25 (lw_V q1067 q1069 qs4 q300 q1070) rfl yk_X3_here ⟨Nat.le_of_ble_eq_true rfl, Nat.le_of_ble_eq_true rfl⟩ trivial ⟨kc5, trivial⟩ (Nat.le_of_ble_eq_true rfl) rfl dX3_sign_52 ?_
        refine v_bipush dX3_sign_55 rfl ?_
        refine v_icmp_ne (tgt := 80) dX3_sign_57 r27 (rgl rfl) (by decide) (fun c28 => ?_) (fun c28 => ?_)
        · rw [if_neg c28] at h
          refine v_sub [3, 2, 1, 0] (L1 := [(0, vO 5), (1, vI y1), (2, vI r7), (3, vI y10)]) rfl ?_
          exact wj_X3_sign_80 h r3 r8 r12
        · rw [if_pos c28] at h
          refine v_aload_n dX3_sign_60 3 rfl rfl ?_
          refine v_dupO dX3_sign_61 ?_
          refine v_getI (f := 3) cf3 oc5 rfl (by decide) q437 dX3_sign_62 ?_
          refine v_iconst dX3_sign_65 ?_
          refine v_iadd dX3_sign_66 ?_
          obtain ⟨s29, e30, h⟩ := stp_some h
          refine v_putI (f := 3) cf3 oc5 rfl (by decide) q437 dX3_sign_67 rfl rfl ?_
          rw [← e30]
          refine v_aload_n dX3_sign_70 3 rfl rfl ?_
          refine v_bipush dX3_sign_71 rfl ?_
          refine v_iload_n dX3_sign_73 2 rfl rfl ?_
          obtain ⟨s31, e32, h⟩ := bdv_some h
          have k33 := c_X3_add e32 (rgl rfl) r3
          refine v_callV (st := []) cf3 oc5 k33 (lw_V q1158 q1160 qs10 q300 q1161) rfl yk_X3_add ⟨Nat.le_of_ble_eq_true rfl, Nat.le_of_ble_eq_true rfl⟩ trivial ⟨kc5, trivial⟩ (Nat.le_of_ble_eq_true rfl) rfl dX3_sign_74 ?_
          refine v_goto (tgt := 206) dX3_sign_77 (by decide) ?_
          refine v_iconst dX3_sign_206 ?_
          cases h
          exact v_zret (Or.inr rfl) dX3_sign_207
  · rw [if_neg c13] at h
    refine v_iconst dX3_sign_22 ?_
    cases h
    exact v_zret (Or.inl rfl) dX3_sign_23

def E_X3_cut_15 (p1 : Nat) (rv : Option vA) (σo : vS) (q : (vS) ⊕ (Int × vS)) : Prop := (∀ (s' : vS), q = .inl s' → VW cX3_cut (RX3, rv, σo, (some .int), 7, 156, 5, []) (P0 []) s' 187 [] []) ∧ (∀ (v : Int) (s' : vS), q = .inr (v, s') → rv = some (vI v) ∧ σo = s')
def j_X3_cut_177 (p1 : Nat) (rec : vS → Option ((vS) ⊕ (Int × vS))) (x2 : Int) (x4 : Int) (s : vS) : Option ((vS) ⊕ (Int × vS)) :=
  if x4 = 0 then
    some (.inr (x2, s))
  else
    rec s
theorem wj_X3_cut_177 {p1 : Nat} {x2 : Int} {x4 : Int} {s : vS} {rv : Option vA} {σo : vS} {rec : vS → Option ((vS) ⊕ (Int × vS))} {q : (vS) ⊕ (Int × vS)} (h : j_X3_cut_177 p1 rec x2 x4 s = some q) (hp1 : okB p1 1) (rx2 : rg x2) (rx4 : rg x4) (hrec : ∀ (s : vS) (q : (vS) ⊕ (Int × vS)), rec  s = some q → E_X3_cut_15 p1 rv σo q → VW cX3_cut (RX3, rv, σo, (some .int), 7, 156, 5, []) (P0 []) s 15 [(0, vO 5)] []) (hE : E_X3_cut_15 p1 rv σo q) : VW cX3_cut (RX3, rv, σo, (some .int), 7, 156, 5, []) (P0 []) s 177 [(0, vO 5), (2, vI x2), (4, vI x4)] [] := by
  unfold j_X3_cut_177 at h
  refine v_iload dX3_cut_177 2 rfl ?_
  refine v_if_ne (tgt := 184) dX3_cut_179 rx4 (by decide) (fun c1 => ?_) (fun c1 => ?_)
  · rw [if_neg c1] at h
    refine v_goto (tgt := 15) dX3_cut_184 (by decide) ?_
    refine v_sub [0] (L1 := [(0, vO 5)]) rfl ?_
    exact hrec s _ h  hE
  · rw [if_pos c1] at h
    refine v_iload_n dX3_cut_182 1 rfl rfl ?_
    cases h
    obtain ⟨z1, z2⟩ := hE.2 _ _ rfl
    subst z1
    subst z2
    exact v_iret rx2 dX3_cut_183

def j_X3_cut_111 (p1 : Nat) (rec : vS → Option ((vS) ⊕ (Int × vS))) (x2 : Int) (x3 : Int) (x4 : Int) (s : vS) : Option ((vS) ⊕ (Int × vS)) :=
  bd (f_X3_isLetter x3 s) fun r4 s1 =>
  if r4 = 0 then
    bd (f_X3_isDigit x3 s1) fun r10 s7 =>
    if r10 = 0 then
      if x3 = 34 then
        bd (f_X3_quoted s7) fun r28 s25 =>
        j_X3_cut_177 p1 rec x2 r28 s25
      else
        if x3 = 39 then
          bd (f_X3_digits s7) fun r23 s20 =>
          j_X3_cut_177 p1 rec x2 r23 s20
        else
          bd (f_X3_sign s7) fun r18 s15 =>
          j_X3_cut_177 p1 rec x2 r18 s15
    else
      bd (f_X3_number s7) fun r33 s30 =>
      j_X3_cut_177 p1 rec x2 r33 s30
  else
    bdv (f_X3_name s1) fun s35 =>
    j_X3_cut_177 p1 rec x2 x4 s35
theorem wj_X3_cut_111 {p1 : Nat} {x2 : Int} {x3 : Int} {x4 : Int} {s : vS} {rv : Option vA} {σo : vS} {rec : vS → Option ((vS) ⊕ (Int × vS))} {q : (vS) ⊕ (Int × vS)} (h : j_X3_cut_111 p1 rec x2 x3 x4 s = some q) (hp1 : okB p1 1) (rx2 : rg x2) (rx3 : rg x3) (rx4 : rg x4) (hrec : ∀ (s : vS) (q : (vS) ⊕ (Int × vS)), rec  s = some q → E_X3_cut_15 p1 rv σo q → VW cX3_cut (RX3, rv, σo, (some .int), 7, 156, 5, []) (P0 []) s 15 [(0, vO 5)] []) (hE : E_X3_cut_15 p1 rv σo q) : VW cX3_cut (RX3, rv, σo, (some .int), 7, 156, 5, []) (P0 []) s 111 [(0, vO 5), (2, vI x2), (3, vI x3), (4, vI x4)] [] := by
  unfold j_X3_cut_111 at h
  refine v_iload_n dX3_cut_111 2 rfl rfl ?_
  obtain ⟨r4, s1, e2, h⟩ := bd_some h
  have k3 := c_X3_isLetter e2 rx3
  have r5 : rg r4 := k3.1.2.2
  refine v_callS (st := []) k3 (lw_S q1089 q1090 q300 q1091) yk_X3_isLetter ⟨Nat.le_of_ble_eq_true rfl, Nat.le_of_ble_eq_true rfl⟩ trivial ⟨kc5, trivial⟩ (Nat.le_of_ble_eq_true rfl) rfl dX3_cut_112 ?_
  refine v_if_eq (tgt := 125) dX3_cut_115 r5 (by decide) (fun c6 => ?_) (fun c6 => ?_)
  · rw [if_pos c6] at h
    refine v_iload_n dX3_cut_125 2 rfl rfl ?_
    obtain ⟨r10, s7, e8, h⟩ := bd_some h
    have k9 := c_X3_isDigit e8 rx3
    have r11 : rg r10 := k9.1.2.2
    refine v_callS (st := []) k9 (lw_S q1099 q1100 q300 q1101) yk_X3_isDigit ⟨Nat.le_of_ble_eq_true rfl, Nat.le_of_ble_eq_true rfl⟩ trivial ⟨kc5, trivial⟩ (Nat.le_of_ble_eq_true rfl) rfl dX3_cut_126 ?_
    refine v_if_eq (tgt := 141) dX3_cut_129 r11 (by decide) (fun c12 => ?_) (fun c12 => ?_)
    · rw [if_pos c12] at h
      refine v_iload_n dX3_cut_141 2 rfl rfl ?_
      refine v_bipush dX3_cut_142 rfl ?_
      refine v_icmp_ne (tgt := 156) dX3_cut_144 rx3 (rgl rfl) (by decide) (fun c13 => ?_) (fun c13 => ?_)
      · rw [if_neg c13] at h
        refine v_iload_n dX3_cut_156 2 rfl rfl ?_
        refine v_bipush dX3_cut_157 rfl ?_
        refine v_icmp_ne (tgt := 171) dX3_cut_159 rx3 (rgl rfl) (by decide) (fun c14 => ?_) (fun c14 => ?_)
        · rw [if_neg c14] at h
          refine v_aload_n dX3_cut_171 0 rfl rfl ?_
          obtain ⟨r18, s15, e16, h⟩ := bd_some h
          have k17 := c_X3_sign e16
          have r19 : rg r18 := k17.1.2.2
          refine v_callV (st := []) cf3 oc5 k17 (lw_V q1181 q1183 qs14 q300 q1184) rfl yk_X3_sign ⟨Nat.le_of_ble_eq_true rfl, Nat.le_of_ble_eq_true rfl⟩ trivial ⟨kc5, trivial⟩ (Nat.le_of_ble_eq_true rfl) rfl dX3_cut_172 ?_
          refine v_istore (L1 := [(4, vI r18), (0, vO 5), (2, vI x2), (3, vI x3)]) dX3_cut_175 (by decide) rfl ?_
          refine v_sub [1, 2, 0] (L1 := [(0, vO 5), (2, vI x2), (4, vI r18)]) rfl ?_
          exact wj_X3_cut_177 h hp1 rx2 r19 hrec hE
        · rw [if_pos c14] at h
          refine v_aload_n dX3_cut_162 0 rfl rfl ?_
          obtain ⟨r23, s20, e21, h⟩ := bd_some h
          have k22 := c_X3_digits e21
          have r24 : rg r23 := k22.1.2.2
          refine v_callV (st := []) cf3 oc5 k22 (lw_V q1174 q1176 qs13 q300 q1177) rfl yk_X3_digits ⟨Nat.le_of_ble_eq_true rfl, Nat.le_of_ble_eq_true rfl⟩ trivial ⟨kc5, trivial⟩ (Nat.le_of_ble_eq_true rfl) rfl dX3_cut_163 ?_
          refine v_istore (L1 := [(4, vI r23), (0, vO 5), (2, vI x2), (3, vI x3)]) dX3_cut_166 (by decide) rfl ?_
          refine v_goto (tgt := 177) dX3_cut_168 (by decide) ?_
          refine v_sub [1, 2, 0] (L1 := [(0, vO 5), (2, vI x2), (4, vI r23)]) rfl ?_
          exact wj_X3_cut_177 h hp1 rx2 r24 hrec hE
      · rw [if_pos c13] at h
        refine v_aload_n dX3_cut_147 0 rfl rfl ?_
        obtain ⟨r28, s25, e26, h⟩ := bd_some h
        have k27 := c_X3_quoted e26
        have r29 : rg r28 := k27.1.2.2
        refine v_callV (st := []) cf3 oc5 k27 (lw_V q1170 q1172 qs12 q300 q1173) rfl yk_X3_quoted ⟨Nat.le_of_ble_eq_true rfl, Nat.le_of_ble_eq_true rfl⟩ trivial ⟨kc5, trivial⟩ (Nat.le_of_ble_eq_true rfl) rfl dX3_cut_148 ?_
        refine v_istore (L1 := [(4, vI r28), (0, vO 5), (2, vI x2), (3, vI x3)]) dX3_cut_151 (by decide) rfl ?_
        refine v_goto (tgt := 177) dX3_cut_153 (by decide) ?_
        refine v_sub [1, 2, 0] (L1 := [(0, vO 5), (2, vI x2), (4, vI r28)]) rfl ?_
        exact wj_X3_cut_177 h hp1 rx2 r29 hrec hE
    · rw [if_neg c12] at h
      refine v_aload_n dX3_cut_132 0 rfl rfl ?_
      obtain ⟨r33, s30, e31, h⟩ := bd_some h
      have k32 := c_X3_number e31
      have r34 : rg r33 := k32.1.2.2
      refine v_callV (st := []) cf3 oc5 k32 (lw_V q1166 q1168 qs11 q300 q1169) rfl yk_X3_number ⟨Nat.le_of_ble_eq_true rfl, Nat.le_of_ble_eq_true rfl⟩ trivial ⟨kc5, trivial⟩ (Nat.le_of_ble_eq_true rfl) rfl dX3_cut_133 ?_
      refine v_istore (L1 := [(4, vI r33), (0, vO 5), (2, vI x2), (3, vI x3)]) dX3_cut_136 (by decide) rfl ?_
      refine v_goto (tgt := 177) dX3_cut_138 (by decide) ?_
      refine v_sub [1, 2, 0] (L1 := [(0, vO 5), (2, vI x2), (4, vI r33)]) rfl ?_
      exact wj_X3_cut_177 h hp1 rx2 r34 hrec hE
  · rw [if_neg c6] at h
    refine v_aload_n dX3_cut_118 0 rfl rfl ?_
    obtain ⟨s35, e36, h⟩ := bdv_some h
    have k37 := c_X3_name e36
    refine v_callV (st := []) cf3 oc5 k37 (lw_V q1095 q1097 qs7 q300 q1098) rfl yk_X3_name ⟨Nat.le_of_ble_eq_true rfl, Nat.le_of_ble_eq_true rfl⟩ trivial ⟨kc5, trivial⟩ (Nat.le_of_ble_eq_true rfl) rfl dX3_cut_119 ?_
    refine v_goto (tgt := 177) dX3_cut_122 (by decide) ?_
    refine v_sub [0, 1, 3] (L1 := [(0, vO 5), (2, vI x2), (4, vI x4)]) rfl ?_
    exact wj_X3_cut_177 h hp1 rx2 rx4 hrec hE

def j_X3_cut_86 (p1 : Nat) (rec : vS → Option ((vS) ⊕ (Int × vS))) (x2 : Int) (x3 : Int) (x4 : Int) (s : vS) : Option ((vS) ⊕ (Int × vS)) :=
  if x3 = 47 then
    bd (f_X3_here 1 s) fun r5 s2 =>
    if r5 = 42 then
      bd (f_X3_skipBlock s2) fun r11 s8 =>
      j_X3_cut_177 p1 rec x2 r11 s8
    else
      j_X3_cut_111 p1 rec x2 x3 x4 s2
  else
    j_X3_cut_111 p1 rec x2 x3 x4 s
theorem wj_X3_cut_86 {p1 : Nat} {x2 : Int} {x3 : Int} {x4 : Int} {s : vS} {rv : Option vA} {σo : vS} {rec : vS → Option ((vS) ⊕ (Int × vS))} {q : (vS) ⊕ (Int × vS)} (h : j_X3_cut_86 p1 rec x2 x3 x4 s = some q) (hp1 : okB p1 1) (rx2 : rg x2) (rx3 : rg x3) (rx4 : rg x4) (hrec : ∀ (s : vS) (q : (vS) ⊕ (Int × vS)), rec  s = some q → E_X3_cut_15 p1 rv σo q → VW cX3_cut (RX3, rv, σo, (some .int), 7, 156, 5, []) (P0 []) s 15 [(0, vO 5)] []) (hE : E_X3_cut_15 p1 rv σo q) : VW cX3_cut (RX3, rv, σo, (some .int), 7, 156, 5, []) (P0 []) s 86 [(0, vO 5), (2, vI x2), (3, vI x3), (4, vI x4)] [] := by
  unfold j_X3_cut_86 at h
  refine v_iload_n dX3_cut_86 2 rfl rfl ?_
  refine v_bipush dX3_cut_87 rfl ?_
  refine v_icmp_ne (tgt := 111) dX3_cut_89 rx3 (rgl rfl) (by decide) (fun c1 => ?_) (fun c1 => ?_)
  · rw [if_neg c1] at h
    exact wj_X3_cut_111 h hp1 rx2 rx3 rx4 hrec hE
  · rw [if_pos c1] at h
    refine v_aload_n dX3_cut_92 0 rfl rfl ?_
    refine v_iconst dX3_cut_93 ?_
    obtain ⟨r5, s2, e3, h⟩ := bd_some h
    have k4 := c_X3_here e3 (rgl rfl)
    have r6 : rg r5 := k4.1.2.2
    refine v_callV (st := []) cf3 oc5 k4 (lw_V q1067 q1069 qs4 q300 q1070) rfl yk_X3_here ⟨Nat.le_of_ble_eq_true rfl, Nat.le_of_ble_eq_true rfl⟩ trivial ⟨kc5, trivial⟩ (Nat.le_of_ble_eq_true rfl) rfl dX3_cut_94 ?_
    refine v_bipush dX3_cut_97 rfl ?_
    refine v_icmp_ne (tgt := 111) dX3_cut_99 r6 (rgl rfl) (by decide) (fun c7 => ?_) (fun c7 => ?_)
    · rw [if_neg c7] at h
      exact wj_X3_cut_111 h hp1 rx2 rx3 rx4 hrec hE
    · rw [if_pos c7] at h
      refine v_aload_n dX3_cut_102 0 rfl rfl ?_
      obtain ⟨r11, s8, e9, h⟩ := bd_some h
      have k10 := c_X3_skipBlock e9
      have r12 : rg r11 := k10.1.2.2
      refine v_callV (st := []) cf3 oc5 k10 (lw_V q1085 q1087 qs6 q300 q1088) rfl yk_X3_skipBlock ⟨Nat.le_of_ble_eq_true rfl, Nat.le_of_ble_eq_true rfl⟩ trivial ⟨kc5, trivial⟩ (Nat.le_of_ble_eq_true rfl) rfl dX3_cut_103 ?_
      refine v_istore (L1 := [(4, vI r11), (0, vO 5), (2, vI x2), (3, vI x3)]) dX3_cut_106 (by decide) rfl ?_
      refine v_goto (tgt := 177) dX3_cut_108 (by decide) ?_
      refine v_sub [1, 2, 0] (L1 := [(0, vO 5), (2, vI x2), (4, vI r11)]) rfl ?_
      exact wj_X3_cut_177 h hp1 rx2 r12 hrec hE

def l_X3_cut_15 (p1 : Nat) : Nat → vS → Option ((vS) ⊕ (Int × vS))
  | 0, _ => none
  | n + 1, s =>
    gd (okB (gR s 5 2) 1) <|
    bd (f_X2_size (gR s 5 2) s) fun r5 s2 =>
    if r5 ≤ (gI s 5 3) then
      some (.inl s2)
    else
      vl (gI s2 5 3) fun y8 =>
      bd (f_X3_here 0 s2) fun r14 s11 =>
      bd (f_X3_isWhite r14 s11) fun r19 s16 =>
      if r19 = 0 then
        if r14 = 45 then
          bd (f_X3_here 1 s16) fun r26 s23 =>
          if r26 = 45 then
            bdv (f_X3_skipLine s23) fun s29 =>
            j_X3_cut_177 p1 (l_X3_cut_15 p1 n) y8 1 s29
          else
            j_X3_cut_86 p1 (l_X3_cut_15 p1 n) y8 r14 1 s23
        else
          j_X3_cut_86 p1 (l_X3_cut_15 p1 n) y8 r14 1 s16
      else
        stp (sI s16 5 3 (w32 ((gI s16 5 3) + 1))) fun s32 =>
        j_X3_cut_177 p1 (l_X3_cut_15 p1 n) y8 1 s32
theorem wl_X3_cut_15 (p1 : Nat) {rv : Option vA} {σo : vS} (hp1 : okB p1 1) : ∀ (n : Nat) (s : vS) (q : (vS) ⊕ (Int × vS)), l_X3_cut_15 p1 n  s = some q → E_X3_cut_15 p1 rv σo q → VW cX3_cut (RX3, rv, σo, (some .int), 7, 156, 5, []) (P0 []) s 15 [(0, vO 5)] [] := by
  intro n
  induction n with
  | zero => intro s q h; cases h
  | succ n ih =>
    intro s q h  hE
    unfold l_X3_cut_15 at h
    refine v_aload_n dX3_cut_15 0 rfl rfl ?_
    refine v_getI (f := 3) cf3 oc5 rfl (by decide) q437 dX3_cut_16 ?_
    refine v_aload_n dX3_cut_19 0 rfl rfl ?_
    obtain ⟨g1, h⟩ := gd_some h
    refine v_getR (f := 2) cf3 oc5 rfl (okB_R g1 (by decide) (by decide)) (by decide) q436 dX3_cut_20 ?_
    obtain ⟨r5, s2, e3, h⟩ := bd_some h
    have k4 := c_X2_size e3 g1
    have r6 : rg r5 := k4.1.2.2
    refine v_callV (st := [vI (gI s 5 3)]) cf2 (okB_ok g1) k4 (lw_V q1066 q918 q919 q299 q920) rfl yk_X2_size ⟨Nat.le_of_ble_eq_true rfl, Nat.le_of_ble_eq_true rfl⟩ trivial ⟨kc5, trivial⟩ (Nat.le_of_ble_eq_true rfl) rfl dX3_cut_23 ?_
    refine v_icmp_ge (tgt := 187) dX3_cut_26 (gI_rg _ _ _) r6 (by decide) (fun c7 => ?_) (fun c7 => ?_)
    · rw [if_pos c7] at h
      cases h
      refine v_sub [] (L1 := []) rfl ?_
      exact hE.1 _ rfl 
    · rw [if_neg c7] at h
      refine v_aload_n dX3_cut_29 0 rfl rfl ?_
      refine v_getI (f := 3) cf3 oc5 rfl (by decide) q437 dX3_cut_30 ?_
      obtain ⟨y8, e9, h⟩ := vl_some h
      rw [← e9]
      have r10 : rg y8 := by rw [e9]; exact gI_rg _ _ _
      refine v_istore_n (L1 := [(2, vI y8), (0, vO 5)]) dX3_cut_33 rfl (by decide) rfl ?_
      refine v_aload_n dX3_cut_34 1 rfl rfl ?_
      refine v_iconst dX3_cut_35 ?_
      obtain ⟨r14, s11, e12, h⟩ := bd_some h
      have k13 := c_X3_here e12 (rgl rfl)
      have r15 : rg r14 := k13.1.2.2
      refine v_callV (st := []) cf3 oc5 k13 (lw_V q1067 q1069 qs4 q300 q1070) rfl yk_X3_here ⟨Nat.le_of_ble_eq_true rfl, Nat.le_of_ble_eq_true rfl⟩ trivial ⟨kc5, trivial⟩ (Nat.le_of_ble_eq_true rfl) rfl dX3_cut_36 ?_
      refine v_istore_n (L1 := [(3, vI r14), (2, vI y8), (0, vO 5)]) dX3_cut_39 rfl (by decide) rfl ?_
      refine v_iconst dX3_cut_40 ?_
      refine v_istore (L1 := [(4, vI 1), (3, vI r14), (2, vI y8), (0, vO 5)]) dX3_cut_41 (by decide) rfl ?_
      refine v_iload_n dX3_cut_43 1 rfl rfl ?_
      obtain ⟨r19, s16, e17, h⟩ := bd_some h
      have k18 := c_X3_isWhite e17 r15
      have r20 : rg r19 := k18.1.2.2
      refine v_callS (st := []) k18 (lw_S q1075 q1076 q300 q1077) yk_X3_isWhite ⟨Nat.le_of_ble_eq_true rfl, Nat.le_of_ble_eq_true rfl⟩ trivial ⟨kc5, trivial⟩ (Nat.le_of_ble_eq_true rfl) rfl dX3_cut_44 ?_
      refine v_if_eq (tgt := 63) dX3_cut_47 r20 (by decide) (fun c21 => ?_) (fun c21 => ?_)
      · rw [if_pos c21] at h
        refine v_iload_n dX3_cut_63 1 rfl rfl ?_
        refine v_bipush dX3_cut_64 rfl ?_
        refine v_icmp_ne (tgt := 86) dX3_cut_66 r15 (rgl rfl) (by decide) (fun c22 => ?_) (fun c22 => ?_)
        · rw [if_neg c22] at h
          refine v_sub [3, 2, 1, 0] (L1 := [(0, vO 5), (2, vI y8), (3, vI r14), (4, vI 1)]) rfl ?_
          exact wj_X3_cut_86 h hp1 r10 r15 (rgl rfl) ih hE
        · rw [if_pos c22] at h
          refine v_aload_n dX3_cut_69 3 rfl rfl ?_
          refine v_iconst dX3_cut_70 ?_
          obtain ⟨r26, s23, e24, h⟩ := bd_some h
          have k25 := c_X3_here e24 (rgl rfl)
          have r27 : rg r26 := k25.1.2.2
          refine v_callV (st := []) cf3 oc5 k25 (lw_V q1067 q1069 qs4 q300 q1070) rfl yk_X3_here ⟨Nat.le_of_ble_eq_true rfl, Nat.le_of_ble_eq_true rfl⟩ trivial ⟨kc5, trivial⟩ (Nat.le_of_ble_eq_true rfl) rfl dX3_cut_71 ?_
          refine v_bipush dX3_cut_74 rfl ?_
          refine v_icmp_ne (tgt := 86) dX3_cut_76 r27 (rgl rfl) (by decide) (fun c28 => ?_) (fun c28 => ?_)
          · rw [if_neg c28] at h
            refine v_sub [3, 2, 1, 0] (L1 := [(0, vO 5), (2, vI y8), (3, vI r14), (4, vI 1)]) rfl ?_
            exact wj_X3_cut_86 h hp1 r10 r15 (rgl rfl) ih hE
          · rw [if_pos c28] at h
            refine v_aload_n dX3_cut_79 3 rfl rfl ?_
            obtain ⟨s29, e30, h⟩ := bdv_some h
            have k31 := c_X3_skipLine e30
            refine v_callV (st := []) cf3 oc5 k31 (lw_V q1078 q1080 qs5 q300 q1081) rfl yk_X3_skipLine ⟨Nat.le_of_ble_eq_true rfl, Nat.le_of_ble_eq_true rfl⟩ trivial ⟨kc5, trivial⟩ (Nat.le_of_ble_eq_true rfl) rfl dX3_cut_80 ?_
            refine v_goto (tgt := 177) dX3_cut_83 (by decide) ?_
            refine v_sub [3, 2, 0] (L1 := [(0, vO 5), (2, vI y8), (4, vI 1)]) rfl ?_
            exact wj_X3_cut_177 h hp1 r10 (rgl rfl) ih hE
      · rw [if_neg c21] at h
        refine v_aload_n dX3_cut_50 3 rfl rfl ?_
        refine v_dupO dX3_cut_51 ?_
        refine v_getI (f := 3) cf3 oc5 rfl (by decide) q437 dX3_cut_52 ?_
        refine v_iconst dX3_cut_55 ?_
        refine v_iadd dX3_cut_56 ?_
        obtain ⟨s32, e33, h⟩ := stp_some h
        refine v_putI (f := 3) cf3 oc5 rfl (by decide) q437 dX3_cut_57 rfl rfl ?_
        rw [← e33]
        refine v_goto (tgt := 177) dX3_cut_60 (by decide) ?_
        refine v_sub [3, 2, 0] (L1 := [(0, vO 5), (2, vI y8), (4, vI 1)]) rfl ?_
        exact wj_X3_cut_177 h hp1 r10 (rgl rfl) ih hE

def f_X3_cut (p1 : Nat) (s : vS) : Option (Int × vS) :=
  stp (sR s 5 2 p1) fun s1 =>
  stp (sI s1 5 3 0) fun s3 =>
  stp (sI s3 5 7 0) fun s5 =>
  lqs_0 (l_X3_cut_15 p1 FU s5) (fun s7 =>
    some ((-1), s7))
    (fun q => some q)
theorem yk_X3_cut : yOk yX3_cut 1 := ⟨by decide, by decide, by decide +kernel⟩
theorem c_X3_cut {p1 : Nat} {s : vS} {out : Int × vS} (h : f_X3_cut p1 s = some out) (hp1 : okB p1 1)  : VC yX3_cut cX3_cut 5 (some .int) 7 156 [vO 5, vO p1] s (some (vI out.1)) out.2 [] := by
  unfold f_X3_cut at h
  refine VC.of RX3 (by decide) rfl (Nat.le_of_ble_eq_true rfl) ?_
  show VW cX3_cut (RX3, (some (vI out.1)), out.2, (some .int), 7, 156, 5, []) (P0 []) s 0 [(0, vO 5), (1, vO p1)] []
  refine v_aload_n dX3_cut_0 0 rfl rfl ?_
  refine v_aload_n dX3_cut_1 1 rfl rfl ?_
  obtain ⟨s1, e2, h⟩ := stp_some h
  refine v_putR (f := 2) cf3 oc5 rfl (okB_R hp1 (by decide) (by decide)) (by decide) q436 dX3_cut_2 rfl rfl ?_
  rw [← e2]
  refine v_aload_n dX3_cut_5 0 rfl rfl ?_
  refine v_iconst dX3_cut_6 ?_
  obtain ⟨s3, e4, h⟩ := stp_some h
  refine v_putI (f := 3) cf3 oc5 rfl (by decide) q437 dX3_cut_7 rfl rfl ?_
  rw [← e4]
  refine v_aload_n dX3_cut_10 0 rfl rfl ?_
  refine v_iconst dX3_cut_11 ?_
  obtain ⟨s5, e6, h⟩ := stp_some h
  refine v_putI (f := 7) cf3 oc5 rfl (by decide) q441 dX3_cut_12 rfl rfl ?_
  rw [← e6]
  refine v_sub [0] (L1 := [(0, vO 5)]) rfl ?_
  rcases lqs_0_some h with ⟨s7, e8, h⟩ | ⟨q9, e8, h⟩
  · refine wl_X3_cut_15 p1 hp1 FU  s5 _ e8  ?_
    unfold E_X3_cut_15
    refine ⟨?_, fun v9 s9 z_ => (by cases z_)⟩
    intro s7' z_
    cases z_
    refine v_iconst dX3_cut_187 ?_
    cases h
    exact v_iret (rgl rfl) dX3_cut_188
  · cases h
    refine wl_X3_cut_15 p1 hp1 FU  s5 _ e8  ?_
    unfold E_X3_cut_15
    refine ⟨fun _ z_ => (by cases z_), ?_⟩
    intro v9 s9 z_
    cases z_
    exact ⟨rfl, rfl⟩

def f_X4_clear (s : vS) : Option (vS) :=
  stp (sI s 10 1 0) fun s1 =>
  stp (sI s1 10 2 (-1)) fun s3 =>
  stp (sI s3 10 3 0) fun s5 =>
  stp (sI s5 10 4 0) fun s7 =>
  stp (sI s7 10 5 0) fun s9 =>
  some s9
theorem yk_X4_clear : yOk yX4_clear 0 := ⟨by decide, by decide, by decide +kernel⟩
theorem c_X4_clear {s : vS} {out : vS} (h : f_X4_clear s = some out)   : VC yX4_clear cX4_clear 1 none 0 0 [vO 10] s none out [] := by
  unfold f_X4_clear at h
  refine VC.of RX4 (by decide) rfl (Nat.le_of_ble_eq_true rfl) ?_
  show VW cX4_clear (RX4, none, out, none, 0, 0, 1, []) (P0 []) s 0 [(0, vO 10)] []
  refine v_aload_n dX4_clear_0 0 rfl rfl ?_
  refine v_iconst dX4_clear_1 ?_
  obtain ⟨s1, e2, h⟩ := stp_some h
  refine v_putI (f := 1) cf4 oc10 rfl (by decide) q467 dX4_clear_2 rfl rfl ?_
  rw [← e2]
  refine v_aload_n dX4_clear_5 0 rfl rfl ?_
  refine v_iconst dX4_clear_6 ?_
  obtain ⟨s3, e4, h⟩ := stp_some h
  refine v_putI (f := 2) cf4 oc10 rfl (by decide) q468 dX4_clear_7 rfl rfl ?_
  rw [← e4]
  refine v_aload_n dX4_clear_10 0 rfl rfl ?_
  refine v_iconst dX4_clear_11 ?_
  obtain ⟨s5, e6, h⟩ := stp_some h
  refine v_putI (f := 3) cf4 oc10 rfl (by decide) q472 dX4_clear_12 rfl rfl ?_
  rw [← e6]
  refine v_aload_n dX4_clear_15 0 rfl rfl ?_
  refine v_iconst dX4_clear_16 ?_
  obtain ⟨s7, e8, h⟩ := stp_some h
  refine v_putI (f := 4) cf4 oc10 rfl (by decide) q475 dX4_clear_17 rfl rfl ?_
  rw [← e8]
  refine v_aload_n dX4_clear_20 0 rfl rfl ?_
  refine v_iconst dX4_clear_21 ?_
  obtain ⟨s9, e10, h⟩ := stp_some h
  refine v_putZ (f := 5) cf4 oc10 rfl (by decide) q478 dX4_clear_22 rfl rfl (Or.inl rfl) ?_
  rw [← e10]
  cases h
  exact v_vret dX4_clear_25

def f_X3_kind (x1 : Int) (s : vS) : Option (Int × vS) :=
  if (gI s 5 7) ≤ x1 then
    some ((-1), s)
  else
    gd (inb x1 (gN s 7)) <|
    some (gE s 7 x1, s)
theorem yk_X3_kind : yOk yX3_kind 1 := ⟨by decide, by decide, by decide +kernel⟩
theorem c_X3_kind {x1 : Int} {s : vS} {out : Int × vS} (h : f_X3_kind x1 s = some out)  (rx1 : rg x1) : VC yX3_kind cX3_kind 2 (some .int) 0 0 [vO 5, vI x1] s (some (vI out.1)) out.2 [] := by
  unfold f_X3_kind at h
  refine VC.of RX3 (by decide) rfl (Nat.le_of_ble_eq_true rfl) ?_
  show VW cX3_kind (RX3, (some (vI out.1)), out.2, (some .int), 0, 0, 2, []) (P0 []) s 0 [(0, vO 5), (1, vI x1)] []
  refine v_iload_n dX3_kind_0 1 rfl rfl ?_
  refine v_aload_n dX3_kind_1 0 rfl rfl ?_
  refine v_getI (f := 7) cf3 oc5 rfl (by decide) q441 dX3_kind_2 ?_
  refine v_icmp_ge (tgt := 17) dX3_kind_5 rx1 (gI_rg _ _ _) (by decide) (fun c1 => ?_) (fun c1 => ?_)
  · rw [if_pos c1] at h
    refine v_iconst dX3_kind_17 ?_
    cases h
    exact v_iret (rgl rfl) dX3_kind_18
  · rw [if_neg c1] at h
    refine v_aload_n dX3_kind_8 0 rfl rfl ?_
    refine v_getS (f := 4) (t := 7) cf3 oc5 rfl rfl rfl (by decide) q438 dX3_kind_9 ?_
    refine v_iload_n dX3_kind_12 1 rfl rfl ?_
    obtain ⟨g2, h⟩ := gd_some h
    refine v_iald oc7 rx1 g2.1 g2.2 dX3_kind_13 ?_
    refine v_goto (tgt := 18) dX3_kind_14 (by decide) ?_
    cases h
    exact v_iret (gE_rg _ _ _) dX3_kind_18

def f_X5_is (x1 : Int) (s : vS) : Option (Int × vS) :=
  gd (gR s 12 0 = 5) <|
  bd (f_X3_kind (gI s 12 2) s) fun r5 s2 =>
  if r5 = x1 then
    some (1, s2)
  else
    some (0, s2)
theorem yk_X5_is : yOk yX5_is 1 := ⟨by decide, by decide, by decide +kernel⟩
theorem c_X5_is {x1 : Int} {s : vS} {out : Int × vS} (h : f_X5_is x1 s = some out)  (rx1 : rg x1) : VC yX5_is cX5_is 2 (some .boolean) 1 21 [vO 12, vI x1] s (some (vI out.1)) out.2 [] := by
  unfold f_X5_is at h
  refine VC.of RX5 (by decide) rfl (Nat.le_of_ble_eq_true rfl) ?_
  show VW cX5_is (RX5, (some (vI out.1)), out.2, (some .boolean), 1, 21, 2, []) (P0 []) s 0 [(0, vO 12), (1, vI x1)] []
  refine v_aload_n dX5_is_0 0 rfl rfl ?_
  obtain ⟨g1, h⟩ := gd_some h
  refine v_getR (f := 0) cf5 oc12 rfl (by rw [g1]; decide) (by decide) q500 dX5_is_1 ?_
  rw [g1]
  refine v_aload_n dX5_is_4 0 rfl rfl ?_
  refine v_getI (f := 2) cf5 oc12 rfl (by decide) q502 dX5_is_5 ?_
  obtain ⟨r5, s2, e3, h⟩ := bd_some h
  have k4 := c_X3_kind e3 (gI_rg _ _ _)
  have r6 : rg r5 := k4.1.2.2
  refine v_callV (st := []) cf3 oc5 k4 (lw_V q1268 q1269 q1270 q300 q1271) rfl yk_X3_kind ⟨Nat.le_of_ble_eq_true rfl, Nat.le_of_ble_eq_true rfl⟩ trivial ⟨kc12, trivial⟩ (Nat.le_of_ble_eq_true rfl) rfl dX5_is_8 ?_
  refine v_iload_n dX5_is_11 1 rfl rfl ?_
  refine v_icmp_ne (tgt := 19) dX5_is_12 r6 rx1 (by decide) (fun c7 => ?_) (fun c7 => ?_)
  · rw [if_neg c7] at h
    refine v_iconst dX5_is_19 ?_
    cases h
    exact v_zret (Or.inl rfl) dX5_is_20
  · rw [if_pos c7] at h
    refine v_iconst dX5_is_15 ?_
    refine v_goto (tgt := 20) dX5_is_16 (by decide) ?_
    cases h
    exact v_zret (Or.inr rfl) dX5_is_20

def f_X5_kind (s : vS) : Option (Int × vS) :=
  gd (gR s 12 0 = 5) <|
  bd (f_X3_kind (gI s 12 2) s) fun r5 s2 =>
  some (r5, s2)
theorem yk_X5_kind : yOk yX5_kind 0 := ⟨by decide, by decide, by decide +kernel⟩
theorem c_X5_kind {s : vS} {out : Int × vS} (h : f_X5_kind s = some out)   : VC yX5_kind cX5_kind 1 (some .int) 1 21 [vO 12] s (some (vI out.1)) out.2 [] := by
  unfold f_X5_kind at h
  refine VC.of RX5 (by decide) rfl (Nat.le_of_ble_eq_true rfl) ?_
  show VW cX5_kind (RX5, (some (vI out.1)), out.2, (some .int), 1, 21, 1, []) (P0 []) s 0 [(0, vO 12)] []
  refine v_aload_n dX5_kind_0 0 rfl rfl ?_
  obtain ⟨g1, h⟩ := gd_some h
  refine v_getR (f := 0) cf5 oc12 rfl (by rw [g1]; decide) (by decide) q500 dX5_kind_1 ?_
  rw [g1]
  refine v_aload_n dX5_kind_4 0 rfl rfl ?_
  refine v_getI (f := 2) cf5 oc12 rfl (by decide) q502 dX5_kind_5 ?_
  obtain ⟨r5, s2, e3, h⟩ := bd_some h
  have k4 := c_X3_kind e3 (gI_rg _ _ _)
  have r6 : rg r5 := k4.1.2.2
  refine v_callV (st := []) cf3 oc5 k4 (lw_V q1268 q1269 q1270 q300 q1271) rfl yk_X3_kind ⟨Nat.le_of_ble_eq_true rfl, Nat.le_of_ble_eq_true rfl⟩ trivial ⟨kc12, trivial⟩ (Nat.le_of_ble_eq_true rfl) rfl dX5_kind_8 ?_
  cases h
  exact v_iret r6 dX5_kind_11

def f_X5_isUnsupported (x0 : Int) (s : vS) : Option (Int × vS) :=
  if x0 = 11 then
    some (1, s)
  else
  if x0 = 13 then
    some (1, s)
  else
  if x0 = 14 then
    some (1, s)
  else
  if x0 = 26 then
    some (1, s)
  else
  if x0 = 101 then
    some (1, s)
  else
  if x0 = 102 then
    some (1, s)
  else
  if x0 = 104 then
    some (1, s)
  else
  if x0 = 107 then
    some (1, s)
  else
  if x0 = 110 then
    some (1, s)
  else
  if x0 = 112 then
    some (1, s)
  else
  if x0 = 114 then
    some (1, s)
  else
  if x0 = 119 then
    some (1, s)
  else
  if x0 = 122 then
    some (1, s)
  else
  if x0 = 124 then
    some (1, s)
  else
  if x0 = 126 then
    some (1, s)
  else
  if x0 = 128 then
    some (1, s)
  else
  if x0 = 129 then
    some (1, s)
  else
  if x0 = 131 then
    some (1, s)
  else
  if x0 = 136 then
    some (1, s)
  else
  if x0 = 137 then
    some (1, s)
  else
  if x0 = 138 then
    some (1, s)
  else
  if x0 = 140 then
    some (1, s)
  else
  if x0 = 141 then
    some (1, s)
  else
  if x0 = 146 then
    some (1, s)
  else
  if x0 = 151 then
    some (1, s)
  else
  if x0 = 157 then
    some (1, s)
  else
  if x0 = 158 then
    some (1, s)
  else
  if x0 = 164 then
    some (1, s)
  else
  if x0 = 167 then
    some (1, s)
  else
  if x0 = 168 then
    some (1, s)
  else
  if x0 = 173 then
    some (1, s)
  else
  if x0 = 174 then
    some (1, s)
  else
  if x0 = 175 then
    some (1, s)
  else
  if x0 = 176 then
    some (1, s)
  else
    some (0, s)
theorem yk_X5_isUnsupported : yOk yX5_isUnsupported 1 := ⟨by decide, by decide, by decide +kernel⟩
theorem c_X5_isUnsupported {x0 : Int} {s : vS} {out : Int × vS} (h : f_X5_isUnsupported x0 s = some out)  (rx0 : rg x0) : VC yX5_isUnsupported cX5_isUnsupported 1 (some .boolean) 0 0 [vI x0] s (some (vI out.1)) out.2 [] := by
  unfold f_X5_isUnsupported at h
  refine VC.of RX5 (by decide) rfl (Nat.le_of_ble_eq_true rfl) ?_
  show VW cX5_isUnsupported (RX5, (some (vI out.1)), out.2, (some .boolean), 0, 0, 1, []) (P0 []) s 0 [(0, vI x0)] []
  refine v_iload_n dX5_isUnsupported_0 0 rfl rfl ?_
  by_cases c1 : x0 = 11
  · rw [if_pos c1] at h
    refine v_lsw (tgt := 284) dX5_isUnsupported_1 rx0 (by decide) (by rw [c1]; try rfl) (by decide) ?_
    refine v_iconst dX5_isUnsupported_284 ?_
    cases h
    exact v_zret (Or.inr rfl) dX5_isUnsupported_285
  rw [if_neg c1] at h
  by_cases c2 : x0 = 13
  · rw [if_pos c2] at h
    refine v_lsw (tgt := 284) dX5_isUnsupported_1 rx0 (by decide) (by rw [c2]; try rfl) (by decide) ?_
    refine v_iconst dX5_isUnsupported_284 ?_
    cases h
    exact v_zret (Or.inr rfl) dX5_isUnsupported_285
  rw [if_neg c2] at h
  by_cases c3 : x0 = 14
  · rw [if_pos c3] at h
    refine v_lsw (tgt := 284) dX5_isUnsupported_1 rx0 (by decide) (by rw [c3]; try rfl) (by decide) ?_
    refine v_iconst dX5_isUnsupported_284 ?_
    cases h
    exact v_zret (Or.inr rfl) dX5_isUnsupported_285
  rw [if_neg c3] at h
  by_cases c4 : x0 = 26
  · rw [if_pos c4] at h
    refine v_lsw (tgt := 284) dX5_isUnsupported_1 rx0 (by decide) (by rw [c4]; try rfl) (by decide) ?_
    refine v_iconst dX5_isUnsupported_284 ?_
    cases h
    exact v_zret (Or.inr rfl) dX5_isUnsupported_285
  rw [if_neg c4] at h
  by_cases c5 : x0 = 101
  · rw [if_pos c5] at h
    refine v_lsw (tgt := 284) dX5_isUnsupported_1 rx0 (by decide) (by rw [c5]; try rfl) (by decide) ?_
    refine v_iconst dX5_isUnsupported_284 ?_
    cases h
    exact v_zret (Or.inr rfl) dX5_isUnsupported_285
  rw [if_neg c5] at h
  by_cases c6 : x0 = 102
  · rw [if_pos c6] at h
    refine v_lsw (tgt := 284) dX5_isUnsupported_1 rx0 (by decide) (by rw [c6]; try rfl) (by decide) ?_
    refine v_iconst dX5_isUnsupported_284 ?_
    cases h
    exact v_zret (Or.inr rfl) dX5_isUnsupported_285
  rw [if_neg c6] at h
  by_cases c7 : x0 = 104
  · rw [if_pos c7] at h
    refine v_lsw (tgt := 284) dX5_isUnsupported_1 rx0 (by decide) (by rw [c7]; try rfl) (by decide) ?_
    refine v_iconst dX5_isUnsupported_284 ?_
    cases h
    exact v_zret (Or.inr rfl) dX5_isUnsupported_285
  rw [if_neg c7] at h
  by_cases c8 : x0 = 107
  · rw [if_pos c8] at h
    refine v_lsw (tgt := 284) dX5_isUnsupported_1 rx0 (by decide) (by rw [c8]; try rfl) (by decide) ?_
    refine v_iconst dX5_isUnsupported_284 ?_
    cases h
    exact v_zret (Or.inr rfl) dX5_isUnsupported_285
  rw [if_neg c8] at h
  by_cases c9 : x0 = 110
  · rw [if_pos c9] at h
    refine v_lsw (tgt := 284) dX5_isUnsupported_1 rx0 (by decide) (by rw [c9]; try rfl) (by decide) ?_
    refine v_iconst dX5_isUnsupported_284 ?_
    cases h
    exact v_zret (Or.inr rfl) dX5_isUnsupported_285
  rw [if_neg c9] at h
  by_cases c10 : x0 = 112
  · rw [if_pos c10] at h
    refine v_lsw (tgt := 284) dX5_isUnsupported_1 rx0 (by decide) (by rw [c10]; try rfl) (by decide) ?_
    refine v_iconst dX5_isUnsupported_284 ?_
    cases h
    exact v_zret (Or.inr rfl) dX5_isUnsupported_285
  rw [if_neg c10] at h
  by_cases c11 : x0 = 114
  · rw [if_pos c11] at h
    refine v_lsw (tgt := 284) dX5_isUnsupported_1 rx0 (by decide) (by rw [c11]; try rfl) (by decide) ?_
    refine v_iconst dX5_isUnsupported_284 ?_
    cases h
    exact v_zret (Or.inr rfl) dX5_isUnsupported_285
  rw [if_neg c11] at h
  by_cases c12 : x0 = 119
  · rw [if_pos c12] at h
    refine v_lsw (tgt := 284) dX5_isUnsupported_1 rx0 (by decide) (by rw [c12]; try rfl) (by decide) ?_
    refine v_iconst dX5_isUnsupported_284 ?_
    cases h
    exact v_zret (Or.inr rfl) dX5_isUnsupported_285
  rw [if_neg c12] at h
  by_cases c13 : x0 = 122
  · rw [if_pos c13] at h
    refine v_lsw (tgt := 284) dX5_isUnsupported_1 rx0 (by decide) (by rw [c13]; try rfl) (by decide) ?_
    refine v_iconst dX5_isUnsupported_284 ?_
    cases h
    exact v_zret (Or.inr rfl) dX5_isUnsupported_285
  rw [if_neg c13] at h
  by_cases c14 : x0 = 124
  · rw [if_pos c14] at h
    refine v_lsw (tgt := 284) dX5_isUnsupported_1 rx0 (by decide) (by rw [c14]; try rfl) (by decide) ?_
    refine v_iconst dX5_isUnsupported_284 ?_
    cases h
    exact v_zret (Or.inr rfl) dX5_isUnsupported_285
  rw [if_neg c14] at h
  by_cases c15 : x0 = 126
  · rw [if_pos c15] at h
    refine v_lsw (tgt := 284) dX5_isUnsupported_1 rx0 (by decide) (by rw [c15]; try rfl) (by decide) ?_
    refine v_iconst dX5_isUnsupported_284 ?_
    cases h
    exact v_zret (Or.inr rfl) dX5_isUnsupported_285
  rw [if_neg c15] at h
  by_cases c16 : x0 = 128
  · rw [if_pos c16] at h
    refine v_lsw (tgt := 284) dX5_isUnsupported_1 rx0 (by decide) (by rw [c16]; try rfl) (by decide) ?_
    refine v_iconst dX5_isUnsupported_284 ?_
    cases h
    exact v_zret (Or.inr rfl) dX5_isUnsupported_285
  rw [if_neg c16] at h
  by_cases c17 : x0 = 129
  · rw [if_pos c17] at h
    refine v_lsw (tgt := 284) dX5_isUnsupported_1 rx0 (by decide) (by rw [c17]; try rfl) (by decide) ?_
    refine v_iconst dX5_isUnsupported_284 ?_
    cases h
    exact v_zret (Or.inr rfl) dX5_isUnsupported_285
  rw [if_neg c17] at h
  by_cases c18 : x0 = 131
  · rw [if_pos c18] at h
    refine v_lsw (tgt := 284) dX5_isUnsupported_1 rx0 (by decide) (by rw [c18]; try rfl) (by decide) ?_
    refine v_iconst dX5_isUnsupported_284 ?_
    cases h
    exact v_zret (Or.inr rfl) dX5_isUnsupported_285
  rw [if_neg c18] at h
  by_cases c19 : x0 = 136
  · rw [if_pos c19] at h
    refine v_lsw (tgt := 284) dX5_isUnsupported_1 rx0 (by decide) (by rw [c19]; try rfl) (by decide) ?_
    refine v_iconst dX5_isUnsupported_284 ?_
    cases h
    exact v_zret (Or.inr rfl) dX5_isUnsupported_285
  rw [if_neg c19] at h
  by_cases c20 : x0 = 137
  · rw [if_pos c20] at h
    refine v_lsw (tgt := 284) dX5_isUnsupported_1 rx0 (by decide) (by rw [c20]; try rfl) (by decide) ?_
    refine v_iconst dX5_isUnsupported_284 ?_
    cases h
    exact v_zret (Or.inr rfl) dX5_isUnsupported_285
  rw [if_neg c20] at h
  by_cases c21 : x0 = 138
  · rw [if_pos c21] at h
    refine v_lsw (tgt := 284) dX5_isUnsupported_1 rx0 (by decide) (by rw [c21]; try rfl) (by decide) ?_
    refine v_iconst dX5_isUnsupported_284 ?_
    cases h
    exact v_zret (Or.inr rfl) dX5_isUnsupported_285
  rw [if_neg c21] at h
  by_cases c22 : x0 = 140
  · rw [if_pos c22] at h
    refine v_lsw (tgt := 284) dX5_isUnsupported_1 rx0 (by decide) (by rw [c22]; try rfl) (by decide) ?_
    refine v_iconst dX5_isUnsupported_284 ?_
    cases h
    exact v_zret (Or.inr rfl) dX5_isUnsupported_285
  rw [if_neg c22] at h
  by_cases c23 : x0 = 141
  · rw [if_pos c23] at h
    refine v_lsw (tgt := 284) dX5_isUnsupported_1 rx0 (by decide) (by rw [c23]; try rfl) (by decide) ?_
    refine v_iconst dX5_isUnsupported_284 ?_
    cases h
    exact v_zret (Or.inr rfl) dX5_isUnsupported_285
  rw [if_neg c23] at h
  by_cases c24 : x0 = 146
  · rw [if_pos c24] at h
    refine v_lsw (tgt := 284) dX5_isUnsupported_1 rx0 (by decide) (by rw [c24]; try rfl) (by decide) ?_
    refine v_iconst dX5_isUnsupported_284 ?_
    cases h
    exact v_zret (Or.inr rfl) dX5_isUnsupported_285
  rw [if_neg c24] at h
  by_cases c25 : x0 = 151
  · rw [if_pos c25] at h
    refine v_lsw (tgt := 284) dX5_isUnsupported_1 rx0 (by decide) (by rw [c25]; try rfl) (by decide) ?_
    refine v_iconst dX5_isUnsupported_284 ?_
    cases h
    exact v_zret (Or.inr rfl) dX5_isUnsupported_285
  rw [if_neg c25] at h
  by_cases c26 : x0 = 157
  · rw [if_pos c26] at h
    refine v_lsw (tgt := 284) dX5_isUnsupported_1 rx0 (by decide) (by rw [c26]; try rfl) (by decide) ?_
    refine v_iconst dX5_isUnsupported_284 ?_
    cases h
    exact v_zret (Or.inr rfl) dX5_isUnsupported_285
  rw [if_neg c26] at h
  by_cases c27 : x0 = 158
  · rw [if_pos c27] at h
    refine v_lsw (tgt := 284) dX5_isUnsupported_1 rx0 (by decide) (by rw [c27]; try rfl) (by decide) ?_
    refine v_iconst dX5_isUnsupported_284 ?_
    cases h
    exact v_zret (Or.inr rfl) dX5_isUnsupported_285
  rw [if_neg c27] at h
  by_cases c28 : x0 = 164
  · rw [if_pos c28] at h
    refine v_lsw (tgt := 284) dX5_isUnsupported_1 rx0 (by decide) (by rw [c28]; try rfl) (by decide) ?_
    refine v_iconst dX5_isUnsupported_284 ?_
    cases h
    exact v_zret (Or.inr rfl) dX5_isUnsupported_285
  rw [if_neg c28] at h
  by_cases c29 : x0 = 167
  · rw [if_pos c29] at h
    refine v_lsw (tgt := 284) dX5_isUnsupported_1 rx0 (by decide) (by rw [c29]; try rfl) (by decide) ?_
    refine v_iconst dX5_isUnsupported_284 ?_
    cases h
    exact v_zret (Or.inr rfl) dX5_isUnsupported_285
  rw [if_neg c29] at h
  by_cases c30 : x0 = 168
  · rw [if_pos c30] at h
    refine v_lsw (tgt := 284) dX5_isUnsupported_1 rx0 (by decide) (by rw [c30]; try rfl) (by decide) ?_
    refine v_iconst dX5_isUnsupported_284 ?_
    cases h
    exact v_zret (Or.inr rfl) dX5_isUnsupported_285
  rw [if_neg c30] at h
  by_cases c31 : x0 = 173
  · rw [if_pos c31] at h
    refine v_lsw (tgt := 284) dX5_isUnsupported_1 rx0 (by decide) (by rw [c31]; try rfl) (by decide) ?_
    refine v_iconst dX5_isUnsupported_284 ?_
    cases h
    exact v_zret (Or.inr rfl) dX5_isUnsupported_285
  rw [if_neg c31] at h
  by_cases c32 : x0 = 174
  · rw [if_pos c32] at h
    refine v_lsw (tgt := 284) dX5_isUnsupported_1 rx0 (by decide) (by rw [c32]; try rfl) (by decide) ?_
    refine v_iconst dX5_isUnsupported_284 ?_
    cases h
    exact v_zret (Or.inr rfl) dX5_isUnsupported_285
  rw [if_neg c32] at h
  by_cases c33 : x0 = 175
  · rw [if_pos c33] at h
    refine v_lsw (tgt := 284) dX5_isUnsupported_1 rx0 (by decide) (by rw [c33]; try rfl) (by decide) ?_
    refine v_iconst dX5_isUnsupported_284 ?_
    cases h
    exact v_zret (Or.inr rfl) dX5_isUnsupported_285
  rw [if_neg c33] at h
  by_cases c34 : x0 = 176
  · rw [if_pos c34] at h
    refine v_lsw (tgt := 284) dX5_isUnsupported_1 rx0 (by decide) (by rw [c34]; try rfl) (by decide) ?_
    refine v_iconst dX5_isUnsupported_284 ?_
    cases h
    exact v_zret (Or.inr rfl) dX5_isUnsupported_285
  rw [if_neg c34] at h
  refine v_lsw (tgt := 286) dX5_isUnsupported_1 rx0 (by decide) (by simp only [Op.lookupswitch.offset_cons, Op.lookupswitch.offset_nil]; rw [if_neg (fun q => c1 q.symm), if_neg (fun q => c2 q.symm), if_neg (fun q => c3 q.symm), if_neg (fun q => c4 q.symm), if_neg (fun q => c5 q.symm), if_neg (fun q => c6 q.symm), if_neg (fun q => c7 q.symm), if_neg (fun q => c8 q.symm), if_neg (fun q => c9 q.symm), if_neg (fun q => c10 q.symm), if_neg (fun q => c11 q.symm), if_neg (fun q => c12 q.symm), if_neg (fun q => c13 q.symm), if_neg (fun q => c14 q.symm), if_neg (fun q => c15 q.symm), if_neg (fun q => c16 q.symm), if_neg (fun q => c17 q.symm), if_neg (fun q => c18 q.symm), if_neg (fun q => c19 q.symm), if_neg (fun q => c20 q.symm), if_neg (fun q => c21 q.symm), if_neg (fun q => c22 q.symm), if_neg (fun q => c23 q.symm), if_neg (fun q => c24 q.symm), if_neg (fun q => c25 q.symm), if_neg (fun q => c26 q.symm), if_neg (fun q => c27 q.symm), if_neg (fun q => c28 q.symm), if_neg (fun q => c29 q.symm), if_neg (fun q => c30 q.symm), if_neg (fun q => c31 q.symm), if_neg (fun q => c32 q.symm), if_neg (fun q => c33 q.symm), if_neg (fun q => c34 q.symm)]) (by decide) ?_
  refine v_iconst dX5_isUnsupported_286 ?_
  cases h
  exact v_zret (Or.inl rfl) dX5_isUnsupported_287

def f_X3_start (x1 : Int) (s : vS) : Option (Int × vS) :=
  if (gI s 5 7) ≤ x1 then
    gd (okB (gR s 5 2) 1) <|
    bd (f_X2_size (gR s 5 2) s) fun r6 s3 =>
    some (r6, s3)
  else
    gd (inb x1 (gN s 8)) <|
    some (gE s 8 x1, s)
theorem yk_X3_start : yOk yX3_start 1 := ⟨by decide, by decide, by decide +kernel⟩
theorem c_X3_start {x1 : Int} {s : vS} {out : Int × vS} (h : f_X3_start x1 s = some out)  (rx1 : rg x1) : VC yX3_start cX3_start 2 (some .int) 1 20 [vO 5, vI x1] s (some (vI out.1)) out.2 [] := by
  unfold f_X3_start at h
  refine VC.of RX3 (by decide) rfl (Nat.le_of_ble_eq_true rfl) ?_
  show VW cX3_start (RX3, (some (vI out.1)), out.2, (some .int), 1, 20, 2, []) (P0 []) s 0 [(0, vO 5), (1, vI x1)] []
  refine v_iload_n dX3_start_0 1 rfl rfl ?_
  refine v_aload_n dX3_start_1 0 rfl rfl ?_
  refine v_getI (f := 7) cf3 oc5 rfl (by decide) q441 dX3_start_2 ?_
  refine v_icmp_ge (tgt := 17) dX3_start_5 rx1 (gI_rg _ _ _) (by decide) (fun c1 => ?_) (fun c1 => ?_)
  · rw [if_pos c1] at h
    refine v_aload_n dX3_start_17 0 rfl rfl ?_
    obtain ⟨g2, h⟩ := gd_some h
    refine v_getR (f := 2) cf3 oc5 rfl (okB_R g2 (by decide) (by decide)) (by decide) q436 dX3_start_18 ?_
    obtain ⟨r6, s3, e4, h⟩ := bd_some h
    have k5 := c_X2_size e4 g2
    have r7 : rg r6 := k5.1.2.2
    refine v_callV (st := []) cf2 (okB_ok g2) k5 (lw_V q1066 q918 q919 q299 q920) rfl yk_X2_size ⟨Nat.le_of_ble_eq_true rfl, Nat.le_of_ble_eq_true rfl⟩ trivial ⟨kc5, trivial⟩ (Nat.le_of_ble_eq_true rfl) rfl dX3_start_21 ?_
    cases h
    exact v_iret r7 dX3_start_24
  · rw [if_neg c1] at h
    refine v_aload_n dX3_start_8 0 rfl rfl ?_
    refine v_getS (f := 5) (t := 8) cf3 oc5 rfl rfl rfl (by decide) q439 dX3_start_9 ?_
    refine v_iload_n dX3_start_12 1 rfl rfl ?_
    obtain ⟨g8, h⟩ := gd_some h
    refine v_iald oc8 rx1 g8.1 g8.2 dX3_start_13 ?_
    refine v_goto (tgt := 24) dX3_start_14 (by decide) ?_
    cases h
    exact v_iret (gE_rg _ _ _) dX3_start_24

def f_X5_wrong (x1 : Int) (x2 : Int) (s : vS) : Option (Int × vS) :=
  if (gI s 12 3) = 0 then
    stp (sI s 12 3 x1) fun s2 =>
    gd (gR s2 12 0 = 5) <|
    bd (f_X3_start x2 s2) fun r8 s5 =>
    stp (sI s5 12 4 r8) fun s10 =>
    some (0, s10)
  else
    some (0, s)
theorem yk_X5_wrong : yOk yX5_wrong 2 := ⟨by decide, by decide, by decide +kernel⟩
theorem c_X5_wrong {x1 : Int} {x2 : Int} {s : vS} {out : Int × vS} (h : f_X5_wrong x1 x2 s = some out)  (rx1 : rg x1) (rx2 : rg x2) : VC yX5_wrong cX5_wrong 3 (some .boolean) 2 41 [vO 12, vI x1, vI x2] s (some (vI out.1)) out.2 [] := by
  unfold f_X5_wrong at h
  refine VC.of RX5 (by decide) rfl (Nat.le_of_ble_eq_true rfl) ?_
  show VW cX5_wrong (RX5, (some (vI out.1)), out.2, (some .boolean), 2, 41, 3, []) (P0 []) s 0 [(0, vO 12), (1, vI x1), (2, vI x2)] []
  refine v_aload_n dX5_wrong_0 0 rfl rfl ?_
  refine v_getI (f := 3) cf5 oc12 rfl (by decide) q503 dX5_wrong_1 ?_
  refine v_if_ne (tgt := 24) dX5_wrong_4 (gI_rg _ _ _) (by decide) (fun c1 => ?_) (fun c1 => ?_)
  · rw [if_neg c1] at h
    refine v_iconst dX5_wrong_24 ?_
    cases h
    exact v_zret (Or.inl rfl) dX5_wrong_25
  · rw [if_pos c1] at h
    refine v_aload_n dX5_wrong_7 0 rfl rfl ?_
    refine v_iload_n dX5_wrong_8 1 rfl rfl ?_
    obtain ⟨s2, e3, h⟩ := stp_some h
    refine v_putI (f := 3) cf5 oc12 rfl (by decide) q503 dX5_wrong_9 rfl rfl ?_
    rw [← e3]
    refine v_aload_n dX5_wrong_12 0 rfl rfl ?_
    refine v_aload_n dX5_wrong_13 0 rfl rfl ?_
    obtain ⟨g4, h⟩ := gd_some h
    refine v_getR (f := 0) cf5 oc12 rfl (by rw [g4]; decide) (by decide) q500 dX5_wrong_14 ?_
    rw [g4]
    refine v_iload_n dX5_wrong_17 2 rfl rfl ?_
    obtain ⟨r8, s5, e6, h⟩ := bd_some h
    have k7 := c_X3_start e6 rx2
    have r9 : rg r8 := k7.1.2.2
    refine v_callV (st := [vO 12]) cf3 oc5 k7 (lw_V q1287 q1288 q1289 q300 q1290) rfl yk_X3_start ⟨Nat.le_of_ble_eq_true rfl, Nat.le_of_ble_eq_true rfl⟩ ⟨kc12, trivial⟩ ⟨kc12, trivial⟩ (Nat.le_of_ble_eq_true rfl) rfl dX5_wrong_18 ?_
    obtain ⟨s10, e11, h⟩ := stp_some h
    refine v_putI (f := 4) cf5 oc12 rfl (by decide) q504 dX5_wrong_21 rfl rfl ?_
    rw [← e11]
    refine v_iconst dX5_wrong_24 ?_
    cases h
    exact v_zret (Or.inl rfl) dX5_wrong_25

def j_X5_unfit_16 (z1 : Int) (s : vS) : Option (Int × vS) :=
  bd (f_X5_wrong z1 (gI s 12 2) s) fun r4 s1 =>
  gd (r4 = 0 ∨ r4 = 1) <|
  some (r4, s1)
theorem wj_X5_unfit_16 {z1 : Int} {s : vS} {out : Int × vS} (h : j_X5_unfit_16 z1 s = some out)  (rz1 : rg z1) : VW cX5_unfit (RX5, (some (vI out.1)), out.2, (some .boolean), 3, 63, 1, []) (P0 []) s 16 [(0, vO 12)] [vI z1, vO 12] := by
  unfold j_X5_unfit_16 at h
  refine v_aload_n dX5_unfit_16 0 rfl rfl ?_
  refine v_getI (f := 2) cf5 oc12 rfl (by decide) q502 dX5_unfit_17 ?_
  obtain ⟨r4, s1, e2, h⟩ := bd_some h
  have k3 := c_X5_wrong e2 rz1 (gI_rg _ _ _)
  have r5 : rg r4 := k3.1.2.2
  refine v_callV (st := []) cf5 oc12 k3 (lw_V q1283 q1285 qs21 q302 q1286) rfl yk_X5_wrong ⟨Nat.le_of_ble_eq_true rfl, Nat.le_of_ble_eq_true rfl⟩ trivial ⟨kc12, trivial⟩ (Nat.le_of_ble_eq_true rfl) rfl dX5_unfit_20 ?_
  obtain ⟨g6, h⟩ := gd_some h
  cases h
  exact v_zret g6 dX5_unfit_23

def f_X5_unfit (s : vS) : Option (Int × vS) :=
  bd (f_X5_kind s) fun r4 s1 =>
  bd (f_X5_isUnsupported r4 s1) fun r9 s6 =>
  if r9 = 0 then
    j_X5_unfit_16 2 s6
  else
    j_X5_unfit_16 3 s6
theorem yk_X5_unfit : yOk yX5_unfit 0 := ⟨by decide, by decide, by decide +kernel⟩
theorem c_X5_unfit {s : vS} {out : Int × vS} (h : f_X5_unfit s = some out)   : VC yX5_unfit cX5_unfit 1 (some .boolean) 3 63 [vO 12] s (some (vI out.1)) out.2 [] := by
  unfold f_X5_unfit at h
  refine VC.of RX5 (by decide) rfl (Nat.le_of_ble_eq_true rfl) ?_
  show VW cX5_unfit (RX5, (some (vI out.1)), out.2, (some .boolean), 3, 63, 1, []) (P0 []) s 0 [(0, vO 12)] []
  refine v_aload_n dX5_unfit_0 0 rfl rfl ?_
  refine v_aload_n dX5_unfit_1 0 rfl rfl ?_
  obtain ⟨r4, s1, e2, h⟩ := bd_some h
  have k3 := c_X5_kind e2
  have r5 : rg r4 := k3.1.2.2
  refine v_callV (st := [vO 12]) cf5 oc12 k3 (lw_V q1276 q1278 qs20 q302 q1279) rfl yk_X5_kind ⟨Nat.le_of_ble_eq_true rfl, Nat.le_of_ble_eq_true rfl⟩ ⟨kc12, trivial⟩ ⟨kc12, trivial⟩ (Nat.le_of_ble_eq_true rfl) rfl dX5_unfit_2 ?_
  obtain ⟨r9, s6, e7, h⟩ := bd_some h
  have k8 := c_X5_isUnsupported e7 r5
  have r10 : rg r9 := k8.1.2.2
  refine v_callS (st := [vO 12]) k8 (lw_S q1280 q1281 q302 q1282) yk_X5_isUnsupported ⟨Nat.le_of_ble_eq_true rfl, Nat.le_of_ble_eq_true rfl⟩ ⟨kc12, trivial⟩ ⟨kc12, trivial⟩ (Nat.le_of_ble_eq_true rfl) rfl dX5_unfit_5 ?_
  refine v_if_eq (tgt := 15) dX5_unfit_8 r10 (by decide) (fun c11 => ?_) (fun c11 => ?_)
  · rw [if_pos c11] at h
    refine v_iconst dX5_unfit_15 ?_
    exact wj_X5_unfit_16 h (rgl rfl)
  · rw [if_neg c11] at h
    refine v_iconst dX5_unfit_11 ?_
    refine v_goto (tgt := 16) dX5_unfit_12 (by decide) ?_
    exact wj_X5_unfit_16 h (rgl rfl)

def j_X5_take_15 (s : vS) : Option (Int × vS) :=
  bd (f_X5_unfit s) fun r4 s1 =>
  gd (r4 = 0 ∨ r4 = 1) <|
  some (r4, s1)
theorem wj_X5_take_15 {s : vS} {out : Int × vS} (h : j_X5_take_15 s = some out)  : VW cX5_take (RX5, (some (vI out.1)), out.2, (some .boolean), 4, 83, 2, []) (P0 []) s 15 [(0, vO 12)] [] := by
  unfold j_X5_take_15 at h
  refine v_aload_n dX5_take_15 0 rfl rfl ?_
  obtain ⟨r4, s1, e2, h⟩ := bd_some h
  have k3 := c_X5_unfit e2
  have r5 : rg r4 := k3.1.2.2
  refine v_callV (st := []) cf5 oc12 k3 (lw_V q1272 q1274 qs19 q302 q1275) rfl yk_X5_unfit ⟨Nat.le_of_ble_eq_true rfl, Nat.le_of_ble_eq_true rfl⟩ trivial ⟨kc12, trivial⟩ (Nat.le_of_ble_eq_true rfl) rfl dX5_take_16 ?_
  obtain ⟨g6, h⟩ := gd_some h
  cases h
  exact v_zret g6 dX5_take_19

def f_X5_take (x1 : Int) (s : vS) : Option (Int × vS) :=
  if (gI s 12 3) = 0 then
    bd (f_X5_is x1 s) fun r5 s2 =>
    if r5 = 0 then
      j_X5_take_15 s2
    else
      stp (sI s2 12 2 (w32 ((gI s2 12 2) + 1))) fun s8 =>
      some (1, s8)
  else
    j_X5_take_15 s
theorem yk_X5_take : yOk yX5_take 1 := ⟨by decide, by decide, by decide +kernel⟩
theorem c_X5_take {x1 : Int} {s : vS} {out : Int × vS} (h : f_X5_take x1 s = some out)  (rx1 : rg x1) : VC yX5_take cX5_take 2 (some .boolean) 4 83 [vO 12, vI x1] s (some (vI out.1)) out.2 [] := by
  unfold f_X5_take at h
  refine VC.of RX5 (by decide) rfl (Nat.le_of_ble_eq_true rfl) ?_
  show VW cX5_take (RX5, (some (vI out.1)), out.2, (some .boolean), 4, 83, 2, []) (P0 []) s 0 [(0, vO 12), (1, vI x1)] []
  refine v_aload_n dX5_take_0 0 rfl rfl ?_
  refine v_getI (f := 3) cf5 oc12 rfl (by decide) q503 dX5_take_1 ?_
  refine v_if_ne (tgt := 15) dX5_take_4 (gI_rg _ _ _) (by decide) (fun c1 => ?_) (fun c1 => ?_)
  · rw [if_neg c1] at h
    refine v_sub [0] (L1 := [(0, vO 12)]) rfl ?_
    exact wj_X5_take_15 h 
  · rw [if_pos c1] at h
    refine v_aload_n dX5_take_7 0 rfl rfl ?_
    refine v_iload_n dX5_take_8 1 rfl rfl ?_
    obtain ⟨r5, s2, e3, h⟩ := bd_some h
    have k4 := c_X5_is e3 rx1
    have r6 : rg r5 := k4.1.2.2
    refine v_callV (st := []) cf5 oc12 k4 (lw_V q1264 q1266 qs18 q302 q1267) rfl yk_X5_is ⟨Nat.le_of_ble_eq_true rfl, Nat.le_of_ble_eq_true rfl⟩ trivial ⟨kc12, trivial⟩ (Nat.le_of_ble_eq_true rfl) rfl dX5_take_9 ?_
    refine v_if_ne (tgt := 20) dX5_take_12 r6 (by decide) (fun c7 => ?_) (fun c7 => ?_)
    · rw [if_neg c7] at h
      refine v_aload_n dX5_take_20 0 rfl rfl ?_
      refine v_dupO dX5_take_21 ?_
      refine v_getI (f := 2) cf5 oc12 rfl (by decide) q502 dX5_take_22 ?_
      refine v_iconst dX5_take_25 ?_
      refine v_iadd dX5_take_26 ?_
      obtain ⟨s8, e9, h⟩ := stp_some h
      refine v_putI (f := 2) cf5 oc12 rfl (by decide) q502 dX5_take_27 rfl rfl ?_
      rw [← e9]
      refine v_iconst dX5_take_30 ?_
      cases h
      exact v_zret (Or.inr rfl) dX5_take_31
    · rw [if_pos c7] at h
      refine v_sub [0] (L1 := [(0, vO 12)]) rfl ?_
      exact wj_X5_take_15 h 

def j_X5_may_20 (z0 : Int) (s : vS) : Option (Int × vS) :=
  if z0 = 0 then
    gd (z0 = 0 ∨ z0 = 1) <|
    some (z0, s)
  else
    stp (sI s 12 2 (w32 ((gI s 12 2) + 1))) fun s3 =>
    gd (z0 = 0 ∨ z0 = 1) <|
    some (z0, s3)
theorem wj_X5_may_20 {z0 : Int} {s : vS} {out : Int × vS} (h : j_X5_may_20 z0 s = some out)  (rz0 : rg z0) : VW cX5_may (RX5, (some (vI out.1)), out.2, (some .boolean), 2, 42, 3, []) (P0 []) s 20 [(0, vO 12)] [vI z0] := by
  unfold j_X5_may_20 at h
  refine v_istore_n (L1 := [(2, vI z0), (0, vO 12)]) dX5_may_20 rfl (by decide) rfl ?_
  refine v_iload_n dX5_may_21 0 rfl rfl ?_
  refine v_if_eq (tgt := 35) dX5_may_22 rz0 (by decide) (fun c1 => ?_) (fun c1 => ?_)
  · rw [if_pos c1] at h
    refine v_iload_n dX5_may_35 0 rfl rfl ?_
    obtain ⟨g2, h⟩ := gd_some h
    cases h
    exact v_zret g2 dX5_may_36
  · rw [if_neg c1] at h
    refine v_aload_n dX5_may_25 1 rfl rfl ?_
    refine v_dupO dX5_may_26 ?_
    refine v_getI (f := 2) cf5 oc12 rfl (by decide) q502 dX5_may_27 ?_
    refine v_iconst dX5_may_30 ?_
    refine v_iadd dX5_may_31 ?_
    obtain ⟨s3, e4, h⟩ := stp_some h
    refine v_putI (f := 2) cf5 oc12 rfl (by decide) q502 dX5_may_32 rfl rfl ?_
    rw [← e4]
    refine v_iload_n dX5_may_35 0 rfl rfl ?_
    obtain ⟨g5, h⟩ := gd_some h
    cases h
    exact v_zret g5 dX5_may_36

def f_X5_may (x1 : Int) (s : vS) : Option (Int × vS) :=
  if (gI s 12 3) = 0 then
    bd (f_X5_is x1 s) fun r5 s2 =>
    if r5 = 0 then
      j_X5_may_20 0 s2
    else
      j_X5_may_20 1 s2
  else
    j_X5_may_20 0 s
theorem yk_X5_may : yOk yX5_may 1 := ⟨by decide, by decide, by decide +kernel⟩
theorem c_X5_may {x1 : Int} {s : vS} {out : Int × vS} (h : f_X5_may x1 s = some out)  (rx1 : rg x1) : VC yX5_may cX5_may 3 (some .boolean) 2 42 [vO 12, vI x1] s (some (vI out.1)) out.2 [] := by
  unfold f_X5_may at h
  refine VC.of RX5 (by decide) rfl (Nat.le_of_ble_eq_true rfl) ?_
  show VW cX5_may (RX5, (some (vI out.1)), out.2, (some .boolean), 2, 42, 3, []) (P0 []) s 0 [(0, vO 12), (1, vI x1)] []
  refine v_aload_n dX5_may_0 0 rfl rfl ?_
  refine v_getI (f := 3) cf5 oc12 rfl (by decide) q503 dX5_may_1 ?_
  refine v_if_ne (tgt := 19) dX5_may_4 (gI_rg _ _ _) (by decide) (fun c1 => ?_) (fun c1 => ?_)
  · rw [if_neg c1] at h
    refine v_iconst dX5_may_19 ?_
    refine v_sub [0] (L1 := [(0, vO 12)]) rfl ?_
    exact wj_X5_may_20 h (rgl rfl)
  · rw [if_pos c1] at h
    refine v_aload_n dX5_may_7 0 rfl rfl ?_
    refine v_iload_n dX5_may_8 1 rfl rfl ?_
    obtain ⟨r5, s2, e3, h⟩ := bd_some h
    have k4 := c_X5_is e3 rx1
    have r6 : rg r5 := k4.1.2.2
    refine v_callV (st := []) cf5 oc12 k4 (lw_V q1264 q1266 qs18 q302 q1267) rfl yk_X5_is ⟨Nat.le_of_ble_eq_true rfl, Nat.le_of_ble_eq_true rfl⟩ trivial ⟨kc12, trivial⟩ (Nat.le_of_ble_eq_true rfl) rfl dX5_may_9 ?_
    refine v_if_eq (tgt := 19) dX5_may_12 r6 (by decide) (fun c7 => ?_) (fun c7 => ?_)
    · rw [if_pos c7] at h
      refine v_iconst dX5_may_19 ?_
      refine v_sub [0] (L1 := [(0, vO 12)]) rfl ?_
      exact wj_X5_may_20 h (rgl rfl)
    · rw [if_neg c7] at h
      refine v_iconst dX5_may_15 ?_
      refine v_goto (tgt := 20) dX5_may_16 (by decide) ?_
      refine v_sub [0] (L1 := [(0, vO 12)]) rfl ?_
      exact wj_X5_may_20 h (rgl rfl)

def j_X5_heading_135 (s : vS) : Option (Int × vS) :=
  bd (f_X5_take 10 s) fun r4 s1 =>
  if r4 = 0 then
    some (0, s1)
  else
    bd (f_X5_take 105 s1) fun r10 s7 =>
    if r10 = 0 then
      some (0, s7)
    else
      some (1, s7)
theorem wj_X5_heading_135 {s : vS} {out : Int × vS} (h : j_X5_heading_135 s = some out)  : VW cX5_heading (RX5, (some (vI out.1)), out.2, (some .boolean), 5, 104, 1, []) (P0 []) s 135 [(0, vO 12)] [] := by
  unfold j_X5_heading_135 at h
  refine v_aload_n dX5_heading_135 0 rfl rfl ?_
  refine v_bipush dX5_heading_136 rfl ?_
  obtain ⟨r4, s1, e2, h⟩ := bd_some h
  have k3 := c_X5_take e2 (rgl rfl)
  have r5 : rg r4 := k3.1.2.2
  refine v_callV (st := []) cf5 oc12 k3 (lw_V q1260 q1262 qs17 q302 q1263) rfl yk_X5_take ⟨Nat.le_of_ble_eq_true rfl, Nat.le_of_ble_eq_true rfl⟩ trivial ⟨kc12, trivial⟩ (Nat.le_of_ble_eq_true rfl) rfl dX5_heading_138 ?_
  refine v_if_eq (tgt := 157) dX5_heading_141 r5 (by decide) (fun c6 => ?_) (fun c6 => ?_)
  · rw [if_pos c6] at h
    refine v_iconst dX5_heading_157 ?_
    cases h
    exact v_zret (Or.inl rfl) dX5_heading_158
  · rw [if_neg c6] at h
    refine v_aload_n dX5_heading_144 0 rfl rfl ?_
    refine v_bipush dX5_heading_145 rfl ?_
    obtain ⟨r10, s7, e8, h⟩ := bd_some h
    have k9 := c_X5_take e8 (rgl rfl)
    have r11 : rg r10 := k9.1.2.2
    refine v_callV (st := []) cf5 oc12 k9 (lw_V q1260 q1262 qs17 q302 q1263) rfl yk_X5_take ⟨Nat.le_of_ble_eq_true rfl, Nat.le_of_ble_eq_true rfl⟩ trivial ⟨kc12, trivial⟩ (Nat.le_of_ble_eq_true rfl) rfl dX5_heading_147 ?_
    refine v_if_eq (tgt := 157) dX5_heading_150 r11 (by decide) (fun c12 => ?_) (fun c12 => ?_)
    · rw [if_pos c12] at h
      refine v_iconst dX5_heading_157 ?_
      cases h
      exact v_zret (Or.inl rfl) dX5_heading_158
    · rw [if_neg c12] at h
      refine v_iconst dX5_heading_153 ?_
      refine v_goto (tgt := 158) dX5_heading_154 (by decide) ?_
      cases h
      exact v_zret (Or.inr rfl) dX5_heading_158

def j_X5_heading_99 (s : vS) : Option (Int × vS) :=
  bd (f_X5_is 134 s) fun r4 s1 =>
  gd (r4 = 0 ∨ r4 = 1) <|
  stp (sI s1 10 5 r4) fun s7 =>
  stp (sI s7 12 2 (w32 ((gI s7 12 2) + 1))) fun s9 =>
  bd (f_X5_take 165 s9) fun r14 s11 =>
  if r14 = 0 then
    some (0, s11)
  else
    j_X5_heading_135 s11
theorem wj_X5_heading_99 {s : vS} {out : Int × vS} (h : j_X5_heading_99 s = some out)  : VW cX5_heading (RX5, (some (vI out.1)), out.2, (some .boolean), 5, 104, 1, []) (P0 []) s 99 [(0, vO 12)] [] := by
  unfold j_X5_heading_99 at h
  refine v_aload_n dX5_heading_99 0 rfl rfl ?_
  refine v_getS (f := 1) (t := 10) cf5 oc12 rfl rfl rfl (by decide) q501 dX5_heading_100 ?_
  refine v_aload_n dX5_heading_103 0 rfl rfl ?_
  refine v_sipush dX5_heading_104 rfl ?_
  obtain ⟨r4, s1, e2, h⟩ := bd_some h
  have k3 := c_X5_is e2 (rgl rfl)
  have r5 : rg r4 := k3.1.2.2
  refine v_callV (st := [vO 10]) cf5 oc12 k3 (lw_V q1264 q1266 qs18 q302 q1267) rfl yk_X5_is ⟨Nat.le_of_ble_eq_true rfl, Nat.le_of_ble_eq_true rfl⟩ ⟨kc10, trivial⟩ ⟨kc12, trivial⟩ (Nat.le_of_ble_eq_true rfl) rfl dX5_heading_107 ?_
  obtain ⟨g6, h⟩ := gd_some h
  obtain ⟨s7, e8, h⟩ := stp_some h
  refine v_putZN (f := 5) cf4 oc10 rfl (by decide) q479 dX5_heading_110 rfl rfl g6 ?_
  rw [← e8]
  refine v_aload_n dX5_heading_113 0 rfl rfl ?_
  refine v_dupO dX5_heading_114 ?_
  refine v_getI (f := 2) cf5 oc12 rfl (by decide) q502 dX5_heading_115 ?_
  refine v_iconst dX5_heading_118 ?_
  refine v_iadd dX5_heading_119 ?_
  obtain ⟨s9, e10, h⟩ := stp_some h
  refine v_putI (f := 2) cf5 oc12 rfl (by decide) q502 dX5_heading_120 rfl rfl ?_
  rw [← e10]
  refine v_aload_n dX5_heading_123 0 rfl rfl ?_
  refine v_sipush dX5_heading_124 rfl ?_
  obtain ⟨r14, s11, e12, h⟩ := bd_some h
  have k13 := c_X5_take e12 (rgl rfl)
  have r15 : rg r14 := k13.1.2.2
  refine v_callV (st := []) cf5 oc12 k13 (lw_V q1260 q1262 qs17 q302 q1263) rfl yk_X5_take ⟨Nat.le_of_ble_eq_true rfl, Nat.le_of_ble_eq_true rfl⟩ trivial ⟨kc12, trivial⟩ (Nat.le_of_ble_eq_true rfl) rfl dX5_heading_127 ?_
  refine v_if_ne (tgt := 135) dX5_heading_130 r15 (by decide) (fun c16 => ?_) (fun c16 => ?_)
  · rw [if_neg c16] at h
    exact wj_X5_heading_135 h 
  · rw [if_pos c16] at h
    refine v_iconst dX5_heading_133 ?_
    cases h
    exact v_zret (Or.inl rfl) dX5_heading_134

def j_X5_heading_69 (s : vS) : Option (Int × vS) :=
  bd (f_X5_take 118 s) fun r4 s1 =>
  if r4 = 0 then
    some (0, s1)
  else
    bd (f_X5_is 123 s1) fun r10 s7 =>
    if r10 = 0 then
      bd (f_X5_is 134 s7) fun r16 s13 =>
      if r16 = 0 then
        j_X5_heading_135 s13
      else
        j_X5_heading_99 s13
    else
      j_X5_heading_99 s7
theorem wj_X5_heading_69 {s : vS} {out : Int × vS} (h : j_X5_heading_69 s = some out)  : VW cX5_heading (RX5, (some (vI out.1)), out.2, (some .boolean), 5, 104, 1, []) (P0 []) s 69 [(0, vO 12)] [] := by
  unfold j_X5_heading_69 at h
  refine v_aload_n dX5_heading_69 0 rfl rfl ?_
  refine v_bipush dX5_heading_70 rfl ?_
  obtain ⟨r4, s1, e2, h⟩ := bd_some h
  have k3 := c_X5_take e2 (rgl rfl)
  have r5 : rg r4 := k3.1.2.2
  refine v_callV (st := []) cf5 oc12 k3 (lw_V q1260 q1262 qs17 q302 q1263) rfl yk_X5_take ⟨Nat.le_of_ble_eq_true rfl, Nat.le_of_ble_eq_true rfl⟩ trivial ⟨kc12, trivial⟩ (Nat.le_of_ble_eq_true rfl) rfl dX5_heading_72 ?_
  refine v_if_ne (tgt := 80) dX5_heading_75 r5 (by decide) (fun c6 => ?_) (fun c6 => ?_)
  · rw [if_neg c6] at h
    refine v_aload_n dX5_heading_80 0 rfl rfl ?_
    refine v_bipush dX5_heading_81 rfl ?_
    obtain ⟨r10, s7, e8, h⟩ := bd_some h
    have k9 := c_X5_is e8 (rgl rfl)
    have r11 : rg r10 := k9.1.2.2
    refine v_callV (st := []) cf5 oc12 k9 (lw_V q1264 q1266 qs18 q302 q1267) rfl yk_X5_is ⟨Nat.le_of_ble_eq_true rfl, Nat.le_of_ble_eq_true rfl⟩ trivial ⟨kc12, trivial⟩ (Nat.le_of_ble_eq_true rfl) rfl dX5_heading_83 ?_
    refine v_if_ne (tgt := 99) dX5_heading_86 r11 (by decide) (fun c12 => ?_) (fun c12 => ?_)
    · rw [if_neg c12] at h
      exact wj_X5_heading_99 h 
    · rw [if_pos c12] at h
      refine v_aload_n dX5_heading_89 0 rfl rfl ?_
      refine v_sipush dX5_heading_90 rfl ?_
      obtain ⟨r16, s13, e14, h⟩ := bd_some h
      have k15 := c_X5_is e14 (rgl rfl)
      have r17 : rg r16 := k15.1.2.2
      refine v_callV (st := []) cf5 oc12 k15 (lw_V q1264 q1266 qs18 q302 q1267) rfl yk_X5_is ⟨Nat.le_of_ble_eq_true rfl, Nat.le_of_ble_eq_true rfl⟩ trivial ⟨kc12, trivial⟩ (Nat.le_of_ble_eq_true rfl) rfl dX5_heading_93 ?_
      refine v_if_eq (tgt := 135) dX5_heading_96 r17 (by decide) (fun c18 => ?_) (fun c18 => ?_)
      · rw [if_pos c18] at h
        exact wj_X5_heading_135 h 
      · rw [if_neg c18] at h
        exact wj_X5_heading_99 h 
  · rw [if_pos c6] at h
    refine v_iconst dX5_heading_78 ?_
    cases h
    exact v_zret (Or.inl rfl) dX5_heading_79

def E_X5_heading_19 (rv : Option vA) (σo : vS) (q : vS) : Prop := ∀ (s' : vS), q = s' → VW cX5_heading (RX5, rv, σo, (some .boolean), 5, 104, 1, []) (P0 []) s' 58 [(0, vO 12)] []
def l_X5_heading_19 : Nat → vS → Option (vS)
  | 0, _ => none
  | n + 1, s =>
    bd (f_X5_kind s) fun r4 s1 =>
    if r4 = (-1) then
      some s1
    else
      bd (f_X5_is 15 s1) fun r10 s7 =>
      if r10 = 0 then
        bd (f_X5_is 16 s7) fun r16 s13 =>
        if r16 = 0 then
          stp (sI s13 12 2 (w32 ((gI s13 12 2) + 1))) fun s19 =>
          l_X5_heading_19 n s19
        else
          some s13
      else
        some s7
theorem wl_X5_heading_19 {rv : Option vA} {σo : vS}  : ∀ (n : Nat) (s : vS) (q : vS), l_X5_heading_19 n  s = some q → E_X5_heading_19 rv σo q → VW cX5_heading (RX5, rv, σo, (some .boolean), 5, 104, 1, []) (P0 []) s 19 [(0, vO 12)] [] := by
  intro n
  induction n with
  | zero => intro s q h; cases h
  | succ n ih =>
    intro s q h  hE
    unfold l_X5_heading_19 at h
    refine v_aload_n dX5_heading_19 0 rfl rfl ?_
    obtain ⟨r4, s1, e2, h⟩ := bd_some h
    have k3 := c_X5_kind e2
    have r5 : rg r4 := k3.1.2.2
    refine v_callV (st := []) cf5 oc12 k3 (lw_V q1276 q1278 qs20 q302 q1279) rfl yk_X5_kind ⟨Nat.le_of_ble_eq_true rfl, Nat.le_of_ble_eq_true rfl⟩ trivial ⟨kc12, trivial⟩ (Nat.le_of_ble_eq_true rfl) rfl dX5_heading_20 ?_
    refine v_iconst dX5_heading_23 ?_
    refine v_icmp_eq (tgt := 58) dX5_heading_24 r5 (rgl rfl) (by decide) (fun c6 => ?_) (fun c6 => ?_)
    · rw [if_pos c6] at h
      cases h
      exact hE _ rfl 
    · rw [if_neg c6] at h
      refine v_aload_n dX5_heading_27 0 rfl rfl ?_
      refine v_bipush dX5_heading_28 rfl ?_
      obtain ⟨r10, s7, e8, h⟩ := bd_some h
      have k9 := c_X5_is e8 (rgl rfl)
      have r11 : rg r10 := k9.1.2.2
      refine v_callV (st := []) cf5 oc12 k9 (lw_V q1264 q1266 qs18 q302 q1267) rfl yk_X5_is ⟨Nat.le_of_ble_eq_true rfl, Nat.le_of_ble_eq_true rfl⟩ trivial ⟨kc12, trivial⟩ (Nat.le_of_ble_eq_true rfl) rfl dX5_heading_30 ?_
      refine v_if_ne (tgt := 58) dX5_heading_33 r11 (by decide) (fun c12 => ?_) (fun c12 => ?_)
      · rw [if_neg c12] at h
        cases h
        exact hE _ rfl 
      · rw [if_pos c12] at h
        refine v_aload_n dX5_heading_36 0 rfl rfl ?_
        refine v_bipush dX5_heading_37 rfl ?_
        obtain ⟨r16, s13, e14, h⟩ := bd_some h
        have k15 := c_X5_is e14 (rgl rfl)
        have r17 : rg r16 := k15.1.2.2
        refine v_callV (st := []) cf5 oc12 k15 (lw_V q1264 q1266 qs18 q302 q1267) rfl yk_X5_is ⟨Nat.le_of_ble_eq_true rfl, Nat.le_of_ble_eq_true rfl⟩ trivial ⟨kc12, trivial⟩ (Nat.le_of_ble_eq_true rfl) rfl dX5_heading_39 ?_
        refine v_if_ne (tgt := 58) dX5_heading_42 r17 (by decide) (fun c18 => ?_) (fun c18 => ?_)
        · rw [if_neg c18] at h
          cases h
          exact hE _ rfl 
        · rw [if_pos c18] at h
          refine v_aload_n dX5_heading_45 0 rfl rfl ?_
          refine v_dupO dX5_heading_46 ?_
          refine v_getI (f := 2) cf5 oc12 rfl (by decide) q502 dX5_heading_47 ?_
          refine v_iconst dX5_heading_50 ?_
          refine v_iadd dX5_heading_51 ?_
          obtain ⟨s19, e20, h⟩ := stp_some h
          refine v_putI (f := 2) cf5 oc12 rfl (by decide) q502 dX5_heading_52 rfl rfl ?_
          rw [← e20]
          refine v_goto (tgt := 19) dX5_heading_55 (by decide) ?_
          exact ih s19 _ h  hE

def j_X5_heading_58 (s : vS) : Option (Int × vS) :=
  bd (f_X5_take 16 s) fun r4 s1 =>
  if r4 = 0 then
    some (0, s1)
  else
    j_X5_heading_69 s1
theorem wj_X5_heading_58 {s : vS} {out : Int × vS} (h : j_X5_heading_58 s = some out)  : VW cX5_heading (RX5, (some (vI out.1)), out.2, (some .boolean), 5, 104, 1, []) (P0 []) s 58 [(0, vO 12)] [] := by
  unfold j_X5_heading_58 at h
  refine v_aload_n dX5_heading_58 0 rfl rfl ?_
  refine v_bipush dX5_heading_59 rfl ?_
  obtain ⟨r4, s1, e2, h⟩ := bd_some h
  have k3 := c_X5_take e2 (rgl rfl)
  have r5 : rg r4 := k3.1.2.2
  refine v_callV (st := []) cf5 oc12 k3 (lw_V q1260 q1262 qs17 q302 q1263) rfl yk_X5_take ⟨Nat.le_of_ble_eq_true rfl, Nat.le_of_ble_eq_true rfl⟩ trivial ⟨kc12, trivial⟩ (Nat.le_of_ble_eq_true rfl) rfl dX5_heading_61 ?_
  refine v_if_ne (tgt := 69) dX5_heading_64 r5 (by decide) (fun c6 => ?_) (fun c6 => ?_)
  · rw [if_neg c6] at h
    exact wj_X5_heading_69 h 
  · rw [if_pos c6] at h
    refine v_iconst dX5_heading_67 ?_
    cases h
    exact v_zret (Or.inl rfl) dX5_heading_68

def f_X5_heading (s : vS) : Option (Int × vS) :=
  bd (f_X5_take 1 s) fun r4 s1 =>
  if r4 = 0 then
    some (0, s1)
  else
    bd (f_X5_may 15 s1) fun r10 s7 =>
    if r10 = 0 then
      j_X5_heading_69 s7
    else
      lq_0 (l_X5_heading_19 FU s7) fun s13 =>
      j_X5_heading_58 s13
theorem yk_X5_heading : yOk yX5_heading 0 := ⟨by decide, by decide, by decide +kernel⟩
theorem c_X5_heading {s : vS} {out : Int × vS} (h : f_X5_heading s = some out)   : VC yX5_heading cX5_heading 1 (some .boolean) 5 104 [vO 12] s (some (vI out.1)) out.2 [] := by
  unfold f_X5_heading at h
  refine VC.of RX5 (by decide) rfl (Nat.le_of_ble_eq_true rfl) ?_
  show VW cX5_heading (RX5, (some (vI out.1)), out.2, (some .boolean), 5, 104, 1, []) (P0 []) s 0 [(0, vO 12)] []
  refine v_aload_n dX5_heading_0 0 rfl rfl ?_
  refine v_iconst dX5_heading_1 ?_
  obtain ⟨r4, s1, e2, h⟩ := bd_some h
  have k3 := c_X5_take e2 (rgl rfl)
  have r5 : rg r4 := k3.1.2.2
  refine v_callV (st := []) cf5 oc12 k3 (lw_V q1260 q1262 qs17 q302 q1263) rfl yk_X5_take ⟨Nat.le_of_ble_eq_true rfl, Nat.le_of_ble_eq_true rfl⟩ trivial ⟨kc12, trivial⟩ (Nat.le_of_ble_eq_true rfl) rfl dX5_heading_2 ?_
  refine v_if_ne (tgt := 10) dX5_heading_5 r5 (by decide) (fun c6 => ?_) (fun c6 => ?_)
  · rw [if_neg c6] at h
    refine v_aload_n dX5_heading_10 0 rfl rfl ?_
    refine v_bipush dX5_heading_11 rfl ?_
    obtain ⟨r10, s7, e8, h⟩ := bd_some h
    have k9 := c_X5_may e8 (rgl rfl)
    have r11 : rg r10 := k9.1.2.2
    refine v_callV (st := []) cf5 oc12 k9 (lw_V q1291 q1293 qs22 q302 q1294) rfl yk_X5_may ⟨Nat.le_of_ble_eq_true rfl, Nat.le_of_ble_eq_true rfl⟩ trivial ⟨kc12, trivial⟩ (Nat.le_of_ble_eq_true rfl) rfl dX5_heading_13 ?_
    refine v_if_eq (tgt := 69) dX5_heading_16 r11 (by decide) (fun c12 => ?_) (fun c12 => ?_)
    · rw [if_pos c12] at h
      exact wj_X5_heading_69 h 
    · rw [if_neg c12] at h
      obtain ⟨s13, e14, h⟩ := lq_0_some h
      refine wl_X5_heading_19  FU  s7 _ e14  ?_
      unfold E_X5_heading_19
      intro s13' z_
      cases z_
      exact wj_X5_heading_58 h 
  · rw [if_pos c6] at h
    refine v_iconst dX5_heading_8 ?_
    cases h
    exact v_zret (Or.inl rfl) dX5_heading_9

def f_X4_set (x1 : Int) (x2 : Int) (x3 : Int) (s : vS) : Option (vS) :=
  gd (inb (w32 ((w32 (9 * x1)) + x2)) (gN s 11)) <|
  stp (sE s 11 (w32 ((w32 (9 * x1)) + x2)) x3) fun s2 =>
  some s2
theorem yk_X4_set : yOk yX4_set 3 := ⟨by decide, by decide, by decide +kernel⟩
theorem c_X4_set {x1 : Int} {x2 : Int} {x3 : Int} {s : vS} {out : vS} (h : f_X4_set x1 x2 x3 s = some out)  (rx1 : rg x1) (rx2 : rg x2) (rx3 : rg x3) : VC yX4_set cX4_set 4 none 0 0 [vO 10, vI x1, vI x2, vI x3] s none out [] := by
  unfold f_X4_set at h
  refine VC.of RX4 (by decide) rfl (Nat.le_of_ble_eq_true rfl) ?_
  show VW cX4_set (RX4, none, out, none, 0, 0, 4, []) (P0 []) s 0 [(0, vO 10), (1, vI x1), (2, vI x2), (3, vI x3)] []
  refine v_aload_n dX4_set_0 0 rfl rfl ?_
  refine v_getS (f := 0) (t := 11) cf4 oc10 rfl rfl rfl (by decide) q466 dX4_set_1 ?_
  refine v_bipush dX4_set_4 rfl ?_
  refine v_iload_n dX4_set_6 1 rfl rfl ?_
  refine v_imul dX4_set_7 ?_
  refine v_iload_n dX4_set_8 2 rfl rfl ?_
  refine v_iadd dX4_set_9 ?_
  refine v_iload_n dX4_set_10 3 rfl rfl ?_
  obtain ⟨g1, h⟩ := gd_some h
  obtain ⟨s2, e3, h⟩ := stp_some h
  refine v_iast oc11 (w32_rg _) g1.1 g1.2 dX4_set_11 ?_
  rw [← e3]
  cases h
  exact v_vret dX4_set_12

def j_X4_add_45 (x1 : Int) (x2 : Int) (s : vS) : Option (Int × vS) :=
  bdv (f_X4_set (gI s 10 1) 0 x1 s) fun s1 =>
  bdv (f_X4_set (gI s1 10 1) 1 x2 s1) fun s4 =>
  bdv (f_X4_set (gI s4 10 1) 2 (-1) s4) fun s7 =>
  bdv (f_X4_set (gI s7 10 1) 3 (-1) s7) fun s10 =>
  bdv (f_X4_set (gI s10 10 1) 4 (-1) s10) fun s13 =>
  bdv (f_X4_set (gI s13 10 1) 5 (-1) s13) fun s16 =>
  bdv (f_X4_set (gI s16 10 1) 6 0 s16) fun s19 =>
  bdv (f_X4_set (gI s19 10 1) 7 0 s19) fun s22 =>
  bdv (f_X4_set (gI s22 10 1) 8 (-1) s22) fun s25 =>
  stp (sI s25 10 1 (w32 ((gI s25 10 1) + 1))) fun s28 =>
  some (w32 ((gI s28 10 1) - 1), s28)
theorem wj_X4_add_45 {x1 : Int} {x2 : Int} {s : vS} {out : Int × vS} (h : j_X4_add_45 x1 x2 s = some out)  (rx1 : rg x1) (rx2 : rg x2) : VW cX4_add (RX4, (some (vI out.1)), out.2, (some .int), 1, 26, 4, []) (P0 []) s 45 [(0, vO 10), (1, vI x1), (2, vI x2)] [] := by
  unfold j_X4_add_45 at h
  refine v_aload_n dX4_add_45 0 rfl rfl ?_
  refine v_aload_n dX4_add_46 0 rfl rfl ?_
  refine v_getI (f := 1) cf4 oc10 rfl (by decide) q467 dX4_add_47 ?_
  refine v_iconst dX4_add_50 ?_
  refine v_iload_n dX4_add_51 1 rfl rfl ?_
  obtain ⟨s1, e2, h⟩ := bdv_some h
  have k3 := c_X4_set e2 (gI_rg _ _ _) (rgl rfl) rx1
  refine v_callV (st := []) cf4 oc10 k3 (lw_V q1304 q1305 q1306 q301 q1307) rfl yk_X4_set ⟨Nat.le_of_ble_eq_true rfl, Nat.le_of_ble_eq_true rfl⟩ trivial ⟨kc10, trivial⟩ (Nat.le_of_ble_eq_true rfl) rfl dX4_add_52 ?_
  refine v_aload_n dX4_add_55 0 rfl rfl ?_
  refine v_aload_n dX4_add_56 0 rfl rfl ?_
  refine v_getI (f := 1) cf4 oc10 rfl (by decide) q467 dX4_add_57 ?_
  refine v_iconst dX4_add_60 ?_
  refine v_iload_n dX4_add_61 2 rfl rfl ?_
  obtain ⟨s4, e5, h⟩ := bdv_some h
  have k6 := c_X4_set e5 (gI_rg _ _ _) (rgl rfl) rx2
  refine v_callV (st := []) cf4 oc10 k6 (lw_V q1304 q1305 q1306 q301 q1307) rfl yk_X4_set ⟨Nat.le_of_ble_eq_true rfl, Nat.le_of_ble_eq_true rfl⟩ trivial ⟨kc10, trivial⟩ (Nat.le_of_ble_eq_true rfl) rfl dX4_add_62 ?_
  refine v_aload_n dX4_add_65 0 rfl rfl ?_
  refine v_aload_n dX4_add_66 0 rfl rfl ?_
  refine v_getI (f := 1) cf4 oc10 rfl (by decide) q467 dX4_add_67 ?_
  refine v_iconst dX4_add_70 ?_
  refine v_iconst dX4_add_71 ?_
  obtain ⟨s7, e8, h⟩ := bdv_some h
  have k9 := c_X4_set e8 (gI_rg _ _ _) (rgl rfl) (rgl rfl)
  refine v_callV (st := []) cf4 oc10 k9 (lw_V q1304 q1305 q1306 q301 q1307) rfl yk_X4_set ⟨Nat.le_of_ble_eq_true rfl, Nat.le_of_ble_eq_true rfl⟩ trivial ⟨kc10, trivial⟩ (Nat.le_of_ble_eq_true rfl) rfl dX4_add_72 ?_
  refine v_aload_n dX4_add_75 0 rfl rfl ?_
  refine v_aload_n dX4_add_76 0 rfl rfl ?_
  refine v_getI (f := 1) cf4 oc10 rfl (by decide) q467 dX4_add_77 ?_
  refine v_iconst dX4_add_80 ?_
  refine v_iconst dX4_add_81 ?_
  obtain ⟨s10, e11, h⟩ := bdv_some h
  have k12 := c_X4_set e11 (gI_rg _ _ _) (rgl rfl) (rgl rfl)
  refine v_callV (st := []) cf4 oc10 k12 (lw_V q1304 q1305 q1306 q301 q1307) rfl yk_X4_set ⟨Nat.le_of_ble_eq_true rfl, Nat.le_of_ble_eq_true rfl⟩ trivial ⟨kc10, trivial⟩ (Nat.le_of_ble_eq_true rfl) rfl dX4_add_82 ?_
  refine v_aload_n dX4_add_85 0 rfl rfl ?_
  refine v_aload_n dX4_add_86 0 rfl rfl ?_
  refine v_getI (f := 1) cf4 oc10 rfl (by decide) q467 dX4_add_87 ?_
  refine v_iconst dX4_add_90 ?_
  refine v_iconst dX4_add_91 ?_
  obtain ⟨s13, e14, h⟩ := bdv_some h
  have k15 := c_X4_set e14 (gI_rg _ _ _) (rgl rfl) (rgl rfl)
  refine v_callV (st := []) cf4 oc10 k15 (lw_V q1304 q1305 q1306 q301 q1307) rfl yk_X4_set ⟨Nat.le_of_ble_eq_true rfl, Nat.le_of_ble_eq_true rfl⟩ trivial ⟨kc10, trivial⟩ (Nat.le_of_ble_eq_true rfl) rfl dX4_add_92 ?_
  refine v_aload_n dX4_add_95 0 rfl rfl ?_
  refine v_aload_n dX4_add_96 0 rfl rfl ?_
  refine v_getI (f := 1) cf4 oc10 rfl (by decide) q467 dX4_add_97 ?_
  refine v_iconst dX4_add_100 ?_
  refine v_iconst dX4_add_101 ?_
  obtain ⟨s16, e17, h⟩ := bdv_some h
  have k18 := c_X4_set e17 (gI_rg _ _ _) (rgl rfl) (rgl rfl)
  refine v_callV (st := []) cf4 oc10 k18 (lw_V q1304 q1305 q1306 q301 q1307) rfl yk_X4_set ⟨Nat.le_of_ble_eq_true rfl, Nat.le_of_ble_eq_true rfl⟩ trivial ⟨kc10, trivial⟩ (Nat.le_of_ble_eq_true rfl) rfl dX4_add_102 ?_
  refine v_aload_n dX4_add_105 0 rfl rfl ?_
  refine v_aload_n dX4_add_106 0 rfl rfl ?_
  refine v_getI (f := 1) cf4 oc10 rfl (by decide) q467 dX4_add_107 ?_
  refine v_bipush dX4_add_110 rfl ?_
  refine v_iconst dX4_add_112 ?_
  obtain ⟨s19, e20, h⟩ := bdv_some h
  have k21 := c_X4_set e20 (gI_rg _ _ _) (rgl rfl) (rgl rfl)
  refine v_callV (st := []) cf4 oc10 k21 (lw_V q1304 q1305 q1306 q301 q1307) rfl yk_X4_set ⟨Nat.le_of_ble_eq_true rfl, Nat.le_of_ble_eq_true rfl⟩ trivial ⟨kc10, trivial⟩ (Nat.le_of_ble_eq_true rfl) rfl dX4_add_113 ?_
  refine v_aload_n dX4_add_116 0 rfl rfl ?_
  refine v_aload_n dX4_add_117 0 rfl rfl ?_
  refine v_getI (f := 1) cf4 oc10 rfl (by decide) q467 dX4_add_118 ?_
  refine v_bipush dX4_add_121 rfl ?_
  refine v_iconst dX4_add_123 ?_
  obtain ⟨s22, e23, h⟩ := bdv_some h
  have k24 := c_X4_set e23 (gI_rg _ _ _) (rgl rfl) (rgl rfl)
  refine v_callV (st := []) cf4 oc10 k24 (lw_V q1304 q1305 q1306 q301 q1307) rfl yk_X4_set ⟨Nat.le_of_ble_eq_true rfl, Nat.le_of_ble_eq_true rfl⟩ trivial ⟨kc10, trivial⟩ (Nat.le_of_ble_eq_true rfl) rfl dX4_add_124 ?_
  refine v_aload_n dX4_add_127 0 rfl rfl ?_
  refine v_aload_n dX4_add_128 0 rfl rfl ?_
  refine v_getI (f := 1) cf4 oc10 rfl (by decide) q467 dX4_add_129 ?_
  refine v_bipush dX4_add_132 rfl ?_
  refine v_iconst dX4_add_134 ?_
  obtain ⟨s25, e26, h⟩ := bdv_some h
  have k27 := c_X4_set e26 (gI_rg _ _ _) (rgl rfl) (rgl rfl)
  refine v_callV (st := []) cf4 oc10 k27 (lw_V q1304 q1305 q1306 q301 q1307) rfl yk_X4_set ⟨Nat.le_of_ble_eq_true rfl, Nat.le_of_ble_eq_true rfl⟩ trivial ⟨kc10, trivial⟩ (Nat.le_of_ble_eq_true rfl) rfl dX4_add_135 ?_
  refine v_aload_n dX4_add_138 0 rfl rfl ?_
  refine v_dupO dX4_add_139 ?_
  refine v_getI (f := 1) cf4 oc10 rfl (by decide) q467 dX4_add_140 ?_
  refine v_iconst dX4_add_143 ?_
  refine v_iadd dX4_add_144 ?_
  obtain ⟨s28, e29, h⟩ := stp_some h
  refine v_putI (f := 1) cf4 oc10 rfl (by decide) q467 dX4_add_145 rfl rfl ?_
  rw [← e29]
  refine v_aload_n dX4_add_148 0 rfl rfl ?_
  refine v_getI (f := 1) cf4 oc10 rfl (by decide) q467 dX4_add_149 ?_
  refine v_iconst dX4_add_152 ?_
  refine v_isub dX4_add_153 ?_
  cases h
  exact v_iret (w32_rg _) dX4_add_154

def f_X4_add (x1 : Int) (x2 : Int) (s : vS) : Option (Int × vS) :=
  if (w32 (9 * (gI s 10 1))) = (w32 (gN s 11 : Int)) then
    gd (naG (w32 (2 * (w32 (gN s 11 : Int))))) <|
    stp (sA s 199 (Int.toNat (w32 (2 * (w32 (gN s 11 : Int)))), fun _ => 0)) fun s3 =>
    gd (cpG 0 0 (w32 (gN s3 11 : Int)) (gN s3 11) (gN s3 199)) <|
    stp (cpA s3 11 199 0 0 (w32 (gN s3 11 : Int))) fun s6 =>
    gd (2 * gN s6 11 ≤ gN s6 199 ∧ 2 ≤ gN s6 199) <|
    stp (sw2 s6 11 199) fun s9 =>
    stp (rs s9) fun s11 =>
    j_X4_add_45 x1 x2 s11
  else
    j_X4_add_45 x1 x2 s
theorem yk_X4_add : yOk yX4_add 2 := ⟨by decide, by decide, by decide +kernel⟩
theorem c_X4_add {x1 : Int} {x2 : Int} {s : vS} {out : Int × vS} (h : f_X4_add x1 x2 s = some out)  (rx1 : rg x1) (rx2 : rg x2) : VC yX4_add cX4_add 4 (some .int) 1 26 [vO 10, vI x1, vI x2] s (some (vI out.1)) out.2 [] := by
  unfold f_X4_add at h
  refine VC.of RX4 (by decide) rfl (Nat.le_of_ble_eq_true rfl) ?_
  show VW cX4_add (RX4, (some (vI out.1)), out.2, (some .int), 1, 26, 4, []) (P0 []) s 0 [(0, vO 10), (1, vI x1), (2, vI x2)] []
  refine v_bipush dX4_add_0 rfl ?_
  refine v_aload_n dX4_add_2 0 rfl rfl ?_
  refine v_getI (f := 1) cf4 oc10 rfl (by decide) q467 dX4_add_3 ?_
  refine v_imul dX4_add_6 ?_
  refine v_aload_n dX4_add_7 0 rfl rfl ?_
  refine v_getS (f := 0) (t := 11) cf4 oc10 rfl rfl rfl (by decide) q466 dX4_add_8 ?_
  refine v_alen24 oc11 dX4_add_11 ?_
  refine v_icmp_ne (tgt := 45) dX4_add_12 (w32_rg _) (w32_rg _) (by decide) (fun c1 => ?_) (fun c1 => ?_)
  · rw [if_neg c1] at h
    exact wj_X4_add_45 h rx1 rx2
  · rw [if_pos c1] at h
    refine v_iconst dX4_add_15 ?_
    refine v_aload_n dX4_add_16 0 rfl rfl ?_
    refine v_getS (f := 0) (t := 11) cf4 oc10 rfl rfl rfl (by decide) q466 dX4_add_17 ?_
    refine v_alen24 oc11 dX4_add_20 ?_
    refine v_imul dX4_add_21 ?_
    obtain ⟨g2, h⟩ := gd_some h
    obtain ⟨s3, e4, h⟩ := stp_some h
    refine v_na24 (K := 199) (tk1 := [(24, 1)]) rfl rfl (by decide) (w32_rg _) g2 ⟨(by decide), trivial⟩ trivial q459 dX4_add_22 ?_
    rw [← e4]
    refine v_astore_n (L1 := [(3, vO 199), (0, vO 10), (1, vI x1), (2, vI x2)]) dX4_add_24 rfl (by decide) rfl ?_
    refine v_aload_n dX4_add_25 1 rfl rfl ?_
    refine v_getS (f := 0) (t := 11) cf4 oc10 rfl rfl rfl (by decide) q466 dX4_add_26 ?_
    refine v_iconst dX4_add_29 ?_
    refine v_aload_n dX4_add_30 0 rfl rfl ?_
    refine v_iconst dX4_add_31 ?_
    refine v_aload_n dX4_add_32 1 rfl rfl ?_
    refine v_getS (f := 0) (t := 11) cf4 oc10 rfl rfl rfl (by decide) q466 dX4_add_33 ?_
    refine v_alen24 oc11 dX4_add_36 ?_
    obtain ⟨g5, h⟩ := gd_some h
    obtain ⟨s6, e7, h⟩ := stp_some h
    refine v_cp (t := 24) (by decide) (by decide) oc11 (ok_tmp (i := 0) rfl) (rgl rfl) (rgl rfl) (w32_rg _) g5 (Nat.le_of_ble_eq_true rfl) (Nat.le_of_ble_eq_true rfl) q1303 dX4_add_37 ?_
    rw [← e7]
    refine v_aload_n dX4_add_40 1 rfl rfl ?_
    refine v_aload_n dX4_add_41 0 rfl rfl ?_
    obtain ⟨g8, h⟩ := gd_some h
    obtain ⟨s9, e10, h⟩ := stp_some h
    refine v_pa (i := 0) (K := 199) (t0 := 11) (f := 0) (tk1 := [(24, 0)]) (L1 := [(3, vO 11), (0, vO 10), (1, vI x1), (2, vI x2)]) (st1 := []) rfl rfl (by decide) cf4 (⟨by decide, rfl⟩ : okB 10 3) rfl (by decide) rfl rfl (by decide) rfl g8 q466 dX4_add_42 rfl rfl rfl rfl ?_
    rw [← e10]
    refine v_sub [1, 2, 3] (L1 := [(0, vO 10), (1, vI x1), (2, vI x2)]) rfl ?_
    obtain ⟨s11, e12, h⟩ := stp_some h
    refine v_dr (by decide) (by decide) ⟨(by decide), trivial⟩ trivial ?_
    rw [← e12]
    exact wj_X4_add_45 h rx1 rx2

def f_X3_end (x1 : Int) (s : vS) : Option (Int × vS) :=
  gd (inb x1 (gN s 9)) <|
  some (gE s 9 x1, s)
theorem yk_X3_end : yOk yX3_end 1 := ⟨by decide, by decide, by decide +kernel⟩
theorem c_X3_end {x1 : Int} {s : vS} {out : Int × vS} (h : f_X3_end x1 s = some out)  (rx1 : rg x1) : VC yX3_end cX3_end 2 (some .int) 0 0 [vO 5, vI x1] s (some (vI out.1)) out.2 [] := by
  unfold f_X3_end at h
  refine VC.of RX3 (by decide) rfl (Nat.le_of_ble_eq_true rfl) ?_
  show VW cX3_end (RX3, (some (vI out.1)), out.2, (some .int), 0, 0, 2, []) (P0 []) s 0 [(0, vO 5), (1, vI x1)] []
  refine v_aload_n dX3_end_0 0 rfl rfl ?_
  refine v_getS (f := 6) (t := 9) cf3 oc5 rfl rfl rfl (by decide) q440 dX3_end_1 ?_
  refine v_iload_n dX3_end_4 1 rfl rfl ?_
  obtain ⟨g1, h⟩ := gd_some h
  refine v_iald oc9 rx1 g1.1 g1.2 dX3_end_5 ?_
  cases h
  exact v_iret (gE_rg _ _ _) dX3_end_6

def f_X3_text (s : vS) : Option (Nat × vS) :=
  gd (okB (gR s 5 2) 1) <|
  some (gR s 5 2, s)
theorem yk_X3_text : yOk yX3_text 0 := ⟨by decide, by decide, by decide +kernel⟩
theorem c_X3_text {s : vS} {out : Nat × vS} (h : f_X3_text s = some out)   : VC yX3_text cX3_text 1 (some (.object "SchemaWorkshop$Bytes")) 0 0 [vO 5] s (some (vO out.1)) out.2 [] := by
  unfold f_X3_text at h
  refine VC.of RX3 (by decide) rfl (Nat.le_of_ble_eq_true rfl) ?_
  show VW cX3_text (RX3, (some (vO out.1)), out.2, (some (.object "SchemaWorkshop$Bytes")), 0, 0, 1, []) (P0 []) s 0 [(0, vO 5)] []
  refine v_aload_n dX3_text_0 0 rfl rfl ?_
  obtain ⟨g1, h⟩ := gd_some h
  refine v_getR (f := 2) cf3 oc5 rfl (okB_R g1 (by decide) (by decide)) (by decide) q436 dX3_text_1 ?_
  cases h
  exact v_aret dX3_text_4

def E_X5_small_12 (rv : Option vA) (σo : vS) (q : Int × vS) : Prop := ∀ (x2' : Int) (s' : vS), q = (x2', s') → rgL x2' → VW cX5_small (RX5, rv, σo, (some .long), 2, 41, 5, []) (P0 []) s' 63 [(2, vL x2')] []
def l_X5_small_12 : Nat → Int → Int → Int → vS → Option (Int × vS)
  | 0, _, _, _, _ => none
  | n + 1, x1, x2, x4, s =>
    gd (gR s 12 0 = 5) <|
    bd (f_X3_end x1 s) fun r5 s2 =>
    if r5 ≤ x4 then
      some (x2, s2)
    else
      if 0 ≤ (cmp64 x2 10000000000) then
        some (x2, s2)
      else
        gd (gR s2 12 0 = 5) <|
        bdo (f_X3_text s2) fun r13 s10 =>
        gd (okB r13 1) <|
        bd (f_X2_at r13 x4 s10) fun r18 s15 =>
        vl (w64 ((w64 ((w64 (10 * x2)) + r18)) - 48)) fun y20 =>
        vl (w32 (x4 + 1)) fun y23 =>
        l_X5_small_12 n x1 y20 y23 s15
theorem wl_X5_small_12 {x1 : Int} {rv : Option vA} {σo : vS}  (rx1 : rg x1) : ∀ (n : Nat) (x2 : Int) (x4 : Int) (s : vS) (q : Int × vS), l_X5_small_12 n x1 x2 x4 s = some q → rgL x2 → rg x4 → E_X5_small_12 rv σo q → VW cX5_small (RX5, rv, σo, (some .long), 2, 41, 5, []) (P0 []) s 12 [(0, vO 12), (1, vI x1), (2, vL x2), (4, vI x4)] [] := by
  intro n
  induction n with
  | zero => intro x2 x4 s q h; cases h
  | succ n ih =>
    intro x2 x4 s q h rx2 rx4 hE
    unfold l_X5_small_12 at h
    refine v_iload dX5_small_12 3 rfl ?_
    refine v_aload_n dX5_small_14 0 rfl rfl ?_
    obtain ⟨g1, h⟩ := gd_some h
    refine v_getR (f := 0) cf5 oc12 rfl (by rw [g1]; decide) (by decide) q500 dX5_small_15 ?_
    rw [g1]
    refine v_iload_n dX5_small_18 1 rfl rfl ?_
    obtain ⟨r5, s2, e3, h⟩ := bd_some h
    have k4 := c_X3_end e3 rx1
    have r6 : rg r5 := k4.1.2.2
    refine v_callV (st := [vI x4]) cf3 oc5 k4 (lw_V q1321 q1322 q1323 q300 q1324) rfl yk_X3_end ⟨Nat.le_of_ble_eq_true rfl, Nat.le_of_ble_eq_true rfl⟩ trivial ⟨kc12, trivial⟩ (Nat.le_of_ble_eq_true rfl) rfl dX5_small_19 ?_
    refine v_icmp_ge (tgt := 63) dX5_small_22 rx4 r6 (by decide) (fun c7 => ?_) (fun c7 => ?_)
    · rw [if_pos c7] at h
      cases h
      refine v_sub [2] (L1 := [(2, vL x2)]) rfl ?_
      exact hE _ _ rfl rx2
    · rw [if_neg c7] at h
      refine v_lload_n dX5_small_25 2 rfl rfl ?_
      refine v_ldc2 (n := 10000000000) dX5_small_26 q1325 rfl ?_
      refine v_lcmp dX5_small_29 rx2 (rglL rfl) ?_
      refine v_if_ge (tgt := 63) dX5_small_30 (cmp64_rg _ _) (by decide) (fun c8 => ?_) (fun c8 => ?_)
      · rw [if_pos c8] at h
        cases h
        refine v_sub [2] (L1 := [(2, vL x2)]) rfl ?_
        exact hE _ _ rfl rx2
      · rw [if_neg c8] at h
        refine v_ldc2 (n := 10) dX5_small_33 q1326 rfl ?_
        refine v_lload_n dX5_small_36 2 rfl rfl ?_
        refine v_lmul dX5_small_37 ?_
        refine v_aload_n dX5_small_38 0 rfl rfl ?_
        obtain ⟨g9, h⟩ := gd_some h
        refine v_getR (f := 0) cf5 oc12 rfl (by rw [g9]; decide) (by decide) q500 dX5_small_39 ?_
        rw [g9]
        obtain ⟨r13, s10, e11, h⟩ := bdo_some h
        have k12 := c_X3_text e11
        obtain ⟨g14, h⟩ := gd_some h
        refine v_callV (st := [vL (w64 (10 * x2))]) cf3 oc5 k12 (lw_V q1327 q1328 q1329 q300 q1330) rfl yk_X3_text ⟨Nat.le_of_ble_eq_true rfl, Nat.le_of_ble_eq_true rfl⟩ trivial ⟨kc12, trivial⟩ (Nat.le_of_ble_eq_true rfl) rfl dX5_small_42 ?_
        refine v_iload dX5_small_45 3 rfl ?_
        obtain ⟨r18, s15, e16, h⟩ := bd_some h
        have k17 := c_X2_at e16 g14 rx4
        have r19 : rg r18 := k17.1.2.2
        refine v_callV (st := [vL (w64 (10 * x2))]) cf2 (okB_ok g14) k17 (lw_V q1331 q1072 q1073 q299 q1074) rfl yk_X2_at ⟨Nat.le_of_ble_eq_true rfl, Nat.le_of_ble_eq_true rfl⟩ trivial ⟨kc12, trivial⟩ (Nat.le_of_ble_eq_true rfl) rfl dX5_small_47 ?_
        refine v_i2l dX5_small_50 r19 ?_
        refine v_ladd dX5_small_51 ?_
        refine v_ldc2 (n := 48) dX5_small_52 q1332 rfl ?_
        refine v_lsub dX5_small_55 ?_
        obtain ⟨y20, e21, h⟩ := vl_some h
        rw [← e21]
        have r22 : rgL y20 := by rw [e21]; exact w64_rg _
        refine v_lstore_n (L1 := [(2, vL y20), (0, vO 12), (1, vI x1), (4, vI x4)]) dX5_small_56 rfl (by decide) rfl ?_
        obtain ⟨y23, e24, h⟩ := vl_some h
        refine v_iinc (L1 := [(4, vI (w32 (x4 + 1))), (2, vL y20), (0, vO 12), (1, vI x1)]) dX5_small_57 3 rfl (by decide) rfl ?_
        rw [← e24]
        have r25 : rg y23 := by rw [e24]; exact w32_rg _
        refine v_goto (tgt := 12) dX5_small_60 (by decide) ?_
        refine v_sub [2, 3, 1, 0] (L1 := [(0, vO 12), (1, vI x1), (2, vL y20), (4, vI y23)]) rfl ?_
        exact ih y20 y23 s15 _ h r22 r25 hE

def f_X5_small (x1 : Int) (s : vS) : Option (Int × vS) :=
  gd (gR s 12 0 = 5) <|
  bd (f_X3_start x1 s) fun r5 s2 =>
  lq_1 (l_X5_small_12 FU x1 0 r5 s2) fun y7 s8 =>
  some (y7, s8)
theorem yk_X5_small : yOk yX5_small 1 := ⟨by decide, by decide, by decide +kernel⟩
theorem c_X5_small {x1 : Int} {s : vS} {out : Int × vS} (h : f_X5_small x1 s = some out)  (rx1 : rg x1) : VC yX5_small cX5_small 5 (some .long) 2 41 [vO 12, vI x1] s (some (vL out.1)) out.2 [] := by
  unfold f_X5_small at h
  refine VC.of RX5 (by decide) rfl (Nat.le_of_ble_eq_true rfl) ?_
  show VW cX5_small (RX5, (some (vL out.1)), out.2, (some .long), 2, 41, 5, []) (P0 []) s 0 [(0, vO 12), (1, vI x1)] []
  refine v_lconst (n := 0) dX5_small_0 rfl ?_
  refine v_lstore_n (L1 := [(2, vL 0), (0, vO 12), (1, vI x1)]) dX5_small_1 rfl (by decide) rfl ?_
  refine v_aload_n dX5_small_2 1 rfl rfl ?_
  obtain ⟨g1, h⟩ := gd_some h
  refine v_getR (f := 0) cf5 oc12 rfl (by rw [g1]; decide) (by decide) q500 dX5_small_3 ?_
  rw [g1]
  refine v_iload_n dX5_small_6 2 rfl rfl ?_
  obtain ⟨r5, s2, e3, h⟩ := bd_some h
  have k4 := c_X3_start e3 rx1
  have r6 : rg r5 := k4.1.2.2
  refine v_callV (st := []) cf3 oc5 k4 (lw_V q1287 q1288 q1289 q300 q1290) rfl yk_X3_start ⟨Nat.le_of_ble_eq_true rfl, Nat.le_of_ble_eq_true rfl⟩ trivial ⟨kc12, trivial⟩ (Nat.le_of_ble_eq_true rfl) rfl dX5_small_7 ?_
  refine v_istore (L1 := [(4, vI r5), (2, vL 0), (0, vO 12), (1, vI x1)]) dX5_small_10 (by decide) rfl ?_
  refine v_sub [2, 3, 1, 0] (L1 := [(0, vO 12), (1, vI x1), (2, vL 0), (4, vI r5)]) rfl ?_
  obtain ⟨y7, s8, e9, h⟩ := lq_1_some h
  refine wl_X5_small_12 rx1 FU 0 r5 s2 _ e9 (rglL rfl) r6 ?_
  unfold E_X5_small_12
  intro y7' s8' z_ r10
  cases z_
  refine v_lload_n dX5_small_63 0 rfl rfl ?_
  cases h
  exact v_lret r10 dX5_small_64

def j_X5_tag_114 (x1 : Int) (s : vS) : Option (Int × vS) :=
  bd (f_X5_unfit s) fun r4 s1 =>
  some (x1, s1)
theorem wj_X5_tag_114 {x1 : Int} {s : vS} {out : Int × vS} (h : j_X5_tag_114 x1 s = some out)  (rx1 : rg x1) : VW cX5_tag (RX5, (some (vI out.1)), out.2, (some .int), 5, 104, 5, []) (P0 []) s 114 [(0, vO 12), (1, vI x1)] [] := by
  unfold j_X5_tag_114 at h
  refine v_aload_n dX5_tag_114 0 rfl rfl ?_
  obtain ⟨r4, s1, e2, h⟩ := bd_some h
  have k3 := c_X5_unfit e2
  have r5 : rg r4 := k3.1.2.2
  refine v_callV (st := []) cf5 oc12 k3 (lw_V q1272 q1274 qs19 q302 q1275) rfl yk_X5_unfit ⟨Nat.le_of_ble_eq_true rfl, Nat.le_of_ble_eq_true rfl⟩ trivial ⟨kc12, trivial⟩ (Nat.le_of_ble_eq_true rfl) rfl dX5_tag_115 ?_
  refine v_popI dX5_tag_118 ?_
  refine v_iload_n dX5_tag_119 1 rfl rfl ?_
  cases h
  exact v_iret rx1 dX5_tag_120

def j_X5_tag_97 (x1 : Int) (z0 : Int) (s : vS) : Option (Int × vS) :=
  bd (f_X5_is 2 s) fun r4 s1 =>
  if r4 = 0 then
    j_X5_tag_114 x1 s1
  else
    if (cmp64 z0 268435455) ≤ 0 then
      bdv (f_X4_set x1 6 (w32 z0) s1) fun s8 =>
      stp (sI s8 12 2 (w32 ((gI s8 12 2) + 1))) fun s11 =>
      bd (f_X5_take 18 s11) fun r16 s13 =>
      bd (f_X5_may 134 s13) fun r21 s18 =>
      if r21 = 0 then
        bd (f_X5_may 123 s18) fun r27 s24 =>
        if r27 = 0 then
          some (x1, s24)
        else
          bdv (f_X4_set x1 7 2 s24) fun s30 =>
          some (x1, s30)
      else
        bdv (f_X4_set x1 7 1 s18) fun s33 =>
        some (x1, s33)
    else
      j_X5_tag_114 x1 s1
theorem wj_X5_tag_97 {x1 : Int} {z0 : Int} {s : vS} {out : Int × vS} (h : j_X5_tag_97 x1 z0 s = some out)  (rx1 : rg x1) (rz0 : rgL z0) : VW cX5_tag (RX5, (some (vI out.1)), out.2, (some .int), 5, 104, 5, []) (P0 []) s 97 [(0, vO 12), (1, vI x1)] [vL z0] := by
  unfold j_X5_tag_97 at h
  refine v_lstore_n (L1 := [(3, vL z0), (0, vO 12), (1, vI x1)]) dX5_tag_97 rfl (by decide) rfl ?_
  refine v_aload_n dX5_tag_98 1 rfl rfl ?_
  refine v_iconst dX5_tag_99 ?_
  obtain ⟨r4, s1, e2, h⟩ := bd_some h
  have k3 := c_X5_is e2 (rgl rfl)
  have r5 : rg r4 := k3.1.2.2
  refine v_callV (st := []) cf5 oc12 k3 (lw_V q1264 q1266 qs18 q302 q1267) rfl yk_X5_is ⟨Nat.le_of_ble_eq_true rfl, Nat.le_of_ble_eq_true rfl⟩ trivial ⟨kc12, trivial⟩ (Nat.le_of_ble_eq_true rfl) rfl dX5_tag_100 ?_
  refine v_if_eq (tgt := 114) dX5_tag_103 r5 (by decide) (fun c6 => ?_) (fun c6 => ?_)
  · rw [if_pos c6] at h
    refine v_sub [1, 2] (L1 := [(0, vO 12), (1, vI x1)]) rfl ?_
    exact wj_X5_tag_114 h rx1
  · rw [if_neg c6] at h
    refine v_lload_n dX5_tag_106 0 rfl rfl ?_
    refine v_ldc2 (n := 268435455) dX5_tag_107 q1333 rfl ?_
    refine v_lcmp dX5_tag_110 rz0 (rglL rfl) ?_
    refine v_if_le (tgt := 121) dX5_tag_111 (cmp64_rg _ _) (by decide) (fun c7 => ?_) (fun c7 => ?_)
    · rw [if_pos c7] at h
      refine v_aload_n dX5_tag_121 1 rfl rfl ?_
      refine v_getS (f := 1) (t := 10) cf5 oc12 rfl rfl rfl (by decide) q501 dX5_tag_122 ?_
      refine v_iload_n dX5_tag_125 2 rfl rfl ?_
      refine v_bipush dX5_tag_126 rfl ?_
      refine v_lload_n dX5_tag_128 0 rfl rfl ?_
      refine v_l2i dX5_tag_129 ?_
      obtain ⟨s8, e9, h⟩ := bdv_some h
      have k10 := c_X4_set e9 rx1 (rgl rfl) (w32_rg _)
      refine v_callV (st := []) cf4 oc10 k10 (lw_V q1316 q1305 q1306 q301 q1307) rfl yk_X4_set ⟨Nat.le_of_ble_eq_true rfl, Nat.le_of_ble_eq_true rfl⟩ trivial ⟨kc12, trivial⟩ (Nat.le_of_ble_eq_true rfl) rfl dX5_tag_130 ?_
      refine v_aload_n dX5_tag_133 1 rfl rfl ?_
      refine v_dupO dX5_tag_134 ?_
      refine v_getI (f := 2) cf5 oc12 rfl (by decide) q502 dX5_tag_135 ?_
      refine v_iconst dX5_tag_138 ?_
      refine v_iadd dX5_tag_139 ?_
      obtain ⟨s11, e12, h⟩ := stp_some h
      refine v_putI (f := 2) cf5 oc12 rfl (by decide) q502 dX5_tag_140 rfl rfl ?_
      rw [← e12]
      refine v_aload_n dX5_tag_143 1 rfl rfl ?_
      refine v_bipush dX5_tag_144 rfl ?_
      obtain ⟨r16, s13, e14, h⟩ := bd_some h
      have k15 := c_X5_take e14 (rgl rfl)
      have r17 : rg r16 := k15.1.2.2
      refine v_callV (st := []) cf5 oc12 k15 (lw_V q1260 q1262 qs17 q302 q1263) rfl yk_X5_take ⟨Nat.le_of_ble_eq_true rfl, Nat.le_of_ble_eq_true rfl⟩ trivial ⟨kc12, trivial⟩ (Nat.le_of_ble_eq_true rfl) rfl dX5_tag_146 ?_
      refine v_popI dX5_tag_149 ?_
      refine v_aload_n dX5_tag_150 1 rfl rfl ?_
      refine v_sipush dX5_tag_151 rfl ?_
      obtain ⟨r21, s18, e19, h⟩ := bd_some h
      have k20 := c_X5_may e19 (rgl rfl)
      have r22 : rg r21 := k20.1.2.2
      refine v_callV (st := []) cf5 oc12 k20 (lw_V q1291 q1293 qs22 q302 q1294) rfl yk_X5_may ⟨Nat.le_of_ble_eq_true rfl, Nat.le_of_ble_eq_true rfl⟩ trivial ⟨kc12, trivial⟩ (Nat.le_of_ble_eq_true rfl) rfl dX5_tag_154 ?_
      refine v_if_eq (tgt := 174) dX5_tag_157 r22 (by decide) (fun c23 => ?_) (fun c23 => ?_)
      · rw [if_pos c23] at h
        refine v_aload_n dX5_tag_174 1 rfl rfl ?_
        refine v_bipush dX5_tag_175 rfl ?_
        obtain ⟨r27, s24, e25, h⟩ := bd_some h
        have k26 := c_X5_may e25 (rgl rfl)
        have r28 : rg r27 := k26.1.2.2
        refine v_callV (st := []) cf5 oc12 k26 (lw_V q1291 q1293 qs22 q302 q1294) rfl yk_X5_may ⟨Nat.le_of_ble_eq_true rfl, Nat.le_of_ble_eq_true rfl⟩ trivial ⟨kc12, trivial⟩ (Nat.le_of_ble_eq_true rfl) rfl dX5_tag_177 ?_
        refine v_if_eq (tgt := 194) dX5_tag_180 r28 (by decide) (fun c29 => ?_) (fun c29 => ?_)
        · rw [if_pos c29] at h
          refine v_iload_n dX5_tag_194 2 rfl rfl ?_
          cases h
          exact v_iret rx1 dX5_tag_195
        · rw [if_neg c29] at h
          refine v_aload_n dX5_tag_183 1 rfl rfl ?_
          refine v_getS (f := 1) (t := 10) cf5 oc12 rfl rfl rfl (by decide) q501 dX5_tag_184 ?_
          refine v_iload_n dX5_tag_187 2 rfl rfl ?_
          refine v_bipush dX5_tag_188 rfl ?_
          refine v_iconst dX5_tag_190 ?_
          obtain ⟨s30, e31, h⟩ := bdv_some h
          have k32 := c_X4_set e31 rx1 (rgl rfl) (rgl rfl)
          refine v_callV (st := []) cf4 oc10 k32 (lw_V q1316 q1305 q1306 q301 q1307) rfl yk_X4_set ⟨Nat.le_of_ble_eq_true rfl, Nat.le_of_ble_eq_true rfl⟩ trivial ⟨kc12, trivial⟩ (Nat.le_of_ble_eq_true rfl) rfl dX5_tag_191 ?_
          refine v_iload_n dX5_tag_194 2 rfl rfl ?_
          cases h
          exact v_iret rx1 dX5_tag_195
      · rw [if_neg c23] at h
        refine v_aload_n dX5_tag_160 1 rfl rfl ?_
        refine v_getS (f := 1) (t := 10) cf5 oc12 rfl rfl rfl (by decide) q501 dX5_tag_161 ?_
        refine v_iload_n dX5_tag_164 2 rfl rfl ?_
        refine v_bipush dX5_tag_165 rfl ?_
        refine v_iconst dX5_tag_167 ?_
        obtain ⟨s33, e34, h⟩ := bdv_some h
        have k35 := c_X4_set e34 rx1 (rgl rfl) (rgl rfl)
        refine v_callV (st := []) cf4 oc10 k35 (lw_V q1316 q1305 q1306 q301 q1307) rfl yk_X4_set ⟨Nat.le_of_ble_eq_true rfl, Nat.le_of_ble_eq_true rfl⟩ trivial ⟨kc12, trivial⟩ (Nat.le_of_ble_eq_true rfl) rfl dX5_tag_168 ?_
        refine v_goto (tgt := 194) dX5_tag_171 (by decide) ?_
        refine v_iload_n dX5_tag_194 2 rfl rfl ?_
        cases h
        exact v_iret rx1 dX5_tag_195
    · rw [if_neg c7] at h
      refine v_sub [1, 2] (L1 := [(0, vO 12), (1, vI x1)]) rfl ?_
      exact wj_X5_tag_114 h rx1

def j_X5_tag_67 (x1 : Int) (x2 : Int) (s : vS) : Option (Int × vS) :=
  bdv (f_X4_set x1 5 x2 s) fun s1 =>
  bd (f_X5_is 2 s1) fun r7 s4 =>
  if r7 = 0 then
    j_X5_tag_97 x1 0 s4
  else
    bd (f_X5_small (gI s4 12 2) s4) fun r13 s10 =>
    j_X5_tag_97 x1 r13 s10
theorem wj_X5_tag_67 {x1 : Int} {x2 : Int} {s : vS} {out : Int × vS} (h : j_X5_tag_67 x1 x2 s = some out)  (rx1 : rg x1) (rx2 : rg x2) : VW cX5_tag (RX5, (some (vI out.1)), out.2, (some .int), 5, 104, 5, []) (P0 []) s 67 [(0, vO 12), (1, vI x1), (2, vI x2)] [] := by
  unfold j_X5_tag_67 at h
  refine v_aload_n dX5_tag_67 0 rfl rfl ?_
  refine v_getS (f := 1) (t := 10) cf5 oc12 rfl rfl rfl (by decide) q501 dX5_tag_68 ?_
  refine v_iload_n dX5_tag_71 1 rfl rfl ?_
  refine v_iconst dX5_tag_72 ?_
  refine v_iload_n dX5_tag_73 2 rfl rfl ?_
  obtain ⟨s1, e2, h⟩ := bdv_some h
  have k3 := c_X4_set e2 rx1 (rgl rfl) rx2
  refine v_callV (st := []) cf4 oc10 k3 (lw_V q1316 q1305 q1306 q301 q1307) rfl yk_X4_set ⟨Nat.le_of_ble_eq_true rfl, Nat.le_of_ble_eq_true rfl⟩ trivial ⟨kc12, trivial⟩ (Nat.le_of_ble_eq_true rfl) rfl dX5_tag_74 ?_
  refine v_aload_n dX5_tag_77 0 rfl rfl ?_
  refine v_iconst dX5_tag_78 ?_
  obtain ⟨r7, s4, e5, h⟩ := bd_some h
  have k6 := c_X5_is e5 (rgl rfl)
  have r8 : rg r7 := k6.1.2.2
  refine v_callV (st := []) cf5 oc12 k6 (lw_V q1264 q1266 qs18 q302 q1267) rfl yk_X5_is ⟨Nat.le_of_ble_eq_true rfl, Nat.le_of_ble_eq_true rfl⟩ trivial ⟨kc12, trivial⟩ (Nat.le_of_ble_eq_true rfl) rfl dX5_tag_79 ?_
  refine v_if_eq (tgt := 96) dX5_tag_82 r8 (by decide) (fun c9 => ?_) (fun c9 => ?_)
  · rw [if_pos c9] at h
    refine v_lconst (n := 0) dX5_tag_96 rfl ?_
    refine v_sub [0, 1] (L1 := [(0, vO 12), (1, vI x1)]) rfl ?_
    exact wj_X5_tag_97 h rx1 (rglL rfl)
  · rw [if_neg c9] at h
    refine v_aload_n dX5_tag_85 0 rfl rfl ?_
    refine v_aload_n dX5_tag_86 0 rfl rfl ?_
    refine v_getI (f := 2) cf5 oc12 rfl (by decide) q502 dX5_tag_87 ?_
    obtain ⟨r13, s10, e11, h⟩ := bd_some h
    have k12 := c_X5_small e11 (gI_rg _ _ _)
    have r14 : rgL r13 := k12.1.2.2
    refine v_callV (st := []) cf5 oc12 k12 (lw_V q1317 q1319 qs26 q302 q1320) rfl yk_X5_small ⟨Nat.le_of_ble_eq_true rfl, Nat.le_of_ble_eq_true rfl⟩ trivial ⟨kc12, trivial⟩ (Nat.le_of_ble_eq_true rfl) rfl dX5_tag_90 ?_
    refine v_goto (tgt := 97) dX5_tag_93 (by decide) ?_
    refine v_sub [0, 1] (L1 := [(0, vO 12), (1, vI x1)]) rfl ?_
    exact wj_X5_tag_97 h rx1 r14

def f_X5_tag (s : vS) : Option (Int × vS) :=
  bd (f_X4_add 20 (gI s 12 2) s) fun r4 s1 =>
  stp (sI s1 12 2 (w32 ((gI s1 12 2) + 1))) fun s6 =>
  bd (f_X5_may 170 s6) fun r11 s8 =>
  if r11 = 0 then
    bd (f_X5_may 103 s8) fun r17 s14 =>
    if r17 = 0 then
      bd (f_X5_may 155 s14) fun r23 s20 =>
      if r23 = 0 then
        j_X5_tag_67 r4 2 s20
      else
        j_X5_tag_67 r4 3 s20
    else
      j_X5_tag_67 r4 1 s14
  else
    j_X5_tag_67 r4 0 s8
theorem yk_X5_tag : yOk yX5_tag 0 := ⟨by decide, by decide, by decide +kernel⟩
theorem c_X5_tag {s : vS} {out : Int × vS} (h : f_X5_tag s = some out)   : VC yX5_tag cX5_tag 5 (some .int) 5 104 [vO 12] s (some (vI out.1)) out.2 [] := by
  unfold f_X5_tag at h
  refine VC.of RX5 (by decide) rfl (Nat.le_of_ble_eq_true rfl) ?_
  show VW cX5_tag (RX5, (some (vI out.1)), out.2, (some .int), 5, 104, 5, []) (P0 []) s 0 [(0, vO 12)] []
  refine v_aload_n dX5_tag_0 0 rfl rfl ?_
  refine v_getS (f := 1) (t := 10) cf5 oc12 rfl rfl rfl (by decide) q501 dX5_tag_1 ?_
  refine v_bipush dX5_tag_4 rfl ?_
  refine v_aload_n dX5_tag_6 0 rfl rfl ?_
  refine v_getI (f := 2) cf5 oc12 rfl (by decide) q502 dX5_tag_7 ?_
  obtain ⟨r4, s1, e2, h⟩ := bd_some h
  have k3 := c_X4_add e2 (rgl rfl) (gI_rg _ _ _)
  have r5 : rg r4 := k3.1.2.2
  refine v_callV (st := []) cf4 oc10 k3 (lw_V q1299 q1300 q1301 q301 q1302) rfl yk_X4_add ⟨Nat.le_of_ble_eq_true rfl, Nat.le_of_ble_eq_true rfl⟩ trivial ⟨kc12, trivial⟩ (Nat.le_of_ble_eq_true rfl) rfl dX5_tag_10 ?_
  refine v_istore_n (L1 := [(1, vI r4), (0, vO 12)]) dX5_tag_13 rfl (by decide) rfl ?_
  refine v_aload_n dX5_tag_14 1 rfl rfl ?_
  refine v_dupO dX5_tag_15 ?_
  refine v_getI (f := 2) cf5 oc12 rfl (by decide) q502 dX5_tag_16 ?_
  refine v_iconst dX5_tag_19 ?_
  refine v_iadd dX5_tag_20 ?_
  obtain ⟨s6, e7, h⟩ := stp_some h
  refine v_putI (f := 2) cf5 oc12 rfl (by decide) q502 dX5_tag_21 rfl rfl ?_
  rw [← e7]
  refine v_iconst dX5_tag_24 ?_
  refine v_istore_n (L1 := [(2, vI 2), (1, vI r4), (0, vO 12)]) dX5_tag_25 rfl (by decide) rfl ?_
  refine v_aload_n dX5_tag_26 2 rfl rfl ?_
  refine v_sipush dX5_tag_27 rfl ?_
  obtain ⟨r11, s8, e9, h⟩ := bd_some h
  have k10 := c_X5_may e9 (rgl rfl)
  have r12 : rg r11 := k10.1.2.2
  refine v_callV (st := []) cf5 oc12 k10 (lw_V q1291 q1293 qs22 q302 q1294) rfl yk_X5_may ⟨Nat.le_of_ble_eq_true rfl, Nat.le_of_ble_eq_true rfl⟩ trivial ⟨kc12, trivial⟩ (Nat.le_of_ble_eq_true rfl) rfl dX5_tag_30 ?_
  refine v_if_eq (tgt := 41) dX5_tag_33 r12 (by decide) (fun c13 => ?_) (fun c13 => ?_)
  · rw [if_pos c13] at h
    refine v_aload_n dX5_tag_41 2 rfl rfl ?_
    refine v_bipush dX5_tag_42 rfl ?_
    obtain ⟨r17, s14, e15, h⟩ := bd_some h
    have k16 := c_X5_may e15 (rgl rfl)
    have r18 : rg r17 := k16.1.2.2
    refine v_callV (st := []) cf5 oc12 k16 (lw_V q1291 q1293 qs22 q302 q1294) rfl yk_X5_may ⟨Nat.le_of_ble_eq_true rfl, Nat.le_of_ble_eq_true rfl⟩ trivial ⟨kc12, trivial⟩ (Nat.le_of_ble_eq_true rfl) rfl dX5_tag_44 ?_
    refine v_if_eq (tgt := 55) dX5_tag_47 r18 (by decide) (fun c19 => ?_) (fun c19 => ?_)
    · rw [if_pos c19] at h
      refine v_aload_n dX5_tag_55 2 rfl rfl ?_
      refine v_sipush dX5_tag_56 rfl ?_
      obtain ⟨r23, s20, e21, h⟩ := bd_some h
      have k22 := c_X5_may e21 (rgl rfl)
      have r24 : rg r23 := k22.1.2.2
      refine v_callV (st := []) cf5 oc12 k22 (lw_V q1291 q1293 qs22 q302 q1294) rfl yk_X5_may ⟨Nat.le_of_ble_eq_true rfl, Nat.le_of_ble_eq_true rfl⟩ trivial ⟨kc12, trivial⟩ (Nat.le_of_ble_eq_true rfl) rfl dX5_tag_59 ?_
      refine v_if_eq (tgt := 67) dX5_tag_62 r24 (by decide) (fun c25 => ?_) (fun c25 => ?_)
      · rw [if_pos c25] at h
        refine v_sub [2, 1, 0] (L1 := [(0, vO 12), (1, vI r4), (2, vI 2)]) rfl ?_
        exact wj_X5_tag_67 h r5 (rgl rfl)
      · rw [if_neg c25] at h
        refine v_iconst dX5_tag_65 ?_
        refine v_istore_n (L1 := [(2, vI 3), (1, vI r4), (0, vO 12)]) dX5_tag_66 rfl (by decide) rfl ?_
        refine v_sub [2, 1, 0] (L1 := [(0, vO 12), (1, vI r4), (2, vI 3)]) rfl ?_
        exact wj_X5_tag_67 h r5 (rgl rfl)
    · rw [if_neg c19] at h
      refine v_iconst dX5_tag_50 ?_
      refine v_istore_n (L1 := [(2, vI 1), (1, vI r4), (0, vO 12)]) dX5_tag_51 rfl (by decide) rfl ?_
      refine v_goto (tgt := 67) dX5_tag_52 (by decide) ?_
      refine v_sub [2, 1, 0] (L1 := [(0, vO 12), (1, vI r4), (2, vI 1)]) rfl ?_
      exact wj_X5_tag_67 h r5 (rgl rfl)
  · rw [if_neg c13] at h
    refine v_iconst dX5_tag_36 ?_
    refine v_istore_n (L1 := [(2, vI 0), (1, vI r4), (0, vO 12)]) dX5_tag_37 rfl (by decide) rfl ?_
    refine v_goto (tgt := 67) dX5_tag_38 (by decide) ?_
    refine v_sub [2, 1, 0] (L1 := [(0, vO 12), (1, vI r4), (2, vI 0)]) rfl ?_
    exact wj_X5_tag_67 h r5 (rgl rfl)

def f_X4_chain (x1 : Int) (x2 : Int) (x3 : Int) (x4 : Int) (s : vS) : Option (Int × vS) :=
  if x3 = (-1) then
    bdv (f_X4_set x1 x2 x4 s) fun s5 =>
    some (x4, s5)
  else
    bdv (f_X4_set x3 8 x4 s) fun s2 =>
    some (x4, s2)
theorem yk_X4_chain : yOk yX4_chain 4 := ⟨by decide, by decide, by decide +kernel⟩
theorem c_X4_chain {x1 : Int} {x2 : Int} {x3 : Int} {x4 : Int} {s : vS} {out : Int × vS} (h : f_X4_chain x1 x2 x3 x4 s = some out)  (rx1 : rg x1) (rx2 : rg x2) (rx3 : rg x3) (rx4 : rg x4) : VC yX4_chain cX4_chain 5 (some .int) 1 23 [vO 10, vI x1, vI x2, vI x3, vI x4] s (some (vI out.1)) out.2 [] := by
  unfold f_X4_chain at h
  refine VC.of RX4 (by decide) rfl (Nat.le_of_ble_eq_true rfl) ?_
  show VW cX4_chain (RX4, (some (vI out.1)), out.2, (some .int), 1, 23, 5, []) (P0 []) s 0 [(0, vO 10), (1, vI x1), (2, vI x2), (3, vI x3), (4, vI x4)] []
  refine v_iload_n dX4_chain_0 3 rfl rfl ?_
  refine v_iconst dX4_chain_1 ?_
  refine v_icmp_ne (tgt := 16) dX4_chain_2 rx3 (rgl rfl) (by decide) (fun c1 => ?_) (fun c1 => ?_)
  · rw [if_neg c1] at h
    refine v_aload_n dX4_chain_16 0 rfl rfl ?_
    refine v_iload_n dX4_chain_17 3 rfl rfl ?_
    refine v_bipush dX4_chain_18 rfl ?_
    refine v_iload dX4_chain_20 4 rfl ?_
    obtain ⟨s2, e3, h⟩ := bdv_some h
    have k4 := c_X4_set e3 rx3 (rgl rfl) rx4
    refine v_callV (st := []) cf4 oc10 k4 (lw_V q1304 q1305 q1306 q301 q1307) rfl yk_X4_set ⟨Nat.le_of_ble_eq_true rfl, Nat.le_of_ble_eq_true rfl⟩ trivial ⟨kc10, trivial⟩ (Nat.le_of_ble_eq_true rfl) rfl dX4_chain_22 ?_
    refine v_iload dX4_chain_25 4 rfl ?_
    cases h
    exact v_iret rx4 dX4_chain_27
  · rw [if_pos c1] at h
    refine v_aload_n dX4_chain_5 0 rfl rfl ?_
    refine v_iload_n dX4_chain_6 1 rfl rfl ?_
    refine v_iload_n dX4_chain_7 2 rfl rfl ?_
    refine v_iload dX4_chain_8 4 rfl ?_
    obtain ⟨s5, e6, h⟩ := bdv_some h
    have k7 := c_X4_set e6 rx1 rx2 rx4
    refine v_callV (st := []) cf4 oc10 k7 (lw_V q1304 q1305 q1306 q301 q1307) rfl yk_X4_set ⟨Nat.le_of_ble_eq_true rfl, Nat.le_of_ble_eq_true rfl⟩ trivial ⟨kc10, trivial⟩ (Nat.le_of_ble_eq_true rfl) rfl dX4_chain_10 ?_
    refine v_goto (tgt := 25) dX4_chain_13 (by decide) ?_
    refine v_iload dX4_chain_25 4 rfl ?_
    cases h
    exact v_iret rx4 dX4_chain_27

def j_X5_item_107 (x2 : Int) (s : vS) : Option (Int × vS) :=
  bdv (f_X4_set x2 5 (gI s 12 2) s) fun s1 =>
  bd (f_X5_take 2 s1) fun r7 s4 =>
  if r7 = 0 then
    some (x2, s4)
  else
    bd (f_X5_take 20 s4) fun r13 s10 =>
    some (x2, s10)
theorem wj_X5_item_107 {x2 : Int} {s : vS} {out : Int × vS} (h : j_X5_item_107 x2 s = some out)  (rx2 : rg x2) : VW cX5_item (RX5, (some (vI out.1)), out.2, (some .int), 5, 104, 3, []) (P0 []) s 107 [(0, vO 12), (2, vI x2)] [] := by
  unfold j_X5_item_107 at h
  refine v_aload_n dX5_item_107 0 rfl rfl ?_
  refine v_getS (f := 1) (t := 10) cf5 oc12 rfl rfl rfl (by decide) q501 dX5_item_108 ?_
  refine v_iload_n dX5_item_111 1 rfl rfl ?_
  refine v_iconst dX5_item_112 ?_
  refine v_aload_n dX5_item_113 0 rfl rfl ?_
  refine v_getI (f := 2) cf5 oc12 rfl (by decide) q502 dX5_item_114 ?_
  obtain ⟨s1, e2, h⟩ := bdv_some h
  have k3 := c_X4_set e2 rx2 (rgl rfl) (gI_rg _ _ _)
  refine v_callV (st := []) cf4 oc10 k3 (lw_V q1316 q1305 q1306 q301 q1307) rfl yk_X4_set ⟨Nat.le_of_ble_eq_true rfl, Nat.le_of_ble_eq_true rfl⟩ trivial ⟨kc12, trivial⟩ (Nat.le_of_ble_eq_true rfl) rfl dX5_item_117 ?_
  refine v_aload_n dX5_item_120 0 rfl rfl ?_
  refine v_iconst dX5_item_121 ?_
  obtain ⟨r7, s4, e5, h⟩ := bd_some h
  have k6 := c_X5_take e5 (rgl rfl)
  have r8 : rg r7 := k6.1.2.2
  refine v_callV (st := []) cf5 oc12 k6 (lw_V q1260 q1262 qs17 q302 q1263) rfl yk_X5_take ⟨Nat.le_of_ble_eq_true rfl, Nat.le_of_ble_eq_true rfl⟩ trivial ⟨kc12, trivial⟩ (Nat.le_of_ble_eq_true rfl) rfl dX5_item_122 ?_
  refine v_if_eq (tgt := 135) dX5_item_125 r8 (by decide) (fun c9 => ?_) (fun c9 => ?_)
  · rw [if_pos c9] at h
    refine v_iload_n dX5_item_135 1 rfl rfl ?_
    cases h
    exact v_iret rx2 dX5_item_136
  · rw [if_neg c9] at h
    refine v_aload_n dX5_item_128 0 rfl rfl ?_
    refine v_bipush dX5_item_129 rfl ?_
    obtain ⟨r13, s10, e11, h⟩ := bd_some h
    have k12 := c_X5_take e11 (rgl rfl)
    have r14 : rg r13 := k12.1.2.2
    refine v_callV (st := []) cf5 oc12 k12 (lw_V q1260 q1262 qs17 q302 q1263) rfl yk_X5_take ⟨Nat.le_of_ble_eq_true rfl, Nat.le_of_ble_eq_true rfl⟩ trivial ⟨kc12, trivial⟩ (Nat.le_of_ble_eq_true rfl) rfl dX5_item_131 ?_
    refine v_popI dX5_item_134 ?_
    refine v_iload_n dX5_item_135 1 rfl rfl ?_
    cases h
    exact v_iret rx2 dX5_item_136

def j_X5_item_74 (x1 : Int) (x2 : Int) (s : vS) : Option (Int × vS) :=
  bd (f_X5_is 2 s) fun r4 s1 =>
  if r4 = 0 then
    j_X5_item_107 x2 s1
  else
    if x1 = 4 then
      bd (f_X5_small (gI s1 12 2) s1) fun r11 s8 =>
      if (cmp64 r11 63) ≤ 0 then
        j_X5_item_107 x2 s8
      else
        bd (f_X5_unfit s8) fun r17 s14 =>
        j_X5_item_107 x2 s14
    else
      j_X5_item_107 x2 s1
theorem wj_X5_item_74 {x1 : Int} {x2 : Int} {s : vS} {out : Int × vS} (h : j_X5_item_74 x1 x2 s = some out)  (rx1 : rg x1) (rx2 : rg x2) : VW cX5_item (RX5, (some (vI out.1)), out.2, (some .int), 5, 104, 3, []) (P0 []) s 74 [(0, vO 12), (1, vI x1), (2, vI x2)] [] := by
  unfold j_X5_item_74 at h
  refine v_aload_n dX5_item_74 0 rfl rfl ?_
  refine v_iconst dX5_item_75 ?_
  obtain ⟨r4, s1, e2, h⟩ := bd_some h
  have k3 := c_X5_is e2 (rgl rfl)
  have r5 : rg r4 := k3.1.2.2
  refine v_callV (st := []) cf5 oc12 k3 (lw_V q1264 q1266 qs18 q302 q1267) rfl yk_X5_is ⟨Nat.le_of_ble_eq_true rfl, Nat.le_of_ble_eq_true rfl⟩ trivial ⟨kc12, trivial⟩ (Nat.le_of_ble_eq_true rfl) rfl dX5_item_76 ?_
  refine v_if_eq (tgt := 107) dX5_item_79 r5 (by decide) (fun c6 => ?_) (fun c6 => ?_)
  · rw [if_pos c6] at h
    refine v_sub [0, 2] (L1 := [(0, vO 12), (2, vI x2)]) rfl ?_
    exact wj_X5_item_107 h rx2
  · rw [if_neg c6] at h
    refine v_iload_n dX5_item_82 1 rfl rfl ?_
    refine v_iconst dX5_item_83 ?_
    refine v_icmp_ne (tgt := 107) dX5_item_84 rx1 (rgl rfl) (by decide) (fun c7 => ?_) (fun c7 => ?_)
    · rw [if_neg c7] at h
      refine v_sub [0, 2] (L1 := [(0, vO 12), (2, vI x2)]) rfl ?_
      exact wj_X5_item_107 h rx2
    · rw [if_pos c7] at h
      refine v_aload_n dX5_item_87 0 rfl rfl ?_
      refine v_aload_n dX5_item_88 0 rfl rfl ?_
      refine v_getI (f := 2) cf5 oc12 rfl (by decide) q502 dX5_item_89 ?_
      obtain ⟨r11, s8, e9, h⟩ := bd_some h
      have k10 := c_X5_small e9 (gI_rg _ _ _)
      have r12 : rgL r11 := k10.1.2.2
      refine v_callV (st := []) cf5 oc12 k10 (lw_V q1317 q1319 qs26 q302 q1320) rfl yk_X5_small ⟨Nat.le_of_ble_eq_true rfl, Nat.le_of_ble_eq_true rfl⟩ trivial ⟨kc12, trivial⟩ (Nat.le_of_ble_eq_true rfl) rfl dX5_item_92 ?_
      refine v_ldc2 (n := 63) dX5_item_95 q1354 rfl ?_
      refine v_lcmp dX5_item_98 r12 (rglL rfl) ?_
      refine v_if_le (tgt := 107) dX5_item_99 (cmp64_rg _ _) (by decide) (fun c13 => ?_) (fun c13 => ?_)
      · rw [if_pos c13] at h
        refine v_sub [0, 2] (L1 := [(0, vO 12), (2, vI x2)]) rfl ?_
        exact wj_X5_item_107 h rx2
      · rw [if_neg c13] at h
        refine v_aload_n dX5_item_102 0 rfl rfl ?_
        obtain ⟨r17, s14, e15, h⟩ := bd_some h
        have k16 := c_X5_unfit e15
        have r18 : rg r17 := k16.1.2.2
        refine v_callV (st := []) cf5 oc12 k16 (lw_V q1272 q1274 qs19 q302 q1275) rfl yk_X5_unfit ⟨Nat.le_of_ble_eq_true rfl, Nat.le_of_ble_eq_true rfl⟩ trivial ⟨kc12, trivial⟩ (Nat.le_of_ble_eq_true rfl) rfl dX5_item_103 ?_
        refine v_popI dX5_item_106 ?_
        refine v_sub [0, 2] (L1 := [(0, vO 12), (2, vI x2)]) rfl ?_
        exact wj_X5_item_107 h rx2

def j_X5_item_38 (x1 : Int) (x2 : Int) (s : vS) : Option (Int × vS) :=
  bd (f_X5_take 19 s) fun r4 s1 =>
  if r4 = 0 then
    some (x2, s1)
  else
    if x1 = 4 then
      j_X5_item_74 x1 x2 s1
    else
      bd (f_X5_may 25 s1) fun r11 s8 =>
      if r11 = 0 then
        j_X5_item_74 x1 x2 s8
      else
        bdv (f_X4_set x2 6 1 s8) fun s14 =>
        j_X5_item_74 x1 x2 s14
theorem wj_X5_item_38 {x1 : Int} {x2 : Int} {s : vS} {out : Int × vS} (h : j_X5_item_38 x1 x2 s = some out)  (rx1 : rg x1) (rx2 : rg x2) : VW cX5_item (RX5, (some (vI out.1)), out.2, (some .int), 5, 104, 3, []) (P0 []) s 38 [(0, vO 12), (1, vI x1), (2, vI x2)] [] := by
  unfold j_X5_item_38 at h
  refine v_aload_n dX5_item_38 0 rfl rfl ?_
  refine v_bipush dX5_item_39 rfl ?_
  obtain ⟨r4, s1, e2, h⟩ := bd_some h
  have k3 := c_X5_take e2 (rgl rfl)
  have r5 : rg r4 := k3.1.2.2
  refine v_callV (st := []) cf5 oc12 k3 (lw_V q1260 q1262 qs17 q302 q1263) rfl yk_X5_take ⟨Nat.le_of_ble_eq_true rfl, Nat.le_of_ble_eq_true rfl⟩ trivial ⟨kc12, trivial⟩ (Nat.le_of_ble_eq_true rfl) rfl dX5_item_41 ?_
  refine v_if_ne (tgt := 49) dX5_item_44 r5 (by decide) (fun c6 => ?_) (fun c6 => ?_)
  · rw [if_neg c6] at h
    refine v_iload_n dX5_item_49 1 rfl rfl ?_
    refine v_iconst dX5_item_50 ?_
    refine v_icmp_eq (tgt := 74) dX5_item_51 rx1 (rgl rfl) (by decide) (fun c7 => ?_) (fun c7 => ?_)
    · rw [if_pos c7] at h
      exact wj_X5_item_74 h rx1 rx2
    · rw [if_neg c7] at h
      refine v_aload_n dX5_item_54 0 rfl rfl ?_
      refine v_bipush dX5_item_55 rfl ?_
      obtain ⟨r11, s8, e9, h⟩ := bd_some h
      have k10 := c_X5_may e9 (rgl rfl)
      have r12 : rg r11 := k10.1.2.2
      refine v_callV (st := []) cf5 oc12 k10 (lw_V q1291 q1293 qs22 q302 q1294) rfl yk_X5_may ⟨Nat.le_of_ble_eq_true rfl, Nat.le_of_ble_eq_true rfl⟩ trivial ⟨kc12, trivial⟩ (Nat.le_of_ble_eq_true rfl) rfl dX5_item_57 ?_
      refine v_if_eq (tgt := 74) dX5_item_60 r12 (by decide) (fun c13 => ?_) (fun c13 => ?_)
      · rw [if_pos c13] at h
        exact wj_X5_item_74 h rx1 rx2
      · rw [if_neg c13] at h
        refine v_aload_n dX5_item_63 0 rfl rfl ?_
        refine v_getS (f := 1) (t := 10) cf5 oc12 rfl rfl rfl (by decide) q501 dX5_item_64 ?_
        refine v_iload_n dX5_item_67 2 rfl rfl ?_
        refine v_bipush dX5_item_68 rfl ?_
        refine v_iconst dX5_item_70 ?_
        obtain ⟨s14, e15, h⟩ := bdv_some h
        have k16 := c_X4_set e15 rx2 (rgl rfl) (rgl rfl)
        refine v_callV (st := []) cf4 oc10 k16 (lw_V q1316 q1305 q1306 q301 q1307) rfl yk_X4_set ⟨Nat.le_of_ble_eq_true rfl, Nat.le_of_ble_eq_true rfl⟩ trivial ⟨kc12, trivial⟩ (Nat.le_of_ble_eq_true rfl) rfl dX5_item_71 ?_
        exact wj_X5_item_74 h rx1 rx2
  · rw [if_pos c6] at h
    refine v_iload_n dX5_item_47 2 rfl rfl ?_
    cases h
    exact v_iret rx2 dX5_item_48

def f_X5_item (x1 : Int) (s : vS) : Option (Int × vS) :=
  bd (f_X4_add 21 (gI s 12 2) s) fun r4 s1 =>
  bd (f_X5_take 0 s1) fun r9 s6 =>
  if r9 = 0 then
    some (r4, s6)
  else
    if x1 = 3 then
      bd (f_X5_is 19 s6) fun r16 s13 =>
      if r16 = 0 then
        some (r4, s13)
      else
        j_X5_item_38 x1 r4 s13
    else
      j_X5_item_38 x1 r4 s6
theorem yk_X5_item : yOk yX5_item 1 := ⟨by decide, by decide, by decide +kernel⟩
theorem c_X5_item {x1 : Int} {s : vS} {out : Int × vS} (h : f_X5_item x1 s = some out)  (rx1 : rg x1) : VC yX5_item cX5_item 3 (some .int) 5 104 [vO 12, vI x1] s (some (vI out.1)) out.2 [] := by
  unfold f_X5_item at h
  refine VC.of RX5 (by decide) rfl (Nat.le_of_ble_eq_true rfl) ?_
  show VW cX5_item (RX5, (some (vI out.1)), out.2, (some .int), 5, 104, 3, []) (P0 []) s 0 [(0, vO 12), (1, vI x1)] []
  refine v_aload_n dX5_item_0 0 rfl rfl ?_
  refine v_getS (f := 1) (t := 10) cf5 oc12 rfl rfl rfl (by decide) q501 dX5_item_1 ?_
  refine v_bipush dX5_item_4 rfl ?_
  refine v_aload_n dX5_item_6 0 rfl rfl ?_
  refine v_getI (f := 2) cf5 oc12 rfl (by decide) q502 dX5_item_7 ?_
  obtain ⟨r4, s1, e2, h⟩ := bd_some h
  have k3 := c_X4_add e2 (rgl rfl) (gI_rg _ _ _)
  have r5 : rg r4 := k3.1.2.2
  refine v_callV (st := []) cf4 oc10 k3 (lw_V q1299 q1300 q1301 q301 q1302) rfl yk_X4_add ⟨Nat.le_of_ble_eq_true rfl, Nat.le_of_ble_eq_true rfl⟩ trivial ⟨kc12, trivial⟩ (Nat.le_of_ble_eq_true rfl) rfl dX5_item_10 ?_
  refine v_istore_n (L1 := [(2, vI r4), (0, vO 12), (1, vI x1)]) dX5_item_13 rfl (by decide) rfl ?_
  refine v_aload_n dX5_item_14 1 rfl rfl ?_
  refine v_iconst dX5_item_15 ?_
  obtain ⟨r9, s6, e7, h⟩ := bd_some h
  have k8 := c_X5_take e7 (rgl rfl)
  have r10 : rg r9 := k8.1.2.2
  refine v_callV (st := []) cf5 oc12 k8 (lw_V q1260 q1262 qs17 q302 q1263) rfl yk_X5_take ⟨Nat.le_of_ble_eq_true rfl, Nat.le_of_ble_eq_true rfl⟩ trivial ⟨kc12, trivial⟩ (Nat.le_of_ble_eq_true rfl) rfl dX5_item_16 ?_
  refine v_if_eq (tgt := 36) dX5_item_19 r10 (by decide) (fun c11 => ?_) (fun c11 => ?_)
  · rw [if_pos c11] at h
    refine v_iload_n dX5_item_36 0 rfl rfl ?_
    cases h
    exact v_iret r5 dX5_item_37
  · rw [if_neg c11] at h
    refine v_iload_n dX5_item_22 2 rfl rfl ?_
    refine v_iconst dX5_item_23 ?_
    refine v_icmp_ne (tgt := 38) dX5_item_24 rx1 (rgl rfl) (by decide) (fun c12 => ?_) (fun c12 => ?_)
    · rw [if_neg c12] at h
      refine v_sub [1, 2, 0] (L1 := [(0, vO 12), (1, vI x1), (2, vI r4)]) rfl ?_
      exact wj_X5_item_38 h rx1 r5
    · rw [if_pos c12] at h
      refine v_aload_n dX5_item_27 1 rfl rfl ?_
      refine v_bipush dX5_item_28 rfl ?_
      obtain ⟨r16, s13, e14, h⟩ := bd_some h
      have k15 := c_X5_is e14 (rgl rfl)
      have r17 : rg r16 := k15.1.2.2
      refine v_callV (st := []) cf5 oc12 k15 (lw_V q1264 q1266 qs18 q302 q1267) rfl yk_X5_is ⟨Nat.le_of_ble_eq_true rfl, Nat.le_of_ble_eq_true rfl⟩ trivial ⟨kc12, trivial⟩ (Nat.le_of_ble_eq_true rfl) rfl dX5_item_30 ?_
      refine v_if_ne (tgt := 38) dX5_item_33 r17 (by decide) (fun c18 => ?_) (fun c18 => ?_)
      · rw [if_neg c18] at h
        refine v_sub [1, 2, 0] (L1 := [(0, vO 12), (1, vI x1), (2, vI r4)]) rfl ?_
        exact wj_X5_item_38 h rx1 r5
      · rw [if_pos c18] at h
        refine v_iload_n dX5_item_36 0 rfl rfl ?_
        cases h
        exact v_iret r5 dX5_item_37

def E_X5_items_2 (rv : Option vA) (σo : vS) (q : vS) : Prop := ∀ (s' : vS), q = s' → VW cX5_items (RX5, rv, σo, none, 6, 126, 4, []) (P0 []) s' 27 [(0, vO 12)] []
def l_X5_items_2 : Nat → Int → Int → Int → vS → Option (vS)
  | 0, _, _, _, _ => none
  | n + 1, x1, x2, x3, s =>
    bd (f_X5_item x2 s) fun r4 s1 =>
    bd (f_X4_chain x1 3 x3 r4 s1) fun r9 s6 =>
    bd (f_X5_may 21 s6) fun r14 s11 =>
    if r14 = 0 then
      some s11
    else
      l_X5_items_2 n x1 x2 r9 s11
theorem wl_X5_items_2 {x1 : Int} {x2 : Int} {rv : Option vA} {σo : vS}  (rx1 : rg x1) (rx2 : rg x2) : ∀ (n : Nat) (x3 : Int) (s : vS) (q : vS), l_X5_items_2 n x1 x2 x3 s = some q → rg x3 → E_X5_items_2 rv σo q → VW cX5_items (RX5, rv, σo, none, 6, 126, 4, []) (P0 []) s 2 [(0, vO 12), (1, vI x1), (2, vI x2), (3, vI x3)] [] := by
  intro n
  induction n with
  | zero => intro x3 s q h; cases h
  | succ n ih =>
    intro x3 s q h rx3 hE
    unfold l_X5_items_2 at h
    refine v_aload_n dX5_items_2 0 rfl rfl ?_
    refine v_getS (f := 1) (t := 10) cf5 oc12 rfl rfl rfl (by decide) q501 dX5_items_3 ?_
    refine v_iload_n dX5_items_6 1 rfl rfl ?_
    refine v_iconst dX5_items_7 ?_
    refine v_iload_n dX5_items_8 3 rfl rfl ?_
    refine v_aload_n dX5_items_9 0 rfl rfl ?_
    refine v_iload_n dX5_items_10 2 rfl rfl ?_
    obtain ⟨r4, s1, e2, h⟩ := bd_some h
    have k3 := c_X5_item e2 rx2
    have r5 : rg r4 := k3.1.2.2
    refine v_callV (st := [vI x3, vI 3, vI x1, vO 10]) cf5 oc12 k3 (lw_V q1350 q1352 qs30 q302 q1353) rfl yk_X5_item ⟨Nat.le_of_ble_eq_true rfl, Nat.le_of_ble_eq_true rfl⟩ ⟨kc10, trivial⟩ ⟨kc12, trivial⟩ (Nat.le_of_ble_eq_true rfl) rfl dX5_items_11 ?_
    obtain ⟨r9, s6, e7, h⟩ := bd_some h
    have k8 := c_X4_chain e7 rx1 (rgl rfl) rx3 r5
    have r10 : rg r9 := k8.1.2.2
    refine v_callV (st := []) cf4 oc10 k8 (lw_V q1334 q1335 q1336 q301 q1337) rfl yk_X4_chain ⟨Nat.le_of_ble_eq_true rfl, Nat.le_of_ble_eq_true rfl⟩ trivial ⟨kc12, trivial⟩ (Nat.le_of_ble_eq_true rfl) rfl dX5_items_14 ?_
    refine v_istore_n (L1 := [(3, vI r9), (0, vO 12), (1, vI x1), (2, vI x2)]) dX5_items_17 rfl (by decide) rfl ?_
    refine v_aload_n dX5_items_18 1 rfl rfl ?_
    refine v_bipush dX5_items_19 rfl ?_
    obtain ⟨r14, s11, e12, h⟩ := bd_some h
    have k13 := c_X5_may e12 (rgl rfl)
    have r15 : rg r14 := k13.1.2.2
    refine v_callV (st := []) cf5 oc12 k13 (lw_V q1291 q1293 qs22 q302 q1294) rfl yk_X5_may ⟨Nat.le_of_ble_eq_true rfl, Nat.le_of_ble_eq_true rfl⟩ trivial ⟨kc12, trivial⟩ (Nat.le_of_ble_eq_true rfl) rfl dX5_items_21 ?_
    refine v_if_ne (tgt := 2) dX5_items_24 r15 (by decide) (fun c16 => ?_) (fun c16 => ?_)
    · rw [if_neg c16] at h
      refine v_sub [1, 2, 3, 0] (L1 := [(0, vO 12), (1, vI x1), (2, vI x2), (3, vI r9)]) rfl ?_
      exact ih r9 s11 _ h r10 hE
    · rw [if_pos c16] at h
      cases h
      refine v_sub [1] (L1 := [(0, vO 12)]) rfl ?_
      exact hE _ rfl 

def f_X5_items (x1 : Int) (x2 : Int) (s : vS) : Option (vS) :=
  lq_0 (l_X5_items_2 FU x1 x2 (-1) s) fun s1 =>
  bd (f_X5_take 16 s1) fun r6 s3 =>
  some s3
theorem yk_X5_items : yOk yX5_items 2 := ⟨by decide, by decide, by decide +kernel⟩
theorem c_X5_items {x1 : Int} {x2 : Int} {s : vS} {out : vS} (h : f_X5_items x1 x2 s = some out)  (rx1 : rg x1) (rx2 : rg x2) : VC yX5_items cX5_items 4 none 6 126 [vO 12, vI x1, vI x2] s none out [] := by
  unfold f_X5_items at h
  refine VC.of RX5 (by decide) rfl (Nat.le_of_ble_eq_true rfl) ?_
  show VW cX5_items (RX5, none, out, none, 6, 126, 4, []) (P0 []) s 0 [(0, vO 12), (1, vI x1), (2, vI x2)] []
  refine v_iconst dX5_items_0 ?_
  refine v_istore_n (L1 := [(3, vI (-1)), (0, vO 12), (1, vI x1), (2, vI x2)]) dX5_items_1 rfl (by decide) rfl ?_
  refine v_sub [1, 2, 3, 0] (L1 := [(0, vO 12), (1, vI x1), (2, vI x2), (3, vI (-1))]) rfl ?_
  obtain ⟨s1, e2, h⟩ := lq_0_some h
  refine wl_X5_items_2 rx1 rx2 FU (-1) s _ e2 (rgl rfl) ?_
  unfold E_X5_items_2
  intro s1' z_
  cases z_
  refine v_aload_n dX5_items_27 0 rfl rfl ?_
  refine v_bipush dX5_items_28 rfl ?_
  obtain ⟨r6, s3, e4, h⟩ := bd_some h
  have k5 := c_X5_take e4 (rgl rfl)
  have r7 : rg r6 := k5.1.2.2
  refine v_callV (st := []) cf5 oc12 k5 (lw_V q1260 q1262 qs17 q302 q1263) rfl yk_X5_take ⟨Nat.le_of_ble_eq_true rfl, Nat.le_of_ble_eq_true rfl⟩ trivial ⟨kc12, trivial⟩ (Nat.le_of_ble_eq_true rfl) rfl dX5_items_30 ?_
  refine v_popI dX5_items_33 ?_
  cases h
  exact v_vret dX5_items_34

def j_X5_itemsOf_36 (x1 : Int) (x2 : Int) (s : vS) : Option (vS) :=
  bdv (f_X5_items x1 x2 s) fun s1 =>
  some s1
theorem wj_X5_itemsOf_36 {x1 : Int} {x2 : Int} {s : vS} {out : vS} (h : j_X5_itemsOf_36 x1 x2 s = some out)  (rx1 : rg x1) (rx2 : rg x2) : VW cX5_itemsOf (RX5, none, out, none, 7, 149, 3, []) (P0 []) s 36 [(0, vO 12), (1, vI x1), (2, vI x2)] [] := by
  unfold j_X5_itemsOf_36 at h
  refine v_aload_n dX5_itemsOf_36 0 rfl rfl ?_
  refine v_iload_n dX5_itemsOf_37 1 rfl rfl ?_
  refine v_iload_n dX5_itemsOf_38 2 rfl rfl ?_
  obtain ⟨s1, e2, h⟩ := bdv_some h
  have k3 := c_X5_items e2 rx1 rx2
  refine v_callV (st := []) cf5 oc12 k3 (lw_V q1346 q1348 qs29 q302 q1349) rfl yk_X5_items ⟨Nat.le_of_ble_eq_true rfl, Nat.le_of_ble_eq_true rfl⟩ trivial ⟨kc12, trivial⟩ (Nat.le_of_ble_eq_true rfl) rfl dX5_itemsOf_39 ?_
  cases h
  exact v_vret dX5_itemsOf_42

def f_X5_itemsOf (x1 : Int) (x2 : Int) (s : vS) : Option (vS) :=
  bdv (f_X4_set x1 0 x2 s) fun s1 =>
  if x2 = 2 then
    bd (f_X5_may 15 s1) fun r14 s11 =>
    if r14 = 0 then
      some s11
    else
      j_X5_itemsOf_36 x1 x2 s11
  else
    bd (f_X5_take 15 s1) fun r8 s5 =>
    if r8 = 0 then
      some s5
    else
      j_X5_itemsOf_36 x1 x2 s5
theorem yk_X5_itemsOf : yOk yX5_itemsOf 2 := ⟨by decide, by decide, by decide +kernel⟩
theorem c_X5_itemsOf {x1 : Int} {x2 : Int} {s : vS} {out : vS} (h : f_X5_itemsOf x1 x2 s = some out)  (rx1 : rg x1) (rx2 : rg x2) : VC yX5_itemsOf cX5_itemsOf 3 none 7 149 [vO 12, vI x1, vI x2] s none out [] := by
  unfold f_X5_itemsOf at h
  refine VC.of RX5 (by decide) rfl (Nat.le_of_ble_eq_true rfl) ?_
  show VW cX5_itemsOf (RX5, none, out, none, 7, 149, 3, []) (P0 []) s 0 [(0, vO 12), (1, vI x1), (2, vI x2)] []
  refine v_aload_n dX5_itemsOf_0 0 rfl rfl ?_
  refine v_getS (f := 1) (t := 10) cf5 oc12 rfl rfl rfl (by decide) q501 dX5_itemsOf_1 ?_
  refine v_iload_n dX5_itemsOf_4 1 rfl rfl ?_
  refine v_iconst dX5_itemsOf_5 ?_
  refine v_iload_n dX5_itemsOf_6 2 rfl rfl ?_
  obtain ⟨s1, e2, h⟩ := bdv_some h
  have k3 := c_X4_set e2 rx1 (rgl rfl) rx2
  refine v_callV (st := []) cf4 oc10 k3 (lw_V q1316 q1305 q1306 q301 q1307) rfl yk_X4_set ⟨Nat.le_of_ble_eq_true rfl, Nat.le_of_ble_eq_true rfl⟩ trivial ⟨kc12, trivial⟩ (Nat.le_of_ble_eq_true rfl) rfl dX5_itemsOf_7 ?_
  refine v_iload_n dX5_itemsOf_10 2 rfl rfl ?_
  refine v_iconst dX5_itemsOf_11 ?_
  refine v_icmp_ne (tgt := 27) dX5_itemsOf_12 rx2 (rgl rfl) (by decide) (fun c4 => ?_) (fun c4 => ?_)
  · rw [if_neg c4] at h
    refine v_aload_n dX5_itemsOf_27 0 rfl rfl ?_
    refine v_bipush dX5_itemsOf_28 rfl ?_
    obtain ⟨r8, s5, e6, h⟩ := bd_some h
    have k7 := c_X5_take e6 (rgl rfl)
    have r9 : rg r8 := k7.1.2.2
    refine v_callV (st := []) cf5 oc12 k7 (lw_V q1260 q1262 qs17 q302 q1263) rfl yk_X5_take ⟨Nat.le_of_ble_eq_true rfl, Nat.le_of_ble_eq_true rfl⟩ trivial ⟨kc12, trivial⟩ (Nat.le_of_ble_eq_true rfl) rfl dX5_itemsOf_30 ?_
    refine v_if_eq (tgt := 42) dX5_itemsOf_33 r9 (by decide) (fun c10 => ?_) (fun c10 => ?_)
    · rw [if_pos c10] at h
      cases h
      exact v_vret dX5_itemsOf_42
    · rw [if_neg c10] at h
      exact wj_X5_itemsOf_36 h rx1 rx2
  · rw [if_pos c4] at h
    refine v_aload_n dX5_itemsOf_15 0 rfl rfl ?_
    refine v_bipush dX5_itemsOf_16 rfl ?_
    obtain ⟨r14, s11, e12, h⟩ := bd_some h
    have k13 := c_X5_may e12 (rgl rfl)
    have r15 : rg r14 := k13.1.2.2
    refine v_callV (st := []) cf5 oc12 k13 (lw_V q1291 q1293 qs22 q302 q1294) rfl yk_X5_may ⟨Nat.le_of_ble_eq_true rfl, Nat.le_of_ble_eq_true rfl⟩ trivial ⟨kc12, trivial⟩ (Nat.le_of_ble_eq_true rfl) rfl dX5_itemsOf_18 ?_
    refine v_if_eq (tgt := 42) dX5_itemsOf_21 r15 (by decide) (fun c16 => ?_) (fun c16 => ?_)
    · rw [if_pos c16] at h
      cases h
      exact v_vret dX5_itemsOf_42
    · rw [if_neg c16] at h
      refine v_goto (tgt := 36) dX5_itemsOf_24 (by decide) ?_
      exact wj_X5_itemsOf_36 h rx1 rx2

def f_X5_string (x1 : Int) (x2 : Int) (s : vS) : Option (vS) :=
  bdv (f_X4_set x1 0 x2 s) fun s1 =>
  bd (f_X5_take 162 s1) fun r7 s4 =>
  some s4
theorem yk_X5_string : yOk yX5_string 2 := ⟨by decide, by decide, by decide +kernel⟩
theorem c_X5_string {x1 : Int} {x2 : Int} {s : vS} {out : vS} (h : f_X5_string x1 x2 s = some out)  (rx1 : rg x1) (rx2 : rg x2) : VC yX5_string cX5_string 3 none 5 104 [vO 12, vI x1, vI x2] s none out [] := by
  unfold f_X5_string at h
  refine VC.of RX5 (by decide) rfl (Nat.le_of_ble_eq_true rfl) ?_
  show VW cX5_string (RX5, none, out, none, 5, 104, 3, []) (P0 []) s 0 [(0, vO 12), (1, vI x1), (2, vI x2)] []
  refine v_aload_n dX5_string_0 0 rfl rfl ?_
  refine v_getS (f := 1) (t := 10) cf5 oc12 rfl rfl rfl (by decide) q501 dX5_string_1 ?_
  refine v_iload_n dX5_string_4 1 rfl rfl ?_
  refine v_iconst dX5_string_5 ?_
  refine v_iload_n dX5_string_6 2 rfl rfl ?_
  obtain ⟨s1, e2, h⟩ := bdv_some h
  have k3 := c_X4_set e2 rx1 (rgl rfl) rx2
  refine v_callV (st := []) cf4 oc10 k3 (lw_V q1316 q1305 q1306 q301 q1307) rfl yk_X4_set ⟨Nat.le_of_ble_eq_true rfl, Nat.le_of_ble_eq_true rfl⟩ trivial ⟨kc12, trivial⟩ (Nat.le_of_ble_eq_true rfl) rfl dX5_string_7 ?_
  refine v_aload_n dX5_string_10 0 rfl rfl ?_
  refine v_sipush dX5_string_11 rfl ?_
  obtain ⟨r7, s4, e5, h⟩ := bd_some h
  have k6 := c_X5_take e5 (rgl rfl)
  have r8 : rg r7 := k6.1.2.2
  refine v_callV (st := []) cf5 oc12 k6 (lw_V q1260 q1262 qs17 q302 q1263) rfl yk_X5_take ⟨Nat.le_of_ble_eq_true rfl, Nat.le_of_ble_eq_true rfl⟩ trivial ⟨kc12, trivial⟩ (Nat.le_of_ble_eq_true rfl) rfl dX5_string_14 ?_
  refine v_popI dX5_string_17 ?_
  cases h
  exact v_vret dX5_string_18

def f_X5_bits (x1 : Int) (s : vS) : Option (vS) :=
  bdv (f_X5_string x1 4 s) fun s1 =>
  if (gI s1 12 3) = 0 then
    bd (f_X5_may 15 s1) fun r8 s5 =>
    if r8 = 0 then
      some s5
    else
      bdv (f_X5_items x1 4 s5) fun s11 =>
      some s11
  else
    some s1
theorem yk_X5_bits : yOk yX5_bits 1 := ⟨by decide, by decide, by decide +kernel⟩
theorem c_X5_bits {x1 : Int} {s : vS} {out : vS} (h : f_X5_bits x1 s = some out)  (rx1 : rg x1) : VC yX5_bits cX5_bits 2 none 7 149 [vO 12, vI x1] s none out [] := by
  unfold f_X5_bits at h
  refine VC.of RX5 (by decide) rfl (Nat.le_of_ble_eq_true rfl) ?_
  show VW cX5_bits (RX5, none, out, none, 7, 149, 2, []) (P0 []) s 0 [(0, vO 12), (1, vI x1)] []
  refine v_aload_n dX5_bits_0 0 rfl rfl ?_
  refine v_iload_n dX5_bits_1 1 rfl rfl ?_
  refine v_iconst dX5_bits_2 ?_
  obtain ⟨s1, e2, h⟩ := bdv_some h
  have k3 := c_X5_string e2 rx1 (rgl rfl)
  refine v_callV (st := []) cf5 oc12 k3 (lw_V q1359 q1361 qs32 q302 q1362) rfl yk_X5_string ⟨Nat.le_of_ble_eq_true rfl, Nat.le_of_ble_eq_true rfl⟩ trivial ⟨kc12, trivial⟩ (Nat.le_of_ble_eq_true rfl) rfl dX5_bits_3 ?_
  refine v_aload_n dX5_bits_6 0 rfl rfl ?_
  refine v_getI (f := 3) cf5 oc12 rfl (by decide) q503 dX5_bits_7 ?_
  refine v_if_ne (tgt := 28) dX5_bits_10 (gI_rg _ _ _) (by decide) (fun c4 => ?_) (fun c4 => ?_)
  · rw [if_neg c4] at h
    cases h
    exact v_vret dX5_bits_28
  · rw [if_pos c4] at h
    refine v_aload_n dX5_bits_13 0 rfl rfl ?_
    refine v_bipush dX5_bits_14 rfl ?_
    obtain ⟨r8, s5, e6, h⟩ := bd_some h
    have k7 := c_X5_may e6 (rgl rfl)
    have r9 : rg r8 := k7.1.2.2
    refine v_callV (st := []) cf5 oc12 k7 (lw_V q1291 q1293 qs22 q302 q1294) rfl yk_X5_may ⟨Nat.le_of_ble_eq_true rfl, Nat.le_of_ble_eq_true rfl⟩ trivial ⟨kc12, trivial⟩ (Nat.le_of_ble_eq_true rfl) rfl dX5_bits_16 ?_
    refine v_if_eq (tgt := 28) dX5_bits_19 r9 (by decide) (fun c10 => ?_) (fun c10 => ?_)
    · rw [if_pos c10] at h
      cases h
      exact v_vret dX5_bits_28
    · rw [if_neg c10] at h
      refine v_aload_n dX5_bits_22 0 rfl rfl ?_
      refine v_iload_n dX5_bits_23 1 rfl rfl ?_
      refine v_iconst dX5_bits_24 ?_
      obtain ⟨s11, e12, h⟩ := bdv_some h
      have k13 := c_X5_items e12 rx1 (rgl rfl)
      refine v_callV (st := []) cf5 oc12 k13 (lw_V q1346 q1348 qs29 q302 q1349) rfl yk_X5_items ⟨Nat.le_of_ble_eq_true rfl, Nat.le_of_ble_eq_true rfl⟩ trivial ⟨kc12, trivial⟩ (Nat.le_of_ble_eq_true rfl) rfl dX5_bits_25 ?_
      cases h
      exact v_vret dX5_bits_28

def j_X5_digits_20 (x1 : Int) (x2 : Int) (s : vS) : Option (vS) :=
  bdv (f_X4_set x1 5 x2 s) fun s1 =>
  bdv (f_X4_set x1 7 (gI s1 12 2) s1) fun s4 =>
  bd (f_X5_take 2 s4) fun r10 s7 =>
  some s7
theorem wj_X5_digits_20 {x1 : Int} {x2 : Int} {s : vS} {out : vS} (h : j_X5_digits_20 x1 x2 s = some out)  (rx1 : rg x1) (rx2 : rg x2) : VW cX5_digits (RX5, none, out, none, 5, 104, 3, []) (P0 []) s 20 [(0, vO 12), (1, vI x1), (2, vI x2)] [] := by
  unfold j_X5_digits_20 at h
  refine v_aload_n dX5_digits_20 0 rfl rfl ?_
  refine v_getS (f := 1) (t := 10) cf5 oc12 rfl rfl rfl (by decide) q501 dX5_digits_21 ?_
  refine v_iload_n dX5_digits_24 1 rfl rfl ?_
  refine v_iconst dX5_digits_25 ?_
  refine v_iload_n dX5_digits_26 2 rfl rfl ?_
  obtain ⟨s1, e2, h⟩ := bdv_some h
  have k3 := c_X4_set e2 rx1 (rgl rfl) rx2
  refine v_callV (st := []) cf4 oc10 k3 (lw_V q1316 q1305 q1306 q301 q1307) rfl yk_X4_set ⟨Nat.le_of_ble_eq_true rfl, Nat.le_of_ble_eq_true rfl⟩ trivial ⟨kc12, trivial⟩ (Nat.le_of_ble_eq_true rfl) rfl dX5_digits_27 ?_
  refine v_aload_n dX5_digits_30 0 rfl rfl ?_
  refine v_getS (f := 1) (t := 10) cf5 oc12 rfl rfl rfl (by decide) q501 dX5_digits_31 ?_
  refine v_iload_n dX5_digits_34 1 rfl rfl ?_
  refine v_bipush dX5_digits_35 rfl ?_
  refine v_aload_n dX5_digits_37 0 rfl rfl ?_
  refine v_getI (f := 2) cf5 oc12 rfl (by decide) q502 dX5_digits_38 ?_
  obtain ⟨s4, e5, h⟩ := bdv_some h
  have k6 := c_X4_set e5 rx1 (rgl rfl) (gI_rg _ _ _)
  refine v_callV (st := []) cf4 oc10 k6 (lw_V q1316 q1305 q1306 q301 q1307) rfl yk_X4_set ⟨Nat.le_of_ble_eq_true rfl, Nat.le_of_ble_eq_true rfl⟩ trivial ⟨kc12, trivial⟩ (Nat.le_of_ble_eq_true rfl) rfl dX5_digits_41 ?_
  refine v_aload_n dX5_digits_44 0 rfl rfl ?_
  refine v_iconst dX5_digits_45 ?_
  obtain ⟨r10, s7, e8, h⟩ := bd_some h
  have k9 := c_X5_take e8 (rgl rfl)
  have r11 : rg r10 := k9.1.2.2
  refine v_callV (st := []) cf5 oc12 k9 (lw_V q1260 q1262 qs17 q302 q1263) rfl yk_X5_take ⟨Nat.le_of_ble_eq_true rfl, Nat.le_of_ble_eq_true rfl⟩ trivial ⟨kc12, trivial⟩ (Nat.le_of_ble_eq_true rfl) rfl dX5_digits_46 ?_
  refine v_popI dX5_digits_49 ?_
  cases h
  exact v_vret dX5_digits_50

def f_X5_digits (x1 : Int) (x2 : Int) (s : vS) : Option (vS) :=
  bd (f_X5_may 25 s) fun r4 s1 =>
  if r4 = 0 then
    j_X5_digits_20 x1 x2 s1
  else
    bdv (f_X4_set x1 6 1 s1) fun s7 =>
    j_X5_digits_20 x1 x2 s7
theorem yk_X5_digits : yOk yX5_digits 2 := ⟨by decide, by decide, by decide +kernel⟩
theorem c_X5_digits {x1 : Int} {x2 : Int} {s : vS} {out : vS} (h : f_X5_digits x1 x2 s = some out)  (rx1 : rg x1) (rx2 : rg x2) : VC yX5_digits cX5_digits 3 none 5 104 [vO 12, vI x1, vI x2] s none out [] := by
  unfold f_X5_digits at h
  refine VC.of RX5 (by decide) rfl (Nat.le_of_ble_eq_true rfl) ?_
  show VW cX5_digits (RX5, none, out, none, 5, 104, 3, []) (P0 []) s 0 [(0, vO 12), (1, vI x1), (2, vI x2)] []
  refine v_aload_n dX5_digits_0 0 rfl rfl ?_
  refine v_bipush dX5_digits_1 rfl ?_
  obtain ⟨r4, s1, e2, h⟩ := bd_some h
  have k3 := c_X5_may e2 (rgl rfl)
  have r5 : rg r4 := k3.1.2.2
  refine v_callV (st := []) cf5 oc12 k3 (lw_V q1291 q1293 qs22 q302 q1294) rfl yk_X5_may ⟨Nat.le_of_ble_eq_true rfl, Nat.le_of_ble_eq_true rfl⟩ trivial ⟨kc12, trivial⟩ (Nat.le_of_ble_eq_true rfl) rfl dX5_digits_3 ?_
  refine v_if_eq (tgt := 20) dX5_digits_6 r5 (by decide) (fun c6 => ?_) (fun c6 => ?_)
  · rw [if_pos c6] at h
    exact wj_X5_digits_20 h rx1 rx2
  · rw [if_neg c6] at h
    refine v_aload_n dX5_digits_9 0 rfl rfl ?_
    refine v_getS (f := 1) (t := 10) cf5 oc12 rfl rfl rfl (by decide) q501 dX5_digits_10 ?_
    refine v_iload_n dX5_digits_13 1 rfl rfl ?_
    refine v_bipush dX5_digits_14 rfl ?_
    refine v_iconst dX5_digits_16 ?_
    obtain ⟨s7, e8, h⟩ := bdv_some h
    have k9 := c_X4_set e8 rx1 (rgl rfl) (rgl rfl)
    refine v_callV (st := []) cf4 oc10 k9 (lw_V q1316 q1305 q1306 q301 q1307) rfl yk_X4_set ⟨Nat.le_of_ble_eq_true rfl, Nat.le_of_ble_eq_true rfl⟩ trivial ⟨kc12, trivial⟩ (Nat.le_of_ble_eq_true rfl) rfl dX5_digits_17 ?_
    exact wj_X5_digits_20 h rx1 rx2

def E_X5_list_2 (rv : Option vA) (σo : vS) (q : vS) : Prop := ∀ (s' : vS), q = s' → VW cX5_list (RX5, rv, σo, none, 5, 104, 5, []) (P0 []) s' 158 [(0, vO 12)] []
def j_X5_list_122 (rec : Int → Int → vS → Option (vS)) (x1 : Int) (x2 : Int) (z1 : Int) (z2 : Int) (z3 : Int) (s : vS) : Option (vS) :=
  bdv (f_X4_set z1 z2 z3 s) fun s1 =>
  bd (f_X5_may 21 s1) fun r7 s4 =>
  if r7 = 0 then
    rec x1 x2 s4
  else
    bd (f_X5_is 0 s4) fun r13 s10 =>
    if r13 = 0 then
      bd (f_X5_is 2 s10) fun r19 s16 =>
      if r19 = 0 then
        bd (f_X5_unfit s16) fun r25 s22 =>
        rec x1 x2 s22
      else
        rec x1 x2 s16
    else
      rec x1 x2 s10
theorem wj_X5_list_122 {x1 : Int} {x2 : Int} {z1 : Int} {z2 : Int} {z3 : Int} {s : vS} {rv : Option vA} {σo : vS} {rec : Int → Int → vS → Option (vS)} {q : vS} (h : j_X5_list_122 rec x1 x2 z1 z2 z3 s = some q)  (rx1 : rg x1) (rx2 : rg x2) (rz1 : rg z1) (rz2 : rg z2) (rz3 : rg z3) (hrec : ∀ (y2 : Int) (s : vS) (q : vS), rec x1 y2 s = some q → rg y2 → E_X5_list_2 rv σo q → VW cX5_list (RX5, rv, σo, none, 5, 104, 5, []) (P0 []) s 2 [(0, vO 12), (1, vI x1), (2, vI y2)] []) (hE : E_X5_list_2 rv σo q) : VW cX5_list (RX5, rv, σo, none, 5, 104, 5, []) (P0 []) s 122 [(0, vO 12), (1, vI x1), (2, vI x2)] [vI z3, vI z2, vI z1, vO 10] := by
  unfold j_X5_list_122 at h
  obtain ⟨s1, e2, h⟩ := bdv_some h
  have k3 := c_X4_set e2 rz1 rz2 rz3
  refine v_callV (st := []) cf4 oc10 k3 (lw_V q1316 q1305 q1306 q301 q1307) rfl yk_X4_set ⟨Nat.le_of_ble_eq_true rfl, Nat.le_of_ble_eq_true rfl⟩ trivial ⟨kc12, trivial⟩ (Nat.le_of_ble_eq_true rfl) rfl dX5_list_122 ?_
  refine v_aload_n dX5_list_125 0 rfl rfl ?_
  refine v_bipush dX5_list_126 rfl ?_
  obtain ⟨r7, s4, e5, h⟩ := bd_some h
  have k6 := c_X5_may e5 (rgl rfl)
  have r8 : rg r7 := k6.1.2.2
  refine v_callV (st := []) cf5 oc12 k6 (lw_V q1291 q1293 qs22 q302 q1294) rfl yk_X5_may ⟨Nat.le_of_ble_eq_true rfl, Nat.le_of_ble_eq_true rfl⟩ trivial ⟨kc12, trivial⟩ (Nat.le_of_ble_eq_true rfl) rfl dX5_list_128 ?_
  refine v_if_eq (tgt := 155) dX5_list_131 r8 (by decide) (fun c9 => ?_) (fun c9 => ?_)
  · rw [if_pos c9] at h
    refine v_goto (tgt := 2) dX5_list_155 (by decide) ?_
    exact hrec x2 s4 _ h rx2 hE
  · rw [if_neg c9] at h
    refine v_aload_n dX5_list_134 0 rfl rfl ?_
    refine v_iconst dX5_list_135 ?_
    obtain ⟨r13, s10, e11, h⟩ := bd_some h
    have k12 := c_X5_is e11 (rgl rfl)
    have r14 : rg r13 := k12.1.2.2
    refine v_callV (st := []) cf5 oc12 k12 (lw_V q1264 q1266 qs18 q302 q1267) rfl yk_X5_is ⟨Nat.le_of_ble_eq_true rfl, Nat.le_of_ble_eq_true rfl⟩ trivial ⟨kc12, trivial⟩ (Nat.le_of_ble_eq_true rfl) rfl dX5_list_136 ?_
    refine v_if_ne (tgt := 155) dX5_list_139 r14 (by decide) (fun c15 => ?_) (fun c15 => ?_)
    · rw [if_neg c15] at h
      refine v_goto (tgt := 2) dX5_list_155 (by decide) ?_
      exact hrec x2 s10 _ h rx2 hE
    · rw [if_pos c15] at h
      refine v_aload_n dX5_list_142 0 rfl rfl ?_
      refine v_iconst dX5_list_143 ?_
      obtain ⟨r19, s16, e17, h⟩ := bd_some h
      have k18 := c_X5_is e17 (rgl rfl)
      have r20 : rg r19 := k18.1.2.2
      refine v_callV (st := []) cf5 oc12 k18 (lw_V q1264 q1266 qs18 q302 q1267) rfl yk_X5_is ⟨Nat.le_of_ble_eq_true rfl, Nat.le_of_ble_eq_true rfl⟩ trivial ⟨kc12, trivial⟩ (Nat.le_of_ble_eq_true rfl) rfl dX5_list_144 ?_
      refine v_if_ne (tgt := 155) dX5_list_147 r20 (by decide) (fun c21 => ?_) (fun c21 => ?_)
      · rw [if_neg c21] at h
        refine v_goto (tgt := 2) dX5_list_155 (by decide) ?_
        exact hrec x2 s16 _ h rx2 hE
      · rw [if_pos c21] at h
        refine v_aload_n dX5_list_150 0 rfl rfl ?_
        obtain ⟨r25, s22, e23, h⟩ := bd_some h
        have k24 := c_X5_unfit e23
        have r26 : rg r25 := k24.1.2.2
        refine v_callV (st := []) cf5 oc12 k24 (lw_V q1272 q1274 qs19 q302 q1275) rfl yk_X5_unfit ⟨Nat.le_of_ble_eq_true rfl, Nat.le_of_ble_eq_true rfl⟩ trivial ⟨kc12, trivial⟩ (Nat.le_of_ble_eq_true rfl) rfl dX5_list_151 ?_
        refine v_popI dX5_list_154 ?_
        refine v_goto (tgt := 2) dX5_list_155 (by decide) ?_
        exact hrec x2 s22 _ h rx2 hE

def j_X5_list_105 (rec : Int → Int → vS → Option (vS)) (x1 : Int) (x2 : Int) (x3 : Int) (x4 : Int) (s : vS) : Option (vS) :=
  if x4 = 0 then
    j_X5_list_122 rec x1 x2 x3 6 0 s
  else
    j_X5_list_122 rec x1 x2 x3 6 1 s
theorem wj_X5_list_105 {x1 : Int} {x2 : Int} {x3 : Int} {x4 : Int} {s : vS} {rv : Option vA} {σo : vS} {rec : Int → Int → vS → Option (vS)} {q : vS} (h : j_X5_list_105 rec x1 x2 x3 x4 s = some q)  (rx1 : rg x1) (rx2 : rg x2) (rx3 : rg x3) (rx4 : rg x4) (hrec : ∀ (y2 : Int) (s : vS) (q : vS), rec x1 y2 s = some q → rg y2 → E_X5_list_2 rv σo q → VW cX5_list (RX5, rv, σo, none, 5, 104, 5, []) (P0 []) s 2 [(0, vO 12), (1, vI x1), (2, vI y2)] []) (hE : E_X5_list_2 rv σo q) : VW cX5_list (RX5, rv, σo, none, 5, 104, 5, []) (P0 []) s 105 [(0, vO 12), (1, vI x1), (2, vI x2), (3, vI x3), (4, vI x4)] [] := by
  unfold j_X5_list_105 at h
  refine v_aload_n dX5_list_105 0 rfl rfl ?_
  refine v_getS (f := 1) (t := 10) cf5 oc12 rfl rfl rfl (by decide) q501 dX5_list_106 ?_
  refine v_iload_n dX5_list_109 3 rfl rfl ?_
  refine v_bipush dX5_list_110 rfl ?_
  refine v_iload dX5_list_112 4 rfl ?_
  refine v_if_eq (tgt := 121) dX5_list_114 rx4 (by decide) (fun c1 => ?_) (fun c1 => ?_)
  · rw [if_pos c1] at h
    refine v_iconst dX5_list_121 ?_
    refine v_sub [0, 1, 2] (L1 := [(0, vO 12), (1, vI x1), (2, vI x2)]) rfl ?_
    exact wj_X5_list_122 h rx1 rx2 rx3 (rgl rfl) (rgl rfl) hrec hE
  · rw [if_neg c1] at h
    refine v_iconst dX5_list_117 ?_
    refine v_goto (tgt := 122) dX5_list_118 (by decide) ?_
    refine v_sub [0, 1, 2] (L1 := [(0, vO 12), (1, vI x1), (2, vI x2)]) rfl ?_
    exact wj_X5_list_122 h rx1 rx2 rx3 (rgl rfl) (rgl rfl) hrec hE

def j_X5_list_72 (rec : Int → Int → vS → Option (vS)) (x1 : Int) (x2 : Int) (x3 : Int) (x4 : Int) (s : vS) : Option (vS) :=
  bdv (f_X4_set x3 5 (gI s 12 2) s) fun s1 =>
  bd (f_X5_take 2 s1) fun r7 s4 =>
  if r7 = 0 then
    j_X5_list_105 rec x1 x2 x3 x4 s4
  else
    if x4 = 0 then
      j_X5_list_105 rec x1 x2 x3 x4 s4
    else
      bd (f_X5_take 20 s4) fun r14 s11 =>
      j_X5_list_105 rec x1 x2 x3 x4 s11
theorem wj_X5_list_72 {x1 : Int} {x2 : Int} {x3 : Int} {x4 : Int} {s : vS} {rv : Option vA} {σo : vS} {rec : Int → Int → vS → Option (vS)} {q : vS} (h : j_X5_list_72 rec x1 x2 x3 x4 s = some q)  (rx1 : rg x1) (rx2 : rg x2) (rx3 : rg x3) (rx4 : rg x4) (hrec : ∀ (y2 : Int) (s : vS) (q : vS), rec x1 y2 s = some q → rg y2 → E_X5_list_2 rv σo q → VW cX5_list (RX5, rv, σo, none, 5, 104, 5, []) (P0 []) s 2 [(0, vO 12), (1, vI x1), (2, vI y2)] []) (hE : E_X5_list_2 rv σo q) : VW cX5_list (RX5, rv, σo, none, 5, 104, 5, []) (P0 []) s 72 [(0, vO 12), (1, vI x1), (2, vI x2), (3, vI x3), (4, vI x4)] [] := by
  unfold j_X5_list_72 at h
  refine v_aload_n dX5_list_72 0 rfl rfl ?_
  refine v_getS (f := 1) (t := 10) cf5 oc12 rfl rfl rfl (by decide) q501 dX5_list_73 ?_
  refine v_iload_n dX5_list_76 3 rfl rfl ?_
  refine v_iconst dX5_list_77 ?_
  refine v_aload_n dX5_list_78 0 rfl rfl ?_
  refine v_getI (f := 2) cf5 oc12 rfl (by decide) q502 dX5_list_79 ?_
  obtain ⟨s1, e2, h⟩ := bdv_some h
  have k3 := c_X4_set e2 rx3 (rgl rfl) (gI_rg _ _ _)
  refine v_callV (st := []) cf4 oc10 k3 (lw_V q1316 q1305 q1306 q301 q1307) rfl yk_X4_set ⟨Nat.le_of_ble_eq_true rfl, Nat.le_of_ble_eq_true rfl⟩ trivial ⟨kc12, trivial⟩ (Nat.le_of_ble_eq_true rfl) rfl dX5_list_82 ?_
  refine v_aload_n dX5_list_85 0 rfl rfl ?_
  refine v_iconst dX5_list_86 ?_
  obtain ⟨r7, s4, e5, h⟩ := bd_some h
  have k6 := c_X5_take e5 (rgl rfl)
  have r8 : rg r7 := k6.1.2.2
  refine v_callV (st := []) cf5 oc12 k6 (lw_V q1260 q1262 qs17 q302 q1263) rfl yk_X5_take ⟨Nat.le_of_ble_eq_true rfl, Nat.le_of_ble_eq_true rfl⟩ trivial ⟨kc12, trivial⟩ (Nat.le_of_ble_eq_true rfl) rfl dX5_list_87 ?_
  refine v_if_eq (tgt := 105) dX5_list_90 r8 (by decide) (fun c9 => ?_) (fun c9 => ?_)
  · rw [if_pos c9] at h
    exact wj_X5_list_105 h rx1 rx2 rx3 rx4 hrec hE
  · rw [if_neg c9] at h
    refine v_iload dX5_list_93 4 rfl ?_
    refine v_if_eq (tgt := 105) dX5_list_95 rx4 (by decide) (fun c10 => ?_) (fun c10 => ?_)
    · rw [if_pos c10] at h
      exact wj_X5_list_105 h rx1 rx2 rx3 rx4 hrec hE
    · rw [if_neg c10] at h
      refine v_aload_n dX5_list_98 0 rfl rfl ?_
      refine v_bipush dX5_list_99 rfl ?_
      obtain ⟨r14, s11, e12, h⟩ := bd_some h
      have k13 := c_X5_take e12 (rgl rfl)
      have r15 : rg r14 := k13.1.2.2
      refine v_callV (st := []) cf5 oc12 k13 (lw_V q1260 q1262 qs17 q302 q1263) rfl yk_X5_take ⟨Nat.le_of_ble_eq_true rfl, Nat.le_of_ble_eq_true rfl⟩ trivial ⟨kc12, trivial⟩ (Nat.le_of_ble_eq_true rfl) rfl dX5_list_101 ?_
      refine v_popI dX5_list_104 ?_
      exact wj_X5_list_105 h rx1 rx2 rx3 rx4 hrec hE

def j_X5_list_25 (rec : Int → Int → vS → Option (vS)) (x1 : Int) (x2 : Int) (s : vS) : Option (vS) :=
  bd (f_X4_add 27 (gI s 12 2) s) fun r4 s1 =>
  bd (f_X4_chain x1 3 x2 r4 s1) fun r9 s6 =>
  bd (f_X5_may 0 s6) fun r14 s11 =>
  if r14 = 0 then
    j_X5_list_72 rec x1 r9 r4 r14 s11
  else
    bd (f_X5_may 19 s11) fun r20 s17 =>
    if r20 = 0 then
      j_X5_list_105 rec x1 r9 r4 r14 s17
    else
      j_X5_list_72 rec x1 r9 r4 r14 s17
theorem wj_X5_list_25 {x1 : Int} {x2 : Int} {s : vS} {rv : Option vA} {σo : vS} {rec : Int → Int → vS → Option (vS)} {q : vS} (h : j_X5_list_25 rec x1 x2 s = some q)  (rx1 : rg x1) (rx2 : rg x2) (hrec : ∀ (y2 : Int) (s : vS) (q : vS), rec x1 y2 s = some q → rg y2 → E_X5_list_2 rv σo q → VW cX5_list (RX5, rv, σo, none, 5, 104, 5, []) (P0 []) s 2 [(0, vO 12), (1, vI x1), (2, vI y2)] []) (hE : E_X5_list_2 rv σo q) : VW cX5_list (RX5, rv, σo, none, 5, 104, 5, []) (P0 []) s 25 [(0, vO 12), (1, vI x1), (2, vI x2)] [] := by
  unfold j_X5_list_25 at h
  refine v_aload_n dX5_list_25 0 rfl rfl ?_
  refine v_getS (f := 1) (t := 10) cf5 oc12 rfl rfl rfl (by decide) q501 dX5_list_26 ?_
  refine v_bipush dX5_list_29 rfl ?_
  refine v_aload_n dX5_list_31 0 rfl rfl ?_
  refine v_getI (f := 2) cf5 oc12 rfl (by decide) q502 dX5_list_32 ?_
  obtain ⟨r4, s1, e2, h⟩ := bd_some h
  have k3 := c_X4_add e2 (rgl rfl) (gI_rg _ _ _)
  have r5 : rg r4 := k3.1.2.2
  refine v_callV (st := []) cf4 oc10 k3 (lw_V q1299 q1300 q1301 q301 q1302) rfl yk_X4_add ⟨Nat.le_of_ble_eq_true rfl, Nat.le_of_ble_eq_true rfl⟩ trivial ⟨kc12, trivial⟩ (Nat.le_of_ble_eq_true rfl) rfl dX5_list_35 ?_
  refine v_istore_n (L1 := [(3, vI r4), (0, vO 12), (1, vI x1), (2, vI x2)]) dX5_list_38 rfl (by decide) rfl ?_
  refine v_aload_n dX5_list_39 1 rfl rfl ?_
  refine v_getS (f := 1) (t := 10) cf5 oc12 rfl rfl rfl (by decide) q501 dX5_list_40 ?_
  refine v_iload_n dX5_list_43 2 rfl rfl ?_
  refine v_iconst dX5_list_44 ?_
  refine v_iload_n dX5_list_45 3 rfl rfl ?_
  refine v_iload_n dX5_list_46 0 rfl rfl ?_
  obtain ⟨r9, s6, e7, h⟩ := bd_some h
  have k8 := c_X4_chain e7 rx1 (rgl rfl) rx2 r5
  have r10 : rg r9 := k8.1.2.2
  refine v_callV (st := []) cf4 oc10 k8 (lw_V q1334 q1335 q1336 q301 q1337) rfl yk_X4_chain ⟨Nat.le_of_ble_eq_true rfl, Nat.le_of_ble_eq_true rfl⟩ trivial ⟨kc12, trivial⟩ (Nat.le_of_ble_eq_true rfl) rfl dX5_list_47 ?_
  refine v_istore_n (L1 := [(2, vI r9), (3, vI r4), (0, vO 12), (1, vI x1)]) dX5_list_50 rfl (by decide) rfl ?_
  refine v_aload_n dX5_list_51 2 rfl rfl ?_
  refine v_iconst dX5_list_52 ?_
  obtain ⟨r14, s11, e12, h⟩ := bd_some h
  have k13 := c_X5_may e12 (rgl rfl)
  have r15 : rg r14 := k13.1.2.2
  refine v_callV (st := []) cf5 oc12 k13 (lw_V q1291 q1293 qs22 q302 q1294) rfl yk_X5_may ⟨Nat.le_of_ble_eq_true rfl, Nat.le_of_ble_eq_true rfl⟩ trivial ⟨kc12, trivial⟩ (Nat.le_of_ble_eq_true rfl) rfl dX5_list_53 ?_
  refine v_istore (L1 := [(4, vI r14), (2, vI r9), (3, vI r4), (0, vO 12), (1, vI x1)]) dX5_list_56 (by decide) rfl ?_
  refine v_iload dX5_list_58 0 rfl ?_
  refine v_if_eq (tgt := 72) dX5_list_60 r15 (by decide) (fun c16 => ?_) (fun c16 => ?_)
  · rw [if_pos c16] at h
    refine v_sub [3, 4, 1, 2, 0] (L1 := [(0, vO 12), (1, vI x1), (2, vI r9), (3, vI r4), (4, vI r14)]) rfl ?_
    exact wj_X5_list_72 h rx1 r10 r5 r15 hrec hE
  · rw [if_neg c16] at h
    refine v_aload_n dX5_list_63 3 rfl rfl ?_
    refine v_bipush dX5_list_64 rfl ?_
    obtain ⟨r20, s17, e18, h⟩ := bd_some h
    have k19 := c_X5_may e18 (rgl rfl)
    have r21 : rg r20 := k19.1.2.2
    refine v_callV (st := []) cf5 oc12 k19 (lw_V q1291 q1293 qs22 q302 q1294) rfl yk_X5_may ⟨Nat.le_of_ble_eq_true rfl, Nat.le_of_ble_eq_true rfl⟩ trivial ⟨kc12, trivial⟩ (Nat.le_of_ble_eq_true rfl) rfl dX5_list_66 ?_
    refine v_if_eq (tgt := 105) dX5_list_69 r21 (by decide) (fun c22 => ?_) (fun c22 => ?_)
    · rw [if_pos c22] at h
      refine v_sub [3, 4, 1, 2, 0] (L1 := [(0, vO 12), (1, vI x1), (2, vI r9), (3, vI r4), (4, vI r14)]) rfl ?_
      exact wj_X5_list_105 h rx1 r10 r5 r15 hrec hE
    · rw [if_neg c22] at h
      refine v_sub [3, 4, 1, 2, 0] (L1 := [(0, vO 12), (1, vI x1), (2, vI r9), (3, vI r4), (4, vI r14)]) rfl ?_
      exact wj_X5_list_72 h rx1 r10 r5 r15 hrec hE

def l_X5_list_2 : Nat → Int → Int → vS → Option (vS)
  | 0, _, _, _ => none
  | n + 1, x1, x2, s =>
    if (gI s 12 3) = 0 then
      bd (f_X5_is 0 s) fun r5 s2 =>
      if r5 = 0 then
        bd (f_X5_is 2 s2) fun r11 s8 =>
        if r11 = 0 then
          some s8
        else
          j_X5_list_25 (l_X5_list_2 n) x1 x2 s8
      else
        j_X5_list_25 (l_X5_list_2 n) x1 x2 s2
    else
      some s
theorem wl_X5_list_2 {x1 : Int} {rv : Option vA} {σo : vS}  (rx1 : rg x1) : ∀ (n : Nat) (x2 : Int) (s : vS) (q : vS), l_X5_list_2 n x1 x2 s = some q → rg x2 → E_X5_list_2 rv σo q → VW cX5_list (RX5, rv, σo, none, 5, 104, 5, []) (P0 []) s 2 [(0, vO 12), (1, vI x1), (2, vI x2)] [] := by
  intro n
  induction n with
  | zero => intro x2 s q h; cases h
  | succ n ih =>
    intro x2 s q h rx2 hE
    unfold l_X5_list_2 at h
    refine v_aload_n dX5_list_2 0 rfl rfl ?_
    refine v_getI (f := 3) cf5 oc12 rfl (by decide) q503 dX5_list_3 ?_
    refine v_if_ne (tgt := 158) dX5_list_6 (gI_rg _ _ _) (by decide) (fun c1 => ?_) (fun c1 => ?_)
    · rw [if_neg c1] at h
      cases h
      refine v_sub [0] (L1 := [(0, vO 12)]) rfl ?_
      exact hE _ rfl 
    · rw [if_pos c1] at h
      refine v_aload_n dX5_list_9 0 rfl rfl ?_
      refine v_iconst dX5_list_10 ?_
      obtain ⟨r5, s2, e3, h⟩ := bd_some h
      have k4 := c_X5_is e3 (rgl rfl)
      have r6 : rg r5 := k4.1.2.2
      refine v_callV (st := []) cf5 oc12 k4 (lw_V q1264 q1266 qs18 q302 q1267) rfl yk_X5_is ⟨Nat.le_of_ble_eq_true rfl, Nat.le_of_ble_eq_true rfl⟩ trivial ⟨kc12, trivial⟩ (Nat.le_of_ble_eq_true rfl) rfl dX5_list_11 ?_
      refine v_if_ne (tgt := 25) dX5_list_14 r6 (by decide) (fun c7 => ?_) (fun c7 => ?_)
      · rw [if_neg c7] at h
        exact wj_X5_list_25 h rx1 rx2 ih hE
      · rw [if_pos c7] at h
        refine v_aload_n dX5_list_17 0 rfl rfl ?_
        refine v_iconst dX5_list_18 ?_
        obtain ⟨r11, s8, e9, h⟩ := bd_some h
        have k10 := c_X5_is e9 (rgl rfl)
        have r12 : rg r11 := k10.1.2.2
        refine v_callV (st := []) cf5 oc12 k10 (lw_V q1264 q1266 qs18 q302 q1267) rfl yk_X5_is ⟨Nat.le_of_ble_eq_true rfl, Nat.le_of_ble_eq_true rfl⟩ trivial ⟨kc12, trivial⟩ (Nat.le_of_ble_eq_true rfl) rfl dX5_list_19 ?_
        refine v_if_eq (tgt := 158) dX5_list_22 r12 (by decide) (fun c13 => ?_) (fun c13 => ?_)
        · rw [if_pos c13] at h
          cases h
          refine v_sub [0] (L1 := [(0, vO 12)]) rfl ?_
          exact hE _ rfl 
        · rw [if_neg c13] at h
          exact wj_X5_list_25 h rx1 rx2 ih hE

def j_X5_list_158 (s : vS) : Option (vS) :=
  bd (f_X5_take 16 s) fun r4 s1 =>
  some s1
theorem wj_X5_list_158 {s : vS} {out : vS} (h : j_X5_list_158 s = some out)  : VW cX5_list (RX5, none, out, none, 5, 104, 5, []) (P0 []) s 158 [(0, vO 12)] [] := by
  unfold j_X5_list_158 at h
  refine v_aload_n dX5_list_158 0 rfl rfl ?_
  refine v_bipush dX5_list_159 rfl ?_
  obtain ⟨r4, s1, e2, h⟩ := bd_some h
  have k3 := c_X5_take e2 (rgl rfl)
  have r5 : rg r4 := k3.1.2.2
  refine v_callV (st := []) cf5 oc12 k3 (lw_V q1260 q1262 qs17 q302 q1263) rfl yk_X5_take ⟨Nat.le_of_ble_eq_true rfl, Nat.le_of_ble_eq_true rfl⟩ trivial ⟨kc12, trivial⟩ (Nat.le_of_ble_eq_true rfl) rfl dX5_list_161 ?_
  refine v_popI dX5_list_164 ?_
  cases h
  exact v_vret dX5_list_165

def f_X5_list (x1 : Int) (s : vS) : Option (vS) :=
  lq_0 (l_X5_list_2 FU x1 (-1) s) fun s1 =>
  j_X5_list_158 s1
theorem yk_X5_list : yOk yX5_list 1 := ⟨by decide, by decide, by decide +kernel⟩
theorem c_X5_list {x1 : Int} {s : vS} {out : vS} (h : f_X5_list x1 s = some out)  (rx1 : rg x1) : VC yX5_list cX5_list 5 none 5 104 [vO 12, vI x1] s none out [] := by
  unfold f_X5_list at h
  refine VC.of RX5 (by decide) rfl (Nat.le_of_ble_eq_true rfl) ?_
  show VW cX5_list (RX5, none, out, none, 5, 104, 5, []) (P0 []) s 0 [(0, vO 12), (1, vI x1)] []
  refine v_iconst dX5_list_0 ?_
  refine v_istore_n (L1 := [(2, vI (-1)), (0, vO 12), (1, vI x1)]) dX5_list_1 rfl (by decide) rfl ?_
  refine v_sub [1, 2, 0] (L1 := [(0, vO 12), (1, vI x1), (2, vI (-1))]) rfl ?_
  obtain ⟨s1, e2, h⟩ := lq_0_some h
  refine wl_X5_list_2 rx1 FU (-1) s _ e2 (rgl rfl) ?_
  unfold E_X5_list_2
  intro s1' z_
  cases z_
  exact wj_X5_list_158 h 

def j_X5_value_129 (x1 : Int) (z0 : Int) (s : vS) : Option (Int × vS) :=
  bdv (f_X4_set x1 5 z0 s) fun s1 =>
  if z0 = 3 then
    bdv (f_X5_digits x1 3 s1) fun s11 =>
    some (x1, s11)
  else
    stp (sI s1 12 2 (w32 ((gI s1 12 2) + 1))) fun s5 =>
    if z0 = 8 then
      bdv (f_X5_list x1 s5) fun s8 =>
      some (x1, s8)
    else
      some (x1, s5)
theorem wj_X5_value_129 {x1 : Int} {z0 : Int} {s : vS} {out : Int × vS} (h : j_X5_value_129 x1 z0 s = some out)  (rx1 : rg x1) (rz0 : rg z0) : VW cX5_value (RX5, (some (vI out.1)), out.2, (some .int), 6, 128, 3, []) (P0 []) s 129 [(0, vO 12), (1, vI x1)] [vI z0] := by
  unfold j_X5_value_129 at h
  refine v_istore_n (L1 := [(2, vI z0), (0, vO 12), (1, vI x1)]) dX5_value_129 rfl (by decide) rfl ?_
  refine v_aload_n dX5_value_130 1 rfl rfl ?_
  refine v_getS (f := 1) (t := 10) cf5 oc12 rfl rfl rfl (by decide) q501 dX5_value_131 ?_
  refine v_iload_n dX5_value_134 2 rfl rfl ?_
  refine v_iconst dX5_value_135 ?_
  refine v_iload_n dX5_value_136 0 rfl rfl ?_
  obtain ⟨s1, e2, h⟩ := bdv_some h
  have k3 := c_X4_set e2 rx1 (rgl rfl) rz0
  refine v_callV (st := []) cf4 oc10 k3 (lw_V q1316 q1305 q1306 q301 q1307) rfl yk_X4_set ⟨Nat.le_of_ble_eq_true rfl, Nat.le_of_ble_eq_true rfl⟩ trivial ⟨kc12, trivial⟩ (Nat.le_of_ble_eq_true rfl) rfl dX5_value_137 ?_
  refine v_iload_n dX5_value_140 0 rfl rfl ?_
  refine v_iconst dX5_value_141 ?_
  refine v_icmp_ne (tgt := 154) dX5_value_142 rz0 (rgl rfl) (by decide) (fun c4 => ?_) (fun c4 => ?_)
  · rw [if_neg c4] at h
    refine v_aload_n dX5_value_154 1 rfl rfl ?_
    refine v_dupO dX5_value_155 ?_
    refine v_getI (f := 2) cf5 oc12 rfl (by decide) q502 dX5_value_156 ?_
    refine v_iconst dX5_value_159 ?_
    refine v_iadd dX5_value_160 ?_
    obtain ⟨s5, e6, h⟩ := stp_some h
    refine v_putI (f := 2) cf5 oc12 rfl (by decide) q502 dX5_value_161 rfl rfl ?_
    rw [← e6]
    refine v_iload_n dX5_value_164 0 rfl rfl ?_
    refine v_bipush dX5_value_165 rfl ?_
    refine v_icmp_ne (tgt := 175) dX5_value_167 rz0 (rgl rfl) (by decide) (fun c7 => ?_) (fun c7 => ?_)
    · rw [if_neg c7] at h
      refine v_iload_n dX5_value_175 2 rfl rfl ?_
      cases h
      exact v_iret rx1 dX5_value_176
    · rw [if_pos c7] at h
      refine v_aload_n dX5_value_170 1 rfl rfl ?_
      refine v_iload_n dX5_value_171 2 rfl rfl ?_
      obtain ⟨s8, e9, h⟩ := bdv_some h
      have k10 := c_X5_list e9 rx1
      refine v_callV (st := []) cf5 oc12 k10 (lw_V q1379 q1381 qs37 q302 q1382) rfl yk_X5_list ⟨Nat.le_of_ble_eq_true rfl, Nat.le_of_ble_eq_true rfl⟩ trivial ⟨kc12, trivial⟩ (Nat.le_of_ble_eq_true rfl) rfl dX5_value_172 ?_
      refine v_iload_n dX5_value_175 2 rfl rfl ?_
      cases h
      exact v_iret rx1 dX5_value_176
  · rw [if_pos c4] at h
    refine v_aload_n dX5_value_145 1 rfl rfl ?_
    refine v_iload_n dX5_value_146 2 rfl rfl ?_
    refine v_iconst dX5_value_147 ?_
    obtain ⟨s11, e12, h⟩ := bdv_some h
    have k13 := c_X5_digits e12 rx1 (rgl rfl)
    refine v_callV (st := []) cf5 oc12 k13 (lw_V q1375 q1377 qs36 q302 q1378) rfl yk_X5_digits ⟨Nat.le_of_ble_eq_true rfl, Nat.le_of_ble_eq_true rfl⟩ trivial ⟨kc12, trivial⟩ (Nat.le_of_ble_eq_true rfl) rfl dX5_value_148 ?_
    refine v_goto (tgt := 175) dX5_value_151 (by decide) ?_
    refine v_iload_n dX5_value_175 2 rfl rfl ?_
    cases h
    exact v_iret rx1 dX5_value_176

def f_X5_value (s : vS) : Option (Int × vS) :=
  bd (f_X4_add 26 (gI s 12 2) s) fun r4 s1 =>
  if (gI s1 12 3) = 0 then
    bd (f_X5_is 166 s1) fun r10 s7 =>
    if r10 = 0 then
      bd (f_X5_is 127 s7) fun r16 s13 =>
      if r16 = 0 then
        bd (f_X5_is 145 s13) fun r22 s19 =>
        if r22 = 0 then
          bd (f_X5_is 0 s19) fun r28 s25 =>
          if r28 = 0 then
            bd (f_X5_is 3 s25) fun r34 s31 =>
            if r34 = 0 then
              bd (f_X5_is 4 s31) fun r40 s37 =>
              if r40 = 0 then
                bd (f_X5_is 5 s37) fun r46 s43 =>
                if r46 = 0 then
                  bd (f_X5_is 15 s43) fun r52 s49 =>
                  if r52 = 0 then
                    j_X5_value_129 r4 3 s49
                  else
                    j_X5_value_129 r4 8 s49
                else
                  j_X5_value_129 r4 7 s43
              else
                j_X5_value_129 r4 6 s37
            else
              j_X5_value_129 r4 5 s31
          else
            j_X5_value_129 r4 4 s25
        else
          j_X5_value_129 r4 2 s19
      else
        j_X5_value_129 r4 1 s13
    else
      j_X5_value_129 r4 0 s7
  else
    some (r4, s1)
theorem yk_X5_value : yOk yX5_value 0 := ⟨by decide, by decide, by decide +kernel⟩
theorem c_X5_value {s : vS} {out : Int × vS} (h : f_X5_value s = some out)   : VC yX5_value cX5_value 3 (some .int) 6 128 [vO 12] s (some (vI out.1)) out.2 [] := by
  unfold f_X5_value at h
  refine VC.of RX5 (by decide) rfl (Nat.le_of_ble_eq_true rfl) ?_
  show VW cX5_value (RX5, (some (vI out.1)), out.2, (some .int), 6, 128, 3, []) (P0 []) s 0 [(0, vO 12)] []
  refine v_aload_n dX5_value_0 0 rfl rfl ?_
  refine v_getS (f := 1) (t := 10) cf5 oc12 rfl rfl rfl (by decide) q501 dX5_value_1 ?_
  refine v_bipush dX5_value_4 rfl ?_
  refine v_aload_n dX5_value_6 0 rfl rfl ?_
  refine v_getI (f := 2) cf5 oc12 rfl (by decide) q502 dX5_value_7 ?_
  obtain ⟨r4, s1, e2, h⟩ := bd_some h
  have k3 := c_X4_add e2 (rgl rfl) (gI_rg _ _ _)
  have r5 : rg r4 := k3.1.2.2
  refine v_callV (st := []) cf4 oc10 k3 (lw_V q1299 q1300 q1301 q301 q1302) rfl yk_X4_add ⟨Nat.le_of_ble_eq_true rfl, Nat.le_of_ble_eq_true rfl⟩ trivial ⟨kc12, trivial⟩ (Nat.le_of_ble_eq_true rfl) rfl dX5_value_10 ?_
  refine v_istore_n (L1 := [(1, vI r4), (0, vO 12)]) dX5_value_13 rfl (by decide) rfl ?_
  refine v_aload_n dX5_value_14 1 rfl rfl ?_
  refine v_getI (f := 3) cf5 oc12 rfl (by decide) q503 dX5_value_15 ?_
  refine v_if_eq (tgt := 23) dX5_value_18 (gI_rg _ _ _) (by decide) (fun c6 => ?_) (fun c6 => ?_)
  · rw [if_pos c6] at h
    refine v_aload_n dX5_value_23 1 rfl rfl ?_
    refine v_sipush dX5_value_24 rfl ?_
    obtain ⟨r10, s7, e8, h⟩ := bd_some h
    have k9 := c_X5_is e8 (rgl rfl)
    have r11 : rg r10 := k9.1.2.2
    refine v_callV (st := []) cf5 oc12 k9 (lw_V q1264 q1266 qs18 q302 q1267) rfl yk_X5_is ⟨Nat.le_of_ble_eq_true rfl, Nat.le_of_ble_eq_true rfl⟩ trivial ⟨kc12, trivial⟩ (Nat.le_of_ble_eq_true rfl) rfl dX5_value_27 ?_
    refine v_if_eq (tgt := 37) dX5_value_30 r11 (by decide) (fun c12 => ?_) (fun c12 => ?_)
    · rw [if_pos c12] at h
      refine v_aload_n dX5_value_37 1 rfl rfl ?_
      refine v_bipush dX5_value_38 rfl ?_
      obtain ⟨r16, s13, e14, h⟩ := bd_some h
      have k15 := c_X5_is e14 (rgl rfl)
      have r17 : rg r16 := k15.1.2.2
      refine v_callV (st := []) cf5 oc12 k15 (lw_V q1264 q1266 qs18 q302 q1267) rfl yk_X5_is ⟨Nat.le_of_ble_eq_true rfl, Nat.le_of_ble_eq_true rfl⟩ trivial ⟨kc12, trivial⟩ (Nat.le_of_ble_eq_true rfl) rfl dX5_value_40 ?_
      refine v_if_eq (tgt := 50) dX5_value_43 r17 (by decide) (fun c18 => ?_) (fun c18 => ?_)
      · rw [if_pos c18] at h
        refine v_aload_n dX5_value_50 1 rfl rfl ?_
        refine v_sipush dX5_value_51 rfl ?_
        obtain ⟨r22, s19, e20, h⟩ := bd_some h
        have k21 := c_X5_is e20 (rgl rfl)
        have r23 : rg r22 := k21.1.2.2
        refine v_callV (st := []) cf5 oc12 k21 (lw_V q1264 q1266 qs18 q302 q1267) rfl yk_X5_is ⟨Nat.le_of_ble_eq_true rfl, Nat.le_of_ble_eq_true rfl⟩ trivial ⟨kc12, trivial⟩ (Nat.le_of_ble_eq_true rfl) rfl dX5_value_54 ?_
        refine v_if_eq (tgt := 64) dX5_value_57 r23 (by decide) (fun c24 => ?_) (fun c24 => ?_)
        · rw [if_pos c24] at h
          refine v_aload_n dX5_value_64 1 rfl rfl ?_
          refine v_iconst dX5_value_65 ?_
          obtain ⟨r28, s25, e26, h⟩ := bd_some h
          have k27 := c_X5_is e26 (rgl rfl)
          have r29 : rg r28 := k27.1.2.2
          refine v_callV (st := []) cf5 oc12 k27 (lw_V q1264 q1266 qs18 q302 q1267) rfl yk_X5_is ⟨Nat.le_of_ble_eq_true rfl, Nat.le_of_ble_eq_true rfl⟩ trivial ⟨kc12, trivial⟩ (Nat.le_of_ble_eq_true rfl) rfl dX5_value_66 ?_
          refine v_if_eq (tgt := 76) dX5_value_69 r29 (by decide) (fun c30 => ?_) (fun c30 => ?_)
          · rw [if_pos c30] at h
            refine v_aload_n dX5_value_76 1 rfl rfl ?_
            refine v_iconst dX5_value_77 ?_
            obtain ⟨r34, s31, e32, h⟩ := bd_some h
            have k33 := c_X5_is e32 (rgl rfl)
            have r35 : rg r34 := k33.1.2.2
            refine v_callV (st := []) cf5 oc12 k33 (lw_V q1264 q1266 qs18 q302 q1267) rfl yk_X5_is ⟨Nat.le_of_ble_eq_true rfl, Nat.le_of_ble_eq_true rfl⟩ trivial ⟨kc12, trivial⟩ (Nat.le_of_ble_eq_true rfl) rfl dX5_value_78 ?_
            refine v_if_eq (tgt := 88) dX5_value_81 r35 (by decide) (fun c36 => ?_) (fun c36 => ?_)
            · rw [if_pos c36] at h
              refine v_aload_n dX5_value_88 1 rfl rfl ?_
              refine v_iconst dX5_value_89 ?_
              obtain ⟨r40, s37, e38, h⟩ := bd_some h
              have k39 := c_X5_is e38 (rgl rfl)
              have r41 : rg r40 := k39.1.2.2
              refine v_callV (st := []) cf5 oc12 k39 (lw_V q1264 q1266 qs18 q302 q1267) rfl yk_X5_is ⟨Nat.le_of_ble_eq_true rfl, Nat.le_of_ble_eq_true rfl⟩ trivial ⟨kc12, trivial⟩ (Nat.le_of_ble_eq_true rfl) rfl dX5_value_90 ?_
              refine v_if_eq (tgt := 101) dX5_value_93 r41 (by decide) (fun c42 => ?_) (fun c42 => ?_)
              · rw [if_pos c42] at h
                refine v_aload_n dX5_value_101 1 rfl rfl ?_
                refine v_iconst dX5_value_102 ?_
                obtain ⟨r46, s43, e44, h⟩ := bd_some h
                have k45 := c_X5_is e44 (rgl rfl)
                have r47 : rg r46 := k45.1.2.2
                refine v_callV (st := []) cf5 oc12 k45 (lw_V q1264 q1266 qs18 q302 q1267) rfl yk_X5_is ⟨Nat.le_of_ble_eq_true rfl, Nat.le_of_ble_eq_true rfl⟩ trivial ⟨kc12, trivial⟩ (Nat.le_of_ble_eq_true rfl) rfl dX5_value_103 ?_
                refine v_if_eq (tgt := 114) dX5_value_106 r47 (by decide) (fun c48 => ?_) (fun c48 => ?_)
                · rw [if_pos c48] at h
                  refine v_aload_n dX5_value_114 1 rfl rfl ?_
                  refine v_bipush dX5_value_115 rfl ?_
                  obtain ⟨r52, s49, e50, h⟩ := bd_some h
                  have k51 := c_X5_is e50 (rgl rfl)
                  have r53 : rg r52 := k51.1.2.2
                  refine v_callV (st := []) cf5 oc12 k51 (lw_V q1264 q1266 qs18 q302 q1267) rfl yk_X5_is ⟨Nat.le_of_ble_eq_true rfl, Nat.le_of_ble_eq_true rfl⟩ trivial ⟨kc12, trivial⟩ (Nat.le_of_ble_eq_true rfl) rfl dX5_value_117 ?_
                  refine v_if_eq (tgt := 128) dX5_value_120 r53 (by decide) (fun c54 => ?_) (fun c54 => ?_)
                  · rw [if_pos c54] at h
                    refine v_iconst dX5_value_128 ?_
                    refine v_sub [1, 0] (L1 := [(0, vO 12), (1, vI r4)]) rfl ?_
                    exact wj_X5_value_129 h r5 (rgl rfl)
                  · rw [if_neg c54] at h
                    refine v_bipush dX5_value_123 rfl ?_
                    refine v_goto (tgt := 129) dX5_value_125 (by decide) ?_
                    refine v_sub [1, 0] (L1 := [(0, vO 12), (1, vI r4)]) rfl ?_
                    exact wj_X5_value_129 h r5 (rgl rfl)
                · rw [if_neg c48] at h
                  refine v_bipush dX5_value_109 rfl ?_
                  refine v_goto (tgt := 129) dX5_value_111 (by decide) ?_
                  refine v_sub [1, 0] (L1 := [(0, vO 12), (1, vI r4)]) rfl ?_
                  exact wj_X5_value_129 h r5 (rgl rfl)
              · rw [if_neg c42] at h
                refine v_bipush dX5_value_96 rfl ?_
                refine v_goto (tgt := 129) dX5_value_98 (by decide) ?_
                refine v_sub [1, 0] (L1 := [(0, vO 12), (1, vI r4)]) rfl ?_
                exact wj_X5_value_129 h r5 (rgl rfl)
            · rw [if_neg c36] at h
              refine v_iconst dX5_value_84 ?_
              refine v_goto (tgt := 129) dX5_value_85 (by decide) ?_
              refine v_sub [1, 0] (L1 := [(0, vO 12), (1, vI r4)]) rfl ?_
              exact wj_X5_value_129 h r5 (rgl rfl)
          · rw [if_neg c30] at h
            refine v_iconst dX5_value_72 ?_
            refine v_goto (tgt := 129) dX5_value_73 (by decide) ?_
            refine v_sub [1, 0] (L1 := [(0, vO 12), (1, vI r4)]) rfl ?_
            exact wj_X5_value_129 h r5 (rgl rfl)
        · rw [if_neg c24] at h
          refine v_iconst dX5_value_60 ?_
          refine v_goto (tgt := 129) dX5_value_61 (by decide) ?_
          refine v_sub [1, 0] (L1 := [(0, vO 12), (1, vI r4)]) rfl ?_
          exact wj_X5_value_129 h r5 (rgl rfl)
      · rw [if_neg c18] at h
        refine v_iconst dX5_value_46 ?_
        refine v_goto (tgt := 129) dX5_value_47 (by decide) ?_
        refine v_sub [1, 0] (L1 := [(0, vO 12), (1, vI r4)]) rfl ?_
        exact wj_X5_value_129 h r5 (rgl rfl)
    · rw [if_neg c12] at h
      refine v_iconst dX5_value_33 ?_
      refine v_goto (tgt := 129) dX5_value_34 (by decide) ?_
      refine v_sub [1, 0] (L1 := [(0, vO 12), (1, vI r4)]) rfl ?_
      exact wj_X5_value_129 h r5 (rgl rfl)
  · rw [if_neg c6] at h
    refine v_iload_n dX5_value_21 0 rfl rfl ?_
    cases h
    exact v_iret r5 dX5_value_22

def f_X5_bound (s : vS) : Option (Int × vS) :=
  bd (f_X4_add 25 (gI s 12 2) s) fun r4 s1 =>
  if (gI s1 12 3) = 0 then
    bd (f_X5_may 143 s1) fun r10 s7 =>
    if r10 = 0 then
      bd (f_X5_may 142 s7) fun r16 s13 =>
      if r16 = 0 then
        bd (f_X5_may 0 s13) fun r22 s19 =>
        if r22 = 0 then
          bdv (f_X5_digits r4 2 s19) fun s25 =>
          some (r4, s25)
        else
          bdv (f_X4_set r4 5 3 s19) fun s28 =>
          some (r4, s28)
      else
        bdv (f_X4_set r4 5 1 s13) fun s31 =>
        some (r4, s31)
    else
      bdv (f_X4_set r4 5 0 s7) fun s34 =>
      some (r4, s34)
  else
    some (r4, s1)
theorem yk_X5_bound : yOk yX5_bound 0 := ⟨by decide, by decide, by decide +kernel⟩
theorem c_X5_bound {s : vS} {out : Int × vS} (h : f_X5_bound s = some out)   : VC yX5_bound cX5_bound 2 (some .int) 6 126 [vO 12] s (some (vI out.1)) out.2 [] := by
  unfold f_X5_bound at h
  refine VC.of RX5 (by decide) rfl (Nat.le_of_ble_eq_true rfl) ?_
  show VW cX5_bound (RX5, (some (vI out.1)), out.2, (some .int), 6, 126, 2, []) (P0 []) s 0 [(0, vO 12)] []
  refine v_aload_n dX5_bound_0 0 rfl rfl ?_
  refine v_getS (f := 1) (t := 10) cf5 oc12 rfl rfl rfl (by decide) q501 dX5_bound_1 ?_
  refine v_bipush dX5_bound_4 rfl ?_
  refine v_aload_n dX5_bound_6 0 rfl rfl ?_
  refine v_getI (f := 2) cf5 oc12 rfl (by decide) q502 dX5_bound_7 ?_
  obtain ⟨r4, s1, e2, h⟩ := bd_some h
  have k3 := c_X4_add e2 (rgl rfl) (gI_rg _ _ _)
  have r5 : rg r4 := k3.1.2.2
  refine v_callV (st := []) cf4 oc10 k3 (lw_V q1299 q1300 q1301 q301 q1302) rfl yk_X4_add ⟨Nat.le_of_ble_eq_true rfl, Nat.le_of_ble_eq_true rfl⟩ trivial ⟨kc12, trivial⟩ (Nat.le_of_ble_eq_true rfl) rfl dX5_bound_10 ?_
  refine v_istore_n (L1 := [(1, vI r4), (0, vO 12)]) dX5_bound_13 rfl (by decide) rfl ?_
  refine v_aload_n dX5_bound_14 1 rfl rfl ?_
  refine v_getI (f := 3) cf5 oc12 rfl (by decide) q503 dX5_bound_15 ?_
  refine v_if_eq (tgt := 23) dX5_bound_18 (gI_rg _ _ _) (by decide) (fun c6 => ?_) (fun c6 => ?_)
  · rw [if_pos c6] at h
    refine v_aload_n dX5_bound_23 1 rfl rfl ?_
    refine v_sipush dX5_bound_24 rfl ?_
    obtain ⟨r10, s7, e8, h⟩ := bd_some h
    have k9 := c_X5_may e8 (rgl rfl)
    have r11 : rg r10 := k9.1.2.2
    refine v_callV (st := []) cf5 oc12 k9 (lw_V q1291 q1293 qs22 q302 q1294) rfl yk_X5_may ⟨Nat.le_of_ble_eq_true rfl, Nat.le_of_ble_eq_true rfl⟩ trivial ⟨kc12, trivial⟩ (Nat.le_of_ble_eq_true rfl) rfl dX5_bound_27 ?_
    refine v_if_eq (tgt := 46) dX5_bound_30 r11 (by decide) (fun c12 => ?_) (fun c12 => ?_)
    · rw [if_pos c12] at h
      refine v_aload_n dX5_bound_46 1 rfl rfl ?_
      refine v_sipush dX5_bound_47 rfl ?_
      obtain ⟨r16, s13, e14, h⟩ := bd_some h
      have k15 := c_X5_may e14 (rgl rfl)
      have r17 : rg r16 := k15.1.2.2
      refine v_callV (st := []) cf5 oc12 k15 (lw_V q1291 q1293 qs22 q302 q1294) rfl yk_X5_may ⟨Nat.le_of_ble_eq_true rfl, Nat.le_of_ble_eq_true rfl⟩ trivial ⟨kc12, trivial⟩ (Nat.le_of_ble_eq_true rfl) rfl dX5_bound_50 ?_
      refine v_if_eq (tgt := 69) dX5_bound_53 r17 (by decide) (fun c18 => ?_) (fun c18 => ?_)
      · rw [if_pos c18] at h
        refine v_aload_n dX5_bound_69 1 rfl rfl ?_
        refine v_iconst dX5_bound_70 ?_
        obtain ⟨r22, s19, e20, h⟩ := bd_some h
        have k21 := c_X5_may e20 (rgl rfl)
        have r23 : rg r22 := k21.1.2.2
        refine v_callV (st := []) cf5 oc12 k21 (lw_V q1291 q1293 qs22 q302 q1294) rfl yk_X5_may ⟨Nat.le_of_ble_eq_true rfl, Nat.le_of_ble_eq_true rfl⟩ trivial ⟨kc12, trivial⟩ (Nat.le_of_ble_eq_true rfl) rfl dX5_bound_71 ?_
        refine v_if_eq (tgt := 90) dX5_bound_74 r23 (by decide) (fun c24 => ?_) (fun c24 => ?_)
        · rw [if_pos c24] at h
          refine v_aload_n dX5_bound_90 1 rfl rfl ?_
          refine v_iload_n dX5_bound_91 0 rfl rfl ?_
          refine v_iconst dX5_bound_92 ?_
          obtain ⟨s25, e26, h⟩ := bdv_some h
          have k27 := c_X5_digits e26 r5 (rgl rfl)
          refine v_callV (st := []) cf5 oc12 k27 (lw_V q1375 q1377 qs36 q302 q1378) rfl yk_X5_digits ⟨Nat.le_of_ble_eq_true rfl, Nat.le_of_ble_eq_true rfl⟩ trivial ⟨kc12, trivial⟩ (Nat.le_of_ble_eq_true rfl) rfl dX5_bound_93 ?_
          refine v_iload_n dX5_bound_96 0 rfl rfl ?_
          cases h
          exact v_iret r5 dX5_bound_97
        · rw [if_neg c24] at h
          refine v_aload_n dX5_bound_77 1 rfl rfl ?_
          refine v_getS (f := 1) (t := 10) cf5 oc12 rfl rfl rfl (by decide) q501 dX5_bound_78 ?_
          refine v_iload_n dX5_bound_81 0 rfl rfl ?_
          refine v_iconst dX5_bound_82 ?_
          refine v_iconst dX5_bound_83 ?_
          obtain ⟨s28, e29, h⟩ := bdv_some h
          have k30 := c_X4_set e29 r5 (rgl rfl) (rgl rfl)
          refine v_callV (st := []) cf4 oc10 k30 (lw_V q1316 q1305 q1306 q301 q1307) rfl yk_X4_set ⟨Nat.le_of_ble_eq_true rfl, Nat.le_of_ble_eq_true rfl⟩ trivial ⟨kc12, trivial⟩ (Nat.le_of_ble_eq_true rfl) rfl dX5_bound_84 ?_
          refine v_goto (tgt := 96) dX5_bound_87 (by decide) ?_
          refine v_iload_n dX5_bound_96 0 rfl rfl ?_
          cases h
          exact v_iret r5 dX5_bound_97
      · rw [if_neg c18] at h
        refine v_aload_n dX5_bound_56 1 rfl rfl ?_
        refine v_getS (f := 1) (t := 10) cf5 oc12 rfl rfl rfl (by decide) q501 dX5_bound_57 ?_
        refine v_iload_n dX5_bound_60 0 rfl rfl ?_
        refine v_iconst dX5_bound_61 ?_
        refine v_iconst dX5_bound_62 ?_
        obtain ⟨s31, e32, h⟩ := bdv_some h
        have k33 := c_X4_set e32 r5 (rgl rfl) (rgl rfl)
        refine v_callV (st := []) cf4 oc10 k33 (lw_V q1316 q1305 q1306 q301 q1307) rfl yk_X4_set ⟨Nat.le_of_ble_eq_true rfl, Nat.le_of_ble_eq_true rfl⟩ trivial ⟨kc12, trivial⟩ (Nat.le_of_ble_eq_true rfl) rfl dX5_bound_63 ?_
        refine v_goto (tgt := 96) dX5_bound_66 (by decide) ?_
        refine v_iload_n dX5_bound_96 0 rfl rfl ?_
        cases h
        exact v_iret r5 dX5_bound_97
    · rw [if_neg c12] at h
      refine v_aload_n dX5_bound_33 1 rfl rfl ?_
      refine v_getS (f := 1) (t := 10) cf5 oc12 rfl rfl rfl (by decide) q501 dX5_bound_34 ?_
      refine v_iload_n dX5_bound_37 0 rfl rfl ?_
      refine v_iconst dX5_bound_38 ?_
      refine v_iconst dX5_bound_39 ?_
      obtain ⟨s34, e35, h⟩ := bdv_some h
      have k36 := c_X4_set e35 r5 (rgl rfl) (rgl rfl)
      refine v_callV (st := []) cf4 oc10 k36 (lw_V q1316 q1305 q1306 q301 q1307) rfl yk_X4_set ⟨Nat.le_of_ble_eq_true rfl, Nat.le_of_ble_eq_true rfl⟩ trivial ⟨kc12, trivial⟩ (Nat.le_of_ble_eq_true rfl) rfl dX5_bound_40 ?_
      refine v_goto (tgt := 96) dX5_bound_43 (by decide) ?_
      refine v_iload_n dX5_bound_96 0 rfl rfl ?_
      cases h
      exact v_iret r5 dX5_bound_97
  · rw [if_neg c6] at h
    refine v_iload_n dX5_bound_21 0 rfl rfl ?_
    cases h
    exact v_iret r5 dX5_bound_22

def E_X5_ranges_12 (rv : Option vA) (σo : vS) (q : vS) : Prop := ∀ (s' : vS), q = s' → VW cX5_ranges (RX5, rv, σo, none, 7, 147, 6, []) (P0 []) s' 91 [] []
def j_X5_ranges_82 (rec : Int → Int → vS → Option (vS)) (x1 : Int) (x3 : Int) (s : vS) : Option (vS) :=
  bd (f_X5_may 24 s) fun r4 s1 =>
  if r4 = 0 then
    some s1
  else
    rec x1 x3 s1
theorem wj_X5_ranges_82 {x1 : Int} {x3 : Int} {s : vS} {rv : Option vA} {σo : vS} {rec : Int → Int → vS → Option (vS)} {q : vS} (h : j_X5_ranges_82 rec x1 x3 s = some q)  (rx1 : rg x1) (rx3 : rg x3) (hrec : ∀ (y3 : Int) (s : vS) (q : vS), rec x1 y3 s = some q → rg y3 → E_X5_ranges_12 rv σo q → VW cX5_ranges (RX5, rv, σo, none, 7, 147, 6, []) (P0 []) s 12 [(0, vO 12), (1, vI x1), (3, vI y3)] []) (hE : E_X5_ranges_12 rv σo q) : VW cX5_ranges (RX5, rv, σo, none, 7, 147, 6, []) (P0 []) s 82 [(0, vO 12), (1, vI x1), (3, vI x3)] [] := by
  unfold j_X5_ranges_82 at h
  refine v_aload_n dX5_ranges_82 0 rfl rfl ?_
  refine v_bipush dX5_ranges_83 rfl ?_
  obtain ⟨r4, s1, e2, h⟩ := bd_some h
  have k3 := c_X5_may e2 (rgl rfl)
  have r5 : rg r4 := k3.1.2.2
  refine v_callV (st := []) cf5 oc12 k3 (lw_V q1291 q1293 qs22 q302 q1294) rfl yk_X5_may ⟨Nat.le_of_ble_eq_true rfl, Nat.le_of_ble_eq_true rfl⟩ trivial ⟨kc12, trivial⟩ (Nat.le_of_ble_eq_true rfl) rfl dX5_ranges_85 ?_
  refine v_if_ne (tgt := 12) dX5_ranges_88 r5 (by decide) (fun c6 => ?_) (fun c6 => ?_)
  · rw [if_neg c6] at h
    exact hrec x3 s1 _ h rx3 hE
  · rw [if_pos c6] at h
    cases h
    refine v_sub [] (L1 := []) rfl ?_
    exact hE _ rfl 

def l_X5_ranges_12 : Nat → Int → Int → vS → Option (vS)
  | 0, _, _, _ => none
  | n + 1, x1, x3, s =>
    bd (f_X4_add 24 (gI s 12 2) s) fun r4 s1 =>
    bd (f_X4_chain x1 3 x3 r4 s1) fun r9 s6 =>
    bd (f_X5_bound s6) fun r14 s11 =>
    bdv (f_X4_set r4 3 r14 s11) fun s16 =>
    bd (f_X5_may 12 s16) fun r22 s19 =>
    if r22 = 0 then
      j_X5_ranges_82 (l_X5_ranges_12 n) x1 r9 s19
    else
      bd (f_X5_bound s19) fun r28 s25 =>
      bdv (f_X4_set r14 8 r28 s25) fun s30 =>
      j_X5_ranges_82 (l_X5_ranges_12 n) x1 r9 s30
theorem wl_X5_ranges_12 {x1 : Int} {rv : Option vA} {σo : vS}  (rx1 : rg x1) : ∀ (n : Nat) (x3 : Int) (s : vS) (q : vS), l_X5_ranges_12 n x1 x3 s = some q → rg x3 → E_X5_ranges_12 rv σo q → VW cX5_ranges (RX5, rv, σo, none, 7, 147, 6, []) (P0 []) s 12 [(0, vO 12), (1, vI x1), (3, vI x3)] [] := by
  intro n
  induction n with
  | zero => intro x3 s q h; cases h
  | succ n ih =>
    intro x3 s q h rx3 hE
    unfold l_X5_ranges_12 at h
    refine v_aload_n dX5_ranges_12 0 rfl rfl ?_
    refine v_getS (f := 1) (t := 10) cf5 oc12 rfl rfl rfl (by decide) q501 dX5_ranges_13 ?_
    refine v_bipush dX5_ranges_16 rfl ?_
    refine v_aload_n dX5_ranges_18 0 rfl rfl ?_
    refine v_getI (f := 2) cf5 oc12 rfl (by decide) q502 dX5_ranges_19 ?_
    obtain ⟨r4, s1, e2, h⟩ := bd_some h
    have k3 := c_X4_add e2 (rgl rfl) (gI_rg _ _ _)
    have r5 : rg r4 := k3.1.2.2
    refine v_callV (st := []) cf4 oc10 k3 (lw_V q1299 q1300 q1301 q301 q1302) rfl yk_X4_add ⟨Nat.le_of_ble_eq_true rfl, Nat.le_of_ble_eq_true rfl⟩ trivial ⟨kc12, trivial⟩ (Nat.le_of_ble_eq_true rfl) rfl dX5_ranges_22 ?_
    refine v_istore (L1 := [(4, vI r4), (0, vO 12), (1, vI x1), (3, vI x3)]) dX5_ranges_25 (by decide) rfl ?_
    refine v_aload_n dX5_ranges_27 1 rfl rfl ?_
    refine v_getS (f := 1) (t := 10) cf5 oc12 rfl rfl rfl (by decide) q501 dX5_ranges_28 ?_
    refine v_iload_n dX5_ranges_31 2 rfl rfl ?_
    refine v_iconst dX5_ranges_32 ?_
    refine v_iload_n dX5_ranges_33 3 rfl rfl ?_
    refine v_iload dX5_ranges_34 0 rfl ?_
    obtain ⟨r9, s6, e7, h⟩ := bd_some h
    have k8 := c_X4_chain e7 rx1 (rgl rfl) rx3 r5
    have r10 : rg r9 := k8.1.2.2
    refine v_callV (st := []) cf4 oc10 k8 (lw_V q1334 q1335 q1336 q301 q1337) rfl yk_X4_chain ⟨Nat.le_of_ble_eq_true rfl, Nat.le_of_ble_eq_true rfl⟩ trivial ⟨kc12, trivial⟩ (Nat.le_of_ble_eq_true rfl) rfl dX5_ranges_36 ?_
    refine v_istore_n (L1 := [(3, vI r9), (4, vI r4), (0, vO 12), (1, vI x1)]) dX5_ranges_39 rfl (by decide) rfl ?_
    refine v_aload_n dX5_ranges_40 2 rfl rfl ?_
    obtain ⟨r14, s11, e12, h⟩ := bd_some h
    have k13 := c_X5_bound e12
    have r15 : rg r14 := k13.1.2.2
    refine v_callV (st := []) cf5 oc12 k13 (lw_V q1391 q1393 qs40 q302 q1394) rfl yk_X5_bound ⟨Nat.le_of_ble_eq_true rfl, Nat.le_of_ble_eq_true rfl⟩ trivial ⟨kc12, trivial⟩ (Nat.le_of_ble_eq_true rfl) rfl dX5_ranges_41 ?_
    refine v_istore (L1 := [(5, vI r14), (3, vI r9), (4, vI r4), (0, vO 12), (1, vI x1)]) dX5_ranges_44 (by decide) rfl ?_
    refine v_aload_n dX5_ranges_46 3 rfl rfl ?_
    refine v_getS (f := 1) (t := 10) cf5 oc12 rfl rfl rfl (by decide) q501 dX5_ranges_47 ?_
    refine v_iload dX5_ranges_50 2 rfl ?_
    refine v_iconst dX5_ranges_52 ?_
    refine v_iload dX5_ranges_53 0 rfl ?_
    obtain ⟨s16, e17, h⟩ := bdv_some h
    have k18 := c_X4_set e17 r5 (rgl rfl) r15
    refine v_callV (st := []) cf4 oc10 k18 (lw_V q1316 q1305 q1306 q301 q1307) rfl yk_X4_set ⟨Nat.le_of_ble_eq_true rfl, Nat.le_of_ble_eq_true rfl⟩ trivial ⟨kc12, trivial⟩ (Nat.le_of_ble_eq_true rfl) rfl dX5_ranges_55 ?_
    refine v_aload_n dX5_ranges_58 3 rfl rfl ?_
    refine v_bipush dX5_ranges_59 rfl ?_
    obtain ⟨r22, s19, e20, h⟩ := bd_some h
    have k21 := c_X5_may e20 (rgl rfl)
    have r23 : rg r22 := k21.1.2.2
    refine v_callV (st := []) cf5 oc12 k21 (lw_V q1291 q1293 qs22 q302 q1294) rfl yk_X5_may ⟨Nat.le_of_ble_eq_true rfl, Nat.le_of_ble_eq_true rfl⟩ trivial ⟨kc12, trivial⟩ (Nat.le_of_ble_eq_true rfl) rfl dX5_ranges_61 ?_
    refine v_if_eq (tgt := 82) dX5_ranges_64 r23 (by decide) (fun c24 => ?_) (fun c24 => ?_)
    · rw [if_pos c24] at h
      refine v_sub [3, 4, 1] (L1 := [(0, vO 12), (1, vI x1), (3, vI r9)]) rfl ?_
      exact wj_X5_ranges_82 h rx1 r10 ih hE
    · rw [if_neg c24] at h
      refine v_aload_n dX5_ranges_67 3 rfl rfl ?_
      refine v_getS (f := 1) (t := 10) cf5 oc12 rfl rfl rfl (by decide) q501 dX5_ranges_68 ?_
      refine v_iload dX5_ranges_71 0 rfl ?_
      refine v_bipush dX5_ranges_73 rfl ?_
      refine v_aload_n dX5_ranges_75 3 rfl rfl ?_
      obtain ⟨r28, s25, e26, h⟩ := bd_some h
      have k27 := c_X5_bound e26
      have r29 : rg r28 := k27.1.2.2
      refine v_callV (st := [vI 8, vI r14, vO 10]) cf5 oc12 k27 (lw_V q1391 q1393 qs40 q302 q1394) rfl yk_X5_bound ⟨Nat.le_of_ble_eq_true rfl, Nat.le_of_ble_eq_true rfl⟩ ⟨kc10, trivial⟩ ⟨kc12, trivial⟩ (Nat.le_of_ble_eq_true rfl) rfl dX5_ranges_76 ?_
      obtain ⟨s30, e31, h⟩ := bdv_some h
      have k32 := c_X4_set e31 r15 (rgl rfl) r29
      refine v_callV (st := []) cf4 oc10 k32 (lw_V q1316 q1305 q1306 q301 q1307) rfl yk_X4_set ⟨Nat.le_of_ble_eq_true rfl, Nat.le_of_ble_eq_true rfl⟩ trivial ⟨kc12, trivial⟩ (Nat.le_of_ble_eq_true rfl) rfl dX5_ranges_79 ?_
      refine v_sub [3, 4, 1] (L1 := [(0, vO 12), (1, vI x1), (3, vI r9)]) rfl ?_
      exact wj_X5_ranges_82 h rx1 r10 ih hE

def f_X5_ranges (x1 : Int) (x2 : Int) (s : vS) : Option (vS) :=
  bdv (f_X4_set x1 5 x2 s) fun s1 =>
  lq_0 (l_X5_ranges_12 FU x1 (-1) s1) fun s4 =>
  some s4
theorem yk_X5_ranges : yOk yX5_ranges 2 := ⟨by decide, by decide, by decide +kernel⟩
theorem c_X5_ranges {x1 : Int} {x2 : Int} {s : vS} {out : vS} (h : f_X5_ranges x1 x2 s = some out)  (rx1 : rg x1) (rx2 : rg x2) : VC yX5_ranges cX5_ranges 6 none 7 147 [vO 12, vI x1, vI x2] s none out [] := by
  unfold f_X5_ranges at h
  refine VC.of RX5 (by decide) rfl (Nat.le_of_ble_eq_true rfl) ?_
  show VW cX5_ranges (RX5, none, out, none, 7, 147, 6, []) (P0 []) s 0 [(0, vO 12), (1, vI x1), (2, vI x2)] []
  refine v_aload_n dX5_ranges_0 0 rfl rfl ?_
  refine v_getS (f := 1) (t := 10) cf5 oc12 rfl rfl rfl (by decide) q501 dX5_ranges_1 ?_
  refine v_iload_n dX5_ranges_4 1 rfl rfl ?_
  refine v_iconst dX5_ranges_5 ?_
  refine v_iload_n dX5_ranges_6 2 rfl rfl ?_
  obtain ⟨s1, e2, h⟩ := bdv_some h
  have k3 := c_X4_set e2 rx1 (rgl rfl) rx2
  refine v_callV (st := []) cf4 oc10 k3 (lw_V q1316 q1305 q1306 q301 q1307) rfl yk_X4_set ⟨Nat.le_of_ble_eq_true rfl, Nat.le_of_ble_eq_true rfl⟩ trivial ⟨kc12, trivial⟩ (Nat.le_of_ble_eq_true rfl) rfl dX5_ranges_7 ?_
  refine v_iconst dX5_ranges_10 ?_
  refine v_istore_n (L1 := [(3, vI (-1)), (0, vO 12), (1, vI x1), (2, vI x2)]) dX5_ranges_11 rfl (by decide) rfl ?_
  refine v_sub [1, 2, 0] (L1 := [(0, vO 12), (1, vI x1), (3, vI (-1))]) rfl ?_
  obtain ⟨s4, e5, h⟩ := lq_0_some h
  refine wl_X5_ranges_12 rx1 FU (-1) s1 _ e5 (rgl rfl) ?_
  unfold E_X5_ranges_12
  intro s4' z_
  cases z_
  cases h
  exact v_vret dX5_ranges_91

def f_X5_sizes (x1 : Int) (s : vS) : Option (Int × vS) :=
  stp (sI s 12 2 (w32 ((gI s 12 2) + 1))) fun s1 =>
  bd (f_X5_take 19 s1) fun r6 s3 =>
  if r6 = 0 then
    some (0, s3)
  else
    bdv (f_X5_ranges x1 1 s3) fun s9 =>
    bd (f_X5_take 20 s9) fun r15 s12 =>
    gd (r15 = 0 ∨ r15 = 1) <|
    some (r15, s12)
theorem yk_X5_sizes : yOk yX5_sizes 1 := ⟨by decide, by decide, by decide +kernel⟩
theorem c_X5_sizes {x1 : Int} {s : vS} {out : Int × vS} (h : f_X5_sizes x1 s = some out)  (rx1 : rg x1) : VC yX5_sizes cX5_sizes 2 (some .boolean) 8 172 [vO 12, vI x1] s (some (vI out.1)) out.2 [] := by
  unfold f_X5_sizes at h
  refine VC.of RX5 (by decide) rfl (Nat.le_of_ble_eq_true rfl) ?_
  show VW cX5_sizes (RX5, (some (vI out.1)), out.2, (some .boolean), 8, 172, 2, []) (P0 []) s 0 [(0, vO 12), (1, vI x1)] []
  refine v_aload_n dX5_sizes_0 0 rfl rfl ?_
  refine v_dupO dX5_sizes_1 ?_
  refine v_getI (f := 2) cf5 oc12 rfl (by decide) q502 dX5_sizes_2 ?_
  refine v_iconst dX5_sizes_5 ?_
  refine v_iadd dX5_sizes_6 ?_
  obtain ⟨s1, e2, h⟩ := stp_some h
  refine v_putI (f := 2) cf5 oc12 rfl (by decide) q502 dX5_sizes_7 rfl rfl ?_
  rw [← e2]
  refine v_aload_n dX5_sizes_10 0 rfl rfl ?_
  refine v_bipush dX5_sizes_11 rfl ?_
  obtain ⟨r6, s3, e4, h⟩ := bd_some h
  have k5 := c_X5_take e4 (rgl rfl)
  have r7 : rg r6 := k5.1.2.2
  refine v_callV (st := []) cf5 oc12 k5 (lw_V q1260 q1262 qs17 q302 q1263) rfl yk_X5_take ⟨Nat.le_of_ble_eq_true rfl, Nat.le_of_ble_eq_true rfl⟩ trivial ⟨kc12, trivial⟩ (Nat.le_of_ble_eq_true rfl) rfl dX5_sizes_13 ?_
  refine v_if_ne (tgt := 21) dX5_sizes_16 r7 (by decide) (fun c8 => ?_) (fun c8 => ?_)
  · rw [if_neg c8] at h
    refine v_aload_n dX5_sizes_21 0 rfl rfl ?_
    refine v_iload_n dX5_sizes_22 1 rfl rfl ?_
    refine v_iconst dX5_sizes_23 ?_
    obtain ⟨s9, e10, h⟩ := bdv_some h
    have k11 := c_X5_ranges e10 rx1 (rgl rfl)
    refine v_callV (st := []) cf5 oc12 k11 (lw_V q1387 q1389 qs39 q302 q1390) rfl yk_X5_ranges ⟨Nat.le_of_ble_eq_true rfl, Nat.le_of_ble_eq_true rfl⟩ trivial ⟨kc12, trivial⟩ (Nat.le_of_ble_eq_true rfl) rfl dX5_sizes_24 ?_
    refine v_aload_n dX5_sizes_27 0 rfl rfl ?_
    refine v_bipush dX5_sizes_28 rfl ?_
    obtain ⟨r15, s12, e13, h⟩ := bd_some h
    have k14 := c_X5_take e13 (rgl rfl)
    have r16 : rg r15 := k14.1.2.2
    refine v_callV (st := []) cf5 oc12 k14 (lw_V q1260 q1262 qs17 q302 q1263) rfl yk_X5_take ⟨Nat.le_of_ble_eq_true rfl, Nat.le_of_ble_eq_true rfl⟩ trivial ⟨kc12, trivial⟩ (Nat.le_of_ble_eq_true rfl) rfl dX5_sizes_30 ?_
    obtain ⟨g17, h⟩ := gd_some h
    cases h
    exact v_zret g17 dX5_sizes_33
  · rw [if_pos c8] at h
    refine v_iconst dX5_sizes_19 ?_
    cases h
    exact v_zret (Or.inl rfl) dX5_sizes_20

def f_X4_at (x1 : Int) (x2 : Int) (s : vS) : Option (Int × vS) :=
  gd (inb (w32 ((w32 (9 * x1)) + x2)) (gN s 11)) <|
  some (gE s 11 (w32 ((w32 (9 * x1)) + x2)), s)
theorem yk_X4_at : yOk yX4_at 2 := ⟨by decide, by decide, by decide +kernel⟩
theorem c_X4_at {x1 : Int} {x2 : Int} {s : vS} {out : Int × vS} (h : f_X4_at x1 x2 s = some out)  (rx1 : rg x1) (rx2 : rg x2) : VC yX4_at cX4_at 3 (some .int) 0 0 [vO 10, vI x1, vI x2] s (some (vI out.1)) out.2 [] := by
  unfold f_X4_at at h
  refine VC.of RX4 (by decide) rfl (Nat.le_of_ble_eq_true rfl) ?_
  show VW cX4_at (RX4, (some (vI out.1)), out.2, (some .int), 0, 0, 3, []) (P0 []) s 0 [(0, vO 10), (1, vI x1), (2, vI x2)] []
  refine v_aload_n dX4_at_0 0 rfl rfl ?_
  refine v_getS (f := 0) (t := 11) cf4 oc10 rfl rfl rfl (by decide) q466 dX4_at_1 ?_
  refine v_bipush dX4_at_4 rfl ?_
  refine v_iload_n dX4_at_6 1 rfl rfl ?_
  refine v_imul dX4_at_7 ?_
  refine v_iload_n dX4_at_8 2 rfl rfl ?_
  refine v_iadd dX4_at_9 ?_
  obtain ⟨g1, h⟩ := gd_some h
  refine v_iald oc11 (w32_rg _) g1.1 g1.2 dX4_at_10 ?_
  cases h
  exact v_iret (gE_rg _ _ _) dX4_at_11

def f_X4_limits (x1 : Int) (s : vS) : Option (Int × vS) :=
  bd (f_X4_at x1 4 s) fun r4 s1 =>
  some (r4, s1)
theorem yk_X4_limits : yOk yX4_limits 1 := ⟨by decide, by decide, by decide +kernel⟩
theorem c_X4_limits {x1 : Int} {s : vS} {out : Int × vS} (h : f_X4_limits x1 s = some out)  (rx1 : rg x1) : VC yX4_limits cX4_limits 2 (some .int) 1 22 [vO 10, vI x1] s (some (vI out.1)) out.2 [] := by
  unfold f_X4_limits at h
  refine VC.of RX4 (by decide) rfl (Nat.le_of_ble_eq_true rfl) ?_
  show VW cX4_limits (RX4, (some (vI out.1)), out.2, (some .int), 1, 22, 2, []) (P0 []) s 0 [(0, vO 10), (1, vI x1)] []
  refine v_aload_n dX4_limits_0 0 rfl rfl ?_
  refine v_iload_n dX4_limits_1 1 rfl rfl ?_
  refine v_iconst dX4_limits_2 ?_
  obtain ⟨r4, s1, e2, h⟩ := bd_some h
  have k3 := c_X4_at e2 rx1 (rgl rfl)
  have r5 : rg r4 := k3.1.2.2
  refine v_callV (st := []) cf4 oc10 k3 (lw_V q1399 q1400 q1401 q301 q1402) rfl yk_X4_at ⟨Nat.le_of_ble_eq_true rfl, Nat.le_of_ble_eq_true rfl⟩ trivial ⟨kc10, trivial⟩ (Nat.le_of_ble_eq_true rfl) rfl dX4_limits_3 ?_
  cases h
  exact v_iret r5 dX4_limits_6

def f_X4_next (x1 : Int) (s : vS) : Option (Int × vS) :=
  bd (f_X4_at x1 8 s) fun r4 s1 =>
  some (r4, s1)
theorem yk_X4_next : yOk yX4_next 1 := ⟨by decide, by decide, by decide +kernel⟩
theorem c_X4_next {x1 : Int} {s : vS} {out : Int × vS} (h : f_X4_next x1 s = some out)  (rx1 : rg x1) : VC yX4_next cX4_next 2 (some .int) 1 22 [vO 10, vI x1] s (some (vI out.1)) out.2 [] := by
  unfold f_X4_next at h
  refine VC.of RX4 (by decide) rfl (Nat.le_of_ble_eq_true rfl) ?_
  show VW cX4_next (RX4, (some (vI out.1)), out.2, (some .int), 1, 22, 2, []) (P0 []) s 0 [(0, vO 10), (1, vI x1)] []
  refine v_aload_n dX4_next_0 0 rfl rfl ?_
  refine v_iload_n dX4_next_1 1 rfl rfl ?_
  refine v_bipush dX4_next_2 rfl ?_
  obtain ⟨r4, s1, e2, h⟩ := bd_some h
  have k3 := c_X4_at e2 rx1 (rgl rfl)
  have r5 : rg r4 := k3.1.2.2
  refine v_callV (st := []) cf4 oc10 k3 (lw_V q1399 q1400 q1401 q301 q1402) rfl yk_X4_at ⟨Nat.le_of_ble_eq_true rfl, Nat.le_of_ble_eq_true rfl⟩ trivial ⟨kc10, trivial⟩ (Nat.le_of_ble_eq_true rfl) rfl dX4_next_4 ?_
  cases h
  exact v_iret r5 dX4_next_7

def j_X5_limit_49 (x1 : Int) (s : vS) : Option (Int × vS) :=
  bd (f_X5_take 20 s) fun r4 s1 =>
  some (x1, s1)
theorem wj_X5_limit_49 {x1 : Int} {s : vS} {out : Int × vS} (h : j_X5_limit_49 x1 s = some out)  (rx1 : rg x1) : VW cX5_limit (RX5, (some (vI out.1)), out.2, (some .int), 9, 193, 2, []) (P0 []) s 49 [(0, vO 12), (1, vI x1)] [] := by
  unfold j_X5_limit_49 at h
  refine v_aload_n dX5_limit_49 0 rfl rfl ?_
  refine v_bipush dX5_limit_50 rfl ?_
  obtain ⟨r4, s1, e2, h⟩ := bd_some h
  have k3 := c_X5_take e2 (rgl rfl)
  have r5 : rg r4 := k3.1.2.2
  refine v_callV (st := []) cf5 oc12 k3 (lw_V q1260 q1262 qs17 q302 q1263) rfl yk_X5_take ⟨Nat.le_of_ble_eq_true rfl, Nat.le_of_ble_eq_true rfl⟩ trivial ⟨kc12, trivial⟩ (Nat.le_of_ble_eq_true rfl) rfl dX5_limit_52 ?_
  refine v_popI dX5_limit_55 ?_
  refine v_iload_n dX5_limit_56 1 rfl rfl ?_
  cases h
  exact v_iret rx1 dX5_limit_57

def f_X5_limit (s : vS) : Option (Int × vS) :=
  bd (f_X4_add 23 (gI s 12 2) s) fun r4 s1 =>
  stp (sI s1 12 2 (w32 ((gI s1 12 2) + 1))) fun s6 =>
  bd (f_X5_is 161 s6) fun r11 s8 =>
  if r11 = 0 then
    bdv (f_X5_ranges r4 0 s8) fun s14 =>
    j_X5_limit_49 r4 s14
  else
    bd (f_X5_sizes r4 s8) fun r20 s17 =>
    j_X5_limit_49 r4 s17
theorem yk_X5_limit : yOk yX5_limit 0 := ⟨by decide, by decide, by decide +kernel⟩
theorem c_X5_limit {s : vS} {out : Int × vS} (h : f_X5_limit s = some out)   : VC yX5_limit cX5_limit 2 (some .int) 9 193 [vO 12] s (some (vI out.1)) out.2 [] := by
  unfold f_X5_limit at h
  refine VC.of RX5 (by decide) rfl (Nat.le_of_ble_eq_true rfl) ?_
  show VW cX5_limit (RX5, (some (vI out.1)), out.2, (some .int), 9, 193, 2, []) (P0 []) s 0 [(0, vO 12)] []
  refine v_aload_n dX5_limit_0 0 rfl rfl ?_
  refine v_getS (f := 1) (t := 10) cf5 oc12 rfl rfl rfl (by decide) q501 dX5_limit_1 ?_
  refine v_bipush dX5_limit_4 rfl ?_
  refine v_aload_n dX5_limit_6 0 rfl rfl ?_
  refine v_getI (f := 2) cf5 oc12 rfl (by decide) q502 dX5_limit_7 ?_
  obtain ⟨r4, s1, e2, h⟩ := bd_some h
  have k3 := c_X4_add e2 (rgl rfl) (gI_rg _ _ _)
  have r5 : rg r4 := k3.1.2.2
  refine v_callV (st := []) cf4 oc10 k3 (lw_V q1299 q1300 q1301 q301 q1302) rfl yk_X4_add ⟨Nat.le_of_ble_eq_true rfl, Nat.le_of_ble_eq_true rfl⟩ trivial ⟨kc12, trivial⟩ (Nat.le_of_ble_eq_true rfl) rfl dX5_limit_10 ?_
  refine v_istore_n (L1 := [(1, vI r4), (0, vO 12)]) dX5_limit_13 rfl (by decide) rfl ?_
  refine v_aload_n dX5_limit_14 1 rfl rfl ?_
  refine v_dupO dX5_limit_15 ?_
  refine v_getI (f := 2) cf5 oc12 rfl (by decide) q502 dX5_limit_16 ?_
  refine v_iconst dX5_limit_19 ?_
  refine v_iadd dX5_limit_20 ?_
  obtain ⟨s6, e7, h⟩ := stp_some h
  refine v_putI (f := 2) cf5 oc12 rfl (by decide) q502 dX5_limit_21 rfl rfl ?_
  rw [← e7]
  refine v_aload_n dX5_limit_24 1 rfl rfl ?_
  refine v_sipush dX5_limit_25 rfl ?_
  obtain ⟨r11, s8, e9, h⟩ := bd_some h
  have k10 := c_X5_is e9 (rgl rfl)
  have r12 : rg r11 := k10.1.2.2
  refine v_callV (st := []) cf5 oc12 k10 (lw_V q1264 q1266 qs18 q302 q1267) rfl yk_X5_is ⟨Nat.le_of_ble_eq_true rfl, Nat.le_of_ble_eq_true rfl⟩ trivial ⟨kc12, trivial⟩ (Nat.le_of_ble_eq_true rfl) rfl dX5_limit_28 ?_
  refine v_if_eq (tgt := 43) dX5_limit_31 r12 (by decide) (fun c13 => ?_) (fun c13 => ?_)
  · rw [if_pos c13] at h
    refine v_aload_n dX5_limit_43 1 rfl rfl ?_
    refine v_iload_n dX5_limit_44 0 rfl rfl ?_
    refine v_iconst dX5_limit_45 ?_
    obtain ⟨s14, e15, h⟩ := bdv_some h
    have k16 := c_X5_ranges e15 r5 (rgl rfl)
    refine v_callV (st := []) cf5 oc12 k16 (lw_V q1387 q1389 qs39 q302 q1390) rfl yk_X5_ranges ⟨Nat.le_of_ble_eq_true rfl, Nat.le_of_ble_eq_true rfl⟩ trivial ⟨kc12, trivial⟩ (Nat.le_of_ble_eq_true rfl) rfl dX5_limit_46 ?_
    refine v_sub [1, 0] (L1 := [(0, vO 12), (1, vI r4)]) rfl ?_
    exact wj_X5_limit_49 h r5
  · rw [if_neg c13] at h
    refine v_aload_n dX5_limit_34 1 rfl rfl ?_
    refine v_iload_n dX5_limit_35 0 rfl rfl ?_
    obtain ⟨r20, s17, e18, h⟩ := bd_some h
    have k19 := c_X5_sizes e18 r5
    have r21 : rg r20 := k19.1.2.2
    refine v_callV (st := []) cf5 oc12 k19 (lw_V q1383 q1385 qs38 q302 q1386) rfl yk_X5_sizes ⟨Nat.le_of_ble_eq_true rfl, Nat.le_of_ble_eq_true rfl⟩ trivial ⟨kc12, trivial⟩ (Nat.le_of_ble_eq_true rfl) rfl dX5_limit_36 ?_
    refine v_popI dX5_limit_39 ?_
    refine v_goto (tgt := 49) dX5_limit_40 (by decide) ?_
    refine v_sub [1, 0] (L1 := [(0, vO 12), (1, vI r4)]) rfl ?_
    exact wj_X5_limit_49 h r5

abbrev RT_X5_type : Type := Int → vS → Option (Int × vS)
def HR_X5_type (fr lr : Nat) (rcf : RT_X5_type) : Prop := ∀ (x1 : Int) (s : vS) (out : Int × vS), rcf x1 s = some out → rg x1 → VC yX5_type cX5_type 4 (some .int) fr lr [vO 12, vI x1] s (some (vI out.1)) out.2 []
theorem yk_X5_type : yOk yX5_type 1 := ⟨by decide, by decide, by decide +kernel⟩
def E_X5_components_3 (fr : Nat) (lr : Nat) (rcf : RT_X5_type) (rv : Option vA) (σo : vS) (q : (vS) ⊕ (vS)) : Prop := (∀ (s' : vS), q = .inl s' → VW cX5_components (RX5, rv, σo, none, (fr + 7), (lr + 150), 6, []) (P0 []) s' 145 [(0, vO 12)] []) ∧ (∀ (s' : vS), q = .inr s' → rv = none ∧ σo = s')
def j_X5_components_121 (fr : Nat) (lr : Nat) (rcf : RT_X5_type) (rec : Int → Int → Int → Int → vS → Option ((vS) ⊕ (vS))) (x1 : Int) (x2 : Int) (x3 : Int) (x4 : Int) (x5 : Int) (s : vS) : Option ((vS) ⊕ (vS)) :=
  bd (f_X4_chain x1 3 x4 x5 s) fun r4 s1 =>
  bd (f_X5_may 21 s1) fun r9 s6 =>
  if r9 = 0 then
    some (.inl s6)
  else
    rec x1 x2 x3 r4 s6
theorem wj_X5_components_121 {fr : Nat} {lr : Nat} {rcf : RT_X5_type} {x1 : Int} {x2 : Int} {x3 : Int} {x4 : Int} {x5 : Int} {s : vS} {rv : Option vA} {σo : vS} {rec : Int → Int → Int → Int → vS → Option ((vS) ⊕ (vS))} {q : (vS) ⊕ (vS)} (h : j_X5_components_121 fr lr rcf rec x1 x2 x3 x4 x5 s = some q) (hrcf : HR_X5_type fr lr rcf) (rx1 : rg x1) (rx2 : rg x2) (rx3 : rg x3) (rx4 : rg x4) (rx5 : rg x5) (hrec : ∀ (y4 : Int) (s : vS) (q : (vS) ⊕ (vS)), rec x1 x2 x3 y4 s = some q → rg y4 → E_X5_components_3 fr lr rcf rv σo q → VW cX5_components (RX5, rv, σo, none, (fr + 7), (lr + 150), 6, []) (P0 []) s 3 [(0, vO 12), (1, vI x1), (2, vI x2), (3, vI x3), (4, vI y4)] []) (hE : E_X5_components_3 fr lr rcf rv σo q) : VW cX5_components (RX5, rv, σo, none, (fr + 7), (lr + 150), 6, []) (P0 []) s 121 [(0, vO 12), (1, vI x1), (2, vI x2), (3, vI x3), (4, vI x4), (5, vI x5)] [] := by
  unfold j_X5_components_121 at h
  refine v_aload_n dX5_components_121 0 rfl rfl ?_
  refine v_getS (f := 1) (t := 10) cf5 oc12 rfl rfl rfl (by decide) q501 dX5_components_122 ?_
  refine v_iload_n dX5_components_125 1 rfl rfl ?_
  refine v_iconst dX5_components_126 ?_
  refine v_iload dX5_components_127 4 rfl ?_
  refine v_iload dX5_components_129 5 rfl ?_
  obtain ⟨r4, s1, e2, h⟩ := bd_some h
  have k3 := c_X4_chain e2 rx1 (rgl rfl) rx4 rx5
  have r5 : rg r4 := k3.1.2.2
  refine v_callV (st := []) cf4 oc10 k3 (lw_V q1334 q1335 q1336 q301 q1337) rfl yk_X4_chain ⟨by omega, by omega⟩ trivial ⟨kc12, trivial⟩ (Nat.le_of_ble_eq_true rfl) rfl dX5_components_131 ?_
  refine v_istore (L1 := [(4, vI r4), (0, vO 12), (1, vI x1), (2, vI x2), (3, vI x3), (5, vI x5)]) dX5_components_134 (by decide) rfl ?_
  refine v_aload_n dX5_components_136 1 rfl rfl ?_
  refine v_bipush dX5_components_137 rfl ?_
  obtain ⟨r9, s6, e7, h⟩ := bd_some h
  have k8 := c_X5_may e7 (rgl rfl)
  have r10 : rg r9 := k8.1.2.2
  refine v_callV (st := []) cf5 oc12 k8 (lw_V q1291 q1293 qs22 q302 q1294) rfl yk_X5_may ⟨by omega, by omega⟩ trivial ⟨kc12, trivial⟩ (Nat.le_of_ble_eq_true rfl) rfl dX5_components_139 ?_
  refine v_if_ne (tgt := 3) dX5_components_142 r10 (by decide) (fun c11 => ?_) (fun c11 => ?_)
  · rw [if_neg c11] at h
    refine v_sub [1, 2, 3, 4, 0] (L1 := [(0, vO 12), (1, vI x1), (2, vI x2), (3, vI x3), (4, vI r4)]) rfl ?_
    exact hrec r4 s6 _ h r5 hE
  · rw [if_pos c11] at h
    cases h
    refine v_sub [1] (L1 := [(0, vO 12)]) rfl ?_
    exact hE.1 _ rfl 

def j_X5_components_83 (fr : Nat) (lr : Nat) (rcf : RT_X5_type) (rec : Int → Int → Int → Int → vS → Option ((vS) ⊕ (vS))) (x1 : Int) (x2 : Int) (x3 : Int) (x4 : Int) (x5 : Int) (s : vS) : Option ((vS) ⊕ (vS)) :=
  if x3 = 0 then
    j_X5_components_121 fr lr rcf rec x1 x2 x3 x4 x5 s
  else
    bd (f_X5_may 116 s) fun r5 s2 =>
    if r5 = 0 then
      j_X5_components_121 fr lr rcf rec x1 x2 x3 x4 x5 s2
    else
      bdv (f_X4_set x5 5 2 s2) fun s8 =>
      bd (f_X5_value s8) fun r14 s11 =>
      bdv (f_X4_set x5 4 r14 s11) fun s16 =>
      j_X5_components_121 fr lr rcf rec x1 x2 x3 x4 x5 s16
theorem wj_X5_components_83 {fr : Nat} {lr : Nat} {rcf : RT_X5_type} {x1 : Int} {x2 : Int} {x3 : Int} {x4 : Int} {x5 : Int} {s : vS} {rv : Option vA} {σo : vS} {rec : Int → Int → Int → Int → vS → Option ((vS) ⊕ (vS))} {q : (vS) ⊕ (vS)} (h : j_X5_components_83 fr lr rcf rec x1 x2 x3 x4 x5 s = some q) (hrcf : HR_X5_type fr lr rcf) (rx1 : rg x1) (rx2 : rg x2) (rx3 : rg x3) (rx4 : rg x4) (rx5 : rg x5) (hrec : ∀ (y4 : Int) (s : vS) (q : (vS) ⊕ (vS)), rec x1 x2 x3 y4 s = some q → rg y4 → E_X5_components_3 fr lr rcf rv σo q → VW cX5_components (RX5, rv, σo, none, (fr + 7), (lr + 150), 6, []) (P0 []) s 3 [(0, vO 12), (1, vI x1), (2, vI x2), (3, vI x3), (4, vI y4)] []) (hE : E_X5_components_3 fr lr rcf rv σo q) : VW cX5_components (RX5, rv, σo, none, (fr + 7), (lr + 150), 6, []) (P0 []) s 83 [(0, vO 12), (1, vI x1), (2, vI x2), (3, vI x3), (4, vI x4), (5, vI x5)] [] := by
  unfold j_X5_components_83 at h
  refine v_iload_n dX5_components_83 3 rfl rfl ?_
  refine v_if_eq (tgt := 121) dX5_components_84 rx3 (by decide) (fun c1 => ?_) (fun c1 => ?_)
  · rw [if_pos c1] at h
    exact wj_X5_components_121 h hrcf rx1 rx2 rx3 rx4 rx5 hrec hE
  · rw [if_neg c1] at h
    refine v_aload_n dX5_components_87 0 rfl rfl ?_
    refine v_bipush dX5_components_88 rfl ?_
    obtain ⟨r5, s2, e3, h⟩ := bd_some h
    have k4 := c_X5_may e3 (rgl rfl)
    have r6 : rg r5 := k4.1.2.2
    refine v_callV (st := []) cf5 oc12 k4 (lw_V q1291 q1293 qs22 q302 q1294) rfl yk_X5_may ⟨by omega, by omega⟩ trivial ⟨kc12, trivial⟩ (Nat.le_of_ble_eq_true rfl) rfl dX5_components_90 ?_
    refine v_if_eq (tgt := 121) dX5_components_93 r6 (by decide) (fun c7 => ?_) (fun c7 => ?_)
    · rw [if_pos c7] at h
      exact wj_X5_components_121 h hrcf rx1 rx2 rx3 rx4 rx5 hrec hE
    · rw [if_neg c7] at h
      refine v_aload_n dX5_components_96 0 rfl rfl ?_
      refine v_getS (f := 1) (t := 10) cf5 oc12 rfl rfl rfl (by decide) q501 dX5_components_97 ?_
      refine v_iload dX5_components_100 5 rfl ?_
      refine v_iconst dX5_components_102 ?_
      refine v_iconst dX5_components_103 ?_
      obtain ⟨s8, e9, h⟩ := bdv_some h
      have k10 := c_X4_set e9 rx5 (rgl rfl) (rgl rfl)
      refine v_callV (st := []) cf4 oc10 k10 (lw_V q1316 q1305 q1306 q301 q1307) rfl yk_X4_set ⟨by omega, by omega⟩ trivial ⟨kc12, trivial⟩ (Nat.le_of_ble_eq_true rfl) rfl dX5_components_104 ?_
      refine v_aload_n dX5_components_107 0 rfl rfl ?_
      refine v_getS (f := 1) (t := 10) cf5 oc12 rfl rfl rfl (by decide) q501 dX5_components_108 ?_
      refine v_iload dX5_components_111 5 rfl ?_
      refine v_iconst dX5_components_113 ?_
      refine v_aload_n dX5_components_114 0 rfl rfl ?_
      obtain ⟨r14, s11, e12, h⟩ := bd_some h
      have k13 := c_X5_value e12
      have r15 : rg r14 := k13.1.2.2
      refine v_callV (st := [vI 4, vI x5, vO 10]) cf5 oc12 k13 (lw_V q1371 q1373 qs35 q302 q1374) rfl yk_X5_value ⟨by omega, by omega⟩ ⟨kc10, trivial⟩ ⟨kc12, trivial⟩ (Nat.le_of_ble_eq_true rfl) rfl dX5_components_115 ?_
      obtain ⟨s16, e17, h⟩ := bdv_some h
      have k18 := c_X4_set e17 rx5 (rgl rfl) r15
      refine v_callV (st := []) cf4 oc10 k18 (lw_V q1316 q1305 q1306 q301 q1307) rfl yk_X4_set ⟨by omega, by omega⟩ trivial ⟨kc12, trivial⟩ (Nat.le_of_ble_eq_true rfl) rfl dX5_components_118 ?_
      exact wj_X5_components_121 h hrcf rx1 rx2 rx3 rx4 rx5 hrec hE

def l_X5_components_3 (fr : Nat) (lr : Nat) (rcf : RT_X5_type) : Nat → Int → Int → Int → Int → vS → Option ((vS) ⊕ (vS))
  | 0, _, _, _, _, _ => none
  | n + 1, x1, x2, x3, x4, s =>
    bd (f_X4_add 22 (gI s 12 2) s) fun r4 s1 =>
    bd (f_X5_take 0 s1) fun r9 s6 =>
    if r9 = 0 then
      some (.inr s6)
    else
      bdv (f_X4_set r4 5 0 s6) fun s12 =>
      bd (rcf (w32 (x2 + 1)) s12) fun r18 s15 =>
      bdv (f_X4_set r4 3 r18 s15) fun s20 =>
      if x3 = 0 then
        j_X5_components_83 fr lr rcf (l_X5_components_3 fr lr rcf n) x1 x2 x3 x4 r4 s20
      else
        bd (f_X5_may 150 s20) fun r27 s24 =>
        if r27 = 0 then
          j_X5_components_83 fr lr rcf (l_X5_components_3 fr lr rcf n) x1 x2 x3 x4 r4 s24
        else
          bdv (f_X4_set r4 5 1 s24) fun s30 =>
          j_X5_components_121 fr lr rcf (l_X5_components_3 fr lr rcf n) x1 x2 x3 x4 r4 s30
theorem wl_X5_components_3 (fr : Nat) (lr : Nat) (rcf : RT_X5_type) {x1 : Int} {x2 : Int} {x3 : Int} {rv : Option vA} {σo : vS} (hrcf : HR_X5_type fr lr rcf) (rx1 : rg x1) (rx2 : rg x2) (rx3 : rg x3) : ∀ (n : Nat) (x4 : Int) (s : vS) (q : (vS) ⊕ (vS)), l_X5_components_3 fr lr rcf n x1 x2 x3 x4 s = some q → rg x4 → E_X5_components_3 fr lr rcf rv σo q → VW cX5_components (RX5, rv, σo, none, (fr + 7), (lr + 150), 6, []) (P0 []) s 3 [(0, vO 12), (1, vI x1), (2, vI x2), (3, vI x3), (4, vI x4)] [] := by
  intro n
  induction n with
  | zero => intro x4 s q h; cases h
  | succ n ih =>
    intro x4 s q h rx4 hE
    unfold l_X5_components_3 at h
    refine v_aload_n dX5_components_3 0 rfl rfl ?_
    refine v_getS (f := 1) (t := 10) cf5 oc12 rfl rfl rfl (by decide) q501 dX5_components_4 ?_
    refine v_bipush dX5_components_7 rfl ?_
    refine v_aload_n dX5_components_9 0 rfl rfl ?_
    refine v_getI (f := 2) cf5 oc12 rfl (by decide) q502 dX5_components_10 ?_
    obtain ⟨r4, s1, e2, h⟩ := bd_some h
    have k3 := c_X4_add e2 (rgl rfl) (gI_rg _ _ _)
    have r5 : rg r4 := k3.1.2.2
    refine v_callV (st := []) cf4 oc10 k3 (lw_V q1299 q1300 q1301 q301 q1302) rfl yk_X4_add ⟨by omega, by omega⟩ trivial ⟨kc12, trivial⟩ (Nat.le_of_ble_eq_true rfl) rfl dX5_components_13 ?_
    refine v_istore (L1 := [(5, vI r4), (0, vO 12), (1, vI x1), (2, vI x2), (3, vI x3), (4, vI x4)]) dX5_components_16 (by decide) rfl ?_
    refine v_aload_n dX5_components_18 1 rfl rfl ?_
    refine v_iconst dX5_components_19 ?_
    obtain ⟨r9, s6, e7, h⟩ := bd_some h
    have k8 := c_X5_take e7 (rgl rfl)
    have r10 : rg r9 := k8.1.2.2
    refine v_callV (st := []) cf5 oc12 k8 (lw_V q1260 q1262 qs17 q302 q1263) rfl yk_X5_take ⟨by omega, by omega⟩ trivial ⟨kc12, trivial⟩ (Nat.le_of_ble_eq_true rfl) rfl dX5_components_20 ?_
    refine v_if_ne (tgt := 27) dX5_components_23 r10 (by decide) (fun c11 => ?_) (fun c11 => ?_)
    · rw [if_neg c11] at h
      refine v_aload_n dX5_components_27 1 rfl rfl ?_
      refine v_getS (f := 1) (t := 10) cf5 oc12 rfl rfl rfl (by decide) q501 dX5_components_28 ?_
      refine v_iload dX5_components_31 0 rfl ?_
      refine v_iconst dX5_components_33 ?_
      refine v_iconst dX5_components_34 ?_
      obtain ⟨s12, e13, h⟩ := bdv_some h
      have k14 := c_X4_set e13 r5 (rgl rfl) (rgl rfl)
      refine v_callV (st := []) cf4 oc10 k14 (lw_V q1316 q1305 q1306 q301 q1307) rfl yk_X4_set ⟨by omega, by omega⟩ trivial ⟨kc12, trivial⟩ (Nat.le_of_ble_eq_true rfl) rfl dX5_components_35 ?_
      refine v_aload_n dX5_components_38 1 rfl rfl ?_
      refine v_getS (f := 1) (t := 10) cf5 oc12 rfl rfl rfl (by decide) q501 dX5_components_39 ?_
      refine v_iload dX5_components_42 0 rfl ?_
      refine v_iconst dX5_components_44 ?_
      refine v_aload_n dX5_components_45 1 rfl rfl ?_
      refine v_iload_n dX5_components_46 3 rfl rfl ?_
      refine v_iconst dX5_components_47 ?_
      refine v_iadd dX5_components_48 ?_
      obtain ⟨r18, s15, e16, h⟩ := bd_some h
      have k17 := hrcf _ _ _ e16 (w32_rg _)
      have r19 : rg r18 := k17.1.2.2
      refine v_callV (st := [vI 3, vI r4, vO 10]) cf5 oc12 k17 (lw_V q1308 q1310 qs24 q302 q1311) rfl yk_X5_type ⟨by omega, by omega⟩ ⟨kc10, trivial⟩ ⟨kc12, trivial⟩ (Nat.le_of_ble_eq_true rfl) rfl dX5_components_49 ?_
      obtain ⟨s20, e21, h⟩ := bdv_some h
      have k22 := c_X4_set e21 r5 (rgl rfl) r19
      refine v_callV (st := []) cf4 oc10 k22 (lw_V q1316 q1305 q1306 q301 q1307) rfl yk_X4_set ⟨by omega, by omega⟩ trivial ⟨kc12, trivial⟩ (Nat.le_of_ble_eq_true rfl) rfl dX5_components_52 ?_
      refine v_iload_n dX5_components_55 4 rfl rfl ?_
      refine v_if_eq (tgt := 83) dX5_components_56 rx3 (by decide) (fun c23 => ?_) (fun c23 => ?_)
      · rw [if_pos c23] at h
        refine v_sub [1, 2, 3, 4, 5, 0] (L1 := [(0, vO 12), (1, vI x1), (2, vI x2), (3, vI x3), (4, vI x4), (5, vI r4)]) rfl ?_
        exact wj_X5_components_83 h hrcf rx1 rx2 rx3 rx4 r5 ih hE
      · rw [if_neg c23] at h
        refine v_aload_n dX5_components_59 1 rfl rfl ?_
        refine v_sipush dX5_components_60 rfl ?_
        obtain ⟨r27, s24, e25, h⟩ := bd_some h
        have k26 := c_X5_may e25 (rgl rfl)
        have r28 : rg r27 := k26.1.2.2
        refine v_callV (st := []) cf5 oc12 k26 (lw_V q1291 q1293 qs22 q302 q1294) rfl yk_X5_may ⟨by omega, by omega⟩ trivial ⟨kc12, trivial⟩ (Nat.le_of_ble_eq_true rfl) rfl dX5_components_63 ?_
        refine v_if_eq (tgt := 83) dX5_components_66 r28 (by decide) (fun c29 => ?_) (fun c29 => ?_)
        · rw [if_pos c29] at h
          refine v_sub [1, 2, 3, 4, 5, 0] (L1 := [(0, vO 12), (1, vI x1), (2, vI x2), (3, vI x3), (4, vI x4), (5, vI r4)]) rfl ?_
          exact wj_X5_components_83 h hrcf rx1 rx2 rx3 rx4 r5 ih hE
        · rw [if_neg c29] at h
          refine v_aload_n dX5_components_69 1 rfl rfl ?_
          refine v_getS (f := 1) (t := 10) cf5 oc12 rfl rfl rfl (by decide) q501 dX5_components_70 ?_
          refine v_iload dX5_components_73 0 rfl ?_
          refine v_iconst dX5_components_75 ?_
          refine v_iconst dX5_components_76 ?_
          obtain ⟨s30, e31, h⟩ := bdv_some h
          have k32 := c_X4_set e31 r5 (rgl rfl) (rgl rfl)
          refine v_callV (st := []) cf4 oc10 k32 (lw_V q1316 q1305 q1306 q301 q1307) rfl yk_X4_set ⟨by omega, by omega⟩ trivial ⟨kc12, trivial⟩ (Nat.le_of_ble_eq_true rfl) rfl dX5_components_77 ?_
          refine v_goto (tgt := 121) dX5_components_80 (by decide) ?_
          refine v_sub [1, 2, 3, 4, 5, 0] (L1 := [(0, vO 12), (1, vI x1), (2, vI x2), (3, vI x3), (4, vI x4), (5, vI r4)]) rfl ?_
          exact wj_X5_components_121 h hrcf rx1 rx2 rx3 rx4 r5 ih hE
    · rw [if_pos c11] at h
      cases h
      obtain ⟨z1, z2⟩ := hE.2 _ rfl
      subst z1
      subst z2
      exact v_vret dX5_components_26

def f_X5_components (fr : Nat) (lr : Nat) (rcf : RT_X5_type) (x1 : Int) (x2 : Int) (x3 : Int) (s : vS) : Option (vS) :=
  lqs_0 (l_X5_components_3 fr lr rcf FU x1 x2 x3 (-1) s) (fun s1 =>
    bd (f_X5_take 16 s1) fun r6 s3 =>
    some s3)
    (fun q => some q)
theorem yk_X5_components : yOk yX5_components 3 := ⟨by decide, by decide, by decide +kernel⟩
theorem c_X5_components {fr : Nat} {lr : Nat} {rcf : RT_X5_type} {x1 : Int} {x2 : Int} {x3 : Int} {s : vS} {out : vS} (h : f_X5_components fr lr rcf x1 x2 x3 s = some out) (hrcf : HR_X5_type fr lr rcf) (rx1 : rg x1) (rx2 : rg x2) (rx3 : rg x3) : VC yX5_components cX5_components 6 none (fr + 7) (lr + 150) [vO 12, vI x1, vI x2, vI x3] s none out [] := by
  unfold f_X5_components at h
  refine VC.of RX5 (by decide) rfl (Nat.le_of_ble_eq_true rfl) ?_
  show VW cX5_components (RX5, none, out, none, (fr + 7), (lr + 150), 6, []) (P0 []) s 0 [(0, vO 12), (1, vI x1), (2, vI x2), (3, vI x3)] []
  refine v_iconst dX5_components_0 ?_
  refine v_istore (L1 := [(4, vI (-1)), (0, vO 12), (1, vI x1), (2, vI x2), (3, vI x3)]) dX5_components_1 (by decide) rfl ?_
  refine v_sub [1, 2, 3, 4, 0] (L1 := [(0, vO 12), (1, vI x1), (2, vI x2), (3, vI x3), (4, vI (-1))]) rfl ?_
  rcases lqs_0_some h with ⟨s1, e2, h⟩ | ⟨q9, e2, h⟩
  · refine wl_X5_components_3 fr lr rcf hrcf rx1 rx2 rx3 FU (-1) s _ e2 (rgl rfl) ?_
    unfold E_X5_components_3
    refine ⟨?_, fun s9 z_ => (by cases z_)⟩
    intro s1' z_
    cases z_
    refine v_aload_n dX5_components_145 0 rfl rfl ?_
    refine v_bipush dX5_components_146 rfl ?_
    obtain ⟨r6, s3, e4, h⟩ := bd_some h
    have k5 := c_X5_take e4 (rgl rfl)
    have r7 : rg r6 := k5.1.2.2
    refine v_callV (st := []) cf5 oc12 k5 (lw_V q1260 q1262 qs17 q302 q1263) rfl yk_X5_take ⟨by omega, by omega⟩ trivial ⟨kc12, trivial⟩ (Nat.le_of_ble_eq_true rfl) rfl dX5_components_148 ?_
    refine v_popI dX5_components_151 ?_
    cases h
    exact v_vret dX5_components_152
  · cases h
    refine wl_X5_components_3 fr lr rcf hrcf rx1 rx2 rx3 FU (-1) s _ e2 (rgl rfl) ?_
    unfold E_X5_components_3
    refine ⟨fun _ z_ => (by cases z_), ?_⟩
    intro s9 z_
    cases z_
    exact ⟨rfl, rfl⟩

def j_X5_many_172 (fr : Nat) (lr : Nat) (rcf : RT_X5_type) (x1 : Int) (x4 : Int) (s : vS) : Option (vS) :=
  bd (f_X5_take 149 s) fun r4 s1 =>
  if r4 = 0 then
    some s1
  else
    bd (rcf (w32 (x4 + 1)) s1) fun r10 s7 =>
    bdv (f_X4_set x1 3 r10 s7) fun s12 =>
    some s12
theorem wj_X5_many_172 {fr : Nat} {lr : Nat} {rcf : RT_X5_type} {x1 : Int} {x4 : Int} {s : vS} {out : vS} (h : j_X5_many_172 fr lr rcf x1 x4 s = some out) (hrcf : HR_X5_type fr lr rcf) (rx1 : rg x1) (rx4 : rg x4) : VW cX5_many (RX5, none, out, none, (fr + 9), (lr + 193), 6, []) (P0 []) s 172 [(0, vO 12), (1, vI x1), (4, vI x4)] [] := by
  unfold j_X5_many_172 at h
  refine v_aload_n dX5_many_172 0 rfl rfl ?_
  refine v_sipush dX5_many_173 rfl ?_
  obtain ⟨r4, s1, e2, h⟩ := bd_some h
  have k3 := c_X5_take e2 (rgl rfl)
  have r5 : rg r4 := k3.1.2.2
  refine v_callV (st := []) cf5 oc12 k3 (lw_V q1260 q1262 qs17 q302 q1263) rfl yk_X5_take ⟨by omega, by omega⟩ trivial ⟨kc12, trivial⟩ (Nat.le_of_ble_eq_true rfl) rfl dX5_many_176 ?_
  refine v_if_eq (tgt := 199) dX5_many_179 r5 (by decide) (fun c6 => ?_) (fun c6 => ?_)
  · rw [if_pos c6] at h
    cases h
    exact v_vret dX5_many_199
  · rw [if_neg c6] at h
    refine v_aload_n dX5_many_182 0 rfl rfl ?_
    refine v_getS (f := 1) (t := 10) cf5 oc12 rfl rfl rfl (by decide) q501 dX5_many_183 ?_
    refine v_iload_n dX5_many_186 1 rfl rfl ?_
    refine v_iconst dX5_many_187 ?_
    refine v_aload_n dX5_many_188 0 rfl rfl ?_
    refine v_iload dX5_many_189 2 rfl ?_
    refine v_iconst dX5_many_191 ?_
    refine v_iadd dX5_many_192 ?_
    obtain ⟨r10, s7, e8, h⟩ := bd_some h
    have k9 := hrcf _ _ _ e8 (w32_rg _)
    have r11 : rg r10 := k9.1.2.2
    refine v_callV (st := [vI 3, vI x1, vO 10]) cf5 oc12 k9 (lw_V q1308 q1310 qs24 q302 q1311) rfl yk_X5_type ⟨by omega, by omega⟩ ⟨kc10, trivial⟩ ⟨kc12, trivial⟩ (Nat.le_of_ble_eq_true rfl) rfl dX5_many_193 ?_
    obtain ⟨s12, e13, h⟩ := bdv_some h
    have k14 := c_X4_set e13 rx1 (rgl rfl) r11
    refine v_callV (st := []) cf4 oc10 k14 (lw_V q1316 q1305 q1306 q301 q1307) rfl yk_X4_set ⟨by omega, by omega⟩ trivial ⟨kc12, trivial⟩ (Nat.le_of_ble_eq_true rfl) rfl dX5_many_196 ?_
    cases h
    exact v_vret dX5_many_199

def f_X5_many (fr : Nat) (lr : Nat) (rcf : RT_X5_type) (x1 : Int) (x2 : Int) (x3 : Int) (x4 : Int) (s : vS) : Option (vS) :=
  bd (f_X5_may 15 s) fun r4 s1 =>
  if r4 = 0 then
    bdv (f_X4_set x1 0 x3 s1) fun s7 =>
    bd (f_X5_is 161 s7) fun r13 s10 =>
    if r13 = 0 then
      bd (f_X5_is 19 s10) fun r19 s16 =>
      if r19 = 0 then
        j_X5_many_172 fr lr rcf x1 x4 s16
      else
        bd (f_X4_add 23 (gI s16 12 2) s16) fun r25 s22 =>
        bdv (f_X4_set x1 4 r25 s22) fun s27 =>
        stp (sI s27 12 2 (w32 ((gI s27 12 2) + 1))) fun s30 =>
        bd (f_X5_is 161 s30) fun r35 s32 =>
        if r35 = 0 then
          bd (f_X5_unfit s32) fun r52 s49 =>
          j_X5_many_172 fr lr rcf x1 x4 s49
        else
          bd (f_X5_sizes r25 s32) fun r41 s38 =>
          if r41 = 0 then
            j_X5_many_172 fr lr rcf x1 x4 s38
          else
            bd (f_X5_take 20 s38) fun r47 s44 =>
            j_X5_many_172 fr lr rcf x1 x4 s44
    else
      bd (f_X4_add 23 (gI s10 12 2) s10) fun r57 s54 =>
      bdv (f_X4_set x1 4 r57 s54) fun s59 =>
      bd (f_X5_sizes r57 s59) fun r65 s62 =>
      j_X5_many_172 fr lr rcf x1 x4 s62
  else
    bdv (f_X4_set x1 0 x2 s1) fun s67 =>
    bd (f_X5_may 16 s67) fun r73 s70 =>
    if r73 = 0 then
      bdv (f_X5_components fr lr rcf x1 x4 1 s70) fun s76 =>
      some s76
    else
      some s70
theorem yk_X5_many : yOk yX5_many 4 := ⟨by decide, by decide, by decide +kernel⟩
theorem c_X5_many {fr : Nat} {lr : Nat} {rcf : RT_X5_type} {x1 : Int} {x2 : Int} {x3 : Int} {x4 : Int} {s : vS} {out : vS} (h : f_X5_many fr lr rcf x1 x2 x3 x4 s = some out) (hrcf : HR_X5_type fr lr rcf) (rx1 : rg x1) (rx2 : rg x2) (rx3 : rg x3) (rx4 : rg x4) : VC yX5_many cX5_many 6 none (fr + 9) (lr + 193) [vO 12, vI x1, vI x2, vI x3, vI x4] s none out [] := by
  unfold f_X5_many at h
  refine VC.of RX5 (by decide) rfl (Nat.le_of_ble_eq_true rfl) ?_
  show VW cX5_many (RX5, none, out, none, (fr + 9), (lr + 193), 6, []) (P0 []) s 0 [(0, vO 12), (1, vI x1), (2, vI x2), (3, vI x3), (4, vI x4)] []
  refine v_aload_n dX5_many_0 0 rfl rfl ?_
  refine v_bipush dX5_many_1 rfl ?_
  obtain ⟨r4, s1, e2, h⟩ := bd_some h
  have k3 := c_X5_may e2 (rgl rfl)
  have r5 : rg r4 := k3.1.2.2
  refine v_callV (st := []) cf5 oc12 k3 (lw_V q1291 q1293 qs22 q302 q1294) rfl yk_X5_may ⟨by omega, by omega⟩ trivial ⟨kc12, trivial⟩ (Nat.le_of_ble_eq_true rfl) rfl dX5_many_3 ?_
  refine v_if_eq (tgt := 37) dX5_many_6 r5 (by decide) (fun c6 => ?_) (fun c6 => ?_)
  · rw [if_pos c6] at h
    refine v_aload_n dX5_many_37 0 rfl rfl ?_
    refine v_getS (f := 1) (t := 10) cf5 oc12 rfl rfl rfl (by decide) q501 dX5_many_38 ?_
    refine v_iload_n dX5_many_41 1 rfl rfl ?_
    refine v_iconst dX5_many_42 ?_
    refine v_iload_n dX5_many_43 3 rfl rfl ?_
    obtain ⟨s7, e8, h⟩ := bdv_some h
    have k9 := c_X4_set e8 rx1 (rgl rfl) rx3
    refine v_callV (st := []) cf4 oc10 k9 (lw_V q1316 q1305 q1306 q301 q1307) rfl yk_X4_set ⟨by omega, by omega⟩ trivial ⟨kc12, trivial⟩ (Nat.le_of_ble_eq_true rfl) rfl dX5_many_44 ?_
    refine v_aload_n dX5_many_47 0 rfl rfl ?_
    refine v_sipush dX5_many_48 rfl ?_
    obtain ⟨r13, s10, e11, h⟩ := bd_some h
    have k12 := c_X5_is e11 (rgl rfl)
    have r14 : rg r13 := k12.1.2.2
    refine v_callV (st := []) cf5 oc12 k12 (lw_V q1264 q1266 qs18 q302 q1267) rfl yk_X5_is ⟨by omega, by omega⟩ trivial ⟨kc12, trivial⟩ (Nat.le_of_ble_eq_true rfl) rfl dX5_many_51 ?_
    refine v_if_eq (tgt := 93) dX5_many_54 r14 (by decide) (fun c15 => ?_) (fun c15 => ?_)
    · rw [if_pos c15] at h
      refine v_aload_n dX5_many_93 0 rfl rfl ?_
      refine v_bipush dX5_many_94 rfl ?_
      obtain ⟨r19, s16, e17, h⟩ := bd_some h
      have k18 := c_X5_is e17 (rgl rfl)
      have r20 : rg r19 := k18.1.2.2
      refine v_callV (st := []) cf5 oc12 k18 (lw_V q1264 q1266 qs18 q302 q1267) rfl yk_X5_is ⟨by omega, by omega⟩ trivial ⟨kc12, trivial⟩ (Nat.le_of_ble_eq_true rfl) rfl dX5_many_96 ?_
      refine v_if_eq (tgt := 172) dX5_many_99 r20 (by decide) (fun c21 => ?_) (fun c21 => ?_)
      · rw [if_pos c21] at h
        refine v_sub [0, 1, 4] (L1 := [(0, vO 12), (1, vI x1), (4, vI x4)]) rfl ?_
        exact wj_X5_many_172 h hrcf rx1 rx4
      · rw [if_neg c21] at h
        refine v_aload_n dX5_many_102 0 rfl rfl ?_
        refine v_getS (f := 1) (t := 10) cf5 oc12 rfl rfl rfl (by decide) q501 dX5_many_103 ?_
        refine v_bipush dX5_many_106 rfl ?_
        refine v_aload_n dX5_many_108 0 rfl rfl ?_
        refine v_getI (f := 2) cf5 oc12 rfl (by decide) q502 dX5_many_109 ?_
        obtain ⟨r25, s22, e23, h⟩ := bd_some h
        have k24 := c_X4_add e23 (rgl rfl) (gI_rg _ _ _)
        have r26 : rg r25 := k24.1.2.2
        refine v_callV (st := []) cf4 oc10 k24 (lw_V q1299 q1300 q1301 q301 q1302) rfl yk_X4_add ⟨by omega, by omega⟩ trivial ⟨kc12, trivial⟩ (Nat.le_of_ble_eq_true rfl) rfl dX5_many_112 ?_
        refine v_istore (L1 := [(5, vI r25), (0, vO 12), (1, vI x1), (2, vI x2), (3, vI x3), (4, vI x4)]) dX5_many_115 (by decide) rfl ?_
        refine v_aload_n dX5_many_117 1 rfl rfl ?_
        refine v_getS (f := 1) (t := 10) cf5 oc12 rfl rfl rfl (by decide) q501 dX5_many_118 ?_
        refine v_iload_n dX5_many_121 2 rfl rfl ?_
        refine v_iconst dX5_many_122 ?_
        refine v_iload dX5_many_123 0 rfl ?_
        obtain ⟨s27, e28, h⟩ := bdv_some h
        have k29 := c_X4_set e28 rx1 (rgl rfl) r26
        refine v_callV (st := []) cf4 oc10 k29 (lw_V q1316 q1305 q1306 q301 q1307) rfl yk_X4_set ⟨by omega, by omega⟩ trivial ⟨kc12, trivial⟩ (Nat.le_of_ble_eq_true rfl) rfl dX5_many_125 ?_
        refine v_aload_n dX5_many_128 1 rfl rfl ?_
        refine v_dupO dX5_many_129 ?_
        refine v_getI (f := 2) cf5 oc12 rfl (by decide) q502 dX5_many_130 ?_
        refine v_iconst dX5_many_133 ?_
        refine v_iadd dX5_many_134 ?_
        obtain ⟨s30, e31, h⟩ := stp_some h
        refine v_putI (f := 2) cf5 oc12 rfl (by decide) q502 dX5_many_135 rfl rfl ?_
        rw [← e31]
        refine v_aload_n dX5_many_138 1 rfl rfl ?_
        refine v_sipush dX5_many_139 rfl ?_
        obtain ⟨r35, s32, e33, h⟩ := bd_some h
        have k34 := c_X5_is e33 (rgl rfl)
        have r36 : rg r35 := k34.1.2.2
        refine v_callV (st := []) cf5 oc12 k34 (lw_V q1264 q1266 qs18 q302 q1267) rfl yk_X5_is ⟨by omega, by omega⟩ trivial ⟨kc12, trivial⟩ (Nat.le_of_ble_eq_true rfl) rfl dX5_many_142 ?_
        refine v_if_ne (tgt := 156) dX5_many_145 r36 (by decide) (fun c37 => ?_) (fun c37 => ?_)
        · rw [if_neg c37] at h
          refine v_aload_n dX5_many_156 1 rfl rfl ?_
          refine v_iload dX5_many_157 0 rfl ?_
          obtain ⟨r41, s38, e39, h⟩ := bd_some h
          have k40 := c_X5_sizes e39 r26
          have r42 : rg r41 := k40.1.2.2
          refine v_callV (st := []) cf5 oc12 k40 (lw_V q1383 q1385 qs38 q302 q1386) rfl yk_X5_sizes ⟨by omega, by omega⟩ trivial ⟨kc12, trivial⟩ (Nat.le_of_ble_eq_true rfl) rfl dX5_many_159 ?_
          refine v_if_eq (tgt := 172) dX5_many_162 r42 (by decide) (fun c43 => ?_) (fun c43 => ?_)
          · rw [if_pos c43] at h
            refine v_sub [1, 2, 5] (L1 := [(0, vO 12), (1, vI x1), (4, vI x4)]) rfl ?_
            exact wj_X5_many_172 h hrcf rx1 rx4
          · rw [if_neg c43] at h
            refine v_aload_n dX5_many_165 1 rfl rfl ?_
            refine v_bipush dX5_many_166 rfl ?_
            obtain ⟨r47, s44, e45, h⟩ := bd_some h
            have k46 := c_X5_take e45 (rgl rfl)
            have r48 : rg r47 := k46.1.2.2
            refine v_callV (st := []) cf5 oc12 k46 (lw_V q1260 q1262 qs17 q302 q1263) rfl yk_X5_take ⟨by omega, by omega⟩ trivial ⟨kc12, trivial⟩ (Nat.le_of_ble_eq_true rfl) rfl dX5_many_168 ?_
            refine v_popI dX5_many_171 ?_
            refine v_sub [1, 2, 5] (L1 := [(0, vO 12), (1, vI x1), (4, vI x4)]) rfl ?_
            exact wj_X5_many_172 h hrcf rx1 rx4
        · rw [if_pos c37] at h
          refine v_aload_n dX5_many_148 1 rfl rfl ?_
          obtain ⟨r52, s49, e50, h⟩ := bd_some h
          have k51 := c_X5_unfit e50
          have r53 : rg r52 := k51.1.2.2
          refine v_callV (st := []) cf5 oc12 k51 (lw_V q1272 q1274 qs19 q302 q1275) rfl yk_X5_unfit ⟨by omega, by omega⟩ trivial ⟨kc12, trivial⟩ (Nat.le_of_ble_eq_true rfl) rfl dX5_many_149 ?_
          refine v_popI dX5_many_152 ?_
          refine v_goto (tgt := 172) dX5_many_153 (by decide) ?_
          refine v_sub [1, 2, 5] (L1 := [(0, vO 12), (1, vI x1), (4, vI x4)]) rfl ?_
          exact wj_X5_many_172 h hrcf rx1 rx4
    · rw [if_neg c15] at h
      refine v_aload_n dX5_many_57 0 rfl rfl ?_
      refine v_getS (f := 1) (t := 10) cf5 oc12 rfl rfl rfl (by decide) q501 dX5_many_58 ?_
      refine v_bipush dX5_many_61 rfl ?_
      refine v_aload_n dX5_many_63 0 rfl rfl ?_
      refine v_getI (f := 2) cf5 oc12 rfl (by decide) q502 dX5_many_64 ?_
      obtain ⟨r57, s54, e55, h⟩ := bd_some h
      have k56 := c_X4_add e55 (rgl rfl) (gI_rg _ _ _)
      have r58 : rg r57 := k56.1.2.2
      refine v_callV (st := []) cf4 oc10 k56 (lw_V q1299 q1300 q1301 q301 q1302) rfl yk_X4_add ⟨by omega, by omega⟩ trivial ⟨kc12, trivial⟩ (Nat.le_of_ble_eq_true rfl) rfl dX5_many_67 ?_
      refine v_istore (L1 := [(5, vI r57), (0, vO 12), (1, vI x1), (2, vI x2), (3, vI x3), (4, vI x4)]) dX5_many_70 (by decide) rfl ?_
      refine v_aload_n dX5_many_72 1 rfl rfl ?_
      refine v_getS (f := 1) (t := 10) cf5 oc12 rfl rfl rfl (by decide) q501 dX5_many_73 ?_
      refine v_iload_n dX5_many_76 2 rfl rfl ?_
      refine v_iconst dX5_many_77 ?_
      refine v_iload dX5_many_78 0 rfl ?_
      obtain ⟨s59, e60, h⟩ := bdv_some h
      have k61 := c_X4_set e60 rx1 (rgl rfl) r58
      refine v_callV (st := []) cf4 oc10 k61 (lw_V q1316 q1305 q1306 q301 q1307) rfl yk_X4_set ⟨by omega, by omega⟩ trivial ⟨kc12, trivial⟩ (Nat.le_of_ble_eq_true rfl) rfl dX5_many_80 ?_
      refine v_aload_n dX5_many_83 1 rfl rfl ?_
      refine v_iload dX5_many_84 0 rfl ?_
      obtain ⟨r65, s62, e63, h⟩ := bd_some h
      have k64 := c_X5_sizes e63 r58
      have r66 : rg r65 := k64.1.2.2
      refine v_callV (st := []) cf5 oc12 k64 (lw_V q1383 q1385 qs38 q302 q1386) rfl yk_X5_sizes ⟨by omega, by omega⟩ trivial ⟨kc12, trivial⟩ (Nat.le_of_ble_eq_true rfl) rfl dX5_many_86 ?_
      refine v_popI dX5_many_89 ?_
      refine v_goto (tgt := 172) dX5_many_90 (by decide) ?_
      refine v_sub [1, 2, 5] (L1 := [(0, vO 12), (1, vI x1), (4, vI x4)]) rfl ?_
      exact wj_X5_many_172 h hrcf rx1 rx4
  · rw [if_neg c6] at h
    refine v_aload_n dX5_many_9 0 rfl rfl ?_
    refine v_getS (f := 1) (t := 10) cf5 oc12 rfl rfl rfl (by decide) q501 dX5_many_10 ?_
    refine v_iload_n dX5_many_13 1 rfl rfl ?_
    refine v_iconst dX5_many_14 ?_
    refine v_iload_n dX5_many_15 2 rfl rfl ?_
    obtain ⟨s67, e68, h⟩ := bdv_some h
    have k69 := c_X4_set e68 rx1 (rgl rfl) rx2
    refine v_callV (st := []) cf4 oc10 k69 (lw_V q1316 q1305 q1306 q301 q1307) rfl yk_X4_set ⟨by omega, by omega⟩ trivial ⟨kc12, trivial⟩ (Nat.le_of_ble_eq_true rfl) rfl dX5_many_16 ?_
    refine v_aload_n dX5_many_19 0 rfl rfl ?_
    refine v_bipush dX5_many_20 rfl ?_
    obtain ⟨r73, s70, e71, h⟩ := bd_some h
    have k72 := c_X5_may e71 (rgl rfl)
    have r74 : rg r73 := k72.1.2.2
    refine v_callV (st := []) cf5 oc12 k72 (lw_V q1291 q1293 qs22 q302 q1294) rfl yk_X5_may ⟨by omega, by omega⟩ trivial ⟨kc12, trivial⟩ (Nat.le_of_ble_eq_true rfl) rfl dX5_many_22 ?_
    refine v_if_ne (tgt := 36) dX5_many_25 r74 (by decide) (fun c75 => ?_) (fun c75 => ?_)
    · rw [if_neg c75] at h
      cases h
      exact v_vret dX5_many_36
    · rw [if_pos c75] at h
      refine v_aload_n dX5_many_28 0 rfl rfl ?_
      refine v_iload_n dX5_many_29 1 rfl rfl ?_
      refine v_iload dX5_many_30 4 rfl ?_
      refine v_iconst dX5_many_32 ?_
      obtain ⟨s76, e77, h⟩ := bdv_some h
      have k78 := c_X5_components e77 hrcf rx1 rx4 (rgl rfl)
      refine v_callV (st := []) cf5 oc12 k78 (lw_V q1367 q1369 qs34 q302 q1370) rfl yk_X5_components ⟨by omega, by omega⟩ trivial ⟨kc12, trivial⟩ (Nat.le_of_ble_eq_true rfl) rfl dX5_many_33 ?_
      cases h
      exact v_vret dX5_many_36

def f_X5_base (fr : Nat) (lr : Nat) (rcf : RT_X5_type) (x1 : Int) (x2 : Int) (s : vS) : Option (vS) :=
  bd (f_X5_kind s) fun r4 s1 =>
  stp (sI s1 12 2 (w32 ((gI s1 12 2) + 1))) fun s6 =>
  if r4 = 1 then
    bdv (f_X4_set x1 7 (w32 ((gI s6 12 2) - 1)) s6) fun s9 =>
    bd (f_X5_is 15 s9) fun r15 s12 =>
    if r15 = 0 then
      some s12
    else
      bd (f_X5_wrong 3 (gI s12 12 2) s12) fun r21 s18 =>
      some s18
  else
  if r4 = 106 then
    bdv (f_X5_bits x1 s6) fun s24 =>
    some s24
  else
  if r4 = 108 then
    bdv (f_X4_set x1 0 0 s6) fun s28 =>
    some s28
  else
  if r4 = 111 then
    bdv (f_X4_set x1 0 16 s6) fun s32 =>
    bd (f_X5_take 15 s32) fun r38 s35 =>
    if r38 = 0 then
      some s35
    else
      bdv (f_X5_components fr lr rcf x1 x2 0 s35) fun s41 =>
      some s41
  else
  if r4 = 121 then
    bdv (f_X5_itemsOf x1 3 s6) fun s45 =>
    some s45
  else
  if r4 = 130 then
    bdv (f_X4_set x1 0 11 s6) fun s49 =>
    some s49
  else
  if r4 = 132 then
    bdv (f_X4_set x1 0 9 s6) fun s53 =>
    some s53
  else
  if r4 = 139 then
    bdv (f_X5_itemsOf x1 2 s6) fun s57 =>
    some s57
  else
  if r4 = 145 then
    bdv (f_X4_set x1 0 1 s6) fun s61 =>
    some s61
  else
  if r4 = 147 then
    bdv (f_X4_set x1 0 6 s6) fun s65 =>
    bd (f_X5_take 133 s65) fun r71 s68 =>
    some s68
  else
  if r4 = 148 then
    bdv (f_X5_string x1 5 s6) fun s74 =>
    some s74
  else
  if r4 = 156 then
    bdv (f_X4_set x1 0 8 s6) fun s78 =>
    some s78
  else
  if r4 = 159 then
    bdv (f_X5_many fr lr rcf x1 12 14 x2 s6) fun s82 =>
    some s82
  else
  if r4 = 160 then
    bdv (f_X5_many fr lr rcf x1 13 15 x2 s6) fun s86 =>
    some s86
  else
  if r4 = 171 then
    bdv (f_X4_set x1 0 10 s6) fun s90 =>
    some s90
  else
  if r4 = 172 then
    bdv (f_X4_set x1 0 7 s6) fun s94 =>
    some s94
  else
    stp (sI s6 12 2 (w32 ((gI s6 12 2) - 1))) fun s97 =>
    bd (f_X5_unfit s97) fun r102 s99 =>
    some s99
theorem yk_X5_base : yOk yX5_base 2 := ⟨by decide, by decide, by decide +kernel⟩
theorem c_X5_base {fr : Nat} {lr : Nat} {rcf : RT_X5_type} {x1 : Int} {x2 : Int} {s : vS} {out : vS} (h : f_X5_base fr lr rcf x1 x2 s = some out) (hrcf : HR_X5_type fr lr rcf) (rx1 : rg x1) (rx2 : rg x2) : VC yX5_base cX5_base 4 none (fr + 10) (lr + 218) [vO 12, vI x1, vI x2] s none out [] := by
  unfold f_X5_base at h
  refine VC.of RX5 (by decide) rfl (Nat.le_of_ble_eq_true rfl) ?_
  show VW cX5_base (RX5, none, out, none, (fr + 10), (lr + 218), 4, []) (P0 []) s 0 [(0, vO 12), (1, vI x1), (2, vI x2)] []
  refine v_aload_n dX5_base_0 0 rfl rfl ?_
  obtain ⟨r4, s1, e2, h⟩ := bd_some h
  have k3 := c_X5_kind e2
  have r5 : rg r4 := k3.1.2.2
  refine v_callV (st := []) cf5 oc12 k3 (lw_V q1276 q1278 qs20 q302 q1279) rfl yk_X5_kind ⟨by omega, by omega⟩ trivial ⟨kc12, trivial⟩ (Nat.le_of_ble_eq_true rfl) rfl dX5_base_1 ?_
  refine v_istore_n (L1 := [(3, vI r4), (0, vO 12), (1, vI x1), (2, vI x2)]) dX5_base_4 rfl (by decide) rfl ?_
  refine v_aload_n dX5_base_5 1 rfl rfl ?_
  refine v_dupO dX5_base_6 ?_
  refine v_getI (f := 2) cf5 oc12 rfl (by decide) q502 dX5_base_7 ?_
  refine v_iconst dX5_base_10 ?_
  refine v_iadd dX5_base_11 ?_
  obtain ⟨s6, e7, h⟩ := stp_some h
  refine v_putI (f := 2) cf5 oc12 rfl (by decide) q502 dX5_base_12 rfl rfl ?_
  rw [← e7]
  refine v_iload_n dX5_base_15 0 rfl rfl ?_
  by_cases c8 : r4 = 1
  · rw [if_pos c8] at h
    refine v_lsw (tgt := 365) dX5_base_16 r5 (by decide) (by rw [c8]; try rfl) (by decide) ?_
    refine v_aload_n dX5_base_365 1 rfl rfl ?_
    refine v_getS (f := 1) (t := 10) cf5 oc12 rfl rfl rfl (by decide) q501 dX5_base_366 ?_
    refine v_iload_n dX5_base_369 2 rfl rfl ?_
    refine v_bipush dX5_base_370 rfl ?_
    refine v_aload_n dX5_base_372 1 rfl rfl ?_
    refine v_getI (f := 2) cf5 oc12 rfl (by decide) q502 dX5_base_373 ?_
    refine v_iconst dX5_base_376 ?_
    refine v_isub dX5_base_377 ?_
    obtain ⟨s9, e10, h⟩ := bdv_some h
    have k11 := c_X4_set e10 rx1 (rgl rfl) (w32_rg _)
    refine v_callV (st := []) cf4 oc10 k11 (lw_V q1316 q1305 q1306 q301 q1307) rfl yk_X4_set ⟨by omega, by omega⟩ trivial ⟨kc12, trivial⟩ (Nat.le_of_ble_eq_true rfl) rfl dX5_base_378 ?_
    refine v_aload_n dX5_base_381 1 rfl rfl ?_
    refine v_bipush dX5_base_382 rfl ?_
    obtain ⟨r15, s12, e13, h⟩ := bd_some h
    have k14 := c_X5_is e13 (rgl rfl)
    have r16 : rg r15 := k14.1.2.2
    refine v_callV (st := []) cf5 oc12 k14 (lw_V q1264 q1266 qs18 q302 q1267) rfl yk_X5_is ⟨by omega, by omega⟩ trivial ⟨kc12, trivial⟩ (Nat.le_of_ble_eq_true rfl) rfl dX5_base_384 ?_
    refine v_if_eq (tgt := 418) dX5_base_387 r16 (by decide) (fun c17 => ?_) (fun c17 => ?_)
    · rw [if_pos c17] at h
      cases h
      exact v_vret dX5_base_418
    · rw [if_neg c17] at h
      refine v_aload_n dX5_base_390 1 rfl rfl ?_
      refine v_iconst dX5_base_391 ?_
      refine v_aload_n dX5_base_392 1 rfl rfl ?_
      refine v_getI (f := 2) cf5 oc12 rfl (by decide) q502 dX5_base_393 ?_
      obtain ⟨r21, s18, e19, h⟩ := bd_some h
      have k20 := c_X5_wrong e19 (rgl rfl) (gI_rg _ _ _)
      have r22 : rg r21 := k20.1.2.2
      refine v_callV (st := []) cf5 oc12 k20 (lw_V q1283 q1285 qs21 q302 q1286) rfl yk_X5_wrong ⟨by omega, by omega⟩ trivial ⟨kc12, trivial⟩ (Nat.le_of_ble_eq_true rfl) rfl dX5_base_396 ?_
      refine v_popI dX5_base_399 ?_
      refine v_goto (tgt := 418) dX5_base_400 (by decide) ?_
      cases h
      exact v_vret dX5_base_418
  rw [if_neg c8] at h
  by_cases c23 : r4 = 106
  · rw [if_pos c23] at h
    refine v_lsw (tgt := 200) dX5_base_16 r5 (by decide) (by rw [c23]; try rfl) (by decide) ?_
    refine v_aload_n dX5_base_200 1 rfl rfl ?_
    refine v_iload_n dX5_base_201 2 rfl rfl ?_
    obtain ⟨s24, e25, h⟩ := bdv_some h
    have k26 := c_X5_bits e25 rx1
    refine v_callV (st := []) cf5 oc12 k26 (lw_V q1355 q1357 qs31 q302 q1358) rfl yk_X5_bits ⟨by omega, by omega⟩ trivial ⟨kc12, trivial⟩ (Nat.le_of_ble_eq_true rfl) rfl dX5_base_202 ?_
    refine v_goto (tgt := 418) dX5_base_205 (by decide) ?_
    cases h
    exact v_vret dX5_base_418
  rw [if_neg c23] at h
  by_cases c27 : r4 = 108
  · rw [if_pos c27] at h
    refine v_lsw (tgt := 156) dX5_base_16 r5 (by decide) (by rw [c27]; try rfl) (by decide) ?_
    refine v_aload_n dX5_base_156 1 rfl rfl ?_
    refine v_getS (f := 1) (t := 10) cf5 oc12 rfl rfl rfl (by decide) q501 dX5_base_157 ?_
    refine v_iload_n dX5_base_160 2 rfl rfl ?_
    refine v_iconst dX5_base_161 ?_
    refine v_iconst dX5_base_162 ?_
    obtain ⟨s28, e29, h⟩ := bdv_some h
    have k30 := c_X4_set e29 rx1 (rgl rfl) (rgl rfl)
    refine v_callV (st := []) cf4 oc10 k30 (lw_V q1316 q1305 q1306 q301 q1307) rfl yk_X4_set ⟨by omega, by omega⟩ trivial ⟨kc12, trivial⟩ (Nat.le_of_ble_eq_true rfl) rfl dX5_base_163 ?_
    refine v_goto (tgt := 418) dX5_base_166 (by decide) ?_
    cases h
    exact v_vret dX5_base_418
  rw [if_neg c27] at h
  by_cases c31 : r4 = 111
  · rw [if_pos c31] at h
    refine v_lsw (tgt := 335) dX5_base_16 r5 (by decide) (by rw [c31]; try rfl) (by decide) ?_
    refine v_aload_n dX5_base_335 1 rfl rfl ?_
    refine v_getS (f := 1) (t := 10) cf5 oc12 rfl rfl rfl (by decide) q501 dX5_base_336 ?_
    refine v_iload_n dX5_base_339 2 rfl rfl ?_
    refine v_iconst dX5_base_340 ?_
    refine v_bipush dX5_base_341 rfl ?_
    obtain ⟨s32, e33, h⟩ := bdv_some h
    have k34 := c_X4_set e33 rx1 (rgl rfl) (rgl rfl)
    refine v_callV (st := []) cf4 oc10 k34 (lw_V q1316 q1305 q1306 q301 q1307) rfl yk_X4_set ⟨by omega, by omega⟩ trivial ⟨kc12, trivial⟩ (Nat.le_of_ble_eq_true rfl) rfl dX5_base_343 ?_
    refine v_aload_n dX5_base_346 1 rfl rfl ?_
    refine v_bipush dX5_base_347 rfl ?_
    obtain ⟨r38, s35, e36, h⟩ := bd_some h
    have k37 := c_X5_take e36 (rgl rfl)
    have r39 : rg r38 := k37.1.2.2
    refine v_callV (st := []) cf5 oc12 k37 (lw_V q1260 q1262 qs17 q302 q1263) rfl yk_X5_take ⟨by omega, by omega⟩ trivial ⟨kc12, trivial⟩ (Nat.le_of_ble_eq_true rfl) rfl dX5_base_349 ?_
    refine v_if_eq (tgt := 418) dX5_base_352 r39 (by decide) (fun c40 => ?_) (fun c40 => ?_)
    · rw [if_pos c40] at h
      cases h
      exact v_vret dX5_base_418
    · rw [if_neg c40] at h
      refine v_aload_n dX5_base_355 1 rfl rfl ?_
      refine v_iload_n dX5_base_356 2 rfl rfl ?_
      refine v_iload_n dX5_base_357 3 rfl rfl ?_
      refine v_iconst dX5_base_358 ?_
      obtain ⟨s41, e42, h⟩ := bdv_some h
      have k43 := c_X5_components e42 hrcf rx1 rx2 (rgl rfl)
      refine v_callV (st := []) cf5 oc12 k43 (lw_V q1367 q1369 qs34 q302 q1370) rfl yk_X5_components ⟨by omega, by omega⟩ trivial ⟨kc12, trivial⟩ (Nat.le_of_ble_eq_true rfl) rfl dX5_base_359 ?_
      refine v_goto (tgt := 418) dX5_base_362 (by decide) ?_
      cases h
      exact v_vret dX5_base_418
  rw [if_neg c31] at h
  by_cases c44 : r4 = 121
  · rw [if_pos c44] at h
    refine v_lsw (tgt := 191) dX5_base_16 r5 (by decide) (by rw [c44]; try rfl) (by decide) ?_
    refine v_aload_n dX5_base_191 1 rfl rfl ?_
    refine v_iload_n dX5_base_192 2 rfl rfl ?_
    refine v_iconst dX5_base_193 ?_
    obtain ⟨s45, e46, h⟩ := bdv_some h
    have k47 := c_X5_itemsOf e46 rx1 (rgl rfl)
    refine v_callV (st := []) cf5 oc12 k47 (lw_V q1342 q1344 qs28 q302 q1345) rfl yk_X5_itemsOf ⟨by omega, by omega⟩ trivial ⟨kc12, trivial⟩ (Nat.le_of_ble_eq_true rfl) rfl dX5_base_194 ?_
    refine v_goto (tgt := 418) dX5_base_197 (by decide) ?_
    cases h
    exact v_vret dX5_base_418
  rw [if_neg c44] at h
  by_cases c48 : r4 = 130
  · rw [if_pos c48] at h
    refine v_lsw (tgt := 295) dX5_base_16 r5 (by decide) (by rw [c48]; try rfl) (by decide) ?_
    refine v_aload_n dX5_base_295 1 rfl rfl ?_
    refine v_getS (f := 1) (t := 10) cf5 oc12 rfl rfl rfl (by decide) q501 dX5_base_296 ?_
    refine v_iload_n dX5_base_299 2 rfl rfl ?_
    refine v_iconst dX5_base_300 ?_
    refine v_bipush dX5_base_301 rfl ?_
    obtain ⟨s49, e50, h⟩ := bdv_some h
    have k51 := c_X4_set e50 rx1 (rgl rfl) (rgl rfl)
    refine v_callV (st := []) cf4 oc10 k51 (lw_V q1316 q1305 q1306 q301 q1307) rfl yk_X4_set ⟨by omega, by omega⟩ trivial ⟨kc12, trivial⟩ (Nat.le_of_ble_eq_true rfl) rfl dX5_base_303 ?_
    refine v_goto (tgt := 418) dX5_base_306 (by decide) ?_
    cases h
    exact v_vret dX5_base_418
  rw [if_neg c48] at h
  by_cases c52 : r4 = 132
  · rw [if_pos c52] at h
    refine v_lsw (tgt := 267) dX5_base_16 r5 (by decide) (by rw [c52]; try rfl) (by decide) ?_
    refine v_aload_n dX5_base_267 1 rfl rfl ?_
    refine v_getS (f := 1) (t := 10) cf5 oc12 rfl rfl rfl (by decide) q501 dX5_base_268 ?_
    refine v_iload_n dX5_base_271 2 rfl rfl ?_
    refine v_iconst dX5_base_272 ?_
    refine v_bipush dX5_base_273 rfl ?_
    obtain ⟨s53, e54, h⟩ := bdv_some h
    have k55 := c_X4_set e54 rx1 (rgl rfl) (rgl rfl)
    refine v_callV (st := []) cf4 oc10 k55 (lw_V q1316 q1305 q1306 q301 q1307) rfl yk_X4_set ⟨by omega, by omega⟩ trivial ⟨kc12, trivial⟩ (Nat.le_of_ble_eq_true rfl) rfl dX5_base_275 ?_
    refine v_goto (tgt := 418) dX5_base_278 (by decide) ?_
    cases h
    exact v_vret dX5_base_418
  rw [if_neg c52] at h
  by_cases c56 : r4 = 139
  · rw [if_pos c56] at h
    refine v_lsw (tgt := 182) dX5_base_16 r5 (by decide) (by rw [c56]; try rfl) (by decide) ?_
    refine v_aload_n dX5_base_182 1 rfl rfl ?_
    refine v_iload_n dX5_base_183 2 rfl rfl ?_
    refine v_iconst dX5_base_184 ?_
    obtain ⟨s57, e58, h⟩ := bdv_some h
    have k59 := c_X5_itemsOf e58 rx1 (rgl rfl)
    refine v_callV (st := []) cf5 oc12 k59 (lw_V q1342 q1344 qs28 q302 q1345) rfl yk_X5_itemsOf ⟨by omega, by omega⟩ trivial ⟨kc12, trivial⟩ (Nat.le_of_ble_eq_true rfl) rfl dX5_base_185 ?_
    refine v_goto (tgt := 418) dX5_base_188 (by decide) ?_
    cases h
    exact v_vret dX5_base_418
  rw [if_neg c56] at h
  by_cases c60 : r4 = 145
  · rw [if_pos c60] at h
    refine v_lsw (tgt := 169) dX5_base_16 r5 (by decide) (by rw [c60]; try rfl) (by decide) ?_
    refine v_aload_n dX5_base_169 1 rfl rfl ?_
    refine v_getS (f := 1) (t := 10) cf5 oc12 rfl rfl rfl (by decide) q501 dX5_base_170 ?_
    refine v_iload_n dX5_base_173 2 rfl rfl ?_
    refine v_iconst dX5_base_174 ?_
    refine v_iconst dX5_base_175 ?_
    obtain ⟨s61, e62, h⟩ := bdv_some h
    have k63 := c_X4_set e62 rx1 (rgl rfl) (rgl rfl)
    refine v_callV (st := []) cf4 oc10 k63 (lw_V q1316 q1305 q1306 q301 q1307) rfl yk_X4_set ⟨by omega, by omega⟩ trivial ⟨kc12, trivial⟩ (Nat.le_of_ble_eq_true rfl) rfl dX5_base_176 ?_
    refine v_goto (tgt := 418) dX5_base_179 (by decide) ?_
    cases h
    exact v_vret dX5_base_418
  rw [if_neg c60] at h
  by_cases c64 : r4 = 147
  · rw [if_pos c64] at h
    refine v_lsw (tgt := 217) dX5_base_16 r5 (by decide) (by rw [c64]; try rfl) (by decide) ?_
    refine v_aload_n dX5_base_217 1 rfl rfl ?_
    refine v_getS (f := 1) (t := 10) cf5 oc12 rfl rfl rfl (by decide) q501 dX5_base_218 ?_
    refine v_iload_n dX5_base_221 2 rfl rfl ?_
    refine v_iconst dX5_base_222 ?_
    refine v_bipush dX5_base_223 rfl ?_
    obtain ⟨s65, e66, h⟩ := bdv_some h
    have k67 := c_X4_set e66 rx1 (rgl rfl) (rgl rfl)
    refine v_callV (st := []) cf4 oc10 k67 (lw_V q1316 q1305 q1306 q301 q1307) rfl yk_X4_set ⟨by omega, by omega⟩ trivial ⟨kc12, trivial⟩ (Nat.le_of_ble_eq_true rfl) rfl dX5_base_225 ?_
    refine v_aload_n dX5_base_228 1 rfl rfl ?_
    refine v_sipush dX5_base_229 rfl ?_
    obtain ⟨r71, s68, e69, h⟩ := bd_some h
    have k70 := c_X5_take e69 (rgl rfl)
    have r72 : rg r71 := k70.1.2.2
    refine v_callV (st := []) cf5 oc12 k70 (lw_V q1260 q1262 qs17 q302 q1263) rfl yk_X5_take ⟨by omega, by omega⟩ trivial ⟨kc12, trivial⟩ (Nat.le_of_ble_eq_true rfl) rfl dX5_base_232 ?_
    refine v_popI dX5_base_235 ?_
    refine v_goto (tgt := 418) dX5_base_236 (by decide) ?_
    cases h
    exact v_vret dX5_base_418
  rw [if_neg c64] at h
  by_cases c73 : r4 = 148
  · rw [if_pos c73] at h
    refine v_lsw (tgt := 208) dX5_base_16 r5 (by decide) (by rw [c73]; try rfl) (by decide) ?_
    refine v_aload_n dX5_base_208 1 rfl rfl ?_
    refine v_iload_n dX5_base_209 2 rfl rfl ?_
    refine v_iconst dX5_base_210 ?_
    obtain ⟨s74, e75, h⟩ := bdv_some h
    have k76 := c_X5_string e75 rx1 (rgl rfl)
    refine v_callV (st := []) cf5 oc12 k76 (lw_V q1359 q1361 qs32 q302 q1362) rfl yk_X5_string ⟨by omega, by omega⟩ trivial ⟨kc12, trivial⟩ (Nat.le_of_ble_eq_true rfl) rfl dX5_base_211 ?_
    refine v_goto (tgt := 418) dX5_base_214 (by decide) ?_
    cases h
    exact v_vret dX5_base_418
  rw [if_neg c73] at h
  by_cases c77 : r4 = 156
  · rw [if_pos c77] at h
    refine v_lsw (tgt := 253) dX5_base_16 r5 (by decide) (by rw [c77]; try rfl) (by decide) ?_
    refine v_aload_n dX5_base_253 1 rfl rfl ?_
    refine v_getS (f := 1) (t := 10) cf5 oc12 rfl rfl rfl (by decide) q501 dX5_base_254 ?_
    refine v_iload_n dX5_base_257 2 rfl rfl ?_
    refine v_iconst dX5_base_258 ?_
    refine v_bipush dX5_base_259 rfl ?_
    obtain ⟨s78, e79, h⟩ := bdv_some h
    have k80 := c_X4_set e79 rx1 (rgl rfl) (rgl rfl)
    refine v_callV (st := []) cf4 oc10 k80 (lw_V q1316 q1305 q1306 q301 q1307) rfl yk_X4_set ⟨by omega, by omega⟩ trivial ⟨kc12, trivial⟩ (Nat.le_of_ble_eq_true rfl) rfl dX5_base_261 ?_
    refine v_goto (tgt := 418) dX5_base_264 (by decide) ?_
    cases h
    exact v_vret dX5_base_418
  rw [if_neg c77] at h
  by_cases c81 : r4 = 159
  · rw [if_pos c81] at h
    refine v_lsw (tgt := 309) dX5_base_16 r5 (by decide) (by rw [c81]; try rfl) (by decide) ?_
    refine v_aload_n dX5_base_309 1 rfl rfl ?_
    refine v_iload_n dX5_base_310 2 rfl rfl ?_
    refine v_bipush dX5_base_311 rfl ?_
    refine v_bipush dX5_base_313 rfl ?_
    refine v_iload_n dX5_base_315 3 rfl rfl ?_
    obtain ⟨s82, e83, h⟩ := bdv_some h
    have k84 := c_X5_many e83 hrcf rx1 (rgl rfl) (rgl rfl) rx2
    refine v_callV (st := []) cf5 oc12 k84 (lw_V q1363 q1365 qs33 q302 q1366) rfl yk_X5_many ⟨by omega, by omega⟩ trivial ⟨kc12, trivial⟩ (Nat.le_of_ble_eq_true rfl) rfl dX5_base_316 ?_
    refine v_goto (tgt := 418) dX5_base_319 (by decide) ?_
    cases h
    exact v_vret dX5_base_418
  rw [if_neg c81] at h
  by_cases c85 : r4 = 160
  · rw [if_pos c85] at h
    refine v_lsw (tgt := 322) dX5_base_16 r5 (by decide) (by rw [c85]; try rfl) (by decide) ?_
    refine v_aload_n dX5_base_322 1 rfl rfl ?_
    refine v_iload_n dX5_base_323 2 rfl rfl ?_
    refine v_bipush dX5_base_324 rfl ?_
    refine v_bipush dX5_base_326 rfl ?_
    refine v_iload_n dX5_base_328 3 rfl rfl ?_
    obtain ⟨s86, e87, h⟩ := bdv_some h
    have k88 := c_X5_many e87 hrcf rx1 (rgl rfl) (rgl rfl) rx2
    refine v_callV (st := []) cf5 oc12 k88 (lw_V q1363 q1365 qs33 q302 q1366) rfl yk_X5_many ⟨by omega, by omega⟩ trivial ⟨kc12, trivial⟩ (Nat.le_of_ble_eq_true rfl) rfl dX5_base_329 ?_
    refine v_goto (tgt := 418) dX5_base_332 (by decide) ?_
    cases h
    exact v_vret dX5_base_418
  rw [if_neg c85] at h
  by_cases c89 : r4 = 171
  · rw [if_pos c89] at h
    refine v_lsw (tgt := 281) dX5_base_16 r5 (by decide) (by rw [c89]; try rfl) (by decide) ?_
    refine v_aload_n dX5_base_281 1 rfl rfl ?_
    refine v_getS (f := 1) (t := 10) cf5 oc12 rfl rfl rfl (by decide) q501 dX5_base_282 ?_
    refine v_iload_n dX5_base_285 2 rfl rfl ?_
    refine v_iconst dX5_base_286 ?_
    refine v_bipush dX5_base_287 rfl ?_
    obtain ⟨s90, e91, h⟩ := bdv_some h
    have k92 := c_X4_set e91 rx1 (rgl rfl) (rgl rfl)
    refine v_callV (st := []) cf4 oc10 k92 (lw_V q1316 q1305 q1306 q301 q1307) rfl yk_X4_set ⟨by omega, by omega⟩ trivial ⟨kc12, trivial⟩ (Nat.le_of_ble_eq_true rfl) rfl dX5_base_289 ?_
    refine v_goto (tgt := 418) dX5_base_292 (by decide) ?_
    cases h
    exact v_vret dX5_base_418
  rw [if_neg c89] at h
  by_cases c93 : r4 = 172
  · rw [if_pos c93] at h
    refine v_lsw (tgt := 239) dX5_base_16 r5 (by decide) (by rw [c93]; try rfl) (by decide) ?_
    refine v_aload_n dX5_base_239 1 rfl rfl ?_
    refine v_getS (f := 1) (t := 10) cf5 oc12 rfl rfl rfl (by decide) q501 dX5_base_240 ?_
    refine v_iload_n dX5_base_243 2 rfl rfl ?_
    refine v_iconst dX5_base_244 ?_
    refine v_bipush dX5_base_245 rfl ?_
    obtain ⟨s94, e95, h⟩ := bdv_some h
    have k96 := c_X4_set e95 rx1 (rgl rfl) (rgl rfl)
    refine v_callV (st := []) cf4 oc10 k96 (lw_V q1316 q1305 q1306 q301 q1307) rfl yk_X4_set ⟨by omega, by omega⟩ trivial ⟨kc12, trivial⟩ (Nat.le_of_ble_eq_true rfl) rfl dX5_base_247 ?_
    refine v_goto (tgt := 418) dX5_base_250 (by decide) ?_
    cases h
    exact v_vret dX5_base_418
  rw [if_neg c93] at h
  refine v_lsw (tgt := 403) dX5_base_16 r5 (by decide) (by simp only [Op.lookupswitch.offset_cons, Op.lookupswitch.offset_nil]; rw [if_neg (fun q => c8 q.symm), if_neg (fun q => c23 q.symm), if_neg (fun q => c27 q.symm), if_neg (fun q => c31 q.symm), if_neg (fun q => c44 q.symm), if_neg (fun q => c48 q.symm), if_neg (fun q => c52 q.symm), if_neg (fun q => c56 q.symm), if_neg (fun q => c60 q.symm), if_neg (fun q => c64 q.symm), if_neg (fun q => c73 q.symm), if_neg (fun q => c77 q.symm), if_neg (fun q => c81 q.symm), if_neg (fun q => c85 q.symm), if_neg (fun q => c89 q.symm), if_neg (fun q => c93 q.symm)]) (by decide) ?_
  refine v_aload_n dX5_base_403 1 rfl rfl ?_
  refine v_dupO dX5_base_404 ?_
  refine v_getI (f := 2) cf5 oc12 rfl (by decide) q502 dX5_base_405 ?_
  refine v_iconst dX5_base_408 ?_
  refine v_isub dX5_base_409 ?_
  obtain ⟨s97, e98, h⟩ := stp_some h
  refine v_putI (f := 2) cf5 oc12 rfl (by decide) q502 dX5_base_410 rfl rfl ?_
  rw [← e98]
  refine v_aload_n dX5_base_413 1 rfl rfl ?_
  obtain ⟨r102, s99, e100, h⟩ := bd_some h
  have k101 := c_X5_unfit e100
  have r103 : rg r102 := k101.1.2.2
  refine v_callV (st := []) cf5 oc12 k101 (lw_V q1272 q1274 qs19 q302 q1275) rfl yk_X5_unfit ⟨by omega, by omega⟩ trivial ⟨kc12, trivial⟩ (Nat.le_of_ble_eq_true rfl) rfl dX5_base_414 ?_
  refine v_popI dX5_base_417 ?_
  cases h
  exact v_vret dX5_base_418

def E_X5_type_41 (fr : Nat) (lr : Nat) (rcf : RT_X5_type) (x1 : Int) (x2 : Int) (rv : Option vA) (σo : vS) (q : vS) : Prop := ∀ (s' : vS), q = s' → VW cX5_type (RX5, rv, σo, (some .int), (fr + 11), (lr + 241), 4, []) (P0 []) s' 75 [(0, vO 12), (1, vI x1), (2, vI x2)] []
def l_X5_type_41 (fr : Nat) (lr : Nat) (rcf : RT_X5_type) : Nat → Int → Int → Int → vS → Option (vS)
  | 0, _, _, _, _ => none
  | n + 1, x1, x2, x3, s =>
    if (gI s 12 3) = 0 then
      bd (f_X5_is 17 s) fun r5 s2 =>
      if r5 = 0 then
        some s2
      else
        bd (f_X5_tag s2) fun r11 s8 =>
        bd (f_X4_chain x2 2 x3 r11 s8) fun r16 s13 =>
        l_X5_type_41 fr lr rcf n x1 x2 r16 s13
    else
      some s
theorem wl_X5_type_41 (fr : Nat) (lr : Nat) (rcf : RT_X5_type) {x1 : Int} {x2 : Int} {rv : Option vA} {σo : vS} (hrcf : HR_X5_type fr lr rcf) (rx1 : rg x1) (rx2 : rg x2) : ∀ (n : Nat) (x3 : Int) (s : vS) (q : vS), l_X5_type_41 fr lr rcf n x1 x2 x3 s = some q → rg x3 → E_X5_type_41 fr lr rcf x1 x2 rv σo q → VW cX5_type (RX5, rv, σo, (some .int), (fr + 11), (lr + 241), 4, []) (P0 []) s 41 [(0, vO 12), (1, vI x1), (2, vI x2), (3, vI x3)] [] := by
  intro n
  induction n with
  | zero => intro x3 s q h; cases h
  | succ n ih =>
    intro x3 s q h rx3 hE
    unfold l_X5_type_41 at h
    refine v_aload_n dX5_type_41 0 rfl rfl ?_
    refine v_getI (f := 3) cf5 oc12 rfl (by decide) q503 dX5_type_42 ?_
    refine v_if_ne (tgt := 75) dX5_type_45 (gI_rg _ _ _) (by decide) (fun c1 => ?_) (fun c1 => ?_)
    · rw [if_neg c1] at h
      cases h
      refine v_sub [0, 1, 2] (L1 := [(0, vO 12), (1, vI x1), (2, vI x2)]) rfl ?_
      exact hE _ rfl 
    · rw [if_pos c1] at h
      refine v_aload_n dX5_type_48 0 rfl rfl ?_
      refine v_bipush dX5_type_49 rfl ?_
      obtain ⟨r5, s2, e3, h⟩ := bd_some h
      have k4 := c_X5_is e3 (rgl rfl)
      have r6 : rg r5 := k4.1.2.2
      refine v_callV (st := []) cf5 oc12 k4 (lw_V q1264 q1266 qs18 q302 q1267) rfl yk_X5_is ⟨by omega, by omega⟩ trivial ⟨kc12, trivial⟩ (Nat.le_of_ble_eq_true rfl) rfl dX5_type_51 ?_
      refine v_if_eq (tgt := 75) dX5_type_54 r6 (by decide) (fun c7 => ?_) (fun c7 => ?_)
      · rw [if_pos c7] at h
        cases h
        refine v_sub [0, 1, 2] (L1 := [(0, vO 12), (1, vI x1), (2, vI x2)]) rfl ?_
        exact hE _ rfl 
      · rw [if_neg c7] at h
        refine v_aload_n dX5_type_57 0 rfl rfl ?_
        refine v_getS (f := 1) (t := 10) cf5 oc12 rfl rfl rfl (by decide) q501 dX5_type_58 ?_
        refine v_iload_n dX5_type_61 2 rfl rfl ?_
        refine v_iconst dX5_type_62 ?_
        refine v_iload_n dX5_type_63 3 rfl rfl ?_
        refine v_aload_n dX5_type_64 0 rfl rfl ?_
        obtain ⟨r11, s8, e9, h⟩ := bd_some h
        have k10 := c_X5_tag e9
        have r12 : rg r11 := k10.1.2.2
        refine v_callV (st := [vI x3, vI 2, vI x2, vO 10]) cf5 oc12 k10 (lw_V q1312 q1314 qs25 q302 q1315) rfl yk_X5_tag ⟨by omega, by omega⟩ ⟨kc10, trivial⟩ ⟨kc12, trivial⟩ (Nat.le_of_ble_eq_true rfl) rfl dX5_type_65 ?_
        obtain ⟨r16, s13, e14, h⟩ := bd_some h
        have k15 := c_X4_chain e14 rx2 (rgl rfl) rx3 r12
        have r17 : rg r16 := k15.1.2.2
        refine v_callV (st := []) cf4 oc10 k15 (lw_V q1334 q1335 q1336 q301 q1337) rfl yk_X4_chain ⟨by omega, by omega⟩ trivial ⟨kc12, trivial⟩ (Nat.le_of_ble_eq_true rfl) rfl dX5_type_68 ?_
        refine v_istore_n (L1 := [(3, vI r16), (0, vO 12), (1, vI x1), (2, vI x2)]) dX5_type_71 rfl (by decide) rfl ?_
        refine v_goto (tgt := 41) dX5_type_72 (by decide) ?_
        refine v_sub [1, 2, 3, 0] (L1 := [(0, vO 12), (1, vI x1), (2, vI x2), (3, vI r16)]) rfl ?_
        exact ih r16 s13 _ h r17 hE

def E_X5_type_97 (fr : Nat) (lr : Nat) (rcf : RT_X5_type) (x2 : Int) (rv : Option vA) (σo : vS) (q : Int × vS) : Prop := ∀ (x3' : Int) (s' : vS), q = (x3', s') → rg x3' → VW cX5_type (RX5, rv, σo, (some .int), (fr + 11), (lr + 241), 4, []) (P0 []) s' 126 [(0, vO 12), (2, vI x2), (3, vI x3')] []
def l_X5_type_97 (fr : Nat) (lr : Nat) (rcf : RT_X5_type) : Nat → Int → Int → vS → Option (Int × vS)
  | 0, _, _, _ => none
  | n + 1, x2, x3, s =>
    if x3 = (-1) then
      some (x3, s)
    else
      bd (f_X4_next x3 s) fun r5 s2 =>
      if r5 = (-1) then
        some (x3, s2)
      else
        bd (f_X4_next x3 s2) fun r11 s8 =>
        l_X5_type_97 fr lr rcf n x2 r11 s8
theorem wl_X5_type_97 (fr : Nat) (lr : Nat) (rcf : RT_X5_type) {x2 : Int} {rv : Option vA} {σo : vS} (hrcf : HR_X5_type fr lr rcf) (rx2 : rg x2) : ∀ (n : Nat) (x3 : Int) (s : vS) (q : Int × vS), l_X5_type_97 fr lr rcf n x2 x3 s = some q → rg x3 → E_X5_type_97 fr lr rcf x2 rv σo q → VW cX5_type (RX5, rv, σo, (some .int), (fr + 11), (lr + 241), 4, []) (P0 []) s 97 [(0, vO 12), (2, vI x2), (3, vI x3)] [] := by
  intro n
  induction n with
  | zero => intro x3 s q h; cases h
  | succ n ih =>
    intro x3 s q h rx3 hE
    unfold l_X5_type_97 at h
    refine v_iload_n dX5_type_97 2 rfl rfl ?_
    refine v_iconst dX5_type_98 ?_
    refine v_icmp_eq (tgt := 126) dX5_type_99 rx3 (rgl rfl) (by decide) (fun c1 => ?_) (fun c1 => ?_)
    · rw [if_pos c1] at h
      cases h
      exact hE _ _ rfl rx3
    · rw [if_neg c1] at h
      refine v_aload_n dX5_type_102 0 rfl rfl ?_
      refine v_getS (f := 1) (t := 10) cf5 oc12 rfl rfl rfl (by decide) q501 dX5_type_103 ?_
      refine v_iload_n dX5_type_106 2 rfl rfl ?_
      obtain ⟨r5, s2, e3, h⟩ := bd_some h
      have k4 := c_X4_next e3 rx3
      have r6 : rg r5 := k4.1.2.2
      refine v_callV (st := []) cf4 oc10 k4 (lw_V q1403 q1404 q1405 q301 q1406) rfl yk_X4_next ⟨by omega, by omega⟩ trivial ⟨kc12, trivial⟩ (Nat.le_of_ble_eq_true rfl) rfl dX5_type_107 ?_
      refine v_iconst dX5_type_110 ?_
      refine v_icmp_eq (tgt := 126) dX5_type_111 r6 (rgl rfl) (by decide) (fun c7 => ?_) (fun c7 => ?_)
      · rw [if_pos c7] at h
        cases h
        exact hE _ _ rfl rx3
      · rw [if_neg c7] at h
        refine v_aload_n dX5_type_114 0 rfl rfl ?_
        refine v_getS (f := 1) (t := 10) cf5 oc12 rfl rfl rfl (by decide) q501 dX5_type_115 ?_
        refine v_iload_n dX5_type_118 2 rfl rfl ?_
        obtain ⟨r11, s8, e9, h⟩ := bd_some h
        have k10 := c_X4_next e9 rx3
        have r12 : rg r11 := k10.1.2.2
        refine v_callV (st := []) cf4 oc10 k10 (lw_V q1403 q1404 q1405 q301 q1406) rfl yk_X4_next ⟨by omega, by omega⟩ trivial ⟨kc12, trivial⟩ (Nat.le_of_ble_eq_true rfl) rfl dX5_type_119 ?_
        refine v_istore_n (L1 := [(3, vI r11), (0, vO 12), (2, vI x2)]) dX5_type_122 rfl (by decide) rfl ?_
        refine v_goto (tgt := 97) dX5_type_123 (by decide) ?_
        refine v_sub [1, 2, 0] (L1 := [(0, vO 12), (2, vI x2), (3, vI r11)]) rfl ?_
        exact ih r11 s8 _ h r12 hE

def E_X5_type_126 (fr : Nat) (lr : Nat) (rcf : RT_X5_type) (x2 : Int) (rv : Option vA) (σo : vS) (q : vS) : Prop := ∀ (s' : vS), q = s' → VW cX5_type (RX5, rv, σo, (some .int), (fr + 11), (lr + 241), 4, []) (P0 []) s' 160 [(2, vI x2)] []
def l_X5_type_126 (fr : Nat) (lr : Nat) (rcf : RT_X5_type) : Nat → Int → Int → vS → Option (vS)
  | 0, _, _, _ => none
  | n + 1, x2, x3, s =>
    if (gI s 12 3) = 0 then
      bd (f_X5_is 19 s) fun r5 s2 =>
      if r5 = 0 then
        some s2
      else
        bd (f_X5_limit s2) fun r11 s8 =>
        bd (f_X4_chain x2 4 x3 r11 s8) fun r16 s13 =>
        l_X5_type_126 fr lr rcf n x2 r16 s13
    else
      some s
theorem wl_X5_type_126 (fr : Nat) (lr : Nat) (rcf : RT_X5_type) {x2 : Int} {rv : Option vA} {σo : vS} (hrcf : HR_X5_type fr lr rcf) (rx2 : rg x2) : ∀ (n : Nat) (x3 : Int) (s : vS) (q : vS), l_X5_type_126 fr lr rcf n x2 x3 s = some q → rg x3 → E_X5_type_126 fr lr rcf x2 rv σo q → VW cX5_type (RX5, rv, σo, (some .int), (fr + 11), (lr + 241), 4, []) (P0 []) s 126 [(0, vO 12), (2, vI x2), (3, vI x3)] [] := by
  intro n
  induction n with
  | zero => intro x3 s q h; cases h
  | succ n ih =>
    intro x3 s q h rx3 hE
    unfold l_X5_type_126 at h
    refine v_aload_n dX5_type_126 0 rfl rfl ?_
    refine v_getI (f := 3) cf5 oc12 rfl (by decide) q503 dX5_type_127 ?_
    refine v_if_ne (tgt := 160) dX5_type_130 (gI_rg _ _ _) (by decide) (fun c1 => ?_) (fun c1 => ?_)
    · rw [if_neg c1] at h
      cases h
      refine v_sub [1] (L1 := [(2, vI x2)]) rfl ?_
      exact hE _ rfl 
    · rw [if_pos c1] at h
      refine v_aload_n dX5_type_133 0 rfl rfl ?_
      refine v_bipush dX5_type_134 rfl ?_
      obtain ⟨r5, s2, e3, h⟩ := bd_some h
      have k4 := c_X5_is e3 (rgl rfl)
      have r6 : rg r5 := k4.1.2.2
      refine v_callV (st := []) cf5 oc12 k4 (lw_V q1264 q1266 qs18 q302 q1267) rfl yk_X5_is ⟨by omega, by omega⟩ trivial ⟨kc12, trivial⟩ (Nat.le_of_ble_eq_true rfl) rfl dX5_type_136 ?_
      refine v_if_eq (tgt := 160) dX5_type_139 r6 (by decide) (fun c7 => ?_) (fun c7 => ?_)
      · rw [if_pos c7] at h
        cases h
        refine v_sub [1] (L1 := [(2, vI x2)]) rfl ?_
        exact hE _ rfl 
      · rw [if_neg c7] at h
        refine v_aload_n dX5_type_142 0 rfl rfl ?_
        refine v_getS (f := 1) (t := 10) cf5 oc12 rfl rfl rfl (by decide) q501 dX5_type_143 ?_
        refine v_iload_n dX5_type_146 1 rfl rfl ?_
        refine v_iconst dX5_type_147 ?_
        refine v_iload_n dX5_type_148 2 rfl rfl ?_
        refine v_aload_n dX5_type_149 0 rfl rfl ?_
        obtain ⟨r11, s8, e9, h⟩ := bd_some h
        have k10 := c_X5_limit e9
        have r12 : rg r11 := k10.1.2.2
        refine v_callV (st := [vI x3, vI 4, vI x2, vO 10]) cf5 oc12 k10 (lw_V q1407 q1409 qs41 q302 q1410) rfl yk_X5_limit ⟨by omega, by omega⟩ ⟨kc10, trivial⟩ ⟨kc12, trivial⟩ (Nat.le_of_ble_eq_true rfl) rfl dX5_type_150 ?_
        obtain ⟨r16, s13, e14, h⟩ := bd_some h
        have k15 := c_X4_chain e14 rx2 (rgl rfl) rx3 r12
        have r17 : rg r16 := k15.1.2.2
        refine v_callV (st := []) cf4 oc10 k15 (lw_V q1334 q1335 q1336 q301 q1337) rfl yk_X4_chain ⟨by omega, by omega⟩ trivial ⟨kc12, trivial⟩ (Nat.le_of_ble_eq_true rfl) rfl dX5_type_153 ?_
        refine v_istore_n (L1 := [(3, vI r16), (0, vO 12), (2, vI x2)]) dX5_type_156 rfl (by decide) rfl ?_
        refine v_goto (tgt := 126) dX5_type_157 (by decide) ?_
        refine v_sub [1, 2, 0] (L1 := [(0, vO 12), (2, vI x2), (3, vI r16)]) rfl ?_
        exact ih r16 s13 _ h r17 hE

def j_X5_type_88 (fr : Nat) (lr : Nat) (rcf : RT_X5_type) (x2 : Int) (s : vS) : Option (Int × vS) :=
  bd (f_X4_limits x2 s) fun r4 s1 =>
  lq_1 (l_X5_type_97 fr lr rcf FU x2 r4 s1) fun y6 s7 =>
  lq_0 (l_X5_type_126 fr lr rcf FU x2 y6 s7) fun s10 =>
  some (x2, s10)
theorem wj_X5_type_88 {fr : Nat} {lr : Nat} {rcf : RT_X5_type} {x2 : Int} {s : vS} {out : Int × vS} (h : j_X5_type_88 fr lr rcf x2 s = some out) (hrcf : HR_X5_type fr lr rcf) (rx2 : rg x2) : VW cX5_type (RX5, (some (vI out.1)), out.2, (some .int), (fr + 11), (lr + 241), 4, []) (P0 []) s 88 [(0, vO 12), (2, vI x2)] [] := by
  unfold j_X5_type_88 at h
  refine v_aload_n dX5_type_88 0 rfl rfl ?_
  refine v_getS (f := 1) (t := 10) cf5 oc12 rfl rfl rfl (by decide) q501 dX5_type_89 ?_
  refine v_iload_n dX5_type_92 1 rfl rfl ?_
  obtain ⟨r4, s1, e2, h⟩ := bd_some h
  have k3 := c_X4_limits e2 rx2
  have r5 : rg r4 := k3.1.2.2
  refine v_callV (st := []) cf4 oc10 k3 (lw_V q1395 q1396 q1397 q301 q1398) rfl yk_X4_limits ⟨by omega, by omega⟩ trivial ⟨kc12, trivial⟩ (Nat.le_of_ble_eq_true rfl) rfl dX5_type_93 ?_
  refine v_istore_n (L1 := [(3, vI r4), (0, vO 12), (2, vI x2)]) dX5_type_96 rfl (by decide) rfl ?_
  refine v_sub [1, 2, 0] (L1 := [(0, vO 12), (2, vI x2), (3, vI r4)]) rfl ?_
  obtain ⟨y6, s7, e8, h⟩ := lq_1_some h
  refine wl_X5_type_97 fr lr rcf hrcf rx2 FU r4 s1 _ e8 r5 ?_
  unfold E_X5_type_97
  intro y6' s7' z_ r9
  cases z_
  obtain ⟨s10, e11, h⟩ := lq_0_some h
  refine wl_X5_type_126 fr lr rcf hrcf rx2 FU y6 s7 _ e11 r9 ?_
  unfold E_X5_type_126
  intro s10' z_
  cases z_
  refine v_iload_n dX5_type_160 0 rfl rfl ?_
  cases h
  exact v_iret rx2 dX5_type_161

def j_X5_type_75 (fr : Nat) (lr : Nat) (rcf : RT_X5_type) (x1 : Int) (x2 : Int) (s : vS) : Option (Int × vS) :=
  if (gI s 12 3) = 0 then
    bdv (f_X5_base fr lr rcf x2 x1 s) fun s2 =>
    j_X5_type_88 fr lr rcf x2 s2
  else
    j_X5_type_88 fr lr rcf x2 s
theorem wj_X5_type_75 {fr : Nat} {lr : Nat} {rcf : RT_X5_type} {x1 : Int} {x2 : Int} {s : vS} {out : Int × vS} (h : j_X5_type_75 fr lr rcf x1 x2 s = some out) (hrcf : HR_X5_type fr lr rcf) (rx1 : rg x1) (rx2 : rg x2) : VW cX5_type (RX5, (some (vI out.1)), out.2, (some .int), (fr + 11), (lr + 241), 4, []) (P0 []) s 75 [(0, vO 12), (1, vI x1), (2, vI x2)] [] := by
  unfold j_X5_type_75 at h
  refine v_aload_n dX5_type_75 0 rfl rfl ?_
  refine v_getI (f := 3) cf5 oc12 rfl (by decide) q503 dX5_type_76 ?_
  refine v_if_ne (tgt := 88) dX5_type_79 (gI_rg _ _ _) (by decide) (fun c1 => ?_) (fun c1 => ?_)
  · rw [if_neg c1] at h
    refine v_sub [0, 2] (L1 := [(0, vO 12), (2, vI x2)]) rfl ?_
    exact wj_X5_type_88 h hrcf rx2
  · rw [if_pos c1] at h
    refine v_aload_n dX5_type_82 0 rfl rfl ?_
    refine v_iload_n dX5_type_83 2 rfl rfl ?_
    refine v_iload_n dX5_type_84 1 rfl rfl ?_
    obtain ⟨s2, e3, h⟩ := bdv_some h
    have k4 := c_X5_base e3 hrcf rx2 rx1
    refine v_callV (st := []) cf5 oc12 k4 (lw_V q1338 q1340 qs27 q302 q1341) rfl yk_X5_base ⟨by omega, by omega⟩ trivial ⟨kc12, trivial⟩ (Nat.le_of_ble_eq_true rfl) rfl dX5_type_85 ?_
    refine v_sub [0, 2] (L1 := [(0, vO 12), (2, vI x2)]) rfl ?_
    exact wj_X5_type_88 h hrcf rx2

def f_X5_type (fr : Nat) (lr : Nat) (rcf : RT_X5_type) (x1 : Int) (s : vS) : Option (Int × vS) :=
  bd (f_X4_add 17 (gI s 12 2) s) fun r4 s1 =>
  if (gI s1 12 3) = 0 then
    if x1 = 100 then
      bd (f_X5_wrong 4 (gI s1 12 2) s1) fun r13 s10 =>
      lq_0 (l_X5_type_41 fr lr rcf FU x1 r4 (-1) s10) fun s15 =>
      j_X5_type_75 fr lr rcf x1 r4 s15
    else
      lq_0 (l_X5_type_41 fr lr rcf FU x1 r4 (-1) s1) fun s8 =>
      j_X5_type_75 fr lr rcf x1 r4 s8
  else
    some (r4, s1)
theorem c_X5_type {fr : Nat} {lr : Nat} {rcf : RT_X5_type} {x1 : Int} {s : vS} {out : Int × vS} (h : f_X5_type fr lr rcf x1 s = some out) (hrcf : HR_X5_type fr lr rcf) (rx1 : rg x1) : VC yX5_type cX5_type 4 (some .int) (fr + 11) (lr + 241) [vO 12, vI x1] s (some (vI out.1)) out.2 [] := by
  unfold f_X5_type at h
  refine VC.of RX5 (by decide) rfl (Nat.le_of_ble_eq_true rfl) ?_
  show VW cX5_type (RX5, (some (vI out.1)), out.2, (some .int), (fr + 11), (lr + 241), 4, []) (P0 []) s 0 [(0, vO 12), (1, vI x1)] []
  refine v_aload_n dX5_type_0 0 rfl rfl ?_
  refine v_getS (f := 1) (t := 10) cf5 oc12 rfl rfl rfl (by decide) q501 dX5_type_1 ?_
  refine v_bipush dX5_type_4 rfl ?_
  refine v_aload_n dX5_type_6 0 rfl rfl ?_
  refine v_getI (f := 2) cf5 oc12 rfl (by decide) q502 dX5_type_7 ?_
  obtain ⟨r4, s1, e2, h⟩ := bd_some h
  have k3 := c_X4_add e2 (rgl rfl) (gI_rg _ _ _)
  have r5 : rg r4 := k3.1.2.2
  refine v_callV (st := []) cf4 oc10 k3 (lw_V q1299 q1300 q1301 q301 q1302) rfl yk_X4_add ⟨by omega, by omega⟩ trivial ⟨kc12, trivial⟩ (Nat.le_of_ble_eq_true rfl) rfl dX5_type_10 ?_
  refine v_istore_n (L1 := [(2, vI r4), (0, vO 12), (1, vI x1)]) dX5_type_13 rfl (by decide) rfl ?_
  refine v_aload_n dX5_type_14 1 rfl rfl ?_
  refine v_getI (f := 3) cf5 oc12 rfl (by decide) q503 dX5_type_15 ?_
  refine v_if_eq (tgt := 23) dX5_type_18 (gI_rg _ _ _) (by decide) (fun c6 => ?_) (fun c6 => ?_)
  · rw [if_pos c6] at h
    refine v_iload_n dX5_type_23 2 rfl rfl ?_
    refine v_bipush dX5_type_24 rfl ?_
    refine v_icmp_ne (tgt := 39) dX5_type_26 rx1 (rgl rfl) (by decide) (fun c7 => ?_) (fun c7 => ?_)
    · rw [if_neg c7] at h
      refine v_iconst dX5_type_39 ?_
      refine v_istore_n (L1 := [(3, vI (-1)), (2, vI r4), (0, vO 12), (1, vI x1)]) dX5_type_40 rfl (by decide) rfl ?_
      refine v_sub [2, 3, 1, 0] (L1 := [(0, vO 12), (1, vI x1), (2, vI r4), (3, vI (-1))]) rfl ?_
      obtain ⟨s8, e9, h⟩ := lq_0_some h
      refine wl_X5_type_41 fr lr rcf hrcf rx1 r5 FU (-1) s1 _ e9 (rgl rfl) ?_
      unfold E_X5_type_41
      intro s8' z_
      cases z_
      exact wj_X5_type_75 h hrcf rx1 r5
    · rw [if_pos c7] at h
      refine v_aload_n dX5_type_29 1 rfl rfl ?_
      refine v_iconst dX5_type_30 ?_
      refine v_aload_n dX5_type_31 1 rfl rfl ?_
      refine v_getI (f := 2) cf5 oc12 rfl (by decide) q502 dX5_type_32 ?_
      obtain ⟨r13, s10, e11, h⟩ := bd_some h
      have k12 := c_X5_wrong e11 (rgl rfl) (gI_rg _ _ _)
      have r14 : rg r13 := k12.1.2.2
      refine v_callV (st := []) cf5 oc12 k12 (lw_V q1283 q1285 qs21 q302 q1286) rfl yk_X5_wrong ⟨by omega, by omega⟩ trivial ⟨kc12, trivial⟩ (Nat.le_of_ble_eq_true rfl) rfl dX5_type_35 ?_
      refine v_popI dX5_type_38 ?_
      refine v_iconst dX5_type_39 ?_
      refine v_istore_n (L1 := [(3, vI (-1)), (2, vI r4), (0, vO 12), (1, vI x1)]) dX5_type_40 rfl (by decide) rfl ?_
      refine v_sub [2, 3, 1, 0] (L1 := [(0, vO 12), (1, vI x1), (2, vI r4), (3, vI (-1))]) rfl ?_
      obtain ⟨s15, e16, h⟩ := lq_0_some h
      refine wl_X5_type_41 fr lr rcf hrcf rx1 r5 FU (-1) s10 _ e16 (rgl rfl) ?_
      unfold E_X5_type_41
      intro s15' z_
      cases z_
      exact wj_X5_type_75 h hrcf rx1 r5
  · rw [if_neg c6] at h
    refine v_iload_n dX5_type_21 0 rfl rfl ?_
    cases h
    exact v_iret r5 dX5_type_22

/-- the recursion, so many calls deep -/
def d_X5_type : Nat → RT_X5_type
  | 0 => fun _ _ => none
  | d + 1 => fun x1 s => f_X5_type (11 * d) (241 * d) (d_X5_type d) x1 s
theorem hd_X5_type : ∀ d, HR_X5_type (11 * d) (241 * d) (d_X5_type d)
  | 0 => fun x1 s out h => by cases h
  | d + 1 => fun x1 s out h rx1 => by
    have k := c_X5_type (fr := 11 * d) (lr := 241 * d) (rcf := d_X5_type d) h (hd_X5_type d) rx1
    exact k
