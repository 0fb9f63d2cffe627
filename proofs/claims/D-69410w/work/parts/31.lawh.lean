set_option maxRecDepth 100000
set_option maxHeartbeats 1000000
/-! (by tools/mklawh.py) the law's helpers -/
def hx {α : Type} (m : Option ((Int × vS) ⊕ (Nat × vS))) (k : Int → vS → Option α) (kr : Nat → vS → Option α) : Option α := m.bind fun z => match z with | .inl q => k q.1 q.2 | .inr q => kr q.1 q.2
theorem hx_some {α : Type} {m : Option ((Int × vS) ⊕ (Nat × vS))} {k : Int → vS → Option α} {kr : Nat → vS → Option α} {r : α} (h : hx m k kr = some r) : (∃ x s, m = some (.inl (x, s)) ∧ k x s = some r) ∨ (∃ x s, m = some (.inr (x, s)) ∧ kr x s = some r) := by
  cases m with
  | none => cases h
  | some z =>
    cases z with
    | inl q => exact Or.inl ⟨q.1, q.2, rfl, h⟩
    | inr q => exact Or.inr ⟨q.1, q.2, rfl, h⟩
def f_X0_feed (x1 : Int) (x2 : Int) (x3 : Int) (x4 : Int) (x5 : Int) (s : vS) : Option (Int × vS) :=
  hx (f_X1_feed x1 x2 x3 x4 x5 s) (fun r s1 => gd (gN s1 198 = gN s 198 ∧ inb 0 (gN s1 198)) <| stp (sE s1 198 0 r) fun s2 => some (0, s2)) (fun k s1 => gd (gN s1 198 = gN s 198) <| if k = 1 then some (1, s1) else none)
theorem yk_X0_feed : yOk yX0_feed 7 := ⟨by decide, by decide, by decide +kernel⟩
theorem c_X0_feed {x1 : Int} {x2 : Int} {x3 : Int} {x4 : Int} {x5 : Int} {s : vS} {out : Int × vS} (h : f_X0_feed x1 x2 x3 x4 x5 s = some out) (rx1 : rg x1) (rx2 : rg x2) (rx3 : rg x3) (rx4 : rg x4) (rx5 : rg x5) : VCW yX0_feed cX0_feed 8 (hhOf "feed") 8 134 [vO 0, vI x1, vI x2, vI x3, vI x4, vI x5, vO 198] s out.1 out.2 := by
  unfold f_X0_feed at h
  rcases hx_some h with ⟨r, s1, e, h⟩ | ⟨k, s1, e, h⟩
  · obtain ⟨g, h⟩ := gd_some h
    obtain ⟨s2, e2, h⟩ := stp_some h
    cases h
    have kk := c_X1_feed e rx1 rx2 rx3 rx4 rx5
    refine VCW.of "feed" RX0 rfl (rgl rfl) (by decide) rfl (Nat.le_of_ble_eq_true rfl) ?_
    show VW cX0_feed (hB "feed" RX0 0 s2 8 134 8) (P0 []) s 0 [(0, vO 0), (1, vI x1), (2, vI x2), (3, vI x3), (4, vI x4), (5, vI x5), (6, vO 198)] []
    refine v_aload dX0_feed_0 6 rfl ?_
    refine v_iconst dX0_feed_2 ?_
    refine v_aload_n dX0_feed_3 0 rfl rfl ?_
    refine v_iload_n dX0_feed_4 1 rfl rfl ?_
    refine v_iload_n dX0_feed_5 2 rfl rfl ?_
    refine v_iload_n dX0_feed_6 3 rfl rfl ?_
    refine v_iload dX0_feed_7 4 rfl ?_
    refine v_iload dX0_feed_9 5 rfl ?_
    refine v_callV (st := [vI 0, vO 198]) cf1 oc0 kk (lw_V q925 q926 q927 q298 q928) rfl yk_X1_feed ⟨Nat.le_of_ble_eq_true rfl, Nat.le_of_ble_eq_true rfl⟩ ⟨(kp_arr (by decide) g.1), trivial⟩ ⟨kc0, (kp_arr (by decide) g.1), trivial⟩ (Nat.le_of_ble_eq_true rfl) rfl dX0_feed_11 ?_
    refine v_i2l dX0_feed_14 kk.1.2.2 ?_
    refine v_last oc198 (rgl rfl) g.2.1 g.2.2 dX0_feed_15 ?_
    rw [← e2]
    refine v_goto (tgt := 23) dX0_feed_16 (by decide) ?_
    refine v_iconst dX0_feed_23 ?_
    exact v_hret dX0_feed_24
  · obtain ⟨g, h⟩ := gd_some h
    have g : gN s1 198 = gN s 198 ∧ True := ⟨g, trivial⟩
    by_cases hk0 : k = 1
    · rw [if_pos hk0] at h
      cases h
      subst hk0
      have kk := t_X1_feed e rx1 rx2 rx3 rx4 rx5
      refine VCW.of "feed" RX0 rfl (rgl rfl) (by decide) rfl (Nat.le_of_ble_eq_true rfl) ?_
      show VW cX0_feed (hB "feed" RX0 1 s1 8 134 8) (P0 []) s 0 [(0, vO 0), (1, vI x1), (2, vI x2), (3, vI x3), (4, vI x4), (5, vI x5), (6, vO 198)] []
      refine v_aload dX0_feed_0 6 rfl ?_
      refine v_iconst dX0_feed_2 ?_
      refine v_aload_n dX0_feed_3 0 rfl rfl ?_
      refine v_iload_n dX0_feed_4 1 rfl rfl ?_
      refine v_iload_n dX0_feed_5 2 rfl rfl ?_
      refine v_iload_n dX0_feed_6 3 rfl rfl ?_
      refine v_iload dX0_feed_7 4 rfl ?_
      refine v_iload dX0_feed_9 5 rfl ?_
      refine v_catch (j := 0) (sp := 0) (ep := 16) (hp := 19) (ct := 13) (E := "java/lang/IllegalStateException") (st := [vI 0, vO 198]) cf1 oc0 kk (lw_V q925 q926 q927 q298 q928) rfl yk_X1_feed ⟨Nat.le_of_ble_eq_true rfl, Nat.le_of_ble_eq_true rfl⟩ (Nat.le_of_ble_eq_true rfl) rfl dX0_feed_11 rfl (fun z hz => by cases hz) ⟨Nat.zero_le _, by decide⟩ (by decide) q924 (List.mem_filter.mpr ⟨q935, rfl⟩) ⟨kc0, (kp_arr (by decide) g.1), trivial⟩ ?_
      refine v_astore (L1 := [(7, vO 900), (0, vO 0), (1, vI x1), (2, vI x2), (3, vI x3), (4, vI x4), (5, vI x5), (6, vO 198)]) dX0_feed_19 (by decide) rfl ?_
      refine v_iconst dX0_feed_21 ?_
      exact v_hret dX0_feed_22
    rw [if_neg hk0] at h
    cases h
def f_X0_end (x1 : Int) (s : vS) : Option (Int × vS) :=
  hx (f_X1_end x1 s) (fun r s1 => gd (gN s1 198 = gN s 198 ∧ inb 0 (gN s1 198)) <| stp (sE s1 198 0 r) fun s2 => some (0, s2)) (fun k s1 => gd (gN s1 198 = gN s 198) <| if k = 2 then some (1, s1) else if k = 1 then some (2, s1) else none)
theorem yk_X0_end : yOk yX0_end 3 := ⟨by decide, by decide, by decide +kernel⟩
theorem c_X0_end {x1 : Int} {s : vS} {out : Int × vS} (h : f_X0_end x1 s = some out) (rx1 : rg x1) : VCW yX0_end cX0_end 4 (hhOf "end") 8 130 [vO 0, vI x1, vO 198] s out.1 out.2 := by
  unfold f_X0_end at h
  rcases hx_some h with ⟨r, s1, e, h⟩ | ⟨k, s1, e, h⟩
  · obtain ⟨g, h⟩ := gd_some h
    obtain ⟨s2, e2, h⟩ := stp_some h
    cases h
    have kk := c_X1_end e rx1
    refine VCW.of "end" RX0 rfl (rgl rfl) (by decide) rfl (Nat.le_of_ble_eq_true rfl) ?_
    show VW cX0_end (hB "end" RX0 0 s2 8 130 4) (P0 []) s 0 [(0, vO 0), (1, vI x1), (2, vO 198)] []
    refine v_aload_n dX0_end_0 2 rfl rfl ?_
    refine v_iconst dX0_end_1 ?_
    refine v_aload_n dX0_end_2 0 rfl rfl ?_
    refine v_iload_n dX0_end_3 1 rfl rfl ?_
    refine v_callV (st := [vI 0, vO 198]) cf1 oc0 kk (lw_V q1017 q1018 q1019 q298 q1020) rfl yk_X1_end ⟨Nat.le_of_ble_eq_true rfl, Nat.le_of_ble_eq_true rfl⟩ ⟨(kp_arr (by decide) g.1), trivial⟩ ⟨kc0, (kp_arr (by decide) g.1), trivial⟩ (Nat.le_of_ble_eq_true rfl) rfl dX0_end_4 ?_
    refine v_i2l dX0_end_7 kk.1.2.2 ?_
    refine v_last oc198 (rgl rfl) g.2.1 g.2.2 dX0_end_8 ?_
    rw [← e2]
    refine v_goto (tgt := 18) dX0_end_9 (by decide) ?_
    refine v_iconst dX0_end_18 ?_
    exact v_hret dX0_end_19
  · obtain ⟨g, h⟩ := gd_some h
    have g : gN s1 198 = gN s 198 ∧ True := ⟨g, trivial⟩
    by_cases hk0 : k = 2
    · rw [if_pos hk0] at h
      cases h
      subst hk0
      have kk := t_X1_end e rx1
      refine VCW.of "end" RX0 rfl (rgl rfl) (by decide) rfl (Nat.le_of_ble_eq_true rfl) ?_
      show VW cX0_end (hB "end" RX0 1 s1 8 130 4) (P0 []) s 0 [(0, vO 0), (1, vI x1), (2, vO 198)] []
      refine v_aload_n dX0_end_0 2 rfl rfl ?_
      refine v_iconst dX0_end_1 ?_
      refine v_aload_n dX0_end_2 0 rfl rfl ?_
      refine v_iload_n dX0_end_3 1 rfl rfl ?_
      refine v_catch (j := 0) (sp := 0) (ep := 9) (hp := 12) (ct := 19) (E := "java/lang/IllegalArgumentException") (st := [vI 0, vO 198]) cf1 oc0 kk (lw_V q1017 q1018 q1019 q298 q1020) rfl yk_X1_end ⟨Nat.le_of_ble_eq_true rfl, Nat.le_of_ble_eq_true rfl⟩ (Nat.le_of_ble_eq_true rfl) rfl dX0_end_4 rfl (fun z hz => by cases hz) ⟨Nat.zero_le _, by decide⟩ (by decide) q1016 (List.mem_filter.mpr ⟨q1026, rfl⟩) ⟨kc0, (kp_arr (by decide) g.1), trivial⟩ ?_
      refine v_astore_n (L1 := [(3, vO 900), (0, vO 0), (1, vI x1), (2, vO 198)]) dX0_end_12 rfl (by decide) rfl ?_
      refine v_iconst dX0_end_13 ?_
      exact v_hret dX0_end_14
    rw [if_neg hk0] at h
    by_cases hk1 : k = 1
    · rw [if_pos hk1] at h
      cases h
      subst hk1
      have kk := t_X1_end e rx1
      refine VCW.of "end" RX0 rfl (rgl rfl) (by decide) rfl (Nat.le_of_ble_eq_true rfl) ?_
      show VW cX0_end (hB "end" RX0 2 s1 8 130 4) (P0 []) s 0 [(0, vO 0), (1, vI x1), (2, vO 198)] []
      refine v_aload_n dX0_end_0 2 rfl rfl ?_
      refine v_iconst dX0_end_1 ?_
      refine v_aload_n dX0_end_2 0 rfl rfl ?_
      refine v_iload_n dX0_end_3 1 rfl rfl ?_
      refine v_catch (j := 1) (sp := 0) (ep := 9) (hp := 15) (ct := 13) (E := "java/lang/IllegalStateException") (st := [vI 0, vO 198]) cf1 oc0 kk (lw_V q1017 q1018 q1019 q298 q1020) rfl yk_X1_end ⟨Nat.le_of_ble_eq_true rfl, Nat.le_of_ble_eq_true rfl⟩ (Nat.le_of_ble_eq_true rfl) rfl dX0_end_4 rfl (fun z hz => (List.mem_cons.mp hz).elim (fun e9 => by rw [e9]; exact ⟨by decide, "java/lang/IllegalArgumentException", q1016, Or.inl ⟨rfl, rfl⟩⟩) (fun hz => by cases hz)) ⟨Nat.zero_le _, by decide⟩ (by decide) q924 (List.mem_filter.mpr ⟨q935, rfl⟩) ⟨kc0, (kp_arr (by decide) g.1), trivial⟩ ?_
      refine v_astore_n (L1 := [(3, vO 900), (0, vO 0), (1, vI x1), (2, vO 198)]) dX0_end_15 rfl (by decide) rfl ?_
      refine v_iconst dX0_end_16 ?_
      exact v_hret dX0_end_17
    rw [if_neg hk1] at h
    cases h
def f_X0_compile (s : vS) : Option (Int × vS) :=
  hx (f_X1_compile s) (fun r s1 => gd (gN s1 198 = gN s 198 ∧ inb 0 (gN s1 198)) <| stp (sE s1 198 0 r) fun s2 => some (0, s2)) (fun k s1 => gd (gN s1 198 = gN s 198) <| if k = 2 then some (1, s1) else none)
theorem yk_X0_compile : yOk yX0_compile 2 := ⟨by decide, by decide, by decide +kernel⟩
theorem c_X0_compile {s : vS} {out : Int × vS} (h : f_X0_compile s = some out) : VCW yX0_compile cX0_compile 3 (hhOf "compile") 1412 30937 [vO 0, vO 198] s out.1 out.2 := by
  unfold f_X0_compile at h
  rcases hx_some h with ⟨r, s1, e, h⟩ | ⟨k, s1, e, h⟩
  · obtain ⟨g, h⟩ := gd_some h
    obtain ⟨s2, e2, h⟩ := stp_some h
    cases h
    have kk := c_X1_compile e 
    refine VCW.of "compile" RX0 rfl (rgl rfl) (by decide) rfl (Nat.le_of_ble_eq_true rfl) ?_
    show VW cX0_compile (hB "compile" RX0 0 s2 1412 30937 3) (P0 []) s 0 [(0, vO 0), (1, vO 198)] []
    refine v_aload_n dX0_compile_0 1 rfl rfl ?_
    refine v_iconst dX0_compile_1 ?_
    refine v_aload_n dX0_compile_2 0 rfl rfl ?_
    refine v_callV (st := [vI 0, vO 198]) cf1 oc0 kk (lw_V q1046 q1047 q1048 q298 q1049) rfl yk_X1_compile ⟨Nat.le_of_ble_eq_true rfl, Nat.le_of_ble_eq_true rfl⟩ ⟨(kp_arr (by decide) g.1), trivial⟩ ⟨kc0, (kp_arr (by decide) g.1), trivial⟩ (Nat.le_of_ble_eq_true rfl) rfl dX0_compile_3 ?_
    refine v_i2l dX0_compile_6 kk.1.2.2 ?_
    refine v_last oc198 (rgl rfl) g.2.1 g.2.2 dX0_compile_7 ?_
    rw [← e2]
    refine v_goto (tgt := 14) dX0_compile_8 (by decide) ?_
    refine v_iconst dX0_compile_14 ?_
    exact v_hret dX0_compile_15
  · obtain ⟨g, h⟩ := gd_some h
    have g : gN s1 198 = gN s 198 ∧ True := ⟨g, trivial⟩
    by_cases hk0 : k = 2
    · rw [if_pos hk0] at h
      cases h
      subst hk0
      have kk := t_X1_compile e 
      refine VCW.of "compile" RX0 rfl (rgl rfl) (by decide) rfl (Nat.le_of_ble_eq_true rfl) ?_
      show VW cX0_compile (hB "compile" RX0 1 s1 1412 30937 3) (P0 []) s 0 [(0, vO 0), (1, vO 198)] []
      refine v_aload_n dX0_compile_0 1 rfl rfl ?_
      refine v_iconst dX0_compile_1 ?_
      refine v_aload_n dX0_compile_2 0 rfl rfl ?_
      refine v_catch (j := 0) (sp := 0) (ep := 8) (hp := 11) (ct := 19) (E := "java/lang/IllegalArgumentException") (st := [vI 0, vO 198]) cf1 oc0 kk (lw_V q1046 q1047 q1048 q298 q1049) rfl yk_X1_compile ⟨Nat.le_of_ble_eq_true rfl, Nat.le_of_ble_eq_true rfl⟩ (Nat.le_of_ble_eq_true rfl) rfl dX0_compile_3 rfl (fun z hz => by cases hz) ⟨Nat.zero_le _, by decide⟩ (by decide) q1016 (List.mem_filter.mpr ⟨q1026, rfl⟩) ⟨kc0, (kp_arr (by decide) g.1), trivial⟩ ?_
      refine v_astore_n (L1 := [(2, vO 900), (0, vO 0), (1, vO 198)]) dX0_compile_11 rfl (by decide) rfl ?_
      refine v_iconst dX0_compile_12 ?_
      exact v_hret dX0_compile_13
    rw [if_neg hk0] at h
    cases h
def f_X0_fault (x1 : Int) (s : vS) : Option (Int × vS) :=
  hx (f_X1_fault x1 s) (fun r s1 => gd (gN s1 198 = gN s 198 ∧ inb 0 (gN s1 198)) <| stp (sE s1 198 0 r) fun s2 => some (0, s2)) (fun k s1 => gd (gN s1 198 = gN s 198) <| if k = 3 then some (1, s1) else none)
theorem yk_X0_fault : yOk yX0_fault 3 := ⟨by decide, by decide, by decide +kernel⟩
theorem c_X0_fault {x1 : Int} {s : vS} {out : Int × vS} (h : f_X0_fault x1 s = some out) (rx1 : rg x1) : VCW yX0_fault cX0_fault 4 (hhOf "fault") 8 131 [vO 0, vI x1, vO 198] s out.1 out.2 := by
  unfold f_X0_fault at h
  rcases hx_some h with ⟨r, s1, e, h⟩ | ⟨k, s1, e, h⟩
  · obtain ⟨g, h⟩ := gd_some h
    obtain ⟨s2, e2, h⟩ := stp_some h
    cases h
    have kk := c_X1_fault e rx1
    refine VCW.of "fault" RX0 rfl (rgl rfl) (by decide) rfl (Nat.le_of_ble_eq_true rfl) ?_
    show VW cX0_fault (hB "fault" RX0 0 s2 8 131 4) (P0 []) s 0 [(0, vO 0), (1, vI x1), (2, vO 198)] []
    refine v_aload_n dX0_fault_0 2 rfl rfl ?_
    refine v_iconst dX0_fault_1 ?_
    refine v_aload_n dX0_fault_2 0 rfl rfl ?_
    refine v_iload_n dX0_fault_3 1 rfl rfl ?_
    refine v_callV (st := [vI 0, vO 198]) cf1 oc0 kk (lw_V q1981 q1982 q1983 q298 q1984) rfl yk_X1_fault ⟨Nat.le_of_ble_eq_true rfl, Nat.le_of_ble_eq_true rfl⟩ ⟨(kp_arr (by decide) g.1), trivial⟩ ⟨kc0, (kp_arr (by decide) g.1), trivial⟩ (Nat.le_of_ble_eq_true rfl) rfl dX0_fault_4 ?_
    refine v_i2l dX0_fault_7 kk.1.2.2 ?_
    refine v_last oc198 (rgl rfl) g.2.1 g.2.2 dX0_fault_8 ?_
    rw [← e2]
    refine v_goto (tgt := 15) dX0_fault_9 (by decide) ?_
    refine v_iconst dX0_fault_15 ?_
    exact v_hret dX0_fault_16
  · obtain ⟨g, h⟩ := gd_some h
    have g : gN s1 198 = gN s 198 ∧ True := ⟨g, trivial⟩
    by_cases hk0 : k = 3
    · rw [if_pos hk0] at h
      cases h
      subst hk0
      have kk := t_X1_fault e rx1
      refine VCW.of "fault" RX0 rfl (rgl rfl) (by decide) rfl (Nat.le_of_ble_eq_true rfl) ?_
      show VW cX0_fault (hB "fault" RX0 1 s1 8 131 4) (P0 []) s 0 [(0, vO 0), (1, vI x1), (2, vO 198)] []
      refine v_aload_n dX0_fault_0 2 rfl rfl ?_
      refine v_iconst dX0_fault_1 ?_
      refine v_aload_n dX0_fault_2 0 rfl rfl ?_
      refine v_iload_n dX0_fault_3 1 rfl rfl ?_
      refine v_catch (j := 0) (sp := 0) (ep := 9) (hp := 12) (ct := 28) (E := "java/lang/IndexOutOfBoundsException") (st := [vI 0, vO 198]) cf1 oc0 kk (lw_V q1981 q1982 q1983 q298 q1984) rfl yk_X1_fault ⟨Nat.le_of_ble_eq_true rfl, Nat.le_of_ble_eq_true rfl⟩ (Nat.le_of_ble_eq_true rfl) rfl dX0_fault_4 rfl (fun z hz => by cases hz) ⟨Nat.zero_le _, by decide⟩ (by decide) q1949 (List.mem_filter.mpr ⟨q1990, rfl⟩) ⟨kc0, (kp_arr (by decide) g.1), trivial⟩ ?_
      refine v_astore_n (L1 := [(3, vO 900), (0, vO 0), (1, vI x1), (2, vO 198)]) dX0_fault_12 rfl (by decide) rfl ?_
      refine v_iconst dX0_fault_13 ?_
      exact v_hret dX0_fault_14
    rw [if_neg hk0] at h
    cases h
def f_X0_type (x1 : Int) (x2 : Int) (s : vS) : Option (Int × vS) :=
  hx (f_X1_type x1 x2 s) (fun r s1 => gd (gN s1 198 = gN s 198 ∧ inb 0 (gN s1 198)) <| stp (sE s1 198 0 r) fun s2 => some (0, s2)) (fun k s1 => gd (gN s1 198 = gN s 198) <| if k = 3 then some (1, s1) else none)
theorem yk_X0_type : yOk yX0_type 4 := ⟨by decide, by decide, by decide +kernel⟩
theorem c_X0_type {x1 : Int} {x2 : Int} {s : vS} {out : Int × vS} (h : f_X0_type x1 x2 s = some out) (rx1 : rg x1) (rx2 : rg x2) : VCW yX0_type cX0_type 5 (hhOf "type") 8 185 [vO 0, vI x1, vI x2, vO 198] s out.1 out.2 := by
  unfold f_X0_type at h
  rcases hx_some h with ⟨r, s1, e, h⟩ | ⟨k, s1, e, h⟩
  · obtain ⟨g, h⟩ := gd_some h
    obtain ⟨s2, e2, h⟩ := stp_some h
    cases h
    have kk := c_X1_type e rx1 rx2
    refine VCW.of "type" RX0 rfl (rgl rfl) (by decide) rfl (Nat.le_of_ble_eq_true rfl) ?_
    show VW cX0_type (hB "type" RX0 0 s2 8 185 5) (P0 []) s 0 [(0, vO 0), (1, vI x1), (2, vI x2), (3, vO 198)] []
    refine v_aload_n dX0_type_0 3 rfl rfl ?_
    refine v_iconst dX0_type_1 ?_
    refine v_aload_n dX0_type_2 0 rfl rfl ?_
    refine v_iload_n dX0_type_3 1 rfl rfl ?_
    refine v_iload_n dX0_type_4 2 rfl rfl ?_
    refine v_callV (st := [vI 0, vO 198]) cf1 oc0 kk (lw_V q2006 q2007 q2008 q298 q2009) rfl yk_X1_type ⟨Nat.le_of_ble_eq_true rfl, Nat.le_of_ble_eq_true rfl⟩ ⟨(kp_arr (by decide) g.1), trivial⟩ ⟨kc0, (kp_arr (by decide) g.1), trivial⟩ (Nat.le_of_ble_eq_true rfl) rfl dX0_type_5 ?_
    refine v_i2l dX0_type_8 kk.1.2.2 ?_
    refine v_last oc198 (rgl rfl) g.2.1 g.2.2 dX0_type_9 ?_
    rw [← e2]
    refine v_goto (tgt := 17) dX0_type_10 (by decide) ?_
    refine v_iconst dX0_type_17 ?_
    exact v_hret dX0_type_18
  · obtain ⟨g, h⟩ := gd_some h
    have g : gN s1 198 = gN s 198 ∧ True := ⟨g, trivial⟩
    by_cases hk0 : k = 3
    · rw [if_pos hk0] at h
      cases h
      subst hk0
      have kk := t_X1_type e rx1 rx2
      refine VCW.of "type" RX0 rfl (rgl rfl) (by decide) rfl (Nat.le_of_ble_eq_true rfl) ?_
      show VW cX0_type (hB "type" RX0 1 s1 8 185 5) (P0 []) s 0 [(0, vO 0), (1, vI x1), (2, vI x2), (3, vO 198)] []
      refine v_aload_n dX0_type_0 3 rfl rfl ?_
      refine v_iconst dX0_type_1 ?_
      refine v_aload_n dX0_type_2 0 rfl rfl ?_
      refine v_iload_n dX0_type_3 1 rfl rfl ?_
      refine v_iload_n dX0_type_4 2 rfl rfl ?_
      refine v_catch (j := 0) (sp := 0) (ep := 10) (hp := 13) (ct := 28) (E := "java/lang/IndexOutOfBoundsException") (st := [vI 0, vO 198]) cf1 oc0 kk (lw_V q2006 q2007 q2008 q298 q2009) rfl yk_X1_type ⟨Nat.le_of_ble_eq_true rfl, Nat.le_of_ble_eq_true rfl⟩ (Nat.le_of_ble_eq_true rfl) rfl dX0_type_5 rfl (fun z hz => by cases hz) ⟨Nat.zero_le _, by decide⟩ (by decide) q1949 (List.mem_filter.mpr ⟨q1990, rfl⟩) ⟨kc0, (kp_arr (by decide) g.1), trivial⟩ ?_
      refine v_astore (L1 := [(4, vO 900), (0, vO 0), (1, vI x1), (2, vI x2), (3, vO 198)]) dX0_type_13 (by decide) rfl ?_
      refine v_iconst dX0_type_15 ?_
      exact v_hret dX0_type_16
    rw [if_neg hk0] at h
    cases h
def f_X0_name (x1 : Int) (x2 : Int) (s : vS) : Option (Int × vS) :=
  hx (f_X1_name x1 x2 s) (fun r s1 => gd (gN s1 198 = gN s 198 ∧ inb 0 (gN s1 198)) <| stp (sE s1 198 0 r) fun s2 => some (0, s2)) (fun k s1 => gd (gN s1 198 = gN s 198) <| if k = 3 then some (1, s1) else none)
theorem yk_X0_name : yOk yX0_name 4 := ⟨by decide, by decide, by decide +kernel⟩
theorem c_X0_name {x1 : Int} {x2 : Int} {s : vS} {out : Int × vS} (h : f_X0_name x1 x2 s = some out) (rx1 : rg x1) (rx2 : rg x2) : VCW yX0_name cX0_name 5 (hhOf "name") 8 132 [vO 0, vI x1, vI x2, vO 198] s out.1 out.2 := by
  unfold f_X0_name at h
  rcases hx_some h with ⟨r, s1, e, h⟩ | ⟨k, s1, e, h⟩
  · obtain ⟨g, h⟩ := gd_some h
    obtain ⟨s2, e2, h⟩ := stp_some h
    cases h
    have kk := c_X1_name e rx1 rx2
    refine VCW.of "name" RX0 rfl (rgl rfl) (by decide) rfl (Nat.le_of_ble_eq_true rfl) ?_
    show VW cX0_name (hB "name" RX0 0 s2 8 132 5) (P0 []) s 0 [(0, vO 0), (1, vI x1), (2, vI x2), (3, vO 198)] []
    refine v_aload_n dX0_name_0 3 rfl rfl ?_
    refine v_iconst dX0_name_1 ?_
    refine v_aload_n dX0_name_2 0 rfl rfl ?_
    refine v_iload_n dX0_name_3 1 rfl rfl ?_
    refine v_iload_n dX0_name_4 2 rfl rfl ?_
    refine v_callV (st := [vI 0, vO 198]) cf1 oc0 kk (lw_V q2040 q2041 q2042 q298 q2043) rfl yk_X1_name ⟨Nat.le_of_ble_eq_true rfl, Nat.le_of_ble_eq_true rfl⟩ ⟨(kp_arr (by decide) g.1), trivial⟩ ⟨kc0, (kp_arr (by decide) g.1), trivial⟩ (Nat.le_of_ble_eq_true rfl) rfl dX0_name_5 ?_
    refine v_i2l dX0_name_8 kk.1.2.2 ?_
    refine v_last oc198 (rgl rfl) g.2.1 g.2.2 dX0_name_9 ?_
    rw [← e2]
    refine v_goto (tgt := 17) dX0_name_10 (by decide) ?_
    refine v_iconst dX0_name_17 ?_
    exact v_hret dX0_name_18
  · obtain ⟨g, h⟩ := gd_some h
    have g : gN s1 198 = gN s 198 ∧ True := ⟨g, trivial⟩
    by_cases hk0 : k = 3
    · rw [if_pos hk0] at h
      cases h
      subst hk0
      have kk := t_X1_name e rx1 rx2
      refine VCW.of "name" RX0 rfl (rgl rfl) (by decide) rfl (Nat.le_of_ble_eq_true rfl) ?_
      show VW cX0_name (hB "name" RX0 1 s1 8 132 5) (P0 []) s 0 [(0, vO 0), (1, vI x1), (2, vI x2), (3, vO 198)] []
      refine v_aload_n dX0_name_0 3 rfl rfl ?_
      refine v_iconst dX0_name_1 ?_
      refine v_aload_n dX0_name_2 0 rfl rfl ?_
      refine v_iload_n dX0_name_3 1 rfl rfl ?_
      refine v_iload_n dX0_name_4 2 rfl rfl ?_
      refine v_catch (j := 0) (sp := 0) (ep := 10) (hp := 13) (ct := 28) (E := "java/lang/IndexOutOfBoundsException") (st := [vI 0, vO 198]) cf1 oc0 kk (lw_V q2040 q2041 q2042 q298 q2043) rfl yk_X1_name ⟨Nat.le_of_ble_eq_true rfl, Nat.le_of_ble_eq_true rfl⟩ (Nat.le_of_ble_eq_true rfl) rfl dX0_name_5 rfl (fun z hz => by cases hz) ⟨Nat.zero_le _, by decide⟩ (by decide) q1949 (List.mem_filter.mpr ⟨q1990, rfl⟩) ⟨kc0, (kp_arr (by decide) g.1), trivial⟩ ?_
      refine v_astore (L1 := [(4, vO 900), (0, vO 0), (1, vI x1), (2, vI x2), (3, vO 198)]) dX0_name_13 (by decide) rfl ?_
      refine v_iconst dX0_name_15 ?_
      exact v_hret dX0_name_16
    rw [if_neg hk0] at h
    cases h
def f_X0_defaultSize (x1 : Int) (x2 : Int) (s : vS) : Option (Int × vS) :=
  hx (f_X1_defaultSize x1 x2 s) (fun r s1 => gd (gN s1 198 = gN s 198 ∧ inb 0 (gN s1 198)) <| stp (sE s1 198 0 r) fun s2 => some (0, s2)) (fun k s1 => gd (gN s1 198 = gN s 198) <| if k = 3 then some (1, s1) else none)
theorem yk_X0_defaultSize : yOk yX0_defaultSize 4 := ⟨by decide, by decide, by decide +kernel⟩
theorem c_X0_defaultSize {x1 : Int} {x2 : Int} {s : vS} {out : Int × vS} (h : f_X0_defaultSize x1 x2 s = some out) (rx1 : rg x1) (rx2 : rg x2) : VCW yX0_defaultSize cX0_defaultSize 5 (hhOf "defaultSize") 8 186 [vO 0, vI x1, vI x2, vO 198] s out.1 out.2 := by
  unfold f_X0_defaultSize at h
  rcases hx_some h with ⟨r, s1, e, h⟩ | ⟨k, s1, e, h⟩
  · obtain ⟨g, h⟩ := gd_some h
    obtain ⟨s2, e2, h⟩ := stp_some h
    cases h
    have kk := c_X1_defaultSize e rx1 rx2
    refine VCW.of "defaultSize" RX0 rfl (rgl rfl) (by decide) rfl (Nat.le_of_ble_eq_true rfl) ?_
    show VW cX0_defaultSize (hB "defaultSize" RX0 0 s2 8 186 5) (P0 []) s 0 [(0, vO 0), (1, vI x1), (2, vI x2), (3, vO 198)] []
    refine v_aload_n dX0_defaultSize_0 3 rfl rfl ?_
    refine v_iconst dX0_defaultSize_1 ?_
    refine v_aload_n dX0_defaultSize_2 0 rfl rfl ?_
    refine v_iload_n dX0_defaultSize_3 1 rfl rfl ?_
    refine v_iload_n dX0_defaultSize_4 2 rfl rfl ?_
    refine v_callV (st := [vI 0, vO 198]) cf1 oc0 kk (lw_V q2048 q2049 q2050 q298 q2051) rfl yk_X1_defaultSize ⟨Nat.le_of_ble_eq_true rfl, Nat.le_of_ble_eq_true rfl⟩ ⟨(kp_arr (by decide) g.1), trivial⟩ ⟨kc0, (kp_arr (by decide) g.1), trivial⟩ (Nat.le_of_ble_eq_true rfl) rfl dX0_defaultSize_5 ?_
    refine v_i2l dX0_defaultSize_8 kk.1.2.2 ?_
    refine v_last oc198 (rgl rfl) g.2.1 g.2.2 dX0_defaultSize_9 ?_
    rw [← e2]
    refine v_goto (tgt := 17) dX0_defaultSize_10 (by decide) ?_
    refine v_iconst dX0_defaultSize_17 ?_
    exact v_hret dX0_defaultSize_18
  · obtain ⟨g, h⟩ := gd_some h
    have g : gN s1 198 = gN s 198 ∧ True := ⟨g, trivial⟩
    by_cases hk0 : k = 3
    · rw [if_pos hk0] at h
      cases h
      subst hk0
      have kk := t_X1_defaultSize e rx1 rx2
      refine VCW.of "defaultSize" RX0 rfl (rgl rfl) (by decide) rfl (Nat.le_of_ble_eq_true rfl) ?_
      show VW cX0_defaultSize (hB "defaultSize" RX0 1 s1 8 186 5) (P0 []) s 0 [(0, vO 0), (1, vI x1), (2, vI x2), (3, vO 198)] []
      refine v_aload_n dX0_defaultSize_0 3 rfl rfl ?_
      refine v_iconst dX0_defaultSize_1 ?_
      refine v_aload_n dX0_defaultSize_2 0 rfl rfl ?_
      refine v_iload_n dX0_defaultSize_3 1 rfl rfl ?_
      refine v_iload_n dX0_defaultSize_4 2 rfl rfl ?_
      refine v_catch (j := 0) (sp := 0) (ep := 10) (hp := 13) (ct := 28) (E := "java/lang/IndexOutOfBoundsException") (st := [vI 0, vO 198]) cf1 oc0 kk (lw_V q2048 q2049 q2050 q298 q2051) rfl yk_X1_defaultSize ⟨Nat.le_of_ble_eq_true rfl, Nat.le_of_ble_eq_true rfl⟩ (Nat.le_of_ble_eq_true rfl) rfl dX0_defaultSize_5 rfl (fun z hz => by cases hz) ⟨Nat.zero_le _, by decide⟩ (by decide) q1949 (List.mem_filter.mpr ⟨q1990, rfl⟩) ⟨kc0, (kp_arr (by decide) g.1), trivial⟩ ?_
      refine v_astore (L1 := [(4, vO 900), (0, vO 0), (1, vI x1), (2, vI x2), (3, vO 198)]) dX0_defaultSize_13 (by decide) rfl ?_
      refine v_iconst dX0_defaultSize_15 ?_
      exact v_hret dX0_defaultSize_16
    rw [if_neg hk0] at h
    cases h
def f_X0_limit (x1 : Int) (s : vS) : Option (Int × vS) :=
  hx (f_X1_limit x1 s) (fun r s1 => gd (gN s1 198 = gN s 198 ∧ inb 0 (gN s1 198)) <| stp (sE s1 198 0 r) fun s2 => some (0, s2)) (fun k s1 => gd (gN s1 198 = gN s 198) <| if k = 2 then some (1, s1) else none)
theorem yk_X0_limit : yOk yX0_limit 3 := ⟨by decide, by decide, by decide +kernel⟩
theorem c_X0_limit {x1 : Int} {s : vS} {out : Int × vS} (h : f_X0_limit x1 s = some out) (rx1 : rg x1) : VCW yX0_limit cX0_limit 4 (hhOf "limit") 8 131 [vO 0, vI x1, vO 198] s out.1 out.2 := by
  unfold f_X0_limit at h
  rcases hx_some h with ⟨r, s1, e, h⟩ | ⟨k, s1, e, h⟩
  · obtain ⟨g, h⟩ := gd_some h
    obtain ⟨s2, e2, h⟩ := stp_some h
    cases h
    have kk := c_X1_limit e rx1
    refine VCW.of "limit" RX0 rfl (rgl rfl) (by decide) rfl (Nat.le_of_ble_eq_true rfl) ?_
    show VW cX0_limit (hB "limit" RX0 0 s2 8 131 4) (P0 []) s 0 [(0, vO 0), (1, vI x1), (2, vO 198)] []
    refine v_aload_n dX0_limit_0 2 rfl rfl ?_
    refine v_iconst dX0_limit_1 ?_
    refine v_aload_n dX0_limit_2 0 rfl rfl ?_
    refine v_iload_n dX0_limit_3 1 rfl rfl ?_
    refine v_callV (st := [vI 0, vO 198]) cf1 oc0 kk (lw_V q2064 q2065 q2066 q298 q2067) rfl yk_X1_limit ⟨Nat.le_of_ble_eq_true rfl, Nat.le_of_ble_eq_true rfl⟩ ⟨(kp_arr (by decide) g.1), trivial⟩ ⟨kc0, (kp_arr (by decide) g.1), trivial⟩ (Nat.le_of_ble_eq_true rfl) rfl dX0_limit_4 ?_
    refine v_i2l dX0_limit_7 kk.1.2.2 ?_
    refine v_last oc198 (rgl rfl) g.2.1 g.2.2 dX0_limit_8 ?_
    rw [← e2]
    refine v_goto (tgt := 15) dX0_limit_9 (by decide) ?_
    refine v_iconst dX0_limit_15 ?_
    exact v_hret dX0_limit_16
  · obtain ⟨g, h⟩ := gd_some h
    have g : gN s1 198 = gN s 198 ∧ True := ⟨g, trivial⟩
    by_cases hk0 : k = 2
    · rw [if_pos hk0] at h
      cases h
      subst hk0
      have kk := t_X1_limit e rx1
      refine VCW.of "limit" RX0 rfl (rgl rfl) (by decide) rfl (Nat.le_of_ble_eq_true rfl) ?_
      show VW cX0_limit (hB "limit" RX0 1 s1 8 131 4) (P0 []) s 0 [(0, vO 0), (1, vI x1), (2, vO 198)] []
      refine v_aload_n dX0_limit_0 2 rfl rfl ?_
      refine v_iconst dX0_limit_1 ?_
      refine v_aload_n dX0_limit_2 0 rfl rfl ?_
      refine v_iload_n dX0_limit_3 1 rfl rfl ?_
      refine v_catch (j := 0) (sp := 0) (ep := 9) (hp := 12) (ct := 19) (E := "java/lang/IllegalArgumentException") (st := [vI 0, vO 198]) cf1 oc0 kk (lw_V q2064 q2065 q2066 q298 q2067) rfl yk_X1_limit ⟨Nat.le_of_ble_eq_true rfl, Nat.le_of_ble_eq_true rfl⟩ (Nat.le_of_ble_eq_true rfl) rfl dX0_limit_4 rfl (fun z hz => by cases hz) ⟨Nat.zero_le _, by decide⟩ (by decide) q1016 (List.mem_filter.mpr ⟨q1026, rfl⟩) ⟨kc0, (kp_arr (by decide) g.1), trivial⟩ ?_
      refine v_astore_n (L1 := [(3, vO 900), (0, vO 0), (1, vI x1), (2, vO 198)]) dX0_limit_12 rfl (by decide) rfl ?_
      refine v_iconst dX0_limit_13 ?_
      exact v_hret dX0_limit_14
    rw [if_neg hk0] at h
    cases h
def f_X0_transcode (x1 : Int) (s : vS) : Option (Int × vS) :=
  hx (f_X1_transcode x1 s) (fun r s1 => gd (gN s1 198 = gN s 198 ∧ inb 0 (gN s1 198)) <| stp (sE s1 198 0 r) fun s2 => some (0, s2)) (fun k s1 => gd (gN s1 198 = gN s 198) <| if k = 3 then some (1, s1) else if k = 2 then some (2, s1) else none)
theorem yk_X0_transcode : yOk yX0_transcode 3 := ⟨by decide, by decide, by decide +kernel⟩
theorem c_X0_transcode {x1 : Int} {s : vS} {out : Int × vS} (h : f_X0_transcode x1 s = some out) (rx1 : rg x1) : VCW yX0_transcode cX0_transcode 4 (hhOf "transcode") 15 369 [vO 0, vI x1, vO 198] s out.1 out.2 := by
  unfold f_X0_transcode at h
  rcases hx_some h with ⟨r, s1, e, h⟩ | ⟨k, s1, e, h⟩
  · obtain ⟨g, h⟩ := gd_some h
    obtain ⟨s2, e2, h⟩ := stp_some h
    cases h
    have kk := c_X1_transcode e rx1
    refine VCW.of "transcode" RX0 rfl (rgl rfl) (by decide) rfl (Nat.le_of_ble_eq_true rfl) ?_
    show VW cX0_transcode (hB "transcode" RX0 0 s2 15 369 4) (P0 []) s 0 [(0, vO 0), (1, vI x1), (2, vO 198)] []
    refine v_aload_n dX0_transcode_0 2 rfl rfl ?_
    refine v_iconst dX0_transcode_1 ?_
    refine v_aload_n dX0_transcode_2 0 rfl rfl ?_
    refine v_iload_n dX0_transcode_3 1 rfl rfl ?_
    refine v_callV (st := [vI 0, vO 198]) cf1 oc0 kk (lw_V q2071 q2072 q2073 q298 q2074) rfl yk_X1_transcode ⟨Nat.le_of_ble_eq_true rfl, Nat.le_of_ble_eq_true rfl⟩ ⟨(kp_arr (by decide) g.1), trivial⟩ ⟨kc0, (kp_arr (by decide) g.1), trivial⟩ (Nat.le_of_ble_eq_true rfl) rfl dX0_transcode_4 ?_
    refine v_i2l dX0_transcode_7 kk.1.2.2 ?_
    refine v_last oc198 (rgl rfl) g.2.1 g.2.2 dX0_transcode_8 ?_
    rw [← e2]
    refine v_goto (tgt := 18) dX0_transcode_9 (by decide) ?_
    refine v_iconst dX0_transcode_18 ?_
    exact v_hret dX0_transcode_19
  · obtain ⟨g, h⟩ := gd_some h
    have g : gN s1 198 = gN s 198 ∧ True := ⟨g, trivial⟩
    by_cases hk0 : k = 3
    · rw [if_pos hk0] at h
      cases h
      subst hk0
      have kk := t_X1_transcode e rx1
      refine VCW.of "transcode" RX0 rfl (rgl rfl) (by decide) rfl (Nat.le_of_ble_eq_true rfl) ?_
      show VW cX0_transcode (hB "transcode" RX0 1 s1 15 369 4) (P0 []) s 0 [(0, vO 0), (1, vI x1), (2, vO 198)] []
      refine v_aload_n dX0_transcode_0 2 rfl rfl ?_
      refine v_iconst dX0_transcode_1 ?_
      refine v_aload_n dX0_transcode_2 0 rfl rfl ?_
      refine v_iload_n dX0_transcode_3 1 rfl rfl ?_
      refine v_catch (j := 0) (sp := 0) (ep := 9) (hp := 12) (ct := 28) (E := "java/lang/IndexOutOfBoundsException") (st := [vI 0, vO 198]) cf1 oc0 kk (lw_V q2071 q2072 q2073 q298 q2074) rfl yk_X1_transcode ⟨Nat.le_of_ble_eq_true rfl, Nat.le_of_ble_eq_true rfl⟩ (Nat.le_of_ble_eq_true rfl) rfl dX0_transcode_4 rfl (fun z hz => by cases hz) ⟨Nat.zero_le _, by decide⟩ (by decide) q1949 (List.mem_filter.mpr ⟨q1990, rfl⟩) ⟨kc0, (kp_arr (by decide) g.1), trivial⟩ ?_
      refine v_astore_n (L1 := [(3, vO 900), (0, vO 0), (1, vI x1), (2, vO 198)]) dX0_transcode_12 rfl (by decide) rfl ?_
      refine v_iconst dX0_transcode_13 ?_
      exact v_hret dX0_transcode_14
    rw [if_neg hk0] at h
    by_cases hk1 : k = 2
    · rw [if_pos hk1] at h
      cases h
      subst hk1
      have kk := t_X1_transcode e rx1
      refine VCW.of "transcode" RX0 rfl (rgl rfl) (by decide) rfl (Nat.le_of_ble_eq_true rfl) ?_
      show VW cX0_transcode (hB "transcode" RX0 2 s1 15 369 4) (P0 []) s 0 [(0, vO 0), (1, vI x1), (2, vO 198)] []
      refine v_aload_n dX0_transcode_0 2 rfl rfl ?_
      refine v_iconst dX0_transcode_1 ?_
      refine v_aload_n dX0_transcode_2 0 rfl rfl ?_
      refine v_iload_n dX0_transcode_3 1 rfl rfl ?_
      refine v_catch (j := 1) (sp := 0) (ep := 9) (hp := 15) (ct := 19) (E := "java/lang/IllegalArgumentException") (st := [vI 0, vO 198]) cf1 oc0 kk (lw_V q2071 q2072 q2073 q298 q2074) rfl yk_X1_transcode ⟨Nat.le_of_ble_eq_true rfl, Nat.le_of_ble_eq_true rfl⟩ (Nat.le_of_ble_eq_true rfl) rfl dX0_transcode_4 rfl (fun z hz => (List.mem_cons.mp hz).elim (fun e9 => by rw [e9]; exact ⟨by decide, "java/lang/IndexOutOfBoundsException", q1949, Or.inr ⟨rfl, rfl⟩⟩) (fun hz => by cases hz)) ⟨Nat.zero_le _, by decide⟩ (by decide) q1016 (List.mem_filter.mpr ⟨q1026, rfl⟩) ⟨kc0, (kp_arr (by decide) g.1), trivial⟩ ?_
      refine v_astore_n (L1 := [(3, vO 900), (0, vO 0), (1, vI x1), (2, vO 198)]) dX0_transcode_15 rfl (by decide) rfl ?_
      refine v_iconst dX0_transcode_16 ?_
      exact v_hret dX0_transcode_17
    rw [if_neg hk1] at h
    cases h
def f_X0_out (x1 : Int) (s : vS) : Option (Int × vS) :=
  hx (f_X1_out x1 s) (fun r s1 => gd (gN s1 198 = gN s 198 ∧ inb 0 (gN s1 198)) <| stp (sE s1 198 0 r) fun s2 => some (0, s2)) (fun k s1 => gd (gN s1 198 = gN s 198) <| if k = 3 then some (1, s1) else none)
theorem yk_X0_out : yOk yX0_out 3 := ⟨by decide, by decide, by decide +kernel⟩
theorem c_X0_out {x1 : Int} {s : vS} {out : Int × vS} (h : f_X0_out x1 s = some out) (rx1 : rg x1) : VCW yX0_out cX0_out 4 (hhOf "out") 8 131 [vO 0, vI x1, vO 198] s out.1 out.2 := by
  unfold f_X0_out at h
  rcases hx_some h with ⟨r, s1, e, h⟩ | ⟨k, s1, e, h⟩
  · obtain ⟨g, h⟩ := gd_some h
    obtain ⟨s2, e2, h⟩ := stp_some h
    cases h
    have kk := c_X1_out e rx1
    refine VCW.of "out" RX0 rfl (rgl rfl) (by decide) rfl (Nat.le_of_ble_eq_true rfl) ?_
    show VW cX0_out (hB "out" RX0 0 s2 8 131 4) (P0 []) s 0 [(0, vO 0), (1, vI x1), (2, vO 198)] []
    refine v_aload_n dX0_out_0 2 rfl rfl ?_
    refine v_iconst dX0_out_1 ?_
    refine v_aload_n dX0_out_2 0 rfl rfl ?_
    refine v_iload_n dX0_out_3 1 rfl rfl ?_
    refine v_callV (st := [vI 0, vO 198]) cf1 oc0 kk (lw_V q2352 q2353 q2354 q298 q2355) rfl yk_X1_out ⟨Nat.le_of_ble_eq_true rfl, Nat.le_of_ble_eq_true rfl⟩ ⟨(kp_arr (by decide) g.1), trivial⟩ ⟨kc0, (kp_arr (by decide) g.1), trivial⟩ (Nat.le_of_ble_eq_true rfl) rfl dX0_out_4 ?_
    refine v_i2l dX0_out_7 kk.1.2.2 ?_
    refine v_last oc198 (rgl rfl) g.2.1 g.2.2 dX0_out_8 ?_
    rw [← e2]
    refine v_goto (tgt := 15) dX0_out_9 (by decide) ?_
    refine v_iconst dX0_out_15 ?_
    exact v_hret dX0_out_16
  · obtain ⟨g, h⟩ := gd_some h
    have g : gN s1 198 = gN s 198 ∧ True := ⟨g, trivial⟩
    by_cases hk0 : k = 3
    · rw [if_pos hk0] at h
      cases h
      subst hk0
      have kk := t_X1_out e rx1
      refine VCW.of "out" RX0 rfl (rgl rfl) (by decide) rfl (Nat.le_of_ble_eq_true rfl) ?_
      show VW cX0_out (hB "out" RX0 1 s1 8 131 4) (P0 []) s 0 [(0, vO 0), (1, vI x1), (2, vO 198)] []
      refine v_aload_n dX0_out_0 2 rfl rfl ?_
      refine v_iconst dX0_out_1 ?_
      refine v_aload_n dX0_out_2 0 rfl rfl ?_
      refine v_iload_n dX0_out_3 1 rfl rfl ?_
      refine v_catch (j := 0) (sp := 0) (ep := 9) (hp := 12) (ct := 28) (E := "java/lang/IndexOutOfBoundsException") (st := [vI 0, vO 198]) cf1 oc0 kk (lw_V q2352 q2353 q2354 q298 q2355) rfl yk_X1_out ⟨Nat.le_of_ble_eq_true rfl, Nat.le_of_ble_eq_true rfl⟩ (Nat.le_of_ble_eq_true rfl) rfl dX0_out_4 rfl (fun z hz => by cases hz) ⟨Nat.zero_le _, by decide⟩ (by decide) q1949 (List.mem_filter.mpr ⟨q1990, rfl⟩) ⟨kc0, (kp_arr (by decide) g.1), trivial⟩ ?_
      refine v_astore_n (L1 := [(3, vO 900), (0, vO 0), (1, vI x1), (2, vO 198)]) dX0_out_12 rfl (by decide) rfl ?_
      refine v_iconst dX0_out_13 ?_
      exact v_hret dX0_out_14
    rw [if_neg hk0] at h
    cases h
def f_X0_again (s : vS) : Option (Int × vS) :=
  hx (f_X1_again s) (fun r s1 => gd (gN s1 198 = gN s 198 ∧ inb 0 (gN s1 198)) <| stp (sE s1 198 0 r) fun s2 => some (0, s2)) (fun k s1 => gd (gN s1 198 = gN s 198) <| if k = 1 then some (1, s1) else none)
theorem yk_X0_again : yOk yX0_again 2 := ⟨by decide, by decide, by decide +kernel⟩
theorem c_X0_again {s : vS} {out : Int × vS} (h : f_X0_again s = some out) : VCW yX0_again cX0_again 3 (hhOf "again") 8 129 [vO 0, vO 198] s out.1 out.2 := by
  unfold f_X0_again at h
  rcases hx_some h with ⟨r, s1, e, h⟩ | ⟨k, s1, e, h⟩
  · obtain ⟨g, h⟩ := gd_some h
    obtain ⟨s2, e2, h⟩ := stp_some h
    cases h
    have kk := c_X1_again e 
    refine VCW.of "again" RX0 rfl (rgl rfl) (by decide) rfl (Nat.le_of_ble_eq_true rfl) ?_
    show VW cX0_again (hB "again" RX0 0 s2 8 129 3) (P0 []) s 0 [(0, vO 0), (1, vO 198)] []
    refine v_aload_n dX0_again_0 1 rfl rfl ?_
    refine v_iconst dX0_again_1 ?_
    refine v_aload_n dX0_again_2 0 rfl rfl ?_
    refine v_callV (st := [vI 0, vO 198]) cf1 oc0 kk (lw_V q2359 q2360 q2361 q298 q2362) rfl yk_X1_again ⟨Nat.le_of_ble_eq_true rfl, Nat.le_of_ble_eq_true rfl⟩ ⟨(kp_arr (by decide) g.1), trivial⟩ ⟨kc0, (kp_arr (by decide) g.1), trivial⟩ (Nat.le_of_ble_eq_true rfl) rfl dX0_again_3 ?_
    refine v_i2l dX0_again_6 kk.1.2.2 ?_
    refine v_last oc198 (rgl rfl) g.2.1 g.2.2 dX0_again_7 ?_
    rw [← e2]
    refine v_goto (tgt := 14) dX0_again_8 (by decide) ?_
    refine v_iconst dX0_again_14 ?_
    exact v_hret dX0_again_15
  · obtain ⟨g, h⟩ := gd_some h
    have g : gN s1 198 = gN s 198 ∧ True := ⟨g, trivial⟩
    by_cases hk0 : k = 1
    · rw [if_pos hk0] at h
      cases h
      subst hk0
      have kk := t_X1_again e 
      refine VCW.of "again" RX0 rfl (rgl rfl) (by decide) rfl (Nat.le_of_ble_eq_true rfl) ?_
      show VW cX0_again (hB "again" RX0 1 s1 8 129 3) (P0 []) s 0 [(0, vO 0), (1, vO 198)] []
      refine v_aload_n dX0_again_0 1 rfl rfl ?_
      refine v_iconst dX0_again_1 ?_
      refine v_aload_n dX0_again_2 0 rfl rfl ?_
      refine v_catch (j := 0) (sp := 0) (ep := 8) (hp := 11) (ct := 13) (E := "java/lang/IllegalStateException") (st := [vI 0, vO 198]) cf1 oc0 kk (lw_V q2359 q2360 q2361 q298 q2362) rfl yk_X1_again ⟨Nat.le_of_ble_eq_true rfl, Nat.le_of_ble_eq_true rfl⟩ (Nat.le_of_ble_eq_true rfl) rfl dX0_again_3 rfl (fun z hz => by cases hz) ⟨Nat.zero_le _, by decide⟩ (by decide) q924 (List.mem_filter.mpr ⟨q935, rfl⟩) ⟨kc0, (kp_arr (by decide) g.1), trivial⟩ ?_
      refine v_astore_n (L1 := [(2, vO 900), (0, vO 0), (1, vO 198)]) dX0_again_11 rfl (by decide) rfl ?_
      refine v_iconst dX0_again_12 ?_
      exact v_hret dX0_again_13
    rw [if_neg hk0] at h
    cases h
