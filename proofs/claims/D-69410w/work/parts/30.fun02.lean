set_option maxRecDepth 100000
set_option maxHeartbeats 1000000
def E_X5_assignments_2 (rv : Option vA) (σo : vS) (q : (vS) ⊕ (Int × vS)) : Prop := (∀ (s' : vS), q = .inl s' → VW cX5_assignments (RX5, rv, σo, (some .boolean), 1409, 30871, 4, []) (P0 []) s' 207 [(0, vO 12)] []) ∧ (∀ (v : Int) (s' : vS), q = .inr (v, s') → rv = some (vI v) ∧ σo = s')
def j_X5_assignments_175 (rec : Int → vS → Option ((vS) ⊕ (Int × vS))) (x1 : Int) (x3 : Int) (s : vS) : Option ((vS) ⊕ (Int × vS)) :=
  if x1 = (-1) then
    stp (sI s 10 2 x3) fun s5 =>
    rec x3 s5
  else
    bdv (f_X4_set x1 8 x3 s) fun s2 =>
    rec x3 s2
theorem wj_X5_assignments_175 {x1 : Int} {x3 : Int} {s : vS} {rv : Option vA} {σo : vS} {rec : Int → vS → Option ((vS) ⊕ (Int × vS))} {q : (vS) ⊕ (Int × vS)} (h : j_X5_assignments_175 rec x1 x3 s = some q)  (rx1 : rg x1) (rx3 : rg x3) (hrec : ∀ (y1 : Int) (s : vS) (q : (vS) ⊕ (Int × vS)), rec y1 s = some q → rg y1 → E_X5_assignments_2 rv σo q → VW cX5_assignments (RX5, rv, σo, (some .boolean), 1409, 30871, 4, []) (P0 []) s 2 [(0, vO 12), (1, vI y1)] []) (hE : E_X5_assignments_2 rv σo q) : VW cX5_assignments (RX5, rv, σo, (some .boolean), 1409, 30871, 4, []) (P0 []) s 175 [(0, vO 12), (1, vI x1), (3, vI x3)] [] := by
  unfold j_X5_assignments_175 at h
  refine v_iload_n dX5_assignments_175 1 rfl rfl ?_
  refine v_iconst dX5_assignments_176 ?_
  refine v_icmp_ne (tgt := 191) dX5_assignments_177 rx1 (rgl rfl) (by decide) (fun c1 => ?_) (fun c1 => ?_)
  · rw [if_neg c1] at h
    refine v_aload_n dX5_assignments_191 0 rfl rfl ?_
    refine v_getS (f := 1) (t := 10) cf5 oc12 rfl rfl rfl (by decide) q501 dX5_assignments_192 ?_
    refine v_iload_n dX5_assignments_195 1 rfl rfl ?_
    refine v_bipush dX5_assignments_196 rfl ?_
    refine v_iload_n dX5_assignments_198 2 rfl rfl ?_
    obtain ⟨s2, e3, h⟩ := bdv_some h
    have k4 := c_X4_set e3 rx1 (rgl rfl) rx3
    refine v_callV (st := []) cf4 oc10 k4 (lw_V q1316 q1305 q1306 q301 q1307) rfl yk_X4_set ⟨Nat.le_of_ble_eq_true rfl, Nat.le_of_ble_eq_true rfl⟩ trivial ⟨kc12, trivial⟩ (Nat.le_of_ble_eq_true rfl) rfl dX5_assignments_199 ?_
    refine v_iload_n dX5_assignments_202 2 rfl rfl ?_
    refine v_istore_n (L1 := [(1, vI x3), (0, vO 12), (3, vI x3)]) dX5_assignments_203 rfl (by decide) rfl ?_
    refine v_goto (tgt := 2) dX5_assignments_204 (by decide) ?_
    refine v_sub [1, 0] (L1 := [(0, vO 12), (1, vI x3)]) rfl ?_
    exact hrec x3 s2 _ h rx3 hE
  · rw [if_pos c1] at h
    refine v_aload_n dX5_assignments_180 0 rfl rfl ?_
    refine v_getS (f := 1) (t := 10) cf5 oc12 rfl rfl rfl (by decide) q501 dX5_assignments_181 ?_
    refine v_iload_n dX5_assignments_184 2 rfl rfl ?_
    obtain ⟨s5, e6, h⟩ := stp_some h
    refine v_putIN (f := 2) cf4 oc10 rfl (by decide) q471 dX5_assignments_185 rfl rfl ?_
    rw [← e6]
    refine v_goto (tgt := 202) dX5_assignments_188 (by decide) ?_
    refine v_iload_n dX5_assignments_202 2 rfl rfl ?_
    refine v_istore_n (L1 := [(1, vI x3), (0, vO 12), (3, vI x3)]) dX5_assignments_203 rfl (by decide) rfl ?_
    refine v_goto (tgt := 2) dX5_assignments_204 (by decide) ?_
    refine v_sub [1, 0] (L1 := [(0, vO 12), (1, vI x3)]) rfl ?_
    exact hrec x3 s5 _ h rx3 hE

def j_X5_assignments_46 (rec : Int → vS → Option ((vS) ⊕ (Int × vS))) (x1 : Int) (x2 : Int) (z1 : Int) (s : vS) : Option ((vS) ⊕ (Int × vS)) :=
  bd (f_X4_add z1 (gI s 12 2) s) fun r4 s1 =>
  stp (sI s1 12 2 (w32 ((gI s1 12 2) + 1))) fun s6 =>
  if x2 = 0 then
    stp (sI s6 10 4 (w32 ((gI s6 10 4) + 1))) fun s9 =>
    bd (d_X5_type 128 0 s9) fun r14 s11 =>
    bdv (f_X4_set r4 3 r14 s11) fun s16 =>
    bd (f_X5_take 10 s16) fun r22 s19 =>
    if r22 = 0 then
      j_X5_assignments_175 rec x1 r4 s19
    else
      bd (f_X5_value s19) fun r28 s25 =>
      bdv (f_X4_set r4 4 r28 s25) fun s30 =>
      j_X5_assignments_175 rec x1 r4 s30
  else
    bd (f_X5_is 15 s6) fun r36 s33 =>
    if r36 = 0 then
      stp (sI s33 10 3 (w32 ((gI s33 10 3) + 1))) fun s39 =>
      bd (f_X5_take 10 s39) fun r44 s41 =>
      if r44 = 0 then
        j_X5_assignments_175 rec x1 r4 s41
      else
        bd (d_X5_type 128 0 s41) fun r50 s47 =>
        bdv (f_X4_set r4 3 r50 s47) fun s52 =>
        j_X5_assignments_175 rec x1 r4 s52
    else
      bd (f_X5_wrong 3 (gI s33 12 2) s33) fun r58 s55 =>
      gd (r58 = 0 ∨ r58 = 1) <|
      some (.inr (r58, s55))
theorem wj_X5_assignments_46 {x1 : Int} {x2 : Int} {z1 : Int} {s : vS} {rv : Option vA} {σo : vS} {rec : Int → vS → Option ((vS) ⊕ (Int × vS))} {q : (vS) ⊕ (Int × vS)} (h : j_X5_assignments_46 rec x1 x2 z1 s = some q)  (rx1 : rg x1) (rx2 : rg x2) (rz1 : rg z1) (hrec : ∀ (y1 : Int) (s : vS) (q : (vS) ⊕ (Int × vS)), rec y1 s = some q → rg y1 → E_X5_assignments_2 rv σo q → VW cX5_assignments (RX5, rv, σo, (some .boolean), 1409, 30871, 4, []) (P0 []) s 2 [(0, vO 12), (1, vI y1)] []) (hE : E_X5_assignments_2 rv σo q) : VW cX5_assignments (RX5, rv, σo, (some .boolean), 1409, 30871, 4, []) (P0 []) s 46 [(0, vO 12), (1, vI x1), (2, vI x2)] [vI z1, vO 10] := by
  unfold j_X5_assignments_46 at h
  refine v_aload_n dX5_assignments_46 0 rfl rfl ?_
  refine v_getI (f := 2) cf5 oc12 rfl (by decide) q502 dX5_assignments_47 ?_
  obtain ⟨r4, s1, e2, h⟩ := bd_some h
  have k3 := c_X4_add e2 rz1 (gI_rg _ _ _)
  have r5 : rg r4 := k3.1.2.2
  refine v_callV (st := []) cf4 oc10 k3 (lw_V q1299 q1300 q1301 q301 q1302) rfl yk_X4_add ⟨Nat.le_of_ble_eq_true rfl, Nat.le_of_ble_eq_true rfl⟩ trivial ⟨kc12, trivial⟩ (Nat.le_of_ble_eq_true rfl) rfl dX5_assignments_50 ?_
  refine v_istore_n (L1 := [(3, vI r4), (0, vO 12), (1, vI x1), (2, vI x2)]) dX5_assignments_53 rfl (by decide) rfl ?_
  refine v_aload_n dX5_assignments_54 1 rfl rfl ?_
  refine v_dupO dX5_assignments_55 ?_
  refine v_getI (f := 2) cf5 oc12 rfl (by decide) q502 dX5_assignments_56 ?_
  refine v_iconst dX5_assignments_59 ?_
  refine v_iadd dX5_assignments_60 ?_
  obtain ⟨s6, e7, h⟩ := stp_some h
  refine v_putI (f := 2) cf5 oc12 rfl (by decide) q502 dX5_assignments_61 rfl rfl ?_
  rw [← e7]
  refine v_iload_n dX5_assignments_64 3 rfl rfl ?_
  refine v_if_eq (tgt := 126) dX5_assignments_65 rx2 (by decide) (fun c8 => ?_) (fun c8 => ?_)
  · rw [if_pos c8] at h
    refine v_aload_n dX5_assignments_126 1 rfl rfl ?_
    refine v_getS (f := 1) (t := 10) cf5 oc12 rfl rfl rfl (by decide) q501 dX5_assignments_127 ?_
    refine v_dupO dX5_assignments_130 ?_
    refine v_getIN (f := 4) cf4 oc10 rfl (by decide) q477 dX5_assignments_131 ?_
    refine v_iconst dX5_assignments_134 ?_
    refine v_iadd dX5_assignments_135 ?_
    obtain ⟨s9, e10, h⟩ := stp_some h
    refine v_putIN (f := 4) cf4 oc10 rfl (by decide) q477 dX5_assignments_136 rfl rfl ?_
    rw [← e10]
    refine v_aload_n dX5_assignments_139 1 rfl rfl ?_
    refine v_getS (f := 1) (t := 10) cf5 oc12 rfl rfl rfl (by decide) q501 dX5_assignments_140 ?_
    refine v_iload_n dX5_assignments_143 0 rfl rfl ?_
    refine v_iconst dX5_assignments_144 ?_
    refine v_aload_n dX5_assignments_145 1 rfl rfl ?_
    refine v_iconst dX5_assignments_146 ?_
    obtain ⟨r14, s11, e12, h⟩ := bd_some h
    have k13 := hd_X5_type 128 _ _ _ e12 (rgl rfl)
    have r15 : rg r14 := k13.1.2.2
    refine v_callV (st := [vI 3, vI r4, vO 10]) cf5 oc12 k13 (lw_V q1308 q1310 qs24 q302 q1311) rfl yk_X5_type ⟨Nat.le_of_ble_eq_true rfl, Nat.le_of_ble_eq_true rfl⟩ ⟨kc10, trivial⟩ ⟨kc12, trivial⟩ (Nat.le_of_ble_eq_true rfl) rfl dX5_assignments_147 ?_
    obtain ⟨s16, e17, h⟩ := bdv_some h
    have k18 := c_X4_set e17 r5 (rgl rfl) r15
    refine v_callV (st := []) cf4 oc10 k18 (lw_V q1316 q1305 q1306 q301 q1307) rfl yk_X4_set ⟨Nat.le_of_ble_eq_true rfl, Nat.le_of_ble_eq_true rfl⟩ trivial ⟨kc12, trivial⟩ (Nat.le_of_ble_eq_true rfl) rfl dX5_assignments_150 ?_
    refine v_aload_n dX5_assignments_153 1 rfl rfl ?_
    refine v_bipush dX5_assignments_154 rfl ?_
    obtain ⟨r22, s19, e20, h⟩ := bd_some h
    have k21 := c_X5_take e20 (rgl rfl)
    have r23 : rg r22 := k21.1.2.2
    refine v_callV (st := []) cf5 oc12 k21 (lw_V q1260 q1262 qs17 q302 q1263) rfl yk_X5_take ⟨Nat.le_of_ble_eq_true rfl, Nat.le_of_ble_eq_true rfl⟩ trivial ⟨kc12, trivial⟩ (Nat.le_of_ble_eq_true rfl) rfl dX5_assignments_156 ?_
    refine v_if_eq (tgt := 175) dX5_assignments_159 r23 (by decide) (fun c24 => ?_) (fun c24 => ?_)
    · rw [if_pos c24] at h
      refine v_sub [1, 2, 0] (L1 := [(0, vO 12), (1, vI x1), (3, vI r4)]) rfl ?_
      exact wj_X5_assignments_175 h rx1 r5 hrec hE
    · rw [if_neg c24] at h
      refine v_aload_n dX5_assignments_162 1 rfl rfl ?_
      refine v_getS (f := 1) (t := 10) cf5 oc12 rfl rfl rfl (by decide) q501 dX5_assignments_163 ?_
      refine v_iload_n dX5_assignments_166 0 rfl rfl ?_
      refine v_iconst dX5_assignments_167 ?_
      refine v_aload_n dX5_assignments_168 1 rfl rfl ?_
      obtain ⟨r28, s25, e26, h⟩ := bd_some h
      have k27 := c_X5_value e26
      have r29 : rg r28 := k27.1.2.2
      refine v_callV (st := [vI 4, vI r4, vO 10]) cf5 oc12 k27 (lw_V q1371 q1373 qs35 q302 q1374) rfl yk_X5_value ⟨Nat.le_of_ble_eq_true rfl, Nat.le_of_ble_eq_true rfl⟩ ⟨kc10, trivial⟩ ⟨kc12, trivial⟩ (Nat.le_of_ble_eq_true rfl) rfl dX5_assignments_169 ?_
      obtain ⟨s30, e31, h⟩ := bdv_some h
      have k32 := c_X4_set e31 r5 (rgl rfl) r29
      refine v_callV (st := []) cf4 oc10 k32 (lw_V q1316 q1305 q1306 q301 q1307) rfl yk_X4_set ⟨Nat.le_of_ble_eq_true rfl, Nat.le_of_ble_eq_true rfl⟩ trivial ⟨kc12, trivial⟩ (Nat.le_of_ble_eq_true rfl) rfl dX5_assignments_172 ?_
      refine v_sub [1, 2, 0] (L1 := [(0, vO 12), (1, vI x1), (3, vI r4)]) rfl ?_
      exact wj_X5_assignments_175 h rx1 r5 hrec hE
  · rw [if_neg c8] at h
    refine v_aload_n dX5_assignments_68 1 rfl rfl ?_
    refine v_bipush dX5_assignments_69 rfl ?_
    obtain ⟨r36, s33, e34, h⟩ := bd_some h
    have k35 := c_X5_is e34 (rgl rfl)
    have r37 : rg r36 := k35.1.2.2
    refine v_callV (st := []) cf5 oc12 k35 (lw_V q1264 q1266 qs18 q302 q1267) rfl yk_X5_is ⟨Nat.le_of_ble_eq_true rfl, Nat.le_of_ble_eq_true rfl⟩ trivial ⟨kc12, trivial⟩ (Nat.le_of_ble_eq_true rfl) rfl dX5_assignments_71 ?_
    refine v_if_eq (tgt := 87) dX5_assignments_74 r37 (by decide) (fun c38 => ?_) (fun c38 => ?_)
    · rw [if_pos c38] at h
      refine v_aload_n dX5_assignments_87 1 rfl rfl ?_
      refine v_getS (f := 1) (t := 10) cf5 oc12 rfl rfl rfl (by decide) q501 dX5_assignments_88 ?_
      refine v_dupO dX5_assignments_91 ?_
      refine v_getIN (f := 3) cf4 oc10 rfl (by decide) q473 dX5_assignments_92 ?_
      refine v_iconst dX5_assignments_95 ?_
      refine v_iadd dX5_assignments_96 ?_
      obtain ⟨s39, e40, h⟩ := stp_some h
      refine v_putIN (f := 3) cf4 oc10 rfl (by decide) q473 dX5_assignments_97 rfl rfl ?_
      rw [← e40]
      refine v_aload_n dX5_assignments_100 1 rfl rfl ?_
      refine v_bipush dX5_assignments_101 rfl ?_
      obtain ⟨r44, s41, e42, h⟩ := bd_some h
      have k43 := c_X5_take e42 (rgl rfl)
      have r45 : rg r44 := k43.1.2.2
      refine v_callV (st := []) cf5 oc12 k43 (lw_V q1260 q1262 qs17 q302 q1263) rfl yk_X5_take ⟨Nat.le_of_ble_eq_true rfl, Nat.le_of_ble_eq_true rfl⟩ trivial ⟨kc12, trivial⟩ (Nat.le_of_ble_eq_true rfl) rfl dX5_assignments_103 ?_
      refine v_if_eq (tgt := 175) dX5_assignments_106 r45 (by decide) (fun c46 => ?_) (fun c46 => ?_)
      · rw [if_pos c46] at h
        refine v_sub [1, 2, 0] (L1 := [(0, vO 12), (1, vI x1), (3, vI r4)]) rfl ?_
        exact wj_X5_assignments_175 h rx1 r5 hrec hE
      · rw [if_neg c46] at h
        refine v_aload_n dX5_assignments_109 1 rfl rfl ?_
        refine v_getS (f := 1) (t := 10) cf5 oc12 rfl rfl rfl (by decide) q501 dX5_assignments_110 ?_
        refine v_iload_n dX5_assignments_113 0 rfl rfl ?_
        refine v_iconst dX5_assignments_114 ?_
        refine v_aload_n dX5_assignments_115 1 rfl rfl ?_
        refine v_iconst dX5_assignments_116 ?_
        obtain ⟨r50, s47, e48, h⟩ := bd_some h
        have k49 := hd_X5_type 128 _ _ _ e48 (rgl rfl)
        have r51 : rg r50 := k49.1.2.2
        refine v_callV (st := [vI 3, vI r4, vO 10]) cf5 oc12 k49 (lw_V q1308 q1310 qs24 q302 q1311) rfl yk_X5_type ⟨Nat.le_of_ble_eq_true rfl, Nat.le_of_ble_eq_true rfl⟩ ⟨kc10, trivial⟩ ⟨kc12, trivial⟩ (Nat.le_of_ble_eq_true rfl) rfl dX5_assignments_117 ?_
        obtain ⟨s52, e53, h⟩ := bdv_some h
        have k54 := c_X4_set e53 r5 (rgl rfl) r51
        refine v_callV (st := []) cf4 oc10 k54 (lw_V q1316 q1305 q1306 q301 q1307) rfl yk_X4_set ⟨Nat.le_of_ble_eq_true rfl, Nat.le_of_ble_eq_true rfl⟩ trivial ⟨kc12, trivial⟩ (Nat.le_of_ble_eq_true rfl) rfl dX5_assignments_120 ?_
        refine v_goto (tgt := 175) dX5_assignments_123 (by decide) ?_
        refine v_sub [1, 2, 0] (L1 := [(0, vO 12), (1, vI x1), (3, vI r4)]) rfl ?_
        exact wj_X5_assignments_175 h rx1 r5 hrec hE
    · rw [if_neg c38] at h
      refine v_aload_n dX5_assignments_77 1 rfl rfl ?_
      refine v_iconst dX5_assignments_78 ?_
      refine v_aload_n dX5_assignments_79 1 rfl rfl ?_
      refine v_getI (f := 2) cf5 oc12 rfl (by decide) q502 dX5_assignments_80 ?_
      obtain ⟨r58, s55, e56, h⟩ := bd_some h
      have k57 := c_X5_wrong e56 (rgl rfl) (gI_rg _ _ _)
      have r59 : rg r58 := k57.1.2.2
      refine v_callV (st := []) cf5 oc12 k57 (lw_V q1283 q1285 qs21 q302 q1286) rfl yk_X5_wrong ⟨Nat.le_of_ble_eq_true rfl, Nat.le_of_ble_eq_true rfl⟩ trivial ⟨kc12, trivial⟩ (Nat.le_of_ble_eq_true rfl) rfl dX5_assignments_83 ?_
      obtain ⟨g60, h⟩ := gd_some h
      cases h
      obtain ⟨z1, z2⟩ := hE.2 _ _ rfl
      subst z1
      subst z2
      exact v_zret g60 dX5_assignments_86

def j_X5_assignments_25 (rec : Int → vS → Option ((vS) ⊕ (Int × vS))) (x1 : Int) (s : vS) : Option ((vS) ⊕ (Int × vS)) :=
  bd (f_X5_is 1 s) fun r4 s1 =>
  if r4 = 0 then
    j_X5_assignments_46 rec x1 r4 29 s1
  else
    j_X5_assignments_46 rec x1 r4 28 s1
theorem wj_X5_assignments_25 {x1 : Int} {s : vS} {rv : Option vA} {σo : vS} {rec : Int → vS → Option ((vS) ⊕ (Int × vS))} {q : (vS) ⊕ (Int × vS)} (h : j_X5_assignments_25 rec x1 s = some q)  (rx1 : rg x1) (hrec : ∀ (y1 : Int) (s : vS) (q : (vS) ⊕ (Int × vS)), rec y1 s = some q → rg y1 → E_X5_assignments_2 rv σo q → VW cX5_assignments (RX5, rv, σo, (some .boolean), 1409, 30871, 4, []) (P0 []) s 2 [(0, vO 12), (1, vI y1)] []) (hE : E_X5_assignments_2 rv σo q) : VW cX5_assignments (RX5, rv, σo, (some .boolean), 1409, 30871, 4, []) (P0 []) s 25 [(0, vO 12), (1, vI x1)] [] := by
  unfold j_X5_assignments_25 at h
  refine v_aload_n dX5_assignments_25 0 rfl rfl ?_
  refine v_iconst dX5_assignments_26 ?_
  obtain ⟨r4, s1, e2, h⟩ := bd_some h
  have k3 := c_X5_is e2 (rgl rfl)
  have r5 : rg r4 := k3.1.2.2
  refine v_callV (st := []) cf5 oc12 k3 (lw_V q1264 q1266 qs18 q302 q1267) rfl yk_X5_is ⟨Nat.le_of_ble_eq_true rfl, Nat.le_of_ble_eq_true rfl⟩ trivial ⟨kc12, trivial⟩ (Nat.le_of_ble_eq_true rfl) rfl dX5_assignments_27 ?_
  refine v_istore_n (L1 := [(2, vI r4), (0, vO 12), (1, vI x1)]) dX5_assignments_30 rfl (by decide) rfl ?_
  refine v_aload_n dX5_assignments_31 1 rfl rfl ?_
  refine v_getS (f := 1) (t := 10) cf5 oc12 rfl rfl rfl (by decide) q501 dX5_assignments_32 ?_
  refine v_iload_n dX5_assignments_35 0 rfl rfl ?_
  refine v_if_eq (tgt := 44) dX5_assignments_36 r5 (by decide) (fun c6 => ?_) (fun c6 => ?_)
  · rw [if_pos c6] at h
    refine v_bipush dX5_assignments_44 rfl ?_
    refine v_sub [1, 2, 0] (L1 := [(0, vO 12), (1, vI x1), (2, vI r4)]) rfl ?_
    exact wj_X5_assignments_46 h rx1 r5 (rgl rfl) hrec hE
  · rw [if_neg c6] at h
    refine v_bipush dX5_assignments_39 rfl ?_
    refine v_goto (tgt := 46) dX5_assignments_41 (by decide) ?_
    refine v_sub [1, 2, 0] (L1 := [(0, vO 12), (1, vI x1), (2, vI r4)]) rfl ?_
    exact wj_X5_assignments_46 h rx1 r5 (rgl rfl) hrec hE

def l_X5_assignments_2 : Nat → Int → vS → Option ((vS) ⊕ (Int × vS))
  | 0, _, _ => none
  | n + 1, x1, s =>
    if (gI s 12 3) = 0 then
      bd (f_X5_is 1 s) fun r5 s2 =>
      if r5 = 0 then
        bd (f_X5_is 0 s2) fun r11 s8 =>
        if r11 = 0 then
          some (.inl s8)
        else
          j_X5_assignments_25 (l_X5_assignments_2 n) x1 s8
      else
        j_X5_assignments_25 (l_X5_assignments_2 n) x1 s2
    else
      some (.inl s)
theorem wl_X5_assignments_2 {rv : Option vA} {σo : vS}  : ∀ (n : Nat) (x1 : Int) (s : vS) (q : (vS) ⊕ (Int × vS)), l_X5_assignments_2 n x1 s = some q → rg x1 → E_X5_assignments_2 rv σo q → VW cX5_assignments (RX5, rv, σo, (some .boolean), 1409, 30871, 4, []) (P0 []) s 2 [(0, vO 12), (1, vI x1)] [] := by
  intro n
  induction n with
  | zero => intro x1 s q h; cases h
  | succ n ih =>
    intro x1 s q h rx1 hE
    unfold l_X5_assignments_2 at h
    refine v_aload_n dX5_assignments_2 0 rfl rfl ?_
    refine v_getI (f := 3) cf5 oc12 rfl (by decide) q503 dX5_assignments_3 ?_
    refine v_if_ne (tgt := 207) dX5_assignments_6 (gI_rg _ _ _) (by decide) (fun c1 => ?_) (fun c1 => ?_)
    · rw [if_neg c1] at h
      cases h
      refine v_sub [0] (L1 := [(0, vO 12)]) rfl ?_
      exact hE.1 _ rfl 
    · rw [if_pos c1] at h
      refine v_aload_n dX5_assignments_9 0 rfl rfl ?_
      refine v_iconst dX5_assignments_10 ?_
      obtain ⟨r5, s2, e3, h⟩ := bd_some h
      have k4 := c_X5_is e3 (rgl rfl)
      have r6 : rg r5 := k4.1.2.2
      refine v_callV (st := []) cf5 oc12 k4 (lw_V q1264 q1266 qs18 q302 q1267) rfl yk_X5_is ⟨Nat.le_of_ble_eq_true rfl, Nat.le_of_ble_eq_true rfl⟩ trivial ⟨kc12, trivial⟩ (Nat.le_of_ble_eq_true rfl) rfl dX5_assignments_11 ?_
      refine v_if_ne (tgt := 25) dX5_assignments_14 r6 (by decide) (fun c7 => ?_) (fun c7 => ?_)
      · rw [if_neg c7] at h
        exact wj_X5_assignments_25 h rx1 ih hE
      · rw [if_pos c7] at h
        refine v_aload_n dX5_assignments_17 0 rfl rfl ?_
        refine v_iconst dX5_assignments_18 ?_
        obtain ⟨r11, s8, e9, h⟩ := bd_some h
        have k10 := c_X5_is e9 (rgl rfl)
        have r12 : rg r11 := k10.1.2.2
        refine v_callV (st := []) cf5 oc12 k10 (lw_V q1264 q1266 qs18 q302 q1267) rfl yk_X5_is ⟨Nat.le_of_ble_eq_true rfl, Nat.le_of_ble_eq_true rfl⟩ trivial ⟨kc12, trivial⟩ (Nat.le_of_ble_eq_true rfl) rfl dX5_assignments_19 ?_
        refine v_if_eq (tgt := 207) dX5_assignments_22 r12 (by decide) (fun c13 => ?_) (fun c13 => ?_)
        · rw [if_pos c13] at h
          cases h
          refine v_sub [0] (L1 := [(0, vO 12)]) rfl ?_
          exact hE.1 _ rfl 
        · rw [if_neg c13] at h
          exact wj_X5_assignments_25 h rx1 ih hE

def j_X5_assignments_207 (s : vS) : Option (Int × vS) :=
  if (gI s 12 3) = 0 then
    some (1, s)
  else
    some (0, s)
theorem wj_X5_assignments_207 {s : vS} {out : Int × vS} (h : j_X5_assignments_207 s = some out)  : VW cX5_assignments (RX5, (some (vI out.1)), out.2, (some .boolean), 1409, 30871, 4, []) (P0 []) s 207 [(0, vO 12)] [] := by
  unfold j_X5_assignments_207 at h
  refine v_aload_n dX5_assignments_207 0 rfl rfl ?_
  refine v_getI (f := 3) cf5 oc12 rfl (by decide) q503 dX5_assignments_208 ?_
  refine v_if_ne (tgt := 218) dX5_assignments_211 (gI_rg _ _ _) (by decide) (fun c1 => ?_) (fun c1 => ?_)
  · rw [if_neg c1] at h
    refine v_iconst dX5_assignments_218 ?_
    cases h
    exact v_zret (Or.inl rfl) dX5_assignments_219
  · rw [if_pos c1] at h
    refine v_iconst dX5_assignments_214 ?_
    refine v_goto (tgt := 219) dX5_assignments_215 (by decide) ?_
    cases h
    exact v_zret (Or.inr rfl) dX5_assignments_219

def f_X5_assignments (s : vS) : Option (Int × vS) :=
  lqs_0 (l_X5_assignments_2 FU (-1) s) (fun s1 =>
    j_X5_assignments_207 s1)
    (fun q => some q)
theorem yk_X5_assignments : yOk yX5_assignments 0 := ⟨by decide, by decide, by decide +kernel⟩
theorem c_X5_assignments {s : vS} {out : Int × vS} (h : f_X5_assignments s = some out)   : VC yX5_assignments cX5_assignments 4 (some .boolean) 1409 30871 [vO 12] s (some (vI out.1)) out.2 [] := by
  unfold f_X5_assignments at h
  refine VC.of RX5 (by decide) rfl (Nat.le_of_ble_eq_true rfl) ?_
  show VW cX5_assignments (RX5, (some (vI out.1)), out.2, (some .boolean), 1409, 30871, 4, []) (P0 []) s 0 [(0, vO 12)] []
  refine v_iconst dX5_assignments_0 ?_
  refine v_istore_n (L1 := [(1, vI (-1)), (0, vO 12)]) dX5_assignments_1 rfl (by decide) rfl ?_
  refine v_sub [1, 0] (L1 := [(0, vO 12), (1, vI (-1))]) rfl ?_
  rcases lqs_0_some h with ⟨s1, e2, h⟩ | ⟨q9, e2, h⟩
  · refine wl_X5_assignments_2  FU (-1) s _ e2 (rgl rfl) ?_
    unfold E_X5_assignments_2
    refine ⟨?_, fun v9 s9 z_ => (by cases z_)⟩
    intro s1' z_
    cases z_
    exact wj_X5_assignments_207 h 
  · cases h
    refine wl_X5_assignments_2  FU (-1) s _ e2 (rgl rfl) ?_
    unfold E_X5_assignments_2
    refine ⟨fun _ z_ => (by cases z_), ?_⟩
    intro v9 s9 z_
    cases z_
    exact ⟨rfl, rfl⟩

def f_X3_size (s : vS) : Option (Int × vS) :=
  some (gI s 5 7, s)
theorem yk_X3_size : yOk yX3_size 0 := ⟨by decide, by decide, by decide +kernel⟩
theorem c_X3_size {s : vS} {out : Int × vS} (h : f_X3_size s = some out)   : VC yX3_size cX3_size 1 (some .int) 0 0 [vO 5] s (some (vI out.1)) out.2 [] := by
  unfold f_X3_size at h
  refine VC.of RX3 (by decide) rfl (Nat.le_of_ble_eq_true rfl) ?_
  show VW cX3_size (RX3, (some (vI out.1)), out.2, (some .int), 0, 0, 1, []) (P0 []) s 0 [(0, vO 5)] []
  refine v_aload_n dX3_size_0 0 rfl rfl ?_
  refine v_getI (f := 7) cf3 oc5 rfl (by decide) q441 dX3_size_1 ?_
  cases h
  exact v_iret (gI_rg _ _ _) dX3_size_4

def f_X5_read (s : vS) : Option (Int × vS) :=
  stp (sR s 12 0 5) fun s1 =>
  bdv (f_X4_clear s1) fun s3 =>
  stp (sI s3 12 2 0) fun s6 =>
  stp (sI s6 12 3 0) fun s8 =>
  stp (sI s8 12 4 0) fun s10 =>
  bd (f_X5_heading s10) fun r15 s12 =>
  if r15 = 0 then
    some (0, s12)
  else
    bd (f_X5_assignments s12) fun r21 s18 =>
    if r21 = 0 then
      some (0, s18)
    else
      bd (f_X5_take 120 s18) fun r27 s24 =>
      if r27 = 0 then
        some (0, s24)
      else
        gd (gR s24 12 0 = 5) <|
        bd (f_X3_size s24) fun r34 s31 =>
        if (gI s24 12 2) = r34 then
          some (1, s31)
        else
          bd (f_X5_unfit s31) fun r40 s37 =>
          if r40 = 0 then
            some (0, s37)
          else
            some (1, s37)
theorem yk_X5_read : yOk yX5_read 1 := ⟨by decide, by decide, by decide +kernel⟩
theorem c_X5_read {s : vS} {out : Int × vS} (h : f_X5_read s = some out)   : VC yX5_read cX5_read 2 (some .boolean) 1410 30894 [vO 12, vO 5] s (some (vI out.1)) out.2 [] := by
  unfold f_X5_read at h
  refine VC.of RX5 (by decide) rfl (Nat.le_of_ble_eq_true rfl) ?_
  show VW cX5_read (RX5, (some (vI out.1)), out.2, (some .boolean), 1410, 30894, 2, []) (P0 []) s 0 [(0, vO 12), (1, vO 5)] []
  refine v_aload_n dX5_read_0 0 rfl rfl ?_
  refine v_aload_n dX5_read_1 1 rfl rfl ?_
  obtain ⟨s1, e2, h⟩ := stp_some h
  refine v_putR (f := 0) cf5 oc12 rfl (by decide) (by decide) q500 dX5_read_2 rfl rfl ?_
  rw [← e2]
  refine v_aload_n dX5_read_5 0 rfl rfl ?_
  refine v_getS (f := 1) (t := 10) cf5 oc12 rfl rfl rfl (by decide) q501 dX5_read_6 ?_
  obtain ⟨s3, e4, h⟩ := bdv_some h
  have k5 := c_X4_clear e4
  refine v_callV (st := []) cf4 oc10 k5 (lw_V q1252 q1253 q1254 q301 q1255) rfl yk_X4_clear ⟨Nat.le_of_ble_eq_true rfl, Nat.le_of_ble_eq_true rfl⟩ trivial ⟨kc12, kc5, trivial⟩ (Nat.le_of_ble_eq_true rfl) rfl dX5_read_9 ?_
  refine v_aload_n dX5_read_12 0 rfl rfl ?_
  refine v_iconst dX5_read_13 ?_
  obtain ⟨s6, e7, h⟩ := stp_some h
  refine v_putI (f := 2) cf5 oc12 rfl (by decide) q502 dX5_read_14 rfl rfl ?_
  rw [← e7]
  refine v_aload_n dX5_read_17 0 rfl rfl ?_
  refine v_iconst dX5_read_18 ?_
  obtain ⟨s8, e9, h⟩ := stp_some h
  refine v_putI (f := 3) cf5 oc12 rfl (by decide) q503 dX5_read_19 rfl rfl ?_
  rw [← e9]
  refine v_aload_n dX5_read_22 0 rfl rfl ?_
  refine v_iconst dX5_read_23 ?_
  obtain ⟨s10, e11, h⟩ := stp_some h
  refine v_putI (f := 4) cf5 oc12 rfl (by decide) q504 dX5_read_24 rfl rfl ?_
  rw [← e11]
  refine v_aload_n dX5_read_27 0 rfl rfl ?_
  obtain ⟨r15, s12, e13, h⟩ := bd_some h
  have k14 := c_X5_heading e13
  have r16 : rg r15 := k14.1.2.2
  refine v_callV (st := []) cf5 oc12 k14 (lw_V q1256 q1258 qs16 q302 q1259) rfl yk_X5_heading ⟨Nat.le_of_ble_eq_true rfl, Nat.le_of_ble_eq_true rfl⟩ trivial ⟨kc12, kc5, trivial⟩ (Nat.le_of_ble_eq_true rfl) rfl dX5_read_28 ?_
  refine v_if_eq (tgt := 75) dX5_read_31 r16 (by decide) (fun c17 => ?_) (fun c17 => ?_)
  · rw [if_pos c17] at h
    refine v_iconst dX5_read_75 ?_
    cases h
    exact v_zret (Or.inl rfl) dX5_read_76
  · rw [if_neg c17] at h
    refine v_aload_n dX5_read_34 0 rfl rfl ?_
    obtain ⟨r21, s18, e19, h⟩ := bd_some h
    have k20 := c_X5_assignments e19
    have r22 : rg r21 := k20.1.2.2
    refine v_callV (st := []) cf5 oc12 k20 (lw_V q1295 q1297 qs23 q302 q1298) rfl yk_X5_assignments ⟨Nat.le_of_ble_eq_true rfl, Nat.le_of_ble_eq_true rfl⟩ trivial ⟨kc12, kc5, trivial⟩ (Nat.le_of_ble_eq_true rfl) rfl dX5_read_35 ?_
    refine v_if_eq (tgt := 75) dX5_read_38 r22 (by decide) (fun c23 => ?_) (fun c23 => ?_)
    · rw [if_pos c23] at h
      refine v_iconst dX5_read_75 ?_
      cases h
      exact v_zret (Or.inl rfl) dX5_read_76
    · rw [if_neg c23] at h
      refine v_aload_n dX5_read_41 0 rfl rfl ?_
      refine v_bipush dX5_read_42 rfl ?_
      obtain ⟨r27, s24, e25, h⟩ := bd_some h
      have k26 := c_X5_take e25 (rgl rfl)
      have r28 : rg r27 := k26.1.2.2
      refine v_callV (st := []) cf5 oc12 k26 (lw_V q1260 q1262 qs17 q302 q1263) rfl yk_X5_take ⟨Nat.le_of_ble_eq_true rfl, Nat.le_of_ble_eq_true rfl⟩ trivial ⟨kc12, kc5, trivial⟩ (Nat.le_of_ble_eq_true rfl) rfl dX5_read_44 ?_
      refine v_if_eq (tgt := 75) dX5_read_47 r28 (by decide) (fun c29 => ?_) (fun c29 => ?_)
      · rw [if_pos c29] at h
        refine v_iconst dX5_read_75 ?_
        cases h
        exact v_zret (Or.inl rfl) dX5_read_76
      · rw [if_neg c29] at h
        refine v_aload_n dX5_read_50 0 rfl rfl ?_
        refine v_getI (f := 2) cf5 oc12 rfl (by decide) q502 dX5_read_51 ?_
        refine v_aload_n dX5_read_54 0 rfl rfl ?_
        obtain ⟨g30, h⟩ := gd_some h
        refine v_getR (f := 0) cf5 oc12 rfl (by rw [g30]; decide) (by decide) q500 dX5_read_55 ?_
        rw [g30]
        obtain ⟨r34, s31, e32, h⟩ := bd_some h
        have k33 := c_X3_size e32
        have r35 : rg r34 := k33.1.2.2
        refine v_callV (st := [vI (gI s24 12 2)]) cf3 oc5 k33 (lw_V q1411 q1412 q1413 q300 q1414) rfl yk_X3_size ⟨Nat.le_of_ble_eq_true rfl, Nat.le_of_ble_eq_true rfl⟩ trivial ⟨kc12, kc5, trivial⟩ (Nat.le_of_ble_eq_true rfl) rfl dX5_read_58 ?_
        refine v_icmp_eq (tgt := 71) dX5_read_61 (gI_rg _ _ _) r35 (by decide) (fun c36 => ?_) (fun c36 => ?_)
        · rw [if_pos c36] at h
          refine v_iconst dX5_read_71 ?_
          refine v_goto (tgt := 76) dX5_read_72 (by decide) ?_
          cases h
          exact v_zret (Or.inr rfl) dX5_read_76
        · rw [if_neg c36] at h
          refine v_aload_n dX5_read_64 0 rfl rfl ?_
          obtain ⟨r40, s37, e38, h⟩ := bd_some h
          have k39 := c_X5_unfit e38
          have r41 : rg r40 := k39.1.2.2
          refine v_callV (st := []) cf5 oc12 k39 (lw_V q1272 q1274 qs19 q302 q1275) rfl yk_X5_unfit ⟨Nat.le_of_ble_eq_true rfl, Nat.le_of_ble_eq_true rfl⟩ trivial ⟨kc12, kc5, trivial⟩ (Nat.le_of_ble_eq_true rfl) rfl dX5_read_65 ?_
          refine v_if_eq (tgt := 75) dX5_read_68 r41 (by decide) (fun c42 => ?_) (fun c42 => ?_)
          · rw [if_pos c42] at h
            refine v_iconst dX5_read_75 ?_
            cases h
            exact v_zret (Or.inl rfl) dX5_read_76
          · rw [if_neg c42] at h
            refine v_iconst dX5_read_71 ?_
            refine v_goto (tgt := 76) dX5_read_72 (by decide) ?_
            cases h
            exact v_zret (Or.inr rfl) dX5_read_76

def f_X5_fault (s : vS) : Option (Int × vS) :=
  some (gI s 12 3, s)
theorem yk_X5_fault : yOk yX5_fault 0 := ⟨by decide, by decide, by decide +kernel⟩
theorem c_X5_fault {s : vS} {out : Int × vS} (h : f_X5_fault s = some out)   : VC yX5_fault cX5_fault 1 (some .int) 0 0 [vO 12] s (some (vI out.1)) out.2 [] := by
  unfold f_X5_fault at h
  refine VC.of RX5 (by decide) rfl (Nat.le_of_ble_eq_true rfl) ?_
  show VW cX5_fault (RX5, (some (vI out.1)), out.2, (some .int), 0, 0, 1, []) (P0 []) s 0 [(0, vO 12)] []
  refine v_aload_n dX5_fault_0 0 rfl rfl ?_
  refine v_getI (f := 3) cf5 oc12 rfl (by decide) q503 dX5_fault_1 ?_
  cases h
  exact v_iret (gI_rg _ _ _) dX5_fault_4

def f_X5_place (s : vS) : Option (Int × vS) :=
  some (gI s 12 4, s)
theorem yk_X5_place : yOk yX5_place 0 := ⟨by decide, by decide, by decide +kernel⟩
theorem c_X5_place {s : vS} {out : Int × vS} (h : f_X5_place s = some out)   : VC yX5_place cX5_place 1 (some .int) 0 0 [vO 12] s (some (vI out.1)) out.2 [] := by
  unfold f_X5_place at h
  refine VC.of RX5 (by decide) rfl (Nat.le_of_ble_eq_true rfl) ?_
  show VW cX5_place (RX5, (some (vI out.1)), out.2, (some .int), 0, 0, 1, []) (P0 []) s 0 [(0, vO 12)] []
  refine v_aload_n dX5_place_0 0 rfl rfl ?_
  refine v_getI (f := 4) cf5 oc12 rfl (by decide) q504 dX5_place_1 ?_
  cases h
  exact v_iret (gI_rg _ _ _) dX5_place_4

def f_X4_size (s : vS) : Option (Int × vS) :=
  some (gI s 10 1, s)
theorem yk_X4_size : yOk yX4_size 0 := ⟨by decide, by decide, by decide +kernel⟩
theorem c_X4_size {s : vS} {out : Int × vS} (h : f_X4_size s = some out)   : VC yX4_size cX4_size 1 (some .int) 0 0 [vO 10] s (some (vI out.1)) out.2 [] := by
  unfold f_X4_size at h
  refine VC.of RX4 (by decide) rfl (Nat.le_of_ble_eq_true rfl) ?_
  show VW cX4_size (RX4, (some (vI out.1)), out.2, (some .int), 0, 0, 1, []) (P0 []) s 0 [(0, vO 10)] []
  refine v_aload_n dX4_size_0 0 rfl rfl ?_
  refine v_getI (f := 1) cf4 oc10 rfl (by decide) q467 dX4_size_1 ?_
  cases h
  exact v_iret (gI_rg _ _ _) dX4_size_4

def f_X6_grown (p0 : Nat) (x1 : Int) (s : vS) : Option (Int × vS) :=
  if (w32 (gN s p0 : Int)) < x1 then
    gd (naG (max x1 (w32 (2 * (w32 (gN s p0 : Int)))))) <|
    stp (sA s 199 (Int.toNat (max x1 (w32 (2 * (w32 (gN s p0 : Int))))), fun _ => 0)) fun s3 =>
    gd (cpG 0 0 (w32 (gN s3 p0 : Int)) (gN s3 p0) (gN s3 199)) <|
    stp (cpA s3 p0 199 0 0 (w32 (gN s3 p0 : Int))) fun s6 =>
    some (1, s6)
  else
    some (0, s)
theorem yk_X6_grown : yOk yX6_grown 2 := ⟨by decide, by decide, by decide +kernel⟩
theorem c_X6_grown {p0 : Nat} {x1 : Int} {s : vS} {out : Int × vS} (h : f_X6_grown p0 x1 s = some out) (hp0 : okB p0 24) (rx1 : rg x1) : VC yX6_grown cX6_grown 3 (some (.array .int)) 1 26 [vO p0, vI x1] s (some (vO (if out.1 = 0 then p0 else 199))) out.2 (if out.1 = 0 then [] else [(24, 1)]) := by
  unfold f_X6_grown at h
  refine VC.of RX6 (by decide) rfl (Nat.le_of_ble_eq_true rfl) ?_
  show VW cX6_grown (RX6, (some (vO (if out.1 = 0 then p0 else 199))), out.2, (some (.array .int)), 1, 26, 3, (if out.1 = 0 then [] else [(24, 1)])) (P0 []) s 0 [(0, vO p0), (1, vI x1)] []
  refine v_iload_n dX6_grown_0 1 rfl rfl ?_
  refine v_aload_n dX6_grown_1 0 rfl rfl ?_
  refine v_alen24 (okB_ok hp0) dX6_grown_2 ?_
  refine v_icmp_gt (tgt := 8) dX6_grown_3 rx1 (w32_rg _) (by decide) (fun c1 => ?_) (fun c1 => ?_)
  · rw [if_pos c1] at h
    refine v_iload_n dX6_grown_8 1 rfl rfl ?_
    refine v_iconst dX6_grown_9 ?_
    refine v_aload_n dX6_grown_10 0 rfl rfl ?_
    refine v_alen24 (okB_ok hp0) dX6_grown_11 ?_
    refine v_imul dX6_grown_12 ?_
    refine v_max rx1 (w32_rg _) (Nat.le_of_ble_eq_true rfl) (Nat.le_of_ble_eq_true rfl) q1434 dX6_grown_13 ?_
    obtain ⟨g2, h⟩ := gd_some h
    obtain ⟨s3, e4, h⟩ := stp_some h
    refine v_na24 (K := 199) (tk1 := [(24, 1)]) rfl rfl (by decide) (max_rg rx1 (w32_rg _)) g2 ⟨(Nat.lt_of_lt_of_le hp0.1 (by decide)), trivial⟩ trivial q459 dX6_grown_16 ?_
    rw [← e4]
    refine v_astore_n (L1 := [(2, vO 199), (0, vO p0), (1, vI x1)]) dX6_grown_18 rfl (by decide) rfl ?_
    refine v_aload_n dX6_grown_19 1 rfl rfl ?_
    refine v_iconst dX6_grown_20 ?_
    refine v_aload_n dX6_grown_21 0 rfl rfl ?_
    refine v_iconst dX6_grown_22 ?_
    refine v_aload_n dX6_grown_23 1 rfl rfl ?_
    refine v_alen24 (okB_ok hp0) dX6_grown_24 ?_
    obtain ⟨g5, h⟩ := gd_some h
    obtain ⟨s6, e7, h⟩ := stp_some h
    refine v_cp (t := 24) (by decide) (by decide) (okB_ok hp0) (ok_tmp (i := 0) rfl) (rgl rfl) (rgl rfl) (w32_rg _) g5 (Nat.le_of_ble_eq_true rfl) (Nat.le_of_ble_eq_true rfl) q1435 dX6_grown_25 ?_
    rw [← e7]
    refine v_aload_n dX6_grown_28 0 rfl rfl ?_
    cases h
    exact v_aretT dX6_grown_29
  · rw [if_neg c1] at h
    refine v_aload_n dX6_grown_6 0 rfl rfl ?_
    cases h
    exact v_aretT dX6_grown_7

def E_X9_clear_7 (o : Nat) (rv : Option vA) (σo : vS) (q : vS) : Prop := ∀ (s' : vS), q = s' → VW cX9_clear (RX9, rv, σo, none, 0, 0, 3, []) (P0 []) s' 36 [(0, vO o)] []
def l_X9_clear_7 (o : Nat) : Nat → Int → vS → Option (vS)
  | 0, _, _ => none
  | n + 1, x2, s =>
    if (w32 (gN s (o + 1) : Int)) ≤ x2 then
      some s
    else
      if (gI s o 3) ≤ 0 then
        some s
      else
        gd (inb x2 (gN s (o + 1))) <|
        stp (sE s (o + 1) x2 0) fun s4 =>
        vl (w32 (x2 + 1)) fun y6 =>
        l_X9_clear_7 o n y6 s4
theorem wl_X9_clear_7 (o : Nat) {rv : Option vA} {σo : vS} (ho : okB o 8) : ∀ (n : Nat) (x2 : Int) (s : vS) (q : vS), l_X9_clear_7 o n x2 s = some q → rg x2 → E_X9_clear_7 o rv σo q → VW cX9_clear (RX9, rv, σo, none, 0, 0, 3, []) (P0 []) s 7 [(0, vO o), (2, vI x2)] [] := by
  intro n
  induction n with
  | zero => intro x2 s q h; cases h
  | succ n ih =>
    intro x2 s q h rx2 hE
    unfold l_X9_clear_7 at h
    refine v_iload_n dX9_clear_7 1 rfl rfl ?_
    refine v_aload_n dX9_clear_8 0 rfl rfl ?_
    refine v_getS (f := 1) (t := o + 1) cf9 (okB_ok ho) rfl rfl rfl (by decide) q581 dX9_clear_9 ?_
    refine v_alen24 (okB_ok (ch_8_1 ho)) dX9_clear_12 ?_
    refine v_icmp_ge (tgt := 36) dX9_clear_13 rx2 (w32_rg _) (by decide) (fun c1 => ?_) (fun c1 => ?_)
    · rw [if_pos c1] at h
      cases h
      refine v_sub [0] (L1 := [(0, vO o)]) rfl ?_
      exact hE _ rfl 
    · rw [if_neg c1] at h
      refine v_aload_n dX9_clear_16 0 rfl rfl ?_
      refine v_getI (f := 3) cf9 (okB_ok ho) rfl (by decide) q583 dX9_clear_17 ?_
      refine v_if_le (tgt := 36) dX9_clear_20 (gI_rg _ _ _) (by decide) (fun c2 => ?_) (fun c2 => ?_)
      · rw [if_pos c2] at h
        cases h
        refine v_sub [0] (L1 := [(0, vO o)]) rfl ?_
        exact hE _ rfl 
      · rw [if_neg c2] at h
        refine v_aload_n dX9_clear_23 0 rfl rfl ?_
        refine v_getS (f := 1) (t := o + 1) cf9 (okB_ok ho) rfl rfl rfl (by decide) q581 dX9_clear_24 ?_
        refine v_iload_n dX9_clear_27 1 rfl rfl ?_
        refine v_iconst dX9_clear_28 ?_
        obtain ⟨g3, h⟩ := gd_some h
        obtain ⟨s4, e5, h⟩ := stp_some h
        refine v_iast (okB_ok (ch_8_1 ho)) rx2 g3.1 g3.2 dX9_clear_29 ?_
        rw [← e5]
        obtain ⟨y6, e7, h⟩ := vl_some h
        refine v_iinc (L1 := [(2, vI (w32 (x2 + 1))), (0, vO o)]) dX9_clear_30 1 rfl (by decide) rfl ?_
        rw [← e7]
        have r8 : rg y6 := by rw [e7]; exact w32_rg _
        refine v_goto (tgt := 7) dX9_clear_33 (by decide) ?_
        refine v_sub [1, 0] (L1 := [(0, vO o), (2, vI y6)]) rfl ?_
        exact ih y6 s4 _ h r8 hE

def f_X9_clear (o : Nat) (s : vS) : Option (vS) :=
  stp (sR s o 0 5) fun s1 =>
  lq_0 (l_X9_clear_7 o FU 0 s1) fun s3 =>
  stp (sI s3 o 3 0) fun s5 =>
  some s5
theorem yk_X9_clear : yOk yX9_clear 1 := ⟨by decide, by decide, by decide +kernel⟩
theorem c_X9_clear {o : Nat} {s : vS} {out : vS} (h : f_X9_clear o s = some out) (ho : okB o 8)  : VC yX9_clear cX9_clear 3 none 0 0 [vO o, vO 5] s none out [] := by
  unfold f_X9_clear at h
  refine VC.of RX9 (by decide) rfl (Nat.le_of_ble_eq_true rfl) ?_
  show VW cX9_clear (RX9, none, out, none, 0, 0, 3, []) (P0 []) s 0 [(0, vO o), (1, vO 5)] []
  refine v_aload_n dX9_clear_0 0 rfl rfl ?_
  refine v_aload_n dX9_clear_1 1 rfl rfl ?_
  obtain ⟨s1, e2, h⟩ := stp_some h
  refine v_putR (f := 0) cf9 (okB_ok ho) rfl (by decide) (by decide) q580 dX9_clear_2 rfl rfl ?_
  rw [← e2]
  refine v_iconst dX9_clear_5 ?_
  refine v_istore_n (L1 := [(2, vI 0), (0, vO o), (1, vO 5)]) dX9_clear_6 rfl (by decide) rfl ?_
  refine v_sub [1, 0] (L1 := [(0, vO o), (2, vI 0)]) rfl ?_
  obtain ⟨s3, e4, h⟩ := lq_0_some h
  refine wl_X9_clear_7 o ho FU 0 s1 _ e4 (rgl rfl) ?_
  unfold E_X9_clear_7
  intro s3' z_
  cases z_
  refine v_aload_n dX9_clear_36 0 rfl rfl ?_
  refine v_iconst dX9_clear_37 ?_
  obtain ⟨s5, e6, h⟩ := stp_some h
  refine v_putI (f := 3) cf9 (okB_ok ho) rfl (by decide) q583 dX9_clear_38 rfl rfl ?_
  rw [← e6]
  cases h
  exact v_vret dX9_clear_41

def f_X4_kind (x1 : Int) (s : vS) : Option (Int × vS) :=
  bd (f_X4_at x1 0 s) fun r4 s1 =>
  some (r4, s1)
theorem yk_X4_kind : yOk yX4_kind 1 := ⟨by decide, by decide, by decide +kernel⟩
theorem c_X4_kind {x1 : Int} {s : vS} {out : Int × vS} (h : f_X4_kind x1 s = some out)  (rx1 : rg x1) : VC yX4_kind cX4_kind 2 (some .int) 1 22 [vO 10, vI x1] s (some (vI out.1)) out.2 [] := by
  unfold f_X4_kind at h
  refine VC.of RX4 (by decide) rfl (Nat.le_of_ble_eq_true rfl) ?_
  show VW cX4_kind (RX4, (some (vI out.1)), out.2, (some .int), 1, 22, 2, []) (P0 []) s 0 [(0, vO 10), (1, vI x1)] []
  refine v_aload_n dX4_kind_0 0 rfl rfl ?_
  refine v_iload_n dX4_kind_1 1 rfl rfl ?_
  refine v_iconst dX4_kind_2 ?_
  obtain ⟨r4, s1, e2, h⟩ := bd_some h
  have k3 := c_X4_at e2 rx1 (rgl rfl)
  have r5 : rg r4 := k3.1.2.2
  refine v_callV (st := []) cf4 oc10 k3 (lw_V q1399 q1400 q1401 q301 q1402) rfl yk_X4_at ⟨Nat.le_of_ble_eq_true rfl, Nat.le_of_ble_eq_true rfl⟩ trivial ⟨kc10, trivial⟩ (Nat.le_of_ble_eq_true rfl) rfl dX4_kind_3 ?_
  cases h
  exact v_iret r5 dX4_kind_6

def f_X4_lexeme (x1 : Int) (s : vS) : Option (Int × vS) :=
  bd (f_X4_at x1 1 s) fun r4 s1 =>
  some (r4, s1)
theorem yk_X4_lexeme : yOk yX4_lexeme 1 := ⟨by decide, by decide, by decide +kernel⟩
theorem c_X4_lexeme {x1 : Int} {s : vS} {out : Int × vS} (h : f_X4_lexeme x1 s = some out)  (rx1 : rg x1) : VC yX4_lexeme cX4_lexeme 2 (some .int) 1 22 [vO 10, vI x1] s (some (vI out.1)) out.2 [] := by
  unfold f_X4_lexeme at h
  refine VC.of RX4 (by decide) rfl (Nat.le_of_ble_eq_true rfl) ?_
  show VW cX4_lexeme (RX4, (some (vI out.1)), out.2, (some .int), 1, 22, 2, []) (P0 []) s 0 [(0, vO 10), (1, vI x1)] []
  refine v_aload_n dX4_lexeme_0 0 rfl rfl ?_
  refine v_iload_n dX4_lexeme_1 1 rfl rfl ?_
  refine v_iconst dX4_lexeme_2 ?_
  obtain ⟨r4, s1, e2, h⟩ := bd_some h
  have k3 := c_X4_at e2 rx1 (rgl rfl)
  have r5 : rg r4 := k3.1.2.2
  refine v_callV (st := []) cf4 oc10 k3 (lw_V q1399 q1400 q1401 q301 q1402) rfl yk_X4_at ⟨Nat.le_of_ble_eq_true rfl, Nat.le_of_ble_eq_true rfl⟩ trivial ⟨kc10, trivial⟩ (Nat.le_of_ble_eq_true rfl) rfl dX4_lexeme_3 ?_
  cases h
  exact v_iret r5 dX4_lexeme_6

def E_X2_compare_3 (o : Nat) (p3 : Nat) (x1 : Int) (x2 : Int) (x4 : Int) (x5 : Int) (rv : Option vA) (σo : vS) (q : Int × vS) : Prop := ∀ (x6' : Int) (s' : vS), q = (x6', s') → rg x6' → VW cX2_compare (RX2, rv, σo, (some .int), 1, 21, 9, []) (P0 []) s' 49 [(0, vO o), (1, vI x1), (2, vI x2), (3, vO p3), (4, vI x4), (5, vI x5), (6, vI x6')] []
def l_X2_compare_3 (o : Nat) (p3 : Nat) : Nat → Int → Int → Int → Int → Int → vS → Option (Int × vS)
  | 0, _, _, _, _, _, _ => none
  | n + 1, x1, x2, x4, x5, x6, s =>
    if x2 ≤ (w32 (x1 + x6)) then
      some (x6, s)
    else
      if x5 ≤ (w32 (x4 + x6)) then
        some (x6, s)
      else
        gd (inb (w32 (x1 + x6)) (gN s (o + 1))) <|
        gd (inb (w32 (x4 + x6)) (gN s (p3 + 1))) <|
        if (gB s (o + 1) (w32 (x1 + x6))) = (gB s (p3 + 1) (w32 (x4 + x6))) then
          vl (w32 (x6 + 1)) fun y6 =>
          l_X2_compare_3 o p3 n x1 x2 x4 x5 y6 s
        else
          some (x6, s)
theorem wl_X2_compare_3 (o : Nat) (p3 : Nat) {x1 : Int} {x2 : Int} {x4 : Int} {x5 : Int} {rv : Option vA} {σo : vS} (ho : okB o 1) (hp3 : okB p3 1) (rx1 : rg x1) (rx2 : rg x2) (rx4 : rg x4) (rx5 : rg x5) : ∀ (n : Nat) (x6 : Int) (s : vS) (q : Int × vS), l_X2_compare_3 o p3 n x1 x2 x4 x5 x6 s = some q → rg x6 → E_X2_compare_3 o p3 x1 x2 x4 x5 rv σo q → VW cX2_compare (RX2, rv, σo, (some .int), 1, 21, 9, []) (P0 []) s 3 [(0, vO o), (1, vI x1), (2, vI x2), (3, vO p3), (4, vI x4), (5, vI x5), (6, vI x6)] [] := by
  intro n
  induction n with
  | zero => intro x6 s q h; cases h
  | succ n ih =>
    intro x6 s q h rx6 hE
    unfold l_X2_compare_3 at h
    refine v_iload_n dX2_compare_3 1 rfl rfl ?_
    refine v_iload dX2_compare_4 6 rfl ?_
    refine v_iadd dX2_compare_6 ?_
    refine v_iload_n dX2_compare_7 2 rfl rfl ?_
    refine v_icmp_ge (tgt := 49) dX2_compare_8 (w32_rg _) rx2 (by decide) (fun c1 => ?_) (fun c1 => ?_)
    · rw [if_pos c1] at h
      cases h
      exact hE _ _ rfl rx6
    · rw [if_neg c1] at h
      refine v_iload dX2_compare_11 4 rfl ?_
      refine v_iload dX2_compare_13 6 rfl ?_
      refine v_iadd dX2_compare_15 ?_
      refine v_iload dX2_compare_16 5 rfl ?_
      refine v_icmp_ge (tgt := 49) dX2_compare_18 (w32_rg _) rx5 (by decide) (fun c2 => ?_) (fun c2 => ?_)
      · rw [if_pos c2] at h
        cases h
        exact hE _ _ rfl rx6
      · rw [if_neg c2] at h
        refine v_aload_n dX2_compare_21 0 rfl rfl ?_
        refine v_getS (f := 0) (t := o + 1) cf2 (okB_ok ho) rfl rfl rfl (by decide) q340 dX2_compare_22 ?_
        refine v_iload_n dX2_compare_25 1 rfl rfl ?_
        refine v_iload dX2_compare_26 6 rfl ?_
        refine v_iadd dX2_compare_28 ?_
        obtain ⟨g3, h⟩ := gd_some h
        refine v_bald (okB_ok (ch_1_0 ho)) (w32_rg _) g3.1 g3.2 dX2_compare_29 ?_
        refine v_aload_n dX2_compare_30 3 rfl rfl ?_
        refine v_getS (f := 0) (t := p3 + 1) cf2 (okB_ok hp3) rfl rfl rfl (by decide) q340 dX2_compare_31 ?_
        refine v_iload dX2_compare_34 4 rfl ?_
        refine v_iload dX2_compare_36 6 rfl ?_
        refine v_iadd dX2_compare_38 ?_
        obtain ⟨g4, h⟩ := gd_some h
        refine v_bald (okB_ok (ch_1_0 hp3)) (w32_rg _) g4.1 g4.2 dX2_compare_39 ?_
        refine v_icmp_ne (tgt := 49) dX2_compare_40 (gB_rg _ _ _) (gB_rg _ _ _) (by decide) (fun c5 => ?_) (fun c5 => ?_)
        · rw [if_neg c5] at h
          cases h
          exact hE _ _ rfl rx6
        · rw [if_pos c5] at h
          obtain ⟨y6, e7, h⟩ := vl_some h
          refine v_iinc (L1 := [(6, vI (w32 (x6 + 1))), (0, vO o), (1, vI x1), (2, vI x2), (3, vO p3), (4, vI x4), (5, vI x5)]) dX2_compare_43 6 rfl (by decide) rfl ?_
          rw [← e7]
          have r8 : rg y6 := by rw [e7]; exact w32_rg _
          refine v_goto (tgt := 3) dX2_compare_46 (by decide) ?_
          refine v_sub [1, 2, 3, 4, 5, 6, 0] (L1 := [(0, vO o), (1, vI x1), (2, vI x2), (3, vO p3), (4, vI x4), (5, vI x5), (6, vI y6)]) rfl ?_
          exact ih y6 s _ h r8 hE

def j_X2_compare_112 (o : Nat) (p3 : Nat) (x7 : Int) (x8 : Int) (s : vS) : Option (Int × vS) :=
  if x7 = 0 then
    if x8 = 0 then
      some (0, s)
    else
      some ((-1), s)
  else
    some (1, s)
theorem wj_X2_compare_112 {o : Nat} {p3 : Nat} {x7 : Int} {x8 : Int} {s : vS} {out : Int × vS} (h : j_X2_compare_112 o p3 x7 x8 s = some out) (ho : okB o 1) (hp3 : okB p3 1) (rx7 : rg x7) (rx8 : rg x8) : VW cX2_compare (RX2, (some (vI out.1)), out.2, (some .int), 1, 21, 9, []) (P0 []) s 112 [(7, vI x7), (8, vI x8)] [] := by
  unfold j_X2_compare_112 at h
  refine v_iload dX2_compare_112 0 rfl ?_
  refine v_if_eq (tgt := 121) dX2_compare_114 rx7 (by decide) (fun c1 => ?_) (fun c1 => ?_)
  · rw [if_pos c1] at h
    refine v_iload dX2_compare_121 1 rfl ?_
    refine v_if_eq (tgt := 130) dX2_compare_123 rx8 (by decide) (fun c2 => ?_) (fun c2 => ?_)
    · rw [if_pos c2] at h
      refine v_iconst dX2_compare_130 ?_
      cases h
      exact v_iret (rgl rfl) dX2_compare_131
    · rw [if_neg c2] at h
      refine v_iconst dX2_compare_126 ?_
      refine v_goto (tgt := 131) dX2_compare_127 (by decide) ?_
      cases h
      exact v_iret (rgl rfl) dX2_compare_131
  · rw [if_neg c1] at h
    refine v_iconst dX2_compare_117 ?_
    refine v_goto (tgt := 131) dX2_compare_118 (by decide) ?_
    cases h
    exact v_iret (rgl rfl) dX2_compare_131

def j_X2_compare_79 (o : Nat) (p3 : Nat) (x1 : Int) (x4 : Int) (x6 : Int) (x7 : Int) (z0 : Int) (s : vS) : Option (Int × vS) :=
  if x7 = 0 then
    j_X2_compare_112 o p3 x7 z0 s
  else
    if z0 = 0 then
      j_X2_compare_112 o p3 x7 z0 s
    else
      bd (f_X2_at o (w32 (x1 + x6)) s) fun r6 s3 =>
      bd (f_X2_at p3 (w32 (x4 + x6)) s3) fun r11 s8 =>
      some (w32 (r6 - r11), s8)
theorem wj_X2_compare_79 {o : Nat} {p3 : Nat} {x1 : Int} {x4 : Int} {x6 : Int} {x7 : Int} {z0 : Int} {s : vS} {out : Int × vS} (h : j_X2_compare_79 o p3 x1 x4 x6 x7 z0 s = some out) (ho : okB o 1) (hp3 : okB p3 1) (rx1 : rg x1) (rx4 : rg x4) (rx6 : rg x6) (rx7 : rg x7) (rz0 : rg z0) : VW cX2_compare (RX2, (some (vI out.1)), out.2, (some .int), 1, 21, 9, []) (P0 []) s 79 [(0, vO o), (1, vI x1), (3, vO p3), (4, vI x4), (6, vI x6), (7, vI x7)] [vI z0] := by
  unfold j_X2_compare_79 at h
  refine v_istore (L1 := [(8, vI z0), (0, vO o), (1, vI x1), (3, vO p3), (4, vI x4), (6, vI x6), (7, vI x7)]) dX2_compare_79 (by decide) rfl ?_
  refine v_iload dX2_compare_81 6 rfl ?_
  refine v_if_eq (tgt := 112) dX2_compare_83 rx7 (by decide) (fun c1 => ?_) (fun c1 => ?_)
  · rw [if_pos c1] at h
    refine v_sub [6, 0] (L1 := [(7, vI x7), (8, vI z0)]) rfl ?_
    exact wj_X2_compare_112 h ho hp3 rx7 rz0
  · rw [if_neg c1] at h
    refine v_iload dX2_compare_86 0 rfl ?_
    refine v_if_eq (tgt := 112) dX2_compare_88 rz0 (by decide) (fun c2 => ?_) (fun c2 => ?_)
    · rw [if_pos c2] at h
      refine v_sub [6, 0] (L1 := [(7, vI x7), (8, vI z0)]) rfl ?_
      exact wj_X2_compare_112 h ho hp3 rx7 rz0
    · rw [if_neg c2] at h
      refine v_aload_n dX2_compare_91 1 rfl rfl ?_
      refine v_iload_n dX2_compare_92 2 rfl rfl ?_
      refine v_iload dX2_compare_93 5 rfl ?_
      refine v_iadd dX2_compare_95 ?_
      obtain ⟨r6, s3, e4, h⟩ := bd_some h
      have k5 := c_X2_at e4 ho (w32_rg _)
      have r7 : rg r6 := k5.1.2.2
      refine v_callV (st := []) cf2 (okB_ok ho) k5 (lw_V q1473 q1072 q1073 q299 q1074) rfl yk_X2_at ⟨Nat.le_of_ble_eq_true rfl, Nat.le_of_ble_eq_true rfl⟩ trivial ⟨(okB_kp ho (by decide)), (okB_kp hp3 (by decide)), trivial⟩ (Nat.le_of_ble_eq_true rfl) rfl dX2_compare_96 ?_
      refine v_aload_n dX2_compare_99 3 rfl rfl ?_
      refine v_iload dX2_compare_100 4 rfl ?_
      refine v_iload dX2_compare_102 5 rfl ?_
      refine v_iadd dX2_compare_104 ?_
      obtain ⟨r11, s8, e9, h⟩ := bd_some h
      have k10 := c_X2_at e9 hp3 (w32_rg _)
      have r12 : rg r11 := k10.1.2.2
      refine v_callV (st := [vI r6]) cf2 (okB_ok hp3) k10 (lw_V q1473 q1072 q1073 q299 q1074) rfl yk_X2_at ⟨Nat.le_of_ble_eq_true rfl, Nat.le_of_ble_eq_true rfl⟩ trivial ⟨(okB_kp ho (by decide)), (okB_kp hp3 (by decide)), trivial⟩ (Nat.le_of_ble_eq_true rfl) rfl dX2_compare_105 ?_
      refine v_isub dX2_compare_108 ?_
      refine v_goto (tgt := 131) dX2_compare_109 (by decide) ?_
      cases h
      exact v_iret (w32_rg _) dX2_compare_131

def j_X2_compare_62 (o : Nat) (p3 : Nat) (x1 : Int) (x4 : Int) (x5 : Int) (x6 : Int) (z0 : Int) (s : vS) : Option (Int × vS) :=
  if x5 ≤ (w32 (x4 + x6)) then
    j_X2_compare_79 o p3 x1 x4 x6 z0 0 s
  else
    j_X2_compare_79 o p3 x1 x4 x6 z0 1 s
theorem wj_X2_compare_62 {o : Nat} {p3 : Nat} {x1 : Int} {x4 : Int} {x5 : Int} {x6 : Int} {z0 : Int} {s : vS} {out : Int × vS} (h : j_X2_compare_62 o p3 x1 x4 x5 x6 z0 s = some out) (ho : okB o 1) (hp3 : okB p3 1) (rx1 : rg x1) (rx4 : rg x4) (rx5 : rg x5) (rx6 : rg x6) (rz0 : rg z0) : VW cX2_compare (RX2, (some (vI out.1)), out.2, (some .int), 1, 21, 9, []) (P0 []) s 62 [(0, vO o), (1, vI x1), (3, vO p3), (4, vI x4), (5, vI x5), (6, vI x6)] [vI z0] := by
  unfold j_X2_compare_62 at h
  refine v_istore (L1 := [(7, vI z0), (0, vO o), (1, vI x1), (3, vO p3), (4, vI x4), (5, vI x5), (6, vI x6)]) dX2_compare_62 (by decide) rfl ?_
  refine v_iload dX2_compare_64 4 rfl ?_
  refine v_iload dX2_compare_66 6 rfl ?_
  refine v_iadd dX2_compare_68 ?_
  refine v_iload dX2_compare_69 5 rfl ?_
  refine v_icmp_ge (tgt := 78) dX2_compare_71 (w32_rg _) rx5 (by decide) (fun c1 => ?_) (fun c1 => ?_)
  · rw [if_pos c1] at h
    refine v_iconst dX2_compare_78 ?_
    refine v_sub [1, 2, 3, 4, 6, 0] (L1 := [(0, vO o), (1, vI x1), (3, vO p3), (4, vI x4), (6, vI x6), (7, vI z0)]) rfl ?_
    exact wj_X2_compare_79 h ho hp3 rx1 rx4 rx6 rz0 (rgl rfl)
  · rw [if_neg c1] at h
    refine v_iconst dX2_compare_74 ?_
    refine v_goto (tgt := 79) dX2_compare_75 (by decide) ?_
    refine v_sub [1, 2, 3, 4, 6, 0] (L1 := [(0, vO o), (1, vI x1), (3, vO p3), (4, vI x4), (6, vI x6), (7, vI z0)]) rfl ?_
    exact wj_X2_compare_79 h ho hp3 rx1 rx4 rx6 rz0 (rgl rfl)

def j_X2_compare_49 (o : Nat) (p3 : Nat) (x1 : Int) (x2 : Int) (x4 : Int) (x5 : Int) (x6 : Int) (s : vS) : Option (Int × vS) :=
  if x2 ≤ (w32 (x1 + x6)) then
    j_X2_compare_62 o p3 x1 x4 x5 x6 0 s
  else
    j_X2_compare_62 o p3 x1 x4 x5 x6 1 s
theorem wj_X2_compare_49 {o : Nat} {p3 : Nat} {x1 : Int} {x2 : Int} {x4 : Int} {x5 : Int} {x6 : Int} {s : vS} {out : Int × vS} (h : j_X2_compare_49 o p3 x1 x2 x4 x5 x6 s = some out) (ho : okB o 1) (hp3 : okB p3 1) (rx1 : rg x1) (rx2 : rg x2) (rx4 : rg x4) (rx5 : rg x5) (rx6 : rg x6) : VW cX2_compare (RX2, (some (vI out.1)), out.2, (some .int), 1, 21, 9, []) (P0 []) s 49 [(0, vO o), (1, vI x1), (2, vI x2), (3, vO p3), (4, vI x4), (5, vI x5), (6, vI x6)] [] := by
  unfold j_X2_compare_49 at h
  refine v_iload_n dX2_compare_49 1 rfl rfl ?_
  refine v_iload dX2_compare_50 6 rfl ?_
  refine v_iadd dX2_compare_52 ?_
  refine v_iload_n dX2_compare_53 2 rfl rfl ?_
  refine v_icmp_ge (tgt := 61) dX2_compare_54 (w32_rg _) rx2 (by decide) (fun c1 => ?_) (fun c1 => ?_)
  · rw [if_pos c1] at h
    refine v_iconst dX2_compare_61 ?_
    refine v_sub [0, 1, 3, 4, 5, 6] (L1 := [(0, vO o), (1, vI x1), (3, vO p3), (4, vI x4), (5, vI x5), (6, vI x6)]) rfl ?_
    exact wj_X2_compare_62 h ho hp3 rx1 rx4 rx5 rx6 (rgl rfl)
  · rw [if_neg c1] at h
    refine v_iconst dX2_compare_57 ?_
    refine v_goto (tgt := 62) dX2_compare_58 (by decide) ?_
    refine v_sub [0, 1, 3, 4, 5, 6] (L1 := [(0, vO o), (1, vI x1), (3, vO p3), (4, vI x4), (5, vI x5), (6, vI x6)]) rfl ?_
    exact wj_X2_compare_62 h ho hp3 rx1 rx4 rx5 rx6 (rgl rfl)

def f_X2_compare (o : Nat) (x1 : Int) (x2 : Int) (p3 : Nat) (x4 : Int) (x5 : Int) (s : vS) : Option (Int × vS) :=
  lq_1 (l_X2_compare_3 o p3 FU x1 x2 x4 x5 0 s) fun y1 s2 =>
  j_X2_compare_49 o p3 x1 x2 x4 x5 y1 s2
theorem yk_X2_compare : yOk yX2_compare 5 := ⟨by decide, by decide, by decide +kernel⟩
theorem c_X2_compare {o : Nat} {x1 : Int} {x2 : Int} {p3 : Nat} {x4 : Int} {x5 : Int} {s : vS} {out : Int × vS} (h : f_X2_compare o x1 x2 p3 x4 x5 s = some out) (ho : okB o 1) (hp3 : okB p3 1) (rx1 : rg x1) (rx2 : rg x2) (rx4 : rg x4) (rx5 : rg x5) : VC yX2_compare cX2_compare 9 (some .int) 1 21 [vO o, vI x1, vI x2, vO p3, vI x4, vI x5] s (some (vI out.1)) out.2 [] := by
  unfold f_X2_compare at h
  refine VC.of RX2 (by decide) rfl (Nat.le_of_ble_eq_true rfl) ?_
  show VW cX2_compare (RX2, (some (vI out.1)), out.2, (some .int), 1, 21, 9, []) (P0 []) s 0 [(0, vO o), (1, vI x1), (2, vI x2), (3, vO p3), (4, vI x4), (5, vI x5)] []
  refine v_iconst dX2_compare_0 ?_
  refine v_istore (L1 := [(6, vI 0), (0, vO o), (1, vI x1), (2, vI x2), (3, vO p3), (4, vI x4), (5, vI x5)]) dX2_compare_1 (by decide) rfl ?_
  refine v_sub [1, 2, 3, 4, 5, 6, 0] (L1 := [(0, vO o), (1, vI x1), (2, vI x2), (3, vO p3), (4, vI x4), (5, vI x5), (6, vI 0)]) rfl ?_
  obtain ⟨y1, s2, e3, h⟩ := lq_1_some h
  refine wl_X2_compare_3 o p3 ho hp3 rx1 rx2 rx4 rx5 FU 0 s _ e3 (rgl rfl) ?_
  unfold E_X2_compare_3
  intro y1' s2' z_ r4
  cases z_
  exact wj_X2_compare_49 h ho hp3 rx1 rx2 rx4 rx5 r4

def f_X3_isLike (x1 : Int) (x2 : Int) (s : vS) : Option (Int × vS) :=
  gd (inb x1 (gN s 9)) <|
  gd (inb x1 (gN s 8)) <|
  gd (inb x2 (gN s 9)) <|
  gd (inb x2 (gN s 8)) <|
  if (w32 ((gE s 9 x1) - (gE s 8 x1))) = (w32 ((gE s 9 x2) - (gE s 8 x2))) then
    gd (okB (gR s 5 2) 1) <|
    gd (inb x1 (gN s 8)) <|
    gd (inb x1 (gN s 9)) <|
    gd (okB (gR s 5 2) 1) <|
    gd (inb x2 (gN s 8)) <|
    gd (inb x2 (gN s 9)) <|
    bd (f_X2_compare (gR s 5 2) (gE s 8 x1) (gE s 9 x1) (gR s 5 2) (gE s 8 x2) (gE s 9 x2) s) fun r15 s12 =>
    if r15 = 0 then
      some (1, s12)
    else
      some (0, s12)
  else
    some (0, s)
theorem yk_X3_isLike : yOk yX3_isLike 2 := ⟨by decide, by decide, by decide +kernel⟩
theorem c_X3_isLike {x1 : Int} {x2 : Int} {s : vS} {out : Int × vS} (h : f_X3_isLike x1 x2 s = some out)  (rx1 : rg x1) (rx2 : rg x2) : VC yX3_isLike cX3_isLike 3 (some .boolean) 2 49 [vO 5, vI x1, vI x2] s (some (vI out.1)) out.2 [] := by
  unfold f_X3_isLike at h
  refine VC.of RX3 (by decide) rfl (Nat.le_of_ble_eq_true rfl) ?_
  show VW cX3_isLike (RX3, (some (vI out.1)), out.2, (some .boolean), 2, 49, 3, []) (P0 []) s 0 [(0, vO 5), (1, vI x1), (2, vI x2)] []
  refine v_aload_n dX3_isLike_0 0 rfl rfl ?_
  refine v_getS (f := 6) (t := 9) cf3 oc5 rfl rfl rfl (by decide) q440 dX3_isLike_1 ?_
  refine v_iload_n dX3_isLike_4 1 rfl rfl ?_
  obtain ⟨g1, h⟩ := gd_some h
  refine v_iald oc9 rx1 g1.1 g1.2 dX3_isLike_5 ?_
  refine v_aload_n dX3_isLike_6 0 rfl rfl ?_
  refine v_getS (f := 5) (t := 8) cf3 oc5 rfl rfl rfl (by decide) q439 dX3_isLike_7 ?_
  refine v_iload_n dX3_isLike_10 1 rfl rfl ?_
  obtain ⟨g2, h⟩ := gd_some h
  refine v_iald oc8 rx1 g2.1 g2.2 dX3_isLike_11 ?_
  refine v_isub dX3_isLike_12 ?_
  refine v_aload_n dX3_isLike_13 0 rfl rfl ?_
  refine v_getS (f := 6) (t := 9) cf3 oc5 rfl rfl rfl (by decide) q440 dX3_isLike_14 ?_
  refine v_iload_n dX3_isLike_17 2 rfl rfl ?_
  obtain ⟨g3, h⟩ := gd_some h
  refine v_iald oc9 rx2 g3.1 g3.2 dX3_isLike_18 ?_
  refine v_aload_n dX3_isLike_19 0 rfl rfl ?_
  refine v_getS (f := 5) (t := 8) cf3 oc5 rfl rfl rfl (by decide) q439 dX3_isLike_20 ?_
  refine v_iload_n dX3_isLike_23 2 rfl rfl ?_
  obtain ⟨g4, h⟩ := gd_some h
  refine v_iald oc8 rx2 g4.1 g4.2 dX3_isLike_24 ?_
  refine v_isub dX3_isLike_25 ?_
  refine v_icmp_ne (tgt := 71) dX3_isLike_26 (w32_rg _) (w32_rg _) (by decide) (fun c5 => ?_) (fun c5 => ?_)
  · rw [if_neg c5] at h
    refine v_iconst dX3_isLike_71 ?_
    cases h
    exact v_zret (Or.inl rfl) dX3_isLike_72
  · rw [if_pos c5] at h
    refine v_aload_n dX3_isLike_29 0 rfl rfl ?_
    obtain ⟨g6, h⟩ := gd_some h
    refine v_getR (f := 2) cf3 oc5 rfl (okB_R g6 (by decide) (by decide)) (by decide) q436 dX3_isLike_30 ?_
    refine v_aload_n dX3_isLike_33 0 rfl rfl ?_
    refine v_getS (f := 5) (t := 8) cf3 oc5 rfl rfl rfl (by decide) q439 dX3_isLike_34 ?_
    refine v_iload_n dX3_isLike_37 1 rfl rfl ?_
    obtain ⟨g7, h⟩ := gd_some h
    refine v_iald oc8 rx1 g7.1 g7.2 dX3_isLike_38 ?_
    refine v_aload_n dX3_isLike_39 0 rfl rfl ?_
    refine v_getS (f := 6) (t := 9) cf3 oc5 rfl rfl rfl (by decide) q440 dX3_isLike_40 ?_
    refine v_iload_n dX3_isLike_43 1 rfl rfl ?_
    obtain ⟨g8, h⟩ := gd_some h
    refine v_iald oc9 rx1 g8.1 g8.2 dX3_isLike_44 ?_
    refine v_aload_n dX3_isLike_45 0 rfl rfl ?_
    obtain ⟨g9, h⟩ := gd_some h
    refine v_getR (f := 2) cf3 oc5 rfl (okB_R g9 (by decide) (by decide)) (by decide) q436 dX3_isLike_46 ?_
    refine v_aload_n dX3_isLike_49 0 rfl rfl ?_
    refine v_getS (f := 5) (t := 8) cf3 oc5 rfl rfl rfl (by decide) q439 dX3_isLike_50 ?_
    refine v_iload_n dX3_isLike_53 2 rfl rfl ?_
    obtain ⟨g10, h⟩ := gd_some h
    refine v_iald oc8 rx2 g10.1 g10.2 dX3_isLike_54 ?_
    refine v_aload_n dX3_isLike_55 0 rfl rfl ?_
    refine v_getS (f := 6) (t := 9) cf3 oc5 rfl rfl rfl (by decide) q440 dX3_isLike_56 ?_
    refine v_iload_n dX3_isLike_59 2 rfl rfl ?_
    obtain ⟨g11, h⟩ := gd_some h
    refine v_iald oc9 rx2 g11.1 g11.2 dX3_isLike_60 ?_
    obtain ⟨r15, s12, e13, h⟩ := bd_some h
    have k14 := c_X2_compare e13 g6 g9 (gE_rg _ _ _) (gE_rg _ _ _) (gE_rg _ _ _) (gE_rg _ _ _)
    have r16 : rg r15 := k14.1.2.2
    refine v_callV (st := []) cf2 (okB_ok g6) k14 (lw_V q1469 q1470 q1471 q299 q1472) rfl yk_X2_compare ⟨Nat.le_of_ble_eq_true rfl, Nat.le_of_ble_eq_true rfl⟩ trivial ⟨kc5, trivial⟩ (Nat.le_of_ble_eq_true rfl) rfl dX3_isLike_61 ?_
    refine v_if_ne (tgt := 71) dX3_isLike_64 r16 (by decide) (fun c17 => ?_) (fun c17 => ?_)
    · rw [if_neg c17] at h
      refine v_iconst dX3_isLike_71 ?_
      cases h
      exact v_zret (Or.inl rfl) dX3_isLike_72
    · rw [if_pos c17] at h
      refine v_iconst dX3_isLike_67 ?_
      refine v_goto (tgt := 72) dX3_isLike_68 (by decide) ?_
      cases h
      exact v_zret (Or.inr rfl) dX3_isLike_72

def E_X9_slot_11 (o : Nat) (x1 : Int) (rv : Option vA) (σo : vS) (q : Int × vS) : Prop := ∀ (x2' : Int) (s' : vS), q = (x2', s') → rg x2' → VW cX9_slot (RX9, rv, σo, (some .int), 3, 71, 4, []) (P0 []) s' 46 [(0, vO o), (1, vI x1), (2, vI x2')] []
def l_X9_slot_11 (o : Nat) : Nat → Int → Int → Int → vS → Option (Int × vS)
  | 0, _, _, _, _ => none
  | n + 1, x1, x2, x3, s =>
    gd (gR s o 0 = 5) <|
    bd (f_X3_end x1 s) fun r5 s2 =>
    if r5 ≤ x3 then
      some (x2, s2)
    else
      gd (gR s2 o 0 = 5) <|
      bdo (f_X3_text s2) fun r12 s9 =>
      gd (okB r12 1) <|
      bd (f_X2_at r12 x3 s9) fun r17 s14 =>
      vl (w32 ((w32 (31 * x2)) + r17)) fun y19 =>
      vl (w32 (x3 + 1)) fun y22 =>
      l_X9_slot_11 o n x1 y19 y22 s14
theorem wl_X9_slot_11 (o : Nat) {x1 : Int} {rv : Option vA} {σo : vS} (ho : okB o 8) (rx1 : rg x1) : ∀ (n : Nat) (x2 : Int) (x3 : Int) (s : vS) (q : Int × vS), l_X9_slot_11 o n x1 x2 x3 s = some q → rg x2 → rg x3 → E_X9_slot_11 o x1 rv σo q → VW cX9_slot (RX9, rv, σo, (some .int), 3, 71, 4, []) (P0 []) s 11 [(0, vO o), (1, vI x1), (2, vI x2), (3, vI x3)] [] := by
  intro n
  induction n with
  | zero => intro x2 x3 s q h; cases h
  | succ n ih =>
    intro x2 x3 s q h rx2 rx3 hE
    unfold l_X9_slot_11 at h
    refine v_iload_n dX9_slot_11 3 rfl rfl ?_
    refine v_aload_n dX9_slot_12 0 rfl rfl ?_
    obtain ⟨g1, h⟩ := gd_some h
    refine v_getR (f := 0) cf9 (okB_ok ho) rfl (by rw [g1]; decide) (by decide) q580 dX9_slot_13 ?_
    rw [g1]
    refine v_iload_n dX9_slot_16 1 rfl rfl ?_
    obtain ⟨r5, s2, e3, h⟩ := bd_some h
    have k4 := c_X3_end e3 rx1
    have r6 : rg r5 := k4.1.2.2
    refine v_callV (st := [vI x3]) cf3 oc5 k4 (lw_V q1462 q1322 q1323 q300 q1324) rfl yk_X3_end ⟨Nat.le_of_ble_eq_true rfl, Nat.le_of_ble_eq_true rfl⟩ trivial ⟨(okB_kp ho (by decide)), trivial⟩ (Nat.le_of_ble_eq_true rfl) rfl dX9_slot_17 ?_
    refine v_icmp_ge (tgt := 46) dX9_slot_20 rx3 r6 (by decide) (fun c7 => ?_) (fun c7 => ?_)
    · rw [if_pos c7] at h
      cases h
      refine v_sub [0, 1, 2] (L1 := [(0, vO o), (1, vI x1), (2, vI x2)]) rfl ?_
      exact hE _ _ rfl rx2
    · rw [if_neg c7] at h
      refine v_bipush dX9_slot_23 rfl ?_
      refine v_iload_n dX9_slot_25 2 rfl rfl ?_
      refine v_imul dX9_slot_26 ?_
      refine v_aload_n dX9_slot_27 0 rfl rfl ?_
      obtain ⟨g8, h⟩ := gd_some h
      refine v_getR (f := 0) cf9 (okB_ok ho) rfl (by rw [g8]; decide) (by decide) q580 dX9_slot_28 ?_
      rw [g8]
      obtain ⟨r12, s9, e10, h⟩ := bdo_some h
      have k11 := c_X3_text e10
      obtain ⟨g13, h⟩ := gd_some h
      refine v_callV (st := [vI (w32 (31 * x2))]) cf3 oc5 k11 (lw_V q1463 q1328 q1329 q300 q1330) rfl yk_X3_text ⟨Nat.le_of_ble_eq_true rfl, Nat.le_of_ble_eq_true rfl⟩ trivial ⟨(okB_kp ho (by decide)), trivial⟩ (Nat.le_of_ble_eq_true rfl) rfl dX9_slot_31 ?_
      refine v_iload_n dX9_slot_34 3 rfl rfl ?_
      obtain ⟨r17, s14, e15, h⟩ := bd_some h
      have k16 := c_X2_at e15 g13 rx3
      have r18 : rg r17 := k16.1.2.2
      refine v_callV (st := [vI (w32 (31 * x2))]) cf2 (okB_ok g13) k16 (lw_V q1464 q1072 q1073 q299 q1074) rfl yk_X2_at ⟨Nat.le_of_ble_eq_true rfl, Nat.le_of_ble_eq_true rfl⟩ trivial ⟨(okB_kp ho (by decide)), trivial⟩ (Nat.le_of_ble_eq_true rfl) rfl dX9_slot_35 ?_
      refine v_iadd dX9_slot_38 ?_
      obtain ⟨y19, e20, h⟩ := vl_some h
      rw [← e20]
      have r21 : rg y19 := by rw [e20]; exact w32_rg _
      refine v_istore_n (L1 := [(2, vI y19), (0, vO o), (1, vI x1), (3, vI x3)]) dX9_slot_39 rfl (by decide) rfl ?_
      obtain ⟨y22, e23, h⟩ := vl_some h
      refine v_iinc (L1 := [(3, vI (w32 (x3 + 1))), (2, vI y19), (0, vO o), (1, vI x1)]) dX9_slot_40 3 rfl (by decide) rfl ?_
      rw [← e23]
      have r24 : rg y22 := by rw [e23]; exact w32_rg _
      refine v_goto (tgt := 11) dX9_slot_43 (by decide) ?_
      refine v_sub [2, 3, 1, 0] (L1 := [(0, vO o), (1, vI x1), (2, vI y19), (3, vI y22)]) rfl ?_
      exact ih y19 y22 s14 _ h r21 r24 hE

def E_X9_slot_61 (o : Nat) (rv : Option vA) (σo : vS) (q : Int × vS) : Prop := ∀ (x3' : Int) (s' : vS), q = (x3', s') → rg x3' → VW cX9_slot (RX9, rv, σo, (some .int), 3, 71, 4, []) (P0 []) s' 104 [(3, vI x3')] []
def l_X9_slot_61 (o : Nat) : Nat → Int → Int → vS → Option (Int × vS)
  | 0, _, _, _ => none
  | n + 1, x1, x3, s =>
    gd (inb x3 (gN s (o + 1))) <|
    if (gE s (o + 1) x3) ≤ 0 then
      some (x3, s)
    else
      gd (gR s o 0 = 5) <|
      gd (inb x3 (gN s (o + 1))) <|
      bd (f_X3_isLike (w32 ((gE s (o + 1) x3) - 1)) x1 s) fun r8 s5 =>
      if r8 = 0 then
        vl (and32 (w32 (x3 + 1)) (w32 ((w32 (gN s5 (o + 1) : Int)) - 1))) fun y11 =>
        l_X9_slot_61 o n x1 y11 s5
      else
        some (x3, s5)
theorem wl_X9_slot_61 (o : Nat) {x1 : Int} {rv : Option vA} {σo : vS} (ho : okB o 8) (rx1 : rg x1) : ∀ (n : Nat) (x3 : Int) (s : vS) (q : Int × vS), l_X9_slot_61 o n x1 x3 s = some q → rg x3 → E_X9_slot_61 o rv σo q → VW cX9_slot (RX9, rv, σo, (some .int), 3, 71, 4, []) (P0 []) s 61 [(0, vO o), (1, vI x1), (3, vI x3)] [] := by
  intro n
  induction n with
  | zero => intro x3 s q h; cases h
  | succ n ih =>
    intro x3 s q h rx3 hE
    unfold l_X9_slot_61 at h
    refine v_aload_n dX9_slot_61 0 rfl rfl ?_
    refine v_getS (f := 1) (t := o + 1) cf9 (okB_ok ho) rfl rfl rfl (by decide) q581 dX9_slot_62 ?_
    refine v_iload_n dX9_slot_65 2 rfl rfl ?_
    obtain ⟨g1, h⟩ := gd_some h
    refine v_iald (okB_ok (ch_8_1 ho)) rx3 g1.1 g1.2 dX9_slot_66 ?_
    refine v_if_le (tgt := 104) dX9_slot_67 (gE_rg _ _ _) (by decide) (fun c2 => ?_) (fun c2 => ?_)
    · rw [if_pos c2] at h
      cases h
      refine v_sub [2] (L1 := [(3, vI x3)]) rfl ?_
      exact hE _ _ rfl rx3
    · rw [if_neg c2] at h
      refine v_aload_n dX9_slot_70 0 rfl rfl ?_
      obtain ⟨g3, h⟩ := gd_some h
      refine v_getR (f := 0) cf9 (okB_ok ho) rfl (by rw [g3]; decide) (by decide) q580 dX9_slot_71 ?_
      rw [g3]
      refine v_aload_n dX9_slot_74 0 rfl rfl ?_
      refine v_getS (f := 1) (t := o + 1) cf9 (okB_ok ho) rfl rfl rfl (by decide) q581 dX9_slot_75 ?_
      refine v_iload_n dX9_slot_78 2 rfl rfl ?_
      obtain ⟨g4, h⟩ := gd_some h
      refine v_iald (okB_ok (ch_8_1 ho)) rx3 g4.1 g4.2 dX9_slot_79 ?_
      refine v_iconst dX9_slot_80 ?_
      refine v_isub dX9_slot_81 ?_
      refine v_iload_n dX9_slot_82 1 rfl rfl ?_
      obtain ⟨r8, s5, e6, h⟩ := bd_some h
      have k7 := c_X3_isLike e6 (w32_rg _) rx1
      have r9 : rg r8 := k7.1.2.2
      refine v_callV (st := []) cf3 oc5 k7 (lw_V q1465 q1466 q1467 q300 q1468) rfl yk_X3_isLike ⟨Nat.le_of_ble_eq_true rfl, Nat.le_of_ble_eq_true rfl⟩ trivial ⟨(okB_kp ho (by decide)), trivial⟩ (Nat.le_of_ble_eq_true rfl) rfl dX9_slot_83 ?_
      refine v_if_ne (tgt := 104) dX9_slot_86 r9 (by decide) (fun c10 => ?_) (fun c10 => ?_)
      · rw [if_neg c10] at h
        cases h
        refine v_sub [2] (L1 := [(3, vI x3)]) rfl ?_
        exact hE _ _ rfl rx3
      · rw [if_pos c10] at h
        refine v_iload_n dX9_slot_89 2 rfl rfl ?_
        refine v_iconst dX9_slot_90 ?_
        refine v_iadd dX9_slot_91 ?_
        refine v_aload_n dX9_slot_92 0 rfl rfl ?_
        refine v_getS (f := 1) (t := o + 1) cf9 (okB_ok ho) rfl rfl rfl (by decide) q581 dX9_slot_93 ?_
        refine v_alen24 (okB_ok (ch_8_1 ho)) dX9_slot_96 ?_
        refine v_iconst dX9_slot_97 ?_
        refine v_isub dX9_slot_98 ?_
        refine v_iand dX9_slot_99 ?_
        obtain ⟨y11, e12, h⟩ := vl_some h
        rw [← e12]
        have r13 : rg y11 := by rw [e12]; exact and32_rg _ _
        refine v_istore_n (L1 := [(3, vI y11), (0, vO o), (1, vI x1)]) dX9_slot_100 rfl (by decide) rfl ?_
        refine v_goto (tgt := 61) dX9_slot_101 (by decide) ?_
        refine v_sub [1, 2, 0] (L1 := [(0, vO o), (1, vI x1), (3, vI y11)]) rfl ?_
        exact ih y11 s5 _ h r13 hE

def f_X9_slot (o : Nat) (x1 : Int) (s : vS) : Option (Int × vS) :=
  gd (gR s o 0 = 5) <|
  bd (f_X3_start x1 s) fun r5 s2 =>
  lq_1 (l_X9_slot_11 o FU x1 0 r5 s2) fun y7 s8 =>
  vl (and32 (xor32 y7 (ushr32 y7 15)) (w32 ((w32 (gN s8 (o + 1) : Int)) - 1))) fun y11 =>
  lq_1 (l_X9_slot_61 o FU x1 y11 s8) fun y14 s15 =>
  some (y14, s15)
theorem yk_X9_slot : yOk yX9_slot 1 := ⟨by decide, by decide, by decide +kernel⟩
theorem c_X9_slot {o : Nat} {x1 : Int} {s : vS} {out : Int × vS} (h : f_X9_slot o x1 s = some out) (ho : okB o 8) (rx1 : rg x1) : VC yX9_slot cX9_slot 4 (some .int) 3 71 [vO o, vI x1] s (some (vI out.1)) out.2 [] := by
  unfold f_X9_slot at h
  refine VC.of RX9 (by decide) rfl (Nat.le_of_ble_eq_true rfl) ?_
  show VW cX9_slot (RX9, (some (vI out.1)), out.2, (some .int), 3, 71, 4, []) (P0 []) s 0 [(0, vO o), (1, vI x1)] []
  refine v_iconst dX9_slot_0 ?_
  refine v_istore_n (L1 := [(2, vI 0), (0, vO o), (1, vI x1)]) dX9_slot_1 rfl (by decide) rfl ?_
  refine v_aload_n dX9_slot_2 1 rfl rfl ?_
  obtain ⟨g1, h⟩ := gd_some h
  refine v_getR (f := 0) cf9 (okB_ok ho) rfl (by rw [g1]; decide) (by decide) q580 dX9_slot_3 ?_
  rw [g1]
  refine v_iload_n dX9_slot_6 2 rfl rfl ?_
  obtain ⟨r5, s2, e3, h⟩ := bd_some h
  have k4 := c_X3_start e3 rx1
  have r6 : rg r5 := k4.1.2.2
  refine v_callV (st := []) cf3 oc5 k4 (lw_V q1461 q1288 q1289 q300 q1290) rfl yk_X3_start ⟨Nat.le_of_ble_eq_true rfl, Nat.le_of_ble_eq_true rfl⟩ trivial ⟨(okB_kp ho (by decide)), trivial⟩ (Nat.le_of_ble_eq_true rfl) rfl dX9_slot_7 ?_
  refine v_istore_n (L1 := [(3, vI r5), (2, vI 0), (0, vO o), (1, vI x1)]) dX9_slot_10 rfl (by decide) rfl ?_
  refine v_sub [2, 3, 1, 0] (L1 := [(0, vO o), (1, vI x1), (2, vI 0), (3, vI r5)]) rfl ?_
  obtain ⟨y7, s8, e9, h⟩ := lq_1_some h
  refine wl_X9_slot_11 o ho rx1 FU 0 r5 s2 _ e9 (rgl rfl) r6 ?_
  unfold E_X9_slot_11
  intro y7' s8' z_ r10
  cases z_
  refine v_iload_n dX9_slot_46 2 rfl rfl ?_
  refine v_iload_n dX9_slot_47 2 rfl rfl ?_
  refine v_bipush dX9_slot_48 rfl ?_
  refine v_iushr dX9_slot_50 ?_
  refine v_ixor dX9_slot_51 ?_
  refine v_aload_n dX9_slot_52 0 rfl rfl ?_
  refine v_getS (f := 1) (t := o + 1) cf9 (okB_ok ho) rfl rfl rfl (by decide) q581 dX9_slot_53 ?_
  refine v_alen24 (okB_ok (ch_8_1 ho)) dX9_slot_56 ?_
  refine v_iconst dX9_slot_57 ?_
  refine v_isub dX9_slot_58 ?_
  refine v_iand dX9_slot_59 ?_
  obtain ⟨y11, e12, h⟩ := vl_some h
  rw [← e12]
  have r13 : rg y11 := by rw [e12]; exact and32_rg _ _
  refine v_istore_n (L1 := [(3, vI y11), (0, vO o), (1, vI x1), (2, vI y7)]) dX9_slot_60 rfl (by decide) rfl ?_
  refine v_sub [1, 2, 0] (L1 := [(0, vO o), (1, vI x1), (3, vI y11)]) rfl ?_
  obtain ⟨y14, s15, e16, h⟩ := lq_1_some h
  refine wl_X9_slot_61 o ho rx1 FU y11 s8 _ e16 r13 ?_
  unfold E_X9_slot_61
  intro y14' s15' z_ r17
  cases z_
  refine v_iload_n dX9_slot_104 0 rfl rfl ?_
  cases h
  exact v_iret r17 dX9_slot_105

def E_X9_grow_32 (o : Nat) (rv : Option vA) (σo : vS) (q : vS) : Prop := ∀ (s' : vS), q = s' → VW cX9_grow (RX9, rv, σo, none, 4, 94, 5, []) (P0 [(24, 0), (24, 0)]) s' 81 [] []
def l_X9_grow_32 (o : Nat) : Nat → Int → vS → Option (vS)
  | 0, _, _ => none
  | n + 1, x3, s =>
    if (w32 (gN s 199 : Int)) ≤ x3 then
      some s
    else
      gd (inb x3 (gN s 199)) <|
      if (gE s 199 x3) ≤ 0 then
        vl (w32 (x3 + 1)) fun y4 =>
        l_X9_grow_32 o n y4 s
      else
        gd (inb x3 (gN s 199)) <|
        bd (f_X9_slot o (w32 ((gE s 199 x3) - 1)) s) fun r11 s8 =>
        stp (mT s8 s) fun s13 =>
        gd (inb x3 (gN s13 199)) <|
        gd (inb r11 (gN s13 (o + 1))) <|
        stp (sE s13 (o + 1) r11 (gE s13 199 x3)) fun s17 =>
        gd (inb x3 (gN s17 200)) <|
        gd (inb r11 (gN s17 (o + 2))) <|
        stp (sE s17 (o + 2) r11 (gE s17 200 x3)) fun s21 =>
        vl (w32 (x3 + 1)) fun y23 =>
        l_X9_grow_32 o n y23 s21
theorem wl_X9_grow_32 (o : Nat) {rv : Option vA} {σo : vS} (ho : okB o 8) : ∀ (n : Nat) (x3 : Int) (s : vS) (q : vS), l_X9_grow_32 o n x3 s = some q → rg x3 → E_X9_grow_32 o rv σo q → VW cX9_grow (RX9, rv, σo, none, 4, 94, 5, []) (P0 [(24, 0), (24, 0)]) s 32 [(0, vO o), (1, vO 199), (2, vO 200), (3, vI x3)] [] := by
  intro n
  induction n with
  | zero => intro x3 s q h; cases h
  | succ n ih =>
    intro x3 s q h rx3 hE
    unfold l_X9_grow_32 at h
    refine v_iload_n dX9_grow_32 3 rfl rfl ?_
    refine v_aload_n dX9_grow_33 1 rfl rfl ?_
    refine v_alen24 (ok_tmp (i := 0) rfl) dX9_grow_34 ?_
    refine v_icmp_ge (tgt := 81) dX9_grow_35 rx3 (w32_rg _) (by decide) (fun c1 => ?_) (fun c1 => ?_)
    · rw [if_pos c1] at h
      cases h
      refine v_sub [] (L1 := []) rfl ?_
      exact hE _ rfl 
    · rw [if_neg c1] at h
      refine v_aload_n dX9_grow_38 1 rfl rfl ?_
      refine v_iload_n dX9_grow_39 3 rfl rfl ?_
      obtain ⟨g2, h⟩ := gd_some h
      refine v_iald (ok_tmp (i := 0) rfl) rx3 g2.1 g2.2 dX9_grow_40 ?_
      refine v_if_le (tgt := 75) dX9_grow_41 (gE_rg _ _ _) (by decide) (fun c3 => ?_) (fun c3 => ?_)
      · rw [if_pos c3] at h
        obtain ⟨y4, e5, h⟩ := vl_some h
        refine v_iinc (L1 := [(3, vI (w32 (x3 + 1))), (0, vO o), (1, vO 199), (2, vO 200)]) dX9_grow_75 3 rfl (by decide) rfl ?_
        rw [← e5]
        have r6 : rg y4 := by rw [e5]; exact w32_rg _
        refine v_goto (tgt := 32) dX9_grow_78 (by decide) ?_
        refine v_sub [1, 2, 3, 0] (L1 := [(0, vO o), (1, vO 199), (2, vO 200), (3, vI y4)]) rfl ?_
        exact ih y4 s _ h r6 hE
      · rw [if_neg c3] at h
        refine v_aload_n dX9_grow_44 0 rfl rfl ?_
        refine v_aload_n dX9_grow_45 1 rfl rfl ?_
        refine v_iload_n dX9_grow_46 3 rfl rfl ?_
        obtain ⟨g7, h⟩ := gd_some h
        refine v_iald (ok_tmp (i := 0) rfl) rx3 g7.1 g7.2 dX9_grow_47 ?_
        refine v_iconst dX9_grow_48 ?_
        refine v_isub dX9_grow_49 ?_
        obtain ⟨r11, s8, e9, h⟩ := bd_some h
        have k10 := c_X9_slot e9 ho (w32_rg _)
        have r12 : rg r11 := k10.1.2.2
        obtain ⟨s13, e14, h⟩ := stp_some h
        refine v_callVT (st := []) (by decide) cf9 (okB_ok ho) k10 (lw_V q1457 q1459 qs43 q306 q1460) rfl yk_X9_slot ⟨Nat.le_of_ble_eq_true rfl, Nat.le_of_ble_eq_true rfl⟩ trivial ⟨(Or.inl (okB_kp ho (by decide))), (Or.inr (by decide)), (Or.inr (by decide)), trivial⟩ (Nat.le_of_ble_eq_true rfl) rfl dX9_grow_50 (fun _ z => by cases z) ?_
        rw [← e14]
        refine v_istore (L1 := [(4, vI r11), (0, vO o), (1, vO 199), (2, vO 200), (3, vI x3)]) dX9_grow_53 (by decide) rfl ?_
        refine v_aload_n dX9_grow_55 1 rfl rfl ?_
        refine v_getS (f := 1) (t := o + 1) cf9 (okB_ok ho) rfl rfl rfl (by decide) q581 dX9_grow_56 ?_
        refine v_iload dX9_grow_59 0 rfl ?_
        refine v_aload_n dX9_grow_61 2 rfl rfl ?_
        refine v_iload_n dX9_grow_62 4 rfl rfl ?_
        obtain ⟨g15, h⟩ := gd_some h
        refine v_iald (ok_tmp (i := 0) rfl) rx3 g15.1 g15.2 dX9_grow_63 ?_
        obtain ⟨g16, h⟩ := gd_some h
        obtain ⟨s17, e18, h⟩ := stp_some h
        refine v_iast (okB_ok (ch_8_1 ho)) r12 g16.1 g16.2 dX9_grow_64 ?_
        rw [← e18]
        refine v_aload_n dX9_grow_65 1 rfl rfl ?_
        refine v_getS (f := 2) (t := o + 2) cf9 (okB_ok ho) rfl rfl rfl (by decide) q582 dX9_grow_66 ?_
        refine v_iload dX9_grow_69 0 rfl ?_
        refine v_aload_n dX9_grow_71 3 rfl rfl ?_
        refine v_iload_n dX9_grow_72 4 rfl rfl ?_
        obtain ⟨g19, h⟩ := gd_some h
        refine v_iald (ok_tmp (i := 1) rfl) rx3 g19.1 g19.2 dX9_grow_73 ?_
        obtain ⟨g20, h⟩ := gd_some h
        obtain ⟨s21, e22, h⟩ := stp_some h
        refine v_iast (okB_ok (ch_8_2 ho)) r12 g20.1 g20.2 dX9_grow_74 ?_
        rw [← e22]
        obtain ⟨y23, e24, h⟩ := vl_some h
        refine v_iinc (L1 := [(3, vI (w32 (x3 + 1))), (4, vI r11), (0, vO o), (1, vO 199), (2, vO 200)]) dX9_grow_75 4 rfl (by decide) rfl ?_
        rw [← e24]
        have r25 : rg y23 := by rw [e24]; exact w32_rg _
        refine v_goto (tgt := 32) dX9_grow_78 (by decide) ?_
        refine v_sub [2, 3, 4, 0] (L1 := [(0, vO o), (1, vO 199), (2, vO 200), (3, vI y23)]) rfl ?_
        exact ih y23 s21 _ h r25 hE

def f_X9_grow (o : Nat) (s : vS) : Option (vS) :=
  gd (naG (w32 (2 * (w32 (gN s (o + 1) : Int))))) <|
  stp (sA s 199 (Int.toNat (w32 (2 * (w32 (gN s (o + 1) : Int)))), fun _ => 0)) fun s2 =>
  gd (2 * gN s2 (o + 1) ≤ gN s2 199 ∧ 2 ≤ gN s2 199) <|
  stp (sw2 s2 (o + 1) 199) fun s5 =>
  gd (naG (w32 (2 * (w32 (gN s5 199 : Int))))) <|
  stp (sA s5 200 (Int.toNat (w32 (2 * (w32 (gN s5 199 : Int)))), fun _ => 0)) fun s8 =>
  gd (2 * gN s8 (o + 2) ≤ gN s8 200 ∧ 2 ≤ gN s8 200) <|
  stp (sw2 s8 (o + 2) 200) fun s11 =>
  lq_0 (l_X9_grow_32 o FU 0 s11) fun s13 =>
  stp (rs s13) fun s15 =>
  some s15
theorem yk_X9_grow : yOk yX9_grow 0 := ⟨by decide, by decide, by decide +kernel⟩
theorem c_X9_grow {o : Nat} {s : vS} {out : vS} (h : f_X9_grow o s = some out) (ho : okB o 8)  : VC yX9_grow cX9_grow 5 none 4 94 [vO o] s none out [] := by
  unfold f_X9_grow at h
  refine VC.of RX9 (by decide) rfl (Nat.le_of_ble_eq_true rfl) ?_
  show VW cX9_grow (RX9, none, out, none, 4, 94, 5, []) (P0 []) s 0 [(0, vO o)] []
  refine v_aload_n dX9_grow_0 0 rfl rfl ?_
  refine v_getS (f := 1) (t := o + 1) cf9 (okB_ok ho) rfl rfl rfl (by decide) q581 dX9_grow_1 ?_
  refine v_astore_n (L1 := [(1, vO (o + 1)), (0, vO o)]) dX9_grow_4 rfl (by decide) rfl ?_
  refine v_aload_n dX9_grow_5 1 rfl rfl ?_
  refine v_getS (f := 2) (t := o + 2) cf9 (okB_ok ho) rfl rfl rfl (by decide) q582 dX9_grow_6 ?_
  refine v_astore_n (L1 := [(2, vO (o + 2)), (1, vO (o + 1)), (0, vO o)]) dX9_grow_9 rfl (by decide) rfl ?_
  refine v_aload_n dX9_grow_10 2 rfl rfl ?_
  refine v_iconst dX9_grow_11 ?_
  refine v_aload_n dX9_grow_12 1 rfl rfl ?_
  refine v_alen24 (okB_ok (ch_8_1 ho)) dX9_grow_13 ?_
  refine v_imul dX9_grow_14 ?_
  obtain ⟨g1, h⟩ := gd_some h
  obtain ⟨s2, e3, h⟩ := stp_some h
  refine v_na24 (K := 199) (tk1 := [(24, 1)]) rfl rfl (by decide) (w32_rg _) g1 ⟨(Nat.lt_of_lt_of_le (ch_8_2 ho).1 (by decide)), (Nat.lt_of_lt_of_le (ch_8_1 ho).1 (by decide)), (Nat.lt_of_lt_of_le ho.1 (by decide)), trivial⟩ ⟨(Nat.lt_of_lt_of_le ho.1 (by decide)), trivial⟩ q459 dX9_grow_15 ?_
  rw [← e3]
  obtain ⟨g4, h⟩ := gd_some h
  obtain ⟨s5, e6, h⟩ := stp_some h
  refine v_pa (i := 0) (K := 199) (t0 := o + 1) (f := 1) (tk1 := [(24, 0)]) (L1 := [(2, vO (o + 2)), (1, vO 199), (0, vO o)]) (st1 := []) rfl rfl (by decide) cf9 ho rfl (by decide) rfl (ch_8_1 ho).2 (by decide) rfl g4 q581 dX9_grow_17 rfl rfl (by simp [rnL, rnA, swp, show o + 1 ≠ 199 by have := (ch_8_1 ho).1; unfold KF at this; omega, show o ≠ 199 by have := ho.1; unfold KF at this; omega, show o + 2 ≠ 199 by have := (ch_8_2 ho).1; unfold KF at this; omega] <;> (have h90 := (ch_8_1 ho).1; have h91 := ho.1; have h92 := (ch_8_2 ho).1; unfold KF at *; omega)) (by simp [rnL, rnA, swp, show o + 1 ≠ 199 by have := (ch_8_1 ho).1; unfold KF at this; omega, show o ≠ 199 by have := ho.1; unfold KF at this; omega, show o + 2 ≠ 199 by have := (ch_8_2 ho).1; unfold KF at this; omega] <;> (have h90 := (ch_8_1 ho).1; have h91 := ho.1; have h92 := (ch_8_2 ho).1; unfold KF at *; omega)) ?_
  rw [← e6]
  refine v_aload_n dX9_grow_20 2 rfl rfl ?_
  refine v_iconst dX9_grow_21 ?_
  refine v_aload_n dX9_grow_22 1 rfl rfl ?_
  refine v_alen24 (ok_tmp (i := 0) rfl) dX9_grow_23 ?_
  refine v_imul dX9_grow_24 ?_
  obtain ⟨g7, h⟩ := gd_some h
  obtain ⟨s8, e9, h⟩ := stp_some h
  refine v_na24 (K := 200) (tk1 := [(24, 0), (24, 1)]) rfl rfl (by decide) (w32_rg _) g7 ⟨(Nat.lt_of_lt_of_le (ch_8_2 ho).1 (by decide)), (by decide), (Nat.lt_of_lt_of_le ho.1 (by decide)), trivial⟩ ⟨(Nat.lt_of_lt_of_le ho.1 (by decide)), trivial⟩ q459 dX9_grow_25 ?_
  rw [← e9]
  obtain ⟨g10, h⟩ := gd_some h
  obtain ⟨s11, e12, h⟩ := stp_some h
  refine v_pa (i := 1) (K := 200) (t0 := o + 2) (f := 2) (tk1 := [(24, 0), (24, 0)]) (L1 := [(2, vO 200), (1, vO 199), (0, vO o)]) (st1 := []) rfl rfl (by decide) cf9 ho rfl (by decide) rfl (ch_8_2 ho).2 (by decide) rfl g10 q582 dX9_grow_27 rfl rfl (by simp [rnL, rnA, swp, show o ≠ 199 by have := ho.1; unfold KF at this; omega, show o ≠ 200 by have := ho.1; unfold KF at this; omega, show o + 2 ≠ 199 by have := (ch_8_2 ho).1; unfold KF at this; omega, show o + 2 ≠ 200 by have := (ch_8_2 ho).1; unfold KF at this; omega] <;> (have h90 := ho.1; have h91 := (ch_8_2 ho).1; unfold KF at *; omega)) (by simp [rnL, rnA, swp, show o ≠ 199 by have := ho.1; unfold KF at this; omega, show o ≠ 200 by have := ho.1; unfold KF at this; omega, show o + 2 ≠ 199 by have := (ch_8_2 ho).1; unfold KF at this; omega, show o + 2 ≠ 200 by have := (ch_8_2 ho).1; unfold KF at this; omega] <;> (have h90 := ho.1; have h91 := (ch_8_2 ho).1; unfold KF at *; omega)) ?_
  rw [← e12]
  refine v_iconst dX9_grow_30 ?_
  refine v_istore_n (L1 := [(3, vI 0), (2, vO 200), (1, vO 199), (0, vO o)]) dX9_grow_31 rfl (by decide) rfl ?_
  refine v_sub [3, 2, 1, 0] (L1 := [(0, vO o), (1, vO 199), (2, vO 200), (3, vI 0)]) rfl ?_
  obtain ⟨s13, e14, h⟩ := lq_0_some h
  refine wl_X9_grow_32 o ho FU 0 s11 _ e14 (rgl rfl) ?_
  unfold E_X9_grow_32
  intro s13' z_
  cases z_
  obtain ⟨s15, e16, h⟩ := stp_some h
  refine v_dr (by decide) (by decide) trivial trivial ?_
  rw [← e16]
  cases h
  exact v_vret dX9_grow_81

def f_X9_put (o : Nat) (x1 : Int) (x2 : Int) (s : vS) : Option (Int × vS) :=
  bd (f_X9_slot o x1 s) fun r4 s1 =>
  gd (inb r4 (gN s1 (o + 1))) <|
  if (gE s1 (o + 1) r4) ≤ 0 then
    gd (inb r4 (gN s1 (o + 1))) <|
    stp (sE s1 (o + 1) r4 (w32 (x1 + 1))) fun s9 =>
    gd (inb r4 (gN s9 (o + 2))) <|
    stp (sE s9 (o + 2) r4 x2) fun s12 =>
    stp (sI s12 o 3 (w32 ((gI s12 o 3) + 1))) fun s14 =>
    if (w32 (2 * (gI s14 o 3))) ≤ (w32 (gN s14 (o + 1) : Int)) then
      some (1, s14)
    else
      bdv (f_X9_grow o s14) fun s17 =>
      some (1, s17)
  else
    some (0, s1)
theorem yk_X9_put : yOk yX9_put 2 := ⟨by decide, by decide, by decide +kernel⟩
theorem c_X9_put {o : Nat} {x1 : Int} {x2 : Int} {s : vS} {out : Int × vS} (h : f_X9_put o x1 x2 s = some out) (ho : okB o 8) (rx1 : rg x1) (rx2 : rg x2) : VC yX9_put cX9_put 4 (some .boolean) 5 118 [vO o, vI x1, vI x2] s (some (vI out.1)) out.2 [] := by
  unfold f_X9_put at h
  refine VC.of RX9 (by decide) rfl (Nat.le_of_ble_eq_true rfl) ?_
  show VW cX9_put (RX9, (some (vI out.1)), out.2, (some .boolean), 5, 118, 4, []) (P0 []) s 0 [(0, vO o), (1, vI x1), (2, vI x2)] []
  refine v_aload_n dX9_put_0 0 rfl rfl ?_
  refine v_iload_n dX9_put_1 1 rfl rfl ?_
  obtain ⟨r4, s1, e2, h⟩ := bd_some h
  have k3 := c_X9_slot e2 ho rx1
  have r5 : rg r4 := k3.1.2.2
  refine v_callV (st := []) cf9 (okB_ok ho) k3 (lw_V q1457 q1459 qs43 q306 q1460) rfl yk_X9_slot ⟨Nat.le_of_ble_eq_true rfl, Nat.le_of_ble_eq_true rfl⟩ trivial ⟨(okB_kp ho (by decide)), trivial⟩ (Nat.le_of_ble_eq_true rfl) rfl dX9_put_2 ?_
  refine v_istore_n (L1 := [(3, vI r4), (0, vO o), (1, vI x1), (2, vI x2)]) dX9_put_5 rfl (by decide) rfl ?_
  refine v_aload_n dX9_put_6 1 rfl rfl ?_
  refine v_getS (f := 1) (t := o + 1) cf9 (okB_ok ho) rfl rfl rfl (by decide) q581 dX9_put_7 ?_
  refine v_iload_n dX9_put_10 0 rfl rfl ?_
  obtain ⟨g6, h⟩ := gd_some h
  refine v_iald (okB_ok (ch_8_1 ho)) r5 g6.1 g6.2 dX9_put_11 ?_
  refine v_if_le (tgt := 17) dX9_put_12 (gE_rg _ _ _) (by decide) (fun c7 => ?_) (fun c7 => ?_)
  · rw [if_pos c7] at h
    refine v_aload_n dX9_put_17 1 rfl rfl ?_
    refine v_getS (f := 1) (t := o + 1) cf9 (okB_ok ho) rfl rfl rfl (by decide) q581 dX9_put_18 ?_
    refine v_iload_n dX9_put_21 0 rfl rfl ?_
    refine v_iload_n dX9_put_22 2 rfl rfl ?_
    refine v_iconst dX9_put_23 ?_
    refine v_iadd dX9_put_24 ?_
    obtain ⟨g8, h⟩ := gd_some h
    obtain ⟨s9, e10, h⟩ := stp_some h
    refine v_iast (okB_ok (ch_8_1 ho)) r5 g8.1 g8.2 dX9_put_25 ?_
    rw [← e10]
    refine v_aload_n dX9_put_26 1 rfl rfl ?_
    refine v_getS (f := 2) (t := o + 2) cf9 (okB_ok ho) rfl rfl rfl (by decide) q582 dX9_put_27 ?_
    refine v_iload_n dX9_put_30 0 rfl rfl ?_
    refine v_iload_n dX9_put_31 3 rfl rfl ?_
    obtain ⟨g11, h⟩ := gd_some h
    obtain ⟨s12, e13, h⟩ := stp_some h
    refine v_iast (okB_ok (ch_8_2 ho)) r5 g11.1 g11.2 dX9_put_32 ?_
    rw [← e13]
    refine v_aload_n dX9_put_33 1 rfl rfl ?_
    refine v_dupO dX9_put_34 ?_
    refine v_getI (f := 3) cf9 (okB_ok ho) rfl (by decide) q583 dX9_put_35 ?_
    refine v_iconst dX9_put_38 ?_
    refine v_iadd dX9_put_39 ?_
    obtain ⟨s14, e15, h⟩ := stp_some h
    refine v_putI (f := 3) cf9 (okB_ok ho) rfl (by decide) q583 dX9_put_40 rfl rfl ?_
    rw [← e15]
    refine v_iconst dX9_put_43 ?_
    refine v_aload_n dX9_put_44 1 rfl rfl ?_
    refine v_getI (f := 3) cf9 (okB_ok ho) rfl (by decide) q583 dX9_put_45 ?_
    refine v_imul dX9_put_48 ?_
    refine v_aload_n dX9_put_49 1 rfl rfl ?_
    refine v_getS (f := 1) (t := o + 1) cf9 (okB_ok ho) rfl rfl rfl (by decide) q581 dX9_put_50 ?_
    refine v_alen24 (okB_ok (ch_8_1 ho)) dX9_put_53 ?_
    refine v_icmp_le (tgt := 61) dX9_put_54 (w32_rg _) (w32_rg _) (by decide) (fun c16 => ?_) (fun c16 => ?_)
    · rw [if_pos c16] at h
      refine v_iconst dX9_put_61 ?_
      cases h
      exact v_zret (Or.inr rfl) dX9_put_62
    · rw [if_neg c16] at h
      refine v_aload_n dX9_put_57 1 rfl rfl ?_
      obtain ⟨s17, e18, h⟩ := bdv_some h
      have k19 := c_X9_grow e18 ho
      refine v_callV (st := []) cf9 (okB_ok ho) k19 (lw_V q1474 q1476 qs44 q306 q1477) rfl yk_X9_grow ⟨Nat.le_of_ble_eq_true rfl, Nat.le_of_ble_eq_true rfl⟩ trivial ⟨(okB_kp ho (by decide)), trivial⟩ (Nat.le_of_ble_eq_true rfl) rfl dX9_put_58 ?_
      refine v_iconst dX9_put_61 ?_
      cases h
      exact v_zret (Or.inr rfl) dX9_put_62
  · rw [if_neg c7] at h
    refine v_iconst dX9_put_15 ?_
    cases h
    exact v_zret (Or.inl rfl) dX9_put_16

def j_X6_blame_22 (x1 : Int) (x2 : Int) (s : vS) : Option (vS) :=
  gd (gR s 13 0 = 5) <|
  bd (f_X3_start x2 s) fun r5 s2 =>
  stp (sI s2 13 21 r5) fun s7 =>
  stp (sI s7 13 20 x1) fun s9 =>
  some s9
theorem wj_X6_blame_22 {x1 : Int} {x2 : Int} {s : vS} {out : vS} (h : j_X6_blame_22 x1 x2 s = some out)  (rx1 : rg x1) (rx2 : rg x2) : VW cX6_blame (RX6, none, out, none, 2, 41, 3, []) (P0 []) s 22 [(0, vO 13), (1, vI x1), (2, vI x2)] [] := by
  unfold j_X6_blame_22 at h
  refine v_aload_n dX6_blame_22 0 rfl rfl ?_
  refine v_aload_n dX6_blame_23 0 rfl rfl ?_
  obtain ⟨g1, h⟩ := gd_some h
  refine v_getR (f := 0) cf6 oc13 rfl (by rw [g1]; decide) (by decide) q627 dX6_blame_24 ?_
  rw [g1]
  refine v_iload_n dX6_blame_27 2 rfl rfl ?_
  obtain ⟨r5, s2, e3, h⟩ := bd_some h
  have k4 := c_X3_start e3 rx2
  have r6 : rg r5 := k4.1.2.2
  refine v_callV (st := [vO 13]) cf3 oc5 k4 (lw_V q1482 q1288 q1289 q300 q1290) rfl yk_X3_start ⟨Nat.le_of_ble_eq_true rfl, Nat.le_of_ble_eq_true rfl⟩ ⟨kc13, trivial⟩ ⟨kc13, trivial⟩ (Nat.le_of_ble_eq_true rfl) rfl dX6_blame_28 ?_
  obtain ⟨s7, e8, h⟩ := stp_some h
  refine v_putI (f := 21) cf6 oc13 rfl (by decide) q648 dX6_blame_31 rfl rfl ?_
  rw [← e8]
  refine v_aload_n dX6_blame_34 0 rfl rfl ?_
  refine v_iload_n dX6_blame_35 1 rfl rfl ?_
  obtain ⟨s9, e10, h⟩ := stp_some h
  refine v_putI (f := 20) cf6 oc13 rfl (by decide) q647 dX6_blame_36 rfl rfl ?_
  rw [← e10]
  cases h
  exact v_vret dX6_blame_39

def f_X6_blame (x1 : Int) (x2 : Int) (s : vS) : Option (vS) :=
  if (gI s 13 20) = 0 then
    j_X6_blame_22 x1 x2 s
  else
    gd (gR s 13 0 = 5) <|
    bd (f_X3_start x2 s) fun r6 s3 =>
    if (gI s3 13 21) ≤ r6 then
      stp (sI s3 13 20 x1) fun s9 =>
      some s9
    else
      j_X6_blame_22 x1 x2 s3
theorem yk_X6_blame : yOk yX6_blame 2 := ⟨by decide, by decide, by decide +kernel⟩
theorem c_X6_blame {x1 : Int} {x2 : Int} {s : vS} {out : vS} (h : f_X6_blame x1 x2 s = some out)  (rx1 : rg x1) (rx2 : rg x2) : VC yX6_blame cX6_blame 3 none 2 41 [vO 13, vI x1, vI x2] s none out [] := by
  unfold f_X6_blame at h
  refine VC.of RX6 (by decide) rfl (Nat.le_of_ble_eq_true rfl) ?_
  show VW cX6_blame (RX6, none, out, none, 2, 41, 3, []) (P0 []) s 0 [(0, vO 13), (1, vI x1), (2, vI x2)] []
  refine v_aload_n dX6_blame_0 0 rfl rfl ?_
  refine v_getI (f := 20) cf6 oc13 rfl (by decide) q647 dX6_blame_1 ?_
  refine v_if_eq (tgt := 22) dX6_blame_4 (gI_rg _ _ _) (by decide) (fun c1 => ?_) (fun c1 => ?_)
  · rw [if_pos c1] at h
    exact wj_X6_blame_22 h rx1 rx2
  · rw [if_neg c1] at h
    refine v_aload_n dX6_blame_7 0 rfl rfl ?_
    obtain ⟨g2, h⟩ := gd_some h
    refine v_getR (f := 0) cf6 oc13 rfl (by rw [g2]; decide) (by decide) q627 dX6_blame_8 ?_
    rw [g2]
    refine v_iload_n dX6_blame_11 2 rfl rfl ?_
    obtain ⟨r6, s3, e4, h⟩ := bd_some h
    have k5 := c_X3_start e4 rx2
    have r7 : rg r6 := k5.1.2.2
    refine v_callV (st := []) cf3 oc5 k5 (lw_V q1482 q1288 q1289 q300 q1290) rfl yk_X3_start ⟨Nat.le_of_ble_eq_true rfl, Nat.le_of_ble_eq_true rfl⟩ trivial ⟨kc13, trivial⟩ (Nat.le_of_ble_eq_true rfl) rfl dX6_blame_12 ?_
    refine v_aload_n dX6_blame_15 0 rfl rfl ?_
    refine v_getI (f := 21) cf6 oc13 rfl (by decide) q648 dX6_blame_16 ?_
    refine v_icmp_ge (tgt := 34) dX6_blame_19 r7 (gI_rg _ _ _) (by decide) (fun c8 => ?_) (fun c8 => ?_)
    · rw [if_pos c8] at h
      refine v_aload_n dX6_blame_34 0 rfl rfl ?_
      refine v_iload_n dX6_blame_35 1 rfl rfl ?_
      obtain ⟨s9, e10, h⟩ := stp_some h
      refine v_putI (f := 20) cf6 oc13 rfl (by decide) q647 dX6_blame_36 rfl rfl ?_
      rw [← e10]
      cases h
      exact v_vret dX6_blame_39
    · rw [if_neg c8] at h
      exact wj_X6_blame_22 h rx1 rx2

def E_X6_assigned_8 (rv : Option vA) (σo : vS) (q : vS) : Prop := ∀ (s' : vS), q = s' → VW cX6_assigned (RX6, rv, σo, (some .boolean), 6, 141, 3, []) (P0 []) s' 79 [] []
def j_X6_assigned_67 (rec : Int → vS → Option (vS)) (x1 : Int) (s : vS) : Option (vS) :=
  bd (f_X4_next x1 s) fun r4 s1 =>
  rec r4 s1
theorem wj_X6_assigned_67 {x1 : Int} {s : vS} {rv : Option vA} {σo : vS} {rec : Int → vS → Option (vS)} {q : vS} (h : j_X6_assigned_67 rec x1 s = some q)  (rx1 : rg x1) (hrec : ∀ (y1 : Int) (s : vS) (q : vS), rec y1 s = some q → rg y1 → E_X6_assigned_8 rv σo q → VW cX6_assigned (RX6, rv, σo, (some .boolean), 6, 141, 3, []) (P0 []) s 8 [(0, vO 13), (1, vI y1)] []) (hE : E_X6_assigned_8 rv σo q) : VW cX6_assigned (RX6, rv, σo, (some .boolean), 6, 141, 3, []) (P0 []) s 67 [(0, vO 13), (1, vI x1)] [] := by
  unfold j_X6_assigned_67 at h
  refine v_aload_n dX6_assigned_67 0 rfl rfl ?_
  refine v_getS (f := 1) (t := 10) cf6 oc13 rfl rfl rfl (by decide) q628 dX6_assigned_68 ?_
  refine v_iload_n dX6_assigned_71 1 rfl rfl ?_
  obtain ⟨r4, s1, e2, h⟩ := bd_some h
  have k3 := c_X4_next e2 rx1
  have r5 : rg r4 := k3.1.2.2
  refine v_callV (st := []) cf4 oc10 k3 (lw_V q1483 q1404 q1405 q301 q1406) rfl yk_X4_next ⟨Nat.le_of_ble_eq_true rfl, Nat.le_of_ble_eq_true rfl⟩ trivial ⟨kc13, trivial⟩ (Nat.le_of_ble_eq_true rfl) rfl dX6_assigned_72 ?_
  refine v_istore_n (L1 := [(1, vI r4), (0, vO 13)]) dX6_assigned_75 rfl (by decide) rfl ?_
  refine v_goto (tgt := 8) dX6_assigned_76 (by decide) ?_
  refine v_sub [1, 0] (L1 := [(0, vO 13), (1, vI r4)]) rfl ?_
  exact hrec r4 s1 _ h r5 hE

def j_X6_assigned_37 (rec : Int → vS → Option (vS)) (x1 : Int) (zo0 : Nat) (s : vS) : Option (vS) :=
  bd (f_X4_lexeme x1 s) fun r4 s1 =>
  bd (f_X9_put zo0 r4 x1 s1) fun r9 s6 =>
  if r9 = 0 then
    bd (f_X4_lexeme x1 s6) fun r15 s12 =>
    bdv (f_X6_blame 5 r15 s12) fun s17 =>
    j_X6_assigned_67 rec x1 s17
  else
    j_X6_assigned_67 rec x1 s6
theorem wj_X6_assigned_37 {x1 : Int} {zo0 : Nat} {s : vS} {rv : Option vA} {σo : vS} {rec : Int → vS → Option (vS)} {q : vS} (h : j_X6_assigned_37 rec x1 zo0 s = some q)  (rx1 : rg x1) (hzo0 : okB zo0 8) (hrec : ∀ (y1 : Int) (s : vS) (q : vS), rec y1 s = some q → rg y1 → E_X6_assigned_8 rv σo q → VW cX6_assigned (RX6, rv, σo, (some .boolean), 6, 141, 3, []) (P0 []) s 8 [(0, vO 13), (1, vI y1)] []) (hE : E_X6_assigned_8 rv σo q) : VW cX6_assigned (RX6, rv, σo, (some .boolean), 6, 141, 3, []) (P0 []) s 37 [(0, vO 13), (1, vI x1)] [vO zo0] := by
  unfold j_X6_assigned_37 at h
  refine v_astore_n (L1 := [(2, vO zo0), (0, vO 13), (1, vI x1)]) dX6_assigned_37 rfl (by decide) rfl ?_
  refine v_aload_n dX6_assigned_38 0 rfl rfl ?_
  refine v_aload_n dX6_assigned_39 1 rfl rfl ?_
  refine v_getS (f := 1) (t := 10) cf6 oc13 rfl rfl rfl (by decide) q628 dX6_assigned_40 ?_
  refine v_iload_n dX6_assigned_43 2 rfl rfl ?_
  obtain ⟨r4, s1, e2, h⟩ := bd_some h
  have k3 := c_X4_lexeme e2 rx1
  have r5 : rg r4 := k3.1.2.2
  refine v_callV (st := [vO zo0]) cf4 oc10 k3 (lw_V q1449 q1450 q1451 q301 q1452) rfl yk_X4_lexeme ⟨Nat.le_of_ble_eq_true rfl, Nat.le_of_ble_eq_true rfl⟩ ⟨(okB_kp hzo0 (by decide)), trivial⟩ ⟨(okB_kp hzo0 (by decide)), kc13, trivial⟩ (Nat.le_of_ble_eq_true rfl) rfl dX6_assigned_44 ?_
  refine v_iload_n dX6_assigned_47 2 rfl rfl ?_
  obtain ⟨r9, s6, e7, h⟩ := bd_some h
  have k8 := c_X9_put e7 hzo0 r5 rx1
  have r10 : rg r9 := k8.1.2.2
  refine v_callV (st := []) cf9 (okB_ok hzo0) k8 (lw_V q1453 q1454 q1455 q306 q1456) rfl yk_X9_put ⟨Nat.le_of_ble_eq_true rfl, Nat.le_of_ble_eq_true rfl⟩ trivial ⟨(okB_kp hzo0 (by decide)), kc13, trivial⟩ (Nat.le_of_ble_eq_true rfl) rfl dX6_assigned_48 ?_
  refine v_if_ne (tgt := 67) dX6_assigned_51 r10 (by decide) (fun c11 => ?_) (fun c11 => ?_)
  · rw [if_neg c11] at h
    refine v_sub [1, 2] (L1 := [(0, vO 13), (1, vI x1)]) rfl ?_
    exact wj_X6_assigned_67 h rx1 hrec hE
  · rw [if_pos c11] at h
    refine v_aload_n dX6_assigned_54 1 rfl rfl ?_
    refine v_iconst dX6_assigned_55 ?_
    refine v_aload_n dX6_assigned_56 1 rfl rfl ?_
    refine v_getS (f := 1) (t := 10) cf6 oc13 rfl rfl rfl (by decide) q628 dX6_assigned_57 ?_
    refine v_iload_n dX6_assigned_60 2 rfl rfl ?_
    obtain ⟨r15, s12, e13, h⟩ := bd_some h
    have k14 := c_X4_lexeme e13 rx1
    have r16 : rg r15 := k14.1.2.2
    refine v_callV (st := [vI 5, vO 13]) cf4 oc10 k14 (lw_V q1449 q1450 q1451 q301 q1452) rfl yk_X4_lexeme ⟨Nat.le_of_ble_eq_true rfl, Nat.le_of_ble_eq_true rfl⟩ ⟨kc13, trivial⟩ ⟨(okB_kp hzo0 (by decide)), kc13, trivial⟩ (Nat.le_of_ble_eq_true rfl) rfl dX6_assigned_61 ?_
    obtain ⟨s17, e18, h⟩ := bdv_some h
    have k19 := c_X6_blame e18 (rgl rfl) r16
    refine v_callV (st := []) cf6 oc13 k19 (lw_V q1478 q1480 qs45 q303 q1481) rfl yk_X6_blame ⟨Nat.le_of_ble_eq_true rfl, Nat.le_of_ble_eq_true rfl⟩ trivial ⟨(okB_kp hzo0 (by decide)), kc13, trivial⟩ (Nat.le_of_ble_eq_true rfl) rfl dX6_assigned_64 ?_
    refine v_sub [1, 2] (L1 := [(0, vO 13), (1, vI x1)]) rfl ?_
    exact wj_X6_assigned_67 h rx1 hrec hE

def l_X6_assigned_8 : Nat → Int → vS → Option (vS)
  | 0, _, _ => none
  | n + 1, x1, s =>
    if x1 = (-1) then
      some s
    else
      bd (f_X4_kind x1 s) fun r5 s2 =>
      if r5 = 28 then
        j_X6_assigned_37 (l_X6_assigned_8 n) x1 19 s2
      else
        j_X6_assigned_37 (l_X6_assigned_8 n) x1 22 s2
theorem wl_X6_assigned_8 {rv : Option vA} {σo : vS}  : ∀ (n : Nat) (x1 : Int) (s : vS) (q : vS), l_X6_assigned_8 n x1 s = some q → rg x1 → E_X6_assigned_8 rv σo q → VW cX6_assigned (RX6, rv, σo, (some .boolean), 6, 141, 3, []) (P0 []) s 8 [(0, vO 13), (1, vI x1)] [] := by
  intro n
  induction n with
  | zero => intro x1 s q h; cases h
  | succ n ih =>
    intro x1 s q h rx1 hE
    unfold l_X6_assigned_8 at h
    refine v_iload_n dX6_assigned_8 1 rfl rfl ?_
    refine v_iconst dX6_assigned_9 ?_
    refine v_icmp_eq (tgt := 79) dX6_assigned_10 rx1 (rgl rfl) (by decide) (fun c1 => ?_) (fun c1 => ?_)
    · rw [if_pos c1] at h
      cases h
      refine v_sub [] (L1 := []) rfl ?_
      exact hE _ rfl 
    · rw [if_neg c1] at h
      refine v_aload_n dX6_assigned_13 0 rfl rfl ?_
      refine v_getS (f := 1) (t := 10) cf6 oc13 rfl rfl rfl (by decide) q628 dX6_assigned_14 ?_
      refine v_iload_n dX6_assigned_17 1 rfl rfl ?_
      obtain ⟨r5, s2, e3, h⟩ := bd_some h
      have k4 := c_X4_kind e3 rx1
      have r6 : rg r5 := k4.1.2.2
      refine v_callV (st := []) cf4 oc10 k4 (lw_V q1445 q1446 q1447 q301 q1448) rfl yk_X4_kind ⟨Nat.le_of_ble_eq_true rfl, Nat.le_of_ble_eq_true rfl⟩ trivial ⟨kc13, trivial⟩ (Nat.le_of_ble_eq_true rfl) rfl dX6_assigned_18 ?_
      refine v_bipush dX6_assigned_21 rfl ?_
      refine v_icmp_ne (tgt := 33) dX6_assigned_23 r6 (rgl rfl) (by decide) (fun c7 => ?_) (fun c7 => ?_)
      · rw [if_neg c7] at h
        refine v_aload_n dX6_assigned_33 0 rfl rfl ?_
        refine v_getS (f := 6) (t := 22) cf6 oc13 rfl rfl rfl (by decide) q633 dX6_assigned_34 ?_
        exact wj_X6_assigned_37 h rx1 (⟨by decide, rfl⟩ : okB 22 8) ih hE
      · rw [if_pos c7] at h
        refine v_aload_n dX6_assigned_26 0 rfl rfl ?_
        refine v_getS (f := 5) (t := 19) cf6 oc13 rfl rfl rfl (by decide) q632 dX6_assigned_27 ?_
        refine v_goto (tgt := 37) dX6_assigned_30 (by decide) ?_
        exact wj_X6_assigned_37 h rx1 (⟨by decide, rfl⟩ : okB 19 8) ih hE

def f_X6_assigned (s : vS) : Option (Int × vS) :=
  vl (gI s 10 2) fun y1 =>
  lq_0 (l_X6_assigned_8 FU y1 s) fun s4 =>
  some (1, s4)
theorem yk_X6_assigned : yOk yX6_assigned 0 := ⟨by decide, by decide, by decide +kernel⟩
theorem c_X6_assigned {s : vS} {out : Int × vS} (h : f_X6_assigned s = some out)   : VC yX6_assigned cX6_assigned 3 (some .boolean) 6 141 [vO 13] s (some (vI out.1)) out.2 [] := by
  unfold f_X6_assigned at h
  refine VC.of RX6 (by decide) rfl (Nat.le_of_ble_eq_true rfl) ?_
  show VW cX6_assigned (RX6, (some (vI out.1)), out.2, (some .boolean), 6, 141, 3, []) (P0 []) s 0 [(0, vO 13)] []
  refine v_aload_n dX6_assigned_0 0 rfl rfl ?_
  refine v_getS (f := 1) (t := 10) cf6 oc13 rfl rfl rfl (by decide) q628 dX6_assigned_1 ?_
  refine v_getIN (f := 2) cf4 oc10 rfl (by decide) q469 dX6_assigned_4 ?_
  obtain ⟨y1, e2, h⟩ := vl_some h
  rw [← e2]
  have r3 : rg y1 := by rw [e2]; exact gI_rg _ _ _
  refine v_istore_n (L1 := [(1, vI y1), (0, vO 13)]) dX6_assigned_7 rfl (by decide) rfl ?_
  refine v_sub [1, 0] (L1 := [(0, vO 13), (1, vI y1)]) rfl ?_
  obtain ⟨s4, e5, h⟩ := lq_0_some h
  refine wl_X6_assigned_8  FU y1 s _ e5 r3 ?_
  unfold E_X6_assigned_8
  intro s4' z_
  cases z_
  refine v_iconst dX6_assigned_79 ?_
  cases h
  exact v_zret (Or.inr rfl) dX6_assigned_80

def f_X6_isType (x1 : Int) (s : vS) : Option (Int × vS) :=
  bd (f_X4_kind x1 s) fun r4 s1 =>
  if 17 < r4 then
    some (0, s1)
  else
    some (1, s1)
theorem yk_X6_isType : yOk yX6_isType 1 := ⟨by decide, by decide, by decide +kernel⟩
theorem c_X6_isType {x1 : Int} {s : vS} {out : Int × vS} (h : f_X6_isType x1 s = some out)  (rx1 : rg x1) : VC yX6_isType cX6_isType 2 (some .boolean) 2 43 [vO 13, vI x1] s (some (vI out.1)) out.2 [] := by
  unfold f_X6_isType at h
  refine VC.of RX6 (by decide) rfl (Nat.le_of_ble_eq_true rfl) ?_
  show VW cX6_isType (RX6, (some (vI out.1)), out.2, (some .boolean), 2, 43, 2, []) (P0 []) s 0 [(0, vO 13), (1, vI x1)] []
  refine v_aload_n dX6_isType_0 0 rfl rfl ?_
  refine v_getS (f := 1) (t := 10) cf6 oc13 rfl rfl rfl (by decide) q628 dX6_isType_1 ?_
  refine v_iload_n dX6_isType_4 1 rfl rfl ?_
  obtain ⟨r4, s1, e2, h⟩ := bd_some h
  have k3 := c_X4_kind e2 rx1
  have r5 : rg r4 := k3.1.2.2
  refine v_callV (st := []) cf4 oc10 k3 (lw_V q1445 q1446 q1447 q301 q1448) rfl yk_X4_kind ⟨Nat.le_of_ble_eq_true rfl, Nat.le_of_ble_eq_true rfl⟩ trivial ⟨kc13, trivial⟩ (Nat.le_of_ble_eq_true rfl) rfl dX6_isType_5 ?_
  refine v_bipush dX6_isType_8 rfl ?_
  refine v_icmp_gt (tgt := 17) dX6_isType_10 r5 (rgl rfl) (by decide) (fun c6 => ?_) (fun c6 => ?_)
  · rw [if_pos c6] at h
    refine v_iconst dX6_isType_17 ?_
    cases h
    exact v_zret (Or.inl rfl) dX6_isType_18
  · rw [if_neg c6] at h
    refine v_iconst dX6_isType_13 ?_
    refine v_goto (tgt := 18) dX6_isType_14 (by decide) ?_
    cases h
    exact v_zret (Or.inr rfl) dX6_isType_18

def f_X4_parts (x1 : Int) (s : vS) : Option (Int × vS) :=
  bd (f_X4_at x1 3 s) fun r4 s1 =>
  some (r4, s1)
theorem yk_X4_parts : yOk yX4_parts 1 := ⟨by decide, by decide, by decide +kernel⟩
theorem c_X4_parts {x1 : Int} {s : vS} {out : Int × vS} (h : f_X4_parts x1 s = some out)  (rx1 : rg x1) : VC yX4_parts cX4_parts 2 (some .int) 1 22 [vO 10, vI x1] s (some (vI out.1)) out.2 [] := by
  unfold f_X4_parts at h
  refine VC.of RX4 (by decide) rfl (Nat.le_of_ble_eq_true rfl) ?_
  show VW cX4_parts (RX4, (some (vI out.1)), out.2, (some .int), 1, 22, 2, []) (P0 []) s 0 [(0, vO 10), (1, vI x1)] []
  refine v_aload_n dX4_parts_0 0 rfl rfl ?_
  refine v_iload_n dX4_parts_1 1 rfl rfl ?_
  refine v_iconst dX4_parts_2 ?_
  obtain ⟨r4, s1, e2, h⟩ := bd_some h
  have k3 := c_X4_at e2 rx1 (rgl rfl)
  have r5 : rg r4 := k3.1.2.2
  refine v_callV (st := []) cf4 oc10 k3 (lw_V q1399 q1400 q1401 q301 q1402) rfl yk_X4_at ⟨Nat.le_of_ble_eq_true rfl, Nat.le_of_ble_eq_true rfl⟩ trivial ⟨kc10, trivial⟩ (Nat.le_of_ble_eq_true rfl) rfl dX4_parts_3 ?_
  cases h
  exact v_iret r5 dX4_parts_6

def j_X7_add_40 (o : Nat) (x1 : Int) (s : vS) : Option (vS) :=
  gd (inb (gI s o 1) (gN s (o + 1))) <|
  stp (sE s (o + 1) (gI s o 1) x1) fun s2 =>
  stp (sI s2 o 1 (w32 ((gI s2 o 1) + 1))) fun s4 =>
  some s4
theorem wj_X7_add_40 {o : Nat} {x1 : Int} {s : vS} {out : vS} (h : j_X7_add_40 o x1 s = some out) (ho : okB o 6) (rx1 : rg x1) : VW cX7_add (RX7, none, out, none, 1, 26, 3, []) (P0 []) s 40 [(0, vO o), (1, vI x1)] [] := by
  unfold j_X7_add_40 at h
  refine v_aload_n dX7_add_40 0 rfl rfl ?_
  refine v_getS (f := 0) (t := o + 1) cf7 (okB_ok ho) rfl rfl rfl (by decide) q528 dX7_add_41 ?_
  refine v_aload_n dX7_add_44 0 rfl rfl ?_
  refine v_getI (f := 1) cf7 (okB_ok ho) rfl (by decide) q529 dX7_add_45 ?_
  refine v_iload_n dX7_add_48 1 rfl rfl ?_
  obtain ⟨g1, h⟩ := gd_some h
  obtain ⟨s2, e3, h⟩ := stp_some h
  refine v_iast (okB_ok (ch_6_0 ho)) (gI_rg _ _ _) g1.1 g1.2 dX7_add_49 ?_
  rw [← e3]
  refine v_aload_n dX7_add_50 0 rfl rfl ?_
  refine v_dupO dX7_add_51 ?_
  refine v_getI (f := 1) cf7 (okB_ok ho) rfl (by decide) q529 dX7_add_52 ?_
  refine v_iconst dX7_add_55 ?_
  refine v_iadd dX7_add_56 ?_
  obtain ⟨s4, e5, h⟩ := stp_some h
  refine v_putI (f := 1) cf7 (okB_ok ho) rfl (by decide) q529 dX7_add_57 rfl rfl ?_
  rw [← e5]
  cases h
  exact v_vret dX7_add_60

def f_X7_add (o : Nat) (x1 : Int) (s : vS) : Option (vS) :=
  if (gI s o 1) = (w32 (gN s (o + 1) : Int)) then
    gd (naG (w32 (2 * (gI s o 1)))) <|
    stp (sA s 199 (Int.toNat (w32 (2 * (gI s o 1))), fun _ => 0)) fun s3 =>
    gd (cpG 0 0 (gI s3 o 1) (gN s3 (o + 1)) (gN s3 199)) <|
    stp (cpA s3 (o + 1) 199 0 0 (gI s3 o 1)) fun s6 =>
    gd (2 * gN s6 (o + 1) ≤ gN s6 199 ∧ 2 ≤ gN s6 199) <|
    stp (sw2 s6 (o + 1) 199) fun s9 =>
    stp (rs s9) fun s11 =>
    j_X7_add_40 o x1 s11
  else
    j_X7_add_40 o x1 s
theorem yk_X7_add : yOk yX7_add 1 := ⟨by decide, by decide, by decide +kernel⟩
theorem c_X7_add {o : Nat} {x1 : Int} {s : vS} {out : vS} (h : f_X7_add o x1 s = some out) (ho : okB o 6) (rx1 : rg x1) : VC yX7_add cX7_add 3 none 1 26 [vO o, vI x1] s none out [] := by
  unfold f_X7_add at h
  refine VC.of RX7 (by decide) rfl (Nat.le_of_ble_eq_true rfl) ?_
  show VW cX7_add (RX7, none, out, none, 1, 26, 3, []) (P0 []) s 0 [(0, vO o), (1, vI x1)] []
  refine v_aload_n dX7_add_0 0 rfl rfl ?_
  refine v_getI (f := 1) cf7 (okB_ok ho) rfl (by decide) q529 dX7_add_1 ?_
  refine v_aload_n dX7_add_4 0 rfl rfl ?_
  refine v_getS (f := 0) (t := o + 1) cf7 (okB_ok ho) rfl rfl rfl (by decide) q528 dX7_add_5 ?_
  refine v_alen24 (okB_ok (ch_6_0 ho)) dX7_add_8 ?_
  refine v_icmp_ne (tgt := 40) dX7_add_9 (gI_rg _ _ _) (w32_rg _) (by decide) (fun c1 => ?_) (fun c1 => ?_)
  · rw [if_neg c1] at h
    exact wj_X7_add_40 h ho rx1
  · rw [if_pos c1] at h
    refine v_iconst dX7_add_12 ?_
    refine v_aload_n dX7_add_13 0 rfl rfl ?_
    refine v_getI (f := 1) cf7 (okB_ok ho) rfl (by decide) q529 dX7_add_14 ?_
    refine v_imul dX7_add_17 ?_
    obtain ⟨g2, h⟩ := gd_some h
    obtain ⟨s3, e4, h⟩ := stp_some h
    refine v_na24 (K := 199) (tk1 := [(24, 1)]) rfl rfl (by decide) (w32_rg _) g2 ⟨(Nat.lt_of_lt_of_le ho.1 (by decide)), trivial⟩ trivial q459 dX7_add_18 ?_
    rw [← e4]
    refine v_astore_n (L1 := [(2, vO 199), (0, vO o), (1, vI x1)]) dX7_add_20 rfl (by decide) rfl ?_
    refine v_aload_n dX7_add_21 1 rfl rfl ?_
    refine v_getS (f := 0) (t := o + 1) cf7 (okB_ok ho) rfl rfl rfl (by decide) q528 dX7_add_22 ?_
    refine v_iconst dX7_add_25 ?_
    refine v_aload_n dX7_add_26 0 rfl rfl ?_
    refine v_iconst dX7_add_27 ?_
    refine v_aload_n dX7_add_28 1 rfl rfl ?_
    refine v_getI (f := 1) cf7 (okB_ok ho) rfl (by decide) q529 dX7_add_29 ?_
    obtain ⟨g5, h⟩ := gd_some h
    obtain ⟨s6, e7, h⟩ := stp_some h
    refine v_cp (t := 24) (by decide) (by decide) (okB_ok (ch_6_0 ho)) (ok_tmp (i := 0) rfl) (rgl rfl) (rgl rfl) (gI_rg _ _ _) g5 (Nat.le_of_ble_eq_true rfl) (Nat.le_of_ble_eq_true rfl) q1523 dX7_add_32 ?_
    rw [← e7]
    refine v_aload_n dX7_add_35 1 rfl rfl ?_
    refine v_aload_n dX7_add_36 0 rfl rfl ?_
    obtain ⟨g8, h⟩ := gd_some h
    obtain ⟨s9, e10, h⟩ := stp_some h
    refine v_pa (i := 0) (K := 199) (t0 := o + 1) (f := 0) (tk1 := [(24, 0)]) (L1 := [(2, vO (o + 1)), (0, vO o), (1, vI x1)]) (st1 := []) rfl rfl (by decide) cf7 ho rfl (by decide) rfl (ch_6_0 ho).2 (by decide) rfl g8 q528 dX7_add_37 rfl rfl (by simp [rnL, rnA, swp, show o ≠ 199 by have := ho.1; unfold KF at this; omega, show o + 1 ≠ 199 by have := (ch_6_0 ho).1; unfold KF at this; omega] <;> (have h90 := ho.1; have h91 := (ch_6_0 ho).1; unfold KF at *; omega)) (by simp [rnL, rnA, swp, show o ≠ 199 by have := ho.1; unfold KF at this; omega, show o + 1 ≠ 199 by have := (ch_6_0 ho).1; unfold KF at this; omega] <;> (have h90 := ho.1; have h91 := (ch_6_0 ho).1; unfold KF at *; omega)) ?_
    rw [← e10]
    refine v_sub [1, 2] (L1 := [(0, vO o), (1, vI x1)]) rfl ?_
    obtain ⟨s11, e12, h⟩ := stp_some h
    refine v_dr (by decide) (by decide) ⟨(Nat.lt_of_lt_of_le ho.1 (by decide)), trivial⟩ trivial ?_
    rw [← e12]
    exact wj_X7_add_40 h ho rx1

def E_X7_grow_6 (o : Nat) (rv : Option vA) (σo : vS) (q : Int × vS) : Prop := ∀ (x5' : Int) (s' : vS), q = (x5', s') → rgL x5' → VW cX7_grow (RX7, rv, σo, none, 2, 48, 10, []) (P0 []) s' 57 [(0, vO o), (5, vL x5')] []
def l_X7_grow_6 (o : Nat) : Nat → Int → Int → Int → vS → Option (Int × vS)
  | 0, _, _, _, _ => none
  | n + 1, x1, x5, x7, s =>
    if (gI s o 1) ≤ x7 then
      some (x5, s)
    else
      gd (inb x7 (gN s (o + 1))) <|
      vl (w64 ((w64 ((and64 (gE s (o + 1) x7) 4294967295) * x1)) + x5)) fun y3 =>
      gd (inb x7 (gN s (o + 1))) <|
      stp (sE s (o + 1) x7 (w32 y3)) fun s7 =>
      vl (ushr64 y3 32) fun y9 =>
      vl (w32 (x7 + 1)) fun y12 =>
      l_X7_grow_6 o n x1 y9 y12 s7
theorem wl_X7_grow_6 (o : Nat) {x1 : Int} {rv : Option vA} {σo : vS} (ho : okB o 6) (rx1 : rgL x1) : ∀ (n : Nat) (x5 : Int) (x7 : Int) (s : vS) (q : Int × vS), l_X7_grow_6 o n x1 x5 x7 s = some q → rgL x5 → rg x7 → E_X7_grow_6 o rv σo q → VW cX7_grow (RX7, rv, σo, none, 2, 48, 10, []) (P0 []) s 6 [(0, vO o), (1, vL x1), (5, vL x5), (7, vI x7)] [] := by
  intro n
  induction n with
  | zero => intro x5 x7 s q h; cases h
  | succ n ih =>
    intro x5 x7 s q h rx5 rx7 hE
    unfold l_X7_grow_6 at h
    refine v_iload dX7_grow_6 3 rfl ?_
    refine v_aload_n dX7_grow_8 0 rfl rfl ?_
    refine v_getI (f := 1) cf7 (okB_ok ho) rfl (by decide) q529 dX7_grow_9 ?_
    refine v_icmp_ge (tgt := 57) dX7_grow_12 rx7 (gI_rg _ _ _) (by decide) (fun c1 => ?_) (fun c1 => ?_)
    · rw [if_pos c1] at h
      cases h
      refine v_sub [0, 2] (L1 := [(0, vO o), (5, vL x5)]) rfl ?_
      exact hE _ _ rfl rx5
    · rw [if_neg c1] at h
      refine v_aload_n dX7_grow_15 0 rfl rfl ?_
      refine v_getS (f := 0) (t := o + 1) cf7 (okB_ok ho) rfl rfl rfl (by decide) q528 dX7_grow_16 ?_
      refine v_iload dX7_grow_19 3 rfl ?_
      obtain ⟨g2, h⟩ := gd_some h
      refine v_iald (okB_ok (ch_6_0 ho)) rx7 g2.1 g2.2 dX7_grow_21 ?_
      refine v_i2l dX7_grow_22 (gE_rg _ _ _) ?_
      refine v_ldc2 (n := 4294967295) dX7_grow_23 q1518 rfl ?_
      refine v_land dX7_grow_26 ?_
      refine v_lload_n dX7_grow_27 1 rfl rfl ?_
      refine v_lmul dX7_grow_28 ?_
      refine v_lload dX7_grow_29 2 rfl ?_
      refine v_ladd dX7_grow_31 ?_
      obtain ⟨y3, e4, h⟩ := vl_some h
      rw [← e4]
      have r5 : rgL y3 := by rw [e4]; exact w64_rg _
      refine v_lstore (L1 := [(8, vL y3), (0, vO o), (1, vL x1), (5, vL x5), (7, vI x7)]) dX7_grow_32 (by decide) rfl ?_
      refine v_aload_n dX7_grow_34 1 rfl rfl ?_
      refine v_getS (f := 0) (t := o + 1) cf7 (okB_ok ho) rfl rfl rfl (by decide) q528 dX7_grow_35 ?_
      refine v_iload dX7_grow_38 4 rfl ?_
      refine v_lload dX7_grow_40 0 rfl ?_
      refine v_l2i dX7_grow_42 ?_
      obtain ⟨g6, h⟩ := gd_some h
      obtain ⟨s7, e8, h⟩ := stp_some h
      refine v_iast (okB_ok (ch_6_0 ho)) rx7 g6.1 g6.2 dX7_grow_43 ?_
      rw [← e8]
      refine v_lload dX7_grow_44 0 rfl ?_
      refine v_bipush dX7_grow_46 rfl ?_
      refine v_lushr dX7_grow_48 ?_
      obtain ⟨y9, e10, h⟩ := vl_some h
      rw [← e10]
      have r11 : rgL y9 := by rw [e10]; exact ushr64_rg _ _
      refine v_lstore (L1 := [(5, vL y9), (8, vL y3), (0, vO o), (1, vL x1), (7, vI x7)]) dX7_grow_49 (by decide) rfl ?_
      obtain ⟨y12, e13, h⟩ := vl_some h
      refine v_iinc (L1 := [(7, vI (w32 (x7 + 1))), (5, vL y9), (8, vL y3), (0, vO o), (1, vL x1)]) dX7_grow_51 4 rfl (by decide) rfl ?_
      rw [← e13]
      have r14 : rg y12 := by rw [e13]; exact w32_rg _
      refine v_goto (tgt := 6) dX7_grow_54 (by decide) ?_
      refine v_sub [3, 4, 1, 0] (L1 := [(0, vO o), (1, vL x1), (5, vL y9), (7, vI y12)]) rfl ?_
      exact ih y9 y12 s7 _ h r11 r14 hE

def f_X7_grow (o : Nat) (x1 : Int) (x3 : Int) (s : vS) : Option (vS) :=
  lq_1 (l_X7_grow_6 o FU x1 x3 0 s) fun y1 s2 =>
  if (cmp64 y1 0) ≤ 0 then
    some s2
  else
    bdv (f_X7_add o (w32 y1) s2) fun s6 =>
    some s6
theorem yk_X7_grow : yOk yX7_grow 2 := ⟨by decide, by decide, by decide +kernel⟩
theorem c_X7_grow {o : Nat} {x1 : Int} {x3 : Int} {s : vS} {out : vS} (h : f_X7_grow o x1 x3 s = some out) (ho : okB o 6) (rx1 : rgL x1) (rx3 : rgL x3) : VC yX7_grow cX7_grow 10 none 2 48 [vO o, vL x1, vL x3] s none out [] := by
  unfold f_X7_grow at h
  refine VC.of RX7 (by decide) rfl (Nat.le_of_ble_eq_true rfl) ?_
  show VW cX7_grow (RX7, none, out, none, 2, 48, 10, []) (P0 []) s 0 [(0, vO o), (1, vL x1), (3, vL x3)] []
  refine v_lload_n dX7_grow_0 2 rfl rfl ?_
  refine v_lstore (L1 := [(5, vL x3), (0, vO o), (1, vL x1), (3, vL x3)]) dX7_grow_1 (by decide) rfl ?_
  refine v_iconst dX7_grow_3 ?_
  refine v_istore (L1 := [(7, vI 0), (5, vL x3), (0, vO o), (1, vL x1), (3, vL x3)]) dX7_grow_4 (by decide) rfl ?_
  refine v_sub [2, 3, 1, 0] (L1 := [(0, vO o), (1, vL x1), (5, vL x3), (7, vI 0)]) rfl ?_
  obtain ⟨y1, s2, e3, h⟩ := lq_1_some h
  refine wl_X7_grow_6 o ho rx1 FU x3 0 s _ e3 rx3 (rgl rfl) ?_
  unfold E_X7_grow_6
  intro y1' s2' z_ r4
  cases z_
  refine v_lload dX7_grow_57 1 rfl ?_
  refine v_lconst (n := 0) dX7_grow_59 rfl ?_
  refine v_lcmp dX7_grow_60 r4 (rglL rfl) ?_
  refine v_if_le (tgt := 71) dX7_grow_61 (cmp64_rg _ _) (by decide) (fun c5 => ?_) (fun c5 => ?_)
  · rw [if_pos c5] at h
    cases h
    exact v_vret dX7_grow_71
  · rw [if_neg c5] at h
    refine v_aload_n dX7_grow_64 0 rfl rfl ?_
    refine v_lload dX7_grow_65 1 rfl ?_
    refine v_l2i dX7_grow_67 ?_
    obtain ⟨s6, e7, h⟩ := bdv_some h
    have k8 := c_X7_add e7 ho (w32_rg _)
    refine v_callV (st := []) cf7 (okB_ok ho) k8 (lw_V q1519 q1521 qs51 q304 q1522) rfl yk_X7_add ⟨Nat.le_of_ble_eq_true rfl, Nat.le_of_ble_eq_true rfl⟩ trivial ⟨(okB_kp ho (by decide)), trivial⟩ (Nat.le_of_ble_eq_true rfl) rfl dX7_grow_68 ?_
    cases h
    exact v_vret dX7_grow_71

def E_X7_read_8 (o : Nat) (p1 : Nat) (rv : Option vA) (σo : vS) (q : vS) : Prop := ∀ (s' : vS), q = s' → VW cX7_read (RX7, rv, σo, none, 3, 77, 10, []) (P0 []) s' 84 [] []
def E_X7_read_23 (o : Nat) (p1 : Nat) (x3 : Int) (rv : Option vA) (σo : vS) (q : Int × Int × Int × vS) : Prop := ∀ (x4' : Int) (x5' : Int) (x7' : Int) (s' : vS), q = (x4', x5', x7', s') → rg x4' → rgL x5' → rgL x7' → VW cX7_read (RX7, rv, σo, none, 3, 77, 10, []) (P0 []) s' 73 [(0, vO o), (1, vO p1), (3, vI x3), (4, vI x4'), (5, vL x5'), (7, vL x7')] []
def l_X7_read_23 (o : Nat) (p1 : Nat) : Nat → Int → Int → Int → Int → Int → vS → Option (Int × Int × Int × vS)
  | 0, _, _, _, _, _, _ => none
  | n + 1, x3, x4, x5, x7, x9, s =>
    if 9 ≤ x9 then
      some (x4, x5, x7, s)
    else
      if x3 ≤ x4 then
        some (x4, x5, x7, s)
      else
        vl (w64 (x5 * 10)) fun y3 =>
        bd (f_X2_at p1 x4 s) fun r9 s6 =>
        vl (w64 ((w64 ((w64 (10 * x7)) + r9)) - 48)) fun y11 =>
        vl (w32 (x4 + 1)) fun y14 =>
        vl (w32 (x9 + 1)) fun y17 =>
        l_X7_read_23 o p1 n x3 y14 y3 y11 y17 s6
theorem wl_X7_read_23 (o : Nat) (p1 : Nat) {x3 : Int} {rv : Option vA} {σo : vS} (ho : okB o 6) (hp1 : okB p1 1) (rx3 : rg x3) : ∀ (n : Nat) (x4 : Int) (x5 : Int) (x7 : Int) (x9 : Int) (s : vS) (q : Int × Int × Int × vS), l_X7_read_23 o p1 n x3 x4 x5 x7 x9 s = some q → rg x4 → rgL x5 → rgL x7 → rg x9 → E_X7_read_23 o p1 x3 rv σo q → VW cX7_read (RX7, rv, σo, none, 3, 77, 10, []) (P0 []) s 23 [(0, vO o), (1, vO p1), (3, vI x3), (4, vI x4), (5, vL x5), (7, vL x7), (9, vI x9)] [] := by
  intro n
  induction n with
  | zero => intro x4 x5 x7 x9 s q h; cases h
  | succ n ih =>
    intro x4 x5 x7 x9 s q h rx4 rx5 rx7 rx9 hE
    unfold l_X7_read_23 at h
    refine v_iload dX7_read_23 6 rfl ?_
    refine v_bipush dX7_read_25 rfl ?_
    refine v_icmp_ge (tgt := 73) dX7_read_27 rx9 (rgl rfl) (by decide) (fun c1 => ?_) (fun c1 => ?_)
    · rw [if_pos c1] at h
      cases h
      refine v_sub [0, 1, 2, 3, 4, 5] (L1 := [(0, vO o), (1, vO p1), (3, vI x3), (4, vI x4), (5, vL x5), (7, vL x7)]) rfl ?_
      exact hE _ _ _ _ rfl rx4 rx5 rx7
    · rw [if_neg c1] at h
      refine v_iload dX7_read_30 3 rfl ?_
      refine v_iload_n dX7_read_32 2 rfl rfl ?_
      refine v_icmp_ge (tgt := 73) dX7_read_33 rx4 rx3 (by decide) (fun c2 => ?_) (fun c2 => ?_)
      · rw [if_pos c2] at h
        cases h
        refine v_sub [0, 1, 2, 3, 4, 5] (L1 := [(0, vO o), (1, vO p1), (3, vI x3), (4, vI x4), (5, vL x5), (7, vL x7)]) rfl ?_
        exact hE _ _ _ _ rfl rx4 rx5 rx7
      · rw [if_neg c2] at h
        refine v_lload dX7_read_36 4 rfl ?_
        refine v_ldc2 (n := 10) dX7_read_38 q1511 rfl ?_
        refine v_lmul dX7_read_41 ?_
        obtain ⟨y3, e4, h⟩ := vl_some h
        rw [← e4]
        have r5 : rgL y3 := by rw [e4]; exact w64_rg _
        refine v_lstore (L1 := [(5, vL y3), (0, vO o), (1, vO p1), (3, vI x3), (4, vI x4), (7, vL x7), (9, vI x9)]) dX7_read_42 (by decide) rfl ?_
        refine v_ldc2 (n := 10) dX7_read_44 q1511 rfl ?_
        refine v_lload dX7_read_47 5 rfl ?_
        refine v_lmul dX7_read_49 ?_
        refine v_aload_n dX7_read_50 2 rfl rfl ?_
        refine v_iload dX7_read_51 4 rfl ?_
        obtain ⟨r9, s6, e7, h⟩ := bd_some h
        have k8 := c_X2_at e7 hp1 rx4
        have r10 : rg r9 := k8.1.2.2
        refine v_callV (st := [vL (w64 (10 * x7))]) cf2 (okB_ok hp1) k8 (lw_V q1512 q1072 q1073 q299 q1074) rfl yk_X2_at ⟨Nat.le_of_ble_eq_true rfl, Nat.le_of_ble_eq_true rfl⟩ trivial ⟨(okB_kp ho (by decide)), (okB_kp hp1 (by decide)), trivial⟩ (Nat.le_of_ble_eq_true rfl) rfl dX7_read_53 ?_
        refine v_i2l dX7_read_56 r10 ?_
        refine v_ladd dX7_read_57 ?_
        refine v_ldc2 (n := 48) dX7_read_58 q1513 rfl ?_
        refine v_lsub dX7_read_61 ?_
        obtain ⟨y11, e12, h⟩ := vl_some h
        rw [← e12]
        have r13 : rgL y11 := by rw [e12]; exact w64_rg _
        refine v_lstore (L1 := [(7, vL y11), (5, vL y3), (0, vO o), (1, vO p1), (3, vI x3), (4, vI x4), (9, vI x9)]) dX7_read_62 (by decide) rfl ?_
        obtain ⟨y14, e15, h⟩ := vl_some h
        refine v_iinc (L1 := [(4, vI (w32 (x4 + 1))), (7, vL y11), (5, vL y3), (0, vO o), (1, vO p1), (3, vI x3), (9, vI x9)]) dX7_read_64 5 rfl (by decide) rfl ?_
        rw [← e15]
        have r16 : rg y14 := by rw [e15]; exact w32_rg _
        obtain ⟨y17, e18, h⟩ := vl_some h
        refine v_iinc (L1 := [(9, vI (w32 (x9 + 1))), (4, vI y14), (7, vL y11), (5, vL y3), (0, vO o), (1, vO p1), (3, vI x3)]) dX7_read_67 6 rfl (by decide) rfl ?_
        rw [← e18]
        have r19 : rg y17 := by rw [e18]; exact w32_rg _
        refine v_goto (tgt := 23) dX7_read_70 (by decide) ?_
        refine v_sub [4, 5, 6, 1, 3, 2, 0] (L1 := [(0, vO o), (1, vO p1), (3, vI x3), (4, vI y14), (5, vL y3), (7, vL y11), (9, vI y17)]) rfl ?_
        exact ih y14 y3 y11 y17 s6 _ h r16 r5 r13 r19 hE

def j_X7_read_73 (o : Nat) (p1 : Nat) (rec : Int → Int → vS → Option (vS)) (x3 : Int) (x4 : Int) (x5 : Int) (x7 : Int) (s : vS) : Option (vS) :=
  bdv (f_X7_grow o x5 x7 s) fun s1 =>
  rec x3 x4 s1
theorem wj_X7_read_73 {o : Nat} {p1 : Nat} {x3 : Int} {x4 : Int} {x5 : Int} {x7 : Int} {s : vS} {rv : Option vA} {σo : vS} {rec : Int → Int → vS → Option (vS)} {q : vS} (h : j_X7_read_73 o p1 rec x3 x4 x5 x7 s = some q) (ho : okB o 6) (hp1 : okB p1 1) (rx3 : rg x3) (rx4 : rg x4) (rx5 : rgL x5) (rx7 : rgL x7) (hrec : ∀ (y4 : Int) (s : vS) (q : vS), rec x3 y4 s = some q → rg y4 → E_X7_read_8 o p1 rv σo q → VW cX7_read (RX7, rv, σo, none, 3, 77, 10, []) (P0 []) s 8 [(0, vO o), (1, vO p1), (3, vI x3), (4, vI y4)] []) (hE : E_X7_read_8 o p1 rv σo q) : VW cX7_read (RX7, rv, σo, none, 3, 77, 10, []) (P0 []) s 73 [(0, vO o), (1, vO p1), (3, vI x3), (4, vI x4), (5, vL x5), (7, vL x7)] [] := by
  unfold j_X7_read_73 at h
  refine v_aload_n dX7_read_73 0 rfl rfl ?_
  refine v_lload dX7_read_74 4 rfl ?_
  refine v_lload dX7_read_76 5 rfl ?_
  obtain ⟨s1, e2, h⟩ := bdv_some h
  have k3 := c_X7_grow e2 ho rx5 rx7
  refine v_callV (st := []) cf7 (okB_ok ho) k3 (lw_V q1514 q1516 qs50 q304 q1517) rfl yk_X7_grow ⟨Nat.le_of_ble_eq_true rfl, Nat.le_of_ble_eq_true rfl⟩ trivial ⟨(okB_kp ho (by decide)), (okB_kp hp1 (by decide)), trivial⟩ (Nat.le_of_ble_eq_true rfl) rfl dX7_read_78 ?_
  refine v_goto (tgt := 8) dX7_read_81 (by decide) ?_
  refine v_sub [0, 1, 2, 3] (L1 := [(0, vO o), (1, vO p1), (3, vI x3), (4, vI x4)]) rfl ?_
  exact hrec x4 s1 _ h rx4 hE

def l_X7_read_8 (o : Nat) (p1 : Nat) : Nat → Int → Int → vS → Option (vS)
  | 0, _, _, _ => none
  | n + 1, x3, x4, s =>
    if x3 ≤ x4 then
      some s
    else
      lq_3 (l_X7_read_23 o p1 FU x3 x4 1 0 0 s) fun y2 y3 y4 s5 =>
      j_X7_read_73 o p1 (l_X7_read_8 o p1 n) x3 y2 y3 y4 s5
theorem wl_X7_read_8 (o : Nat) (p1 : Nat) {x3 : Int} {rv : Option vA} {σo : vS} (ho : okB o 6) (hp1 : okB p1 1) (rx3 : rg x3) : ∀ (n : Nat) (x4 : Int) (s : vS) (q : vS), l_X7_read_8 o p1 n x3 x4 s = some q → rg x4 → E_X7_read_8 o p1 rv σo q → VW cX7_read (RX7, rv, σo, none, 3, 77, 10, []) (P0 []) s 8 [(0, vO o), (1, vO p1), (3, vI x3), (4, vI x4)] [] := by
  intro n
  induction n with
  | zero => intro x4 s q h; cases h
  | succ n ih =>
    intro x4 s q h rx4 hE
    unfold l_X7_read_8 at h
    refine v_iload dX7_read_8 3 rfl ?_
    refine v_iload_n dX7_read_10 2 rfl rfl ?_
    refine v_icmp_ge (tgt := 84) dX7_read_11 rx4 rx3 (by decide) (fun c1 => ?_) (fun c1 => ?_)
    · rw [if_pos c1] at h
      cases h
      refine v_sub [] (L1 := []) rfl ?_
      exact hE _ rfl 
    · rw [if_neg c1] at h
      refine v_lconst (n := 1) dX7_read_14 rfl ?_
      refine v_lstore (L1 := [(5, vL 1), (0, vO o), (1, vO p1), (3, vI x3), (4, vI x4)]) dX7_read_15 (by decide) rfl ?_
      refine v_lconst (n := 0) dX7_read_17 rfl ?_
      refine v_lstore (L1 := [(7, vL 0), (5, vL 1), (0, vO o), (1, vO p1), (3, vI x3), (4, vI x4)]) dX7_read_18 (by decide) rfl ?_
      refine v_iconst dX7_read_20 ?_
      refine v_istore (L1 := [(9, vI 0), (7, vL 0), (5, vL 1), (0, vO o), (1, vO p1), (3, vI x3), (4, vI x4)]) dX7_read_21 (by decide) rfl ?_
      refine v_sub [3, 4, 5, 6, 2, 1, 0] (L1 := [(0, vO o), (1, vO p1), (3, vI x3), (4, vI x4), (5, vL 1), (7, vL 0), (9, vI 0)]) rfl ?_
      obtain ⟨y2, y3, y4, s5, e6, h⟩ := lq_3_some h
      refine wl_X7_read_23 o p1 ho hp1 rx3 FU x4 1 0 0 s _ e6 rx4 (rglL rfl) (rglL rfl) (rgl rfl) ?_
      unfold E_X7_read_23
      intro y2' y3' y4' s5' z_ r7 r8 r9
      cases z_
      exact wj_X7_read_73 h ho hp1 rx3 r7 r8 r9 ih hE

def f_X7_read (o : Nat) (p1 : Nat) (x2 : Int) (x3 : Int) (s : vS) : Option (vS) :=
  stp (sI s o 1 0) fun s1 =>
  lq_0 (l_X7_read_8 o p1 FU x3 x2 s1) fun s3 =>
  some s3
theorem yk_X7_read : yOk yX7_read 3 := ⟨by decide, by decide, by decide +kernel⟩
theorem c_X7_read {o : Nat} {p1 : Nat} {x2 : Int} {x3 : Int} {s : vS} {out : vS} (h : f_X7_read o p1 x2 x3 s = some out) (ho : okB o 6) (hp1 : okB p1 1) (rx2 : rg x2) (rx3 : rg x3) : VC yX7_read cX7_read 10 none 3 77 [vO o, vO p1, vI x2, vI x3] s none out [] := by
  unfold f_X7_read at h
  refine VC.of RX7 (by decide) rfl (Nat.le_of_ble_eq_true rfl) ?_
  show VW cX7_read (RX7, none, out, none, 3, 77, 10, []) (P0 []) s 0 [(0, vO o), (1, vO p1), (2, vI x2), (3, vI x3)] []
  refine v_aload_n dX7_read_0 0 rfl rfl ?_
  refine v_iconst dX7_read_1 ?_
  obtain ⟨s1, e2, h⟩ := stp_some h
  refine v_putI (f := 1) cf7 (okB_ok ho) rfl (by decide) q529 dX7_read_2 rfl rfl ?_
  rw [← e2]
  refine v_iload_n dX7_read_5 2 rfl rfl ?_
  refine v_istore (L1 := [(4, vI x2), (0, vO o), (1, vO p1), (2, vI x2), (3, vI x3)]) dX7_read_6 (by decide) rfl ?_
  refine v_sub [1, 2, 4, 0] (L1 := [(0, vO o), (1, vO p1), (3, vI x3), (4, vI x2)]) rfl ?_
  obtain ⟨s3, e4, h⟩ := lq_0_some h
  refine wl_X7_read_8 o p1 ho hp1 rx3 FU x2 s1 _ e4 rx2 ?_
  unfold E_X7_read_8
  intro s3' z_
  cases z_
  cases h
  exact v_vret dX7_read_84

def f_X7_byteOf (o : Nat) (x1 : Int) (s : vS) : Option (Int × vS) :=
  if (gI s o 1) ≤ (d32 x1 4) then
    some (0, s)
  else
    gd (inb (d32 x1 4) (gN s (o + 1))) <|
    some (and32 (shr32 (gE s (o + 1) (d32 x1 4)) (w32 (8 * (m32 x1 4)))) 255, s)
theorem yk_X7_byteOf : yOk yX7_byteOf 1 := ⟨by decide, by decide, by decide +kernel⟩
theorem c_X7_byteOf {o : Nat} {x1 : Int} {s : vS} {out : Int × vS} (h : f_X7_byteOf o x1 s = some out) (ho : okB o 6) (rx1 : rg x1) : VC yX7_byteOf cX7_byteOf 2 (some .int) 0 0 [vO o, vI x1] s (some (vI out.1)) out.2 [] := by
  unfold f_X7_byteOf at h
  refine VC.of RX7 (by decide) rfl (Nat.le_of_ble_eq_true rfl) ?_
  show VW cX7_byteOf (RX7, (some (vI out.1)), out.2, (some .int), 0, 0, 2, []) (P0 []) s 0 [(0, vO o), (1, vI x1)] []
  refine v_iload_n dX7_byteOf_0 1 rfl rfl ?_
  refine v_iconst dX7_byteOf_1 ?_
  refine v_idiv dX7_byteOf_2 (rgl rfl) (by decide) ?_
  refine v_aload_n dX7_byteOf_3 0 rfl rfl ?_
  refine v_getI (f := 1) cf7 (okB_ok ho) rfl (by decide) q529 dX7_byteOf_4 ?_
  refine v_icmp_ge (tgt := 32) dX7_byteOf_7 (d32_rg _ _) (gI_rg _ _ _) (by decide) (fun c1 => ?_) (fun c1 => ?_)
  · rw [if_pos c1] at h
    refine v_iconst dX7_byteOf_32 ?_
    cases h
    exact v_iret (rgl rfl) dX7_byteOf_33
  · rw [if_neg c1] at h
    refine v_aload_n dX7_byteOf_10 0 rfl rfl ?_
    refine v_getS (f := 0) (t := o + 1) cf7 (okB_ok ho) rfl rfl rfl (by decide) q528 dX7_byteOf_11 ?_
    refine v_iload_n dX7_byteOf_14 1 rfl rfl ?_
    refine v_iconst dX7_byteOf_15 ?_
    refine v_idiv dX7_byteOf_16 (rgl rfl) (by decide) ?_
    obtain ⟨g2, h⟩ := gd_some h
    refine v_iald (okB_ok (ch_6_0 ho)) (d32_rg _ _) g2.1 g2.2 dX7_byteOf_17 ?_
    refine v_bipush dX7_byteOf_18 rfl ?_
    refine v_iload_n dX7_byteOf_20 1 rfl rfl ?_
    refine v_iconst dX7_byteOf_21 ?_
    refine v_irem dX7_byteOf_22 (rgl rfl) (by decide) ?_
    refine v_imul dX7_byteOf_23 ?_
    refine v_ishr dX7_byteOf_24 ?_
    refine v_sipush dX7_byteOf_25 rfl ?_
    refine v_iand dX7_byteOf_28 ?_
    refine v_goto (tgt := 33) dX7_byteOf_29 (by decide) ?_
    cases h
    exact v_iret (and32_rg _ _) dX7_byteOf_33

def f_X2_set (o : Nat) (x1 : Int) (x2 : Int) (s : vS) : Option (vS) :=
  gd (inb x1 (gN s (o + 1))) <|
  stp (sE s (o + 1) x1 (n8 x2)) fun s2 =>
  some s2
theorem yk_X2_set : yOk yX2_set 2 := ⟨by decide, by decide, by decide +kernel⟩
theorem c_X2_set {o : Nat} {x1 : Int} {x2 : Int} {s : vS} {out : vS} (h : f_X2_set o x1 x2 s = some out) (ho : okB o 1) (rx1 : rg x1) (rx2 : rg x2) : VC yX2_set cX2_set 3 none 0 0 [vO o, vI x1, vI x2] s none out [] := by
  unfold f_X2_set at h
  refine VC.of RX2 (by decide) rfl (Nat.le_of_ble_eq_true rfl) ?_
  show VW cX2_set (RX2, none, out, none, 0, 0, 3, []) (P0 []) s 0 [(0, vO o), (1, vI x1), (2, vI x2)] []
  refine v_aload_n dX2_set_0 0 rfl rfl ?_
  refine v_getS (f := 0) (t := o + 1) cf2 (okB_ok ho) rfl rfl rfl (by decide) q340 dX2_set_1 ?_
  refine v_iload_n dX2_set_4 1 rfl rfl ?_
  refine v_iload_n dX2_set_5 2 rfl rfl ?_
  refine v_i2b dX2_set_6 ?_
  obtain ⟨g1, h⟩ := gd_some h
  obtain ⟨s2, e3, h⟩ := stp_some h
  refine v_bast (okB_ok (ch_1_0 ho)) rx1 g1.1 g1.2 dX2_set_7 ?_
  rw [← e3]
  cases h
  exact v_vret dX2_set_8

def E_X7_write_7 (o : Nat) (p2 : Nat) (x1 : Int) (rv : Option vA) (σo : vS) (q : Int × vS) : Prop := ∀ (x3' : Int) (s' : vS), q = (x3', s') → rg x3' → VW cX7_write (RX7, rv, σo, none, 3, 70, 8, []) (P0 []) s' 27 [(0, vO o), (1, vI x1), (2, vO p2), (3, vI x3')] []
def l_X7_write_7 (o : Nat) (p2 : Nat) : Nat → Int → Int → vS → Option (Int × vS)
  | 0, _, _, _ => none
  | n + 1, x1, x3, s =>
    if x3 ≤ 0 then
      some (x3, s)
    else
      bd (f_X7_byteOf o (w32 (x3 - 1)) s) fun r5 s2 =>
      if r5 = 0 then
        vl (w32 (x3 + (-1))) fun y8 =>
        l_X7_write_7 o p2 n x1 y8 s2
      else
        some (x3, s2)
theorem wl_X7_write_7 (o : Nat) (p2 : Nat) {x1 : Int} {rv : Option vA} {σo : vS} (ho : okB o 6) (hp2 : okB p2 1) (rx1 : rg x1) : ∀ (n : Nat) (x3 : Int) (s : vS) (q : Int × vS), l_X7_write_7 o p2 n x1 x3 s = some q → rg x3 → E_X7_write_7 o p2 x1 rv σo q → VW cX7_write (RX7, rv, σo, none, 3, 70, 8, []) (P0 []) s 7 [(0, vO o), (1, vI x1), (2, vO p2), (3, vI x3)] [] := by
  intro n
  induction n with
  | zero => intro x3 s q h; cases h
  | succ n ih =>
    intro x3 s q h rx3 hE
    unfold l_X7_write_7 at h
    refine v_iload_n dX7_write_7 3 rfl rfl ?_
    refine v_if_le (tgt := 27) dX7_write_8 rx3 (by decide) (fun c1 => ?_) (fun c1 => ?_)
    · rw [if_pos c1] at h
      cases h
      exact hE _ _ rfl rx3
    · rw [if_neg c1] at h
      refine v_aload_n dX7_write_11 0 rfl rfl ?_
      refine v_iload_n dX7_write_12 3 rfl rfl ?_
      refine v_iconst dX7_write_13 ?_
      refine v_isub dX7_write_14 ?_
      obtain ⟨r5, s2, e3, h⟩ := bd_some h
      have k4 := c_X7_byteOf e3 ho (w32_rg _)
      have r6 : rg r5 := k4.1.2.2
      refine v_callV (st := []) cf7 (okB_ok ho) k4 (lw_V q1529 q1531 qs52 q304 q1532) rfl yk_X7_byteOf ⟨Nat.le_of_ble_eq_true rfl, Nat.le_of_ble_eq_true rfl⟩ trivial ⟨(okB_kp ho (by decide)), (okB_kp hp2 (by decide)), trivial⟩ (Nat.le_of_ble_eq_true rfl) rfl dX7_write_15 ?_
      refine v_if_ne (tgt := 27) dX7_write_18 r6 (by decide) (fun c7 => ?_) (fun c7 => ?_)
      · rw [if_neg c7] at h
        cases h
        exact hE _ _ rfl rx3
      · rw [if_pos c7] at h
        obtain ⟨y8, e9, h⟩ := vl_some h
        refine v_iinc (L1 := [(3, vI (w32 (x3 + (-1)))), (0, vO o), (1, vI x1), (2, vO p2)]) dX7_write_21 3 rfl (by decide) rfl ?_
        rw [← e9]
        have r10 : rg y8 := by rw [e9]; exact w32_rg _
        refine v_goto (tgt := 7) dX7_write_24 (by decide) ?_
        refine v_sub [1, 2, 3, 0] (L1 := [(0, vO o), (1, vI x1), (2, vO p2), (3, vI y8)]) rfl ?_
        exact ih y8 s2 _ h r10 hE

def E_X7_write_36 (o : Nat) (p2 : Nat) (x1 : Int) (x3 : Int) (x4 : Int) (rv : Option vA) (σo : vS) (q : vS) : Prop := ∀ (s' : vS), q = s' → VW cX7_write (RX7, rv, σo, none, 3, 70, 8, []) (P0 []) s' 57 [(1, vI x1), (2, vO p2), (3, vI x3), (4, vI x4)] []
def l_X7_write_36 (o : Nat) (p2 : Nat) : Nat → Int → Int → Int → Int → vS → Option (vS)
  | 0, _, _, _, _, _ => none
  | n + 1, x1, x3, x4, x5, s =>
    if x5 < 0 then
      some s
    else
      bd (f_X7_byteOf o x5 s) fun r5 s2 =>
      bdv (f_X2_add p2 r5 s2) fun s7 =>
      vl (w32 (x5 + (-1))) fun y10 =>
      l_X7_write_36 o p2 n x1 x3 x4 y10 s7
theorem wl_X7_write_36 (o : Nat) (p2 : Nat) {x1 : Int} {x3 : Int} {x4 : Int} {rv : Option vA} {σo : vS} (ho : okB o 6) (hp2 : okB p2 1) (rx1 : rg x1) (rx3 : rg x3) (rx4 : rg x4) : ∀ (n : Nat) (x5 : Int) (s : vS) (q : vS), l_X7_write_36 o p2 n x1 x3 x4 x5 s = some q → rg x5 → E_X7_write_36 o p2 x1 x3 x4 rv σo q → VW cX7_write (RX7, rv, σo, none, 3, 70, 8, []) (P0 []) s 36 [(0, vO o), (1, vI x1), (2, vO p2), (3, vI x3), (4, vI x4), (5, vI x5)] [] := by
  intro n
  induction n with
  | zero => intro x5 s q h; cases h
  | succ n ih =>
    intro x5 s q h rx5 hE
    unfold l_X7_write_36 at h
    refine v_iload dX7_write_36 5 rfl ?_
    refine v_if_lt (tgt := 57) dX7_write_38 rx5 (by decide) (fun c1 => ?_) (fun c1 => ?_)
    · rw [if_pos c1] at h
      cases h
      refine v_sub [1, 2, 3, 4] (L1 := [(1, vI x1), (2, vO p2), (3, vI x3), (4, vI x4)]) rfl ?_
      exact hE _ rfl 
    · rw [if_neg c1] at h
      refine v_aload_n dX7_write_41 2 rfl rfl ?_
      refine v_aload_n dX7_write_42 0 rfl rfl ?_
      refine v_iload dX7_write_43 5 rfl ?_
      obtain ⟨r5, s2, e3, h⟩ := bd_some h
      have k4 := c_X7_byteOf e3 ho rx5
      have r6 : rg r5 := k4.1.2.2
      refine v_callV (st := [vO p2]) cf7 (okB_ok ho) k4 (lw_V q1529 q1531 qs52 q304 q1532) rfl yk_X7_byteOf ⟨Nat.le_of_ble_eq_true rfl, Nat.le_of_ble_eq_true rfl⟩ ⟨(okB_kp hp2 (by decide)), trivial⟩ ⟨(okB_kp ho (by decide)), (okB_kp hp2 (by decide)), trivial⟩ (Nat.le_of_ble_eq_true rfl) rfl dX7_write_45 ?_
      obtain ⟨s7, e8, h⟩ := bdv_some h
      have k9 := c_X2_add e8 hp2 r6
      refine v_callV (st := []) cf2 (okB_ok hp2) k9 (lw_V q1534 q1003 q1004 q299 q1005) rfl yk_X2_add ⟨Nat.le_of_ble_eq_true rfl, Nat.le_of_ble_eq_true rfl⟩ trivial ⟨(okB_kp ho (by decide)), (okB_kp hp2 (by decide)), trivial⟩ (Nat.le_of_ble_eq_true rfl) rfl dX7_write_48 ?_
      obtain ⟨y10, e11, h⟩ := vl_some h
      refine v_iinc (L1 := [(5, vI (w32 (x5 + (-1)))), (0, vO o), (1, vI x1), (2, vO p2), (3, vI x3), (4, vI x4)]) dX7_write_51 5 rfl (by decide) rfl ?_
      rw [← e11]
      have r12 : rg y10 := by rw [e11]; exact w32_rg _
      refine v_goto (tgt := 36) dX7_write_54 (by decide) ?_
      refine v_sub [1, 2, 3, 4, 5, 0] (L1 := [(0, vO o), (1, vI x1), (2, vO p2), (3, vI x3), (4, vI x4), (5, vI y10)]) rfl ?_
      exact ih y10 s7 _ h r12 hE

def E_X7_write_175 (o : Nat) (p2 : Nat) (rv : Option vA) (σo : vS) (q : vS) : Prop := ∀ (s' : vS), q = s' → VW cX7_write (RX7, rv, σo, none, 3, 70, 8, []) (P0 []) s' 206 [(2, vO p2)] []
def l_X7_write_175 (o : Nat) (p2 : Nat) : Nat → Int → vS → Option (vS)
  | 0, _, _ => none
  | n + 1, x5, s =>
    bd (f_X2_size p2 s) fun r4 s1 =>
    if r4 ≤ (w32 (x5 + 1)) then
      some s1
    else
      bd (f_X2_at p2 (w32 (x5 + 1)) s1) fun r10 s7 =>
      bdv (f_X2_set p2 x5 r10 s7) fun s12 =>
      vl (w32 (x5 + 1)) fun y15 =>
      l_X7_write_175 o p2 n y15 s12
theorem wl_X7_write_175 (o : Nat) (p2 : Nat) {rv : Option vA} {σo : vS} (ho : okB o 6) (hp2 : okB p2 1) : ∀ (n : Nat) (x5 : Int) (s : vS) (q : vS), l_X7_write_175 o p2 n x5 s = some q → rg x5 → E_X7_write_175 o p2 rv σo q → VW cX7_write (RX7, rv, σo, none, 3, 70, 8, []) (P0 []) s 175 [(2, vO p2), (5, vI x5)] [] := by
  intro n
  induction n with
  | zero => intro x5 s q h; cases h
  | succ n ih =>
    intro x5 s q h rx5 hE
    unfold l_X7_write_175 at h
    refine v_iload dX7_write_175 1 rfl ?_
    refine v_iconst dX7_write_177 ?_
    refine v_iadd dX7_write_178 ?_
    refine v_aload_n dX7_write_179 0 rfl rfl ?_
    obtain ⟨r4, s1, e2, h⟩ := bd_some h
    have k3 := c_X2_size e2 hp2
    have r5 : rg r4 := k3.1.2.2
    refine v_callV (st := [vI (w32 (x5 + 1))]) cf2 (okB_ok hp2) k3 (lw_V q1533 q918 q919 q299 q920) rfl yk_X2_size ⟨Nat.le_of_ble_eq_true rfl, Nat.le_of_ble_eq_true rfl⟩ trivial ⟨(okB_kp hp2 (by decide)), trivial⟩ (Nat.le_of_ble_eq_true rfl) rfl dX7_write_180 ?_
    refine v_icmp_ge (tgt := 206) dX7_write_183 (w32_rg _) r5 (by decide) (fun c6 => ?_) (fun c6 => ?_)
    · rw [if_pos c6] at h
      cases h
      refine v_sub [0] (L1 := [(2, vO p2)]) rfl ?_
      exact hE _ rfl 
    · rw [if_neg c6] at h
      refine v_aload_n dX7_write_186 0 rfl rfl ?_
      refine v_iload dX7_write_187 1 rfl ?_
      refine v_aload_n dX7_write_189 0 rfl rfl ?_
      refine v_iload dX7_write_190 1 rfl ?_
      refine v_iconst dX7_write_192 ?_
      refine v_iadd dX7_write_193 ?_
      obtain ⟨r10, s7, e8, h⟩ := bd_some h
      have k9 := c_X2_at e8 hp2 (w32_rg _)
      have r11 : rg r10 := k9.1.2.2
      refine v_callV (st := [vI x5, vO p2]) cf2 (okB_ok hp2) k9 (lw_V q1512 q1072 q1073 q299 q1074) rfl yk_X2_at ⟨Nat.le_of_ble_eq_true rfl, Nat.le_of_ble_eq_true rfl⟩ ⟨(okB_kp hp2 (by decide)), trivial⟩ ⟨(okB_kp hp2 (by decide)), trivial⟩ (Nat.le_of_ble_eq_true rfl) rfl dX7_write_194 ?_
      obtain ⟨s12, e13, h⟩ := bdv_some h
      have k14 := c_X2_set e13 hp2 rx5 r11
      refine v_callV (st := []) cf2 (okB_ok hp2) k14 (lw_V q1535 q1536 q1537 q299 q1538) rfl yk_X2_set ⟨Nat.le_of_ble_eq_true rfl, Nat.le_of_ble_eq_true rfl⟩ trivial ⟨(okB_kp hp2 (by decide)), trivial⟩ (Nat.le_of_ble_eq_true rfl) rfl dX7_write_197 ?_
      obtain ⟨y15, e16, h⟩ := vl_some h
      refine v_iinc (L1 := [(5, vI (w32 (x5 + 1))), (2, vO p2)]) dX7_write_200 1 rfl (by decide) rfl ?_
      rw [← e16]
      have r17 : rg y15 := by rw [e16]; exact w32_rg _
      refine v_goto (tgt := 175) dX7_write_203 (by decide) ?_
      refine v_sub [1, 0] (L1 := [(2, vO p2), (5, vI y15)]) rfl ?_
      exact ih y15 s12 _ h r17 hE

def j_X7_write_146 (o : Nat) (p2 : Nat) (x4 : Int) (s : vS) : Option (vS) :=
  bd (f_X2_at p2 x4 s) fun r4 s1 =>
  if r4 = 255 then
    bd (f_X2_at p2 (w32 (x4 + 1)) s1) fun r10 s7 =>
    if r10 ≤ 127 then
      some s7
    else
      lq_0 (l_X7_write_175 o p2 FU x4 s7) fun s13 =>
      bd (f_X2_size p2 s13) fun r18 s15 =>
      bdv (f_X2_cut p2 (w32 (r18 - 1)) s15) fun s20 =>
      some s20
  else
    some s1
theorem wj_X7_write_146 {o : Nat} {p2 : Nat} {x4 : Int} {s : vS} {out : vS} (h : j_X7_write_146 o p2 x4 s = some out) (ho : okB o 6) (hp2 : okB p2 1) (rx4 : rg x4) : VW cX7_write (RX7, none, out, none, 3, 70, 8, []) (P0 []) s 146 [(2, vO p2), (4, vI x4)] [] := by
  unfold j_X7_write_146 at h
  refine v_aload_n dX7_write_146 0 rfl rfl ?_
  refine v_iload dX7_write_147 1 rfl ?_
  obtain ⟨r4, s1, e2, h⟩ := bd_some h
  have k3 := c_X2_at e2 hp2 rx4
  have r5 : rg r4 := k3.1.2.2
  refine v_callV (st := []) cf2 (okB_ok hp2) k3 (lw_V q1512 q1072 q1073 q299 q1074) rfl yk_X2_at ⟨Nat.le_of_ble_eq_true rfl, Nat.le_of_ble_eq_true rfl⟩ trivial ⟨(okB_kp hp2 (by decide)), trivial⟩ (Nat.le_of_ble_eq_true rfl) rfl dX7_write_149 ?_
  refine v_sipush dX7_write_152 rfl ?_
  refine v_icmp_ne (tgt := 216) dX7_write_155 r5 (rgl rfl) (by decide) (fun c6 => ?_) (fun c6 => ?_)
  · rw [if_neg c6] at h
    cases h
    exact v_vret dX7_write_216
  · rw [if_pos c6] at h
    refine v_aload_n dX7_write_158 0 rfl rfl ?_
    refine v_iload dX7_write_159 1 rfl ?_
    refine v_iconst dX7_write_161 ?_
    refine v_iadd dX7_write_162 ?_
    obtain ⟨r10, s7, e8, h⟩ := bd_some h
    have k9 := c_X2_at e8 hp2 (w32_rg _)
    have r11 : rg r10 := k9.1.2.2
    refine v_callV (st := []) cf2 (okB_ok hp2) k9 (lw_V q1512 q1072 q1073 q299 q1074) rfl yk_X2_at ⟨Nat.le_of_ble_eq_true rfl, Nat.le_of_ble_eq_true rfl⟩ trivial ⟨(okB_kp hp2 (by decide)), trivial⟩ (Nat.le_of_ble_eq_true rfl) rfl dX7_write_163 ?_
    refine v_bipush dX7_write_166 rfl ?_
    refine v_icmp_le (tgt := 216) dX7_write_168 r11 (rgl rfl) (by decide) (fun c12 => ?_) (fun c12 => ?_)
    · rw [if_pos c12] at h
      cases h
      exact v_vret dX7_write_216
    · rw [if_neg c12] at h
      refine v_iload dX7_write_171 1 rfl ?_
      refine v_istore (L1 := [(5, vI x4), (2, vO p2), (4, vI x4)]) dX7_write_173 (by decide) rfl ?_
      refine v_sub [1, 0] (L1 := [(2, vO p2), (5, vI x4)]) rfl ?_
      obtain ⟨s13, e14, h⟩ := lq_0_some h
      refine wl_X7_write_175 o p2 ho hp2 FU x4 s7 _ e14 rx4 ?_
      unfold E_X7_write_175
      intro s13' z_
      cases z_
      refine v_aload_n dX7_write_206 0 rfl rfl ?_
      refine v_aload_n dX7_write_207 0 rfl rfl ?_
      obtain ⟨r18, s15, e16, h⟩ := bd_some h
      have k17 := c_X2_size e16 hp2
      have r19 : rg r18 := k17.1.2.2
      refine v_callV (st := [vO p2]) cf2 (okB_ok hp2) k17 (lw_V q1533 q918 q919 q299 q920) rfl yk_X2_size ⟨Nat.le_of_ble_eq_true rfl, Nat.le_of_ble_eq_true rfl⟩ ⟨(okB_kp hp2 (by decide)), trivial⟩ ⟨(okB_kp hp2 (by decide)), trivial⟩ (Nat.le_of_ble_eq_true rfl) rfl dX7_write_208 ?_
      refine v_iconst dX7_write_211 ?_
      refine v_isub dX7_write_212 ?_
      obtain ⟨s20, e21, h⟩ := bdv_some h
      have k22 := c_X2_cut e21 hp2 (w32_rg _)
      refine v_callV (st := []) cf2 (okB_ok hp2) k22 (lw_V q1539 q1040 q1041 q299 q1042) rfl yk_X2_cut ⟨Nat.le_of_ble_eq_true rfl, Nat.le_of_ble_eq_true rfl⟩ trivial ⟨(okB_kp hp2 (by decide)), trivial⟩ (Nat.le_of_ble_eq_true rfl) rfl dX7_write_213 ?_
      cases h
      exact v_vret dX7_write_216

def j_X7_write_119 (o : Nat) (p2 : Nat) (x3 : Int) (x4 : Int) (s : vS) : Option (vS) :=
  if x3 ≤ 0 then
    some s
  else
    bd (f_X2_at p2 x4 s) fun r5 s2 =>
    if r5 = 0 then
      bd (f_X2_at p2 (w32 (x4 + 1)) s2) fun r11 s8 =>
      if r11 < 128 then
        lq_0 (l_X7_write_175 o p2 FU x4 s8) fun s14 =>
        bd (f_X2_size p2 s14) fun r19 s16 =>
        bdv (f_X2_cut p2 (w32 (r19 - 1)) s16) fun s21 =>
        some s21
      else
        j_X7_write_146 o p2 x4 s8
    else
      j_X7_write_146 o p2 x4 s2
theorem wj_X7_write_119 {o : Nat} {p2 : Nat} {x3 : Int} {x4 : Int} {s : vS} {out : vS} (h : j_X7_write_119 o p2 x3 x4 s = some out) (ho : okB o 6) (hp2 : okB p2 1) (rx3 : rg x3) (rx4 : rg x4) : VW cX7_write (RX7, none, out, none, 3, 70, 8, []) (P0 []) s 119 [(2, vO p2), (3, vI x3), (4, vI x4)] [] := by
  unfold j_X7_write_119 at h
  refine v_iload_n dX7_write_119 1 rfl rfl ?_
  refine v_if_le (tgt := 216) dX7_write_120 rx3 (by decide) (fun c1 => ?_) (fun c1 => ?_)
  · rw [if_pos c1] at h
    cases h
    exact v_vret dX7_write_216
  · rw [if_neg c1] at h
    refine v_aload_n dX7_write_123 0 rfl rfl ?_
    refine v_iload dX7_write_124 2 rfl ?_
    obtain ⟨r5, s2, e3, h⟩ := bd_some h
    have k4 := c_X2_at e3 hp2 rx4
    have r6 : rg r5 := k4.1.2.2
    refine v_callV (st := []) cf2 (okB_ok hp2) k4 (lw_V q1512 q1072 q1073 q299 q1074) rfl yk_X2_at ⟨Nat.le_of_ble_eq_true rfl, Nat.le_of_ble_eq_true rfl⟩ trivial ⟨(okB_kp hp2 (by decide)), trivial⟩ (Nat.le_of_ble_eq_true rfl) rfl dX7_write_126 ?_
    refine v_if_ne (tgt := 146) dX7_write_129 r6 (by decide) (fun c7 => ?_) (fun c7 => ?_)
    · rw [if_neg c7] at h
      refine v_sub [0, 2] (L1 := [(2, vO p2), (4, vI x4)]) rfl ?_
      exact wj_X7_write_146 h ho hp2 rx4
    · rw [if_pos c7] at h
      refine v_aload_n dX7_write_132 0 rfl rfl ?_
      refine v_iload dX7_write_133 2 rfl ?_
      refine v_iconst dX7_write_135 ?_
      refine v_iadd dX7_write_136 ?_
      obtain ⟨r11, s8, e9, h⟩ := bd_some h
      have k10 := c_X2_at e9 hp2 (w32_rg _)
      have r12 : rg r11 := k10.1.2.2
      refine v_callV (st := []) cf2 (okB_ok hp2) k10 (lw_V q1512 q1072 q1073 q299 q1074) rfl yk_X2_at ⟨Nat.le_of_ble_eq_true rfl, Nat.le_of_ble_eq_true rfl⟩ trivial ⟨(okB_kp hp2 (by decide)), trivial⟩ (Nat.le_of_ble_eq_true rfl) rfl dX7_write_137 ?_
      refine v_sipush dX7_write_140 rfl ?_
      refine v_icmp_lt (tgt := 171) dX7_write_143 r12 (rgl rfl) (by decide) (fun c13 => ?_) (fun c13 => ?_)
      · rw [if_pos c13] at h
        refine v_iload dX7_write_171 2 rfl ?_
        refine v_istore (L1 := [(5, vI x4), (2, vO p2), (3, vI x3), (4, vI x4)]) dX7_write_173 (by decide) rfl ?_
        refine v_sub [1, 0] (L1 := [(2, vO p2), (5, vI x4)]) rfl ?_
        obtain ⟨s14, e15, h⟩ := lq_0_some h
        refine wl_X7_write_175 o p2 ho hp2 FU x4 s8 _ e15 rx4 ?_
        unfold E_X7_write_175
        intro s14' z_
        cases z_
        refine v_aload_n dX7_write_206 0 rfl rfl ?_
        refine v_aload_n dX7_write_207 0 rfl rfl ?_
        obtain ⟨r19, s16, e17, h⟩ := bd_some h
        have k18 := c_X2_size e17 hp2
        have r20 : rg r19 := k18.1.2.2
        refine v_callV (st := [vO p2]) cf2 (okB_ok hp2) k18 (lw_V q1533 q918 q919 q299 q920) rfl yk_X2_size ⟨Nat.le_of_ble_eq_true rfl, Nat.le_of_ble_eq_true rfl⟩ ⟨(okB_kp hp2 (by decide)), trivial⟩ ⟨(okB_kp hp2 (by decide)), trivial⟩ (Nat.le_of_ble_eq_true rfl) rfl dX7_write_208 ?_
        refine v_iconst dX7_write_211 ?_
        refine v_isub dX7_write_212 ?_
        obtain ⟨s21, e22, h⟩ := bdv_some h
        have k23 := c_X2_cut e22 hp2 (w32_rg _)
        refine v_callV (st := []) cf2 (okB_ok hp2) k23 (lw_V q1539 q1040 q1041 q299 q1042) rfl yk_X2_cut ⟨Nat.le_of_ble_eq_true rfl, Nat.le_of_ble_eq_true rfl⟩ trivial ⟨(okB_kp hp2 (by decide)), trivial⟩ (Nat.le_of_ble_eq_true rfl) rfl dX7_write_213 ?_
        cases h
        exact v_vret dX7_write_216
      · rw [if_neg c13] at h
        refine v_sub [0, 2] (L1 := [(2, vO p2), (4, vI x4)]) rfl ?_
        exact wj_X7_write_146 h ho hp2 rx4

def E_X7_write_72 (o : Nat) (p2 : Nat) (x3 : Int) (x4 : Int) (rv : Option vA) (σo : vS) (q : vS) : Prop := ∀ (s' : vS), q = s' → VW cX7_write (RX7, rv, σo, none, 3, 70, 8, []) (P0 []) s' 119 [(2, vO p2), (3, vI x3), (4, vI x4)] []
def l_X7_write_72 (o : Nat) (p2 : Nat) : Nat → Int → Int → Int → Int → vS → Option (vS)
  | 0, _, _, _, _, _ => none
  | n + 1, x3, x4, x5, x6, s =>
    if x6 < x4 then
      some s
    else
      bd (f_X2_at p2 x6 s) fun r5 s2 =>
      vl (w32 ((w32 (255 - r5)) + x5)) fun y7 =>
      bdv (f_X2_set p2 x6 (and32 y7 255) s2) fun s10 =>
      vl (shr32 y7 8) fun y13 =>
      vl (w32 (x6 + (-1))) fun y16 =>
      l_X7_write_72 o p2 n x3 x4 y13 y16 s10
theorem wl_X7_write_72 (o : Nat) (p2 : Nat) {x3 : Int} {x4 : Int} {rv : Option vA} {σo : vS} (ho : okB o 6) (hp2 : okB p2 1) (rx3 : rg x3) (rx4 : rg x4) : ∀ (n : Nat) (x5 : Int) (x6 : Int) (s : vS) (q : vS), l_X7_write_72 o p2 n x3 x4 x5 x6 s = some q → rg x5 → rg x6 → E_X7_write_72 o p2 x3 x4 rv σo q → VW cX7_write (RX7, rv, σo, none, 3, 70, 8, []) (P0 []) s 72 [(2, vO p2), (3, vI x3), (4, vI x4), (5, vI x5), (6, vI x6)] [] := by
  intro n
  induction n with
  | zero => intro x5 x6 s q h; cases h
  | succ n ih =>
    intro x5 x6 s q h rx5 rx6 hE
    unfold l_X7_write_72 at h
    refine v_iload dX7_write_72 4 rfl ?_
    refine v_iload dX7_write_74 2 rfl ?_
    refine v_icmp_lt (tgt := 119) dX7_write_76 rx6 rx4 (by decide) (fun c1 => ?_) (fun c1 => ?_)
    · rw [if_pos c1] at h
      cases h
      refine v_sub [0, 1, 2] (L1 := [(2, vO p2), (3, vI x3), (4, vI x4)]) rfl ?_
      exact hE _ rfl 
    · rw [if_neg c1] at h
      refine v_sipush dX7_write_79 rfl ?_
      refine v_aload_n dX7_write_82 0 rfl rfl ?_
      refine v_iload dX7_write_83 4 rfl ?_
      obtain ⟨r5, s2, e3, h⟩ := bd_some h
      have k4 := c_X2_at e3 hp2 rx6
      have r6 : rg r5 := k4.1.2.2
      refine v_callV (st := [vI 255]) cf2 (okB_ok hp2) k4 (lw_V q1512 q1072 q1073 q299 q1074) rfl yk_X2_at ⟨Nat.le_of_ble_eq_true rfl, Nat.le_of_ble_eq_true rfl⟩ trivial ⟨(okB_kp hp2 (by decide)), trivial⟩ (Nat.le_of_ble_eq_true rfl) rfl dX7_write_85 ?_
      refine v_isub dX7_write_88 ?_
      refine v_iload dX7_write_89 3 rfl ?_
      refine v_iadd dX7_write_91 ?_
      obtain ⟨y7, e8, h⟩ := vl_some h
      rw [← e8]
      have r9 : rg y7 := by rw [e8]; exact w32_rg _
      refine v_istore (L1 := [(7, vI y7), (2, vO p2), (3, vI x3), (4, vI x4), (5, vI x5), (6, vI x6)]) dX7_write_92 (by decide) rfl ?_
      refine v_aload_n dX7_write_94 1 rfl rfl ?_
      refine v_iload dX7_write_95 5 rfl ?_
      refine v_iload dX7_write_97 0 rfl ?_
      refine v_sipush dX7_write_99 rfl ?_
      refine v_iand dX7_write_102 ?_
      obtain ⟨s10, e11, h⟩ := bdv_some h
      have k12 := c_X2_set e11 hp2 rx6 (and32_rg _ _)
      refine v_callV (st := []) cf2 (okB_ok hp2) k12 (lw_V q1535 q1536 q1537 q299 q1538) rfl yk_X2_set ⟨Nat.le_of_ble_eq_true rfl, Nat.le_of_ble_eq_true rfl⟩ trivial ⟨(okB_kp hp2 (by decide)), trivial⟩ (Nat.le_of_ble_eq_true rfl) rfl dX7_write_103 ?_
      refine v_iload dX7_write_106 0 rfl ?_
      refine v_bipush dX7_write_108 rfl ?_
      refine v_ishr dX7_write_110 ?_
      obtain ⟨y13, e14, h⟩ := vl_some h
      rw [← e14]
      have r15 : rg y13 := by rw [e14]; exact shr32_rg _ _
      refine v_istore (L1 := [(5, vI y13), (7, vI y7), (2, vO p2), (3, vI x3), (4, vI x4), (6, vI x6)]) dX7_write_111 (by decide) rfl ?_
      obtain ⟨y16, e17, h⟩ := vl_some h
      refine v_iinc (L1 := [(6, vI (w32 (x6 + (-1)))), (5, vI y13), (7, vI y7), (2, vO p2), (3, vI x3), (4, vI x4)]) dX7_write_113 5 rfl (by decide) rfl ?_
      rw [← e17]
      have r18 : rg y16 := by rw [e17]; exact w32_rg _
      refine v_goto (tgt := 72) dX7_write_116 (by decide) ?_
      refine v_sub [3, 4, 5, 1, 0] (L1 := [(2, vO p2), (3, vI x3), (4, vI x4), (5, vI y13), (6, vI y16)]) rfl ?_
      exact ih y13 y16 s10 _ h r15 r18 hE

def j_X7_write_27 (o : Nat) (p2 : Nat) (x1 : Int) (x3 : Int) (s : vS) : Option (vS) :=
  bd (f_X2_size p2 s) fun r4 s1 =>
  lq_0 (l_X7_write_36 o p2 FU x1 x3 r4 x3 s1) fun s6 =>
  if x1 = 0 then
    j_X7_write_119 o p2 x3 r4 s6
  else
    bd (f_X2_size p2 s6) fun r12 s9 =>
    vl (w32 (r12 - 1)) fun y14 =>
    lq_0 (l_X7_write_72 o p2 FU x3 r4 1 y14 s9) fun s17 =>
    j_X7_write_119 o p2 x3 r4 s17
theorem wj_X7_write_27 {o : Nat} {p2 : Nat} {x1 : Int} {x3 : Int} {s : vS} {out : vS} (h : j_X7_write_27 o p2 x1 x3 s = some out) (ho : okB o 6) (hp2 : okB p2 1) (rx1 : rg x1) (rx3 : rg x3) : VW cX7_write (RX7, none, out, none, 3, 70, 8, []) (P0 []) s 27 [(0, vO o), (1, vI x1), (2, vO p2), (3, vI x3)] [] := by
  unfold j_X7_write_27 at h
  refine v_aload_n dX7_write_27 2 rfl rfl ?_
  obtain ⟨r4, s1, e2, h⟩ := bd_some h
  have k3 := c_X2_size e2 hp2
  have r5 : rg r4 := k3.1.2.2
  refine v_callV (st := []) cf2 (okB_ok hp2) k3 (lw_V q1533 q918 q919 q299 q920) rfl yk_X2_size ⟨Nat.le_of_ble_eq_true rfl, Nat.le_of_ble_eq_true rfl⟩ trivial ⟨(okB_kp ho (by decide)), (okB_kp hp2 (by decide)), trivial⟩ (Nat.le_of_ble_eq_true rfl) rfl dX7_write_28 ?_
  refine v_istore (L1 := [(4, vI r4), (0, vO o), (1, vI x1), (2, vO p2), (3, vI x3)]) dX7_write_31 (by decide) rfl ?_
  refine v_iload_n dX7_write_33 4 rfl rfl ?_
  refine v_istore (L1 := [(5, vI x3), (4, vI r4), (0, vO o), (1, vI x1), (2, vO p2), (3, vI x3)]) dX7_write_34 (by decide) rfl ?_
  refine v_sub [2, 3, 4, 5, 1, 0] (L1 := [(0, vO o), (1, vI x1), (2, vO p2), (3, vI x3), (4, vI r4), (5, vI x3)]) rfl ?_
  obtain ⟨s6, e7, h⟩ := lq_0_some h
  refine wl_X7_write_36 o p2 ho hp2 rx1 rx3 r5 FU x3 s1 _ e7 rx3 ?_
  unfold E_X7_write_36
  intro s6' z_
  cases z_
  refine v_iload_n dX7_write_57 0 rfl rfl ?_
  refine v_if_eq (tgt := 119) dX7_write_58 rx1 (by decide) (fun c8 => ?_) (fun c8 => ?_)
  · rw [if_pos c8] at h
    refine v_sub [1, 2, 3] (L1 := [(2, vO p2), (3, vI x3), (4, vI r4)]) rfl ?_
    exact wj_X7_write_119 h ho hp2 rx3 r5
  · rw [if_neg c8] at h
    refine v_iconst dX7_write_61 ?_
    refine v_istore (L1 := [(5, vI 1), (1, vI x1), (2, vO p2), (3, vI x3), (4, vI r4)]) dX7_write_62 (by decide) rfl ?_
    refine v_aload_n dX7_write_64 2 rfl rfl ?_
    obtain ⟨r12, s9, e10, h⟩ := bd_some h
    have k11 := c_X2_size e10 hp2
    have r13 : rg r12 := k11.1.2.2
    refine v_callV (st := []) cf2 (okB_ok hp2) k11 (lw_V q1533 q918 q919 q299 q920) rfl yk_X2_size ⟨Nat.le_of_ble_eq_true rfl, Nat.le_of_ble_eq_true rfl⟩ trivial ⟨(okB_kp hp2 (by decide)), trivial⟩ (Nat.le_of_ble_eq_true rfl) rfl dX7_write_65 ?_
    refine v_iconst dX7_write_68 ?_
    refine v_isub dX7_write_69 ?_
    obtain ⟨y14, e15, h⟩ := vl_some h
    rw [← e15]
    have r16 : rg y14 := by rw [e15]; exact w32_rg _
    refine v_istore (L1 := [(6, vI y14), (5, vI 1), (1, vI x1), (2, vO p2), (3, vI x3), (4, vI r4)]) dX7_write_70 (by decide) rfl ?_
    refine v_sub [3, 4, 5, 1, 0] (L1 := [(2, vO p2), (3, vI x3), (4, vI r4), (5, vI 1), (6, vI y14)]) rfl ?_
    obtain ⟨s17, e18, h⟩ := lq_0_some h
    refine wl_X7_write_72 o p2 ho hp2 rx3 r5 FU 1 y14 s9 _ e18 (rgl rfl) r16 ?_
    unfold E_X7_write_72
    intro s17' z_
    cases z_
    exact wj_X7_write_119 h ho hp2 rx3 r5

def f_X7_write (o : Nat) (x1 : Int) (p2 : Nat) (s : vS) : Option (vS) :=
  vl (w32 (4 * (gI s o 1))) fun y1 =>
  lq_1 (l_X7_write_7 o p2 FU x1 y1 s) fun y4 s5 =>
  j_X7_write_27 o p2 x1 y4 s5
theorem yk_X7_write : yOk yX7_write 2 := ⟨by decide, by decide, by decide +kernel⟩
theorem c_X7_write {o : Nat} {x1 : Int} {p2 : Nat} {s : vS} {out : vS} (h : f_X7_write o x1 p2 s = some out) (ho : okB o 6) (hp2 : okB p2 1) (rx1 : rg x1) : VC yX7_write cX7_write 8 none 3 70 [vO o, vI x1, vO p2] s none out [] := by
  unfold f_X7_write at h
  refine VC.of RX7 (by decide) rfl (Nat.le_of_ble_eq_true rfl) ?_
  show VW cX7_write (RX7, none, out, none, 3, 70, 8, []) (P0 []) s 0 [(0, vO o), (1, vI x1), (2, vO p2)] []
  refine v_iconst dX7_write_0 ?_
  refine v_aload_n dX7_write_1 0 rfl rfl ?_
  refine v_getI (f := 1) cf7 (okB_ok ho) rfl (by decide) q529 dX7_write_2 ?_
  refine v_imul dX7_write_5 ?_
  obtain ⟨y1, e2, h⟩ := vl_some h
  rw [← e2]
  have r3 : rg y1 := by rw [e2]; exact w32_rg _
  refine v_istore_n (L1 := [(3, vI y1), (0, vO o), (1, vI x1), (2, vO p2)]) dX7_write_6 rfl (by decide) rfl ?_
  refine v_sub [1, 2, 3, 0] (L1 := [(0, vO o), (1, vI x1), (2, vO p2), (3, vI y1)]) rfl ?_
  obtain ⟨y4, s5, e6, h⟩ := lq_1_some h
  refine wl_X7_write_7 o p2 ho hp2 rx1 FU y1 s _ e6 r3 ?_
  unfold E_X7_write_7
  intro y4' s5' z_ r7
  cases z_
  exact wj_X7_write_27 h ho hp2 rx1 r7

def f_X6_number (x1 : Int) (x2 : Int) (x3 : Int) (s : vS) : Option (vS) :=
  gd (gR s 13 0 = 5) <|
  bdo (f_X3_text s) fun r5 s2 =>
  gd (okB r5 1) <|
  gd (gR s2 13 0 = 5) <|
  bd (f_X3_start x2 s2) fun r11 s8 =>
  gd (gR s8 13 0 = 5) <|
  bd (f_X3_end x2 s8) fun r17 s14 =>
  bdv (f_X7_read 14 r5 r11 r17 s14) fun s19 =>
  bd (f_X2_size 30 s19) fun r25 s22 =>
  gd (gN s22 34 = gN s19 34) <|
  gd (inb x1 (gN s22 34)) <|
  stp (sE s22 34 x1 r25) fun s29 =>
  bdv (f_X7_write 14 x3 30 s29) fun s31 =>
  bd (f_X2_size 30 s31) fun r37 s34 =>
  gd (gN s34 35 = gN s31 35) <|
  gd (inb x1 (gN s34 35)) <|
  stp (sE s34 35 x1 r37) fun s41 =>
  some s41
theorem yk_X6_number : yOk yX6_number 3 := ⟨by decide, by decide, by decide +kernel⟩
theorem c_X6_number {x1 : Int} {x2 : Int} {x3 : Int} {s : vS} {out : vS} (h : f_X6_number x1 x2 x3 s = some out)  (rx1 : rg x1) (rx2 : rg x2) (rx3 : rg x3) : VC yX6_number cX6_number 4 none 4 106 [vO 13, vI x1, vI x2, vI x3] s none out [] := by
  unfold f_X6_number at h
  refine VC.of RX6 (by decide) rfl (Nat.le_of_ble_eq_true rfl) ?_
  show VW cX6_number (RX6, none, out, none, 4, 106, 4, []) (P0 []) s 0 [(0, vO 13), (1, vI x1), (2, vI x2), (3, vI x3)] []
  refine v_aload_n dX6_number_0 0 rfl rfl ?_
  refine v_getS (f := 2) (t := 14) cf6 oc13 rfl rfl rfl (by decide) q629 dX6_number_1 ?_
  refine v_aload_n dX6_number_4 0 rfl rfl ?_
  obtain ⟨g1, h⟩ := gd_some h
  refine v_getR (f := 0) cf6 oc13 rfl (by rw [g1]; decide) (by decide) q627 dX6_number_5 ?_
  rw [g1]
  obtain ⟨r5, s2, e3, h⟩ := bdo_some h
  have k4 := c_X3_text e3
  obtain ⟨g6, h⟩ := gd_some h
  refine v_callV (st := [vO 14]) cf3 oc5 k4 (lw_V q1505 q1328 q1329 q300 q1330) rfl yk_X3_text ⟨Nat.le_of_ble_eq_true rfl, Nat.le_of_ble_eq_true rfl⟩ ⟨kc14, trivial⟩ ⟨kc13, trivial⟩ (Nat.le_of_ble_eq_true rfl) rfl dX6_number_8 ?_
  refine v_aload_n dX6_number_11 0 rfl rfl ?_
  obtain ⟨g7, h⟩ := gd_some h
  refine v_getR (f := 0) cf6 oc13 rfl (by rw [g7]; decide) (by decide) q627 dX6_number_12 ?_
  rw [g7]
  refine v_iload_n dX6_number_15 2 rfl rfl ?_
  obtain ⟨r11, s8, e9, h⟩ := bd_some h
  have k10 := c_X3_start e9 rx2
  have r12 : rg r11 := k10.1.2.2
  refine v_callV (st := [vO r5, vO 14]) cf3 oc5 k10 (lw_V q1482 q1288 q1289 q300 q1290) rfl yk_X3_start ⟨Nat.le_of_ble_eq_true rfl, Nat.le_of_ble_eq_true rfl⟩ ⟨(okB_kp g6 (by decide)), kc14, trivial⟩ ⟨kc13, trivial⟩ (Nat.le_of_ble_eq_true rfl) rfl dX6_number_16 ?_
  refine v_aload_n dX6_number_19 0 rfl rfl ?_
  obtain ⟨g13, h⟩ := gd_some h
  refine v_getR (f := 0) cf6 oc13 rfl (by rw [g13]; decide) (by decide) q627 dX6_number_20 ?_
  rw [g13]
  refine v_iload_n dX6_number_23 2 rfl rfl ?_
  obtain ⟨r17, s14, e15, h⟩ := bd_some h
  have k16 := c_X3_end e15 rx2
  have r18 : rg r17 := k16.1.2.2
  refine v_callV (st := [vI r11, vO r5, vO 14]) cf3 oc5 k16 (lw_V q1506 q1322 q1323 q300 q1324) rfl yk_X3_end ⟨Nat.le_of_ble_eq_true rfl, Nat.le_of_ble_eq_true rfl⟩ ⟨(okB_kp g6 (by decide)), kc14, trivial⟩ ⟨kc13, trivial⟩ (Nat.le_of_ble_eq_true rfl) rfl dX6_number_24 ?_
  obtain ⟨s19, e20, h⟩ := bdv_some h
  have k21 := c_X7_read e20 (⟨by decide, rfl⟩ : okB 14 6) g6 r12 r18
  refine v_callV (st := []) cf7 oc14 k21 (lw_V q1507 q1508 q1509 q304 q1510) rfl yk_X7_read ⟨Nat.le_of_ble_eq_true rfl, Nat.le_of_ble_eq_true rfl⟩ trivial ⟨kc13, trivial⟩ (Nat.le_of_ble_eq_true rfl) rfl dX6_number_27 ?_
  refine v_aload_n dX6_number_30 0 rfl rfl ?_
  refine v_getS (f := 11) (t := 34) cf6 oc13 rfl rfl rfl (by decide) q638 dX6_number_31 ?_
  refine v_iload_n dX6_number_34 1 rfl rfl ?_
  refine v_aload_n dX6_number_35 0 rfl rfl ?_
  refine v_getS (f := 9) (t := 30) cf6 oc13 rfl rfl rfl (by decide) q636 dX6_number_36 ?_
  obtain ⟨r25, s22, e23, h⟩ := bd_some h
  have k24 := c_X2_size e23 (⟨by decide, rfl⟩ : okB 30 1)
  have r26 : rg r25 := k24.1.2.2
  obtain ⟨g27, h⟩ := gd_some h
  refine v_callV (st := [vI x1, vO 34]) cf2 oc30 k24 (lw_V q1524 q918 q919 q299 q920) rfl yk_X2_size ⟨Nat.le_of_ble_eq_true rfl, Nat.le_of_ble_eq_true rfl⟩ ⟨(kp_arr (by decide) g27), trivial⟩ ⟨kc13, trivial⟩ (Nat.le_of_ble_eq_true rfl) rfl dX6_number_39 ?_
  obtain ⟨g28, h⟩ := gd_some h
  obtain ⟨s29, e30, h⟩ := stp_some h
  refine v_iast oc34 rx1 g28.1 g28.2 dX6_number_42 ?_
  rw [← e30]
  refine v_aload_n dX6_number_43 0 rfl rfl ?_
  refine v_getS (f := 2) (t := 14) cf6 oc13 rfl rfl rfl (by decide) q629 dX6_number_44 ?_
  refine v_iload_n dX6_number_47 3 rfl rfl ?_
  refine v_aload_n dX6_number_48 0 rfl rfl ?_
  refine v_getS (f := 9) (t := 30) cf6 oc13 rfl rfl rfl (by decide) q636 dX6_number_49 ?_
  obtain ⟨s31, e32, h⟩ := bdv_some h
  have k33 := c_X7_write e32 (⟨by decide, rfl⟩ : okB 14 6) (⟨by decide, rfl⟩ : okB 30 1) rx3
  refine v_callV (st := []) cf7 oc14 k33 (lw_V q1525 q1526 q1527 q304 q1528) rfl yk_X7_write ⟨Nat.le_of_ble_eq_true rfl, Nat.le_of_ble_eq_true rfl⟩ trivial ⟨kc13, trivial⟩ (Nat.le_of_ble_eq_true rfl) rfl dX6_number_52 ?_
  refine v_aload_n dX6_number_55 0 rfl rfl ?_
  refine v_getS (f := 12) (t := 35) cf6 oc13 rfl rfl rfl (by decide) q639 dX6_number_56 ?_
  refine v_iload_n dX6_number_59 1 rfl rfl ?_
  refine v_aload_n dX6_number_60 0 rfl rfl ?_
  refine v_getS (f := 9) (t := 30) cf6 oc13 rfl rfl rfl (by decide) q636 dX6_number_61 ?_
  obtain ⟨r37, s34, e35, h⟩ := bd_some h
  have k36 := c_X2_size e35 (⟨by decide, rfl⟩ : okB 30 1)
  have r38 : rg r37 := k36.1.2.2
  obtain ⟨g39, h⟩ := gd_some h
  refine v_callV (st := [vI x1, vO 35]) cf2 oc30 k36 (lw_V q1524 q918 q919 q299 q920) rfl yk_X2_size ⟨Nat.le_of_ble_eq_true rfl, Nat.le_of_ble_eq_true rfl⟩ ⟨(kp_arr (by decide) g39), trivial⟩ ⟨kc13, trivial⟩ (Nat.le_of_ble_eq_true rfl) rfl dX6_number_64 ?_
  obtain ⟨g40, h⟩ := gd_some h
  obtain ⟨s41, e42, h⟩ := stp_some h
  refine v_iast oc35 rx1 g40.1 g40.2 dX6_number_67 ?_
  rw [← e42]
  cases h
  exact v_vret dX6_number_68

def f_X6_alike (x1 : Int) (x2 : Int) (s : vS) : Option (Int × vS) :=
  gd (inb x1 (gN s 34)) <|
  gd (inb x1 (gN s 35)) <|
  gd (inb x2 (gN s 34)) <|
  gd (inb x2 (gN s 35)) <|
  bd (f_X2_compare 30 (gE s 34 x1) (gE s 35 x1) 30 (gE s 34 x2) (gE s 35 x2) s) fun r8 s5 =>
  if r8 = 0 then
    some (1, s5)
  else
    some (0, s5)
theorem yk_X6_alike : yOk yX6_alike 2 := ⟨by decide, by decide, by decide +kernel⟩
theorem c_X6_alike {x1 : Int} {x2 : Int} {s : vS} {out : Int × vS} (h : f_X6_alike x1 x2 s = some out)  (rx1 : rg x1) (rx2 : rg x2) : VC yX6_alike cX6_alike 3 (some .boolean) 2 49 [vO 13, vI x1, vI x2] s (some (vI out.1)) out.2 [] := by
  unfold f_X6_alike at h
  refine VC.of RX6 (by decide) rfl (Nat.le_of_ble_eq_true rfl) ?_
  show VW cX6_alike (RX6, (some (vI out.1)), out.2, (some .boolean), 2, 49, 3, []) (P0 []) s 0 [(0, vO 13), (1, vI x1), (2, vI x2)] []
  refine v_aload_n dX6_alike_0 0 rfl rfl ?_
  refine v_getS (f := 9) (t := 30) cf6 oc13 rfl rfl rfl (by decide) q636 dX6_alike_1 ?_
  refine v_aload_n dX6_alike_4 0 rfl rfl ?_
  refine v_getS (f := 11) (t := 34) cf6 oc13 rfl rfl rfl (by decide) q638 dX6_alike_5 ?_
  refine v_iload_n dX6_alike_8 1 rfl rfl ?_
  obtain ⟨g1, h⟩ := gd_some h
  refine v_iald oc34 rx1 g1.1 g1.2 dX6_alike_9 ?_
  refine v_aload_n dX6_alike_10 0 rfl rfl ?_
  refine v_getS (f := 12) (t := 35) cf6 oc13 rfl rfl rfl (by decide) q639 dX6_alike_11 ?_
  refine v_iload_n dX6_alike_14 1 rfl rfl ?_
  obtain ⟨g2, h⟩ := gd_some h
  refine v_iald oc35 rx1 g2.1 g2.2 dX6_alike_15 ?_
  refine v_aload_n dX6_alike_16 0 rfl rfl ?_
  refine v_getS (f := 9) (t := 30) cf6 oc13 rfl rfl rfl (by decide) q636 dX6_alike_17 ?_
  refine v_aload_n dX6_alike_20 0 rfl rfl ?_
  refine v_getS (f := 11) (t := 34) cf6 oc13 rfl rfl rfl (by decide) q638 dX6_alike_21 ?_
  refine v_iload_n dX6_alike_24 2 rfl rfl ?_
  obtain ⟨g3, h⟩ := gd_some h
  refine v_iald oc34 rx2 g3.1 g3.2 dX6_alike_25 ?_
  refine v_aload_n dX6_alike_26 0 rfl rfl ?_
  refine v_getS (f := 12) (t := 35) cf6 oc13 rfl rfl rfl (by decide) q639 dX6_alike_27 ?_
  refine v_iload_n dX6_alike_30 2 rfl rfl ?_
  obtain ⟨g4, h⟩ := gd_some h
  refine v_iald oc35 rx2 g4.1 g4.2 dX6_alike_31 ?_
  obtain ⟨r8, s5, e6, h⟩ := bd_some h
  have k7 := c_X2_compare e6 (⟨by decide, rfl⟩ : okB 30 1) (⟨by decide, rfl⟩ : okB 30 1) (gE_rg _ _ _) (gE_rg _ _ _) (gE_rg _ _ _) (gE_rg _ _ _)
  have r9 : rg r8 := k7.1.2.2
  refine v_callV (st := []) cf2 oc30 k7 (lw_V q1544 q1470 q1471 q299 q1472) rfl yk_X2_compare ⟨Nat.le_of_ble_eq_true rfl, Nat.le_of_ble_eq_true rfl⟩ trivial ⟨kc13, trivial⟩ (Nat.le_of_ble_eq_true rfl) rfl dX6_alike_32 ?_
  refine v_if_ne (tgt := 42) dX6_alike_35 r9 (by decide) (fun c10 => ?_) (fun c10 => ?_)
  · rw [if_neg c10] at h
    refine v_iconst dX6_alike_42 ?_
    cases h
    exact v_zret (Or.inl rfl) dX6_alike_43
  · rw [if_pos c10] at h
    refine v_iconst dX6_alike_38 ?_
    refine v_goto (tgt := 43) dX6_alike_39 (by decide) ?_
    cases h
    exact v_zret (Or.inr rfl) dX6_alike_43

def E_X10_clear_2 (rv : Option vA) (σo : vS) (q : vS) : Prop := ∀ (s' : vS), q = s' → VW cX10_clear (RX10, rv, σo, none, 0, 0, 2, []) (P0 []) s' 31 [(0, vO 28)] []
def l_X10_clear_2 : Nat → Int → vS → Option (vS)
  | 0, _, _ => none
  | n + 1, x1, s =>
    if (w32 (gN s 29 : Int)) ≤ x1 then
      some s
    else
      if (gI s 28 1) ≤ 0 then
        some s
      else
        gd (inb x1 (gN s 29)) <|
        stp (sE s 29 x1 0) fun s4 =>
        vl (w32 (x1 + 1)) fun y6 =>
        l_X10_clear_2 n y6 s4
theorem wl_X10_clear_2 {rv : Option vA} {σo : vS}  : ∀ (n : Nat) (x1 : Int) (s : vS) (q : vS), l_X10_clear_2 n x1 s = some q → rg x1 → E_X10_clear_2 rv σo q → VW cX10_clear (RX10, rv, σo, none, 0, 0, 2, []) (P0 []) s 2 [(0, vO 28), (1, vI x1)] [] := by
  intro n
  induction n with
  | zero => intro x1 s q h; cases h
  | succ n ih =>
    intro x1 s q h rx1 hE
    unfold l_X10_clear_2 at h
    refine v_iload_n dX10_clear_2 1 rfl rfl ?_
    refine v_aload_n dX10_clear_3 0 rfl rfl ?_
    refine v_getS (f := 0) (t := 29) cf10 oc28 rfl rfl rfl (by decide) q599 dX10_clear_4 ?_
    refine v_alen24 oc29 dX10_clear_7 ?_
    refine v_icmp_ge (tgt := 31) dX10_clear_8 rx1 (w32_rg _) (by decide) (fun c1 => ?_) (fun c1 => ?_)
    · rw [if_pos c1] at h
      cases h
      refine v_sub [0] (L1 := [(0, vO 28)]) rfl ?_
      exact hE _ rfl 
    · rw [if_neg c1] at h
      refine v_aload_n dX10_clear_11 0 rfl rfl ?_
      refine v_getI (f := 1) cf10 oc28 rfl (by decide) q600 dX10_clear_12 ?_
      refine v_if_le (tgt := 31) dX10_clear_15 (gI_rg _ _ _) (by decide) (fun c2 => ?_) (fun c2 => ?_)
      · rw [if_pos c2] at h
        cases h
        refine v_sub [0] (L1 := [(0, vO 28)]) rfl ?_
        exact hE _ rfl 
      · rw [if_neg c2] at h
        refine v_aload_n dX10_clear_18 0 rfl rfl ?_
        refine v_getS (f := 0) (t := 29) cf10 oc28 rfl rfl rfl (by decide) q599 dX10_clear_19 ?_
        refine v_iload_n dX10_clear_22 1 rfl rfl ?_
        refine v_iconst dX10_clear_23 ?_
        obtain ⟨g3, h⟩ := gd_some h
        obtain ⟨s4, e5, h⟩ := stp_some h
        refine v_iast oc29 rx1 g3.1 g3.2 dX10_clear_24 ?_
        rw [← e5]
        obtain ⟨y6, e7, h⟩ := vl_some h
        refine v_iinc (L1 := [(1, vI (w32 (x1 + 1))), (0, vO 28)]) dX10_clear_25 1 rfl (by decide) rfl ?_
        rw [← e7]
        have r8 : rg y6 := by rw [e7]; exact w32_rg _
        refine v_goto (tgt := 2) dX10_clear_28 (by decide) ?_
        refine v_sub [1, 0] (L1 := [(0, vO 28), (1, vI y6)]) rfl ?_
        exact ih y6 s4 _ h r8 hE

def f_X10_clear (s : vS) : Option (vS) :=
  lq_0 (l_X10_clear_2 FU 0 s) fun s1 =>
  stp (sI s1 28 1 0) fun s3 =>
  some s3
theorem yk_X10_clear : yOk yX10_clear 0 := ⟨by decide, by decide, by decide +kernel⟩
theorem c_X10_clear {s : vS} {out : vS} (h : f_X10_clear s = some out)   : VC yX10_clear cX10_clear 2 none 0 0 [vO 28] s none out [] := by
  unfold f_X10_clear at h
  refine VC.of RX10 (by decide) rfl (Nat.le_of_ble_eq_true rfl) ?_
  show VW cX10_clear (RX10, none, out, none, 0, 0, 2, []) (P0 []) s 0 [(0, vO 28)] []
  refine v_iconst dX10_clear_0 ?_
  refine v_istore_n (L1 := [(1, vI 0), (0, vO 28)]) dX10_clear_1 rfl (by decide) rfl ?_
  refine v_sub [1, 0] (L1 := [(0, vO 28), (1, vI 0)]) rfl ?_
  obtain ⟨s1, e2, h⟩ := lq_0_some h
  refine wl_X10_clear_2  FU 0 s _ e2 (rgl rfl) ?_
  unfold E_X10_clear_2
  intro s1' z_
  cases z_
  refine v_aload_n dX10_clear_31 0 rfl rfl ?_
  refine v_iconst dX10_clear_32 ?_
  obtain ⟨s3, e4, h⟩ := stp_some h
  refine v_putI (f := 1) cf10 oc28 rfl (by decide) q600 dX10_clear_33 rfl rfl ?_
  rw [← e4]
  cases h
  exact v_vret dX10_clear_36

def E_X6_small_9 (rv : Option vA) (σo : vS) (q : Int × vS) : Prop := ∀ (x2' : Int) (s' : vS), q = (x2', s') → rg x2' → VW cX6_small (RX6, rv, σo, (some .int), 1, 21, 4, []) (P0 []) s' 39 [(2, vI x2')] []
def l_X6_small_9 : Nat → Int → Int → Int → vS → Option (Int × vS)
  | 0, _, _, _, _ => none
  | n + 1, x1, x2, x3, s =>
    gd (inb x1 (gN s 35)) <|
    if (gE s 35 x1) ≤ x3 then
      some (x2, s)
    else
      bd (f_X2_at 30 x3 s) fun r6 s3 =>
      vl (or32 (shl32 x2 8) r6) fun y8 =>
      vl (w32 (x3 + 1)) fun y11 =>
      l_X6_small_9 n x1 y8 y11 s3
theorem wl_X6_small_9 {x1 : Int} {rv : Option vA} {σo : vS}  (rx1 : rg x1) : ∀ (n : Nat) (x2 : Int) (x3 : Int) (s : vS) (q : Int × vS), l_X6_small_9 n x1 x2 x3 s = some q → rg x2 → rg x3 → E_X6_small_9 rv σo q → VW cX6_small (RX6, rv, σo, (some .int), 1, 21, 4, []) (P0 []) s 9 [(0, vO 13), (1, vI x1), (2, vI x2), (3, vI x3)] [] := by
  intro n
  induction n with
  | zero => intro x2 x3 s q h; cases h
  | succ n ih =>
    intro x2 x3 s q h rx2 rx3 hE
    unfold l_X6_small_9 at h
    refine v_iload_n dX6_small_9 3 rfl rfl ?_
    refine v_aload_n dX6_small_10 0 rfl rfl ?_
    refine v_getS (f := 12) (t := 35) cf6 oc13 rfl rfl rfl (by decide) q639 dX6_small_11 ?_
    refine v_iload_n dX6_small_14 1 rfl rfl ?_
    obtain ⟨g1, h⟩ := gd_some h
    refine v_iald oc35 rx1 g1.1 g1.2 dX6_small_15 ?_
    refine v_icmp_ge (tgt := 39) dX6_small_16 rx3 (gE_rg _ _ _) (by decide) (fun c2 => ?_) (fun c2 => ?_)
    · rw [if_pos c2] at h
      cases h
      refine v_sub [2] (L1 := [(2, vI x2)]) rfl ?_
      exact hE _ _ rfl rx2
    · rw [if_neg c2] at h
      refine v_iload_n dX6_small_19 2 rfl rfl ?_
      refine v_bipush dX6_small_20 rfl ?_
      refine v_ishl dX6_small_22 ?_
      refine v_aload_n dX6_small_23 0 rfl rfl ?_
      refine v_getS (f := 9) (t := 30) cf6 oc13 rfl rfl rfl (by decide) q636 dX6_small_24 ?_
      refine v_iload_n dX6_small_27 3 rfl rfl ?_
      obtain ⟨r6, s3, e4, h⟩ := bd_some h
      have k5 := c_X2_at e4 (⟨by decide, rfl⟩ : okB 30 1) rx3
      have r7 : rg r6 := k5.1.2.2
      refine v_callV (st := [vI (shl32 x2 8)]) cf2 oc30 k5 (lw_V q1549 q1072 q1073 q299 q1074) rfl yk_X2_at ⟨Nat.le_of_ble_eq_true rfl, Nat.le_of_ble_eq_true rfl⟩ trivial ⟨kc13, trivial⟩ (Nat.le_of_ble_eq_true rfl) rfl dX6_small_28 ?_
      refine v_ior dX6_small_31 ?_
      obtain ⟨y8, e9, h⟩ := vl_some h
      rw [← e9]
      have r10 : rg y8 := by rw [e9]; exact or32_rg _ _
      refine v_istore_n (L1 := [(2, vI y8), (0, vO 13), (1, vI x1), (3, vI x3)]) dX6_small_32 rfl (by decide) rfl ?_
      obtain ⟨y11, e12, h⟩ := vl_some h
      refine v_iinc (L1 := [(3, vI (w32 (x3 + 1))), (2, vI y8), (0, vO 13), (1, vI x1)]) dX6_small_33 3 rfl (by decide) rfl ?_
      rw [← e12]
      have r13 : rg y11 := by rw [e12]; exact w32_rg _
      refine v_goto (tgt := 9) dX6_small_36 (by decide) ?_
      refine v_sub [2, 3, 1, 0] (L1 := [(0, vO 13), (1, vI x1), (2, vI y8), (3, vI y11)]) rfl ?_
      exact ih y8 y11 s3 _ h r10 r13 hE

def f_X6_small (x1 : Int) (s : vS) : Option (Int × vS) :=
  gd (inb x1 (gN s 34)) <|
  vl (gE s 34 x1) fun y2 =>
  lq_1 (l_X6_small_9 FU x1 0 y2 s) fun y5 s6 =>
  some (y5, s6)
theorem yk_X6_small : yOk yX6_small 1 := ⟨by decide, by decide, by decide +kernel⟩
theorem c_X6_small {x1 : Int} {s : vS} {out : Int × vS} (h : f_X6_small x1 s = some out)  (rx1 : rg x1) : VC yX6_small cX6_small 4 (some .int) 1 21 [vO 13, vI x1] s (some (vI out.1)) out.2 [] := by
  unfold f_X6_small at h
  refine VC.of RX6 (by decide) rfl (Nat.le_of_ble_eq_true rfl) ?_
  show VW cX6_small (RX6, (some (vI out.1)), out.2, (some .int), 1, 21, 4, []) (P0 []) s 0 [(0, vO 13), (1, vI x1)] []
  refine v_iconst dX6_small_0 ?_
  refine v_istore_n (L1 := [(2, vI 0), (0, vO 13), (1, vI x1)]) dX6_small_1 rfl (by decide) rfl ?_
  refine v_aload_n dX6_small_2 1 rfl rfl ?_
  refine v_getS (f := 11) (t := 34) cf6 oc13 rfl rfl rfl (by decide) q638 dX6_small_3 ?_
  refine v_iload_n dX6_small_6 2 rfl rfl ?_
  obtain ⟨g1, h⟩ := gd_some h
  refine v_iald oc34 rx1 g1.1 g1.2 dX6_small_7 ?_
  obtain ⟨y2, e3, h⟩ := vl_some h
  rw [← e3]
  have r4 : rg y2 := by rw [e3]; exact gE_rg _ _ _
  refine v_istore_n (L1 := [(3, vI y2), (2, vI 0), (0, vO 13), (1, vI x1)]) dX6_small_8 rfl (by decide) rfl ?_
  refine v_sub [2, 3, 1, 0] (L1 := [(0, vO 13), (1, vI x1), (2, vI 0), (3, vI y2)]) rfl ?_
  obtain ⟨y5, s6, e7, h⟩ := lq_1_some h
  refine wl_X6_small_9 rx1 FU 0 y2 s _ e7 (rgl rfl) r4 ?_
  unfold E_X6_small_9
  intro y5' s6' z_ r8
  cases z_
  refine v_iload_n dX6_small_39 0 rfl rfl ?_
  cases h
  exact v_iret r8 dX6_small_40

def E_X10_slot_16 (rv : Option vA) (σo : vS) (q : Int × vS) : Prop := ∀ (x2' : Int) (s' : vS), q = (x2', s') → rg x2' → VW cX10_slot (RX10, rv, σo, (some .int), 0, 0, 3, []) (P0 []) s' 52 [(2, vI x2')] []
def l_X10_slot_16 : Nat → Int → Int → vS → Option (Int × vS)
  | 0, _, _, _ => none
  | n + 1, x1, x2, s =>
    gd (inb x2 (gN s 29)) <|
    if (gE s 29 x2) = 0 then
      some (x2, s)
    else
      gd (inb x2 (gN s 29)) <|
      if (gE s 29 x2) = (w32 (x1 + 1)) then
        some (x2, s)
      else
        vl (and32 (w32 (x2 + 1)) (w32 ((w32 (gN s 29 : Int)) - 1))) fun y5 =>
        l_X10_slot_16 n x1 y5 s
theorem wl_X10_slot_16 {x1 : Int} {rv : Option vA} {σo : vS}  (rx1 : rg x1) : ∀ (n : Nat) (x2 : Int) (s : vS) (q : Int × vS), l_X10_slot_16 n x1 x2 s = some q → rg x2 → E_X10_slot_16 rv σo q → VW cX10_slot (RX10, rv, σo, (some .int), 0, 0, 3, []) (P0 []) s 16 [(0, vO 28), (1, vI x1), (2, vI x2)] [] := by
  intro n
  induction n with
  | zero => intro x2 s q h; cases h
  | succ n ih =>
    intro x2 s q h rx2 hE
    unfold l_X10_slot_16 at h
    refine v_aload_n dX10_slot_16 0 rfl rfl ?_
    refine v_getS (f := 0) (t := 29) cf10 oc28 rfl rfl rfl (by decide) q599 dX10_slot_17 ?_
    refine v_iload_n dX10_slot_20 2 rfl rfl ?_
    obtain ⟨g1, h⟩ := gd_some h
    refine v_iald oc29 rx2 g1.1 g1.2 dX10_slot_21 ?_
    refine v_if_eq (tgt := 52) dX10_slot_22 (gE_rg _ _ _) (by decide) (fun c2 => ?_) (fun c2 => ?_)
    · rw [if_pos c2] at h
      cases h
      refine v_sub [2] (L1 := [(2, vI x2)]) rfl ?_
      exact hE _ _ rfl rx2
    · rw [if_neg c2] at h
      refine v_aload_n dX10_slot_25 0 rfl rfl ?_
      refine v_getS (f := 0) (t := 29) cf10 oc28 rfl rfl rfl (by decide) q599 dX10_slot_26 ?_
      refine v_iload_n dX10_slot_29 2 rfl rfl ?_
      obtain ⟨g3, h⟩ := gd_some h
      refine v_iald oc29 rx2 g3.1 g3.2 dX10_slot_30 ?_
      refine v_iload_n dX10_slot_31 1 rfl rfl ?_
      refine v_iconst dX10_slot_32 ?_
      refine v_iadd dX10_slot_33 ?_
      refine v_icmp_eq (tgt := 52) dX10_slot_34 (gE_rg _ _ _) (w32_rg _) (by decide) (fun c4 => ?_) (fun c4 => ?_)
      · rw [if_pos c4] at h
        cases h
        refine v_sub [2] (L1 := [(2, vI x2)]) rfl ?_
        exact hE _ _ rfl rx2
      · rw [if_neg c4] at h
        refine v_iload_n dX10_slot_37 2 rfl rfl ?_
        refine v_iconst dX10_slot_38 ?_
        refine v_iadd dX10_slot_39 ?_
        refine v_aload_n dX10_slot_40 0 rfl rfl ?_
        refine v_getS (f := 0) (t := 29) cf10 oc28 rfl rfl rfl (by decide) q599 dX10_slot_41 ?_
        refine v_alen24 oc29 dX10_slot_44 ?_
        refine v_iconst dX10_slot_45 ?_
        refine v_isub dX10_slot_46 ?_
        refine v_iand dX10_slot_47 ?_
        obtain ⟨y5, e6, h⟩ := vl_some h
        rw [← e6]
        have r7 : rg y5 := by rw [e6]; exact and32_rg _ _
        refine v_istore_n (L1 := [(2, vI y5), (0, vO 28), (1, vI x1)]) dX10_slot_48 rfl (by decide) rfl ?_
        refine v_goto (tgt := 16) dX10_slot_49 (by decide) ?_
        refine v_sub [1, 2, 0] (L1 := [(0, vO 28), (1, vI x1), (2, vI y5)]) rfl ?_
        exact ih y5 s _ h r7 hE

def f_X10_slot (x1 : Int) (s : vS) : Option (Int × vS) :=
  vl (and32 (ushr32 (w32 (x1 * (-1640531527))) 8) (w32 ((w32 (gN s 29 : Int)) - 1))) fun y1 =>
  lq_1 (l_X10_slot_16 FU x1 y1 s) fun y4 s5 =>
  some (y4, s5)
theorem yk_X10_slot : yOk yX10_slot 1 := ⟨by decide, by decide, by decide +kernel⟩
theorem c_X10_slot {x1 : Int} {s : vS} {out : Int × vS} (h : f_X10_slot x1 s = some out)  (rx1 : rg x1) : VC yX10_slot cX10_slot 3 (some .int) 0 0 [vO 28, vI x1] s (some (vI out.1)) out.2 [] := by
  unfold f_X10_slot at h
  refine VC.of RX10 (by decide) rfl (Nat.le_of_ble_eq_true rfl) ?_
  show VW cX10_slot (RX10, (some (vI out.1)), out.2, (some .int), 0, 0, 3, []) (P0 []) s 0 [(0, vO 28), (1, vI x1)] []
  refine v_iload_n dX10_slot_0 1 rfl rfl ?_
  refine v_ldc (n := -1640531527) dX10_slot_1 q1562 rfl ?_
  refine v_imul dX10_slot_3 ?_
  refine v_bipush dX10_slot_4 rfl ?_
  refine v_iushr dX10_slot_6 ?_
  refine v_aload_n dX10_slot_7 0 rfl rfl ?_
  refine v_getS (f := 0) (t := 29) cf10 oc28 rfl rfl rfl (by decide) q599 dX10_slot_8 ?_
  refine v_alen24 oc29 dX10_slot_11 ?_
  refine v_iconst dX10_slot_12 ?_
  refine v_isub dX10_slot_13 ?_
  refine v_iand dX10_slot_14 ?_
  obtain ⟨y1, e2, h⟩ := vl_some h
  rw [← e2]
  have r3 : rg y1 := by rw [e2]; exact and32_rg _ _
  refine v_istore_n (L1 := [(2, vI y1), (0, vO 28), (1, vI x1)]) dX10_slot_15 rfl (by decide) rfl ?_
  refine v_sub [1, 2, 0] (L1 := [(0, vO 28), (1, vI x1), (2, vI y1)]) rfl ?_
  obtain ⟨y4, s5, e6, h⟩ := lq_1_some h
  refine wl_X10_slot_16 rx1 FU y1 s _ e6 r3 ?_
  unfold E_X10_slot_16
  intro y4' s5' z_ r7
  cases z_
  refine v_iload_n dX10_slot_52 0 rfl rfl ?_
  cases h
  exact v_iret r7 dX10_slot_53

def E_X10_add_76 (rv : Option vA) (σo : vS) (q : vS) : Prop := ∀ (s' : vS), q = s' → VW cX10_add (RX10, rv, σo, (some .boolean), 1, 22, 8, []) (P0 [(24, 0)]) s' 116 [] []
def l_X10_add_76 : Nat → Int → Int → vS → Option (vS)
  | 0, _, _, _ => none
  | n + 1, x5, x6, s =>
    if x5 ≤ x6 then
      some s
    else
      gd (inb x6 (gN s 199)) <|
      vl (gE s 199 x6) fun y3 =>
      if y3 = 0 then
        vl (w32 (x6 + 1)) fun y7 =>
        l_X10_add_76 n x5 y7 s
      else
        bd (f_X10_slot (w32 (y3 - 1)) s) fun r13 s10 =>
        gd (gN s10 29 = gN s 29) <|
        stp (mT s10 s) fun s16 =>
        gd (inb r13 (gN s16 29)) <|
        stp (sE s16 29 r13 y3) fun s19 =>
        vl (w32 (x6 + 1)) fun y21 =>
        l_X10_add_76 n x5 y21 s19
theorem wl_X10_add_76 {x5 : Int} {rv : Option vA} {σo : vS}  (rx5 : rg x5) : ∀ (n : Nat) (x6 : Int) (s : vS) (q : vS), l_X10_add_76 n x5 x6 s = some q → rg x6 → E_X10_add_76 rv σo q → VW cX10_add (RX10, rv, σo, (some .boolean), 1, 22, 8, []) (P0 [(24, 0)]) s 76 [(0, vO 28), (4, vO 199), (5, vI x5), (6, vI x6)] [] := by
  intro n
  induction n with
  | zero => intro x6 s q h; cases h
  | succ n ih =>
    intro x6 s q h rx6 hE
    unfold l_X10_add_76 at h
    refine v_iload dX10_add_76 3 rfl ?_
    refine v_iload dX10_add_78 2 rfl ?_
    refine v_icmp_ge (tgt := 116) dX10_add_80 rx6 rx5 (by decide) (fun c1 => ?_) (fun c1 => ?_)
    · rw [if_pos c1] at h
      cases h
      refine v_sub [] (L1 := []) rfl ?_
      exact hE _ rfl 
    · rw [if_neg c1] at h
      refine v_aload dX10_add_83 1 rfl ?_
      refine v_iload dX10_add_85 3 rfl ?_
      obtain ⟨g2, h⟩ := gd_some h
      refine v_iald (ok_tmp (i := 0) rfl) rx6 g2.1 g2.2 dX10_add_87 ?_
      obtain ⟨y3, e4, h⟩ := vl_some h
      rw [← e4]
      have r5 : rg y3 := by rw [e4]; exact gE_rg _ _ _
      refine v_istore (L1 := [(7, vI y3), (0, vO 28), (4, vO 199), (5, vI x5), (6, vI x6)]) dX10_add_88 (by decide) rfl ?_
      refine v_iload dX10_add_90 0 rfl ?_
      refine v_if_eq (tgt := 110) dX10_add_92 r5 (by decide) (fun c6 => ?_) (fun c6 => ?_)
      · rw [if_pos c6] at h
        obtain ⟨y7, e8, h⟩ := vl_some h
        refine v_iinc (L1 := [(6, vI (w32 (x6 + 1))), (7, vI y3), (0, vO 28), (4, vO 199), (5, vI x5)]) dX10_add_110 4 rfl (by decide) rfl ?_
        rw [← e8]
        have r9 : rg y7 := by rw [e8]; exact w32_rg _
        refine v_goto (tgt := 76) dX10_add_113 (by decide) ?_
        refine v_sub [2, 3, 4, 0] (L1 := [(0, vO 28), (4, vO 199), (5, vI x5), (6, vI y7)]) rfl ?_
        exact ih y7 s _ h r9 hE
      · rw [if_neg c6] at h
        refine v_aload_n dX10_add_95 1 rfl rfl ?_
        refine v_getS (f := 0) (t := 29) cf10 oc28 rfl rfl rfl (by decide) q599 dX10_add_96 ?_
        refine v_aload_n dX10_add_99 1 rfl rfl ?_
        refine v_iload dX10_add_100 0 rfl ?_
        refine v_iconst dX10_add_102 ?_
        refine v_isub dX10_add_103 ?_
        obtain ⟨r13, s10, e11, h⟩ := bd_some h
        have k12 := c_X10_slot e11 (w32_rg _)
        have r14 : rg r13 := k12.1.2.2
        obtain ⟨g15, h⟩ := gd_some h
        obtain ⟨s16, e17, h⟩ := stp_some h
        refine v_callVT (st := [vO 29]) (by decide) cf10 oc28 k12 (lw_V q1558 q1560 qs55 q307 q1561) rfl yk_X10_slot ⟨Nat.le_of_ble_eq_true rfl, Nat.le_of_ble_eq_true rfl⟩ ⟨(Or.inl (kp_arr (by decide) g15)), trivial⟩ ⟨(Or.inl kc28), (Or.inr (by decide)), trivial⟩ (Nat.le_of_ble_eq_true rfl) rfl dX10_add_104 (fun _ z => by cases z) ?_
        rw [← e17]
        refine v_iload dX10_add_107 0 rfl ?_
        obtain ⟨g18, h⟩ := gd_some h
        obtain ⟨s19, e20, h⟩ := stp_some h
        refine v_iast oc29 r14 g18.1 g18.2 dX10_add_109 ?_
        rw [← e20]
        obtain ⟨y21, e22, h⟩ := vl_some h
        refine v_iinc (L1 := [(6, vI (w32 (x6 + 1))), (7, vI y3), (0, vO 28), (4, vO 199), (5, vI x5)]) dX10_add_110 4 rfl (by decide) rfl ?_
        rw [← e22]
        have r23 : rg y21 := by rw [e22]; exact w32_rg _
        refine v_goto (tgt := 76) dX10_add_113 (by decide) ?_
        refine v_sub [2, 3, 4, 0] (L1 := [(0, vO 28), (4, vO 199), (5, vI x5), (6, vI y21)]) rfl ?_
        exact ih y21 s19 _ h r23 hE

def f_X10_add (x1 : Int) (s : vS) : Option (Int × vS) :=
  bd (f_X10_slot x1 s) fun r4 s1 =>
  gd (inb r4 (gN s1 29)) <|
  if (gE s1 29 r4) = 0 then
    gd (inb r4 (gN s1 29)) <|
    stp (sE s1 29 r4 (w32 (x1 + 1))) fun s9 =>
    stp (sI s9 28 1 (w32 ((gI s9 28 1) + 1))) fun s11 =>
    if (w32 (2 * (gI s11 28 1))) ≤ (w32 (gN s11 29 : Int)) then
      some (1, s11)
    else
      gd (naG (w32 (2 * (w32 (gN s11 29 : Int))))) <|
      stp (sA s11 199 (Int.toNat (w32 (2 * (w32 (gN s11 29 : Int)))), fun _ => 0)) fun s15 =>
      gd (2 * gN s15 29 ≤ gN s15 199 ∧ 2 ≤ gN s15 199) <|
      stp (sw2 s15 29 199) fun s18 =>
      vl (w32 (gN s18 199 : Int)) fun y20 =>
      lq_0 (l_X10_add_76 FU y20 0 s18) fun s23 =>
      stp (rs s23) fun s25 =>
      some (1, s25)
  else
    some (0, s1)
theorem yk_X10_add : yOk yX10_add 1 := ⟨by decide, by decide, by decide +kernel⟩
theorem c_X10_add {x1 : Int} {s : vS} {out : Int × vS} (h : f_X10_add x1 s = some out)  (rx1 : rg x1) : VC yX10_add cX10_add 8 (some .boolean) 1 22 [vO 28, vI x1] s (some (vI out.1)) out.2 [] := by
  unfold f_X10_add at h
  refine VC.of RX10 (by decide) rfl (Nat.le_of_ble_eq_true rfl) ?_
  show VW cX10_add (RX10, (some (vI out.1)), out.2, (some .boolean), 1, 22, 8, []) (P0 []) s 0 [(0, vO 28), (1, vI x1)] []
  refine v_aload_n dX10_add_0 0 rfl rfl ?_
  refine v_iload_n dX10_add_1 1 rfl rfl ?_
  obtain ⟨r4, s1, e2, h⟩ := bd_some h
  have k3 := c_X10_slot e2 rx1
  have r5 : rg r4 := k3.1.2.2
  refine v_callV (st := []) cf10 oc28 k3 (lw_V q1558 q1560 qs55 q307 q1561) rfl yk_X10_slot ⟨Nat.le_of_ble_eq_true rfl, Nat.le_of_ble_eq_true rfl⟩ trivial ⟨kc28, trivial⟩ (Nat.le_of_ble_eq_true rfl) rfl dX10_add_2 ?_
  refine v_istore_n (L1 := [(2, vI r4), (0, vO 28), (1, vI x1)]) dX10_add_5 rfl (by decide) rfl ?_
  refine v_aload_n dX10_add_6 1 rfl rfl ?_
  refine v_getS (f := 0) (t := 29) cf10 oc28 rfl rfl rfl (by decide) q599 dX10_add_7 ?_
  refine v_iload_n dX10_add_10 0 rfl rfl ?_
  obtain ⟨g6, h⟩ := gd_some h
  refine v_iald oc29 r5 g6.1 g6.2 dX10_add_11 ?_
  refine v_if_eq (tgt := 17) dX10_add_12 (gE_rg _ _ _) (by decide) (fun c7 => ?_) (fun c7 => ?_)
  · rw [if_pos c7] at h
    refine v_aload_n dX10_add_17 1 rfl rfl ?_
    refine v_getS (f := 0) (t := 29) cf10 oc28 rfl rfl rfl (by decide) q599 dX10_add_18 ?_
    refine v_iload_n dX10_add_21 0 rfl rfl ?_
    refine v_iload_n dX10_add_22 2 rfl rfl ?_
    refine v_iconst dX10_add_23 ?_
    refine v_iadd dX10_add_24 ?_
    obtain ⟨g8, h⟩ := gd_some h
    obtain ⟨s9, e10, h⟩ := stp_some h
    refine v_iast oc29 r5 g8.1 g8.2 dX10_add_25 ?_
    rw [← e10]
    refine v_aload_n dX10_add_26 1 rfl rfl ?_
    refine v_dupO dX10_add_27 ?_
    refine v_getI (f := 1) cf10 oc28 rfl (by decide) q600 dX10_add_28 ?_
    refine v_iconst dX10_add_31 ?_
    refine v_iadd dX10_add_32 ?_
    obtain ⟨s11, e12, h⟩ := stp_some h
    refine v_putI (f := 1) cf10 oc28 rfl (by decide) q600 dX10_add_33 rfl rfl ?_
    rw [← e12]
    refine v_iconst dX10_add_36 ?_
    refine v_aload_n dX10_add_37 1 rfl rfl ?_
    refine v_getI (f := 1) cf10 oc28 rfl (by decide) q600 dX10_add_38 ?_
    refine v_imul dX10_add_41 ?_
    refine v_aload_n dX10_add_42 1 rfl rfl ?_
    refine v_getS (f := 0) (t := 29) cf10 oc28 rfl rfl rfl (by decide) q599 dX10_add_43 ?_
    refine v_alen24 oc29 dX10_add_46 ?_
    refine v_icmp_le (tgt := 116) dX10_add_47 (w32_rg _) (w32_rg _) (by decide) (fun c13 => ?_) (fun c13 => ?_)
    · rw [if_pos c13] at h
      refine v_iconst dX10_add_116 ?_
      cases h
      exact v_zret (Or.inr rfl) dX10_add_117
    · rw [if_neg c13] at h
      refine v_aload_n dX10_add_50 1 rfl rfl ?_
      refine v_getS (f := 0) (t := 29) cf10 oc28 rfl rfl rfl (by decide) q599 dX10_add_51 ?_
      refine v_astore_n (L1 := [(3, vO 29), (2, vI r4), (0, vO 28), (1, vI x1)]) dX10_add_54 rfl (by decide) rfl ?_
      refine v_aload_n dX10_add_55 2 rfl rfl ?_
      refine v_iconst dX10_add_56 ?_
      refine v_aload_n dX10_add_57 0 rfl rfl ?_
      refine v_alen24 oc29 dX10_add_58 ?_
      refine v_imul dX10_add_59 ?_
      obtain ⟨g14, h⟩ := gd_some h
      obtain ⟨s15, e16, h⟩ := stp_some h
      refine v_na24 (K := 199) (tk1 := [(24, 1)]) rfl rfl (by decide) (w32_rg _) g14 ⟨(by decide), (by decide), trivial⟩ ⟨(by decide), trivial⟩ q459 dX10_add_60 ?_
      rw [← e16]
      obtain ⟨g17, h⟩ := gd_some h
      obtain ⟨s18, e19, h⟩ := stp_some h
      refine v_pa (i := 0) (K := 199) (t0 := 29) (f := 0) (tk1 := [(24, 0)]) (L1 := [(3, vO 199), (2, vI r4), (0, vO 28), (1, vI x1)]) (st1 := []) rfl rfl (by decide) cf10 (⟨by decide, rfl⟩ : okB 28 9) rfl (by decide) rfl rfl (by decide) rfl g17 q599 dX10_add_62 rfl rfl rfl rfl ?_
      rw [← e19]
      refine v_aload_n dX10_add_65 0 rfl rfl ?_
      refine v_astore (L1 := [(4, vO 199), (3, vO 199), (2, vI r4), (0, vO 28), (1, vI x1)]) dX10_add_66 (by decide) rfl ?_
      refine v_aload dX10_add_68 0 rfl ?_
      refine v_alen24 (ok_tmp (i := 0) rfl) dX10_add_70 ?_
      obtain ⟨y20, e21, h⟩ := vl_some h
      rw [← e21]
      have r22 : rg y20 := by rw [e21]; exact w32_rg _
      refine v_istore (L1 := [(5, vI y20), (4, vO 199), (3, vO 199), (2, vI r4), (0, vO 28), (1, vI x1)]) dX10_add_71 (by decide) rfl ?_
      refine v_iconst dX10_add_73 ?_
      refine v_istore (L1 := [(6, vI 0), (5, vI y20), (4, vO 199), (3, vO 199), (2, vI r4), (0, vO 28), (1, vI x1)]) dX10_add_74 (by decide) rfl ?_
      refine v_sub [5, 2, 1, 0] (L1 := [(0, vO 28), (4, vO 199), (5, vI y20), (6, vI 0)]) rfl ?_
      obtain ⟨s23, e24, h⟩ := lq_0_some h
      refine wl_X10_add_76 r22 FU 0 s18 _ e24 (rgl rfl) ?_
      unfold E_X10_add_76
      intro s23' z_
      cases z_
      refine v_iconst dX10_add_116 ?_
      obtain ⟨s25, e26, h⟩ := stp_some h
      refine v_dr (by decide) (by decide) trivial trivial ?_
      rw [← e26]
      cases h
      exact v_zret (Or.inr rfl) dX10_add_117
  · rw [if_neg c7] at h
    refine v_iconst dX10_add_15 ?_
    cases h
    exact v_zret (Or.inl rfl) dX10_add_16

def f_X7_set (o : Nat) (x1 : Int) (s : vS) : Option (vS) :=
  stp (sI s o 1 0) fun s1 =>
  if x1 = 0 then
    some s1
  else
    bdv (f_X7_add o x1 s1) fun s4 =>
    some s4
theorem yk_X7_set : yOk yX7_set 1 := ⟨by decide, by decide, by decide +kernel⟩
theorem c_X7_set {o : Nat} {x1 : Int} {s : vS} {out : vS} (h : f_X7_set o x1 s = some out) (ho : okB o 6) (rx1 : rg x1) : VC yX7_set cX7_set 2 none 2 48 [vO o, vI x1] s none out [] := by
  unfold f_X7_set at h
  refine VC.of RX7 (by decide) rfl (Nat.le_of_ble_eq_true rfl) ?_
  show VW cX7_set (RX7, none, out, none, 2, 48, 2, []) (P0 []) s 0 [(0, vO o), (1, vI x1)] []
  refine v_aload_n dX7_set_0 0 rfl rfl ?_
  refine v_iconst dX7_set_1 ?_
  obtain ⟨s1, e2, h⟩ := stp_some h
  refine v_putI (f := 1) cf7 (okB_ok ho) rfl (by decide) q529 dX7_set_2 rfl rfl ?_
  rw [← e2]
  refine v_iload_n dX7_set_5 1 rfl rfl ?_
  refine v_if_eq (tgt := 14) dX7_set_6 rx1 (by decide) (fun c3 => ?_) (fun c3 => ?_)
  · rw [if_pos c3] at h
    cases h
    exact v_vret dX7_set_14
  · rw [if_neg c3] at h
    refine v_aload_n dX7_set_9 0 rfl rfl ?_
    refine v_iload_n dX7_set_10 1 rfl rfl ?_
    obtain ⟨s4, e5, h⟩ := bdv_some h
    have k6 := c_X7_add e5 ho rx1
    refine v_callV (st := []) cf7 (okB_ok ho) k6 (lw_V q1519 q1521 qs51 q304 q1522) rfl yk_X7_add ⟨Nat.le_of_ble_eq_true rfl, Nat.le_of_ble_eq_true rfl⟩ trivial ⟨(okB_kp ho (by decide)), trivial⟩ (Nat.le_of_ble_eq_true rfl) rfl dX7_set_11 ?_
    cases h
    exact v_vret dX7_set_14

def E_X6_itemNumbers_9 (x1 : Int) (rv : Option vA) (σo : vS) (q : vS) : Prop := ∀ (s' : vS), q = s' → VW cX6_itemNumbers (RX6, rv, σo, none, 5, 129, 4, []) (P0 []) s' 131 [(0, vO 13), (1, vI x1)] []
def j_X6_itemNumbers_119 (rec : Int → Int → vS → Option (vS)) (x1 : Int) (x2 : Int) (s : vS) : Option (vS) :=
  bd (f_X4_next x2 s) fun r4 s1 =>
  rec x1 r4 s1
theorem wj_X6_itemNumbers_119 {x1 : Int} {x2 : Int} {s : vS} {rv : Option vA} {σo : vS} {rec : Int → Int → vS → Option (vS)} {q : vS} (h : j_X6_itemNumbers_119 rec x1 x2 s = some q)  (rx1 : rg x1) (rx2 : rg x2) (hrec : ∀ (y2 : Int) (s : vS) (q : vS), rec x1 y2 s = some q → rg y2 → E_X6_itemNumbers_9 x1 rv σo q → VW cX6_itemNumbers (RX6, rv, σo, none, 5, 129, 4, []) (P0 []) s 9 [(0, vO 13), (1, vI x1), (2, vI y2)] []) (hE : E_X6_itemNumbers_9 x1 rv σo q) : VW cX6_itemNumbers (RX6, rv, σo, none, 5, 129, 4, []) (P0 []) s 119 [(0, vO 13), (1, vI x1), (2, vI x2)] [] := by
  unfold j_X6_itemNumbers_119 at h
  refine v_aload_n dX6_itemNumbers_119 0 rfl rfl ?_
  refine v_getS (f := 1) (t := 10) cf6 oc13 rfl rfl rfl (by decide) q628 dX6_itemNumbers_120 ?_
  refine v_iload_n dX6_itemNumbers_123 2 rfl rfl ?_
  obtain ⟨r4, s1, e2, h⟩ := bd_some h
  have k3 := c_X4_next e2 rx2
  have r5 : rg r4 := k3.1.2.2
  refine v_callV (st := []) cf4 oc10 k3 (lw_V q1483 q1404 q1405 q301 q1406) rfl yk_X4_next ⟨Nat.le_of_ble_eq_true rfl, Nat.le_of_ble_eq_true rfl⟩ trivial ⟨kc13, trivial⟩ (Nat.le_of_ble_eq_true rfl) rfl dX6_itemNumbers_124 ?_
  refine v_istore_n (L1 := [(2, vI r4), (0, vO 13), (1, vI x1)]) dX6_itemNumbers_127 rfl (by decide) rfl ?_
  refine v_goto (tgt := 9) dX6_itemNumbers_128 (by decide) ?_
  refine v_sub [1, 2, 0] (L1 := [(0, vO 13), (1, vI x1), (2, vI r4)]) rfl ?_
  exact hrec r4 s1 _ h r5 hE

def E_X6_itemNumbers_69 (x1 : Int) (x2 : Int) (rv : Option vA) (σo : vS) (q : vS) : Prop := ∀ (s' : vS), q = s' → VW cX6_itemNumbers (RX6, rv, σo, none, 5, 129, 4, []) (P0 []) s' 119 [(0, vO 13), (1, vI x1), (2, vI x2)] []
def j_X6_itemNumbers_107 (rec : Int → Int → Int → vS → Option (vS)) (x1 : Int) (x2 : Int) (x3 : Int) (s : vS) : Option (vS) :=
  bd (f_X4_next x3 s) fun r4 s1 =>
  rec x1 x2 r4 s1
theorem wj_X6_itemNumbers_107 {x1 : Int} {x2 : Int} {x3 : Int} {s : vS} {rv : Option vA} {σo : vS} {rec : Int → Int → Int → vS → Option (vS)} {q : vS} (h : j_X6_itemNumbers_107 rec x1 x2 x3 s = some q)  (rx1 : rg x1) (rx2 : rg x2) (rx3 : rg x3) (hrec : ∀ (y3 : Int) (s : vS) (q : vS), rec x1 x2 y3 s = some q → rg y3 → E_X6_itemNumbers_69 x1 x2 rv σo q → VW cX6_itemNumbers (RX6, rv, σo, none, 5, 129, 4, []) (P0 []) s 69 [(0, vO 13), (1, vI x1), (2, vI x2), (3, vI y3)] []) (hE : E_X6_itemNumbers_69 x1 x2 rv σo q) : VW cX6_itemNumbers (RX6, rv, σo, none, 5, 129, 4, []) (P0 []) s 107 [(0, vO 13), (1, vI x1), (2, vI x2), (3, vI x3)] [] := by
  unfold j_X6_itemNumbers_107 at h
  refine v_aload_n dX6_itemNumbers_107 0 rfl rfl ?_
  refine v_getS (f := 1) (t := 10) cf6 oc13 rfl rfl rfl (by decide) q628 dX6_itemNumbers_108 ?_
  refine v_iload_n dX6_itemNumbers_111 3 rfl rfl ?_
  obtain ⟨r4, s1, e2, h⟩ := bd_some h
  have k3 := c_X4_next e2 rx3
  have r5 : rg r4 := k3.1.2.2
  refine v_callV (st := []) cf4 oc10 k3 (lw_V q1483 q1404 q1405 q301 q1406) rfl yk_X4_next ⟨Nat.le_of_ble_eq_true rfl, Nat.le_of_ble_eq_true rfl⟩ trivial ⟨kc13, trivial⟩ (Nat.le_of_ble_eq_true rfl) rfl dX6_itemNumbers_112 ?_
  refine v_istore_n (L1 := [(3, vI r4), (0, vO 13), (1, vI x1), (2, vI x2)]) dX6_itemNumbers_115 rfl (by decide) rfl ?_
  refine v_goto (tgt := 69) dX6_itemNumbers_116 (by decide) ?_
  refine v_sub [1, 2, 3, 0] (L1 := [(0, vO 13), (1, vI x1), (2, vI x2), (3, vI r4)]) rfl ?_
  exact hrec r4 s1 _ h r5 hE

def l_X6_itemNumbers_69 : Nat → Int → Int → Int → vS → Option (vS)
  | 0, _, _, _, _ => none
  | n + 1, x1, x2, x3, s =>
    if x3 = x2 then
      some s
    else
      gd (inb x3 (gN s 34)) <|
      if (gE s 34 x3) = (-1) then
        j_X6_itemNumbers_107 (l_X6_itemNumbers_69 n) x1 x2 x3 s
      else
        bd (f_X6_alike x2 x3 s) fun r7 s4 =>
        if r7 = 0 then
          j_X6_itemNumbers_107 (l_X6_itemNumbers_69 n) x1 x2 x3 s4
        else
          bd (f_X4_at x2 5 s4) fun r13 s10 =>
          bdv (f_X6_blame 5 r13 s10) fun s15 =>
          j_X6_itemNumbers_107 (l_X6_itemNumbers_69 n) x1 x2 x3 s15
theorem wl_X6_itemNumbers_69 {x1 : Int} {x2 : Int} {rv : Option vA} {σo : vS}  (rx1 : rg x1) (rx2 : rg x2) : ∀ (n : Nat) (x3 : Int) (s : vS) (q : vS), l_X6_itemNumbers_69 n x1 x2 x3 s = some q → rg x3 → E_X6_itemNumbers_69 x1 x2 rv σo q → VW cX6_itemNumbers (RX6, rv, σo, none, 5, 129, 4, []) (P0 []) s 69 [(0, vO 13), (1, vI x1), (2, vI x2), (3, vI x3)] [] := by
  intro n
  induction n with
  | zero => intro x3 s q h; cases h
  | succ n ih =>
    intro x3 s q h rx3 hE
    unfold l_X6_itemNumbers_69 at h
    refine v_iload_n dX6_itemNumbers_69 3 rfl rfl ?_
    refine v_iload_n dX6_itemNumbers_70 2 rfl rfl ?_
    refine v_icmp_eq (tgt := 119) dX6_itemNumbers_71 rx3 rx2 (by decide) (fun c1 => ?_) (fun c1 => ?_)
    · rw [if_pos c1] at h
      cases h
      refine v_sub [0, 1, 2] (L1 := [(0, vO 13), (1, vI x1), (2, vI x2)]) rfl ?_
      exact hE _ rfl 
    · rw [if_neg c1] at h
      refine v_aload_n dX6_itemNumbers_74 0 rfl rfl ?_
      refine v_getS (f := 11) (t := 34) cf6 oc13 rfl rfl rfl (by decide) q638 dX6_itemNumbers_75 ?_
      refine v_iload_n dX6_itemNumbers_78 3 rfl rfl ?_
      obtain ⟨g2, h⟩ := gd_some h
      refine v_iald oc34 rx3 g2.1 g2.2 dX6_itemNumbers_79 ?_
      refine v_iconst dX6_itemNumbers_80 ?_
      refine v_icmp_eq (tgt := 107) dX6_itemNumbers_81 (gE_rg _ _ _) (rgl rfl) (by decide) (fun c3 => ?_) (fun c3 => ?_)
      · rw [if_pos c3] at h
        exact wj_X6_itemNumbers_107 h rx1 rx2 rx3 ih hE
      · rw [if_neg c3] at h
        refine v_aload_n dX6_itemNumbers_84 0 rfl rfl ?_
        refine v_iload_n dX6_itemNumbers_85 2 rfl rfl ?_
        refine v_iload_n dX6_itemNumbers_86 3 rfl rfl ?_
        obtain ⟨r7, s4, e5, h⟩ := bd_some h
        have k6 := c_X6_alike e5 rx2 rx3
        have r8 : rg r7 := k6.1.2.2
        refine v_callV (st := []) cf6 oc13 k6 (lw_V q1540 q1542 qs53 q303 q1543) rfl yk_X6_alike ⟨Nat.le_of_ble_eq_true rfl, Nat.le_of_ble_eq_true rfl⟩ trivial ⟨kc13, trivial⟩ (Nat.le_of_ble_eq_true rfl) rfl dX6_itemNumbers_87 ?_
        refine v_if_eq (tgt := 107) dX6_itemNumbers_90 r8 (by decide) (fun c9 => ?_) (fun c9 => ?_)
        · rw [if_pos c9] at h
          exact wj_X6_itemNumbers_107 h rx1 rx2 rx3 ih hE
        · rw [if_neg c9] at h
          refine v_aload_n dX6_itemNumbers_93 0 rfl rfl ?_
          refine v_iconst dX6_itemNumbers_94 ?_
          refine v_aload_n dX6_itemNumbers_95 0 rfl rfl ?_
          refine v_getS (f := 1) (t := 10) cf6 oc13 rfl rfl rfl (by decide) q628 dX6_itemNumbers_96 ?_
          refine v_iload_n dX6_itemNumbers_99 2 rfl rfl ?_
          refine v_iconst dX6_itemNumbers_100 ?_
          obtain ⟨r13, s10, e11, h⟩ := bd_some h
          have k12 := c_X4_at e11 rx2 (rgl rfl)
          have r14 : rg r13 := k12.1.2.2
          refine v_callV (st := [vI 5, vO 13]) cf4 oc10 k12 (lw_V q1500 q1400 q1401 q301 q1402) rfl yk_X4_at ⟨Nat.le_of_ble_eq_true rfl, Nat.le_of_ble_eq_true rfl⟩ ⟨kc13, trivial⟩ ⟨kc13, trivial⟩ (Nat.le_of_ble_eq_true rfl) rfl dX6_itemNumbers_101 ?_
          obtain ⟨s15, e16, h⟩ := bdv_some h
          have k17 := c_X6_blame e16 (rgl rfl) r14
          refine v_callV (st := []) cf6 oc13 k17 (lw_V q1478 q1480 qs45 q303 q1481) rfl yk_X6_blame ⟨Nat.le_of_ble_eq_true rfl, Nat.le_of_ble_eq_true rfl⟩ trivial ⟨kc13, trivial⟩ (Nat.le_of_ble_eq_true rfl) rfl dX6_itemNumbers_104 ?_
          exact wj_X6_itemNumbers_107 h rx1 rx2 rx3 ih hE

def j_X6_itemNumbers_57 (rec : Int → Int → vS → Option (vS)) (x1 : Int) (x2 : Int) (z1 : Int) (z2 : Int) (z3 : Int) (s : vS) : Option (vS) :=
  bdv (f_X6_number z1 z2 z3 s) fun s1 =>
  bd (f_X4_parts x1 s1) fun r7 s4 =>
  lq_0 (l_X6_itemNumbers_69 FU x1 x2 r7 s4) fun s9 =>
  j_X6_itemNumbers_119 rec x1 x2 s9
theorem wj_X6_itemNumbers_57 {x1 : Int} {x2 : Int} {z1 : Int} {z2 : Int} {z3 : Int} {s : vS} {rv : Option vA} {σo : vS} {rec : Int → Int → vS → Option (vS)} {q : vS} (h : j_X6_itemNumbers_57 rec x1 x2 z1 z2 z3 s = some q)  (rx1 : rg x1) (rx2 : rg x2) (rz1 : rg z1) (rz2 : rg z2) (rz3 : rg z3) (hrec : ∀ (y2 : Int) (s : vS) (q : vS), rec x1 y2 s = some q → rg y2 → E_X6_itemNumbers_9 x1 rv σo q → VW cX6_itemNumbers (RX6, rv, σo, none, 5, 129, 4, []) (P0 []) s 9 [(0, vO 13), (1, vI x1), (2, vI y2)] []) (hE : E_X6_itemNumbers_9 x1 rv σo q) : VW cX6_itemNumbers (RX6, rv, σo, none, 5, 129, 4, []) (P0 []) s 57 [(0, vO 13), (1, vI x1), (2, vI x2)] [vI z3, vI z2, vI z1, vO 13] := by
  unfold j_X6_itemNumbers_57 at h
  obtain ⟨s1, e2, h⟩ := bdv_some h
  have k3 := c_X6_number e2 rz1 rz2 rz3
  refine v_callV (st := []) cf6 oc13 k3 (lw_V q1501 q1503 qs49 q303 q1504) rfl yk_X6_number ⟨Nat.le_of_ble_eq_true rfl, Nat.le_of_ble_eq_true rfl⟩ trivial ⟨kc13, trivial⟩ (Nat.le_of_ble_eq_true rfl) rfl dX6_itemNumbers_57 ?_
  refine v_aload_n dX6_itemNumbers_60 0 rfl rfl ?_
  refine v_getS (f := 1) (t := 10) cf6 oc13 rfl rfl rfl (by decide) q628 dX6_itemNumbers_61 ?_
  refine v_iload_n dX6_itemNumbers_64 1 rfl rfl ?_
  obtain ⟨r7, s4, e5, h⟩ := bd_some h
  have k6 := c_X4_parts e5 rx1
  have r8 : rg r7 := k6.1.2.2
  refine v_callV (st := []) cf4 oc10 k6 (lw_V q1492 q1493 q1494 q301 q1495) rfl yk_X4_parts ⟨Nat.le_of_ble_eq_true rfl, Nat.le_of_ble_eq_true rfl⟩ trivial ⟨kc13, trivial⟩ (Nat.le_of_ble_eq_true rfl) rfl dX6_itemNumbers_65 ?_
  refine v_istore_n (L1 := [(3, vI r7), (0, vO 13), (1, vI x1), (2, vI x2)]) dX6_itemNumbers_68 rfl (by decide) rfl ?_
  refine v_sub [1, 2, 3, 0] (L1 := [(0, vO 13), (1, vI x1), (2, vI x2), (3, vI r7)]) rfl ?_
  obtain ⟨s9, e10, h⟩ := lq_0_some h
  refine wl_X6_itemNumbers_69 rx1 rx2 FU r7 s4 _ e10 r8 ?_
  unfold E_X6_itemNumbers_69
  intro s9' z_
  cases z_
  exact wj_X6_itemNumbers_119 h rx1 rx2 hrec hE

def l_X6_itemNumbers_9 : Nat → Int → Int → vS → Option (vS)
  | 0, _, _, _ => none
  | n + 1, x1, x2, s =>
    if x2 = (-1) then
      some s
    else
      bd (f_X4_at x2 5 s) fun r5 s2 =>
      if r5 = (-1) then
        j_X6_itemNumbers_119 (l_X6_itemNumbers_9 n) x1 x2 s2
      else
        bd (f_X4_at x2 5 s2) fun r11 s8 =>
        bd (f_X4_at x2 6 s8) fun r16 s13 =>
        if r16 = 1 then
          j_X6_itemNumbers_57 (l_X6_itemNumbers_9 n) x1 x2 x2 r11 1 s13
        else
          j_X6_itemNumbers_57 (l_X6_itemNumbers_9 n) x1 x2 x2 r11 0 s13
theorem wl_X6_itemNumbers_9 {x1 : Int} {rv : Option vA} {σo : vS}  (rx1 : rg x1) : ∀ (n : Nat) (x2 : Int) (s : vS) (q : vS), l_X6_itemNumbers_9 n x1 x2 s = some q → rg x2 → E_X6_itemNumbers_9 x1 rv σo q → VW cX6_itemNumbers (RX6, rv, σo, none, 5, 129, 4, []) (P0 []) s 9 [(0, vO 13), (1, vI x1), (2, vI x2)] [] := by
  intro n
  induction n with
  | zero => intro x2 s q h; cases h
  | succ n ih =>
    intro x2 s q h rx2 hE
    unfold l_X6_itemNumbers_9 at h
    refine v_iload_n dX6_itemNumbers_9 2 rfl rfl ?_
    refine v_iconst dX6_itemNumbers_10 ?_
    refine v_icmp_eq (tgt := 131) dX6_itemNumbers_11 rx2 (rgl rfl) (by decide) (fun c1 => ?_) (fun c1 => ?_)
    · rw [if_pos c1] at h
      cases h
      refine v_sub [0, 1] (L1 := [(0, vO 13), (1, vI x1)]) rfl ?_
      exact hE _ rfl 
    · rw [if_neg c1] at h
      refine v_aload_n dX6_itemNumbers_14 0 rfl rfl ?_
      refine v_getS (f := 1) (t := 10) cf6 oc13 rfl rfl rfl (by decide) q628 dX6_itemNumbers_15 ?_
      refine v_iload_n dX6_itemNumbers_18 2 rfl rfl ?_
      refine v_iconst dX6_itemNumbers_19 ?_
      obtain ⟨r5, s2, e3, h⟩ := bd_some h
      have k4 := c_X4_at e3 rx2 (rgl rfl)
      have r6 : rg r5 := k4.1.2.2
      refine v_callV (st := []) cf4 oc10 k4 (lw_V q1500 q1400 q1401 q301 q1402) rfl yk_X4_at ⟨Nat.le_of_ble_eq_true rfl, Nat.le_of_ble_eq_true rfl⟩ trivial ⟨kc13, trivial⟩ (Nat.le_of_ble_eq_true rfl) rfl dX6_itemNumbers_20 ?_
      refine v_iconst dX6_itemNumbers_23 ?_
      refine v_icmp_eq (tgt := 119) dX6_itemNumbers_24 r6 (rgl rfl) (by decide) (fun c7 => ?_) (fun c7 => ?_)
      · rw [if_pos c7] at h
        exact wj_X6_itemNumbers_119 h rx1 rx2 ih hE
      · rw [if_neg c7] at h
        refine v_aload_n dX6_itemNumbers_27 0 rfl rfl ?_
        refine v_iload_n dX6_itemNumbers_28 2 rfl rfl ?_
        refine v_aload_n dX6_itemNumbers_29 0 rfl rfl ?_
        refine v_getS (f := 1) (t := 10) cf6 oc13 rfl rfl rfl (by decide) q628 dX6_itemNumbers_30 ?_
        refine v_iload_n dX6_itemNumbers_33 2 rfl rfl ?_
        refine v_iconst dX6_itemNumbers_34 ?_
        obtain ⟨r11, s8, e9, h⟩ := bd_some h
        have k10 := c_X4_at e9 rx2 (rgl rfl)
        have r12 : rg r11 := k10.1.2.2
        refine v_callV (st := [vI x2, vO 13]) cf4 oc10 k10 (lw_V q1500 q1400 q1401 q301 q1402) rfl yk_X4_at ⟨Nat.le_of_ble_eq_true rfl, Nat.le_of_ble_eq_true rfl⟩ ⟨kc13, trivial⟩ ⟨kc13, trivial⟩ (Nat.le_of_ble_eq_true rfl) rfl dX6_itemNumbers_35 ?_
        refine v_aload_n dX6_itemNumbers_38 0 rfl rfl ?_
        refine v_getS (f := 1) (t := 10) cf6 oc13 rfl rfl rfl (by decide) q628 dX6_itemNumbers_39 ?_
        refine v_iload_n dX6_itemNumbers_42 2 rfl rfl ?_
        refine v_bipush dX6_itemNumbers_43 rfl ?_
        obtain ⟨r16, s13, e14, h⟩ := bd_some h
        have k15 := c_X4_at e14 rx2 (rgl rfl)
        have r17 : rg r16 := k15.1.2.2
        refine v_callV (st := [vI r11, vI x2, vO 13]) cf4 oc10 k15 (lw_V q1500 q1400 q1401 q301 q1402) rfl yk_X4_at ⟨Nat.le_of_ble_eq_true rfl, Nat.le_of_ble_eq_true rfl⟩ ⟨kc13, trivial⟩ ⟨kc13, trivial⟩ (Nat.le_of_ble_eq_true rfl) rfl dX6_itemNumbers_45 ?_
        refine v_iconst dX6_itemNumbers_48 ?_
        refine v_icmp_ne (tgt := 56) dX6_itemNumbers_49 r17 (rgl rfl) (by decide) (fun c18 => ?_) (fun c18 => ?_)
        · rw [if_neg c18] at h
          refine v_iconst dX6_itemNumbers_56 ?_
          exact wj_X6_itemNumbers_57 h rx1 rx2 rx2 r12 (rgl rfl) ih hE
        · rw [if_pos c18] at h
          refine v_iconst dX6_itemNumbers_52 ?_
          refine v_goto (tgt := 57) dX6_itemNumbers_53 (by decide) ?_
          exact wj_X6_itemNumbers_57 h rx1 rx2 rx2 r12 (rgl rfl) ih hE

def E_X6_itemNumbers_147 (x1 : Int) (rv : Option vA) (σo : vS) (q : vS) : Prop := ∀ (s' : vS), q = s' → VW cX6_itemNumbers (RX6, rv, σo, none, 5, 129, 4, []) (P0 []) s' 223 [(0, vO 13), (1, vI x1)] []
def j_X6_itemNumbers_211 (rec : Int → Int → vS → Option (vS)) (x1 : Int) (x2 : Int) (s : vS) : Option (vS) :=
  bd (f_X4_next x2 s) fun r4 s1 =>
  rec x1 r4 s1
theorem wj_X6_itemNumbers_211 {x1 : Int} {x2 : Int} {s : vS} {rv : Option vA} {σo : vS} {rec : Int → Int → vS → Option (vS)} {q : vS} (h : j_X6_itemNumbers_211 rec x1 x2 s = some q)  (rx1 : rg x1) (rx2 : rg x2) (hrec : ∀ (y2 : Int) (s : vS) (q : vS), rec x1 y2 s = some q → rg y2 → E_X6_itemNumbers_147 x1 rv σo q → VW cX6_itemNumbers (RX6, rv, σo, none, 5, 129, 4, []) (P0 []) s 147 [(0, vO 13), (1, vI x1), (2, vI y2)] []) (hE : E_X6_itemNumbers_147 x1 rv σo q) : VW cX6_itemNumbers (RX6, rv, σo, none, 5, 129, 4, []) (P0 []) s 211 [(0, vO 13), (1, vI x1), (2, vI x2)] [] := by
  unfold j_X6_itemNumbers_211 at h
  refine v_aload_n dX6_itemNumbers_211 0 rfl rfl ?_
  refine v_getS (f := 1) (t := 10) cf6 oc13 rfl rfl rfl (by decide) q628 dX6_itemNumbers_212 ?_
  refine v_iload_n dX6_itemNumbers_215 2 rfl rfl ?_
  obtain ⟨r4, s1, e2, h⟩ := bd_some h
  have k3 := c_X4_next e2 rx2
  have r5 : rg r4 := k3.1.2.2
  refine v_callV (st := []) cf4 oc10 k3 (lw_V q1483 q1404 q1405 q301 q1406) rfl yk_X4_next ⟨Nat.le_of_ble_eq_true rfl, Nat.le_of_ble_eq_true rfl⟩ trivial ⟨kc13, trivial⟩ (Nat.le_of_ble_eq_true rfl) rfl dX6_itemNumbers_216 ?_
  refine v_istore_n (L1 := [(2, vI r4), (0, vO 13), (1, vI x1)]) dX6_itemNumbers_219 rfl (by decide) rfl ?_
  refine v_goto (tgt := 147) dX6_itemNumbers_220 (by decide) ?_
  refine v_sub [1, 2, 0] (L1 := [(0, vO 13), (1, vI x1), (2, vI r4)]) rfl ?_
  exact hrec r4 s1 _ h r5 hE

def l_X6_itemNumbers_147 : Nat → Int → Int → vS → Option (vS)
  | 0, _, _, _ => none
  | n + 1, x1, x2, s =>
    if x2 = (-1) then
      some s
    else
      gd (inb x2 (gN s 34)) <|
      if (gE s 34 x2) = (-1) then
        j_X6_itemNumbers_211 (l_X6_itemNumbers_147 n) x1 x2 s
      else
        gd (inb x2 (gN s 35)) <|
        gd (inb x2 (gN s 34)) <|
        if 4 ≤ (w32 ((gE s 35 x2) - (gE s 34 x2))) then
          j_X6_itemNumbers_211 (l_X6_itemNumbers_147 n) x1 x2 s
        else
          gd (inb x2 (gN s 34)) <|
          bd (f_X2_at 30 (gE s 34 x2) s) fun r11 s8 =>
          if 128 ≤ r11 then
            j_X6_itemNumbers_211 (l_X6_itemNumbers_147 n) x1 x2 s8
          else
            bd (f_X6_small x2 s8) fun r17 s14 =>
            bd (f_X10_add r17 s14) fun r22 s19 =>
            j_X6_itemNumbers_211 (l_X6_itemNumbers_147 n) x1 x2 s19
theorem wl_X6_itemNumbers_147 {x1 : Int} {rv : Option vA} {σo : vS}  (rx1 : rg x1) : ∀ (n : Nat) (x2 : Int) (s : vS) (q : vS), l_X6_itemNumbers_147 n x1 x2 s = some q → rg x2 → E_X6_itemNumbers_147 x1 rv σo q → VW cX6_itemNumbers (RX6, rv, σo, none, 5, 129, 4, []) (P0 []) s 147 [(0, vO 13), (1, vI x1), (2, vI x2)] [] := by
  intro n
  induction n with
  | zero => intro x2 s q h; cases h
  | succ n ih =>
    intro x2 s q h rx2 hE
    unfold l_X6_itemNumbers_147 at h
    refine v_iload_n dX6_itemNumbers_147 2 rfl rfl ?_
    refine v_iconst dX6_itemNumbers_148 ?_
    refine v_icmp_eq (tgt := 223) dX6_itemNumbers_149 rx2 (rgl rfl) (by decide) (fun c1 => ?_) (fun c1 => ?_)
    · rw [if_pos c1] at h
      cases h
      refine v_sub [0, 1] (L1 := [(0, vO 13), (1, vI x1)]) rfl ?_
      exact hE _ rfl 
    · rw [if_neg c1] at h
      refine v_aload_n dX6_itemNumbers_152 0 rfl rfl ?_
      refine v_getS (f := 11) (t := 34) cf6 oc13 rfl rfl rfl (by decide) q638 dX6_itemNumbers_153 ?_
      refine v_iload_n dX6_itemNumbers_156 2 rfl rfl ?_
      obtain ⟨g2, h⟩ := gd_some h
      refine v_iald oc34 rx2 g2.1 g2.2 dX6_itemNumbers_157 ?_
      refine v_iconst dX6_itemNumbers_158 ?_
      refine v_icmp_eq (tgt := 211) dX6_itemNumbers_159 (gE_rg _ _ _) (rgl rfl) (by decide) (fun c3 => ?_) (fun c3 => ?_)
      · rw [if_pos c3] at h
        exact wj_X6_itemNumbers_211 h rx1 rx2 ih hE
      · rw [if_neg c3] at h
        refine v_aload_n dX6_itemNumbers_162 0 rfl rfl ?_
        refine v_getS (f := 12) (t := 35) cf6 oc13 rfl rfl rfl (by decide) q639 dX6_itemNumbers_163 ?_
        refine v_iload_n dX6_itemNumbers_166 2 rfl rfl ?_
        obtain ⟨g4, h⟩ := gd_some h
        refine v_iald oc35 rx2 g4.1 g4.2 dX6_itemNumbers_167 ?_
        refine v_aload_n dX6_itemNumbers_168 0 rfl rfl ?_
        refine v_getS (f := 11) (t := 34) cf6 oc13 rfl rfl rfl (by decide) q638 dX6_itemNumbers_169 ?_
        refine v_iload_n dX6_itemNumbers_172 2 rfl rfl ?_
        obtain ⟨g5, h⟩ := gd_some h
        refine v_iald oc34 rx2 g5.1 g5.2 dX6_itemNumbers_173 ?_
        refine v_isub dX6_itemNumbers_174 ?_
        refine v_iconst dX6_itemNumbers_175 ?_
        refine v_icmp_ge (tgt := 211) dX6_itemNumbers_176 (w32_rg _) (rgl rfl) (by decide) (fun c6 => ?_) (fun c6 => ?_)
        · rw [if_pos c6] at h
          exact wj_X6_itemNumbers_211 h rx1 rx2 ih hE
        · rw [if_neg c6] at h
          refine v_aload_n dX6_itemNumbers_179 0 rfl rfl ?_
          refine v_getS (f := 9) (t := 30) cf6 oc13 rfl rfl rfl (by decide) q636 dX6_itemNumbers_180 ?_
          refine v_aload_n dX6_itemNumbers_183 0 rfl rfl ?_
          refine v_getS (f := 11) (t := 34) cf6 oc13 rfl rfl rfl (by decide) q638 dX6_itemNumbers_184 ?_
          refine v_iload_n dX6_itemNumbers_187 2 rfl rfl ?_
          obtain ⟨g7, h⟩ := gd_some h
          refine v_iald oc34 rx2 g7.1 g7.2 dX6_itemNumbers_188 ?_
          obtain ⟨r11, s8, e9, h⟩ := bd_some h
          have k10 := c_X2_at e9 (⟨by decide, rfl⟩ : okB 30 1) (gE_rg _ _ _)
          have r12 : rg r11 := k10.1.2.2
          refine v_callV (st := []) cf2 oc30 k10 (lw_V q1549 q1072 q1073 q299 q1074) rfl yk_X2_at ⟨Nat.le_of_ble_eq_true rfl, Nat.le_of_ble_eq_true rfl⟩ trivial ⟨kc13, trivial⟩ (Nat.le_of_ble_eq_true rfl) rfl dX6_itemNumbers_189 ?_
          refine v_sipush dX6_itemNumbers_192 rfl ?_
          refine v_icmp_ge (tgt := 211) dX6_itemNumbers_195 r12 (rgl rfl) (by decide) (fun c13 => ?_) (fun c13 => ?_)
          · rw [if_pos c13] at h
            exact wj_X6_itemNumbers_211 h rx1 rx2 ih hE
          · rw [if_neg c13] at h
            refine v_aload_n dX6_itemNumbers_198 0 rfl rfl ?_
            refine v_getS (f := 8) (t := 28) cf6 oc13 rfl rfl rfl (by decide) q635 dX6_itemNumbers_199 ?_
            refine v_aload_n dX6_itemNumbers_202 0 rfl rfl ?_
            refine v_iload_n dX6_itemNumbers_203 2 rfl rfl ?_
            obtain ⟨r17, s14, e15, h⟩ := bd_some h
            have k16 := c_X6_small e15 rx2
            have r18 : rg r17 := k16.1.2.2
            refine v_callV (st := [vO 28]) cf6 oc13 k16 (lw_V q1550 q1552 qs54 q303 q1553) rfl yk_X6_small ⟨Nat.le_of_ble_eq_true rfl, Nat.le_of_ble_eq_true rfl⟩ ⟨kc28, trivial⟩ ⟨kc13, trivial⟩ (Nat.le_of_ble_eq_true rfl) rfl dX6_itemNumbers_204 ?_
            obtain ⟨r22, s19, e20, h⟩ := bd_some h
            have k21 := c_X10_add e20 r18
            have r23 : rg r22 := k21.1.2.2
            refine v_callV (st := []) cf10 oc28 k21 (lw_V q1554 q1555 q1556 q307 q1557) rfl yk_X10_add ⟨Nat.le_of_ble_eq_true rfl, Nat.le_of_ble_eq_true rfl⟩ trivial ⟨kc13, trivial⟩ (Nat.le_of_ble_eq_true rfl) rfl dX6_itemNumbers_207 ?_
            refine v_popI dX6_itemNumbers_210 ?_
            exact wj_X6_itemNumbers_211 h rx1 rx2 ih hE

def E_X6_itemNumbers_234 (rv : Option vA) (σo : vS) (q : vS) : Prop := ∀ (s' : vS), q = s' → VW cX6_itemNumbers (RX6, rv, σo, none, 5, 129, 4, []) (P0 []) s' 324 [] []
def j_X6_itemNumbers_312 (rec : Int → Int → vS → Option (vS)) (x2 : Int) (x3 : Int) (s : vS) : Option (vS) :=
  bd (f_X4_next x3 s) fun r4 s1 =>
  rec x2 r4 s1
theorem wj_X6_itemNumbers_312 {x2 : Int} {x3 : Int} {s : vS} {rv : Option vA} {σo : vS} {rec : Int → Int → vS → Option (vS)} {q : vS} (h : j_X6_itemNumbers_312 rec x2 x3 s = some q)  (rx2 : rg x2) (rx3 : rg x3) (hrec : ∀ (y2 : Int) (y3 : Int) (s : vS) (q : vS), rec y2 y3 s = some q → rg y2 → rg y3 → E_X6_itemNumbers_234 rv σo q → VW cX6_itemNumbers (RX6, rv, σo, none, 5, 129, 4, []) (P0 []) s 234 [(0, vO 13), (2, vI y2), (3, vI y3)] []) (hE : E_X6_itemNumbers_234 rv σo q) : VW cX6_itemNumbers (RX6, rv, σo, none, 5, 129, 4, []) (P0 []) s 312 [(0, vO 13), (2, vI x2), (3, vI x3)] [] := by
  unfold j_X6_itemNumbers_312 at h
  refine v_aload_n dX6_itemNumbers_312 0 rfl rfl ?_
  refine v_getS (f := 1) (t := 10) cf6 oc13 rfl rfl rfl (by decide) q628 dX6_itemNumbers_313 ?_
  refine v_iload_n dX6_itemNumbers_316 2 rfl rfl ?_
  obtain ⟨r4, s1, e2, h⟩ := bd_some h
  have k3 := c_X4_next e2 rx3
  have r5 : rg r4 := k3.1.2.2
  refine v_callV (st := []) cf4 oc10 k3 (lw_V q1483 q1404 q1405 q301 q1406) rfl yk_X4_next ⟨Nat.le_of_ble_eq_true rfl, Nat.le_of_ble_eq_true rfl⟩ trivial ⟨kc13, trivial⟩ (Nat.le_of_ble_eq_true rfl) rfl dX6_itemNumbers_317 ?_
  refine v_istore_n (L1 := [(3, vI r4), (0, vO 13), (2, vI x2)]) dX6_itemNumbers_320 rfl (by decide) rfl ?_
  refine v_goto (tgt := 234) dX6_itemNumbers_321 (by decide) ?_
  refine v_sub [1, 2, 0] (L1 := [(0, vO 13), (2, vI x2), (3, vI r4)]) rfl ?_
  exact hrec x2 r4 s1 _ h rx2 r5 hE

def E_X6_itemNumbers_249 (x3 : Int) (rv : Option vA) (σo : vS) (q : Int × vS) : Prop := ∀ (x2' : Int) (s' : vS), q = (x2', s') → rg x2' → VW cX6_itemNumbers (RX6, rv, σo, none, 5, 129, 4, []) (P0 []) s' 266 [(0, vO 13), (2, vI x2'), (3, vI x3)] []
def l_X6_itemNumbers_249 : Nat → Int → Int → vS → Option (Int × vS)
  | 0, _, _, _ => none
  | n + 1, x2, x3, s =>
    bd (f_X10_add x2 s) fun r4 s1 =>
    if r4 = 0 then
      vl (w32 (x2 + 1)) fun y7 =>
      l_X6_itemNumbers_249 n y7 x3 s1
    else
      some (x2, s1)
theorem wl_X6_itemNumbers_249 {x3 : Int} {rv : Option vA} {σo : vS}  (rx3 : rg x3) : ∀ (n : Nat) (x2 : Int) (s : vS) (q : Int × vS), l_X6_itemNumbers_249 n x2 x3 s = some q → rg x2 → E_X6_itemNumbers_249 x3 rv σo q → VW cX6_itemNumbers (RX6, rv, σo, none, 5, 129, 4, []) (P0 []) s 249 [(0, vO 13), (2, vI x2), (3, vI x3)] [] := by
  intro n
  induction n with
  | zero => intro x2 s q h; cases h
  | succ n ih =>
    intro x2 s q h rx2 hE
    unfold l_X6_itemNumbers_249 at h
    refine v_aload_n dX6_itemNumbers_249 0 rfl rfl ?_
    refine v_getS (f := 8) (t := 28) cf6 oc13 rfl rfl rfl (by decide) q635 dX6_itemNumbers_250 ?_
    refine v_iload_n dX6_itemNumbers_253 1 rfl rfl ?_
    obtain ⟨r4, s1, e2, h⟩ := bd_some h
    have k3 := c_X10_add e2 rx2
    have r5 : rg r4 := k3.1.2.2
    refine v_callV (st := []) cf10 oc28 k3 (lw_V q1554 q1555 q1556 q307 q1557) rfl yk_X10_add ⟨Nat.le_of_ble_eq_true rfl, Nat.le_of_ble_eq_true rfl⟩ trivial ⟨kc13, trivial⟩ (Nat.le_of_ble_eq_true rfl) rfl dX6_itemNumbers_254 ?_
    refine v_if_ne (tgt := 266) dX6_itemNumbers_257 r5 (by decide) (fun c6 => ?_) (fun c6 => ?_)
    · rw [if_neg c6] at h
      cases h
      exact hE _ _ rfl rx2
    · rw [if_pos c6] at h
      obtain ⟨y7, e8, h⟩ := vl_some h
      refine v_iinc (L1 := [(2, vI (w32 (x2 + 1))), (0, vO 13), (3, vI x3)]) dX6_itemNumbers_260 1 rfl (by decide) rfl ?_
      rw [← e8]
      have r9 : rg y7 := by rw [e8]; exact w32_rg _
      refine v_goto (tgt := 249) dX6_itemNumbers_263 (by decide) ?_
      refine v_sub [1, 0, 2] (L1 := [(0, vO 13), (2, vI y7), (3, vI x3)]) rfl ?_
      exact ih y7 s1 _ h r9 hE

def l_X6_itemNumbers_234 : Nat → Int → Int → vS → Option (vS)
  | 0, _, _, _ => none
  | n + 1, x2, x3, s =>
    if x3 = (-1) then
      some s
    else
      gd (inb x3 (gN s 34)) <|
      if (gE s 34 x3) = (-1) then
        lq_1 (l_X6_itemNumbers_249 FU x2 x3 s) fun y4 s5 =>
        bd (f_X2_size 30 s5) fun r11 s8 =>
        gd (gN s8 34 = gN s5 34) <|
        gd (inb x3 (gN s8 34)) <|
        stp (sE s8 34 x3 r11) fun s15 =>
        bdv (f_X7_set 14 y4 s15) fun s17 =>
        bdv (f_X7_write 14 0 30 s17) fun s20 =>
        bd (f_X2_size 30 s20) fun r26 s23 =>
        gd (gN s23 35 = gN s20 35) <|
        gd (inb x3 (gN s23 35)) <|
        stp (sE s23 35 x3 r26) fun s30 =>
        j_X6_itemNumbers_312 (l_X6_itemNumbers_234 n) y4 x3 s30
      else
        j_X6_itemNumbers_312 (l_X6_itemNumbers_234 n) x2 x3 s
theorem wl_X6_itemNumbers_234 {rv : Option vA} {σo : vS}  : ∀ (n : Nat) (x2 : Int) (x3 : Int) (s : vS) (q : vS), l_X6_itemNumbers_234 n x2 x3 s = some q → rg x2 → rg x3 → E_X6_itemNumbers_234 rv σo q → VW cX6_itemNumbers (RX6, rv, σo, none, 5, 129, 4, []) (P0 []) s 234 [(0, vO 13), (2, vI x2), (3, vI x3)] [] := by
  intro n
  induction n with
  | zero => intro x2 x3 s q h; cases h
  | succ n ih =>
    intro x2 x3 s q h rx2 rx3 hE
    unfold l_X6_itemNumbers_234 at h
    refine v_iload_n dX6_itemNumbers_234 2 rfl rfl ?_
    refine v_iconst dX6_itemNumbers_235 ?_
    refine v_icmp_eq (tgt := 324) dX6_itemNumbers_236 rx3 (rgl rfl) (by decide) (fun c1 => ?_) (fun c1 => ?_)
    · rw [if_pos c1] at h
      cases h
      refine v_sub [] (L1 := []) rfl ?_
      exact hE _ rfl 
    · rw [if_neg c1] at h
      refine v_aload_n dX6_itemNumbers_239 0 rfl rfl ?_
      refine v_getS (f := 11) (t := 34) cf6 oc13 rfl rfl rfl (by decide) q638 dX6_itemNumbers_240 ?_
      refine v_iload_n dX6_itemNumbers_243 2 rfl rfl ?_
      obtain ⟨g2, h⟩ := gd_some h
      refine v_iald oc34 rx3 g2.1 g2.2 dX6_itemNumbers_244 ?_
      refine v_iconst dX6_itemNumbers_245 ?_
      refine v_icmp_ne (tgt := 312) dX6_itemNumbers_246 (gE_rg _ _ _) (rgl rfl) (by decide) (fun c3 => ?_) (fun c3 => ?_)
      · rw [if_neg c3] at h
        exact wj_X6_itemNumbers_312 h rx2 rx3 ih hE
      · rw [if_pos c3] at h
        obtain ⟨y4, s5, e6, h⟩ := lq_1_some h
        refine wl_X6_itemNumbers_249 rx3 FU x2 s _ e6 rx2 ?_
        unfold E_X6_itemNumbers_249
        intro y4' s5' z_ r7
        cases z_
        refine v_aload_n dX6_itemNumbers_266 0 rfl rfl ?_
        refine v_getS (f := 11) (t := 34) cf6 oc13 rfl rfl rfl (by decide) q638 dX6_itemNumbers_267 ?_
        refine v_iload_n dX6_itemNumbers_270 2 rfl rfl ?_
        refine v_aload_n dX6_itemNumbers_271 0 rfl rfl ?_
        refine v_getS (f := 9) (t := 30) cf6 oc13 rfl rfl rfl (by decide) q636 dX6_itemNumbers_272 ?_
        obtain ⟨r11, s8, e9, h⟩ := bd_some h
        have k10 := c_X2_size e9 (⟨by decide, rfl⟩ : okB 30 1)
        have r12 : rg r11 := k10.1.2.2
        obtain ⟨g13, h⟩ := gd_some h
        refine v_callV (st := [vI x3, vO 34]) cf2 oc30 k10 (lw_V q1524 q918 q919 q299 q920) rfl yk_X2_size ⟨Nat.le_of_ble_eq_true rfl, Nat.le_of_ble_eq_true rfl⟩ ⟨(kp_arr (by decide) g13), trivial⟩ ⟨kc13, trivial⟩ (Nat.le_of_ble_eq_true rfl) rfl dX6_itemNumbers_275 ?_
        obtain ⟨g14, h⟩ := gd_some h
        obtain ⟨s15, e16, h⟩ := stp_some h
        refine v_iast oc34 rx3 g14.1 g14.2 dX6_itemNumbers_278 ?_
        rw [← e16]
        refine v_aload_n dX6_itemNumbers_279 0 rfl rfl ?_
        refine v_getS (f := 2) (t := 14) cf6 oc13 rfl rfl rfl (by decide) q629 dX6_itemNumbers_280 ?_
        refine v_iload_n dX6_itemNumbers_283 1 rfl rfl ?_
        obtain ⟨s17, e18, h⟩ := bdv_some h
        have k19 := c_X7_set e18 (⟨by decide, rfl⟩ : okB 14 6) r7
        refine v_callV (st := []) cf7 oc14 k19 (lw_V q1563 q1564 q1565 q304 q1566) rfl yk_X7_set ⟨Nat.le_of_ble_eq_true rfl, Nat.le_of_ble_eq_true rfl⟩ trivial ⟨kc13, trivial⟩ (Nat.le_of_ble_eq_true rfl) rfl dX6_itemNumbers_284 ?_
        refine v_aload_n dX6_itemNumbers_287 0 rfl rfl ?_
        refine v_getS (f := 2) (t := 14) cf6 oc13 rfl rfl rfl (by decide) q629 dX6_itemNumbers_288 ?_
        refine v_iconst dX6_itemNumbers_291 ?_
        refine v_aload_n dX6_itemNumbers_292 0 rfl rfl ?_
        refine v_getS (f := 9) (t := 30) cf6 oc13 rfl rfl rfl (by decide) q636 dX6_itemNumbers_293 ?_
        obtain ⟨s20, e21, h⟩ := bdv_some h
        have k22 := c_X7_write e21 (⟨by decide, rfl⟩ : okB 14 6) (⟨by decide, rfl⟩ : okB 30 1) (rgl rfl)
        refine v_callV (st := []) cf7 oc14 k22 (lw_V q1525 q1526 q1527 q304 q1528) rfl yk_X7_write ⟨Nat.le_of_ble_eq_true rfl, Nat.le_of_ble_eq_true rfl⟩ trivial ⟨kc13, trivial⟩ (Nat.le_of_ble_eq_true rfl) rfl dX6_itemNumbers_296 ?_
        refine v_aload_n dX6_itemNumbers_299 0 rfl rfl ?_
        refine v_getS (f := 12) (t := 35) cf6 oc13 rfl rfl rfl (by decide) q639 dX6_itemNumbers_300 ?_
        refine v_iload_n dX6_itemNumbers_303 2 rfl rfl ?_
        refine v_aload_n dX6_itemNumbers_304 0 rfl rfl ?_
        refine v_getS (f := 9) (t := 30) cf6 oc13 rfl rfl rfl (by decide) q636 dX6_itemNumbers_305 ?_
        obtain ⟨r26, s23, e24, h⟩ := bd_some h
        have k25 := c_X2_size e24 (⟨by decide, rfl⟩ : okB 30 1)
        have r27 : rg r26 := k25.1.2.2
        obtain ⟨g28, h⟩ := gd_some h
        refine v_callV (st := [vI x3, vO 35]) cf2 oc30 k25 (lw_V q1524 q918 q919 q299 q920) rfl yk_X2_size ⟨Nat.le_of_ble_eq_true rfl, Nat.le_of_ble_eq_true rfl⟩ ⟨(kp_arr (by decide) g28), trivial⟩ ⟨kc13, trivial⟩ (Nat.le_of_ble_eq_true rfl) rfl dX6_itemNumbers_308 ?_
        obtain ⟨g29, h⟩ := gd_some h
        obtain ⟨s30, e31, h⟩ := stp_some h
        refine v_iast oc35 rx3 g29.1 g29.2 dX6_itemNumbers_311 ?_
        rw [← e31]
        exact wj_X6_itemNumbers_312 h r7 rx3 ih hE

def f_X6_itemNumbers (x1 : Int) (s : vS) : Option (vS) :=
  bd (f_X4_parts x1 s) fun r4 s1 =>
  lq_0 (l_X6_itemNumbers_9 FU x1 r4 s1) fun s6 =>
  bdv (f_X10_clear s6) fun s8 =>
  bd (f_X4_parts x1 s8) fun r14 s11 =>
  lq_0 (l_X6_itemNumbers_147 FU x1 r14 s11) fun s16 =>
  bd (f_X4_parts x1 s16) fun r21 s18 =>
  lq_0 (l_X6_itemNumbers_234 FU 0 r21 s18) fun s23 =>
  some s23
theorem yk_X6_itemNumbers : yOk yX6_itemNumbers 1 := ⟨by decide, by decide, by decide +kernel⟩
theorem c_X6_itemNumbers {x1 : Int} {s : vS} {out : vS} (h : f_X6_itemNumbers x1 s = some out)  (rx1 : rg x1) : VC yX6_itemNumbers cX6_itemNumbers 4 none 5 129 [vO 13, vI x1] s none out [] := by
  unfold f_X6_itemNumbers at h
  refine VC.of RX6 (by decide) rfl (Nat.le_of_ble_eq_true rfl) ?_
  show VW cX6_itemNumbers (RX6, none, out, none, 5, 129, 4, []) (P0 []) s 0 [(0, vO 13), (1, vI x1)] []
  refine v_aload_n dX6_itemNumbers_0 0 rfl rfl ?_
  refine v_getS (f := 1) (t := 10) cf6 oc13 rfl rfl rfl (by decide) q628 dX6_itemNumbers_1 ?_
  refine v_iload_n dX6_itemNumbers_4 1 rfl rfl ?_
  obtain ⟨r4, s1, e2, h⟩ := bd_some h
  have k3 := c_X4_parts e2 rx1
  have r5 : rg r4 := k3.1.2.2
  refine v_callV (st := []) cf4 oc10 k3 (lw_V q1492 q1493 q1494 q301 q1495) rfl yk_X4_parts ⟨Nat.le_of_ble_eq_true rfl, Nat.le_of_ble_eq_true rfl⟩ trivial ⟨kc13, trivial⟩ (Nat.le_of_ble_eq_true rfl) rfl dX6_itemNumbers_5 ?_
  refine v_istore_n (L1 := [(2, vI r4), (0, vO 13), (1, vI x1)]) dX6_itemNumbers_8 rfl (by decide) rfl ?_
  refine v_sub [1, 2, 0] (L1 := [(0, vO 13), (1, vI x1), (2, vI r4)]) rfl ?_
  obtain ⟨s6, e7, h⟩ := lq_0_some h
  refine wl_X6_itemNumbers_9 rx1 FU r4 s1 _ e7 r5 ?_
  unfold E_X6_itemNumbers_9
  intro s6' z_
  cases z_
  refine v_aload_n dX6_itemNumbers_131 0 rfl rfl ?_
  refine v_getS (f := 8) (t := 28) cf6 oc13 rfl rfl rfl (by decide) q635 dX6_itemNumbers_132 ?_
  obtain ⟨s8, e9, h⟩ := bdv_some h
  have k10 := c_X10_clear e9
  refine v_callV (st := []) cf10 oc28 k10 (lw_V q1545 q1546 q1547 q307 q1548) rfl yk_X10_clear ⟨Nat.le_of_ble_eq_true rfl, Nat.le_of_ble_eq_true rfl⟩ trivial ⟨kc13, trivial⟩ (Nat.le_of_ble_eq_true rfl) rfl dX6_itemNumbers_135 ?_
  refine v_aload_n dX6_itemNumbers_138 0 rfl rfl ?_
  refine v_getS (f := 1) (t := 10) cf6 oc13 rfl rfl rfl (by decide) q628 dX6_itemNumbers_139 ?_
  refine v_iload_n dX6_itemNumbers_142 1 rfl rfl ?_
  obtain ⟨r14, s11, e12, h⟩ := bd_some h
  have k13 := c_X4_parts e12 rx1
  have r15 : rg r14 := k13.1.2.2
  refine v_callV (st := []) cf4 oc10 k13 (lw_V q1492 q1493 q1494 q301 q1495) rfl yk_X4_parts ⟨Nat.le_of_ble_eq_true rfl, Nat.le_of_ble_eq_true rfl⟩ trivial ⟨kc13, trivial⟩ (Nat.le_of_ble_eq_true rfl) rfl dX6_itemNumbers_143 ?_
  refine v_istore_n (L1 := [(2, vI r14), (0, vO 13), (1, vI x1)]) dX6_itemNumbers_146 rfl (by decide) rfl ?_
  refine v_sub [1, 2, 0] (L1 := [(0, vO 13), (1, vI x1), (2, vI r14)]) rfl ?_
  obtain ⟨s16, e17, h⟩ := lq_0_some h
  refine wl_X6_itemNumbers_147 rx1 FU r14 s11 _ e17 r15 ?_
  unfold E_X6_itemNumbers_147
  intro s16' z_
  cases z_
  refine v_iconst dX6_itemNumbers_223 ?_
  refine v_istore_n (L1 := [(2, vI 0), (0, vO 13), (1, vI x1)]) dX6_itemNumbers_224 rfl (by decide) rfl ?_
  refine v_aload_n dX6_itemNumbers_225 1 rfl rfl ?_
  refine v_getS (f := 1) (t := 10) cf6 oc13 rfl rfl rfl (by decide) q628 dX6_itemNumbers_226 ?_
  refine v_iload_n dX6_itemNumbers_229 2 rfl rfl ?_
  obtain ⟨r21, s18, e19, h⟩ := bd_some h
  have k20 := c_X4_parts e19 rx1
  have r22 : rg r21 := k20.1.2.2
  refine v_callV (st := []) cf4 oc10 k20 (lw_V q1492 q1493 q1494 q301 q1495) rfl yk_X4_parts ⟨Nat.le_of_ble_eq_true rfl, Nat.le_of_ble_eq_true rfl⟩ trivial ⟨kc13, trivial⟩ (Nat.le_of_ble_eq_true rfl) rfl dX6_itemNumbers_230 ?_
  refine v_istore_n (L1 := [(3, vI r21), (2, vI 0), (0, vO 13), (1, vI x1)]) dX6_itemNumbers_233 rfl (by decide) rfl ?_
  refine v_sub [2, 1, 0] (L1 := [(0, vO 13), (2, vI 0), (3, vI r21)]) rfl ?_
  obtain ⟨s23, e24, h⟩ := lq_0_some h
  refine wl_X6_itemNumbers_234  FU 0 r21 s18 _ e24 (rgl rfl) r22 ?_
  unfold E_X6_itemNumbers_234
  intro s23' z_
  cases z_
  cases h
  exact v_vret dX6_itemNumbers_324

def E_X6_lists_2 (rv : Option vA) (σo : vS) (q : vS) : Prop := ∀ (s' : vS), q = s' → VW cX6_lists (RX6, rv, σo, (some .boolean), 6, 152, 3, []) (P0 []) s' 148 [(0, vO 13)] []
def E_X6_lists_68 (x1 : Int) (rv : Option vA) (σo : vS) (q : vS) : Prop := ∀ (s' : vS), q = s' → VW cX6_lists (RX6, rv, σo, (some .boolean), 6, 152, 3, []) (P0 []) s' 117 [(0, vO 13), (1, vI x1)] []
def j_X6_lists_105 (rec : Int → Int → vS → Option (vS)) (x1 : Int) (x2 : Int) (s : vS) : Option (vS) :=
  bd (f_X4_next x2 s) fun r4 s1 =>
  rec x1 r4 s1
theorem wj_X6_lists_105 {x1 : Int} {x2 : Int} {s : vS} {rv : Option vA} {σo : vS} {rec : Int → Int → vS → Option (vS)} {q : vS} (h : j_X6_lists_105 rec x1 x2 s = some q)  (rx1 : rg x1) (rx2 : rg x2) (hrec : ∀ (y2 : Int) (s : vS) (q : vS), rec x1 y2 s = some q → rg y2 → E_X6_lists_68 x1 rv σo q → VW cX6_lists (RX6, rv, σo, (some .boolean), 6, 152, 3, []) (P0 []) s 68 [(0, vO 13), (1, vI x1), (2, vI y2)] []) (hE : E_X6_lists_68 x1 rv σo q) : VW cX6_lists (RX6, rv, σo, (some .boolean), 6, 152, 3, []) (P0 []) s 105 [(0, vO 13), (1, vI x1), (2, vI x2)] [] := by
  unfold j_X6_lists_105 at h
  refine v_aload_n dX6_lists_105 0 rfl rfl ?_
  refine v_getS (f := 1) (t := 10) cf6 oc13 rfl rfl rfl (by decide) q628 dX6_lists_106 ?_
  refine v_iload_n dX6_lists_109 2 rfl rfl ?_
  obtain ⟨r4, s1, e2, h⟩ := bd_some h
  have k3 := c_X4_next e2 rx2
  have r5 : rg r4 := k3.1.2.2
  refine v_callV (st := []) cf4 oc10 k3 (lw_V q1483 q1404 q1405 q301 q1406) rfl yk_X4_next ⟨Nat.le_of_ble_eq_true rfl, Nat.le_of_ble_eq_true rfl⟩ trivial ⟨kc13, trivial⟩ (Nat.le_of_ble_eq_true rfl) rfl dX6_lists_110 ?_
  refine v_istore_n (L1 := [(2, vI r4), (0, vO 13), (1, vI x1)]) dX6_lists_113 rfl (by decide) rfl ?_
  refine v_goto (tgt := 68) dX6_lists_114 (by decide) ?_
  refine v_sub [1, 2, 0] (L1 := [(0, vO 13), (1, vI x1), (2, vI r4)]) rfl ?_
  exact hrec r4 s1 _ h r5 hE

def l_X6_lists_68 : Nat → Int → Int → vS → Option (vS)
  | 0, _, _, _ => none
  | n + 1, x1, x2, s =>
    if x2 = (-1) then
      some s
    else
      bd (f_X4_lexeme x2 s) fun r5 s2 =>
      bd (f_X9_put 25 r5 x2 s2) fun r10 s7 =>
      if r10 = 0 then
        bd (f_X4_lexeme x2 s7) fun r16 s13 =>
        bdv (f_X6_blame 5 r16 s13) fun s18 =>
        j_X6_lists_105 (l_X6_lists_68 n) x1 x2 s18
      else
        j_X6_lists_105 (l_X6_lists_68 n) x1 x2 s7
theorem wl_X6_lists_68 {x1 : Int} {rv : Option vA} {σo : vS}  (rx1 : rg x1) : ∀ (n : Nat) (x2 : Int) (s : vS) (q : vS), l_X6_lists_68 n x1 x2 s = some q → rg x2 → E_X6_lists_68 x1 rv σo q → VW cX6_lists (RX6, rv, σo, (some .boolean), 6, 152, 3, []) (P0 []) s 68 [(0, vO 13), (1, vI x1), (2, vI x2)] [] := by
  intro n
  induction n with
  | zero => intro x2 s q h; cases h
  | succ n ih =>
    intro x2 s q h rx2 hE
    unfold l_X6_lists_68 at h
    refine v_iload_n dX6_lists_68 2 rfl rfl ?_
    refine v_iconst dX6_lists_69 ?_
    refine v_icmp_eq (tgt := 117) dX6_lists_70 rx2 (rgl rfl) (by decide) (fun c1 => ?_) (fun c1 => ?_)
    · rw [if_pos c1] at h
      cases h
      refine v_sub [0, 1] (L1 := [(0, vO 13), (1, vI x1)]) rfl ?_
      exact hE _ rfl 
    · rw [if_neg c1] at h
      refine v_aload_n dX6_lists_73 0 rfl rfl ?_
      refine v_getS (f := 7) (t := 25) cf6 oc13 rfl rfl rfl (by decide) q634 dX6_lists_74 ?_
      refine v_aload_n dX6_lists_77 0 rfl rfl ?_
      refine v_getS (f := 1) (t := 10) cf6 oc13 rfl rfl rfl (by decide) q628 dX6_lists_78 ?_
      refine v_iload_n dX6_lists_81 2 rfl rfl ?_
      obtain ⟨r5, s2, e3, h⟩ := bd_some h
      have k4 := c_X4_lexeme e3 rx2
      have r6 : rg r5 := k4.1.2.2
      refine v_callV (st := [vO 25]) cf4 oc10 k4 (lw_V q1449 q1450 q1451 q301 q1452) rfl yk_X4_lexeme ⟨Nat.le_of_ble_eq_true rfl, Nat.le_of_ble_eq_true rfl⟩ ⟨kc25, trivial⟩ ⟨kc13, trivial⟩ (Nat.le_of_ble_eq_true rfl) rfl dX6_lists_82 ?_
      refine v_iload_n dX6_lists_85 2 rfl rfl ?_
      obtain ⟨r10, s7, e8, h⟩ := bd_some h
      have k9 := c_X9_put e8 (⟨by decide, rfl⟩ : okB 25 8) r6 rx2
      have r11 : rg r10 := k9.1.2.2
      refine v_callV (st := []) cf9 oc25 k9 (lw_V q1453 q1454 q1455 q306 q1456) rfl yk_X9_put ⟨Nat.le_of_ble_eq_true rfl, Nat.le_of_ble_eq_true rfl⟩ trivial ⟨kc13, trivial⟩ (Nat.le_of_ble_eq_true rfl) rfl dX6_lists_86 ?_
      refine v_if_ne (tgt := 105) dX6_lists_89 r11 (by decide) (fun c12 => ?_) (fun c12 => ?_)
      · rw [if_neg c12] at h
        exact wj_X6_lists_105 h rx1 rx2 ih hE
      · rw [if_pos c12] at h
        refine v_aload_n dX6_lists_92 0 rfl rfl ?_
        refine v_iconst dX6_lists_93 ?_
        refine v_aload_n dX6_lists_94 0 rfl rfl ?_
        refine v_getS (f := 1) (t := 10) cf6 oc13 rfl rfl rfl (by decide) q628 dX6_lists_95 ?_
        refine v_iload_n dX6_lists_98 2 rfl rfl ?_
        obtain ⟨r16, s13, e14, h⟩ := bd_some h
        have k15 := c_X4_lexeme e14 rx2
        have r17 : rg r16 := k15.1.2.2
        refine v_callV (st := [vI 5, vO 13]) cf4 oc10 k15 (lw_V q1449 q1450 q1451 q301 q1452) rfl yk_X4_lexeme ⟨Nat.le_of_ble_eq_true rfl, Nat.le_of_ble_eq_true rfl⟩ ⟨kc13, trivial⟩ ⟨kc13, trivial⟩ (Nat.le_of_ble_eq_true rfl) rfl dX6_lists_99 ?_
        obtain ⟨s18, e19, h⟩ := bdv_some h
        have k20 := c_X6_blame e19 (rgl rfl) r17
        refine v_callV (st := []) cf6 oc13 k20 (lw_V q1478 q1480 qs45 q303 q1481) rfl yk_X6_blame ⟨Nat.le_of_ble_eq_true rfl, Nat.le_of_ble_eq_true rfl⟩ trivial ⟨kc13, trivial⟩ (Nat.le_of_ble_eq_true rfl) rfl dX6_lists_102 ?_
        exact wj_X6_lists_105 h rx1 rx2 ih hE

def l_X6_lists_2 : Nat → Int → vS → Option (vS)
  | 0, _, _ => none
  | n + 1, x1, s =>
    bd (f_X4_size s) fun r4 s1 =>
    if r4 ≤ x1 then
      some s1
    else
      bd (f_X6_isType x1 s1) fun r10 s7 =>
      if r10 = 0 then
        vl (w32 (x1 + 1)) fun y13 =>
        l_X6_lists_2 n y13 s7
      else
        bd (f_X4_parts x1 s7) fun r19 s16 =>
        if r19 = (-1) then
          vl (w32 (x1 + 1)) fun y22 =>
          l_X6_lists_2 n y22 s16
        else
          bd (f_X4_parts x1 s16) fun r28 s25 =>
          bd (f_X6_isType r28 s25) fun r33 s30 =>
          if r33 = 0 then
            gd (gR s30 13 0 = 5) <|
            bdv (f_X9_clear 25 s30) fun s40 =>
            bd (f_X4_parts x1 s40) fun r46 s43 =>
            lq_0 (l_X6_lists_68 FU x1 r46 s43) fun s48 =>
            bd (f_X4_parts x1 s48) fun r53 s50 =>
            bd (f_X4_kind r53 s50) fun r58 s55 =>
            if r58 = 21 then
              bdv (f_X6_itemNumbers x1 s55) fun s64 =>
              vl (w32 (x1 + 1)) fun y67 =>
              l_X6_lists_2 n y67 s64
            else
              vl (w32 (x1 + 1)) fun y61 =>
              l_X6_lists_2 n y61 s55
          else
            vl (w32 (x1 + 1)) fun y36 =>
            l_X6_lists_2 n y36 s30
theorem wl_X6_lists_2 {rv : Option vA} {σo : vS}  : ∀ (n : Nat) (x1 : Int) (s : vS) (q : vS), l_X6_lists_2 n x1 s = some q → rg x1 → E_X6_lists_2 rv σo q → VW cX6_lists (RX6, rv, σo, (some .boolean), 6, 152, 3, []) (P0 []) s 2 [(0, vO 13), (1, vI x1)] [] := by
  intro n
  induction n with
  | zero => intro x1 s q h; cases h
  | succ n ih =>
    intro x1 s q h rx1 hE
    unfold l_X6_lists_2 at h
    refine v_iload_n dX6_lists_2 1 rfl rfl ?_
    refine v_aload_n dX6_lists_3 0 rfl rfl ?_
    refine v_getS (f := 1) (t := 10) cf6 oc13 rfl rfl rfl (by decide) q628 dX6_lists_4 ?_
    obtain ⟨r4, s1, e2, h⟩ := bd_some h
    have k3 := c_X4_size e2
    have r5 : rg r4 := k3.1.2.2
    refine v_callV (st := [vI x1]) cf4 oc10 k3 (lw_V q1427 q1428 q1429 q301 q1430) rfl yk_X4_size ⟨Nat.le_of_ble_eq_true rfl, Nat.le_of_ble_eq_true rfl⟩ trivial ⟨kc13, trivial⟩ (Nat.le_of_ble_eq_true rfl) rfl dX6_lists_7 ?_
    refine v_icmp_ge (tgt := 148) dX6_lists_10 rx1 r5 (by decide) (fun c6 => ?_) (fun c6 => ?_)
    · rw [if_pos c6] at h
      cases h
      refine v_sub [0] (L1 := [(0, vO 13)]) rfl ?_
      exact hE _ rfl 
    · rw [if_neg c6] at h
      refine v_aload_n dX6_lists_13 0 rfl rfl ?_
      refine v_iload_n dX6_lists_14 1 rfl rfl ?_
      obtain ⟨r10, s7, e8, h⟩ := bd_some h
      have k9 := c_X6_isType e8 rx1
      have r11 : rg r10 := k9.1.2.2
      refine v_callV (st := []) cf6 oc13 k9 (lw_V q1488 q1490 qs47 q303 q1491) rfl yk_X6_isType ⟨Nat.le_of_ble_eq_true rfl, Nat.le_of_ble_eq_true rfl⟩ trivial ⟨kc13, trivial⟩ (Nat.le_of_ble_eq_true rfl) rfl dX6_lists_15 ?_
      refine v_if_eq (tgt := 142) dX6_lists_18 r11 (by decide) (fun c12 => ?_) (fun c12 => ?_)
      · rw [if_pos c12] at h
        obtain ⟨y13, e14, h⟩ := vl_some h
        refine v_iinc (L1 := [(1, vI (w32 (x1 + 1))), (0, vO 13)]) dX6_lists_142 1 rfl (by decide) rfl ?_
        rw [← e14]
        have r15 : rg y13 := by rw [e14]; exact w32_rg _
        refine v_goto (tgt := 2) dX6_lists_145 (by decide) ?_
        refine v_sub [1, 0] (L1 := [(0, vO 13), (1, vI y13)]) rfl ?_
        exact ih y13 s7 _ h r15 hE
      · rw [if_neg c12] at h
        refine v_aload_n dX6_lists_21 0 rfl rfl ?_
        refine v_getS (f := 1) (t := 10) cf6 oc13 rfl rfl rfl (by decide) q628 dX6_lists_22 ?_
        refine v_iload_n dX6_lists_25 1 rfl rfl ?_
        obtain ⟨r19, s16, e17, h⟩ := bd_some h
        have k18 := c_X4_parts e17 rx1
        have r20 : rg r19 := k18.1.2.2
        refine v_callV (st := []) cf4 oc10 k18 (lw_V q1492 q1493 q1494 q301 q1495) rfl yk_X4_parts ⟨Nat.le_of_ble_eq_true rfl, Nat.le_of_ble_eq_true rfl⟩ trivial ⟨kc13, trivial⟩ (Nat.le_of_ble_eq_true rfl) rfl dX6_lists_26 ?_
        refine v_iconst dX6_lists_29 ?_
        refine v_icmp_eq (tgt := 142) dX6_lists_30 r20 (rgl rfl) (by decide) (fun c21 => ?_) (fun c21 => ?_)
        · rw [if_pos c21] at h
          obtain ⟨y22, e23, h⟩ := vl_some h
          refine v_iinc (L1 := [(1, vI (w32 (x1 + 1))), (0, vO 13)]) dX6_lists_142 1 rfl (by decide) rfl ?_
          rw [← e23]
          have r24 : rg y22 := by rw [e23]; exact w32_rg _
          refine v_goto (tgt := 2) dX6_lists_145 (by decide) ?_
          refine v_sub [1, 0] (L1 := [(0, vO 13), (1, vI y22)]) rfl ?_
          exact ih y22 s16 _ h r24 hE
        · rw [if_neg c21] at h
          refine v_aload_n dX6_lists_33 0 rfl rfl ?_
          refine v_aload_n dX6_lists_34 0 rfl rfl ?_
          refine v_getS (f := 1) (t := 10) cf6 oc13 rfl rfl rfl (by decide) q628 dX6_lists_35 ?_
          refine v_iload_n dX6_lists_38 1 rfl rfl ?_
          obtain ⟨r28, s25, e26, h⟩ := bd_some h
          have k27 := c_X4_parts e26 rx1
          have r29 : rg r28 := k27.1.2.2
          refine v_callV (st := [vO 13]) cf4 oc10 k27 (lw_V q1492 q1493 q1494 q301 q1495) rfl yk_X4_parts ⟨Nat.le_of_ble_eq_true rfl, Nat.le_of_ble_eq_true rfl⟩ ⟨kc13, trivial⟩ ⟨kc13, trivial⟩ (Nat.le_of_ble_eq_true rfl) rfl dX6_lists_39 ?_
          obtain ⟨r33, s30, e31, h⟩ := bd_some h
          have k32 := c_X6_isType e31 r29
          have r34 : rg r33 := k32.1.2.2
          refine v_callV (st := []) cf6 oc13 k32 (lw_V q1488 q1490 qs47 q303 q1491) rfl yk_X6_isType ⟨Nat.le_of_ble_eq_true rfl, Nat.le_of_ble_eq_true rfl⟩ trivial ⟨kc13, trivial⟩ (Nat.le_of_ble_eq_true rfl) rfl dX6_lists_42 ?_
          refine v_if_ne (tgt := 142) dX6_lists_45 r34 (by decide) (fun c35 => ?_) (fun c35 => ?_)
          · rw [if_neg c35] at h
            obtain ⟨y36, e37, h⟩ := vl_some h
            refine v_iinc (L1 := [(1, vI (w32 (x1 + 1))), (0, vO 13)]) dX6_lists_142 1 rfl (by decide) rfl ?_
            rw [← e37]
            have r38 : rg y36 := by rw [e37]; exact w32_rg _
            refine v_goto (tgt := 2) dX6_lists_145 (by decide) ?_
            refine v_sub [1, 0] (L1 := [(0, vO 13), (1, vI y36)]) rfl ?_
            exact ih y36 s30 _ h r38 hE
          · rw [if_pos c35] at h
            refine v_aload_n dX6_lists_48 0 rfl rfl ?_
            refine v_getS (f := 7) (t := 25) cf6 oc13 rfl rfl rfl (by decide) q634 dX6_lists_49 ?_
            refine v_aload_n dX6_lists_52 0 rfl rfl ?_
            obtain ⟨g39, h⟩ := gd_some h
            refine v_getR (f := 0) cf6 oc13 rfl (by rw [g39]; decide) (by decide) q627 dX6_lists_53 ?_
            rw [g39]
            obtain ⟨s40, e41, h⟩ := bdv_some h
            have k42 := c_X9_clear e41 (⟨by decide, rfl⟩ : okB 25 8)
            refine v_callV (st := []) cf9 oc25 k42 (lw_V q1437 q1438 q1439 q306 q1440) rfl yk_X9_clear ⟨Nat.le_of_ble_eq_true rfl, Nat.le_of_ble_eq_true rfl⟩ trivial ⟨kc13, trivial⟩ (Nat.le_of_ble_eq_true rfl) rfl dX6_lists_56 ?_
            refine v_aload_n dX6_lists_59 0 rfl rfl ?_
            refine v_getS (f := 1) (t := 10) cf6 oc13 rfl rfl rfl (by decide) q628 dX6_lists_60 ?_
            refine v_iload_n dX6_lists_63 1 rfl rfl ?_
            obtain ⟨r46, s43, e44, h⟩ := bd_some h
            have k45 := c_X4_parts e44 rx1
            have r47 : rg r46 := k45.1.2.2
            refine v_callV (st := []) cf4 oc10 k45 (lw_V q1492 q1493 q1494 q301 q1495) rfl yk_X4_parts ⟨Nat.le_of_ble_eq_true rfl, Nat.le_of_ble_eq_true rfl⟩ trivial ⟨kc13, trivial⟩ (Nat.le_of_ble_eq_true rfl) rfl dX6_lists_64 ?_
            refine v_istore_n (L1 := [(2, vI r46), (0, vO 13), (1, vI x1)]) dX6_lists_67 rfl (by decide) rfl ?_
            refine v_sub [1, 2, 0] (L1 := [(0, vO 13), (1, vI x1), (2, vI r46)]) rfl ?_
            obtain ⟨s48, e49, h⟩ := lq_0_some h
            refine wl_X6_lists_68 rx1 FU r46 s43 _ e49 r47 ?_
            unfold E_X6_lists_68
            intro s48' z_
            cases z_
            refine v_aload_n dX6_lists_117 0 rfl rfl ?_
            refine v_getS (f := 1) (t := 10) cf6 oc13 rfl rfl rfl (by decide) q628 dX6_lists_118 ?_
            refine v_aload_n dX6_lists_121 0 rfl rfl ?_
            refine v_getS (f := 1) (t := 10) cf6 oc13 rfl rfl rfl (by decide) q628 dX6_lists_122 ?_
            refine v_iload_n dX6_lists_125 1 rfl rfl ?_
            obtain ⟨r53, s50, e51, h⟩ := bd_some h
            have k52 := c_X4_parts e51 rx1
            have r54 : rg r53 := k52.1.2.2
            refine v_callV (st := [vO 10]) cf4 oc10 k52 (lw_V q1492 q1493 q1494 q301 q1495) rfl yk_X4_parts ⟨Nat.le_of_ble_eq_true rfl, Nat.le_of_ble_eq_true rfl⟩ ⟨kc10, trivial⟩ ⟨kc13, trivial⟩ (Nat.le_of_ble_eq_true rfl) rfl dX6_lists_126 ?_
            obtain ⟨r58, s55, e56, h⟩ := bd_some h
            have k57 := c_X4_kind e56 r54
            have r59 : rg r58 := k57.1.2.2
            refine v_callV (st := []) cf4 oc10 k57 (lw_V q1445 q1446 q1447 q301 q1448) rfl yk_X4_kind ⟨Nat.le_of_ble_eq_true rfl, Nat.le_of_ble_eq_true rfl⟩ trivial ⟨kc13, trivial⟩ (Nat.le_of_ble_eq_true rfl) rfl dX6_lists_129 ?_
            refine v_bipush dX6_lists_132 rfl ?_
            refine v_icmp_ne (tgt := 142) dX6_lists_134 r59 (rgl rfl) (by decide) (fun c60 => ?_) (fun c60 => ?_)
            · rw [if_neg c60] at h
              obtain ⟨y61, e62, h⟩ := vl_some h
              refine v_iinc (L1 := [(1, vI (w32 (x1 + 1))), (0, vO 13)]) dX6_lists_142 1 rfl (by decide) rfl ?_
              rw [← e62]
              have r63 : rg y61 := by rw [e62]; exact w32_rg _
              refine v_goto (tgt := 2) dX6_lists_145 (by decide) ?_
              refine v_sub [1, 0] (L1 := [(0, vO 13), (1, vI y61)]) rfl ?_
              exact ih y61 s55 _ h r63 hE
            · rw [if_pos c60] at h
              refine v_aload_n dX6_lists_137 0 rfl rfl ?_
              refine v_iload_n dX6_lists_138 1 rfl rfl ?_
              obtain ⟨s64, e65, h⟩ := bdv_some h
              have k66 := c_X6_itemNumbers e65 rx1
              refine v_callV (st := []) cf6 oc13 k66 (lw_V q1496 q1498 qs48 q303 q1499) rfl yk_X6_itemNumbers ⟨Nat.le_of_ble_eq_true rfl, Nat.le_of_ble_eq_true rfl⟩ trivial ⟨kc13, trivial⟩ (Nat.le_of_ble_eq_true rfl) rfl dX6_lists_139 ?_
              obtain ⟨y67, e68, h⟩ := vl_some h
              refine v_iinc (L1 := [(1, vI (w32 (x1 + 1))), (0, vO 13)]) dX6_lists_142 1 rfl (by decide) rfl ?_
              rw [← e68]
              have r69 : rg y67 := by rw [e68]; exact w32_rg _
              refine v_goto (tgt := 2) dX6_lists_145 (by decide) ?_
              refine v_sub [1, 0] (L1 := [(0, vO 13), (1, vI y67)]) rfl ?_
              exact ih y67 s64 _ h r69 hE

def f_X6_lists (s : vS) : Option (Int × vS) :=
  lq_0 (l_X6_lists_2 FU 0 s) fun s1 =>
  if (gI s1 13 20) = 0 then
    some (1, s1)
  else
    some (0, s1)
theorem yk_X6_lists : yOk yX6_lists 0 := ⟨by decide, by decide, by decide +kernel⟩
theorem c_X6_lists {s : vS} {out : Int × vS} (h : f_X6_lists s = some out)   : VC yX6_lists cX6_lists 3 (some .boolean) 6 152 [vO 13] s (some (vI out.1)) out.2 [] := by
  unfold f_X6_lists at h
  refine VC.of RX6 (by decide) rfl (Nat.le_of_ble_eq_true rfl) ?_
  show VW cX6_lists (RX6, (some (vI out.1)), out.2, (some .boolean), 6, 152, 3, []) (P0 []) s 0 [(0, vO 13)] []
  refine v_iconst dX6_lists_0 ?_
  refine v_istore_n (L1 := [(1, vI 0), (0, vO 13)]) dX6_lists_1 rfl (by decide) rfl ?_
  refine v_sub [1, 0] (L1 := [(0, vO 13), (1, vI 0)]) rfl ?_
  obtain ⟨s1, e2, h⟩ := lq_0_some h
  refine wl_X6_lists_2  FU 0 s _ e2 (rgl rfl) ?_
  unfold E_X6_lists_2
  intro s1' z_
  cases z_
  refine v_aload_n dX6_lists_148 0 rfl rfl ?_
  refine v_getI (f := 20) cf6 oc13 rfl (by decide) q647 dX6_lists_149 ?_
  refine v_if_ne (tgt := 159) dX6_lists_152 (gI_rg _ _ _) (by decide) (fun c3 => ?_) (fun c3 => ?_)
  · rw [if_neg c3] at h
    refine v_iconst dX6_lists_159 ?_
    cases h
    exact v_zret (Or.inl rfl) dX6_lists_160
  · rw [if_pos c3] at h
    refine v_iconst dX6_lists_155 ?_
    refine v_goto (tgt := 160) dX6_lists_156 (by decide) ?_
    cases h
    exact v_zret (Or.inr rfl) dX6_lists_160

def f_X9_find (o : Nat) (x1 : Int) (s : vS) : Option (Int × vS) :=
  bd (f_X9_slot o x1 s) fun r4 s1 =>
  gd (inb r4 (gN s1 (o + 1))) <|
  if (gE s1 (o + 1) r4) = 0 then
    some ((-1), s1)
  else
    gd (inb r4 (gN s1 (o + 2))) <|
    some (gE s1 (o + 2) r4, s1)
theorem yk_X9_find : yOk yX9_find 1 := ⟨by decide, by decide, by decide +kernel⟩
theorem c_X9_find {o : Nat} {x1 : Int} {s : vS} {out : Int × vS} (h : f_X9_find o x1 s = some out) (ho : okB o 8) (rx1 : rg x1) : VC yX9_find cX9_find 3 (some .int) 4 94 [vO o, vI x1] s (some (vI out.1)) out.2 [] := by
  unfold f_X9_find at h
  refine VC.of RX9 (by decide) rfl (Nat.le_of_ble_eq_true rfl) ?_
  show VW cX9_find (RX9, (some (vI out.1)), out.2, (some .int), 4, 94, 3, []) (P0 []) s 0 [(0, vO o), (1, vI x1)] []
  refine v_aload_n dX9_find_0 0 rfl rfl ?_
  refine v_iload_n dX9_find_1 1 rfl rfl ?_
  obtain ⟨r4, s1, e2, h⟩ := bd_some h
  have k3 := c_X9_slot e2 ho rx1
  have r5 : rg r4 := k3.1.2.2
  refine v_callV (st := []) cf9 (okB_ok ho) k3 (lw_V q1457 q1459 qs43 q306 q1460) rfl yk_X9_slot ⟨Nat.le_of_ble_eq_true rfl, Nat.le_of_ble_eq_true rfl⟩ trivial ⟨(okB_kp ho (by decide)), trivial⟩ (Nat.le_of_ble_eq_true rfl) rfl dX9_find_2 ?_
  refine v_istore_n (L1 := [(2, vI r4), (0, vO o), (1, vI x1)]) dX9_find_5 rfl (by decide) rfl ?_
  refine v_aload_n dX9_find_6 1 rfl rfl ?_
  refine v_getS (f := 1) (t := o + 1) cf9 (okB_ok ho) rfl rfl rfl (by decide) q581 dX9_find_7 ?_
  refine v_iload_n dX9_find_10 0 rfl rfl ?_
  obtain ⟨g6, h⟩ := gd_some h
  refine v_iald (okB_ok (ch_8_1 ho)) r5 g6.1 g6.2 dX9_find_11 ?_
  refine v_if_ne (tgt := 19) dX9_find_12 (gE_rg _ _ _) (by decide) (fun c7 => ?_) (fun c7 => ?_)
  · rw [if_neg c7] at h
    refine v_aload_n dX9_find_19 1 rfl rfl ?_
    refine v_getS (f := 2) (t := o + 2) cf9 (okB_ok ho) rfl rfl rfl (by decide) q582 dX9_find_20 ?_
    refine v_iload_n dX9_find_23 0 rfl rfl ?_
    obtain ⟨g8, h⟩ := gd_some h
    refine v_iald (okB_ok (ch_8_2 ho)) r5 g8.1 g8.2 dX9_find_24 ?_
    cases h
    exact v_iret (gE_rg _ _ _) dX9_find_25
  · rw [if_pos c7] at h
    refine v_iconst dX9_find_15 ?_
    refine v_goto (tgt := 25) dX9_find_16 (by decide) ?_
    cases h
    exact v_iret (rgl rfl) dX9_find_25

def f_X6_assignedType (x1 : Int) (s : vS) : Option (Int × vS) :=
  bd (f_X4_at x1 7 s) fun r4 s1 =>
  bd (f_X9_find 19 r4 s1) fun r9 s6 =>
  if r9 = (-1) then
    some ((-1), s6)
  else
    bd (f_X4_parts r9 s6) fun r15 s12 =>
    some (r15, s12)
theorem yk_X6_assignedType : yOk yX6_assignedType 1 := ⟨by decide, by decide, by decide +kernel⟩
theorem c_X6_assignedType {x1 : Int} {s : vS} {out : Int × vS} (h : f_X6_assignedType x1 s = some out)  (rx1 : rg x1) : VC yX6_assignedType cX6_assignedType 3 (some .int) 5 116 [vO 13, vI x1] s (some (vI out.1)) out.2 [] := by
  unfold f_X6_assignedType at h
  refine VC.of RX6 (by decide) rfl (Nat.le_of_ble_eq_true rfl) ?_
  show VW cX6_assignedType (RX6, (some (vI out.1)), out.2, (some .int), 5, 116, 3, []) (P0 []) s 0 [(0, vO 13), (1, vI x1)] []
  refine v_aload_n dX6_assignedType_0 0 rfl rfl ?_
  refine v_getS (f := 5) (t := 19) cf6 oc13 rfl rfl rfl (by decide) q632 dX6_assignedType_1 ?_
  refine v_aload_n dX6_assignedType_4 0 rfl rfl ?_
  refine v_getS (f := 1) (t := 10) cf6 oc13 rfl rfl rfl (by decide) q628 dX6_assignedType_5 ?_
  refine v_iload_n dX6_assignedType_8 1 rfl rfl ?_
  refine v_bipush dX6_assignedType_9 rfl ?_
  obtain ⟨r4, s1, e2, h⟩ := bd_some h
  have k3 := c_X4_at e2 rx1 (rgl rfl)
  have r5 : rg r4 := k3.1.2.2
  refine v_callV (st := [vO 19]) cf4 oc10 k3 (lw_V q1500 q1400 q1401 q301 q1402) rfl yk_X4_at ⟨Nat.le_of_ble_eq_true rfl, Nat.le_of_ble_eq_true rfl⟩ ⟨kc19, trivial⟩ ⟨kc13, trivial⟩ (Nat.le_of_ble_eq_true rfl) rfl dX6_assignedType_11 ?_
  obtain ⟨r9, s6, e7, h⟩ := bd_some h
  have k8 := c_X9_find e7 (⟨by decide, rfl⟩ : okB 19 8) r5
  have r10 : rg r9 := k8.1.2.2
  refine v_callV (st := []) cf9 oc19 k8 (lw_V q1575 q1576 q1577 q306 q1578) rfl yk_X9_find ⟨Nat.le_of_ble_eq_true rfl, Nat.le_of_ble_eq_true rfl⟩ trivial ⟨kc13, trivial⟩ (Nat.le_of_ble_eq_true rfl) rfl dX6_assignedType_14 ?_
  refine v_istore_n (L1 := [(2, vI r9), (0, vO 13), (1, vI x1)]) dX6_assignedType_17 rfl (by decide) rfl ?_
  refine v_iload_n dX6_assignedType_18 0 rfl rfl ?_
  refine v_iconst dX6_assignedType_19 ?_
  refine v_icmp_ne (tgt := 27) dX6_assignedType_20 r10 (rgl rfl) (by decide) (fun c11 => ?_) (fun c11 => ?_)
  · rw [if_neg c11] at h
    refine v_aload_n dX6_assignedType_27 1 rfl rfl ?_
    refine v_getS (f := 1) (t := 10) cf6 oc13 rfl rfl rfl (by decide) q628 dX6_assignedType_28 ?_
    refine v_iload_n dX6_assignedType_31 0 rfl rfl ?_
    obtain ⟨r15, s12, e13, h⟩ := bd_some h
    have k14 := c_X4_parts e13 r10
    have r16 : rg r15 := k14.1.2.2
    refine v_callV (st := []) cf4 oc10 k14 (lw_V q1492 q1493 q1494 q301 q1495) rfl yk_X4_parts ⟨Nat.le_of_ble_eq_true rfl, Nat.le_of_ble_eq_true rfl⟩ trivial ⟨kc13, trivial⟩ (Nat.le_of_ble_eq_true rfl) rfl dX6_assignedType_32 ?_
    cases h
    exact v_iret r16 dX6_assignedType_35
  · rw [if_pos c11] at h
    refine v_iconst dX6_assignedType_23 ?_
    refine v_goto (tgt := 35) dX6_assignedType_24 (by decide) ?_
    cases h
    exact v_iret (rgl rfl) dX6_assignedType_35

def E_X6_base_29 (x1 : Int) (rv : Option vA) (σo : vS) (q : Int × vS) : Prop := ∀ (x2' : Int) (s' : vS), q = (x2', s') → rg x2' → VW cX6_base (RX6, rv, σo, (some .int), 6, 138, 4, []) (P0 []) s' 74 [(0, vO 13), (1, vI x1), (2, vI x2')] []
def l_X6_base_29 : Nat → Int → Int → Int → vS → Option (Int × vS)
  | 0, _, _, _, _ => none
  | n + 1, x1, x2, x3, s =>
    if x2 = (-1) then
      some (x2, s)
    else
      bd (f_X4_kind x2 s) fun r5 s2 =>
      if r5 = 17 then
        if x3 ≤ (gI s2 10 3) then
          bd (f_X6_assignedType x2 s2) fun r12 s9 =>
          vl (w32 (x3 + 1)) fun y14 =>
          l_X6_base_29 n x1 r12 y14 s9
        else
          vl (w32 (x3 + 1)) fun y17 =>
          l_X6_base_29 n x1 (-1) y17 s2
      else
        some (x2, s2)
theorem wl_X6_base_29 {x1 : Int} {rv : Option vA} {σo : vS}  (rx1 : rg x1) : ∀ (n : Nat) (x2 : Int) (x3 : Int) (s : vS) (q : Int × vS), l_X6_base_29 n x1 x2 x3 s = some q → rg x2 → rg x3 → E_X6_base_29 x1 rv σo q → VW cX6_base (RX6, rv, σo, (some .int), 6, 138, 4, []) (P0 []) s 29 [(0, vO 13), (1, vI x1), (2, vI x2), (3, vI x3)] [] := by
  intro n
  induction n with
  | zero => intro x2 x3 s q h; cases h
  | succ n ih =>
    intro x2 x3 s q h rx2 rx3 hE
    unfold l_X6_base_29 at h
    refine v_iload_n dX6_base_29 2 rfl rfl ?_
    refine v_iconst dX6_base_30 ?_
    refine v_icmp_eq (tgt := 74) dX6_base_31 rx2 (rgl rfl) (by decide) (fun c1 => ?_) (fun c1 => ?_)
    · rw [if_pos c1] at h
      cases h
      refine v_sub [0, 1, 2] (L1 := [(0, vO 13), (1, vI x1), (2, vI x2)]) rfl ?_
      exact hE _ _ rfl rx2
    · rw [if_neg c1] at h
      refine v_aload_n dX6_base_34 0 rfl rfl ?_
      refine v_getS (f := 1) (t := 10) cf6 oc13 rfl rfl rfl (by decide) q628 dX6_base_35 ?_
      refine v_iload_n dX6_base_38 2 rfl rfl ?_
      obtain ⟨r5, s2, e3, h⟩ := bd_some h
      have k4 := c_X4_kind e3 rx2
      have r6 : rg r5 := k4.1.2.2
      refine v_callV (st := []) cf4 oc10 k4 (lw_V q1445 q1446 q1447 q301 q1448) rfl yk_X4_kind ⟨Nat.le_of_ble_eq_true rfl, Nat.le_of_ble_eq_true rfl⟩ trivial ⟨kc13, trivial⟩ (Nat.le_of_ble_eq_true rfl) rfl dX6_base_39 ?_
      refine v_bipush dX6_base_42 rfl ?_
      refine v_icmp_ne (tgt := 74) dX6_base_44 r6 (rgl rfl) (by decide) (fun c7 => ?_) (fun c7 => ?_)
      · rw [if_neg c7] at h
        cases h
        refine v_sub [0, 1, 2] (L1 := [(0, vO 13), (1, vI x1), (2, vI x2)]) rfl ?_
        exact hE _ _ rfl rx2
      · rw [if_pos c7] at h
        refine v_iload_n dX6_base_47 3 rfl rfl ?_
        refine v_aload_n dX6_base_48 0 rfl rfl ?_
        refine v_getS (f := 1) (t := 10) cf6 oc13 rfl rfl rfl (by decide) q628 dX6_base_49 ?_
        refine v_getIN (f := 3) cf4 oc10 rfl (by decide) q474 dX6_base_52 ?_
        refine v_icmp_le (tgt := 62) dX6_base_55 rx3 (gI_rg _ _ _) (by decide) (fun c8 => ?_) (fun c8 => ?_)
        · rw [if_pos c8] at h
          refine v_aload_n dX6_base_62 0 rfl rfl ?_
          refine v_iload_n dX6_base_63 2 rfl rfl ?_
          obtain ⟨r12, s9, e10, h⟩ := bd_some h
          have k11 := c_X6_assignedType e10 rx2
          have r13 : rg r12 := k11.1.2.2
          refine v_callV (st := []) cf6 oc13 k11 (lw_V q1571 q1573 qs57 q303 q1574) rfl yk_X6_assignedType ⟨Nat.le_of_ble_eq_true rfl, Nat.le_of_ble_eq_true rfl⟩ trivial ⟨kc13, trivial⟩ (Nat.le_of_ble_eq_true rfl) rfl dX6_base_64 ?_
          refine v_istore_n (L1 := [(2, vI r12), (0, vO 13), (1, vI x1), (3, vI x3)]) dX6_base_67 rfl (by decide) rfl ?_
          obtain ⟨y14, e15, h⟩ := vl_some h
          refine v_iinc (L1 := [(3, vI (w32 (x3 + 1))), (2, vI r12), (0, vO 13), (1, vI x1)]) dX6_base_68 3 rfl (by decide) rfl ?_
          rw [← e15]
          have r16 : rg y14 := by rw [e15]; exact w32_rg _
          refine v_goto (tgt := 29) dX6_base_71 (by decide) ?_
          refine v_sub [2, 3, 1, 0] (L1 := [(0, vO 13), (1, vI x1), (2, vI r12), (3, vI y14)]) rfl ?_
          exact ih r12 y14 s9 _ h r13 r16 hE
        · rw [if_neg c8] at h
          refine v_iconst dX6_base_58 ?_
          refine v_goto (tgt := 67) dX6_base_59 (by decide) ?_
          refine v_istore_n (L1 := [(2, vI (-1)), (0, vO 13), (1, vI x1), (3, vI x3)]) dX6_base_67 rfl (by decide) rfl ?_
          obtain ⟨y17, e18, h⟩ := vl_some h
          refine v_iinc (L1 := [(3, vI (w32 (x3 + 1))), (2, vI (-1)), (0, vO 13), (1, vI x1)]) dX6_base_68 3 rfl (by decide) rfl ?_
          rw [← e18]
          have r19 : rg y17 := by rw [e18]; exact w32_rg _
          refine v_goto (tgt := 29) dX6_base_71 (by decide) ?_
          refine v_sub [2, 3, 1, 0] (L1 := [(0, vO 13), (1, vI x1), (2, vI (-1)), (3, vI y17)]) rfl ?_
          exact ih (-1) y17 s2 _ h (rgl rfl) r19 hE

def f_X6_base (x1 : Int) (s : vS) : Option (Int × vS) :=
  if x1 = (-1) then
    some ((-1), s)
  else
    gd (inb x1 (gN s 39)) <|
    if (gE s 39 x1) = (-2) then
      lq_1 (l_X6_base_29 FU x1 x1 0 s) fun y4 s5 =>
      gd (inb x1 (gN s5 39)) <|
      stp (sE s5 39 x1 y4) fun s9 =>
      some (y4, s9)
    else
      gd (inb x1 (gN s 39)) <|
      some (gE s 39 x1, s)
theorem yk_X6_base : yOk yX6_base 1 := ⟨by decide, by decide, by decide +kernel⟩
theorem c_X6_base {x1 : Int} {s : vS} {out : Int × vS} (h : f_X6_base x1 s = some out)  (rx1 : rg x1) : VC yX6_base cX6_base 4 (some .int) 6 138 [vO 13, vI x1] s (some (vI out.1)) out.2 [] := by
  unfold f_X6_base at h
  refine VC.of RX6 (by decide) rfl (Nat.le_of_ble_eq_true rfl) ?_
  show VW cX6_base (RX6, (some (vI out.1)), out.2, (some .int), 6, 138, 4, []) (P0 []) s 0 [(0, vO 13), (1, vI x1)] []
  refine v_iload_n dX6_base_0 1 rfl rfl ?_
  refine v_iconst dX6_base_1 ?_
  refine v_icmp_ne (tgt := 7) dX6_base_2 rx1 (rgl rfl) (by decide) (fun c1 => ?_) (fun c1 => ?_)
  · rw [if_neg c1] at h
    refine v_aload_n dX6_base_7 0 rfl rfl ?_
    refine v_getS (f := 16) (t := 39) cf6 oc13 rfl rfl rfl (by decide) q643 dX6_base_8 ?_
    refine v_iload_n dX6_base_11 1 rfl rfl ?_
    obtain ⟨g2, h⟩ := gd_some h
    refine v_iald oc39 rx1 g2.1 g2.2 dX6_base_12 ?_
    refine v_bipush dX6_base_13 rfl ?_
    refine v_icmp_eq (tgt := 25) dX6_base_15 (gE_rg _ _ _) (rgl rfl) (by decide) (fun c3 => ?_) (fun c3 => ?_)
    · rw [if_pos c3] at h
      refine v_iload_n dX6_base_25 1 rfl rfl ?_
      refine v_istore_n (L1 := [(2, vI x1), (0, vO 13), (1, vI x1)]) dX6_base_26 rfl (by decide) rfl ?_
      refine v_iconst dX6_base_27 ?_
      refine v_istore_n (L1 := [(3, vI 0), (2, vI x1), (0, vO 13), (1, vI x1)]) dX6_base_28 rfl (by decide) rfl ?_
      refine v_sub [2, 3, 1, 0] (L1 := [(0, vO 13), (1, vI x1), (2, vI x1), (3, vI 0)]) rfl ?_
      obtain ⟨y4, s5, e6, h⟩ := lq_1_some h
      refine wl_X6_base_29 rx1 FU x1 0 s _ e6 rx1 (rgl rfl) ?_
      unfold E_X6_base_29
      intro y4' s5' z_ r7
      cases z_
      refine v_aload_n dX6_base_74 0 rfl rfl ?_
      refine v_getS (f := 16) (t := 39) cf6 oc13 rfl rfl rfl (by decide) q643 dX6_base_75 ?_
      refine v_iload_n dX6_base_78 1 rfl rfl ?_
      refine v_iload_n dX6_base_79 2 rfl rfl ?_
      obtain ⟨g8, h⟩ := gd_some h
      obtain ⟨s9, e10, h⟩ := stp_some h
      refine v_iast oc39 rx1 g8.1 g8.2 dX6_base_80 ?_
      rw [← e10]
      refine v_iload_n dX6_base_81 2 rfl rfl ?_
      cases h
      exact v_iret r7 dX6_base_82
    · rw [if_neg c3] at h
      refine v_aload_n dX6_base_18 0 rfl rfl ?_
      refine v_getS (f := 16) (t := 39) cf6 oc13 rfl rfl rfl (by decide) q643 dX6_base_19 ?_
      refine v_iload_n dX6_base_22 1 rfl rfl ?_
      obtain ⟨g11, h⟩ := gd_some h
      refine v_iald oc39 rx1 g11.1 g11.2 dX6_base_23 ?_
      cases h
      exact v_iret (gE_rg _ _ _) dX6_base_24
  · rw [if_pos c1] at h
    refine v_iconst dX6_base_5 ?_
    cases h
    exact v_iret (rgl rfl) dX6_base_6

def E_X6_item_48 (rv : Option vA) (σo : vS) (q : Int × vS) : Prop := ∀ (x3' : Int) (s' : vS), q = (x3', s') → rg x3' → VW cX6_item (RX6, rv, σo, (some .int), 3, 71, 4, []) (P0 []) s' 84 [(3, vI x3')] []
def l_X6_item_48 : Nat → Int → Int → vS → Option (Int × vS)
  | 0, _, _, _ => none
  | n + 1, x2, x3, s =>
    if x3 = (-1) then
      some (x3, s)
    else
      gd (gR s 13 0 = 5) <|
      bd (f_X4_lexeme x3 s) fun r6 s3 =>
      bd (f_X3_isLike r6 x2 s3) fun r11 s8 =>
      if r11 = 0 then
        bd (f_X4_next x3 s8) fun r17 s14 =>
        l_X6_item_48 n x2 r17 s14
      else
        some (x3, s8)
theorem wl_X6_item_48 {x2 : Int} {rv : Option vA} {σo : vS}  (rx2 : rg x2) : ∀ (n : Nat) (x3 : Int) (s : vS) (q : Int × vS), l_X6_item_48 n x2 x3 s = some q → rg x3 → E_X6_item_48 rv σo q → VW cX6_item (RX6, rv, σo, (some .int), 3, 71, 4, []) (P0 []) s 48 [(0, vO 13), (2, vI x2), (3, vI x3)] [] := by
  intro n
  induction n with
  | zero => intro x3 s q h; cases h
  | succ n ih =>
    intro x3 s q h rx3 hE
    unfold l_X6_item_48 at h
    refine v_iload_n dX6_item_48 2 rfl rfl ?_
    refine v_iconst dX6_item_49 ?_
    refine v_icmp_eq (tgt := 84) dX6_item_50 rx3 (rgl rfl) (by decide) (fun c1 => ?_) (fun c1 => ?_)
    · rw [if_pos c1] at h
      cases h
      refine v_sub [2] (L1 := [(3, vI x3)]) rfl ?_
      exact hE _ _ rfl rx3
    · rw [if_neg c1] at h
      refine v_aload_n dX6_item_53 0 rfl rfl ?_
      obtain ⟨g2, h⟩ := gd_some h
      refine v_getR (f := 0) cf6 oc13 rfl (by rw [g2]; decide) (by decide) q627 dX6_item_54 ?_
      rw [g2]
      refine v_aload_n dX6_item_57 0 rfl rfl ?_
      refine v_getS (f := 1) (t := 10) cf6 oc13 rfl rfl rfl (by decide) q628 dX6_item_58 ?_
      refine v_iload_n dX6_item_61 2 rfl rfl ?_
      obtain ⟨r6, s3, e4, h⟩ := bd_some h
      have k5 := c_X4_lexeme e4 rx3
      have r7 : rg r6 := k5.1.2.2
      refine v_callV (st := [vO 5]) cf4 oc10 k5 (lw_V q1449 q1450 q1451 q301 q1452) rfl yk_X4_lexeme ⟨Nat.le_of_ble_eq_true rfl, Nat.le_of_ble_eq_true rfl⟩ ⟨kc5, trivial⟩ ⟨kc13, trivial⟩ (Nat.le_of_ble_eq_true rfl) rfl dX6_item_62 ?_
      refine v_iload_n dX6_item_65 1 rfl rfl ?_
      obtain ⟨r11, s8, e9, h⟩ := bd_some h
      have k10 := c_X3_isLike e9 r7 rx2
      have r12 : rg r11 := k10.1.2.2
      refine v_callV (st := []) cf3 oc5 k10 (lw_V q1596 q1466 q1467 q300 q1468) rfl yk_X3_isLike ⟨Nat.le_of_ble_eq_true rfl, Nat.le_of_ble_eq_true rfl⟩ trivial ⟨kc13, trivial⟩ (Nat.le_of_ble_eq_true rfl) rfl dX6_item_66 ?_
      refine v_if_ne (tgt := 84) dX6_item_69 r12 (by decide) (fun c13 => ?_) (fun c13 => ?_)
      · rw [if_neg c13] at h
        cases h
        refine v_sub [2] (L1 := [(3, vI x3)]) rfl ?_
        exact hE _ _ rfl rx3
      · rw [if_pos c13] at h
        refine v_aload_n dX6_item_72 0 rfl rfl ?_
        refine v_getS (f := 1) (t := 10) cf6 oc13 rfl rfl rfl (by decide) q628 dX6_item_73 ?_
        refine v_iload_n dX6_item_76 2 rfl rfl ?_
        obtain ⟨r17, s14, e15, h⟩ := bd_some h
        have k16 := c_X4_next e15 rx3
        have r18 : rg r17 := k16.1.2.2
        refine v_callV (st := []) cf4 oc10 k16 (lw_V q1483 q1404 q1405 q301 q1406) rfl yk_X4_next ⟨Nat.le_of_ble_eq_true rfl, Nat.le_of_ble_eq_true rfl⟩ trivial ⟨kc13, trivial⟩ (Nat.le_of_ble_eq_true rfl) rfl dX6_item_77 ?_
        refine v_istore_n (L1 := [(3, vI r17), (0, vO 13), (2, vI x2)]) dX6_item_80 rfl (by decide) rfl ?_
        refine v_goto (tgt := 48) dX6_item_81 (by decide) ?_
        refine v_sub [1, 2, 0] (L1 := [(0, vO 13), (2, vI x2), (3, vI r17)]) rfl ?_
        exact ih r17 s14 _ h r18 hE

def f_X6_item (x1 : Int) (x2 : Int) (s : vS) : Option (Int × vS) :=
  if x1 = (-1) then
    some ((-1), s)
  else
    bd (f_X4_parts x1 s) fun r5 s2 =>
    if r5 = (-1) then
      some ((-1), s2)
    else
      bd (f_X4_parts x1 s2) fun r11 s8 =>
      bd (f_X4_kind r11 s8) fun r16 s13 =>
      if r16 = 21 then
        bd (f_X4_parts x1 s13) fun r22 s19 =>
        lq_1 (l_X6_item_48 FU x2 r22 s19) fun y24 s25 =>
        some (y24, s25)
      else
        some ((-1), s13)
theorem yk_X6_item : yOk yX6_item 2 := ⟨by decide, by decide, by decide +kernel⟩
theorem c_X6_item {x1 : Int} {x2 : Int} {s : vS} {out : Int × vS} (h : f_X6_item x1 x2 s = some out)  (rx1 : rg x1) (rx2 : rg x2) : VC yX6_item cX6_item 4 (some .int) 3 71 [vO 13, vI x1, vI x2] s (some (vI out.1)) out.2 [] := by
  unfold f_X6_item at h
  refine VC.of RX6 (by decide) rfl (Nat.le_of_ble_eq_true rfl) ?_
  show VW cX6_item (RX6, (some (vI out.1)), out.2, (some .int), 3, 71, 4, []) (P0 []) s 0 [(0, vO 13), (1, vI x1), (2, vI x2)] []
  refine v_iload_n dX6_item_0 1 rfl rfl ?_
  refine v_iconst dX6_item_1 ?_
  refine v_icmp_eq (tgt := 37) dX6_item_2 rx1 (rgl rfl) (by decide) (fun c1 => ?_) (fun c1 => ?_)
  · rw [if_pos c1] at h
    refine v_iconst dX6_item_37 ?_
    cases h
    exact v_iret (rgl rfl) dX6_item_38
  · rw [if_neg c1] at h
    refine v_aload_n dX6_item_5 0 rfl rfl ?_
    refine v_getS (f := 1) (t := 10) cf6 oc13 rfl rfl rfl (by decide) q628 dX6_item_6 ?_
    refine v_iload_n dX6_item_9 1 rfl rfl ?_
    obtain ⟨r5, s2, e3, h⟩ := bd_some h
    have k4 := c_X4_parts e3 rx1
    have r6 : rg r5 := k4.1.2.2
    refine v_callV (st := []) cf4 oc10 k4 (lw_V q1492 q1493 q1494 q301 q1495) rfl yk_X4_parts ⟨Nat.le_of_ble_eq_true rfl, Nat.le_of_ble_eq_true rfl⟩ trivial ⟨kc13, trivial⟩ (Nat.le_of_ble_eq_true rfl) rfl dX6_item_10 ?_
    refine v_iconst dX6_item_13 ?_
    refine v_icmp_eq (tgt := 37) dX6_item_14 r6 (rgl rfl) (by decide) (fun c7 => ?_) (fun c7 => ?_)
    · rw [if_pos c7] at h
      refine v_iconst dX6_item_37 ?_
      cases h
      exact v_iret (rgl rfl) dX6_item_38
    · rw [if_neg c7] at h
      refine v_aload_n dX6_item_17 0 rfl rfl ?_
      refine v_getS (f := 1) (t := 10) cf6 oc13 rfl rfl rfl (by decide) q628 dX6_item_18 ?_
      refine v_aload_n dX6_item_21 0 rfl rfl ?_
      refine v_getS (f := 1) (t := 10) cf6 oc13 rfl rfl rfl (by decide) q628 dX6_item_22 ?_
      refine v_iload_n dX6_item_25 1 rfl rfl ?_
      obtain ⟨r11, s8, e9, h⟩ := bd_some h
      have k10 := c_X4_parts e9 rx1
      have r12 : rg r11 := k10.1.2.2
      refine v_callV (st := [vO 10]) cf4 oc10 k10 (lw_V q1492 q1493 q1494 q301 q1495) rfl yk_X4_parts ⟨Nat.le_of_ble_eq_true rfl, Nat.le_of_ble_eq_true rfl⟩ ⟨kc10, trivial⟩ ⟨kc13, trivial⟩ (Nat.le_of_ble_eq_true rfl) rfl dX6_item_26 ?_
      obtain ⟨r16, s13, e14, h⟩ := bd_some h
      have k15 := c_X4_kind e14 r12
      have r17 : rg r16 := k15.1.2.2
      refine v_callV (st := []) cf4 oc10 k15 (lw_V q1445 q1446 q1447 q301 q1448) rfl yk_X4_kind ⟨Nat.le_of_ble_eq_true rfl, Nat.le_of_ble_eq_true rfl⟩ trivial ⟨kc13, trivial⟩ (Nat.le_of_ble_eq_true rfl) rfl dX6_item_29 ?_
      refine v_bipush dX6_item_32 rfl ?_
      refine v_icmp_eq (tgt := 39) dX6_item_34 r17 (rgl rfl) (by decide) (fun c18 => ?_) (fun c18 => ?_)
      · rw [if_pos c18] at h
        refine v_aload_n dX6_item_39 0 rfl rfl ?_
        refine v_getS (f := 1) (t := 10) cf6 oc13 rfl rfl rfl (by decide) q628 dX6_item_40 ?_
        refine v_iload_n dX6_item_43 1 rfl rfl ?_
        obtain ⟨r22, s19, e20, h⟩ := bd_some h
        have k21 := c_X4_parts e20 rx1
        have r23 : rg r22 := k21.1.2.2
        refine v_callV (st := []) cf4 oc10 k21 (lw_V q1492 q1493 q1494 q301 q1495) rfl yk_X4_parts ⟨Nat.le_of_ble_eq_true rfl, Nat.le_of_ble_eq_true rfl⟩ trivial ⟨kc13, trivial⟩ (Nat.le_of_ble_eq_true rfl) rfl dX6_item_44 ?_
        refine v_istore_n (L1 := [(3, vI r22), (0, vO 13), (1, vI x1), (2, vI x2)]) dX6_item_47 rfl (by decide) rfl ?_
        refine v_sub [1, 3, 0] (L1 := [(0, vO 13), (2, vI x2), (3, vI r22)]) rfl ?_
        obtain ⟨y24, s25, e26, h⟩ := lq_1_some h
        refine wl_X6_item_48 rx2 FU r22 s19 _ e26 r23 ?_
        unfold E_X6_item_48
        intro y24' s25' z_ r27
        cases z_
        refine v_iload_n dX6_item_84 0 rfl rfl ?_
        cases h
        exact v_iret r27 dX6_item_85
      · rw [if_neg c18] at h
        refine v_iconst dX6_item_37 ?_
        cases h
        exact v_iret (rgl rfl) dX6_item_38

def j_X6_itemOf_48 (x2 : Int) (x4 : Int) (z0 : Int) (s : vS) : Option (Int × vS) :=
  if z0 = 0 then
    some ((-1), s)
  else
    bd (f_X6_item x4 x2 s) fun r5 s2 =>
    some (r5, s2)
theorem wj_X6_itemOf_48 {x2 : Int} {x4 : Int} {z0 : Int} {s : vS} {out : Int × vS} (h : j_X6_itemOf_48 x2 x4 z0 s = some out)  (rx2 : rg x2) (rx4 : rg x4) (rz0 : rg z0) : VW cX6_itemOf (RX6, (some (vI out.1)), out.2, (some .int), 7, 161, 6, []) (P0 []) s 48 [(0, vO 13), (2, vI x2), (4, vI x4)] [vI z0] := by
  unfold j_X6_itemOf_48 at h
  refine v_istore (L1 := [(5, vI z0), (0, vO 13), (2, vI x2), (4, vI x4)]) dX6_itemOf_48 (by decide) rfl ?_
  refine v_iload dX6_itemOf_50 0 rfl ?_
  refine v_if_eq (tgt := 65) dX6_itemOf_52 rz0 (by decide) (fun c1 => ?_) (fun c1 => ?_)
  · rw [if_pos c1] at h
    refine v_iconst dX6_itemOf_65 ?_
    cases h
    exact v_iret (rgl rfl) dX6_itemOf_66
  · rw [if_neg c1] at h
    refine v_aload_n dX6_itemOf_55 1 rfl rfl ?_
    refine v_iload dX6_itemOf_56 3 rfl ?_
    refine v_iload_n dX6_itemOf_58 2 rfl rfl ?_
    obtain ⟨r5, s2, e3, h⟩ := bd_some h
    have k4 := c_X6_item e3 rx4 rx2
    have r6 : rg r5 := k4.1.2.2
    refine v_callV (st := []) cf6 oc13 k4 (lw_V q1592 q1594 qs61 q303 q1595) rfl yk_X6_item ⟨Nat.le_of_ble_eq_true rfl, Nat.le_of_ble_eq_true rfl⟩ trivial ⟨kc13, trivial⟩ (Nat.le_of_ble_eq_true rfl) rfl dX6_itemOf_59 ?_
    refine v_goto (tgt := 66) dX6_itemOf_62 (by decide) ?_
    cases h
    exact v_iret r6 dX6_itemOf_66

def f_X6_itemOf (x1 : Int) (x2 : Int) (x3 : Int) (s : vS) : Option (Int × vS) :=
  bd (f_X6_base x1 s) fun r4 s1 =>
  if r4 = (-1) then
    j_X6_itemOf_48 x2 r4 0 s1
  else
    bd (f_X4_kind r4 s1) fun r10 s7 =>
    if r10 = 2 then
      j_X6_itemOf_48 x2 r4 1 s7
    else
      if x3 = 0 then
        j_X6_itemOf_48 x2 r4 0 s7
      else
        bd (f_X4_kind r4 s7) fun r17 s14 =>
        if r17 = 3 then
          j_X6_itemOf_48 x2 r4 1 s14
        else
          j_X6_itemOf_48 x2 r4 0 s14
theorem yk_X6_itemOf : yOk yX6_itemOf 3 := ⟨by decide, by decide, by decide +kernel⟩
theorem c_X6_itemOf {x1 : Int} {x2 : Int} {x3 : Int} {s : vS} {out : Int × vS} (h : f_X6_itemOf x1 x2 x3 s = some out)  (rx1 : rg x1) (rx2 : rg x2) (rx3 : rg x3) : VC yX6_itemOf cX6_itemOf 6 (some .int) 7 161 [vO 13, vI x1, vI x2, vI x3] s (some (vI out.1)) out.2 [] := by
  unfold f_X6_itemOf at h
  refine VC.of RX6 (by decide) rfl (Nat.le_of_ble_eq_true rfl) ?_
  show VW cX6_itemOf (RX6, (some (vI out.1)), out.2, (some .int), 7, 161, 6, []) (P0 []) s 0 [(0, vO 13), (1, vI x1), (2, vI x2), (3, vI x3)] []
  refine v_aload_n dX6_itemOf_0 0 rfl rfl ?_
  refine v_iload_n dX6_itemOf_1 1 rfl rfl ?_
  obtain ⟨r4, s1, e2, h⟩ := bd_some h
  have k3 := c_X6_base e2 rx1
  have r5 : rg r4 := k3.1.2.2
  refine v_callV (st := []) cf6 oc13 k3 (lw_V q1588 q1590 qs60 q303 q1591) rfl yk_X6_base ⟨Nat.le_of_ble_eq_true rfl, Nat.le_of_ble_eq_true rfl⟩ trivial ⟨kc13, trivial⟩ (Nat.le_of_ble_eq_true rfl) rfl dX6_itemOf_2 ?_
  refine v_istore (L1 := [(4, vI r4), (0, vO 13), (1, vI x1), (2, vI x2), (3, vI x3)]) dX6_itemOf_5 (by decide) rfl ?_
  refine v_iload dX6_itemOf_7 0 rfl ?_
  refine v_iconst dX6_itemOf_9 ?_
  refine v_icmp_eq (tgt := 47) dX6_itemOf_10 r5 (rgl rfl) (by decide) (fun c6 => ?_) (fun c6 => ?_)
  · rw [if_pos c6] at h
    refine v_iconst dX6_itemOf_47 ?_
    refine v_sub [1, 3, 0] (L1 := [(0, vO 13), (2, vI x2), (4, vI r4)]) rfl ?_
    exact wj_X6_itemOf_48 h rx2 r5 (rgl rfl)
  · rw [if_neg c6] at h
    refine v_aload_n dX6_itemOf_13 1 rfl rfl ?_
    refine v_getS (f := 1) (t := 10) cf6 oc13 rfl rfl rfl (by decide) q628 dX6_itemOf_14 ?_
    refine v_iload dX6_itemOf_17 0 rfl ?_
    obtain ⟨r10, s7, e8, h⟩ := bd_some h
    have k9 := c_X4_kind e8 r5
    have r11 : rg r10 := k9.1.2.2
    refine v_callV (st := []) cf4 oc10 k9 (lw_V q1445 q1446 q1447 q301 q1448) rfl yk_X4_kind ⟨Nat.le_of_ble_eq_true rfl, Nat.le_of_ble_eq_true rfl⟩ trivial ⟨kc13, trivial⟩ (Nat.le_of_ble_eq_true rfl) rfl dX6_itemOf_19 ?_
    refine v_iconst dX6_itemOf_22 ?_
    refine v_icmp_eq (tgt := 43) dX6_itemOf_23 r11 (rgl rfl) (by decide) (fun c12 => ?_) (fun c12 => ?_)
    · rw [if_pos c12] at h
      refine v_iconst dX6_itemOf_43 ?_
      refine v_goto (tgt := 48) dX6_itemOf_44 (by decide) ?_
      refine v_sub [1, 3, 0] (L1 := [(0, vO 13), (2, vI x2), (4, vI r4)]) rfl ?_
      exact wj_X6_itemOf_48 h rx2 r5 (rgl rfl)
    · rw [if_neg c12] at h
      refine v_iload_n dX6_itemOf_26 4 rfl rfl ?_
      refine v_if_eq (tgt := 47) dX6_itemOf_27 rx3 (by decide) (fun c13 => ?_) (fun c13 => ?_)
      · rw [if_pos c13] at h
        refine v_iconst dX6_itemOf_47 ?_
        refine v_sub [1, 3, 0] (L1 := [(0, vO 13), (2, vI x2), (4, vI r4)]) rfl ?_
        exact wj_X6_itemOf_48 h rx2 r5 (rgl rfl)
      · rw [if_neg c13] at h
        refine v_aload_n dX6_itemOf_30 1 rfl rfl ?_
        refine v_getS (f := 1) (t := 10) cf6 oc13 rfl rfl rfl (by decide) q628 dX6_itemOf_31 ?_
        refine v_iload dX6_itemOf_34 0 rfl ?_
        obtain ⟨r17, s14, e15, h⟩ := bd_some h
        have k16 := c_X4_kind e15 r5
        have r18 : rg r17 := k16.1.2.2
        refine v_callV (st := []) cf4 oc10 k16 (lw_V q1445 q1446 q1447 q301 q1448) rfl yk_X4_kind ⟨Nat.le_of_ble_eq_true rfl, Nat.le_of_ble_eq_true rfl⟩ trivial ⟨kc13, trivial⟩ (Nat.le_of_ble_eq_true rfl) rfl dX6_itemOf_36 ?_
        refine v_iconst dX6_itemOf_39 ?_
        refine v_icmp_ne (tgt := 47) dX6_itemOf_40 r18 (rgl rfl) (by decide) (fun c19 => ?_) (fun c19 => ?_)
        · rw [if_neg c19] at h
          refine v_iconst dX6_itemOf_47 ?_
          refine v_sub [1, 3, 0] (L1 := [(0, vO 13), (2, vI x2), (4, vI r4)]) rfl ?_
          exact wj_X6_itemOf_48 h rx2 r5 (rgl rfl)
        · rw [if_pos c19] at h
          refine v_iconst dX6_itemOf_43 ?_
          refine v_goto (tgt := 48) dX6_itemOf_44 (by decide) ?_
          refine v_sub [1, 3, 0] (L1 := [(0, vO 13), (2, vI x2), (4, vI r4)]) rfl ?_
          exact wj_X6_itemOf_48 h rx2 r5 (rgl rfl)

def f_X6_knownValue (x1 : Int) (x2 : Int) (s : vS) : Option (vS) :=
  if x1 = (-1) then
    some s
  else
    bd (f_X4_at x1 5 s) fun r5 s2 =>
    if r5 = 4 then
      bd (f_X4_lexeme x1 s2) fun r11 s8 =>
      bd (f_X6_itemOf x2 r11 1 s8) fun r16 s13 =>
      if r16 = (-1) then
        bd (f_X4_lexeme x1 s13) fun r22 s19 =>
        bd (f_X9_find 22 r22 s19) fun r27 s24 =>
        if r27 = (-1) then
          bd (f_X4_lexeme x1 s24) fun r33 s30 =>
          bdv (f_X6_blame 6 r33 s30) fun s35 =>
          some s35
        else
          some s24
      else
        some s13
    else
      some s2
theorem yk_X6_knownValue : yOk yX6_knownValue 2 := ⟨by decide, by decide, by decide +kernel⟩
theorem c_X6_knownValue {x1 : Int} {x2 : Int} {s : vS} {out : vS} (h : f_X6_knownValue x1 x2 s = some out)  (rx1 : rg x1) (rx2 : rg x2) : VC yX6_knownValue cX6_knownValue 3 none 8 186 [vO 13, vI x1, vI x2] s none out [] := by
  unfold f_X6_knownValue at h
  refine VC.of RX6 (by decide) rfl (Nat.le_of_ble_eq_true rfl) ?_
  show VW cX6_knownValue (RX6, none, out, none, 8, 186, 3, []) (P0 []) s 0 [(0, vO 13), (1, vI x1), (2, vI x2)] []
  refine v_iload_n dX6_knownValue_0 1 rfl rfl ?_
  refine v_iconst dX6_knownValue_1 ?_
  refine v_icmp_eq (tgt := 69) dX6_knownValue_2 rx1 (rgl rfl) (by decide) (fun c1 => ?_) (fun c1 => ?_)
  · rw [if_pos c1] at h
    cases h
    exact v_vret dX6_knownValue_69
  · rw [if_neg c1] at h
    refine v_aload_n dX6_knownValue_5 0 rfl rfl ?_
    refine v_getS (f := 1) (t := 10) cf6 oc13 rfl rfl rfl (by decide) q628 dX6_knownValue_6 ?_
    refine v_iload_n dX6_knownValue_9 1 rfl rfl ?_
    refine v_iconst dX6_knownValue_10 ?_
    obtain ⟨r5, s2, e3, h⟩ := bd_some h
    have k4 := c_X4_at e3 rx1 (rgl rfl)
    have r6 : rg r5 := k4.1.2.2
    refine v_callV (st := []) cf4 oc10 k4 (lw_V q1500 q1400 q1401 q301 q1402) rfl yk_X4_at ⟨Nat.le_of_ble_eq_true rfl, Nat.le_of_ble_eq_true rfl⟩ trivial ⟨kc13, trivial⟩ (Nat.le_of_ble_eq_true rfl) rfl dX6_knownValue_11 ?_
    refine v_iconst dX6_knownValue_14 ?_
    refine v_icmp_ne (tgt := 69) dX6_knownValue_15 r6 (rgl rfl) (by decide) (fun c7 => ?_) (fun c7 => ?_)
    · rw [if_neg c7] at h
      cases h
      exact v_vret dX6_knownValue_69
    · rw [if_pos c7] at h
      refine v_aload_n dX6_knownValue_18 0 rfl rfl ?_
      refine v_iload_n dX6_knownValue_19 2 rfl rfl ?_
      refine v_aload_n dX6_knownValue_20 0 rfl rfl ?_
      refine v_getS (f := 1) (t := 10) cf6 oc13 rfl rfl rfl (by decide) q628 dX6_knownValue_21 ?_
      refine v_iload_n dX6_knownValue_24 1 rfl rfl ?_
      obtain ⟨r11, s8, e9, h⟩ := bd_some h
      have k10 := c_X4_lexeme e9 rx1
      have r12 : rg r11 := k10.1.2.2
      refine v_callV (st := [vI x2, vO 13]) cf4 oc10 k10 (lw_V q1449 q1450 q1451 q301 q1452) rfl yk_X4_lexeme ⟨Nat.le_of_ble_eq_true rfl, Nat.le_of_ble_eq_true rfl⟩ ⟨kc13, trivial⟩ ⟨kc13, trivial⟩ (Nat.le_of_ble_eq_true rfl) rfl dX6_knownValue_25 ?_
      refine v_iconst dX6_knownValue_28 ?_
      obtain ⟨r16, s13, e14, h⟩ := bd_some h
      have k15 := c_X6_itemOf e14 rx2 r12 (rgl rfl)
      have r17 : rg r16 := k15.1.2.2
      refine v_callV (st := []) cf6 oc13 k15 (lw_V q1584 q1586 qs59 q303 q1587) rfl yk_X6_itemOf ⟨Nat.le_of_ble_eq_true rfl, Nat.le_of_ble_eq_true rfl⟩ trivial ⟨kc13, trivial⟩ (Nat.le_of_ble_eq_true rfl) rfl dX6_knownValue_29 ?_
      refine v_iconst dX6_knownValue_32 ?_
      refine v_icmp_ne (tgt := 69) dX6_knownValue_33 r17 (rgl rfl) (by decide) (fun c18 => ?_) (fun c18 => ?_)
      · rw [if_neg c18] at h
        cases h
        exact v_vret dX6_knownValue_69
      · rw [if_pos c18] at h
        refine v_aload_n dX6_knownValue_36 0 rfl rfl ?_
        refine v_getS (f := 6) (t := 22) cf6 oc13 rfl rfl rfl (by decide) q633 dX6_knownValue_37 ?_
        refine v_aload_n dX6_knownValue_40 0 rfl rfl ?_
        refine v_getS (f := 1) (t := 10) cf6 oc13 rfl rfl rfl (by decide) q628 dX6_knownValue_41 ?_
        refine v_iload_n dX6_knownValue_44 1 rfl rfl ?_
        obtain ⟨r22, s19, e20, h⟩ := bd_some h
        have k21 := c_X4_lexeme e20 rx1
        have r23 : rg r22 := k21.1.2.2
        refine v_callV (st := [vO 22]) cf4 oc10 k21 (lw_V q1449 q1450 q1451 q301 q1452) rfl yk_X4_lexeme ⟨Nat.le_of_ble_eq_true rfl, Nat.le_of_ble_eq_true rfl⟩ ⟨kc22, trivial⟩ ⟨kc13, trivial⟩ (Nat.le_of_ble_eq_true rfl) rfl dX6_knownValue_45 ?_
        obtain ⟨r27, s24, e25, h⟩ := bd_some h
        have k26 := c_X9_find e25 (⟨by decide, rfl⟩ : okB 22 8) r23
        have r28 : rg r27 := k26.1.2.2
        refine v_callV (st := []) cf9 oc22 k26 (lw_V q1575 q1576 q1577 q306 q1578) rfl yk_X9_find ⟨Nat.le_of_ble_eq_true rfl, Nat.le_of_ble_eq_true rfl⟩ trivial ⟨kc13, trivial⟩ (Nat.le_of_ble_eq_true rfl) rfl dX6_knownValue_48 ?_
        refine v_iconst dX6_knownValue_51 ?_
        refine v_icmp_ne (tgt := 69) dX6_knownValue_52 r28 (rgl rfl) (by decide) (fun c29 => ?_) (fun c29 => ?_)
        · rw [if_neg c29] at h
          cases h
          exact v_vret dX6_knownValue_69
        · rw [if_pos c29] at h
          refine v_aload_n dX6_knownValue_55 0 rfl rfl ?_
          refine v_bipush dX6_knownValue_56 rfl ?_
          refine v_aload_n dX6_knownValue_58 0 rfl rfl ?_
          refine v_getS (f := 1) (t := 10) cf6 oc13 rfl rfl rfl (by decide) q628 dX6_knownValue_59 ?_
          refine v_iload_n dX6_knownValue_62 1 rfl rfl ?_
          obtain ⟨r33, s30, e31, h⟩ := bd_some h
          have k32 := c_X4_lexeme e31 rx1
          have r34 : rg r33 := k32.1.2.2
          refine v_callV (st := [vI 6, vO 13]) cf4 oc10 k32 (lw_V q1449 q1450 q1451 q301 q1452) rfl yk_X4_lexeme ⟨Nat.le_of_ble_eq_true rfl, Nat.le_of_ble_eq_true rfl⟩ ⟨kc13, trivial⟩ ⟨kc13, trivial⟩ (Nat.le_of_ble_eq_true rfl) rfl dX6_knownValue_63 ?_
          obtain ⟨s35, e36, h⟩ := bdv_some h
          have k37 := c_X6_blame e36 (rgl rfl) r34
          refine v_callV (st := []) cf6 oc13 k37 (lw_V q1478 q1480 qs45 q303 q1481) rfl yk_X6_blame ⟨Nat.le_of_ble_eq_true rfl, Nat.le_of_ble_eq_true rfl⟩ trivial ⟨kc13, trivial⟩ (Nat.le_of_ble_eq_true rfl) rfl dX6_knownValue_66 ?_
          cases h
          exact v_vret dX6_knownValue_69

def E_X6_knownBounds_9 (rv : Option vA) (σo : vS) (q : vS) : Prop := ∀ (s' : vS), q = s' → VW cX6_knownBounds (RX6, rv, σo, none, 8, 186, 6, []) (P0 []) s' 162 [] []
def E_X6_knownBounds_23 (x1 : Int) (x2 : Int) (rv : Option vA) (σo : vS) (q : vS) : Prop := ∀ (s' : vS), q = s' → VW cX6_knownBounds (RX6, rv, σo, none, 8, 186, 6, []) (P0 []) s' 150 [(0, vO 13), (1, vI x1), (2, vI x2)] []
def E_X6_knownBounds_38 (x1 : Int) (x2 : Int) (x3 : Int) (rv : Option vA) (σo : vS) (q : vS) : Prop := ∀ (s' : vS), q = s' → VW cX6_knownBounds (RX6, rv, σo, none, 8, 186, 6, []) (P0 []) s' 138 [(0, vO 13), (1, vI x1), (2, vI x2), (3, vI x3)] []
def j_X6_knownBounds_124 (rec : Int → Int → Int → Int → vS → Option (vS)) (x1 : Int) (x2 : Int) (x3 : Int) (x4 : Int) (s : vS) : Option (vS) :=
  bd (f_X4_next x4 s) fun r4 s1 =>
  rec x1 x2 x3 r4 s1
theorem wj_X6_knownBounds_124 {x1 : Int} {x2 : Int} {x3 : Int} {x4 : Int} {s : vS} {rv : Option vA} {σo : vS} {rec : Int → Int → Int → Int → vS → Option (vS)} {q : vS} (h : j_X6_knownBounds_124 rec x1 x2 x3 x4 s = some q)  (rx1 : rg x1) (rx2 : rg x2) (rx3 : rg x3) (rx4 : rg x4) (hrec : ∀ (y4 : Int) (s : vS) (q : vS), rec x1 x2 x3 y4 s = some q → rg y4 → E_X6_knownBounds_38 x1 x2 x3 rv σo q → VW cX6_knownBounds (RX6, rv, σo, none, 8, 186, 6, []) (P0 []) s 38 [(0, vO 13), (1, vI x1), (2, vI x2), (3, vI x3), (4, vI y4)] []) (hE : E_X6_knownBounds_38 x1 x2 x3 rv σo q) : VW cX6_knownBounds (RX6, rv, σo, none, 8, 186, 6, []) (P0 []) s 124 [(0, vO 13), (1, vI x1), (2, vI x2), (3, vI x3), (4, vI x4)] [] := by
  unfold j_X6_knownBounds_124 at h
  refine v_aload_n dX6_knownBounds_124 0 rfl rfl ?_
  refine v_getS (f := 1) (t := 10) cf6 oc13 rfl rfl rfl (by decide) q628 dX6_knownBounds_125 ?_
  refine v_iload dX6_knownBounds_128 4 rfl ?_
  obtain ⟨r4, s1, e2, h⟩ := bd_some h
  have k3 := c_X4_next e2 rx4
  have r5 : rg r4 := k3.1.2.2
  refine v_callV (st := []) cf4 oc10 k3 (lw_V q1483 q1404 q1405 q301 q1406) rfl yk_X4_next ⟨Nat.le_of_ble_eq_true rfl, Nat.le_of_ble_eq_true rfl⟩ trivial ⟨kc13, trivial⟩ (Nat.le_of_ble_eq_true rfl) rfl dX6_knownBounds_130 ?_
  refine v_istore (L1 := [(4, vI r4), (0, vO 13), (1, vI x1), (2, vI x2), (3, vI x3)]) dX6_knownBounds_133 (by decide) rfl ?_
  refine v_goto (tgt := 38) dX6_knownBounds_135 (by decide) ?_
  refine v_sub [1, 2, 3, 4, 0] (L1 := [(0, vO 13), (1, vI x1), (2, vI x2), (3, vI x3), (4, vI r4)]) rfl ?_
  exact hrec r4 s1 _ h r5 hE

def j_X6_knownBounds_63 (rec : Int → Int → Int → Int → vS → Option (vS)) (x1 : Int) (x2 : Int) (x3 : Int) (x4 : Int) (z0 : Int) (s : vS) : Option (vS) :=
  if z0 = 0 then
    j_X6_knownBounds_124 rec x1 x2 x3 x4 s
  else
    bd (f_X4_lexeme x4 s) fun r5 s2 =>
    bd (f_X6_itemOf x1 r5 0 s2) fun r10 s7 =>
    if r10 = (-1) then
      bd (f_X4_lexeme x4 s7) fun r16 s13 =>
      bd (f_X9_find 22 r16 s13) fun r21 s18 =>
      if r21 = (-1) then
        bd (f_X4_lexeme x4 s18) fun r27 s24 =>
        bdv (f_X6_blame 6 r27 s24) fun s29 =>
        j_X6_knownBounds_124 rec x1 x2 x3 x4 s29
      else
        j_X6_knownBounds_124 rec x1 x2 x3 x4 s18
    else
      j_X6_knownBounds_124 rec x1 x2 x3 x4 s7
theorem wj_X6_knownBounds_63 {x1 : Int} {x2 : Int} {x3 : Int} {x4 : Int} {z0 : Int} {s : vS} {rv : Option vA} {σo : vS} {rec : Int → Int → Int → Int → vS → Option (vS)} {q : vS} (h : j_X6_knownBounds_63 rec x1 x2 x3 x4 z0 s = some q)  (rx1 : rg x1) (rx2 : rg x2) (rx3 : rg x3) (rx4 : rg x4) (rz0 : rg z0) (hrec : ∀ (y4 : Int) (s : vS) (q : vS), rec x1 x2 x3 y4 s = some q → rg y4 → E_X6_knownBounds_38 x1 x2 x3 rv σo q → VW cX6_knownBounds (RX6, rv, σo, none, 8, 186, 6, []) (P0 []) s 38 [(0, vO 13), (1, vI x1), (2, vI x2), (3, vI x3), (4, vI y4)] []) (hE : E_X6_knownBounds_38 x1 x2 x3 rv σo q) : VW cX6_knownBounds (RX6, rv, σo, none, 8, 186, 6, []) (P0 []) s 63 [(0, vO 13), (1, vI x1), (2, vI x2), (3, vI x3), (4, vI x4)] [vI z0] := by
  unfold j_X6_knownBounds_63 at h
  refine v_istore (L1 := [(5, vI z0), (0, vO 13), (1, vI x1), (2, vI x2), (3, vI x3), (4, vI x4)]) dX6_knownBounds_63 (by decide) rfl ?_
  refine v_iload dX6_knownBounds_65 0 rfl ?_
  refine v_if_eq (tgt := 124) dX6_knownBounds_67 rz0 (by decide) (fun c1 => ?_) (fun c1 => ?_)
  · rw [if_pos c1] at h
    refine v_sub [1, 2, 3, 4, 5] (L1 := [(0, vO 13), (1, vI x1), (2, vI x2), (3, vI x3), (4, vI x4)]) rfl ?_
    exact wj_X6_knownBounds_124 h rx1 rx2 rx3 rx4 hrec hE
  · rw [if_neg c1] at h
    refine v_aload_n dX6_knownBounds_70 1 rfl rfl ?_
    refine v_iload_n dX6_knownBounds_71 2 rfl rfl ?_
    refine v_aload_n dX6_knownBounds_72 1 rfl rfl ?_
    refine v_getS (f := 1) (t := 10) cf6 oc13 rfl rfl rfl (by decide) q628 dX6_knownBounds_73 ?_
    refine v_iload dX6_knownBounds_76 5 rfl ?_
    obtain ⟨r5, s2, e3, h⟩ := bd_some h
    have k4 := c_X4_lexeme e3 rx4
    have r6 : rg r5 := k4.1.2.2
    refine v_callV (st := [vI x1, vO 13]) cf4 oc10 k4 (lw_V q1449 q1450 q1451 q301 q1452) rfl yk_X4_lexeme ⟨Nat.le_of_ble_eq_true rfl, Nat.le_of_ble_eq_true rfl⟩ ⟨kc13, trivial⟩ ⟨kc13, trivial⟩ (Nat.le_of_ble_eq_true rfl) rfl dX6_knownBounds_78 ?_
    refine v_iconst dX6_knownBounds_81 ?_
    obtain ⟨r10, s7, e8, h⟩ := bd_some h
    have k9 := c_X6_itemOf e8 rx1 r6 (rgl rfl)
    have r11 : rg r10 := k9.1.2.2
    refine v_callV (st := []) cf6 oc13 k9 (lw_V q1584 q1586 qs59 q303 q1587) rfl yk_X6_itemOf ⟨Nat.le_of_ble_eq_true rfl, Nat.le_of_ble_eq_true rfl⟩ trivial ⟨kc13, trivial⟩ (Nat.le_of_ble_eq_true rfl) rfl dX6_knownBounds_82 ?_
    refine v_iconst dX6_knownBounds_85 ?_
    refine v_icmp_ne (tgt := 124) dX6_knownBounds_86 r11 (rgl rfl) (by decide) (fun c12 => ?_) (fun c12 => ?_)
    · rw [if_neg c12] at h
      refine v_sub [1, 2, 3, 4, 5] (L1 := [(0, vO 13), (1, vI x1), (2, vI x2), (3, vI x3), (4, vI x4)]) rfl ?_
      exact wj_X6_knownBounds_124 h rx1 rx2 rx3 rx4 hrec hE
    · rw [if_pos c12] at h
      refine v_aload_n dX6_knownBounds_89 1 rfl rfl ?_
      refine v_getS (f := 6) (t := 22) cf6 oc13 rfl rfl rfl (by decide) q633 dX6_knownBounds_90 ?_
      refine v_aload_n dX6_knownBounds_93 1 rfl rfl ?_
      refine v_getS (f := 1) (t := 10) cf6 oc13 rfl rfl rfl (by decide) q628 dX6_knownBounds_94 ?_
      refine v_iload dX6_knownBounds_97 5 rfl ?_
      obtain ⟨r16, s13, e14, h⟩ := bd_some h
      have k15 := c_X4_lexeme e14 rx4
      have r17 : rg r16 := k15.1.2.2
      refine v_callV (st := [vO 22]) cf4 oc10 k15 (lw_V q1449 q1450 q1451 q301 q1452) rfl yk_X4_lexeme ⟨Nat.le_of_ble_eq_true rfl, Nat.le_of_ble_eq_true rfl⟩ ⟨kc22, trivial⟩ ⟨kc13, trivial⟩ (Nat.le_of_ble_eq_true rfl) rfl dX6_knownBounds_99 ?_
      obtain ⟨r21, s18, e19, h⟩ := bd_some h
      have k20 := c_X9_find e19 (⟨by decide, rfl⟩ : okB 22 8) r17
      have r22 : rg r21 := k20.1.2.2
      refine v_callV (st := []) cf9 oc22 k20 (lw_V q1575 q1576 q1577 q306 q1578) rfl yk_X9_find ⟨Nat.le_of_ble_eq_true rfl, Nat.le_of_ble_eq_true rfl⟩ trivial ⟨kc13, trivial⟩ (Nat.le_of_ble_eq_true rfl) rfl dX6_knownBounds_102 ?_
      refine v_iconst dX6_knownBounds_105 ?_
      refine v_icmp_ne (tgt := 124) dX6_knownBounds_106 r22 (rgl rfl) (by decide) (fun c23 => ?_) (fun c23 => ?_)
      · rw [if_neg c23] at h
        refine v_sub [1, 2, 3, 4, 5] (L1 := [(0, vO 13), (1, vI x1), (2, vI x2), (3, vI x3), (4, vI x4)]) rfl ?_
        exact wj_X6_knownBounds_124 h rx1 rx2 rx3 rx4 hrec hE
      · rw [if_pos c23] at h
        refine v_aload_n dX6_knownBounds_109 1 rfl rfl ?_
        refine v_bipush dX6_knownBounds_110 rfl ?_
        refine v_aload_n dX6_knownBounds_112 1 rfl rfl ?_
        refine v_getS (f := 1) (t := 10) cf6 oc13 rfl rfl rfl (by decide) q628 dX6_knownBounds_113 ?_
        refine v_iload dX6_knownBounds_116 5 rfl ?_
        obtain ⟨r27, s24, e25, h⟩ := bd_some h
        have k26 := c_X4_lexeme e25 rx4
        have r28 : rg r27 := k26.1.2.2
        refine v_callV (st := [vI 6, vO 13]) cf4 oc10 k26 (lw_V q1449 q1450 q1451 q301 q1452) rfl yk_X4_lexeme ⟨Nat.le_of_ble_eq_true rfl, Nat.le_of_ble_eq_true rfl⟩ ⟨kc13, trivial⟩ ⟨kc13, trivial⟩ (Nat.le_of_ble_eq_true rfl) rfl dX6_knownBounds_118 ?_
        obtain ⟨s29, e30, h⟩ := bdv_some h
        have k31 := c_X6_blame e30 (rgl rfl) r28
        refine v_callV (st := []) cf6 oc13 k31 (lw_V q1478 q1480 qs45 q303 q1481) rfl yk_X6_blame ⟨Nat.le_of_ble_eq_true rfl, Nat.le_of_ble_eq_true rfl⟩ trivial ⟨kc13, trivial⟩ (Nat.le_of_ble_eq_true rfl) rfl dX6_knownBounds_121 ?_
        refine v_sub [1, 2, 3, 4, 5] (L1 := [(0, vO 13), (1, vI x1), (2, vI x2), (3, vI x3), (4, vI x4)]) rfl ?_
        exact wj_X6_knownBounds_124 h rx1 rx2 rx3 rx4 hrec hE

def l_X6_knownBounds_38 : Nat → Int → Int → Int → Int → vS → Option (vS)
  | 0, _, _, _, _, _ => none
  | n + 1, x1, x2, x3, x4, s =>
    if x4 = (-1) then
      some s
    else
      bd (f_X4_at x4 5 s) fun r5 s2 =>
      if r5 = 3 then
        j_X6_knownBounds_63 (l_X6_knownBounds_38 n) x1 x2 x3 x4 1 s2
      else
        j_X6_knownBounds_63 (l_X6_knownBounds_38 n) x1 x2 x3 x4 0 s2
theorem wl_X6_knownBounds_38 {x1 : Int} {x2 : Int} {x3 : Int} {rv : Option vA} {σo : vS}  (rx1 : rg x1) (rx2 : rg x2) (rx3 : rg x3) : ∀ (n : Nat) (x4 : Int) (s : vS) (q : vS), l_X6_knownBounds_38 n x1 x2 x3 x4 s = some q → rg x4 → E_X6_knownBounds_38 x1 x2 x3 rv σo q → VW cX6_knownBounds (RX6, rv, σo, none, 8, 186, 6, []) (P0 []) s 38 [(0, vO 13), (1, vI x1), (2, vI x2), (3, vI x3), (4, vI x4)] [] := by
  intro n
  induction n with
  | zero => intro x4 s q h; cases h
  | succ n ih =>
    intro x4 s q h rx4 hE
    unfold l_X6_knownBounds_38 at h
    refine v_iload dX6_knownBounds_38 4 rfl ?_
    refine v_iconst dX6_knownBounds_40 ?_
    refine v_icmp_eq (tgt := 138) dX6_knownBounds_41 rx4 (rgl rfl) (by decide) (fun c1 => ?_) (fun c1 => ?_)
    · rw [if_pos c1] at h
      cases h
      refine v_sub [0, 1, 2, 3] (L1 := [(0, vO 13), (1, vI x1), (2, vI x2), (3, vI x3)]) rfl ?_
      exact hE _ rfl 
    · rw [if_neg c1] at h
      refine v_aload_n dX6_knownBounds_44 0 rfl rfl ?_
      refine v_getS (f := 1) (t := 10) cf6 oc13 rfl rfl rfl (by decide) q628 dX6_knownBounds_45 ?_
      refine v_iload dX6_knownBounds_48 4 rfl ?_
      refine v_iconst dX6_knownBounds_50 ?_
      obtain ⟨r5, s2, e3, h⟩ := bd_some h
      have k4 := c_X4_at e3 rx4 (rgl rfl)
      have r6 : rg r5 := k4.1.2.2
      refine v_callV (st := []) cf4 oc10 k4 (lw_V q1500 q1400 q1401 q301 q1402) rfl yk_X4_at ⟨Nat.le_of_ble_eq_true rfl, Nat.le_of_ble_eq_true rfl⟩ trivial ⟨kc13, trivial⟩ (Nat.le_of_ble_eq_true rfl) rfl dX6_knownBounds_51 ?_
      refine v_iconst dX6_knownBounds_54 ?_
      refine v_icmp_ne (tgt := 62) dX6_knownBounds_55 r6 (rgl rfl) (by decide) (fun c7 => ?_) (fun c7 => ?_)
      · rw [if_neg c7] at h
        refine v_iconst dX6_knownBounds_62 ?_
        exact wj_X6_knownBounds_63 h rx1 rx2 rx3 rx4 (rgl rfl) ih hE
      · rw [if_pos c7] at h
        refine v_iconst dX6_knownBounds_58 ?_
        refine v_goto (tgt := 63) dX6_knownBounds_59 (by decide) ?_
        exact wj_X6_knownBounds_63 h rx1 rx2 rx3 rx4 (rgl rfl) ih hE

def l_X6_knownBounds_23 : Nat → Int → Int → Int → vS → Option (vS)
  | 0, _, _, _, _ => none
  | n + 1, x1, x2, x3, s =>
    if x3 = (-1) then
      some s
    else
      bd (f_X4_parts x3 s) fun r5 s2 =>
      lq_0 (l_X6_knownBounds_38 FU x1 x2 x3 r5 s2) fun s7 =>
      bd (f_X4_next x3 s7) fun r12 s9 =>
      l_X6_knownBounds_23 n x1 x2 r12 s9
theorem wl_X6_knownBounds_23 {x1 : Int} {x2 : Int} {rv : Option vA} {σo : vS}  (rx1 : rg x1) (rx2 : rg x2) : ∀ (n : Nat) (x3 : Int) (s : vS) (q : vS), l_X6_knownBounds_23 n x1 x2 x3 s = some q → rg x3 → E_X6_knownBounds_23 x1 x2 rv σo q → VW cX6_knownBounds (RX6, rv, σo, none, 8, 186, 6, []) (P0 []) s 23 [(0, vO 13), (1, vI x1), (2, vI x2), (3, vI x3)] [] := by
  intro n
  induction n with
  | zero => intro x3 s q h; cases h
  | succ n ih =>
    intro x3 s q h rx3 hE
    unfold l_X6_knownBounds_23 at h
    refine v_iload_n dX6_knownBounds_23 3 rfl rfl ?_
    refine v_iconst dX6_knownBounds_24 ?_
    refine v_icmp_eq (tgt := 150) dX6_knownBounds_25 rx3 (rgl rfl) (by decide) (fun c1 => ?_) (fun c1 => ?_)
    · rw [if_pos c1] at h
      cases h
      refine v_sub [0, 1, 2] (L1 := [(0, vO 13), (1, vI x1), (2, vI x2)]) rfl ?_
      exact hE _ rfl 
    · rw [if_neg c1] at h
      refine v_aload_n dX6_knownBounds_28 0 rfl rfl ?_
      refine v_getS (f := 1) (t := 10) cf6 oc13 rfl rfl rfl (by decide) q628 dX6_knownBounds_29 ?_
      refine v_iload_n dX6_knownBounds_32 3 rfl rfl ?_
      obtain ⟨r5, s2, e3, h⟩ := bd_some h
      have k4 := c_X4_parts e3 rx3
      have r6 : rg r5 := k4.1.2.2
      refine v_callV (st := []) cf4 oc10 k4 (lw_V q1492 q1493 q1494 q301 q1495) rfl yk_X4_parts ⟨Nat.le_of_ble_eq_true rfl, Nat.le_of_ble_eq_true rfl⟩ trivial ⟨kc13, trivial⟩ (Nat.le_of_ble_eq_true rfl) rfl dX6_knownBounds_33 ?_
      refine v_istore (L1 := [(4, vI r5), (0, vO 13), (1, vI x1), (2, vI x2), (3, vI x3)]) dX6_knownBounds_36 (by decide) rfl ?_
      refine v_sub [1, 2, 3, 4, 0] (L1 := [(0, vO 13), (1, vI x1), (2, vI x2), (3, vI x3), (4, vI r5)]) rfl ?_
      obtain ⟨s7, e8, h⟩ := lq_0_some h
      refine wl_X6_knownBounds_38 rx1 rx2 rx3 FU r5 s2 _ e8 r6 ?_
      unfold E_X6_knownBounds_38
      intro s7' z_
      cases z_
      refine v_aload_n dX6_knownBounds_138 0 rfl rfl ?_
      refine v_getS (f := 1) (t := 10) cf6 oc13 rfl rfl rfl (by decide) q628 dX6_knownBounds_139 ?_
      refine v_iload_n dX6_knownBounds_142 3 rfl rfl ?_
      obtain ⟨r12, s9, e10, h⟩ := bd_some h
      have k11 := c_X4_next e10 rx3
      have r13 : rg r12 := k11.1.2.2
      refine v_callV (st := []) cf4 oc10 k11 (lw_V q1483 q1404 q1405 q301 q1406) rfl yk_X4_next ⟨Nat.le_of_ble_eq_true rfl, Nat.le_of_ble_eq_true rfl⟩ trivial ⟨kc13, trivial⟩ (Nat.le_of_ble_eq_true rfl) rfl dX6_knownBounds_143 ?_
      refine v_istore_n (L1 := [(3, vI r12), (0, vO 13), (1, vI x1), (2, vI x2)]) dX6_knownBounds_146 rfl (by decide) rfl ?_
      refine v_goto (tgt := 23) dX6_knownBounds_147 (by decide) ?_
      refine v_sub [1, 2, 3, 0] (L1 := [(0, vO 13), (1, vI x1), (2, vI x2), (3, vI r12)]) rfl ?_
      exact ih r12 s9 _ h r13 hE

def l_X6_knownBounds_9 : Nat → Int → Int → vS → Option (vS)
  | 0, _, _, _ => none
  | n + 1, x1, x2, s =>
    if x2 = (-1) then
      some s
    else
      bd (f_X4_parts x2 s) fun r5 s2 =>
      lq_0 (l_X6_knownBounds_23 FU x1 x2 r5 s2) fun s7 =>
      bd (f_X4_next x2 s7) fun r12 s9 =>
      l_X6_knownBounds_9 n x1 r12 s9
theorem wl_X6_knownBounds_9 {x1 : Int} {rv : Option vA} {σo : vS}  (rx1 : rg x1) : ∀ (n : Nat) (x2 : Int) (s : vS) (q : vS), l_X6_knownBounds_9 n x1 x2 s = some q → rg x2 → E_X6_knownBounds_9 rv σo q → VW cX6_knownBounds (RX6, rv, σo, none, 8, 186, 6, []) (P0 []) s 9 [(0, vO 13), (1, vI x1), (2, vI x2)] [] := by
  intro n
  induction n with
  | zero => intro x2 s q h; cases h
  | succ n ih =>
    intro x2 s q h rx2 hE
    unfold l_X6_knownBounds_9 at h
    refine v_iload_n dX6_knownBounds_9 2 rfl rfl ?_
    refine v_iconst dX6_knownBounds_10 ?_
    refine v_icmp_eq (tgt := 162) dX6_knownBounds_11 rx2 (rgl rfl) (by decide) (fun c1 => ?_) (fun c1 => ?_)
    · rw [if_pos c1] at h
      cases h
      refine v_sub [] (L1 := []) rfl ?_
      exact hE _ rfl 
    · rw [if_neg c1] at h
      refine v_aload_n dX6_knownBounds_14 0 rfl rfl ?_
      refine v_getS (f := 1) (t := 10) cf6 oc13 rfl rfl rfl (by decide) q628 dX6_knownBounds_15 ?_
      refine v_iload_n dX6_knownBounds_18 2 rfl rfl ?_
      obtain ⟨r5, s2, e3, h⟩ := bd_some h
      have k4 := c_X4_parts e3 rx2
      have r6 : rg r5 := k4.1.2.2
      refine v_callV (st := []) cf4 oc10 k4 (lw_V q1492 q1493 q1494 q301 q1495) rfl yk_X4_parts ⟨Nat.le_of_ble_eq_true rfl, Nat.le_of_ble_eq_true rfl⟩ trivial ⟨kc13, trivial⟩ (Nat.le_of_ble_eq_true rfl) rfl dX6_knownBounds_19 ?_
      refine v_istore_n (L1 := [(3, vI r5), (0, vO 13), (1, vI x1), (2, vI x2)]) dX6_knownBounds_22 rfl (by decide) rfl ?_
      refine v_sub [1, 2, 3, 0] (L1 := [(0, vO 13), (1, vI x1), (2, vI x2), (3, vI r5)]) rfl ?_
      obtain ⟨s7, e8, h⟩ := lq_0_some h
      refine wl_X6_knownBounds_23 rx1 rx2 FU r5 s2 _ e8 r6 ?_
      unfold E_X6_knownBounds_23
      intro s7' z_
      cases z_
      refine v_aload_n dX6_knownBounds_150 0 rfl rfl ?_
      refine v_getS (f := 1) (t := 10) cf6 oc13 rfl rfl rfl (by decide) q628 dX6_knownBounds_151 ?_
      refine v_iload_n dX6_knownBounds_154 2 rfl rfl ?_
      obtain ⟨r12, s9, e10, h⟩ := bd_some h
      have k11 := c_X4_next e10 rx2
      have r13 : rg r12 := k11.1.2.2
      refine v_callV (st := []) cf4 oc10 k11 (lw_V q1483 q1404 q1405 q301 q1406) rfl yk_X4_next ⟨Nat.le_of_ble_eq_true rfl, Nat.le_of_ble_eq_true rfl⟩ trivial ⟨kc13, trivial⟩ (Nat.le_of_ble_eq_true rfl) rfl dX6_knownBounds_155 ?_
      refine v_istore_n (L1 := [(2, vI r12), (0, vO 13), (1, vI x1)]) dX6_knownBounds_158 rfl (by decide) rfl ?_
      refine v_goto (tgt := 9) dX6_knownBounds_159 (by decide) ?_
      refine v_sub [1, 2, 0] (L1 := [(0, vO 13), (1, vI x1), (2, vI r12)]) rfl ?_
      exact ih r12 s9 _ h r13 hE

def f_X6_knownBounds (x1 : Int) (s : vS) : Option (vS) :=
  bd (f_X4_limits x1 s) fun r4 s1 =>
  lq_0 (l_X6_knownBounds_9 FU x1 r4 s1) fun s6 =>
  some s6
theorem yk_X6_knownBounds : yOk yX6_knownBounds 1 := ⟨by decide, by decide, by decide +kernel⟩
theorem c_X6_knownBounds {x1 : Int} {s : vS} {out : vS} (h : f_X6_knownBounds x1 s = some out)  (rx1 : rg x1) : VC yX6_knownBounds cX6_knownBounds 6 none 8 186 [vO 13, vI x1] s none out [] := by
  unfold f_X6_knownBounds at h
  refine VC.of RX6 (by decide) rfl (Nat.le_of_ble_eq_true rfl) ?_
  show VW cX6_knownBounds (RX6, none, out, none, 8, 186, 6, []) (P0 []) s 0 [(0, vO 13), (1, vI x1)] []
  refine v_aload_n dX6_knownBounds_0 0 rfl rfl ?_
  refine v_getS (f := 1) (t := 10) cf6 oc13 rfl rfl rfl (by decide) q628 dX6_knownBounds_1 ?_
  refine v_iload_n dX6_knownBounds_4 1 rfl rfl ?_
  obtain ⟨r4, s1, e2, h⟩ := bd_some h
  have k3 := c_X4_limits e2 rx1
  have r5 : rg r4 := k3.1.2.2
  refine v_callV (st := []) cf4 oc10 k3 (lw_V q1579 q1396 q1397 q301 q1398) rfl yk_X4_limits ⟨Nat.le_of_ble_eq_true rfl, Nat.le_of_ble_eq_true rfl⟩ trivial ⟨kc13, trivial⟩ (Nat.le_of_ble_eq_true rfl) rfl dX6_knownBounds_5 ?_
  refine v_istore_n (L1 := [(2, vI r4), (0, vO 13), (1, vI x1)]) dX6_knownBounds_8 rfl (by decide) rfl ?_
  refine v_sub [1, 2, 0] (L1 := [(0, vO 13), (1, vI x1), (2, vI r4)]) rfl ?_
  obtain ⟨s6, e7, h⟩ := lq_0_some h
  refine wl_X6_knownBounds_9 rx1 FU r4 s1 _ e7 r5 ?_
  unfold E_X6_knownBounds_9
  intro s6' z_
  cases z_
  cases h
  exact v_vret dX6_knownBounds_162

def E_X6_known_2 (rv : Option vA) (σo : vS) (q : vS) : Prop := ∀ (s' : vS), q = s' → VW cX6_known (RX6, rv, σo, (some .boolean), 9, 211, 2, []) (P0 []) s' 116 [(0, vO 13)] []
def j_X6_known_97 (rec : Int → vS → Option (vS)) (x1 : Int) (s : vS) : Option (vS) :=
  bd (f_X6_isType x1 s) fun r4 s1 =>
  if r4 = 0 then
    vl (w32 (x1 + 1)) fun y7 =>
    rec y7 s1
  else
    bdv (f_X6_knownBounds x1 s1) fun s10 =>
    vl (w32 (x1 + 1)) fun y13 =>
    rec y13 s10
theorem wj_X6_known_97 {x1 : Int} {s : vS} {rv : Option vA} {σo : vS} {rec : Int → vS → Option (vS)} {q : vS} (h : j_X6_known_97 rec x1 s = some q)  (rx1 : rg x1) (hrec : ∀ (y1 : Int) (s : vS) (q : vS), rec y1 s = some q → rg y1 → E_X6_known_2 rv σo q → VW cX6_known (RX6, rv, σo, (some .boolean), 9, 211, 2, []) (P0 []) s 2 [(0, vO 13), (1, vI y1)] []) (hE : E_X6_known_2 rv σo q) : VW cX6_known (RX6, rv, σo, (some .boolean), 9, 211, 2, []) (P0 []) s 97 [(0, vO 13), (1, vI x1)] [] := by
  unfold j_X6_known_97 at h
  refine v_aload_n dX6_known_97 0 rfl rfl ?_
  refine v_iload_n dX6_known_98 1 rfl rfl ?_
  obtain ⟨r4, s1, e2, h⟩ := bd_some h
  have k3 := c_X6_isType e2 rx1
  have r5 : rg r4 := k3.1.2.2
  refine v_callV (st := []) cf6 oc13 k3 (lw_V q1488 q1490 qs47 q303 q1491) rfl yk_X6_isType ⟨Nat.le_of_ble_eq_true rfl, Nat.le_of_ble_eq_true rfl⟩ trivial ⟨kc13, trivial⟩ (Nat.le_of_ble_eq_true rfl) rfl dX6_known_99 ?_
  refine v_if_eq (tgt := 110) dX6_known_102 r5 (by decide) (fun c6 => ?_) (fun c6 => ?_)
  · rw [if_pos c6] at h
    obtain ⟨y7, e8, h⟩ := vl_some h
    refine v_iinc (L1 := [(1, vI (w32 (x1 + 1))), (0, vO 13)]) dX6_known_110 1 rfl (by decide) rfl ?_
    rw [← e8]
    have r9 : rg y7 := by rw [e8]; exact w32_rg _
    refine v_goto (tgt := 2) dX6_known_113 (by decide) ?_
    refine v_sub [1, 0] (L1 := [(0, vO 13), (1, vI y7)]) rfl ?_
    exact hrec y7 s1 _ h r9 hE
  · rw [if_neg c6] at h
    refine v_aload_n dX6_known_105 0 rfl rfl ?_
    refine v_iload_n dX6_known_106 1 rfl rfl ?_
    obtain ⟨s10, e11, h⟩ := bdv_some h
    have k12 := c_X6_knownBounds e11 rx1
    refine v_callV (st := []) cf6 oc13 k12 (lw_V q1597 q1599 qs62 q303 q1600) rfl yk_X6_knownBounds ⟨Nat.le_of_ble_eq_true rfl, Nat.le_of_ble_eq_true rfl⟩ trivial ⟨kc13, trivial⟩ (Nat.le_of_ble_eq_true rfl) rfl dX6_known_107 ?_
    obtain ⟨y13, e14, h⟩ := vl_some h
    refine v_iinc (L1 := [(1, vI (w32 (x1 + 1))), (0, vO 13)]) dX6_known_110 1 rfl (by decide) rfl ?_
    rw [← e14]
    have r15 : rg y13 := by rw [e14]; exact w32_rg _
    refine v_goto (tgt := 2) dX6_known_113 (by decide) ?_
    refine v_sub [1, 0] (L1 := [(0, vO 13), (1, vI y13)]) rfl ?_
    exact hrec y13 s10 _ h r15 hE

def j_X6_known_77 (rec : Int → vS → Option (vS)) (x1 : Int) (s : vS) : Option (vS) :=
  bd (f_X4_limits x1 s) fun r4 s1 =>
  bd (f_X4_parts x1 s1) fun r9 s6 =>
  bdv (f_X6_knownValue r4 r9 s6) fun s11 =>
  j_X6_known_97 rec x1 s11
theorem wj_X6_known_77 {x1 : Int} {s : vS} {rv : Option vA} {σo : vS} {rec : Int → vS → Option (vS)} {q : vS} (h : j_X6_known_77 rec x1 s = some q)  (rx1 : rg x1) (hrec : ∀ (y1 : Int) (s : vS) (q : vS), rec y1 s = some q → rg y1 → E_X6_known_2 rv σo q → VW cX6_known (RX6, rv, σo, (some .boolean), 9, 211, 2, []) (P0 []) s 2 [(0, vO 13), (1, vI y1)] []) (hE : E_X6_known_2 rv σo q) : VW cX6_known (RX6, rv, σo, (some .boolean), 9, 211, 2, []) (P0 []) s 77 [(0, vO 13), (1, vI x1)] [] := by
  unfold j_X6_known_77 at h
  refine v_aload_n dX6_known_77 0 rfl rfl ?_
  refine v_aload_n dX6_known_78 0 rfl rfl ?_
  refine v_getS (f := 1) (t := 10) cf6 oc13 rfl rfl rfl (by decide) q628 dX6_known_79 ?_
  refine v_iload_n dX6_known_82 1 rfl rfl ?_
  obtain ⟨r4, s1, e2, h⟩ := bd_some h
  have k3 := c_X4_limits e2 rx1
  have r5 : rg r4 := k3.1.2.2
  refine v_callV (st := [vO 13]) cf4 oc10 k3 (lw_V q1579 q1396 q1397 q301 q1398) rfl yk_X4_limits ⟨Nat.le_of_ble_eq_true rfl, Nat.le_of_ble_eq_true rfl⟩ ⟨kc13, trivial⟩ ⟨kc13, trivial⟩ (Nat.le_of_ble_eq_true rfl) rfl dX6_known_83 ?_
  refine v_aload_n dX6_known_86 0 rfl rfl ?_
  refine v_getS (f := 1) (t := 10) cf6 oc13 rfl rfl rfl (by decide) q628 dX6_known_87 ?_
  refine v_iload_n dX6_known_90 1 rfl rfl ?_
  obtain ⟨r9, s6, e7, h⟩ := bd_some h
  have k8 := c_X4_parts e7 rx1
  have r10 : rg r9 := k8.1.2.2
  refine v_callV (st := [vI r4, vO 13]) cf4 oc10 k8 (lw_V q1492 q1493 q1494 q301 q1495) rfl yk_X4_parts ⟨Nat.le_of_ble_eq_true rfl, Nat.le_of_ble_eq_true rfl⟩ ⟨kc13, trivial⟩ ⟨kc13, trivial⟩ (Nat.le_of_ble_eq_true rfl) rfl dX6_known_91 ?_
  obtain ⟨s11, e12, h⟩ := bdv_some h
  have k13 := c_X6_knownValue e12 r5 r10
  refine v_callV (st := []) cf6 oc13 k13 (lw_V q1580 q1582 qs58 q303 q1583) rfl yk_X6_knownValue ⟨Nat.le_of_ble_eq_true rfl, Nat.le_of_ble_eq_true rfl⟩ trivial ⟨kc13, trivial⟩ (Nat.le_of_ble_eq_true rfl) rfl dX6_known_94 ?_
  exact wj_X6_known_97 h rx1 hrec hE

def j_X6_known_51 (rec : Int → vS → Option (vS)) (x1 : Int) (s : vS) : Option (vS) :=
  bd (f_X4_kind x1 s) fun r4 s1 =>
  if r4 = 22 then
    j_X6_known_77 rec x1 s1
  else
    bd (f_X4_kind x1 s1) fun r10 s7 =>
    if r10 = 29 then
      j_X6_known_77 rec x1 s7
    else
      j_X6_known_97 rec x1 s7
theorem wj_X6_known_51 {x1 : Int} {s : vS} {rv : Option vA} {σo : vS} {rec : Int → vS → Option (vS)} {q : vS} (h : j_X6_known_51 rec x1 s = some q)  (rx1 : rg x1) (hrec : ∀ (y1 : Int) (s : vS) (q : vS), rec y1 s = some q → rg y1 → E_X6_known_2 rv σo q → VW cX6_known (RX6, rv, σo, (some .boolean), 9, 211, 2, []) (P0 []) s 2 [(0, vO 13), (1, vI y1)] []) (hE : E_X6_known_2 rv σo q) : VW cX6_known (RX6, rv, σo, (some .boolean), 9, 211, 2, []) (P0 []) s 51 [(0, vO 13), (1, vI x1)] [] := by
  unfold j_X6_known_51 at h
  refine v_aload_n dX6_known_51 0 rfl rfl ?_
  refine v_getS (f := 1) (t := 10) cf6 oc13 rfl rfl rfl (by decide) q628 dX6_known_52 ?_
  refine v_iload_n dX6_known_55 1 rfl rfl ?_
  obtain ⟨r4, s1, e2, h⟩ := bd_some h
  have k3 := c_X4_kind e2 rx1
  have r5 : rg r4 := k3.1.2.2
  refine v_callV (st := []) cf4 oc10 k3 (lw_V q1445 q1446 q1447 q301 q1448) rfl yk_X4_kind ⟨Nat.le_of_ble_eq_true rfl, Nat.le_of_ble_eq_true rfl⟩ trivial ⟨kc13, trivial⟩ (Nat.le_of_ble_eq_true rfl) rfl dX6_known_56 ?_
  refine v_bipush dX6_known_59 rfl ?_
  refine v_icmp_eq (tgt := 77) dX6_known_61 r5 (rgl rfl) (by decide) (fun c6 => ?_) (fun c6 => ?_)
  · rw [if_pos c6] at h
    exact wj_X6_known_77 h rx1 hrec hE
  · rw [if_neg c6] at h
    refine v_aload_n dX6_known_64 0 rfl rfl ?_
    refine v_getS (f := 1) (t := 10) cf6 oc13 rfl rfl rfl (by decide) q628 dX6_known_65 ?_
    refine v_iload_n dX6_known_68 1 rfl rfl ?_
    obtain ⟨r10, s7, e8, h⟩ := bd_some h
    have k9 := c_X4_kind e8 rx1
    have r11 : rg r10 := k9.1.2.2
    refine v_callV (st := []) cf4 oc10 k9 (lw_V q1445 q1446 q1447 q301 q1448) rfl yk_X4_kind ⟨Nat.le_of_ble_eq_true rfl, Nat.le_of_ble_eq_true rfl⟩ trivial ⟨kc13, trivial⟩ (Nat.le_of_ble_eq_true rfl) rfl dX6_known_69 ?_
    refine v_bipush dX6_known_72 rfl ?_
    refine v_icmp_ne (tgt := 97) dX6_known_74 r11 (rgl rfl) (by decide) (fun c12 => ?_) (fun c12 => ?_)
    · rw [if_neg c12] at h
      exact wj_X6_known_97 h rx1 hrec hE
    · rw [if_pos c12] at h
      exact wj_X6_known_77 h rx1 hrec hE

def l_X6_known_2 : Nat → Int → vS → Option (vS)
  | 0, _, _ => none
  | n + 1, x1, s =>
    bd (f_X4_size s) fun r4 s1 =>
    if r4 ≤ x1 then
      some s1
    else
      bd (f_X4_kind x1 s1) fun r10 s7 =>
      if r10 = 17 then
        bd (f_X6_assignedType x1 s7) fun r16 s13 =>
        if r16 = (-1) then
          bd (f_X4_at x1 7 s13) fun r22 s19 =>
          bdv (f_X6_blame 6 r22 s19) fun s24 =>
          j_X6_known_51 (l_X6_known_2 n) x1 s24
        else
          j_X6_known_51 (l_X6_known_2 n) x1 s13
      else
        j_X6_known_51 (l_X6_known_2 n) x1 s7
theorem wl_X6_known_2 {rv : Option vA} {σo : vS}  : ∀ (n : Nat) (x1 : Int) (s : vS) (q : vS), l_X6_known_2 n x1 s = some q → rg x1 → E_X6_known_2 rv σo q → VW cX6_known (RX6, rv, σo, (some .boolean), 9, 211, 2, []) (P0 []) s 2 [(0, vO 13), (1, vI x1)] [] := by
  intro n
  induction n with
  | zero => intro x1 s q h; cases h
  | succ n ih =>
    intro x1 s q h rx1 hE
    unfold l_X6_known_2 at h
    refine v_iload_n dX6_known_2 1 rfl rfl ?_
    refine v_aload_n dX6_known_3 0 rfl rfl ?_
    refine v_getS (f := 1) (t := 10) cf6 oc13 rfl rfl rfl (by decide) q628 dX6_known_4 ?_
    obtain ⟨r4, s1, e2, h⟩ := bd_some h
    have k3 := c_X4_size e2
    have r5 : rg r4 := k3.1.2.2
    refine v_callV (st := [vI x1]) cf4 oc10 k3 (lw_V q1427 q1428 q1429 q301 q1430) rfl yk_X4_size ⟨Nat.le_of_ble_eq_true rfl, Nat.le_of_ble_eq_true rfl⟩ trivial ⟨kc13, trivial⟩ (Nat.le_of_ble_eq_true rfl) rfl dX6_known_7 ?_
    refine v_icmp_ge (tgt := 116) dX6_known_10 rx1 r5 (by decide) (fun c6 => ?_) (fun c6 => ?_)
    · rw [if_pos c6] at h
      cases h
      refine v_sub [0] (L1 := [(0, vO 13)]) rfl ?_
      exact hE _ rfl 
    · rw [if_neg c6] at h
      refine v_aload_n dX6_known_13 0 rfl rfl ?_
      refine v_getS (f := 1) (t := 10) cf6 oc13 rfl rfl rfl (by decide) q628 dX6_known_14 ?_
      refine v_iload_n dX6_known_17 1 rfl rfl ?_
      obtain ⟨r10, s7, e8, h⟩ := bd_some h
      have k9 := c_X4_kind e8 rx1
      have r11 : rg r10 := k9.1.2.2
      refine v_callV (st := []) cf4 oc10 k9 (lw_V q1445 q1446 q1447 q301 q1448) rfl yk_X4_kind ⟨Nat.le_of_ble_eq_true rfl, Nat.le_of_ble_eq_true rfl⟩ trivial ⟨kc13, trivial⟩ (Nat.le_of_ble_eq_true rfl) rfl dX6_known_18 ?_
      refine v_bipush dX6_known_21 rfl ?_
      refine v_icmp_ne (tgt := 51) dX6_known_23 r11 (rgl rfl) (by decide) (fun c12 => ?_) (fun c12 => ?_)
      · rw [if_neg c12] at h
        exact wj_X6_known_51 h rx1 ih hE
      · rw [if_pos c12] at h
        refine v_aload_n dX6_known_26 0 rfl rfl ?_
        refine v_iload_n dX6_known_27 1 rfl rfl ?_
        obtain ⟨r16, s13, e14, h⟩ := bd_some h
        have k15 := c_X6_assignedType e14 rx1
        have r17 : rg r16 := k15.1.2.2
        refine v_callV (st := []) cf6 oc13 k15 (lw_V q1571 q1573 qs57 q303 q1574) rfl yk_X6_assignedType ⟨Nat.le_of_ble_eq_true rfl, Nat.le_of_ble_eq_true rfl⟩ trivial ⟨kc13, trivial⟩ (Nat.le_of_ble_eq_true rfl) rfl dX6_known_28 ?_
        refine v_iconst dX6_known_31 ?_
        refine v_icmp_ne (tgt := 51) dX6_known_32 r17 (rgl rfl) (by decide) (fun c18 => ?_) (fun c18 => ?_)
        · rw [if_neg c18] at h
          exact wj_X6_known_51 h rx1 ih hE
        · rw [if_pos c18] at h
          refine v_aload_n dX6_known_35 0 rfl rfl ?_
          refine v_bipush dX6_known_36 rfl ?_
          refine v_aload_n dX6_known_38 0 rfl rfl ?_
          refine v_getS (f := 1) (t := 10) cf6 oc13 rfl rfl rfl (by decide) q628 dX6_known_39 ?_
          refine v_iload_n dX6_known_42 1 rfl rfl ?_
          refine v_bipush dX6_known_43 rfl ?_
          obtain ⟨r22, s19, e20, h⟩ := bd_some h
          have k21 := c_X4_at e20 rx1 (rgl rfl)
          have r23 : rg r22 := k21.1.2.2
          refine v_callV (st := [vI 6, vO 13]) cf4 oc10 k21 (lw_V q1500 q1400 q1401 q301 q1402) rfl yk_X4_at ⟨Nat.le_of_ble_eq_true rfl, Nat.le_of_ble_eq_true rfl⟩ ⟨kc13, trivial⟩ ⟨kc13, trivial⟩ (Nat.le_of_ble_eq_true rfl) rfl dX6_known_45 ?_
          obtain ⟨s24, e25, h⟩ := bdv_some h
          have k26 := c_X6_blame e25 (rgl rfl) r23
          refine v_callV (st := []) cf6 oc13 k26 (lw_V q1478 q1480 qs45 q303 q1481) rfl yk_X6_blame ⟨Nat.le_of_ble_eq_true rfl, Nat.le_of_ble_eq_true rfl⟩ trivial ⟨kc13, trivial⟩ (Nat.le_of_ble_eq_true rfl) rfl dX6_known_48 ?_
          exact wj_X6_known_51 h rx1 ih hE

def f_X6_known (s : vS) : Option (Int × vS) :=
  lq_0 (l_X6_known_2 FU 0 s) fun s1 =>
  if (gI s1 13 20) = 0 then
    some (1, s1)
  else
    some (0, s1)
theorem yk_X6_known : yOk yX6_known 0 := ⟨by decide, by decide, by decide +kernel⟩
theorem c_X6_known {s : vS} {out : Int × vS} (h : f_X6_known s = some out)   : VC yX6_known cX6_known 2 (some .boolean) 9 211 [vO 13] s (some (vI out.1)) out.2 [] := by
  unfold f_X6_known at h
  refine VC.of RX6 (by decide) rfl (Nat.le_of_ble_eq_true rfl) ?_
  show VW cX6_known (RX6, (some (vI out.1)), out.2, (some .boolean), 9, 211, 2, []) (P0 []) s 0 [(0, vO 13)] []
  refine v_iconst dX6_known_0 ?_
  refine v_istore_n (L1 := [(1, vI 0), (0, vO 13)]) dX6_known_1 rfl (by decide) rfl ?_
  refine v_sub [1, 0] (L1 := [(0, vO 13), (1, vI 0)]) rfl ?_
  obtain ⟨s1, e2, h⟩ := lq_0_some h
  refine wl_X6_known_2  FU 0 s _ e2 (rgl rfl) ?_
  unfold E_X6_known_2
  intro s1' z_
  cases z_
  refine v_aload_n dX6_known_116 0 rfl rfl ?_
  refine v_getI (f := 20) cf6 oc13 rfl (by decide) q647 dX6_known_117 ?_
  refine v_if_ne (tgt := 127) dX6_known_120 (gI_rg _ _ _) (by decide) (fun c3 => ?_) (fun c3 => ?_)
  · rw [if_neg c3] at h
    refine v_iconst dX6_known_127 ?_
    cases h
    exact v_zret (Or.inl rfl) dX6_known_128
  · rw [if_pos c3] at h
    refine v_iconst dX6_known_123 ?_
    refine v_goto (tgt := 128) dX6_known_124 (by decide) ?_
    cases h
    exact v_zret (Or.inr rfl) dX6_known_128

abbrev RT_X6_isFinite : Type := Int → vS → Option (Int × vS)
def HR_X6_isFinite (fr lr : Nat) (rcf : RT_X6_isFinite) : Prop := ∀ (x1 : Int) (s : vS) (out : Int × vS), rcf x1 s = some out → rg x1 → VC yX6_isFinite cX6_isFinite 4 (some .boolean) fr lr [vO 13, vI x1] s (some (vI out.1)) out.2 []
theorem yk_X6_isFinite : yOk yX6_isFinite 1 := ⟨by decide, by decide, by decide +kernel⟩
def E_X6_isFinite_68 (fr : Nat) (lr : Nat) (rcf : RT_X6_isFinite) (rv : Option vA) (σo : vS) (q : (vS) ⊕ (Int × vS)) : Prop := (∀ (s' : vS), q = .inl s' → VW cX6_isFinite (RX6, rv, σo, (some .boolean), (fr + 5), (lr + 116), 4, []) (P0 []) s' 114 [] []) ∧ (∀ (v : Int) (s' : vS), q = .inr (v, s') → rv = some (vI v) ∧ σo = s')
def j_X6_isFinite_102 (fr : Nat) (lr : Nat) (rcf : RT_X6_isFinite) (rec : Int → vS → Option ((vS) ⊕ (Int × vS))) (x3 : Int) (s : vS) : Option ((vS) ⊕ (Int × vS)) :=
  bd (f_X4_next x3 s) fun r4 s1 =>
  rec r4 s1
theorem wj_X6_isFinite_102 {fr : Nat} {lr : Nat} {rcf : RT_X6_isFinite} {x3 : Int} {s : vS} {rv : Option vA} {σo : vS} {rec : Int → vS → Option ((vS) ⊕ (Int × vS))} {q : (vS) ⊕ (Int × vS)} (h : j_X6_isFinite_102 fr lr rcf rec x3 s = some q) (hrcf : HR_X6_isFinite fr lr rcf) (rx3 : rg x3) (hrec : ∀ (y3 : Int) (s : vS) (q : (vS) ⊕ (Int × vS)), rec y3 s = some q → rg y3 → E_X6_isFinite_68 fr lr rcf rv σo q → VW cX6_isFinite (RX6, rv, σo, (some .boolean), (fr + 5), (lr + 116), 4, []) (P0 []) s 68 [(0, vO 13), (3, vI y3)] []) (hE : E_X6_isFinite_68 fr lr rcf rv σo q) : VW cX6_isFinite (RX6, rv, σo, (some .boolean), (fr + 5), (lr + 116), 4, []) (P0 []) s 102 [(0, vO 13), (3, vI x3)] [] := by
  unfold j_X6_isFinite_102 at h
  refine v_aload_n dX6_isFinite_102 0 rfl rfl ?_
  refine v_getS (f := 1) (t := 10) cf6 oc13 rfl rfl rfl (by decide) q628 dX6_isFinite_103 ?_
  refine v_iload_n dX6_isFinite_106 1 rfl rfl ?_
  obtain ⟨r4, s1, e2, h⟩ := bd_some h
  have k3 := c_X4_next e2 rx3
  have r5 : rg r4 := k3.1.2.2
  refine v_callV (st := []) cf4 oc10 k3 (lw_V q1483 q1404 q1405 q301 q1406) rfl yk_X4_next ⟨by omega, by omega⟩ trivial ⟨kc13, trivial⟩ (Nat.le_of_ble_eq_true rfl) rfl dX6_isFinite_107 ?_
  refine v_istore_n (L1 := [(3, vI r4), (0, vO 13)]) dX6_isFinite_110 rfl (by decide) rfl ?_
  refine v_goto (tgt := 68) dX6_isFinite_111 (by decide) ?_
  refine v_sub [1, 0] (L1 := [(0, vO 13), (3, vI r4)]) rfl ?_
  exact hrec r4 s1 _ h r5 hE

def l_X6_isFinite_68 (fr : Nat) (lr : Nat) (rcf : RT_X6_isFinite) : Nat → Int → vS → Option ((vS) ⊕ (Int × vS))
  | 0, _, _ => none
  | n + 1, x3, s =>
    if x3 = (-1) then
      some (.inl s)
    else
      bd (f_X4_at x3 5 s) fun r5 s2 =>
      if r5 = 0 then
        bd (f_X4_parts x3 s2) fun r11 s8 =>
        bd (rcf r11 s8) fun r16 s13 =>
        if r16 = 0 then
          some (.inr (0, s13))
        else
          j_X6_isFinite_102 fr lr rcf (l_X6_isFinite_68 fr lr rcf n) x3 s13
      else
        j_X6_isFinite_102 fr lr rcf (l_X6_isFinite_68 fr lr rcf n) x3 s2
theorem wl_X6_isFinite_68 (fr : Nat) (lr : Nat) (rcf : RT_X6_isFinite) {rv : Option vA} {σo : vS} (hrcf : HR_X6_isFinite fr lr rcf) : ∀ (n : Nat) (x3 : Int) (s : vS) (q : (vS) ⊕ (Int × vS)), l_X6_isFinite_68 fr lr rcf n x3 s = some q → rg x3 → E_X6_isFinite_68 fr lr rcf rv σo q → VW cX6_isFinite (RX6, rv, σo, (some .boolean), (fr + 5), (lr + 116), 4, []) (P0 []) s 68 [(0, vO 13), (3, vI x3)] [] := by
  intro n
  induction n with
  | zero => intro x3 s q h; cases h
  | succ n ih =>
    intro x3 s q h rx3 hE
    unfold l_X6_isFinite_68 at h
    refine v_iload_n dX6_isFinite_68 1 rfl rfl ?_
    refine v_iconst dX6_isFinite_69 ?_
    refine v_icmp_eq (tgt := 114) dX6_isFinite_70 rx3 (rgl rfl) (by decide) (fun c1 => ?_) (fun c1 => ?_)
    · rw [if_pos c1] at h
      cases h
      refine v_sub [] (L1 := []) rfl ?_
      exact hE.1 _ rfl 
    · rw [if_neg c1] at h
      refine v_aload_n dX6_isFinite_73 0 rfl rfl ?_
      refine v_getS (f := 1) (t := 10) cf6 oc13 rfl rfl rfl (by decide) q628 dX6_isFinite_74 ?_
      refine v_iload_n dX6_isFinite_77 1 rfl rfl ?_
      refine v_iconst dX6_isFinite_78 ?_
      obtain ⟨r5, s2, e3, h⟩ := bd_some h
      have k4 := c_X4_at e3 rx3 (rgl rfl)
      have r6 : rg r5 := k4.1.2.2
      refine v_callV (st := []) cf4 oc10 k4 (lw_V q1500 q1400 q1401 q301 q1402) rfl yk_X4_at ⟨by omega, by omega⟩ trivial ⟨kc13, trivial⟩ (Nat.le_of_ble_eq_true rfl) rfl dX6_isFinite_79 ?_
      refine v_if_ne (tgt := 102) dX6_isFinite_82 r6 (by decide) (fun c7 => ?_) (fun c7 => ?_)
      · rw [if_neg c7] at h
        exact wj_X6_isFinite_102 h hrcf rx3 ih hE
      · rw [if_pos c7] at h
        refine v_aload_n dX6_isFinite_85 0 rfl rfl ?_
        refine v_aload_n dX6_isFinite_86 0 rfl rfl ?_
        refine v_getS (f := 1) (t := 10) cf6 oc13 rfl rfl rfl (by decide) q628 dX6_isFinite_87 ?_
        refine v_iload_n dX6_isFinite_90 1 rfl rfl ?_
        obtain ⟨r11, s8, e9, h⟩ := bd_some h
        have k10 := c_X4_parts e9 rx3
        have r12 : rg r11 := k10.1.2.2
        refine v_callV (st := [vO 13]) cf4 oc10 k10 (lw_V q1492 q1493 q1494 q301 q1495) rfl yk_X4_parts ⟨by omega, by omega⟩ ⟨kc13, trivial⟩ ⟨kc13, trivial⟩ (Nat.le_of_ble_eq_true rfl) rfl dX6_isFinite_91 ?_
        obtain ⟨r16, s13, e14, h⟩ := bd_some h
        have k15 := hrcf _ _ _ e14 r12
        have r17 : rg r16 := k15.1.2.2
        refine v_callV (st := []) cf6 oc13 k15 (lw_V q1605 q1607 qs64 q303 q1608) rfl yk_X6_isFinite ⟨by omega, by omega⟩ trivial ⟨kc13, trivial⟩ (Nat.le_of_ble_eq_true rfl) rfl dX6_isFinite_94 ?_
        refine v_if_ne (tgt := 102) dX6_isFinite_97 r17 (by decide) (fun c18 => ?_) (fun c18 => ?_)
        · rw [if_neg c18] at h
          exact wj_X6_isFinite_102 h hrcf rx3 ih hE
        · rw [if_pos c18] at h
          refine v_iconst dX6_isFinite_100 ?_
          cases h
          obtain ⟨z1, z2⟩ := hE.2 _ _ rfl
          subst z1
          subst z2
          exact v_zret (Or.inl rfl) dX6_isFinite_101

def j_X6_isFinite_59 (fr : Nat) (lr : Nat) (rcf : RT_X6_isFinite) (x1 : Int) (s : vS) : Option (Int × vS) :=
  bd (f_X4_parts x1 s) fun r4 s1 =>
  lqs_0 (l_X6_isFinite_68 fr lr rcf FU r4 s1) (fun s6 =>
    some (1, s6))
    (fun q => some q)
theorem wj_X6_isFinite_59 {fr : Nat} {lr : Nat} {rcf : RT_X6_isFinite} {x1 : Int} {s : vS} {out : Int × vS} (h : j_X6_isFinite_59 fr lr rcf x1 s = some out) (hrcf : HR_X6_isFinite fr lr rcf) (rx1 : rg x1) : VW cX6_isFinite (RX6, (some (vI out.1)), out.2, (some .boolean), (fr + 5), (lr + 116), 4, []) (P0 []) s 59 [(0, vO 13), (1, vI x1)] [] := by
  unfold j_X6_isFinite_59 at h
  refine v_aload_n dX6_isFinite_59 0 rfl rfl ?_
  refine v_getS (f := 1) (t := 10) cf6 oc13 rfl rfl rfl (by decide) q628 dX6_isFinite_60 ?_
  refine v_iload_n dX6_isFinite_63 1 rfl rfl ?_
  obtain ⟨r4, s1, e2, h⟩ := bd_some h
  have k3 := c_X4_parts e2 rx1
  have r5 : rg r4 := k3.1.2.2
  refine v_callV (st := []) cf4 oc10 k3 (lw_V q1492 q1493 q1494 q301 q1495) rfl yk_X4_parts ⟨by omega, by omega⟩ trivial ⟨kc13, trivial⟩ (Nat.le_of_ble_eq_true rfl) rfl dX6_isFinite_64 ?_
  refine v_istore_n (L1 := [(3, vI r4), (0, vO 13), (1, vI x1)]) dX6_isFinite_67 rfl (by decide) rfl ?_
  refine v_sub [1, 0] (L1 := [(0, vO 13), (3, vI r4)]) rfl ?_
  rcases lqs_0_some h with ⟨s6, e7, h⟩ | ⟨q9, e7, h⟩
  · refine wl_X6_isFinite_68 fr lr rcf hrcf FU r4 s1 _ e7 r5 ?_
    unfold E_X6_isFinite_68
    refine ⟨?_, fun v9 s9 z_ => (by cases z_)⟩
    intro s6' z_
    cases z_
    refine v_iconst dX6_isFinite_114 ?_
    cases h
    exact v_zret (Or.inr rfl) dX6_isFinite_115
  · cases h
    refine wl_X6_isFinite_68 fr lr rcf hrcf FU r4 s1 _ e7 r5 ?_
    unfold E_X6_isFinite_68
    refine ⟨fun _ z_ => (by cases z_), ?_⟩
    intro v9 s9 z_
    cases z_
    exact ⟨rfl, rfl⟩

def E_X6_isFinite_131 (fr : Nat) (lr : Nat) (rcf : RT_X6_isFinite) (rv : Option vA) (σo : vS) (q : (vS) ⊕ (Int × vS)) : Prop := (∀ (s' : vS), q = .inl s' → VW cX6_isFinite (RX6, rv, σo, (some .boolean), (fr + 5), (lr + 116), 4, []) (P0 []) s' 165 [] []) ∧ (∀ (v : Int) (s' : vS), q = .inr (v, s') → rv = some (vI v) ∧ σo = s')
def l_X6_isFinite_131 (fr : Nat) (lr : Nat) (rcf : RT_X6_isFinite) : Nat → Int → vS → Option ((vS) ⊕ (Int × vS))
  | 0, _, _ => none
  | n + 1, x3, s =>
    if x3 = (-1) then
      some (.inl s)
    else
      bd (f_X4_parts x3 s) fun r5 s2 =>
      bd (rcf r5 s2) fun r10 s7 =>
      if r10 = 0 then
        bd (f_X4_next x3 s7) fun r16 s13 =>
        l_X6_isFinite_131 fr lr rcf n r16 s13
      else
        some (.inr (1, s7))
theorem wl_X6_isFinite_131 (fr : Nat) (lr : Nat) (rcf : RT_X6_isFinite) {rv : Option vA} {σo : vS} (hrcf : HR_X6_isFinite fr lr rcf) : ∀ (n : Nat) (x3 : Int) (s : vS) (q : (vS) ⊕ (Int × vS)), l_X6_isFinite_131 fr lr rcf n x3 s = some q → rg x3 → E_X6_isFinite_131 fr lr rcf rv σo q → VW cX6_isFinite (RX6, rv, σo, (some .boolean), (fr + 5), (lr + 116), 4, []) (P0 []) s 131 [(0, vO 13), (3, vI x3)] [] := by
  intro n
  induction n with
  | zero => intro x3 s q h; cases h
  | succ n ih =>
    intro x3 s q h rx3 hE
    unfold l_X6_isFinite_131 at h
    refine v_iload_n dX6_isFinite_131 1 rfl rfl ?_
    refine v_iconst dX6_isFinite_132 ?_
    refine v_icmp_eq (tgt := 165) dX6_isFinite_133 rx3 (rgl rfl) (by decide) (fun c1 => ?_) (fun c1 => ?_)
    · rw [if_pos c1] at h
      cases h
      refine v_sub [] (L1 := []) rfl ?_
      exact hE.1 _ rfl 
    · rw [if_neg c1] at h
      refine v_aload_n dX6_isFinite_136 0 rfl rfl ?_
      refine v_aload_n dX6_isFinite_137 0 rfl rfl ?_
      refine v_getS (f := 1) (t := 10) cf6 oc13 rfl rfl rfl (by decide) q628 dX6_isFinite_138 ?_
      refine v_iload_n dX6_isFinite_141 1 rfl rfl ?_
      obtain ⟨r5, s2, e3, h⟩ := bd_some h
      have k4 := c_X4_parts e3 rx3
      have r6 : rg r5 := k4.1.2.2
      refine v_callV (st := [vO 13]) cf4 oc10 k4 (lw_V q1492 q1493 q1494 q301 q1495) rfl yk_X4_parts ⟨by omega, by omega⟩ ⟨kc13, trivial⟩ ⟨kc13, trivial⟩ (Nat.le_of_ble_eq_true rfl) rfl dX6_isFinite_142 ?_
      obtain ⟨r10, s7, e8, h⟩ := bd_some h
      have k9 := hrcf _ _ _ e8 r6
      have r11 : rg r10 := k9.1.2.2
      refine v_callV (st := []) cf6 oc13 k9 (lw_V q1605 q1607 qs64 q303 q1608) rfl yk_X6_isFinite ⟨by omega, by omega⟩ trivial ⟨kc13, trivial⟩ (Nat.le_of_ble_eq_true rfl) rfl dX6_isFinite_145 ?_
      refine v_if_eq (tgt := 153) dX6_isFinite_148 r11 (by decide) (fun c12 => ?_) (fun c12 => ?_)
      · rw [if_pos c12] at h
        refine v_aload_n dX6_isFinite_153 0 rfl rfl ?_
        refine v_getS (f := 1) (t := 10) cf6 oc13 rfl rfl rfl (by decide) q628 dX6_isFinite_154 ?_
        refine v_iload_n dX6_isFinite_157 1 rfl rfl ?_
        obtain ⟨r16, s13, e14, h⟩ := bd_some h
        have k15 := c_X4_next e14 rx3
        have r17 : rg r16 := k15.1.2.2
        refine v_callV (st := []) cf4 oc10 k15 (lw_V q1483 q1404 q1405 q301 q1406) rfl yk_X4_next ⟨by omega, by omega⟩ trivial ⟨kc13, trivial⟩ (Nat.le_of_ble_eq_true rfl) rfl dX6_isFinite_158 ?_
        refine v_istore_n (L1 := [(3, vI r16), (0, vO 13)]) dX6_isFinite_161 rfl (by decide) rfl ?_
        refine v_goto (tgt := 131) dX6_isFinite_162 (by decide) ?_
        refine v_sub [1, 0] (L1 := [(0, vO 13), (3, vI r16)]) rfl ?_
        exact ih r16 s13 _ h r17 hE
      · rw [if_neg c12] at h
        refine v_iconst dX6_isFinite_151 ?_
        cases h
        obtain ⟨z1, z2⟩ := hE.2 _ _ rfl
        subst z1
        subst z2
        exact v_zret (Or.inr rfl) dX6_isFinite_152

def f_X6_isFinite (fr : Nat) (lr : Nat) (rcf : RT_X6_isFinite) (x1 : Int) (s : vS) : Option (Int × vS) :=
  bd (f_X4_kind x1 s) fun r4 s1 =>
  if r4 = 17 then
    bd (f_X4_at x1 7 s1) fun r20 s17 =>
    gd (gN s17 38 = gN s1 38) <|
    bd (f_X9_find 19 r20 s17) fun r26 s23 =>
    gd (gN s23 38 = gN s17 38) <|
    gd (inb r26 (gN s23 38)) <|
    if (gE s23 38 r26) = 1 then
      some (1, s23)
    else
      some (0, s23)
  else
    if r4 = 12 then
      j_X6_isFinite_59 fr lr rcf x1 s1
    else
      if r4 = 13 then
        j_X6_isFinite_59 fr lr rcf x1 s1
      else
        if r4 = 16 then
          bd (f_X4_parts x1 s1) fun r13 s10 =>
          lqs_0 (l_X6_isFinite_131 fr lr rcf FU r13 s10) (fun s15 =>
            some (0, s15))
            (fun q => some q)
        else
          some (1, s1)
theorem c_X6_isFinite {fr : Nat} {lr : Nat} {rcf : RT_X6_isFinite} {x1 : Int} {s : vS} {out : Int × vS} (h : f_X6_isFinite fr lr rcf x1 s = some out) (hrcf : HR_X6_isFinite fr lr rcf) (rx1 : rg x1) : VC yX6_isFinite cX6_isFinite 4 (some .boolean) (fr + 5) (lr + 116) [vO 13, vI x1] s (some (vI out.1)) out.2 [] := by
  unfold f_X6_isFinite at h
  refine VC.of RX6 (by decide) rfl (Nat.le_of_ble_eq_true rfl) ?_
  show VW cX6_isFinite (RX6, (some (vI out.1)), out.2, (some .boolean), (fr + 5), (lr + 116), 4, []) (P0 []) s 0 [(0, vO 13), (1, vI x1)] []
  refine v_aload_n dX6_isFinite_0 0 rfl rfl ?_
  refine v_getS (f := 1) (t := 10) cf6 oc13 rfl rfl rfl (by decide) q628 dX6_isFinite_1 ?_
  refine v_iload_n dX6_isFinite_4 1 rfl rfl ?_
  obtain ⟨r4, s1, e2, h⟩ := bd_some h
  have k3 := c_X4_kind e2 rx1
  have r5 : rg r4 := k3.1.2.2
  refine v_callV (st := []) cf4 oc10 k3 (lw_V q1445 q1446 q1447 q301 q1448) rfl yk_X4_kind ⟨by omega, by omega⟩ trivial ⟨kc13, trivial⟩ (Nat.le_of_ble_eq_true rfl) rfl dX6_isFinite_5 ?_
  refine v_istore_n (L1 := [(2, vI r4), (0, vO 13), (1, vI x1)]) dX6_isFinite_8 rfl (by decide) rfl ?_
  refine v_iload_n dX6_isFinite_9 0 rfl rfl ?_
  refine v_bipush dX6_isFinite_10 rfl ?_
  refine v_icmp_ne (tgt := 47) dX6_isFinite_12 r5 (rgl rfl) (by decide) (fun c6 => ?_) (fun c6 => ?_)
  · rw [if_neg c6] at h
    refine v_iload_n dX6_isFinite_47 0 rfl rfl ?_
    refine v_bipush dX6_isFinite_48 rfl ?_
    refine v_icmp_eq (tgt := 59) dX6_isFinite_50 r5 (rgl rfl) (by decide) (fun c7 => ?_) (fun c7 => ?_)
    · rw [if_pos c7] at h
      refine v_sub [1, 2] (L1 := [(0, vO 13), (1, vI x1)]) rfl ?_
      exact wj_X6_isFinite_59 h hrcf rx1
    · rw [if_neg c7] at h
      refine v_iload_n dX6_isFinite_53 0 rfl rfl ?_
      refine v_bipush dX6_isFinite_54 rfl ?_
      refine v_icmp_ne (tgt := 116) dX6_isFinite_56 r5 (rgl rfl) (by decide) (fun c8 => ?_) (fun c8 => ?_)
      · rw [if_neg c8] at h
        refine v_iload_n dX6_isFinite_116 0 rfl rfl ?_
        refine v_bipush dX6_isFinite_117 rfl ?_
        refine v_icmp_ne (tgt := 167) dX6_isFinite_119 r5 (rgl rfl) (by decide) (fun c9 => ?_) (fun c9 => ?_)
        · rw [if_neg c9] at h
          refine v_iconst dX6_isFinite_167 ?_
          cases h
          exact v_zret (Or.inr rfl) dX6_isFinite_168
        · rw [if_pos c9] at h
          refine v_aload_n dX6_isFinite_122 1 rfl rfl ?_
          refine v_getS (f := 1) (t := 10) cf6 oc13 rfl rfl rfl (by decide) q628 dX6_isFinite_123 ?_
          refine v_iload_n dX6_isFinite_126 2 rfl rfl ?_
          obtain ⟨r13, s10, e11, h⟩ := bd_some h
          have k12 := c_X4_parts e11 rx1
          have r14 : rg r13 := k12.1.2.2
          refine v_callV (st := []) cf4 oc10 k12 (lw_V q1492 q1493 q1494 q301 q1495) rfl yk_X4_parts ⟨by omega, by omega⟩ trivial ⟨kc13, trivial⟩ (Nat.le_of_ble_eq_true rfl) rfl dX6_isFinite_127 ?_
          refine v_istore_n (L1 := [(3, vI r13), (2, vI r4), (0, vO 13), (1, vI x1)]) dX6_isFinite_130 rfl (by decide) rfl ?_
          refine v_sub [2, 0] (L1 := [(0, vO 13), (3, vI r13)]) rfl ?_
          rcases lqs_0_some h with ⟨s15, e16, h⟩ | ⟨q9, e16, h⟩
          · refine wl_X6_isFinite_131 fr lr rcf hrcf FU r13 s10 _ e16 r14 ?_
            unfold E_X6_isFinite_131
            refine ⟨?_, fun v9 s9 z_ => (by cases z_)⟩
            intro s15' z_
            cases z_
            refine v_iconst dX6_isFinite_165 ?_
            cases h
            exact v_zret (Or.inl rfl) dX6_isFinite_166
          · cases h
            refine wl_X6_isFinite_131 fr lr rcf hrcf FU r13 s10 _ e16 r14 ?_
            unfold E_X6_isFinite_131
            refine ⟨fun _ z_ => (by cases z_), ?_⟩
            intro v9 s9 z_
            cases z_
            exact ⟨rfl, rfl⟩
      · rw [if_pos c8] at h
        refine v_sub [1, 2] (L1 := [(0, vO 13), (1, vI x1)]) rfl ?_
        exact wj_X6_isFinite_59 h hrcf rx1
  · rw [if_pos c6] at h
    refine v_aload_n dX6_isFinite_15 1 rfl rfl ?_
    refine v_getS (f := 15) (t := 38) cf6 oc13 rfl rfl rfl (by decide) q642 dX6_isFinite_16 ?_
    refine v_aload_n dX6_isFinite_19 1 rfl rfl ?_
    refine v_getS (f := 5) (t := 19) cf6 oc13 rfl rfl rfl (by decide) q632 dX6_isFinite_20 ?_
    refine v_aload_n dX6_isFinite_23 1 rfl rfl ?_
    refine v_getS (f := 1) (t := 10) cf6 oc13 rfl rfl rfl (by decide) q628 dX6_isFinite_24 ?_
    refine v_iload_n dX6_isFinite_27 2 rfl rfl ?_
    refine v_bipush dX6_isFinite_28 rfl ?_
    obtain ⟨r20, s17, e18, h⟩ := bd_some h
    have k19 := c_X4_at e18 rx1 (rgl rfl)
    have r21 : rg r20 := k19.1.2.2
    obtain ⟨g22, h⟩ := gd_some h
    refine v_callV (st := [vO 19, vO 38]) cf4 oc10 k19 (lw_V q1500 q1400 q1401 q301 q1402) rfl yk_X4_at ⟨by omega, by omega⟩ ⟨kc19, (kp_arr (by decide) g22), trivial⟩ ⟨kc13, trivial⟩ (Nat.le_of_ble_eq_true rfl) rfl dX6_isFinite_30 ?_
    obtain ⟨r26, s23, e24, h⟩ := bd_some h
    have k25 := c_X9_find e24 (⟨by decide, rfl⟩ : okB 19 8) r21
    have r27 : rg r26 := k25.1.2.2
    obtain ⟨g28, h⟩ := gd_some h
    refine v_callV (st := [vO 38]) cf9 oc19 k25 (lw_V q1575 q1576 q1577 q306 q1578) rfl yk_X9_find ⟨by omega, by omega⟩ ⟨(kp_arr (by decide) g28), trivial⟩ ⟨kc13, trivial⟩ (Nat.le_of_ble_eq_true rfl) rfl dX6_isFinite_33 ?_
    obtain ⟨g29, h⟩ := gd_some h
    refine v_iald oc38 r27 g29.1 g29.2 dX6_isFinite_36 ?_
    refine v_iconst dX6_isFinite_37 ?_
    refine v_icmp_ne (tgt := 45) dX6_isFinite_38 (gE_rg _ _ _) (rgl rfl) (by decide) (fun c30 => ?_) (fun c30 => ?_)
    · rw [if_neg c30] at h
      refine v_iconst dX6_isFinite_45 ?_
      cases h
      exact v_zret (Or.inl rfl) dX6_isFinite_46
    · rw [if_pos c30] at h
      refine v_iconst dX6_isFinite_41 ?_
      refine v_goto (tgt := 46) dX6_isFinite_42 (by decide) ?_
      cases h
      exact v_zret (Or.inr rfl) dX6_isFinite_46

/-- the recursion, so many calls deep -/
def d_X6_isFinite : Nat → RT_X6_isFinite
  | 0 => fun _ _ => none
  | d + 1 => fun x1 s => f_X6_isFinite (5 * d) (116 * d) (d_X6_isFinite d) x1 s
theorem hd_X6_isFinite : ∀ d, HR_X6_isFinite (5 * d) (116 * d) (d_X6_isFinite d)
  | 0 => fun x1 s out h => by cases h
  | d + 1 => fun x1 s out h rx1 => by
    have k := c_X6_isFinite (fr := 5 * d) (lr := 116 * d) (rcf := d_X6_isFinite d) h (hd_X6_isFinite d) rx1
    exact k

def E_X6_finite_2 (rv : Option vA) (σo : vS) (q : vS) : Prop := ∀ (s' : vS), q = s' → VW cX6_finite (RX6, rv, σo, (some .boolean), 641, 14871, 3, []) (P0 []) s' 82 [(0, vO 13)] []
def E_X6_finite_16 (rv : Option vA) (σo : vS) (q : Int × vS) : Prop := ∀ (x1' : Int) (s' : vS), q = (x1', s') → rg x1' → VW cX6_finite (RX6, rv, σo, (some .boolean), 641, 14871, 3, []) (P0 []) s' 79 [(0, vO 13), (1, vI x1')] []
def j_X6_finite_67 (rec : Int → Int → vS → Option (Int × vS)) (x1 : Int) (x2 : Int) (s : vS) : Option (Int × vS) :=
  bd (f_X4_next x2 s) fun r4 s1 =>
  rec x1 r4 s1
theorem wj_X6_finite_67 {x1 : Int} {x2 : Int} {s : vS} {rv : Option vA} {σo : vS} {rec : Int → Int → vS → Option (Int × vS)} {q : Int × vS} (h : j_X6_finite_67 rec x1 x2 s = some q)  (rx1 : rg x1) (rx2 : rg x2) (hrec : ∀ (y1 : Int) (y2 : Int) (s : vS) (q : Int × vS), rec y1 y2 s = some q → rg y1 → rg y2 → E_X6_finite_16 rv σo q → VW cX6_finite (RX6, rv, σo, (some .boolean), 641, 14871, 3, []) (P0 []) s 16 [(0, vO 13), (1, vI y1), (2, vI y2)] []) (hE : E_X6_finite_16 rv σo q) : VW cX6_finite (RX6, rv, σo, (some .boolean), 641, 14871, 3, []) (P0 []) s 67 [(0, vO 13), (1, vI x1), (2, vI x2)] [] := by
  unfold j_X6_finite_67 at h
  refine v_aload_n dX6_finite_67 0 rfl rfl ?_
  refine v_getS (f := 1) (t := 10) cf6 oc13 rfl rfl rfl (by decide) q628 dX6_finite_68 ?_
  refine v_iload_n dX6_finite_71 2 rfl rfl ?_
  obtain ⟨r4, s1, e2, h⟩ := bd_some h
  have k3 := c_X4_next e2 rx2
  have r5 : rg r4 := k3.1.2.2
  refine v_callV (st := []) cf4 oc10 k3 (lw_V q1483 q1404 q1405 q301 q1406) rfl yk_X4_next ⟨Nat.le_of_ble_eq_true rfl, Nat.le_of_ble_eq_true rfl⟩ trivial ⟨kc13, trivial⟩ (Nat.le_of_ble_eq_true rfl) rfl dX6_finite_72 ?_
  refine v_istore_n (L1 := [(2, vI r4), (0, vO 13), (1, vI x1)]) dX6_finite_75 rfl (by decide) rfl ?_
  refine v_goto (tgt := 16) dX6_finite_76 (by decide) ?_
  refine v_sub [1, 2, 0] (L1 := [(0, vO 13), (1, vI x1), (2, vI r4)]) rfl ?_
  exact hrec x1 r4 s1 _ h rx1 r5 hE

def l_X6_finite_16 : Nat → Int → Int → vS → Option (Int × vS)
  | 0, _, _, _ => none
  | n + 1, x1, x2, s =>
    if x2 = (-1) then
      some (x1, s)
    else
      bd (f_X4_kind x2 s) fun r5 s2 =>
      if r5 = 28 then
        gd (inb x2 (gN s2 38)) <|
        if (gE s2 38 x2) = 0 then
          bd (f_X4_parts x2 s2) fun r13 s10 =>
          bd (d_X6_isFinite 128 r13 s10) fun r18 s15 =>
          if r18 = 0 then
            j_X6_finite_67 (l_X6_finite_16 n) x1 x2 s15
          else
            gd (inb x2 (gN s15 38)) <|
            stp (sE s15 38 x2 1) fun s22 =>
            j_X6_finite_67 (l_X6_finite_16 n) 1 x2 s22
        else
          j_X6_finite_67 (l_X6_finite_16 n) x1 x2 s2
      else
        j_X6_finite_67 (l_X6_finite_16 n) x1 x2 s2
theorem wl_X6_finite_16 {rv : Option vA} {σo : vS}  : ∀ (n : Nat) (x1 : Int) (x2 : Int) (s : vS) (q : Int × vS), l_X6_finite_16 n x1 x2 s = some q → rg x1 → rg x2 → E_X6_finite_16 rv σo q → VW cX6_finite (RX6, rv, σo, (some .boolean), 641, 14871, 3, []) (P0 []) s 16 [(0, vO 13), (1, vI x1), (2, vI x2)] [] := by
  intro n
  induction n with
  | zero => intro x1 x2 s q h; cases h
  | succ n ih =>
    intro x1 x2 s q h rx1 rx2 hE
    unfold l_X6_finite_16 at h
    refine v_iload_n dX6_finite_16 2 rfl rfl ?_
    refine v_iconst dX6_finite_17 ?_
    refine v_icmp_eq (tgt := 79) dX6_finite_18 rx2 (rgl rfl) (by decide) (fun c1 => ?_) (fun c1 => ?_)
    · rw [if_pos c1] at h
      cases h
      refine v_sub [0, 1] (L1 := [(0, vO 13), (1, vI x1)]) rfl ?_
      exact hE _ _ rfl rx1
    · rw [if_neg c1] at h
      refine v_aload_n dX6_finite_21 0 rfl rfl ?_
      refine v_getS (f := 1) (t := 10) cf6 oc13 rfl rfl rfl (by decide) q628 dX6_finite_22 ?_
      refine v_iload_n dX6_finite_25 2 rfl rfl ?_
      obtain ⟨r5, s2, e3, h⟩ := bd_some h
      have k4 := c_X4_kind e3 rx2
      have r6 : rg r5 := k4.1.2.2
      refine v_callV (st := []) cf4 oc10 k4 (lw_V q1445 q1446 q1447 q301 q1448) rfl yk_X4_kind ⟨Nat.le_of_ble_eq_true rfl, Nat.le_of_ble_eq_true rfl⟩ trivial ⟨kc13, trivial⟩ (Nat.le_of_ble_eq_true rfl) rfl dX6_finite_26 ?_
      refine v_bipush dX6_finite_29 rfl ?_
      refine v_icmp_ne (tgt := 67) dX6_finite_31 r6 (rgl rfl) (by decide) (fun c7 => ?_) (fun c7 => ?_)
      · rw [if_neg c7] at h
        exact wj_X6_finite_67 h rx1 rx2 ih hE
      · rw [if_pos c7] at h
        refine v_aload_n dX6_finite_34 0 rfl rfl ?_
        refine v_getS (f := 15) (t := 38) cf6 oc13 rfl rfl rfl (by decide) q642 dX6_finite_35 ?_
        refine v_iload_n dX6_finite_38 2 rfl rfl ?_
        obtain ⟨g8, h⟩ := gd_some h
        refine v_iald oc38 rx2 g8.1 g8.2 dX6_finite_39 ?_
        refine v_if_ne (tgt := 67) dX6_finite_40 (gE_rg _ _ _) (by decide) (fun c9 => ?_) (fun c9 => ?_)
        · rw [if_neg c9] at h
          exact wj_X6_finite_67 h rx1 rx2 ih hE
        · rw [if_pos c9] at h
          refine v_aload_n dX6_finite_43 0 rfl rfl ?_
          refine v_aload_n dX6_finite_44 0 rfl rfl ?_
          refine v_getS (f := 1) (t := 10) cf6 oc13 rfl rfl rfl (by decide) q628 dX6_finite_45 ?_
          refine v_iload_n dX6_finite_48 2 rfl rfl ?_
          obtain ⟨r13, s10, e11, h⟩ := bd_some h
          have k12 := c_X4_parts e11 rx2
          have r14 : rg r13 := k12.1.2.2
          refine v_callV (st := [vO 13]) cf4 oc10 k12 (lw_V q1492 q1493 q1494 q301 q1495) rfl yk_X4_parts ⟨Nat.le_of_ble_eq_true rfl, Nat.le_of_ble_eq_true rfl⟩ ⟨kc13, trivial⟩ ⟨kc13, trivial⟩ (Nat.le_of_ble_eq_true rfl) rfl dX6_finite_49 ?_
          obtain ⟨r18, s15, e16, h⟩ := bd_some h
          have k17 := hd_X6_isFinite 128 _ _ _ e16 r14
          have r19 : rg r18 := k17.1.2.2
          refine v_callV (st := []) cf6 oc13 k17 (lw_V q1605 q1607 qs64 q303 q1608) rfl yk_X6_isFinite ⟨Nat.le_of_ble_eq_true rfl, Nat.le_of_ble_eq_true rfl⟩ trivial ⟨kc13, trivial⟩ (Nat.le_of_ble_eq_true rfl) rfl dX6_finite_52 ?_
          refine v_if_eq (tgt := 67) dX6_finite_55 r19 (by decide) (fun c20 => ?_) (fun c20 => ?_)
          · rw [if_pos c20] at h
            exact wj_X6_finite_67 h rx1 rx2 ih hE
          · rw [if_neg c20] at h
            refine v_aload_n dX6_finite_58 0 rfl rfl ?_
            refine v_getS (f := 15) (t := 38) cf6 oc13 rfl rfl rfl (by decide) q642 dX6_finite_59 ?_
            refine v_iload_n dX6_finite_62 2 rfl rfl ?_
            refine v_iconst dX6_finite_63 ?_
            obtain ⟨g21, h⟩ := gd_some h
            obtain ⟨s22, e23, h⟩ := stp_some h
            refine v_iast oc38 rx2 g21.1 g21.2 dX6_finite_64 ?_
            rw [← e23]
            refine v_iconst dX6_finite_65 ?_
            refine v_istore_n (L1 := [(1, vI 1), (0, vO 13), (2, vI x2)]) dX6_finite_66 rfl (by decide) rfl ?_
            refine v_sub [1, 0, 2] (L1 := [(0, vO 13), (1, vI 1), (2, vI x2)]) rfl ?_
            exact wj_X6_finite_67 h (rgl rfl) rx2 ih hE

def l_X6_finite_2 : Nat → Int → vS → Option (vS)
  | 0, _, _ => none
  | n + 1, x1, s =>
    if x1 = 0 then
      some s
    else
      vl (gI s 10 2) fun y2 =>
      lq_1 (l_X6_finite_16 FU 0 y2 s) fun y5 s6 =>
      l_X6_finite_2 n y5 s6
theorem wl_X6_finite_2 {rv : Option vA} {σo : vS}  : ∀ (n : Nat) (x1 : Int) (s : vS) (q : vS), l_X6_finite_2 n x1 s = some q → rg x1 → E_X6_finite_2 rv σo q → VW cX6_finite (RX6, rv, σo, (some .boolean), 641, 14871, 3, []) (P0 []) s 2 [(0, vO 13), (1, vI x1)] [] := by
  intro n
  induction n with
  | zero => intro x1 s q h; cases h
  | succ n ih =>
    intro x1 s q h rx1 hE
    unfold l_X6_finite_2 at h
    refine v_iload_n dX6_finite_2 1 rfl rfl ?_
    refine v_if_eq (tgt := 82) dX6_finite_3 rx1 (by decide) (fun c1 => ?_) (fun c1 => ?_)
    · rw [if_pos c1] at h
      cases h
      refine v_sub [0] (L1 := [(0, vO 13)]) rfl ?_
      exact hE _ rfl 
    · rw [if_neg c1] at h
      refine v_iconst dX6_finite_6 ?_
      refine v_istore_n (L1 := [(1, vI 0), (0, vO 13)]) dX6_finite_7 rfl (by decide) rfl ?_
      refine v_aload_n dX6_finite_8 1 rfl rfl ?_
      refine v_getS (f := 1) (t := 10) cf6 oc13 rfl rfl rfl (by decide) q628 dX6_finite_9 ?_
      refine v_getIN (f := 2) cf4 oc10 rfl (by decide) q469 dX6_finite_12 ?_
      obtain ⟨y2, e3, h⟩ := vl_some h
      rw [← e3]
      have r4 : rg y2 := by rw [e3]; exact gI_rg _ _ _
      refine v_istore_n (L1 := [(2, vI y2), (1, vI 0), (0, vO 13)]) dX6_finite_15 rfl (by decide) rfl ?_
      refine v_sub [2, 1, 0] (L1 := [(0, vO 13), (1, vI 0), (2, vI y2)]) rfl ?_
      obtain ⟨y5, s6, e7, h⟩ := lq_1_some h
      refine wl_X6_finite_16  FU 0 y2 s _ e7 (rgl rfl) r4 ?_
      unfold E_X6_finite_16
      intro y5' s6' z_ r8
      cases z_
      refine v_goto (tgt := 2) dX6_finite_79 (by decide) ?_
      exact ih y5 s6 _ h r8 hE

def E_X6_finite_90 (rv : Option vA) (σo : vS) (q : vS) : Prop := ∀ (s' : vS), q = s' → VW cX6_finite (RX6, rv, σo, (some .boolean), 641, 14871, 3, []) (P0 []) s' 143 [(0, vO 13)] []
def j_X6_finite_131 (rec : Int → vS → Option (vS)) (x2 : Int) (s : vS) : Option (vS) :=
  bd (f_X4_next x2 s) fun r4 s1 =>
  rec r4 s1
theorem wj_X6_finite_131 {x2 : Int} {s : vS} {rv : Option vA} {σo : vS} {rec : Int → vS → Option (vS)} {q : vS} (h : j_X6_finite_131 rec x2 s = some q)  (rx2 : rg x2) (hrec : ∀ (y2 : Int) (s : vS) (q : vS), rec y2 s = some q → rg y2 → E_X6_finite_90 rv σo q → VW cX6_finite (RX6, rv, σo, (some .boolean), 641, 14871, 3, []) (P0 []) s 90 [(0, vO 13), (2, vI y2)] []) (hE : E_X6_finite_90 rv σo q) : VW cX6_finite (RX6, rv, σo, (some .boolean), 641, 14871, 3, []) (P0 []) s 131 [(0, vO 13), (2, vI x2)] [] := by
  unfold j_X6_finite_131 at h
  refine v_aload_n dX6_finite_131 0 rfl rfl ?_
  refine v_getS (f := 1) (t := 10) cf6 oc13 rfl rfl rfl (by decide) q628 dX6_finite_132 ?_
  refine v_iload_n dX6_finite_135 1 rfl rfl ?_
  obtain ⟨r4, s1, e2, h⟩ := bd_some h
  have k3 := c_X4_next e2 rx2
  have r5 : rg r4 := k3.1.2.2
  refine v_callV (st := []) cf4 oc10 k3 (lw_V q1483 q1404 q1405 q301 q1406) rfl yk_X4_next ⟨Nat.le_of_ble_eq_true rfl, Nat.le_of_ble_eq_true rfl⟩ trivial ⟨kc13, trivial⟩ (Nat.le_of_ble_eq_true rfl) rfl dX6_finite_136 ?_
  refine v_istore_n (L1 := [(2, vI r4), (0, vO 13)]) dX6_finite_139 rfl (by decide) rfl ?_
  refine v_goto (tgt := 90) dX6_finite_140 (by decide) ?_
  refine v_sub [1, 0] (L1 := [(0, vO 13), (2, vI r4)]) rfl ?_
  exact hrec r4 s1 _ h r5 hE

def l_X6_finite_90 : Nat → Int → vS → Option (vS)
  | 0, _, _ => none
  | n + 1, x2, s =>
    if x2 = (-1) then
      some s
    else
      bd (f_X4_kind x2 s) fun r5 s2 =>
      if r5 = 28 then
        gd (inb x2 (gN s2 38)) <|
        if (gE s2 38 x2) = 0 then
          bd (f_X4_lexeme x2 s2) fun r13 s10 =>
          bdv (f_X6_blame 7 r13 s10) fun s15 =>
          j_X6_finite_131 (l_X6_finite_90 n) x2 s15
        else
          j_X6_finite_131 (l_X6_finite_90 n) x2 s2
      else
        j_X6_finite_131 (l_X6_finite_90 n) x2 s2
theorem wl_X6_finite_90 {rv : Option vA} {σo : vS}  : ∀ (n : Nat) (x2 : Int) (s : vS) (q : vS), l_X6_finite_90 n x2 s = some q → rg x2 → E_X6_finite_90 rv σo q → VW cX6_finite (RX6, rv, σo, (some .boolean), 641, 14871, 3, []) (P0 []) s 90 [(0, vO 13), (2, vI x2)] [] := by
  intro n
  induction n with
  | zero => intro x2 s q h; cases h
  | succ n ih =>
    intro x2 s q h rx2 hE
    unfold l_X6_finite_90 at h
    refine v_iload_n dX6_finite_90 1 rfl rfl ?_
    refine v_iconst dX6_finite_91 ?_
    refine v_icmp_eq (tgt := 143) dX6_finite_92 rx2 (rgl rfl) (by decide) (fun c1 => ?_) (fun c1 => ?_)
    · rw [if_pos c1] at h
      cases h
      refine v_sub [0] (L1 := [(0, vO 13)]) rfl ?_
      exact hE _ rfl 
    · rw [if_neg c1] at h
      refine v_aload_n dX6_finite_95 0 rfl rfl ?_
      refine v_getS (f := 1) (t := 10) cf6 oc13 rfl rfl rfl (by decide) q628 dX6_finite_96 ?_
      refine v_iload_n dX6_finite_99 1 rfl rfl ?_
      obtain ⟨r5, s2, e3, h⟩ := bd_some h
      have k4 := c_X4_kind e3 rx2
      have r6 : rg r5 := k4.1.2.2
      refine v_callV (st := []) cf4 oc10 k4 (lw_V q1445 q1446 q1447 q301 q1448) rfl yk_X4_kind ⟨Nat.le_of_ble_eq_true rfl, Nat.le_of_ble_eq_true rfl⟩ trivial ⟨kc13, trivial⟩ (Nat.le_of_ble_eq_true rfl) rfl dX6_finite_100 ?_
      refine v_bipush dX6_finite_103 rfl ?_
      refine v_icmp_ne (tgt := 131) dX6_finite_105 r6 (rgl rfl) (by decide) (fun c7 => ?_) (fun c7 => ?_)
      · rw [if_neg c7] at h
        exact wj_X6_finite_131 h rx2 ih hE
      · rw [if_pos c7] at h
        refine v_aload_n dX6_finite_108 0 rfl rfl ?_
        refine v_getS (f := 15) (t := 38) cf6 oc13 rfl rfl rfl (by decide) q642 dX6_finite_109 ?_
        refine v_iload_n dX6_finite_112 1 rfl rfl ?_
        obtain ⟨g8, h⟩ := gd_some h
        refine v_iald oc38 rx2 g8.1 g8.2 dX6_finite_113 ?_
        refine v_if_ne (tgt := 131) dX6_finite_114 (gE_rg _ _ _) (by decide) (fun c9 => ?_) (fun c9 => ?_)
        · rw [if_neg c9] at h
          exact wj_X6_finite_131 h rx2 ih hE
        · rw [if_pos c9] at h
          refine v_aload_n dX6_finite_117 0 rfl rfl ?_
          refine v_bipush dX6_finite_118 rfl ?_
          refine v_aload_n dX6_finite_120 0 rfl rfl ?_
          refine v_getS (f := 1) (t := 10) cf6 oc13 rfl rfl rfl (by decide) q628 dX6_finite_121 ?_
          refine v_iload_n dX6_finite_124 1 rfl rfl ?_
          obtain ⟨r13, s10, e11, h⟩ := bd_some h
          have k12 := c_X4_lexeme e11 rx2
          have r14 : rg r13 := k12.1.2.2
          refine v_callV (st := [vI 7, vO 13]) cf4 oc10 k12 (lw_V q1449 q1450 q1451 q301 q1452) rfl yk_X4_lexeme ⟨Nat.le_of_ble_eq_true rfl, Nat.le_of_ble_eq_true rfl⟩ ⟨kc13, trivial⟩ ⟨kc13, trivial⟩ (Nat.le_of_ble_eq_true rfl) rfl dX6_finite_125 ?_
          obtain ⟨s15, e16, h⟩ := bdv_some h
          have k17 := c_X6_blame e16 (rgl rfl) r14
          refine v_callV (st := []) cf6 oc13 k17 (lw_V q1478 q1480 qs45 q303 q1481) rfl yk_X6_blame ⟨Nat.le_of_ble_eq_true rfl, Nat.le_of_ble_eq_true rfl⟩ trivial ⟨kc13, trivial⟩ (Nat.le_of_ble_eq_true rfl) rfl dX6_finite_128 ?_
          exact wj_X6_finite_131 h rx2 ih hE

def f_X6_finite (s : vS) : Option (Int × vS) :=
  lq_0 (l_X6_finite_2 FU 1 s) fun s1 =>
  vl (gI s1 10 2) fun y3 =>
  lq_0 (l_X6_finite_90 FU y3 s1) fun s6 =>
  if (gI s6 13 20) = 0 then
    some (1, s6)
  else
    some (0, s6)
theorem yk_X6_finite : yOk yX6_finite 0 := ⟨by decide, by decide, by decide +kernel⟩
theorem c_X6_finite {s : vS} {out : Int × vS} (h : f_X6_finite s = some out)   : VC yX6_finite cX6_finite 3 (some .boolean) 641 14871 [vO 13] s (some (vI out.1)) out.2 [] := by
  unfold f_X6_finite at h
  refine VC.of RX6 (by decide) rfl (Nat.le_of_ble_eq_true rfl) ?_
  show VW cX6_finite (RX6, (some (vI out.1)), out.2, (some .boolean), 641, 14871, 3, []) (P0 []) s 0 [(0, vO 13)] []
  refine v_iconst dX6_finite_0 ?_
  refine v_istore_n (L1 := [(1, vI 1), (0, vO 13)]) dX6_finite_1 rfl (by decide) rfl ?_
  refine v_sub [1, 0] (L1 := [(0, vO 13), (1, vI 1)]) rfl ?_
  obtain ⟨s1, e2, h⟩ := lq_0_some h
  refine wl_X6_finite_2  FU 1 s _ e2 (rgl rfl) ?_
  unfold E_X6_finite_2
  intro s1' z_
  cases z_
  refine v_aload_n dX6_finite_82 0 rfl rfl ?_
  refine v_getS (f := 1) (t := 10) cf6 oc13 rfl rfl rfl (by decide) q628 dX6_finite_83 ?_
  refine v_getIN (f := 2) cf4 oc10 rfl (by decide) q469 dX6_finite_86 ?_
  obtain ⟨y3, e4, h⟩ := vl_some h
  rw [← e4]
  have r5 : rg y3 := by rw [e4]; exact gI_rg _ _ _
  refine v_istore_n (L1 := [(2, vI y3), (0, vO 13)]) dX6_finite_89 rfl (by decide) rfl ?_
  refine v_sub [1, 0] (L1 := [(0, vO 13), (2, vI y3)]) rfl ?_
  obtain ⟨s6, e7, h⟩ := lq_0_some h
  refine wl_X6_finite_90  FU y3 s1 _ e7 r5 ?_
  unfold E_X6_finite_90
  intro s6' z_
  cases z_
  refine v_aload_n dX6_finite_143 0 rfl rfl ?_
  refine v_getI (f := 20) cf6 oc13 rfl (by decide) q647 dX6_finite_144 ?_
  refine v_if_ne (tgt := 154) dX6_finite_147 (gI_rg _ _ _) (by decide) (fun c8 => ?_) (fun c8 => ?_)
  · rw [if_neg c8] at h
    refine v_iconst dX6_finite_154 ?_
    cases h
    exact v_zret (Or.inl rfl) dX6_finite_155
  · rw [if_pos c8] at h
    refine v_iconst dX6_finite_150 ?_
    refine v_goto (tgt := 155) dX6_finite_151 (by decide) ?_
    cases h
    exact v_zret (Or.inr rfl) dX6_finite_155

def f_X6_push (x1 : Int) (s : vS) : Option (vS) :=
  bd (f_X6_grown 40 (w32 ((gI s 13 18) + 1)) s) fun r4 s5 =>
  gd (r4 = 0 ∨ (2 * gN s5 40 ≤ gN s5 199 ∧ 2 ≤ gN s5 199)) <|
  stp (grw s5 40 r4) fun s9 =>
  gd (inb (gI s9 13 18) (gN s9 40)) <|
  stp (sE s9 40 (gI s9 13 18) x1) fun s12 =>
  stp (sI s12 13 18 (w32 ((gI s12 13 18) + 1))) fun s14 =>
  some s14
theorem yk_X6_push : yOk yX6_push 1 := ⟨by decide, by decide, by decide +kernel⟩
theorem c_X6_push {x1 : Int} {s : vS} {out : vS} (h : f_X6_push x1 s = some out)  (rx1 : rg x1) : VC yX6_push cX6_push 2 none 2 48 [vO 13, vI x1] s none out [] := by
  unfold f_X6_push at h
  refine VC.of RX6 (by decide) rfl (Nat.le_of_ble_eq_true rfl) ?_
  show VW cX6_push (RX6, none, out, none, 2, 48, 2, []) (P0 []) s 0 [(0, vO 13), (1, vI x1)] []
  refine v_aload_n dX6_push_0 0 rfl rfl ?_
  refine v_aload_n dX6_push_1 0 rfl rfl ?_
  refine v_getS (f := 17) (t := 40) cf6 oc13 rfl rfl rfl (by decide) q644 dX6_push_2 ?_
  refine v_aload_n dX6_push_5 0 rfl rfl ?_
  refine v_getI (f := 18) cf6 oc13 rfl (by decide) q645 dX6_push_6 ?_
  refine v_iconst dX6_push_9 ?_
  refine v_iadd dX6_push_10 ?_
  obtain ⟨r4, s5, e6, h⟩ := bd_some h
  have k7 := c_X6_grown e6 (⟨by decide, rfl⟩ : okB 40 24) (w32_rg _)
  obtain ⟨g8, h⟩ := gd_some h
  obtain ⟨s9, e10, h⟩ := stp_some h
  refine v_regrow (f := 17) k7 (lw_S q1431 q1432 q303 q1433) yk_X6_grown ⟨Nat.le_of_ble_eq_true rfl, Nat.le_of_ble_eq_true rfl⟩ ⟨kc13, trivial⟩ ⟨kc13, trivial⟩ (Nat.le_of_ble_eq_true rfl) dX6_push_11 cf6 (⟨by decide, rfl⟩ : okB 13 5) rfl (by decide) rfl rfl g8 q644 dX6_push_14 rfl rfl rfl rfl ⟨(by decide), trivial⟩ trivial ?_
  rw [← e10]
  refine v_aload_n dX6_push_17 0 rfl rfl ?_
  refine v_getS (f := 17) (t := 40) cf6 oc13 rfl rfl rfl (by decide) q644 dX6_push_18 ?_
  refine v_aload_n dX6_push_21 0 rfl rfl ?_
  refine v_getI (f := 18) cf6 oc13 rfl (by decide) q645 dX6_push_22 ?_
  refine v_iload_n dX6_push_25 1 rfl rfl ?_
  obtain ⟨g11, h⟩ := gd_some h
  obtain ⟨s12, e13, h⟩ := stp_some h
  refine v_iast oc40 (gI_rg _ _ _) g11.1 g11.2 dX6_push_26 ?_
  rw [← e13]
  refine v_aload_n dX6_push_27 0 rfl rfl ?_
  refine v_dupO dX6_push_28 ?_
  refine v_getI (f := 18) cf6 oc13 rfl (by decide) q645 dX6_push_29 ?_
  refine v_iconst dX6_push_32 ?_
  refine v_iadd dX6_push_33 ?_
  obtain ⟨s14, e15, h⟩ := stp_some h
  refine v_putI (f := 18) cf6 oc13 rfl (by decide) q645 dX6_push_34 rfl rfl ?_
  rw [← e15]
  cases h
  exact v_vret dX6_push_37

def f_X6_universal (x0 : Int) (s : vS) : Option (Int × vS) :=
  if x0 = 0 then
    some (1, s)
  else
  if x0 = 1 then
    some (5, s)
  else
  if x0 = 2 then
    some (2, s)
  else
  if x0 = 3 then
    some (10, s)
  else
  if x0 = 4 then
    some (3, s)
  else
  if x0 = 5 then
    some (4, s)
  else
  if x0 = 6 then
    some (6, s)
  else
  if x0 = 7 then
    some (12, s)
  else
  if x0 = 8 then
    some (19, s)
  else
  if x0 = 9 then
    some (22, s)
  else
  if x0 = 10 then
    some (23, s)
  else
  if x0 = 11 then
    some (24, s)
  else
  if x0 = 12 then
    some (16, s)
  else
  if x0 = 13 then
    some (17, s)
  else
  if x0 = 14 then
    some (16, s)
  else
    some (17, s)
theorem yk_X6_universal : yOk yX6_universal 1 := ⟨by decide, by decide, by decide +kernel⟩
theorem c_X6_universal {x0 : Int} {s : vS} {out : Int × vS} (h : f_X6_universal x0 s = some out)  (rx0 : rg x0) : VC yX6_universal cX6_universal 1 (some .int) 0 0 [vI x0] s (some (vI out.1)) out.2 [] := by
  unfold f_X6_universal at h
  refine VC.of RX6 (by decide) rfl (Nat.le_of_ble_eq_true rfl) ?_
  show VW cX6_universal (RX6, (some (vI out.1)), out.2, (some .int), 0, 0, 1, []) (P0 []) s 0 [(0, vI x0)] []
  refine v_iload_n dX6_universal_0 0 rfl rfl ?_
  by_cases c1 : x0 = 0
  · rw [if_pos c1] at h
    refine v_tswI (tgt := 76) dX6_universal_1 rx0 (by rw [c1]; decide) (by rw [c1]; decide) (by rw [c1]; try rfl) (by decide) ?_
    refine v_iconst dX6_universal_76 ?_
    cases h
    exact v_iret (rgl rfl) dX6_universal_77
  rw [if_neg c1] at h
  by_cases c2 : x0 = 1
  · rw [if_pos c2] at h
    refine v_tswI (tgt := 78) dX6_universal_1 rx0 (by rw [c2]; decide) (by rw [c2]; decide) (by rw [c2]; try rfl) (by decide) ?_
    refine v_iconst dX6_universal_78 ?_
    cases h
    exact v_iret (rgl rfl) dX6_universal_79
  rw [if_neg c2] at h
  by_cases c3 : x0 = 2
  · rw [if_pos c3] at h
    refine v_tswI (tgt := 80) dX6_universal_1 rx0 (by rw [c3]; decide) (by rw [c3]; decide) (by rw [c3]; try rfl) (by decide) ?_
    refine v_iconst dX6_universal_80 ?_
    cases h
    exact v_iret (rgl rfl) dX6_universal_81
  rw [if_neg c3] at h
  by_cases c4 : x0 = 3
  · rw [if_pos c4] at h
    refine v_tswI (tgt := 82) dX6_universal_1 rx0 (by rw [c4]; decide) (by rw [c4]; decide) (by rw [c4]; try rfl) (by decide) ?_
    refine v_bipush dX6_universal_82 rfl ?_
    cases h
    exact v_iret (rgl rfl) dX6_universal_84
  rw [if_neg c4] at h
  by_cases c5 : x0 = 4
  · rw [if_pos c5] at h
    refine v_tswI (tgt := 85) dX6_universal_1 rx0 (by rw [c5]; decide) (by rw [c5]; decide) (by rw [c5]; try rfl) (by decide) ?_
    refine v_iconst dX6_universal_85 ?_
    cases h
    exact v_iret (rgl rfl) dX6_universal_86
  rw [if_neg c5] at h
  by_cases c6 : x0 = 5
  · rw [if_pos c6] at h
    refine v_tswI (tgt := 87) dX6_universal_1 rx0 (by rw [c6]; decide) (by rw [c6]; decide) (by rw [c6]; try rfl) (by decide) ?_
    refine v_iconst dX6_universal_87 ?_
    cases h
    exact v_iret (rgl rfl) dX6_universal_88
  rw [if_neg c6] at h
  by_cases c7 : x0 = 6
  · rw [if_pos c7] at h
    refine v_tswI (tgt := 89) dX6_universal_1 rx0 (by rw [c7]; decide) (by rw [c7]; decide) (by rw [c7]; try rfl) (by decide) ?_
    refine v_bipush dX6_universal_89 rfl ?_
    cases h
    exact v_iret (rgl rfl) dX6_universal_91
  rw [if_neg c7] at h
  by_cases c8 : x0 = 7
  · rw [if_pos c8] at h
    refine v_tswI (tgt := 92) dX6_universal_1 rx0 (by rw [c8]; decide) (by rw [c8]; decide) (by rw [c8]; try rfl) (by decide) ?_
    refine v_bipush dX6_universal_92 rfl ?_
    cases h
    exact v_iret (rgl rfl) dX6_universal_94
  rw [if_neg c8] at h
  by_cases c9 : x0 = 8
  · rw [if_pos c9] at h
    refine v_tswI (tgt := 95) dX6_universal_1 rx0 (by rw [c9]; decide) (by rw [c9]; decide) (by rw [c9]; try rfl) (by decide) ?_
    refine v_bipush dX6_universal_95 rfl ?_
    cases h
    exact v_iret (rgl rfl) dX6_universal_97
  rw [if_neg c9] at h
  by_cases c10 : x0 = 9
  · rw [if_pos c10] at h
    refine v_tswI (tgt := 98) dX6_universal_1 rx0 (by rw [c10]; decide) (by rw [c10]; decide) (by rw [c10]; try rfl) (by decide) ?_
    refine v_bipush dX6_universal_98 rfl ?_
    cases h
    exact v_iret (rgl rfl) dX6_universal_100
  rw [if_neg c10] at h
  by_cases c11 : x0 = 10
  · rw [if_pos c11] at h
    refine v_tswI (tgt := 101) dX6_universal_1 rx0 (by rw [c11]; decide) (by rw [c11]; decide) (by rw [c11]; try rfl) (by decide) ?_
    refine v_bipush dX6_universal_101 rfl ?_
    cases h
    exact v_iret (rgl rfl) dX6_universal_103
  rw [if_neg c11] at h
  by_cases c12 : x0 = 11
  · rw [if_pos c12] at h
    refine v_tswI (tgt := 104) dX6_universal_1 rx0 (by rw [c12]; decide) (by rw [c12]; decide) (by rw [c12]; try rfl) (by decide) ?_
    refine v_bipush dX6_universal_104 rfl ?_
    cases h
    exact v_iret (rgl rfl) dX6_universal_106
  rw [if_neg c12] at h
  by_cases c13 : x0 = 12
  · rw [if_pos c13] at h
    refine v_tswI (tgt := 107) dX6_universal_1 rx0 (by rw [c13]; decide) (by rw [c13]; decide) (by rw [c13]; try rfl) (by decide) ?_
    refine v_bipush dX6_universal_107 rfl ?_
    cases h
    exact v_iret (rgl rfl) dX6_universal_109
  rw [if_neg c13] at h
  by_cases c14 : x0 = 13
  · rw [if_pos c14] at h
    refine v_tswI (tgt := 113) dX6_universal_1 rx0 (by rw [c14]; decide) (by rw [c14]; decide) (by rw [c14]; try rfl) (by decide) ?_
    refine v_bipush dX6_universal_113 rfl ?_
    cases h
    exact v_iret (rgl rfl) dX6_universal_115
  rw [if_neg c14] at h
  by_cases c15 : x0 = 14
  · rw [if_pos c15] at h
    refine v_tswI (tgt := 110) dX6_universal_1 rx0 (by rw [c15]; decide) (by rw [c15]; decide) (by rw [c15]; try rfl) (by decide) ?_
    refine v_bipush dX6_universal_110 rfl ?_
    cases h
    exact v_iret (rgl rfl) dX6_universal_112
  rw [if_neg c15] at h
  refine v_tswO (tgt := 113) dX6_universal_1 rx0 (by omega) (by decide) ?_
  refine v_bipush dX6_universal_113 rfl ?_
  cases h
  exact v_iret (rgl rfl) dX6_universal_115

def E_X6_tagOwn_6 (x2 : Int) (x3 : Int) (rv : Option vA) (σo : vS) (q : Int × vS) : Prop := ∀ (x4' : Int) (s' : vS), q = (x4', s') → rg x4' → VW cX6_tagOwn (RX6, rv, σo, none, 3, 69, 10, []) (P0 []) s' 29 [(0, vO 13), (2, vI x2), (3, vI x3), (4, vI x4')] []
def l_X6_tagOwn_6 : Nat → Int → Int → Int → Int → vS → Option (Int × vS)
  | 0, _, _, _, _, _ => none
  | n + 1, x2, x3, x4, x5, s =>
    if x5 = (-1) then
      some (x4, s)
    else
      vl (w32 (x4 + 1)) fun y2 =>
      bd (f_X4_next x5 s) fun r8 s5 =>
      l_X6_tagOwn_6 n x2 x3 y2 r8 s5
theorem wl_X6_tagOwn_6 {x2 : Int} {x3 : Int} {rv : Option vA} {σo : vS}  (rx2 : rg x2) (rx3 : rg x3) : ∀ (n : Nat) (x4 : Int) (x5 : Int) (s : vS) (q : Int × vS), l_X6_tagOwn_6 n x2 x3 x4 x5 s = some q → rg x4 → rg x5 → E_X6_tagOwn_6 x2 x3 rv σo q → VW cX6_tagOwn (RX6, rv, σo, none, 3, 69, 10, []) (P0 []) s 6 [(0, vO 13), (2, vI x2), (3, vI x3), (4, vI x4), (5, vI x5)] [] := by
  intro n
  induction n with
  | zero => intro x4 x5 s q h; cases h
  | succ n ih =>
    intro x4 x5 s q h rx4 rx5 hE
    unfold l_X6_tagOwn_6 at h
    refine v_iload dX6_tagOwn_6 4 rfl ?_
    refine v_iconst dX6_tagOwn_8 ?_
    refine v_icmp_eq (tgt := 29) dX6_tagOwn_9 rx5 (rgl rfl) (by decide) (fun c1 => ?_) (fun c1 => ?_)
    · rw [if_pos c1] at h
      cases h
      refine v_sub [0, 1, 2, 3] (L1 := [(0, vO 13), (2, vI x2), (3, vI x3), (4, vI x4)]) rfl ?_
      exact hE _ _ rfl rx4
    · rw [if_neg c1] at h
      obtain ⟨y2, e3, h⟩ := vl_some h
      refine v_iinc (L1 := [(4, vI (w32 (x4 + 1))), (0, vO 13), (2, vI x2), (3, vI x3), (5, vI x5)]) dX6_tagOwn_12 3 rfl (by decide) rfl ?_
      rw [← e3]
      have r4 : rg y2 := by rw [e3]; exact w32_rg _
      refine v_aload_n dX6_tagOwn_15 1 rfl rfl ?_
      refine v_getS (f := 1) (t := 10) cf6 oc13 rfl rfl rfl (by decide) q628 dX6_tagOwn_16 ?_
      refine v_iload dX6_tagOwn_19 4 rfl ?_
      obtain ⟨r8, s5, e6, h⟩ := bd_some h
      have k7 := c_X4_next e6 rx5
      have r9 : rg r8 := k7.1.2.2
      refine v_callV (st := []) cf4 oc10 k7 (lw_V q1483 q1404 q1405 q301 q1406) rfl yk_X4_next ⟨Nat.le_of_ble_eq_true rfl, Nat.le_of_ble_eq_true rfl⟩ trivial ⟨kc13, trivial⟩ (Nat.le_of_ble_eq_true rfl) rfl dX6_tagOwn_21 ?_
      refine v_istore (L1 := [(5, vI r8), (4, vI y2), (0, vO 13), (2, vI x2), (3, vI x3)]) dX6_tagOwn_24 (by decide) rfl ?_
      refine v_goto (tgt := 6) dX6_tagOwn_26 (by decide) ?_
      refine v_sub [2, 3, 4, 1, 0] (L1 := [(0, vO 13), (2, vI x2), (3, vI x3), (4, vI y2), (5, vI r8)]) rfl ?_
      exact ih y2 r8 s5 _ h r4 r9 hE

def E_X6_tagOwn_35 (rv : Option vA) (σo : vS) (q : vS) : Prop := ∀ (s' : vS), q = s' → VW cX6_tagOwn (RX6, rv, σo, none, 3, 69, 10, []) (P0 []) s' 259 [] []
def E_X6_tagOwn_46 (x2 : Int) (x3 : Int) (x5 : Int) (rv : Option vA) (σo : vS) (q : Int × vS) : Prop := ∀ (x6' : Int) (s' : vS), q = (x6', s') → rg x6' → VW cX6_tagOwn (RX6, rv, σo, none, 3, 69, 10, []) (P0 []) s' 70 [(0, vO 13), (2, vI x2), (3, vI x3), (5, vI x5), (6, vI x6')] []
def l_X6_tagOwn_46 : Nat → Int → Int → Int → Int → Int → vS → Option (Int × vS)
  | 0, _, _, _, _, _, _ => none
  | n + 1, x2, x3, x5, x6, x7, s =>
    if x5 ≤ x7 then
      some (x6, s)
    else
      bd (f_X4_next x6 s) fun r5 s2 =>
      vl (w32 (x7 + 1)) fun y7 =>
      l_X6_tagOwn_46 n x2 x3 x5 r5 y7 s2
theorem wl_X6_tagOwn_46 {x2 : Int} {x3 : Int} {x5 : Int} {rv : Option vA} {σo : vS}  (rx2 : rg x2) (rx3 : rg x3) (rx5 : rg x5) : ∀ (n : Nat) (x6 : Int) (x7 : Int) (s : vS) (q : Int × vS), l_X6_tagOwn_46 n x2 x3 x5 x6 x7 s = some q → rg x6 → rg x7 → E_X6_tagOwn_46 x2 x3 x5 rv σo q → VW cX6_tagOwn (RX6, rv, σo, none, 3, 69, 10, []) (P0 []) s 46 [(0, vO 13), (2, vI x2), (3, vI x3), (5, vI x5), (6, vI x6), (7, vI x7)] [] := by
  intro n
  induction n with
  | zero => intro x6 x7 s q h; cases h
  | succ n ih =>
    intro x6 x7 s q h rx6 rx7 hE
    unfold l_X6_tagOwn_46 at h
    refine v_iload dX6_tagOwn_46 5 rfl ?_
    refine v_iload dX6_tagOwn_48 3 rfl ?_
    refine v_icmp_ge (tgt := 70) dX6_tagOwn_50 rx7 rx5 (by decide) (fun c1 => ?_) (fun c1 => ?_)
    · rw [if_pos c1] at h
      cases h
      refine v_sub [0, 1, 2, 3, 4] (L1 := [(0, vO 13), (2, vI x2), (3, vI x3), (5, vI x5), (6, vI x6)]) rfl ?_
      exact hE _ _ rfl rx6
    · rw [if_neg c1] at h
      refine v_aload_n dX6_tagOwn_53 0 rfl rfl ?_
      refine v_getS (f := 1) (t := 10) cf6 oc13 rfl rfl rfl (by decide) q628 dX6_tagOwn_54 ?_
      refine v_iload dX6_tagOwn_57 4 rfl ?_
      obtain ⟨r5, s2, e3, h⟩ := bd_some h
      have k4 := c_X4_next e3 rx6
      have r6 : rg r5 := k4.1.2.2
      refine v_callV (st := []) cf4 oc10 k4 (lw_V q1483 q1404 q1405 q301 q1406) rfl yk_X4_next ⟨Nat.le_of_ble_eq_true rfl, Nat.le_of_ble_eq_true rfl⟩ trivial ⟨kc13, trivial⟩ (Nat.le_of_ble_eq_true rfl) rfl dX6_tagOwn_59 ?_
      refine v_istore (L1 := [(6, vI r5), (0, vO 13), (2, vI x2), (3, vI x3), (5, vI x5), (7, vI x7)]) dX6_tagOwn_62 (by decide) rfl ?_
      obtain ⟨y7, e8, h⟩ := vl_some h
      refine v_iinc (L1 := [(7, vI (w32 (x7 + 1))), (6, vI r5), (0, vO 13), (2, vI x2), (3, vI x3), (5, vI x5)]) dX6_tagOwn_64 5 rfl (by decide) rfl ?_
      rw [← e8]
      have r9 : rg y7 := by rw [e8]; exact w32_rg _
      refine v_goto (tgt := 46) dX6_tagOwn_67 (by decide) ?_
      refine v_sub [2, 3, 4, 5, 1, 0] (L1 := [(0, vO 13), (2, vI x2), (3, vI x3), (5, vI x5), (6, vI r5), (7, vI y7)]) rfl ?_
      exact ih r5 y7 s2 _ h r6 r9 hE

def j_X6_tagOwn_247 (rec : Int → Int → Int → vS → Option (vS)) (x2 : Int) (x3 : Int) (x5 : Int) (x9 : Int) (s : vS) : Option (vS) :=
  bdv (f_X6_push x9 s) fun s1 =>
  vl (w32 (x5 + (-1))) fun y4 =>
  rec x2 x3 y4 s1
theorem wj_X6_tagOwn_247 {x2 : Int} {x3 : Int} {x5 : Int} {x9 : Int} {s : vS} {rv : Option vA} {σo : vS} {rec : Int → Int → Int → vS → Option (vS)} {q : vS} (h : j_X6_tagOwn_247 rec x2 x3 x5 x9 s = some q)  (rx2 : rg x2) (rx3 : rg x3) (rx5 : rg x5) (rx9 : rg x9) (hrec : ∀ (y5 : Int) (s : vS) (q : vS), rec x2 x3 y5 s = some q → rg y5 → E_X6_tagOwn_35 rv σo q → VW cX6_tagOwn (RX6, rv, σo, none, 3, 69, 10, []) (P0 []) s 35 [(0, vO 13), (2, vI x2), (3, vI x3), (5, vI y5)] []) (hE : E_X6_tagOwn_35 rv σo q) : VW cX6_tagOwn (RX6, rv, σo, none, 3, 69, 10, []) (P0 []) s 247 [(0, vO 13), (2, vI x2), (3, vI x3), (5, vI x5), (9, vI x9)] [] := by
  unfold j_X6_tagOwn_247 at h
  refine v_aload_n dX6_tagOwn_247 0 rfl rfl ?_
  refine v_iload dX6_tagOwn_248 4 rfl ?_
  obtain ⟨s1, e2, h⟩ := bdv_some h
  have k3 := c_X6_push e2 rx9
  refine v_callV (st := []) cf6 oc13 k3 (lw_V q1621 q1623 qs68 q303 q1624) rfl yk_X6_push ⟨Nat.le_of_ble_eq_true rfl, Nat.le_of_ble_eq_true rfl⟩ trivial ⟨kc13, trivial⟩ (Nat.le_of_ble_eq_true rfl) rfl dX6_tagOwn_250 ?_
  obtain ⟨y4, e5, h⟩ := vl_some h
  refine v_iinc (L1 := [(5, vI (w32 (x5 + (-1)))), (0, vO 13), (2, vI x2), (3, vI x3), (9, vI x9)]) dX6_tagOwn_253 3 rfl (by decide) rfl ?_
  rw [← e5]
  have r6 : rg y4 := by rw [e5]; exact w32_rg _
  refine v_goto (tgt := 35) dX6_tagOwn_256 (by decide) ?_
  refine v_sub [1, 2, 3, 0] (L1 := [(0, vO 13), (2, vI x2), (3, vI x3), (5, vI y4)]) rfl ?_
  exact hrec y4 s1 _ h r6 hE

def j_X6_tagOwn_194 (rec : Int → Int → Int → vS → Option (vS)) (x2 : Int) (x3 : Int) (x5 : Int) (x6 : Int) (x7 : Int) (x8 : Int) (s : vS) : Option (vS) :=
  bd (f_X4_at x6 5 s) fun r4 s1 =>
  bd (f_X4_at x6 6 s1) fun r9 s6 =>
  vl (or32 (shl32 r4 28) r9) fun y11 =>
  if x8 = 0 then
    j_X6_tagOwn_247 rec x2 x3 x5 y11 s6
  else
    if x7 = 0 then
      gd (inb (w32 ((gI s6 13 18) - 1)) (gN s6 40)) <|
      stp (sE s6 40 (w32 ((gI s6 13 18) - 1)) y11) fun s17 =>
      vl (w32 (x5 + (-1))) fun y19 =>
      rec x2 x3 y19 s17
    else
      j_X6_tagOwn_247 rec x2 x3 x5 y11 s6
theorem wj_X6_tagOwn_194 {x2 : Int} {x3 : Int} {x5 : Int} {x6 : Int} {x7 : Int} {x8 : Int} {s : vS} {rv : Option vA} {σo : vS} {rec : Int → Int → Int → vS → Option (vS)} {q : vS} (h : j_X6_tagOwn_194 rec x2 x3 x5 x6 x7 x8 s = some q)  (rx2 : rg x2) (rx3 : rg x3) (rx5 : rg x5) (rx6 : rg x6) (rx7 : rg x7) (rx8 : rg x8) (hrec : ∀ (y5 : Int) (s : vS) (q : vS), rec x2 x3 y5 s = some q → rg y5 → E_X6_tagOwn_35 rv σo q → VW cX6_tagOwn (RX6, rv, σo, none, 3, 69, 10, []) (P0 []) s 35 [(0, vO 13), (2, vI x2), (3, vI x3), (5, vI y5)] []) (hE : E_X6_tagOwn_35 rv σo q) : VW cX6_tagOwn (RX6, rv, σo, none, 3, 69, 10, []) (P0 []) s 194 [(0, vO 13), (2, vI x2), (3, vI x3), (5, vI x5), (6, vI x6), (7, vI x7), (8, vI x8)] [] := by
  unfold j_X6_tagOwn_194 at h
  refine v_aload_n dX6_tagOwn_194 0 rfl rfl ?_
  refine v_getS (f := 1) (t := 10) cf6 oc13 rfl rfl rfl (by decide) q628 dX6_tagOwn_195 ?_
  refine v_iload dX6_tagOwn_198 4 rfl ?_
  refine v_iconst dX6_tagOwn_200 ?_
  obtain ⟨r4, s1, e2, h⟩ := bd_some h
  have k3 := c_X4_at e2 rx6 (rgl rfl)
  have r5 : rg r4 := k3.1.2.2
  refine v_callV (st := []) cf4 oc10 k3 (lw_V q1500 q1400 q1401 q301 q1402) rfl yk_X4_at ⟨Nat.le_of_ble_eq_true rfl, Nat.le_of_ble_eq_true rfl⟩ trivial ⟨kc13, trivial⟩ (Nat.le_of_ble_eq_true rfl) rfl dX6_tagOwn_201 ?_
  refine v_bipush dX6_tagOwn_204 rfl ?_
  refine v_ishl dX6_tagOwn_206 ?_
  refine v_aload_n dX6_tagOwn_207 0 rfl rfl ?_
  refine v_getS (f := 1) (t := 10) cf6 oc13 rfl rfl rfl (by decide) q628 dX6_tagOwn_208 ?_
  refine v_iload dX6_tagOwn_211 4 rfl ?_
  refine v_bipush dX6_tagOwn_213 rfl ?_
  obtain ⟨r9, s6, e7, h⟩ := bd_some h
  have k8 := c_X4_at e7 rx6 (rgl rfl)
  have r10 : rg r9 := k8.1.2.2
  refine v_callV (st := [vI (shl32 r4 28)]) cf4 oc10 k8 (lw_V q1500 q1400 q1401 q301 q1402) rfl yk_X4_at ⟨Nat.le_of_ble_eq_true rfl, Nat.le_of_ble_eq_true rfl⟩ trivial ⟨kc13, trivial⟩ (Nat.le_of_ble_eq_true rfl) rfl dX6_tagOwn_215 ?_
  refine v_ior dX6_tagOwn_218 ?_
  obtain ⟨y11, e12, h⟩ := vl_some h
  rw [← e12]
  have r13 : rg y11 := by rw [e12]; exact or32_rg _ _
  refine v_istore (L1 := [(9, vI y11), (0, vO 13), (2, vI x2), (3, vI x3), (5, vI x5), (6, vI x6), (7, vI x7), (8, vI x8)]) dX6_tagOwn_219 (by decide) rfl ?_
  refine v_iload dX6_tagOwn_221 7 rfl ?_
  refine v_if_eq (tgt := 247) dX6_tagOwn_223 rx8 (by decide) (fun c14 => ?_) (fun c14 => ?_)
  · rw [if_pos c14] at h
    refine v_sub [1, 2, 3, 4, 0] (L1 := [(0, vO 13), (2, vI x2), (3, vI x3), (5, vI x5), (9, vI y11)]) rfl ?_
    exact wj_X6_tagOwn_247 h rx2 rx3 rx5 r13 hrec hE
  · rw [if_neg c14] at h
    refine v_iload dX6_tagOwn_226 6 rfl ?_
    refine v_if_ne (tgt := 247) dX6_tagOwn_228 rx7 (by decide) (fun c15 => ?_) (fun c15 => ?_)
    · rw [if_neg c15] at h
      refine v_sub [1, 2, 3, 4, 0] (L1 := [(0, vO 13), (2, vI x2), (3, vI x3), (5, vI x5), (9, vI y11)]) rfl ?_
      exact wj_X6_tagOwn_247 h rx2 rx3 rx5 r13 hrec hE
    · rw [if_pos c15] at h
      refine v_aload_n dX6_tagOwn_231 1 rfl rfl ?_
      refine v_getS (f := 17) (t := 40) cf6 oc13 rfl rfl rfl (by decide) q644 dX6_tagOwn_232 ?_
      refine v_aload_n dX6_tagOwn_235 1 rfl rfl ?_
      refine v_getI (f := 18) cf6 oc13 rfl (by decide) q645 dX6_tagOwn_236 ?_
      refine v_iconst dX6_tagOwn_239 ?_
      refine v_isub dX6_tagOwn_240 ?_
      refine v_iload dX6_tagOwn_241 0 rfl ?_
      obtain ⟨g16, h⟩ := gd_some h
      obtain ⟨s17, e18, h⟩ := stp_some h
      refine v_iast oc40 (w32_rg _) g16.1 g16.2 dX6_tagOwn_243 ?_
      rw [← e18]
      refine v_goto (tgt := 253) dX6_tagOwn_244 (by decide) ?_
      obtain ⟨y19, e20, h⟩ := vl_some h
      refine v_iinc (L1 := [(5, vI (w32 (x5 + (-1)))), (9, vI y11), (0, vO 13), (2, vI x2), (3, vI x3), (6, vI x6), (7, vI x7), (8, vI x8)]) dX6_tagOwn_253 4 rfl (by decide) rfl ?_
      rw [← e20]
      have r21 : rg y19 := by rw [e20]; exact w32_rg _
      refine v_goto (tgt := 35) dX6_tagOwn_256 (by decide) ?_
      refine v_sub [2, 3, 4, 0] (L1 := [(0, vO 13), (2, vI x2), (3, vI x3), (5, vI y19)]) rfl ?_
      exact hrec y19 s17 _ h r21 hE

def j_X6_tagOwn_157 (rec : Int → Int → Int → vS → Option (vS)) (x2 : Int) (x3 : Int) (x5 : Int) (x6 : Int) (x7 : Int) (z0 : Int) (s : vS) : Option (vS) :=
  if x7 = 0 then
    j_X6_tagOwn_194 rec x2 x3 x5 x6 x7 z0 s
  else
    bd (f_X4_at x6 7 s) fun r5 s2 =>
    if r5 = 1 then
      bd (f_X4_lexeme x6 s2) fun r11 s8 =>
      bdv (f_X6_blame 8 r11 s8) fun s13 =>
      j_X6_tagOwn_194 rec x2 x3 x5 x6 x7 z0 s13
    else
      j_X6_tagOwn_194 rec x2 x3 x5 x6 x7 z0 s2
theorem wj_X6_tagOwn_157 {x2 : Int} {x3 : Int} {x5 : Int} {x6 : Int} {x7 : Int} {z0 : Int} {s : vS} {rv : Option vA} {σo : vS} {rec : Int → Int → Int → vS → Option (vS)} {q : vS} (h : j_X6_tagOwn_157 rec x2 x3 x5 x6 x7 z0 s = some q)  (rx2 : rg x2) (rx3 : rg x3) (rx5 : rg x5) (rx6 : rg x6) (rx7 : rg x7) (rz0 : rg z0) (hrec : ∀ (y5 : Int) (s : vS) (q : vS), rec x2 x3 y5 s = some q → rg y5 → E_X6_tagOwn_35 rv σo q → VW cX6_tagOwn (RX6, rv, σo, none, 3, 69, 10, []) (P0 []) s 35 [(0, vO 13), (2, vI x2), (3, vI x3), (5, vI y5)] []) (hE : E_X6_tagOwn_35 rv σo q) : VW cX6_tagOwn (RX6, rv, σo, none, 3, 69, 10, []) (P0 []) s 157 [(0, vO 13), (2, vI x2), (3, vI x3), (5, vI x5), (6, vI x6), (7, vI x7)] [vI z0] := by
  unfold j_X6_tagOwn_157 at h
  refine v_istore (L1 := [(8, vI z0), (0, vO 13), (2, vI x2), (3, vI x3), (5, vI x5), (6, vI x6), (7, vI x7)]) dX6_tagOwn_157 (by decide) rfl ?_
  refine v_iload dX6_tagOwn_159 6 rfl ?_
  refine v_if_eq (tgt := 194) dX6_tagOwn_161 rx7 (by decide) (fun c1 => ?_) (fun c1 => ?_)
  · rw [if_pos c1] at h
    refine v_sub [1, 2, 3, 4, 5, 6, 0] (L1 := [(0, vO 13), (2, vI x2), (3, vI x3), (5, vI x5), (6, vI x6), (7, vI x7), (8, vI z0)]) rfl ?_
    exact wj_X6_tagOwn_194 h rx2 rx3 rx5 rx6 rx7 rz0 hrec hE
  · rw [if_neg c1] at h
    refine v_aload_n dX6_tagOwn_164 1 rfl rfl ?_
    refine v_getS (f := 1) (t := 10) cf6 oc13 rfl rfl rfl (by decide) q628 dX6_tagOwn_165 ?_
    refine v_iload dX6_tagOwn_168 5 rfl ?_
    refine v_bipush dX6_tagOwn_170 rfl ?_
    obtain ⟨r5, s2, e3, h⟩ := bd_some h
    have k4 := c_X4_at e3 rx6 (rgl rfl)
    have r6 : rg r5 := k4.1.2.2
    refine v_callV (st := []) cf4 oc10 k4 (lw_V q1500 q1400 q1401 q301 q1402) rfl yk_X4_at ⟨Nat.le_of_ble_eq_true rfl, Nat.le_of_ble_eq_true rfl⟩ trivial ⟨kc13, trivial⟩ (Nat.le_of_ble_eq_true rfl) rfl dX6_tagOwn_172 ?_
    refine v_iconst dX6_tagOwn_175 ?_
    refine v_icmp_ne (tgt := 194) dX6_tagOwn_176 r6 (rgl rfl) (by decide) (fun c7 => ?_) (fun c7 => ?_)
    · rw [if_neg c7] at h
      refine v_sub [1, 2, 3, 4, 5, 6, 0] (L1 := [(0, vO 13), (2, vI x2), (3, vI x3), (5, vI x5), (6, vI x6), (7, vI x7), (8, vI z0)]) rfl ?_
      exact wj_X6_tagOwn_194 h rx2 rx3 rx5 rx6 rx7 rz0 hrec hE
    · rw [if_pos c7] at h
      refine v_aload_n dX6_tagOwn_179 1 rfl rfl ?_
      refine v_bipush dX6_tagOwn_180 rfl ?_
      refine v_aload_n dX6_tagOwn_182 1 rfl rfl ?_
      refine v_getS (f := 1) (t := 10) cf6 oc13 rfl rfl rfl (by decide) q628 dX6_tagOwn_183 ?_
      refine v_iload dX6_tagOwn_186 5 rfl ?_
      obtain ⟨r11, s8, e9, h⟩ := bd_some h
      have k10 := c_X4_lexeme e9 rx6
      have r12 : rg r11 := k10.1.2.2
      refine v_callV (st := [vI 8, vO 13]) cf4 oc10 k10 (lw_V q1449 q1450 q1451 q301 q1452) rfl yk_X4_lexeme ⟨Nat.le_of_ble_eq_true rfl, Nat.le_of_ble_eq_true rfl⟩ ⟨kc13, trivial⟩ ⟨kc13, trivial⟩ (Nat.le_of_ble_eq_true rfl) rfl dX6_tagOwn_188 ?_
      obtain ⟨s13, e14, h⟩ := bdv_some h
      have k15 := c_X6_blame e14 (rgl rfl) r12
      refine v_callV (st := []) cf6 oc13 k15 (lw_V q1478 q1480 qs45 q303 q1481) rfl yk_X6_blame ⟨Nat.le_of_ble_eq_true rfl, Nat.le_of_ble_eq_true rfl⟩ trivial ⟨kc13, trivial⟩ (Nat.le_of_ble_eq_true rfl) rfl dX6_tagOwn_191 ?_
      refine v_sub [1, 2, 3, 4, 5, 6, 0] (L1 := [(0, vO 13), (2, vI x2), (3, vI x3), (5, vI x5), (6, vI x6), (7, vI x7), (8, vI z0)]) rfl ?_
      exact wj_X6_tagOwn_194 h rx2 rx3 rx5 rx6 rx7 rz0 hrec hE

def j_X6_tagOwn_111 (rec : Int → Int → Int → vS → Option (vS)) (x2 : Int) (x3 : Int) (x5 : Int) (x6 : Int) (z0 : Int) (s : vS) : Option (vS) :=
  bd (f_X4_at x6 7 s) fun r4 s1 =>
  if r4 = 1 then
    j_X6_tagOwn_157 rec x2 x3 x5 x6 z0 1 s1
  else
    bd (f_X4_at x6 7 s1) fun r10 s7 =>
    if r10 = 0 then
      if (gI s7 10 5) = 0 then
        j_X6_tagOwn_157 rec x2 x3 x5 x6 z0 0 s7
      else
        j_X6_tagOwn_157 rec x2 x3 x5 x6 z0 1 s7
    else
      j_X6_tagOwn_157 rec x2 x3 x5 x6 z0 0 s7
theorem wj_X6_tagOwn_111 {x2 : Int} {x3 : Int} {x5 : Int} {x6 : Int} {z0 : Int} {s : vS} {rv : Option vA} {σo : vS} {rec : Int → Int → Int → vS → Option (vS)} {q : vS} (h : j_X6_tagOwn_111 rec x2 x3 x5 x6 z0 s = some q)  (rx2 : rg x2) (rx3 : rg x3) (rx5 : rg x5) (rx6 : rg x6) (rz0 : rg z0) (hrec : ∀ (y5 : Int) (s : vS) (q : vS), rec x2 x3 y5 s = some q → rg y5 → E_X6_tagOwn_35 rv σo q → VW cX6_tagOwn (RX6, rv, σo, none, 3, 69, 10, []) (P0 []) s 35 [(0, vO 13), (2, vI x2), (3, vI x3), (5, vI y5)] []) (hE : E_X6_tagOwn_35 rv σo q) : VW cX6_tagOwn (RX6, rv, σo, none, 3, 69, 10, []) (P0 []) s 111 [(0, vO 13), (2, vI x2), (3, vI x3), (5, vI x5), (6, vI x6)] [vI z0] := by
  unfold j_X6_tagOwn_111 at h
  refine v_istore (L1 := [(7, vI z0), (0, vO 13), (2, vI x2), (3, vI x3), (5, vI x5), (6, vI x6)]) dX6_tagOwn_111 (by decide) rfl ?_
  refine v_aload_n dX6_tagOwn_113 1 rfl rfl ?_
  refine v_getS (f := 1) (t := 10) cf6 oc13 rfl rfl rfl (by decide) q628 dX6_tagOwn_114 ?_
  refine v_iload dX6_tagOwn_117 5 rfl ?_
  refine v_bipush dX6_tagOwn_119 rfl ?_
  obtain ⟨r4, s1, e2, h⟩ := bd_some h
  have k3 := c_X4_at e2 rx6 (rgl rfl)
  have r5 : rg r4 := k3.1.2.2
  refine v_callV (st := []) cf4 oc10 k3 (lw_V q1500 q1400 q1401 q301 q1402) rfl yk_X4_at ⟨Nat.le_of_ble_eq_true rfl, Nat.le_of_ble_eq_true rfl⟩ trivial ⟨kc13, trivial⟩ (Nat.le_of_ble_eq_true rfl) rfl dX6_tagOwn_121 ?_
  refine v_iconst dX6_tagOwn_124 ?_
  refine v_icmp_eq (tgt := 152) dX6_tagOwn_125 r5 (rgl rfl) (by decide) (fun c6 => ?_) (fun c6 => ?_)
  · rw [if_pos c6] at h
    refine v_iconst dX6_tagOwn_152 ?_
    refine v_goto (tgt := 157) dX6_tagOwn_153 (by decide) ?_
    refine v_sub [1, 2, 3, 4, 5, 0] (L1 := [(0, vO 13), (2, vI x2), (3, vI x3), (5, vI x5), (6, vI x6), (7, vI z0)]) rfl ?_
    exact wj_X6_tagOwn_157 h rx2 rx3 rx5 rx6 rz0 (rgl rfl) hrec hE
  · rw [if_neg c6] at h
    refine v_aload_n dX6_tagOwn_128 1 rfl rfl ?_
    refine v_getS (f := 1) (t := 10) cf6 oc13 rfl rfl rfl (by decide) q628 dX6_tagOwn_129 ?_
    refine v_iload dX6_tagOwn_132 5 rfl ?_
    refine v_bipush dX6_tagOwn_134 rfl ?_
    obtain ⟨r10, s7, e8, h⟩ := bd_some h
    have k9 := c_X4_at e8 rx6 (rgl rfl)
    have r11 : rg r10 := k9.1.2.2
    refine v_callV (st := []) cf4 oc10 k9 (lw_V q1500 q1400 q1401 q301 q1402) rfl yk_X4_at ⟨Nat.le_of_ble_eq_true rfl, Nat.le_of_ble_eq_true rfl⟩ trivial ⟨kc13, trivial⟩ (Nat.le_of_ble_eq_true rfl) rfl dX6_tagOwn_136 ?_
    refine v_if_ne (tgt := 156) dX6_tagOwn_139 r11 (by decide) (fun c12 => ?_) (fun c12 => ?_)
    · rw [if_neg c12] at h
      refine v_iconst dX6_tagOwn_156 ?_
      refine v_sub [1, 2, 3, 4, 5, 0] (L1 := [(0, vO 13), (2, vI x2), (3, vI x3), (5, vI x5), (6, vI x6), (7, vI z0)]) rfl ?_
      exact wj_X6_tagOwn_157 h rx2 rx3 rx5 rx6 rz0 (rgl rfl) hrec hE
    · rw [if_pos c12] at h
      refine v_aload_n dX6_tagOwn_142 1 rfl rfl ?_
      refine v_getS (f := 1) (t := 10) cf6 oc13 rfl rfl rfl (by decide) q628 dX6_tagOwn_143 ?_
      refine v_getIN (f := 5) cf4 oc10 rfl (by decide) q480 dX6_tagOwn_146 ?_
      refine v_if_eq (tgt := 156) dX6_tagOwn_149 (gI_rg _ _ _) (by decide) (fun c13 => ?_) (fun c13 => ?_)
      · rw [if_pos c13] at h
        refine v_iconst dX6_tagOwn_156 ?_
        refine v_sub [1, 2, 3, 4, 5, 0] (L1 := [(0, vO 13), (2, vI x2), (3, vI x3), (5, vI x5), (6, vI x6), (7, vI z0)]) rfl ?_
        exact wj_X6_tagOwn_157 h rx2 rx3 rx5 rx6 rz0 (rgl rfl) hrec hE
      · rw [if_neg c13] at h
        refine v_iconst dX6_tagOwn_152 ?_
        refine v_goto (tgt := 157) dX6_tagOwn_153 (by decide) ?_
        refine v_sub [1, 2, 3, 4, 5, 0] (L1 := [(0, vO 13), (2, vI x2), (3, vI x3), (5, vI x5), (6, vI x6), (7, vI z0)]) rfl ?_
        exact wj_X6_tagOwn_157 h rx2 rx3 rx5 rx6 rz0 (rgl rfl) hrec hE

def j_X6_tagOwn_98 (rec : Int → Int → Int → vS → Option (vS)) (x2 : Int) (x3 : Int) (x5 : Int) (x6 : Int) (s : vS) : Option (vS) :=
  if (gI s 13 18) = x3 then
    j_X6_tagOwn_111 rec x2 x3 x5 x6 1 s
  else
    j_X6_tagOwn_111 rec x2 x3 x5 x6 0 s
theorem wj_X6_tagOwn_98 {x2 : Int} {x3 : Int} {x5 : Int} {x6 : Int} {s : vS} {rv : Option vA} {σo : vS} {rec : Int → Int → Int → vS → Option (vS)} {q : vS} (h : j_X6_tagOwn_98 rec x2 x3 x5 x6 s = some q)  (rx2 : rg x2) (rx3 : rg x3) (rx5 : rg x5) (rx6 : rg x6) (hrec : ∀ (y5 : Int) (s : vS) (q : vS), rec x2 x3 y5 s = some q → rg y5 → E_X6_tagOwn_35 rv σo q → VW cX6_tagOwn (RX6, rv, σo, none, 3, 69, 10, []) (P0 []) s 35 [(0, vO 13), (2, vI x2), (3, vI x3), (5, vI y5)] []) (hE : E_X6_tagOwn_35 rv σo q) : VW cX6_tagOwn (RX6, rv, σo, none, 3, 69, 10, []) (P0 []) s 98 [(0, vO 13), (2, vI x2), (3, vI x3), (5, vI x5), (6, vI x6)] [] := by
  unfold j_X6_tagOwn_98 at h
  refine v_aload_n dX6_tagOwn_98 0 rfl rfl ?_
  refine v_getI (f := 18) cf6 oc13 rfl (by decide) q645 dX6_tagOwn_99 ?_
  refine v_iload_n dX6_tagOwn_102 2 rfl rfl ?_
  refine v_icmp_ne (tgt := 110) dX6_tagOwn_103 (gI_rg _ _ _) rx3 (by decide) (fun c1 => ?_) (fun c1 => ?_)
  · rw [if_neg c1] at h
    refine v_iconst dX6_tagOwn_110 ?_
    exact wj_X6_tagOwn_111 h rx2 rx3 rx5 rx6 (rgl rfl) hrec hE
  · rw [if_pos c1] at h
    refine v_iconst dX6_tagOwn_106 ?_
    refine v_goto (tgt := 111) dX6_tagOwn_107 (by decide) ?_
    exact wj_X6_tagOwn_111 h rx2 rx3 rx5 rx6 (rgl rfl) hrec hE

def l_X6_tagOwn_35 : Nat → Int → Int → Int → vS → Option (vS)
  | 0, _, _, _, _ => none
  | n + 1, x2, x3, x5, s =>
    if x5 < 0 then
      some s
    else
      lq_1 (l_X6_tagOwn_46 FU x2 x3 x5 x2 0 s) fun y2 s3 =>
      bd (f_X4_at y2 5 s3) fun r9 s6 =>
      if r9 = 0 then
        bd (f_X4_lexeme y2 s6) fun r15 s12 =>
        bdv (f_X6_blame 8 r15 s12) fun s17 =>
        j_X6_tagOwn_98 (l_X6_tagOwn_35 n) x2 x3 x5 y2 s17
      else
        j_X6_tagOwn_98 (l_X6_tagOwn_35 n) x2 x3 x5 y2 s6
theorem wl_X6_tagOwn_35 {x2 : Int} {x3 : Int} {rv : Option vA} {σo : vS}  (rx2 : rg x2) (rx3 : rg x3) : ∀ (n : Nat) (x5 : Int) (s : vS) (q : vS), l_X6_tagOwn_35 n x2 x3 x5 s = some q → rg x5 → E_X6_tagOwn_35 rv σo q → VW cX6_tagOwn (RX6, rv, σo, none, 3, 69, 10, []) (P0 []) s 35 [(0, vO 13), (2, vI x2), (3, vI x3), (5, vI x5)] [] := by
  intro n
  induction n with
  | zero => intro x5 s q h; cases h
  | succ n ih =>
    intro x5 s q h rx5 hE
    unfold l_X6_tagOwn_35 at h
    refine v_iload dX6_tagOwn_35 3 rfl ?_
    refine v_if_lt (tgt := 259) dX6_tagOwn_37 rx5 (by decide) (fun c1 => ?_) (fun c1 => ?_)
    · rw [if_pos c1] at h
      cases h
      refine v_sub [] (L1 := []) rfl ?_
      exact hE _ rfl 
    · rw [if_neg c1] at h
      refine v_iload_n dX6_tagOwn_40 1 rfl rfl ?_
      refine v_istore (L1 := [(6, vI x2), (0, vO 13), (2, vI x2), (3, vI x3), (5, vI x5)]) dX6_tagOwn_41 (by decide) rfl ?_
      refine v_iconst dX6_tagOwn_43 ?_
      refine v_istore (L1 := [(7, vI 0), (6, vI x2), (0, vO 13), (2, vI x2), (3, vI x3), (5, vI x5)]) dX6_tagOwn_44 (by decide) rfl ?_
      refine v_sub [2, 3, 4, 5, 1, 0] (L1 := [(0, vO 13), (2, vI x2), (3, vI x3), (5, vI x5), (6, vI x2), (7, vI 0)]) rfl ?_
      obtain ⟨y2, s3, e4, h⟩ := lq_1_some h
      refine wl_X6_tagOwn_46 rx2 rx3 rx5 FU x2 0 s _ e4 rx2 (rgl rfl) ?_
      unfold E_X6_tagOwn_46
      intro y2' s3' z_ r5
      cases z_
      refine v_aload_n dX6_tagOwn_70 0 rfl rfl ?_
      refine v_getS (f := 1) (t := 10) cf6 oc13 rfl rfl rfl (by decide) q628 dX6_tagOwn_71 ?_
      refine v_iload dX6_tagOwn_74 4 rfl ?_
      refine v_iconst dX6_tagOwn_76 ?_
      obtain ⟨r9, s6, e7, h⟩ := bd_some h
      have k8 := c_X4_at e7 r5 (rgl rfl)
      have r10 : rg r9 := k8.1.2.2
      refine v_callV (st := []) cf4 oc10 k8 (lw_V q1500 q1400 q1401 q301 q1402) rfl yk_X4_at ⟨Nat.le_of_ble_eq_true rfl, Nat.le_of_ble_eq_true rfl⟩ trivial ⟨kc13, trivial⟩ (Nat.le_of_ble_eq_true rfl) rfl dX6_tagOwn_77 ?_
      refine v_if_ne (tgt := 98) dX6_tagOwn_80 r10 (by decide) (fun c11 => ?_) (fun c11 => ?_)
      · rw [if_neg c11] at h
        exact wj_X6_tagOwn_98 h rx2 rx3 rx5 r5 ih hE
      · rw [if_pos c11] at h
        refine v_aload_n dX6_tagOwn_83 0 rfl rfl ?_
        refine v_bipush dX6_tagOwn_84 rfl ?_
        refine v_aload_n dX6_tagOwn_86 0 rfl rfl ?_
        refine v_getS (f := 1) (t := 10) cf6 oc13 rfl rfl rfl (by decide) q628 dX6_tagOwn_87 ?_
        refine v_iload dX6_tagOwn_90 4 rfl ?_
        obtain ⟨r15, s12, e13, h⟩ := bd_some h
        have k14 := c_X4_lexeme e13 r5
        have r16 : rg r15 := k14.1.2.2
        refine v_callV (st := [vI 8, vO 13]) cf4 oc10 k14 (lw_V q1449 q1450 q1451 q301 q1452) rfl yk_X4_lexeme ⟨Nat.le_of_ble_eq_true rfl, Nat.le_of_ble_eq_true rfl⟩ ⟨kc13, trivial⟩ ⟨kc13, trivial⟩ (Nat.le_of_ble_eq_true rfl) rfl dX6_tagOwn_92 ?_
        obtain ⟨s17, e18, h⟩ := bdv_some h
        have k19 := c_X6_blame e18 (rgl rfl) r16
        refine v_callV (st := []) cf6 oc13 k19 (lw_V q1478 q1480 qs45 q303 q1481) rfl yk_X6_blame ⟨Nat.le_of_ble_eq_true rfl, Nat.le_of_ble_eq_true rfl⟩ trivial ⟨kc13, trivial⟩ (Nat.le_of_ble_eq_true rfl) rfl dX6_tagOwn_95 ?_
        exact wj_X6_tagOwn_98 h rx2 rx3 rx5 r5 ih hE

def f_X6_tagOwn (x1 : Int) (x2 : Int) (x3 : Int) (s : vS) : Option (vS) :=
  lq_1 (l_X6_tagOwn_6 FU x2 x3 0 x2 s) fun y1 s2 =>
  vl (w32 (y1 - 1)) fun y5 =>
  lq_0 (l_X6_tagOwn_35 FU x2 x3 y5 s2) fun s8 =>
  some s8
theorem yk_X6_tagOwn : yOk yX6_tagOwn 3 := ⟨by decide, by decide, by decide +kernel⟩
theorem c_X6_tagOwn {x1 : Int} {x2 : Int} {x3 : Int} {s : vS} {out : vS} (h : f_X6_tagOwn x1 x2 x3 s = some out)  (rx1 : rg x1) (rx2 : rg x2) (rx3 : rg x3) : VC yX6_tagOwn cX6_tagOwn 10 none 3 69 [vO 13, vI x1, vI x2, vI x3] s none out [] := by
  unfold f_X6_tagOwn at h
  refine VC.of RX6 (by decide) rfl (Nat.le_of_ble_eq_true rfl) ?_
  show VW cX6_tagOwn (RX6, none, out, none, 3, 69, 10, []) (P0 []) s 0 [(0, vO 13), (1, vI x1), (2, vI x2), (3, vI x3)] []
  refine v_iconst dX6_tagOwn_0 ?_
  refine v_istore (L1 := [(4, vI 0), (0, vO 13), (1, vI x1), (2, vI x2), (3, vI x3)]) dX6_tagOwn_1 (by decide) rfl ?_
  refine v_iload_n dX6_tagOwn_3 3 rfl rfl ?_
  refine v_istore (L1 := [(5, vI x2), (4, vI 0), (0, vO 13), (1, vI x1), (2, vI x2), (3, vI x3)]) dX6_tagOwn_4 (by decide) rfl ?_
  refine v_sub [2, 4, 5, 1, 0] (L1 := [(0, vO 13), (2, vI x2), (3, vI x3), (4, vI 0), (5, vI x2)]) rfl ?_
  obtain ⟨y1, s2, e3, h⟩ := lq_1_some h
  refine wl_X6_tagOwn_6 rx2 rx3 FU 0 x2 s _ e3 (rgl rfl) rx2 ?_
  unfold E_X6_tagOwn_6
  intro y1' s2' z_ r4
  cases z_
  refine v_iload dX6_tagOwn_29 3 rfl ?_
  refine v_iconst dX6_tagOwn_31 ?_
  refine v_isub dX6_tagOwn_32 ?_
  obtain ⟨y5, e6, h⟩ := vl_some h
  rw [← e6]
  have r7 : rg y5 := by rw [e6]; exact w32_rg _
  refine v_istore (L1 := [(5, vI y5), (0, vO 13), (2, vI x2), (3, vI x3), (4, vI y1)]) dX6_tagOwn_33 (by decide) rfl ?_
  refine v_sub [1, 2, 3, 0] (L1 := [(0, vO 13), (2, vI x2), (3, vI x3), (5, vI y5)]) rfl ?_
  obtain ⟨s8, e9, h⟩ := lq_0_some h
  refine wl_X6_tagOwn_35 rx2 rx3 FU y5 s2 _ e9 r7 ?_
  unfold E_X6_tagOwn_35
  intro s8' z_
  cases z_
  cases h
  exact v_vret dX6_tagOwn_259

def E_X6_tagOne_251 (rv : Option vA) (σo : vS) (q : vS) : Prop := ∀ (s' : vS), q = s' → VW cX6_tagOne (RX6, rv, σo, none, 6, 138, 7, []) (P0 []) s' 299 [] []
def l_X6_tagOne_251 : Nat → Int → Int → vS → Option (vS)
  | 0, _, _, _ => none
  | n + 1, x4, x5, s =>
    if x5 ≤ x4 then
      some s
    else
      gd (inb x4 (gN s 40)) <|
      vl (gE s 40 x4) fun y3 =>
      gd (inb x5 (gN s 40)) <|
      gd (inb x4 (gN s 40)) <|
      stp (sE s 40 x4 (gE s 40 x5)) fun s8 =>
      gd (inb x5 (gN s8 40)) <|
      stp (sE s8 40 x5 y3) fun s11 =>
      vl (w32 (x4 + 1)) fun y13 =>
      vl (w32 (x5 + (-1))) fun y16 =>
      l_X6_tagOne_251 n y13 y16 s11
theorem wl_X6_tagOne_251 {rv : Option vA} {σo : vS}  : ∀ (n : Nat) (x4 : Int) (x5 : Int) (s : vS) (q : vS), l_X6_tagOne_251 n x4 x5 s = some q → rg x4 → rg x5 → E_X6_tagOne_251 rv σo q → VW cX6_tagOne (RX6, rv, σo, none, 6, 138, 7, []) (P0 []) s 251 [(0, vO 13), (4, vI x4), (5, vI x5)] [] := by
  intro n
  induction n with
  | zero => intro x4 x5 s q h; cases h
  | succ n ih =>
    intro x4 x5 s q h rx4 rx5 hE
    unfold l_X6_tagOne_251 at h
    refine v_iload dX6_tagOne_251 1 rfl ?_
    refine v_iload dX6_tagOne_253 2 rfl ?_
    refine v_icmp_ge (tgt := 299) dX6_tagOne_255 rx4 rx5 (by decide) (fun c1 => ?_) (fun c1 => ?_)
    · rw [if_pos c1] at h
      cases h
      refine v_sub [] (L1 := []) rfl ?_
      exact hE _ rfl 
    · rw [if_neg c1] at h
      refine v_aload_n dX6_tagOne_258 0 rfl rfl ?_
      refine v_getS (f := 17) (t := 40) cf6 oc13 rfl rfl rfl (by decide) q644 dX6_tagOne_259 ?_
      refine v_iload dX6_tagOne_262 1 rfl ?_
      obtain ⟨g2, h⟩ := gd_some h
      refine v_iald oc40 rx4 g2.1 g2.2 dX6_tagOne_264 ?_
      obtain ⟨y3, e4, h⟩ := vl_some h
      rw [← e4]
      have r5 : rg y3 := by rw [e4]; exact gE_rg _ _ _
      refine v_istore (L1 := [(6, vI y3), (0, vO 13), (4, vI x4), (5, vI x5)]) dX6_tagOne_265 (by decide) rfl ?_
      refine v_aload_n dX6_tagOne_267 1 rfl rfl ?_
      refine v_getS (f := 17) (t := 40) cf6 oc13 rfl rfl rfl (by decide) q644 dX6_tagOne_268 ?_
      refine v_iload dX6_tagOne_271 2 rfl ?_
      refine v_aload_n dX6_tagOne_273 1 rfl rfl ?_
      refine v_getS (f := 17) (t := 40) cf6 oc13 rfl rfl rfl (by decide) q644 dX6_tagOne_274 ?_
      refine v_iload dX6_tagOne_277 3 rfl ?_
      obtain ⟨g6, h⟩ := gd_some h
      refine v_iald oc40 rx5 g6.1 g6.2 dX6_tagOne_279 ?_
      obtain ⟨g7, h⟩ := gd_some h
      obtain ⟨s8, e9, h⟩ := stp_some h
      refine v_iast oc40 rx4 g7.1 g7.2 dX6_tagOne_280 ?_
      rw [← e9]
      refine v_aload_n dX6_tagOne_281 1 rfl rfl ?_
      refine v_getS (f := 17) (t := 40) cf6 oc13 rfl rfl rfl (by decide) q644 dX6_tagOne_282 ?_
      refine v_iload dX6_tagOne_285 3 rfl ?_
      refine v_iload dX6_tagOne_287 0 rfl ?_
      obtain ⟨g10, h⟩ := gd_some h
      obtain ⟨s11, e12, h⟩ := stp_some h
      refine v_iast oc40 rx5 g10.1 g10.2 dX6_tagOne_289 ?_
      rw [← e12]
      obtain ⟨y13, e14, h⟩ := vl_some h
      refine v_iinc (L1 := [(4, vI (w32 (x4 + 1))), (6, vI y3), (0, vO 13), (5, vI x5)]) dX6_tagOne_290 2 rfl (by decide) rfl ?_
      rw [← e14]
      have r15 : rg y13 := by rw [e14]; exact w32_rg _
      obtain ⟨y16, e17, h⟩ := vl_some h
      refine v_iinc (L1 := [(5, vI (w32 (x5 + (-1)))), (4, vI y13), (6, vI y3), (0, vO 13)]) dX6_tagOne_293 3 rfl (by decide) rfl ?_
      rw [← e17]
      have r18 : rg y16 := by rw [e17]; exact w32_rg _
      refine v_goto (tgt := 251) dX6_tagOne_296 (by decide) ?_
      refine v_sub [3, 1, 0] (L1 := [(0, vO 13), (4, vI y13), (5, vI y16)]) rfl ?_
      exact ih y13 y16 s11 _ h r15 r18 hE

def j_X6_tagOne_228 (x1 : Int) (x3 : Int) (s : vS) : Option (vS) :=
  gd (inb x1 (gN s 37)) <|
  stp (sE s 37 x1 (w32 ((gI s 13 18) - x3))) fun s2 =>
  vl (w32 ((gI s2 13 18) - 1)) fun y4 =>
  lq_0 (l_X6_tagOne_251 FU x3 y4 s2) fun s7 =>
  some s7
theorem wj_X6_tagOne_228 {x1 : Int} {x3 : Int} {s : vS} {out : vS} (h : j_X6_tagOne_228 x1 x3 s = some out)  (rx1 : rg x1) (rx3 : rg x3) : VW cX6_tagOne (RX6, none, out, none, 6, 138, 7, []) (P0 []) s 228 [(0, vO 13), (1, vI x1), (3, vI x3)] [] := by
  unfold j_X6_tagOne_228 at h
  refine v_aload_n dX6_tagOne_228 0 rfl rfl ?_
  refine v_getS (f := 14) (t := 37) cf6 oc13 rfl rfl rfl (by decide) q641 dX6_tagOne_229 ?_
  refine v_iload_n dX6_tagOne_232 1 rfl rfl ?_
  refine v_aload_n dX6_tagOne_233 0 rfl rfl ?_
  refine v_getI (f := 18) cf6 oc13 rfl (by decide) q645 dX6_tagOne_234 ?_
  refine v_iload_n dX6_tagOne_237 2 rfl rfl ?_
  refine v_isub dX6_tagOne_238 ?_
  obtain ⟨g1, h⟩ := gd_some h
  obtain ⟨s2, e3, h⟩ := stp_some h
  refine v_iast oc37 rx1 g1.1 g1.2 dX6_tagOne_239 ?_
  rw [← e3]
  refine v_iload_n dX6_tagOne_240 2 rfl rfl ?_
  refine v_istore (L1 := [(4, vI x3), (0, vO 13), (1, vI x1), (3, vI x3)]) dX6_tagOne_241 (by decide) rfl ?_
  refine v_aload_n dX6_tagOne_243 1 rfl rfl ?_
  refine v_getI (f := 18) cf6 oc13 rfl (by decide) q645 dX6_tagOne_244 ?_
  refine v_iconst dX6_tagOne_247 ?_
  refine v_isub dX6_tagOne_248 ?_
  obtain ⟨y4, e5, h⟩ := vl_some h
  rw [← e5]
  have r6 : rg y4 := by rw [e5]; exact w32_rg _
  refine v_istore (L1 := [(5, vI y4), (4, vI x3), (0, vO 13), (1, vI x1), (3, vI x3)]) dX6_tagOne_249 (by decide) rfl ?_
  refine v_sub [2, 1, 0] (L1 := [(0, vO 13), (4, vI x3), (5, vI y4)]) rfl ?_
  obtain ⟨s7, e8, h⟩ := lq_0_some h
  refine wl_X6_tagOne_251  FU x3 y4 s2 _ e8 rx3 r6 ?_
  unfold E_X6_tagOne_251
  intro s7' z_
  cases z_
  cases h
  exact v_vret dX6_tagOne_299

def j_X6_tagOne_178 (x1 : Int) (x3 : Int) (s : vS) : Option (vS) :=
  bd (f_X4_at x1 2 s) fun r4 s1 =>
  bdv (f_X6_tagOwn x1 r4 x3 s1) fun s6 =>
  if (w32 ((gI s6 13 18) - x3)) ≤ 100 then
    j_X6_tagOne_228 x1 x3 s6
  else
    bd (f_X4_lexeme x1 s6) fun r13 s10 =>
    bdv (f_X6_blame 8 r13 s10) fun s15 =>
    stp (sI s15 13 18 (w32 ((w32 (x3 + 100)) + 1))) fun s18 =>
    j_X6_tagOne_228 x1 x3 s18
theorem wj_X6_tagOne_178 {x1 : Int} {x3 : Int} {s : vS} {out : vS} (h : j_X6_tagOne_178 x1 x3 s = some out)  (rx1 : rg x1) (rx3 : rg x3) : VW cX6_tagOne (RX6, none, out, none, 6, 138, 7, []) (P0 []) s 178 [(0, vO 13), (1, vI x1), (3, vI x3)] [] := by
  unfold j_X6_tagOne_178 at h
  refine v_aload_n dX6_tagOne_178 0 rfl rfl ?_
  refine v_iload_n dX6_tagOne_179 1 rfl rfl ?_
  refine v_aload_n dX6_tagOne_180 0 rfl rfl ?_
  refine v_getS (f := 1) (t := 10) cf6 oc13 rfl rfl rfl (by decide) q628 dX6_tagOne_181 ?_
  refine v_iload_n dX6_tagOne_184 1 rfl rfl ?_
  refine v_iconst dX6_tagOne_185 ?_
  obtain ⟨r4, s1, e2, h⟩ := bd_some h
  have k3 := c_X4_at e2 rx1 (rgl rfl)
  have r5 : rg r4 := k3.1.2.2
  refine v_callV (st := [vI x1, vO 13]) cf4 oc10 k3 (lw_V q1500 q1400 q1401 q301 q1402) rfl yk_X4_at ⟨Nat.le_of_ble_eq_true rfl, Nat.le_of_ble_eq_true rfl⟩ ⟨kc13, trivial⟩ ⟨kc13, trivial⟩ (Nat.le_of_ble_eq_true rfl) rfl dX6_tagOne_186 ?_
  refine v_iload_n dX6_tagOne_189 2 rfl rfl ?_
  obtain ⟨s6, e7, h⟩ := bdv_some h
  have k8 := c_X6_tagOwn e7 rx1 r5 rx3
  refine v_callV (st := []) cf6 oc13 k8 (lw_V q1628 q1630 qs69 q303 q1631) rfl yk_X6_tagOwn ⟨Nat.le_of_ble_eq_true rfl, Nat.le_of_ble_eq_true rfl⟩ trivial ⟨kc13, trivial⟩ (Nat.le_of_ble_eq_true rfl) rfl dX6_tagOne_190 ?_
  refine v_aload_n dX6_tagOne_193 0 rfl rfl ?_
  refine v_getI (f := 18) cf6 oc13 rfl (by decide) q645 dX6_tagOne_194 ?_
  refine v_iload_n dX6_tagOne_197 2 rfl rfl ?_
  refine v_isub dX6_tagOne_198 ?_
  refine v_bipush dX6_tagOne_199 rfl ?_
  refine v_icmp_le (tgt := 228) dX6_tagOne_201 (w32_rg _) (rgl rfl) (by decide) (fun c9 => ?_) (fun c9 => ?_)
  · rw [if_pos c9] at h
    exact wj_X6_tagOne_228 h rx1 rx3
  · rw [if_neg c9] at h
    refine v_aload_n dX6_tagOne_204 0 rfl rfl ?_
    refine v_bipush dX6_tagOne_205 rfl ?_
    refine v_aload_n dX6_tagOne_207 0 rfl rfl ?_
    refine v_getS (f := 1) (t := 10) cf6 oc13 rfl rfl rfl (by decide) q628 dX6_tagOne_208 ?_
    refine v_iload_n dX6_tagOne_211 1 rfl rfl ?_
    obtain ⟨r13, s10, e11, h⟩ := bd_some h
    have k12 := c_X4_lexeme e11 rx1
    have r14 : rg r13 := k12.1.2.2
    refine v_callV (st := [vI 8, vO 13]) cf4 oc10 k12 (lw_V q1449 q1450 q1451 q301 q1452) rfl yk_X4_lexeme ⟨Nat.le_of_ble_eq_true rfl, Nat.le_of_ble_eq_true rfl⟩ ⟨kc13, trivial⟩ ⟨kc13, trivial⟩ (Nat.le_of_ble_eq_true rfl) rfl dX6_tagOne_212 ?_
    obtain ⟨s15, e16, h⟩ := bdv_some h
    have k17 := c_X6_blame e16 (rgl rfl) r14
    refine v_callV (st := []) cf6 oc13 k17 (lw_V q1478 q1480 qs45 q303 q1481) rfl yk_X6_blame ⟨Nat.le_of_ble_eq_true rfl, Nat.le_of_ble_eq_true rfl⟩ trivial ⟨kc13, trivial⟩ (Nat.le_of_ble_eq_true rfl) rfl dX6_tagOne_215 ?_
    refine v_aload_n dX6_tagOne_218 0 rfl rfl ?_
    refine v_iload_n dX6_tagOne_219 2 rfl rfl ?_
    refine v_bipush dX6_tagOne_220 rfl ?_
    refine v_iadd dX6_tagOne_222 ?_
    refine v_iconst dX6_tagOne_223 ?_
    refine v_iadd dX6_tagOne_224 ?_
    obtain ⟨s18, e19, h⟩ := stp_some h
    refine v_putI (f := 18) cf6 oc13 rfl (by decide) q645 dX6_tagOne_225 rfl rfl ?_
    rw [← e19]
    exact wj_X6_tagOne_228 h rx1 rx3

def E_X6_tagOne_118 (x1 : Int) (x3 : Int) (rv : Option vA) (σo : vS) (q : vS) : Prop := ∀ (s' : vS), q = s' → VW cX6_tagOne (RX6, rv, σo, none, 6, 138, 7, []) (P0 []) s' 147 [(0, vO 13), (1, vI x1), (3, vI x3)] []
def l_X6_tagOne_118 : Nat → Int → Int → Int → Int → vS → Option (vS)
  | 0, _, _, _, _, _ => none
  | n + 1, x1, x2, x3, x4, s =>
    if x4 < 0 then
      some s
    else
      gd (inb x2 (gN s 36)) <|
      gd (inb (w32 ((gE s 36 x2) + x4)) (gN s 40)) <|
      bdv (f_X6_push (gE s 40 (w32 ((gE s 36 x2) + x4))) s) fun s4 =>
      vl (w32 (x4 + (-1))) fun y7 =>
      l_X6_tagOne_118 n x1 x2 x3 y7 s4
theorem wl_X6_tagOne_118 {x1 : Int} {x2 : Int} {x3 : Int} {rv : Option vA} {σo : vS}  (rx1 : rg x1) (rx2 : rg x2) (rx3 : rg x3) : ∀ (n : Nat) (x4 : Int) (s : vS) (q : vS), l_X6_tagOne_118 n x1 x2 x3 x4 s = some q → rg x4 → E_X6_tagOne_118 x1 x3 rv σo q → VW cX6_tagOne (RX6, rv, σo, none, 6, 138, 7, []) (P0 []) s 118 [(0, vO 13), (1, vI x1), (2, vI x2), (3, vI x3), (4, vI x4)] [] := by
  intro n
  induction n with
  | zero => intro x4 s q h; cases h
  | succ n ih =>
    intro x4 s q h rx4 hE
    unfold l_X6_tagOne_118 at h
    refine v_iload dX6_tagOne_118 4 rfl ?_
    refine v_if_lt (tgt := 147) dX6_tagOne_120 rx4 (by decide) (fun c1 => ?_) (fun c1 => ?_)
    · rw [if_pos c1] at h
      cases h
      refine v_sub [0, 1, 3] (L1 := [(0, vO 13), (1, vI x1), (3, vI x3)]) rfl ?_
      exact hE _ rfl 
    · rw [if_neg c1] at h
      refine v_aload_n dX6_tagOne_123 0 rfl rfl ?_
      refine v_aload_n dX6_tagOne_124 0 rfl rfl ?_
      refine v_getS (f := 17) (t := 40) cf6 oc13 rfl rfl rfl (by decide) q644 dX6_tagOne_125 ?_
      refine v_aload_n dX6_tagOne_128 0 rfl rfl ?_
      refine v_getS (f := 13) (t := 36) cf6 oc13 rfl rfl rfl (by decide) q640 dX6_tagOne_129 ?_
      refine v_iload_n dX6_tagOne_132 2 rfl rfl ?_
      obtain ⟨g2, h⟩ := gd_some h
      refine v_iald oc36 rx2 g2.1 g2.2 dX6_tagOne_133 ?_
      refine v_iload dX6_tagOne_134 4 rfl ?_
      refine v_iadd dX6_tagOne_136 ?_
      obtain ⟨g3, h⟩ := gd_some h
      refine v_iald oc40 (w32_rg _) g3.1 g3.2 dX6_tagOne_137 ?_
      obtain ⟨s4, e5, h⟩ := bdv_some h
      have k6 := c_X6_push e5 (gE_rg _ _ _)
      refine v_callV (st := []) cf6 oc13 k6 (lw_V q1621 q1623 qs68 q303 q1624) rfl yk_X6_push ⟨Nat.le_of_ble_eq_true rfl, Nat.le_of_ble_eq_true rfl⟩ trivial ⟨kc13, trivial⟩ (Nat.le_of_ble_eq_true rfl) rfl dX6_tagOne_138 ?_
      obtain ⟨y7, e8, h⟩ := vl_some h
      refine v_iinc (L1 := [(4, vI (w32 (x4 + (-1)))), (0, vO 13), (1, vI x1), (2, vI x2), (3, vI x3)]) dX6_tagOne_141 4 rfl (by decide) rfl ?_
      rw [← e8]
      have r9 : rg y7 := by rw [e8]; exact w32_rg _
      refine v_goto (tgt := 118) dX6_tagOne_144 (by decide) ?_
      refine v_sub [1, 2, 3, 4, 0] (L1 := [(0, vO 13), (1, vI x1), (2, vI x2), (3, vI x3), (4, vI y7)]) rfl ?_
      exact ih y7 s4 _ h r9 hE

def j_X6_tagOne_103 (x1 : Int) (x2 : Int) (x3 : Int) (s : vS) : Option (vS) :=
  if x2 = (-1) then
    bd (f_X4_kind x1 s) fun r5 s2 =>
    if r5 = 16 then
      j_X6_tagOne_178 x1 x3 s2
    else
      bd (f_X4_kind x1 s2) fun r11 s8 =>
      bd (f_X6_universal r11 s8) fun r16 s13 =>
      bdv (f_X6_push r16 s13) fun s18 =>
      j_X6_tagOne_178 x1 x3 s18
  else
    gd (inb x2 (gN s 37)) <|
    vl (w32 ((gE s 37 x2) - 1)) fun y22 =>
    lq_0 (l_X6_tagOne_118 FU x1 x2 x3 y22 s) fun s25 =>
    j_X6_tagOne_178 x1 x3 s25
theorem wj_X6_tagOne_103 {x1 : Int} {x2 : Int} {x3 : Int} {s : vS} {out : vS} (h : j_X6_tagOne_103 x1 x2 x3 s = some out)  (rx1 : rg x1) (rx2 : rg x2) (rx3 : rg x3) : VW cX6_tagOne (RX6, none, out, none, 6, 138, 7, []) (P0 []) s 103 [(0, vO 13), (1, vI x1), (2, vI x2), (3, vI x3)] [] := by
  unfold j_X6_tagOne_103 at h
  refine v_iload_n dX6_tagOne_103 2 rfl rfl ?_
  refine v_iconst dX6_tagOne_104 ?_
  refine v_icmp_eq (tgt := 150) dX6_tagOne_105 rx2 (rgl rfl) (by decide) (fun c1 => ?_) (fun c1 => ?_)
  · rw [if_pos c1] at h
    refine v_aload_n dX6_tagOne_150 0 rfl rfl ?_
    refine v_getS (f := 1) (t := 10) cf6 oc13 rfl rfl rfl (by decide) q628 dX6_tagOne_151 ?_
    refine v_iload_n dX6_tagOne_154 1 rfl rfl ?_
    obtain ⟨r5, s2, e3, h⟩ := bd_some h
    have k4 := c_X4_kind e3 rx1
    have r6 : rg r5 := k4.1.2.2
    refine v_callV (st := []) cf4 oc10 k4 (lw_V q1445 q1446 q1447 q301 q1448) rfl yk_X4_kind ⟨Nat.le_of_ble_eq_true rfl, Nat.le_of_ble_eq_true rfl⟩ trivial ⟨kc13, trivial⟩ (Nat.le_of_ble_eq_true rfl) rfl dX6_tagOne_155 ?_
    refine v_bipush dX6_tagOne_158 rfl ?_
    refine v_icmp_eq (tgt := 178) dX6_tagOne_160 r6 (rgl rfl) (by decide) (fun c7 => ?_) (fun c7 => ?_)
    · rw [if_pos c7] at h
      refine v_sub [0, 1, 3] (L1 := [(0, vO 13), (1, vI x1), (3, vI x3)]) rfl ?_
      exact wj_X6_tagOne_178 h rx1 rx3
    · rw [if_neg c7] at h
      refine v_aload_n dX6_tagOne_163 0 rfl rfl ?_
      refine v_aload_n dX6_tagOne_164 0 rfl rfl ?_
      refine v_getS (f := 1) (t := 10) cf6 oc13 rfl rfl rfl (by decide) q628 dX6_tagOne_165 ?_
      refine v_iload_n dX6_tagOne_168 1 rfl rfl ?_
      obtain ⟨r11, s8, e9, h⟩ := bd_some h
      have k10 := c_X4_kind e9 rx1
      have r12 : rg r11 := k10.1.2.2
      refine v_callV (st := [vO 13]) cf4 oc10 k10 (lw_V q1445 q1446 q1447 q301 q1448) rfl yk_X4_kind ⟨Nat.le_of_ble_eq_true rfl, Nat.le_of_ble_eq_true rfl⟩ ⟨kc13, trivial⟩ ⟨kc13, trivial⟩ (Nat.le_of_ble_eq_true rfl) rfl dX6_tagOne_169 ?_
      obtain ⟨r16, s13, e14, h⟩ := bd_some h
      have k15 := c_X6_universal e14 r12
      have r17 : rg r16 := k15.1.2.2
      refine v_callS (st := [vO 13]) k15 (lw_S q1625 q1626 q303 q1627) yk_X6_universal ⟨Nat.le_of_ble_eq_true rfl, Nat.le_of_ble_eq_true rfl⟩ ⟨kc13, trivial⟩ ⟨kc13, trivial⟩ (Nat.le_of_ble_eq_true rfl) rfl dX6_tagOne_172 ?_
      obtain ⟨s18, e19, h⟩ := bdv_some h
      have k20 := c_X6_push e19 r17
      refine v_callV (st := []) cf6 oc13 k20 (lw_V q1621 q1623 qs68 q303 q1624) rfl yk_X6_push ⟨Nat.le_of_ble_eq_true rfl, Nat.le_of_ble_eq_true rfl⟩ trivial ⟨kc13, trivial⟩ (Nat.le_of_ble_eq_true rfl) rfl dX6_tagOne_175 ?_
      refine v_sub [0, 1, 3] (L1 := [(0, vO 13), (1, vI x1), (3, vI x3)]) rfl ?_
      exact wj_X6_tagOne_178 h rx1 rx3
  · rw [if_neg c1] at h
    refine v_aload_n dX6_tagOne_108 0 rfl rfl ?_
    refine v_getS (f := 14) (t := 37) cf6 oc13 rfl rfl rfl (by decide) q641 dX6_tagOne_109 ?_
    refine v_iload_n dX6_tagOne_112 2 rfl rfl ?_
    obtain ⟨g21, h⟩ := gd_some h
    refine v_iald oc37 rx2 g21.1 g21.2 dX6_tagOne_113 ?_
    refine v_iconst dX6_tagOne_114 ?_
    refine v_isub dX6_tagOne_115 ?_
    obtain ⟨y22, e23, h⟩ := vl_some h
    rw [← e23]
    have r24 : rg y22 := by rw [e23]; exact w32_rg _
    refine v_istore (L1 := [(4, vI y22), (0, vO 13), (1, vI x1), (2, vI x2), (3, vI x3)]) dX6_tagOne_116 (by decide) rfl ?_
    refine v_sub [1, 2, 3, 4, 0] (L1 := [(0, vO 13), (1, vI x1), (2, vI x2), (3, vI x3), (4, vI y22)]) rfl ?_
    obtain ⟨s25, e26, h⟩ := lq_0_some h
    refine wl_X6_tagOne_118 rx1 rx2 rx3 FU y22 s _ e26 r24 ?_
    unfold E_X6_tagOne_118
    intro s25' z_
    cases z_
    refine v_goto (tgt := 178) dX6_tagOne_147 (by decide) ?_
    exact wj_X6_tagOne_178 h rx1 rx3

def j_X6_tagOne_22 (x1 : Int) (z0 : Int) (s : vS) : Option (vS) :=
  vl (gI s 13 18) fun y1 =>
  gd (inb x1 (gN s 36)) <|
  stp (sE s 36 x1 y1) fun s5 =>
  if z0 = (-1) then
    j_X6_tagOne_103 x1 z0 y1 s5
  else
    bd (f_X4_at x1 2 s5) fun r11 s8 =>
    if r11 = (-1) then
      gd (inb z0 (gN s8 36)) <|
      gd (inb x1 (gN s8 36)) <|
      stp (sE s8 36 x1 (gE s8 36 z0)) fun s16 =>
      gd (inb z0 (gN s16 37)) <|
      gd (inb x1 (gN s16 37)) <|
      stp (sE s16 37 x1 (gE s16 37 z0)) fun s20 =>
      gd (inb x1 (gN s20 37)) <|
      if (gE s20 37 x1) ≤ 100 then
        some s20
      else
        bd (f_X4_lexeme x1 s20) fun r27 s24 =>
        bdv (f_X6_blame 8 r27 s24) fun s29 =>
        some s29
    else
      j_X6_tagOne_103 x1 z0 y1 s8
theorem wj_X6_tagOne_22 {x1 : Int} {z0 : Int} {s : vS} {out : vS} (h : j_X6_tagOne_22 x1 z0 s = some out)  (rx1 : rg x1) (rz0 : rg z0) : VW cX6_tagOne (RX6, none, out, none, 6, 138, 7, []) (P0 []) s 22 [(0, vO 13), (1, vI x1)] [vI z0] := by
  unfold j_X6_tagOne_22 at h
  refine v_istore_n (L1 := [(2, vI z0), (0, vO 13), (1, vI x1)]) dX6_tagOne_22 rfl (by decide) rfl ?_
  refine v_aload_n dX6_tagOne_23 1 rfl rfl ?_
  refine v_getI (f := 18) cf6 oc13 rfl (by decide) q645 dX6_tagOne_24 ?_
  obtain ⟨y1, e2, h⟩ := vl_some h
  rw [← e2]
  have r3 : rg y1 := by rw [e2]; exact gI_rg _ _ _
  refine v_istore_n (L1 := [(3, vI y1), (2, vI z0), (0, vO 13), (1, vI x1)]) dX6_tagOne_27 rfl (by decide) rfl ?_
  refine v_aload_n dX6_tagOne_28 2 rfl rfl ?_
  refine v_getS (f := 13) (t := 36) cf6 oc13 rfl rfl rfl (by decide) q640 dX6_tagOne_29 ?_
  refine v_iload_n dX6_tagOne_32 3 rfl rfl ?_
  refine v_iload_n dX6_tagOne_33 0 rfl rfl ?_
  obtain ⟨g4, h⟩ := gd_some h
  obtain ⟨s5, e6, h⟩ := stp_some h
  refine v_iast oc36 rx1 g4.1 g4.2 dX6_tagOne_34 ?_
  rw [← e6]
  refine v_iload_n dX6_tagOne_35 1 rfl rfl ?_
  refine v_iconst dX6_tagOne_36 ?_
  refine v_icmp_eq (tgt := 103) dX6_tagOne_37 rz0 (rgl rfl) (by decide) (fun c7 => ?_) (fun c7 => ?_)
  · rw [if_pos c7] at h
    refine v_sub [2, 3, 1, 0] (L1 := [(0, vO 13), (1, vI x1), (2, vI z0), (3, vI y1)]) rfl ?_
    exact wj_X6_tagOne_103 h rx1 rz0 r3
  · rw [if_neg c7] at h
    refine v_aload_n dX6_tagOne_40 2 rfl rfl ?_
    refine v_getS (f := 1) (t := 10) cf6 oc13 rfl rfl rfl (by decide) q628 dX6_tagOne_41 ?_
    refine v_iload_n dX6_tagOne_44 3 rfl rfl ?_
    refine v_iconst dX6_tagOne_45 ?_
    obtain ⟨r11, s8, e9, h⟩ := bd_some h
    have k10 := c_X4_at e9 rx1 (rgl rfl)
    have r12 : rg r11 := k10.1.2.2
    refine v_callV (st := []) cf4 oc10 k10 (lw_V q1500 q1400 q1401 q301 q1402) rfl yk_X4_at ⟨Nat.le_of_ble_eq_true rfl, Nat.le_of_ble_eq_true rfl⟩ trivial ⟨kc13, trivial⟩ (Nat.le_of_ble_eq_true rfl) rfl dX6_tagOne_46 ?_
    refine v_iconst dX6_tagOne_49 ?_
    refine v_icmp_ne (tgt := 103) dX6_tagOne_50 r12 (rgl rfl) (by decide) (fun c13 => ?_) (fun c13 => ?_)
    · rw [if_neg c13] at h
      refine v_sub [2, 3, 1, 0] (L1 := [(0, vO 13), (1, vI x1), (2, vI z0), (3, vI y1)]) rfl ?_
      exact wj_X6_tagOne_103 h rx1 rz0 r3
    · rw [if_pos c13] at h
      refine v_aload_n dX6_tagOne_53 2 rfl rfl ?_
      refine v_getS (f := 13) (t := 36) cf6 oc13 rfl rfl rfl (by decide) q640 dX6_tagOne_54 ?_
      refine v_iload_n dX6_tagOne_57 3 rfl rfl ?_
      refine v_aload_n dX6_tagOne_58 2 rfl rfl ?_
      refine v_getS (f := 13) (t := 36) cf6 oc13 rfl rfl rfl (by decide) q640 dX6_tagOne_59 ?_
      refine v_iload_n dX6_tagOne_62 1 rfl rfl ?_
      obtain ⟨g14, h⟩ := gd_some h
      refine v_iald oc36 rz0 g14.1 g14.2 dX6_tagOne_63 ?_
      obtain ⟨g15, h⟩ := gd_some h
      obtain ⟨s16, e17, h⟩ := stp_some h
      refine v_iast oc36 rx1 g15.1 g15.2 dX6_tagOne_64 ?_
      rw [← e17]
      refine v_aload_n dX6_tagOne_65 2 rfl rfl ?_
      refine v_getS (f := 14) (t := 37) cf6 oc13 rfl rfl rfl (by decide) q641 dX6_tagOne_66 ?_
      refine v_iload_n dX6_tagOne_69 3 rfl rfl ?_
      refine v_aload_n dX6_tagOne_70 2 rfl rfl ?_
      refine v_getS (f := 14) (t := 37) cf6 oc13 rfl rfl rfl (by decide) q641 dX6_tagOne_71 ?_
      refine v_iload_n dX6_tagOne_74 1 rfl rfl ?_
      obtain ⟨g18, h⟩ := gd_some h
      refine v_iald oc37 rz0 g18.1 g18.2 dX6_tagOne_75 ?_
      obtain ⟨g19, h⟩ := gd_some h
      obtain ⟨s20, e21, h⟩ := stp_some h
      refine v_iast oc37 rx1 g19.1 g19.2 dX6_tagOne_76 ?_
      rw [← e21]
      refine v_aload_n dX6_tagOne_77 2 rfl rfl ?_
      refine v_getS (f := 14) (t := 37) cf6 oc13 rfl rfl rfl (by decide) q641 dX6_tagOne_78 ?_
      refine v_iload_n dX6_tagOne_81 3 rfl rfl ?_
      obtain ⟨g22, h⟩ := gd_some h
      refine v_iald oc37 rx1 g22.1 g22.2 dX6_tagOne_82 ?_
      refine v_bipush dX6_tagOne_83 rfl ?_
      refine v_icmp_le (tgt := 102) dX6_tagOne_85 (gE_rg _ _ _) (rgl rfl) (by decide) (fun c23 => ?_) (fun c23 => ?_)
      · rw [if_pos c23] at h
        cases h
        exact v_vret dX6_tagOne_102
      · rw [if_neg c23] at h
        refine v_aload_n dX6_tagOne_88 2 rfl rfl ?_
        refine v_bipush dX6_tagOne_89 rfl ?_
        refine v_aload_n dX6_tagOne_91 2 rfl rfl ?_
        refine v_getS (f := 1) (t := 10) cf6 oc13 rfl rfl rfl (by decide) q628 dX6_tagOne_92 ?_
        refine v_iload_n dX6_tagOne_95 3 rfl rfl ?_
        obtain ⟨r27, s24, e25, h⟩ := bd_some h
        have k26 := c_X4_lexeme e25 rx1
        have r28 : rg r27 := k26.1.2.2
        refine v_callV (st := [vI 8, vO 13]) cf4 oc10 k26 (lw_V q1449 q1450 q1451 q301 q1452) rfl yk_X4_lexeme ⟨Nat.le_of_ble_eq_true rfl, Nat.le_of_ble_eq_true rfl⟩ ⟨kc13, trivial⟩ ⟨kc13, trivial⟩ (Nat.le_of_ble_eq_true rfl) rfl dX6_tagOne_96 ?_
        obtain ⟨s29, e30, h⟩ := bdv_some h
        have k31 := c_X6_blame e30 (rgl rfl) r28
        refine v_callV (st := []) cf6 oc13 k31 (lw_V q1478 q1480 qs45 q303 q1481) rfl yk_X6_blame ⟨Nat.le_of_ble_eq_true rfl, Nat.le_of_ble_eq_true rfl⟩ trivial ⟨kc13, trivial⟩ (Nat.le_of_ble_eq_true rfl) rfl dX6_tagOne_99 ?_
        cases h
        exact v_vret dX6_tagOne_102

def f_X6_tagOne (x1 : Int) (s : vS) : Option (vS) :=
  bd (f_X4_kind x1 s) fun r4 s1 =>
  if r4 = 17 then
    bd (f_X6_assignedType x1 s1) fun r10 s7 =>
    j_X6_tagOne_22 x1 r10 s7
  else
    j_X6_tagOne_22 x1 (-1) s1
theorem yk_X6_tagOne : yOk yX6_tagOne 1 := ⟨by decide, by decide, by decide +kernel⟩
theorem c_X6_tagOne {x1 : Int} {s : vS} {out : vS} (h : f_X6_tagOne x1 s = some out)  (rx1 : rg x1) : VC yX6_tagOne cX6_tagOne 7 none 6 138 [vO 13, vI x1] s none out [] := by
  unfold f_X6_tagOne at h
  refine VC.of RX6 (by decide) rfl (Nat.le_of_ble_eq_true rfl) ?_
  show VW cX6_tagOne (RX6, none, out, none, 6, 138, 7, []) (P0 []) s 0 [(0, vO 13), (1, vI x1)] []
  refine v_aload_n dX6_tagOne_0 0 rfl rfl ?_
  refine v_getS (f := 1) (t := 10) cf6 oc13 rfl rfl rfl (by decide) q628 dX6_tagOne_1 ?_
  refine v_iload_n dX6_tagOne_4 1 rfl rfl ?_
  obtain ⟨r4, s1, e2, h⟩ := bd_some h
  have k3 := c_X4_kind e2 rx1
  have r5 : rg r4 := k3.1.2.2
  refine v_callV (st := []) cf4 oc10 k3 (lw_V q1445 q1446 q1447 q301 q1448) rfl yk_X4_kind ⟨Nat.le_of_ble_eq_true rfl, Nat.le_of_ble_eq_true rfl⟩ trivial ⟨kc13, trivial⟩ (Nat.le_of_ble_eq_true rfl) rfl dX6_tagOne_5 ?_
  refine v_bipush dX6_tagOne_8 rfl ?_
  refine v_icmp_ne (tgt := 21) dX6_tagOne_10 r5 (rgl rfl) (by decide) (fun c6 => ?_) (fun c6 => ?_)
  · rw [if_neg c6] at h
    refine v_iconst dX6_tagOne_21 ?_
    exact wj_X6_tagOne_22 h rx1 (rgl rfl)
  · rw [if_pos c6] at h
    refine v_aload_n dX6_tagOne_13 0 rfl rfl ?_
    refine v_iload_n dX6_tagOne_14 1 rfl rfl ?_
    obtain ⟨r10, s7, e8, h⟩ := bd_some h
    have k9 := c_X6_assignedType e8 rx1
    have r11 : rg r10 := k9.1.2.2
    refine v_callV (st := []) cf6 oc13 k9 (lw_V q1571 q1573 qs57 q303 q1574) rfl yk_X6_assignedType ⟨Nat.le_of_ble_eq_true rfl, Nat.le_of_ble_eq_true rfl⟩ trivial ⟨kc13, trivial⟩ (Nat.le_of_ble_eq_true rfl) rfl dX6_tagOne_15 ?_
    refine v_goto (tgt := 22) dX6_tagOne_18 (by decide) ?_
    exact wj_X6_tagOne_22 h rx1 r11

def E_X6_tagAll_4 (rv : Option vA) (σo : vS) (q : Int × vS) : Prop := ∀ (x2' : Int) (s' : vS), q = (x2', s') → rg x2' → VW cX6_tagAll (RX6, rv, σo, none, 7, 164, 4, []) (P0 []) s' 46 [(0, vO 13), (2, vI x2')] []
def l_X6_tagAll_4 : Nat → Int → Int → vS → Option (Int × vS)
  | 0, _, _, _ => none
  | n + 1, x2, x3, s =>
    gd (inb x3 (gN s 36)) <|
    if (gE s 36 x3) = (-1) then
      gd (inb x2 (gN s 41)) <|
      stp (sE s 41 x2 x3) fun s4 =>
      vl (w32 (x2 + 1)) fun y6 =>
      bd (f_X4_kind x3 s4) fun r12 s9 =>
      if r12 = 17 then
        bd (f_X6_assignedType x3 s9) fun r18 s15 =>
        l_X6_tagAll_4 n y6 r18 s15
      else
        some (y6, s9)
    else
      some (x2, s)
theorem wl_X6_tagAll_4 {rv : Option vA} {σo : vS}  : ∀ (n : Nat) (x2 : Int) (x3 : Int) (s : vS) (q : Int × vS), l_X6_tagAll_4 n x2 x3 s = some q → rg x2 → rg x3 → E_X6_tagAll_4 rv σo q → VW cX6_tagAll (RX6, rv, σo, none, 7, 164, 4, []) (P0 []) s 4 [(0, vO 13), (2, vI x2), (3, vI x3)] [] := by
  intro n
  induction n with
  | zero => intro x2 x3 s q h; cases h
  | succ n ih =>
    intro x2 x3 s q h rx2 rx3 hE
    unfold l_X6_tagAll_4 at h
    refine v_aload_n dX6_tagAll_4 0 rfl rfl ?_
    refine v_getS (f := 13) (t := 36) cf6 oc13 rfl rfl rfl (by decide) q640 dX6_tagAll_5 ?_
    refine v_iload_n dX6_tagAll_8 2 rfl rfl ?_
    obtain ⟨g1, h⟩ := gd_some h
    refine v_iald oc36 rx3 g1.1 g1.2 dX6_tagAll_9 ?_
    refine v_iconst dX6_tagAll_10 ?_
    refine v_icmp_ne (tgt := 46) dX6_tagAll_11 (gE_rg _ _ _) (rgl rfl) (by decide) (fun c2 => ?_) (fun c2 => ?_)
    · rw [if_neg c2] at h
      cases h
      refine v_sub [0, 1] (L1 := [(0, vO 13), (2, vI x2)]) rfl ?_
      exact hE _ _ rfl rx2
    · rw [if_pos c2] at h
      refine v_aload_n dX6_tagAll_14 0 rfl rfl ?_
      refine v_getS (f := 19) (t := 41) cf6 oc13 rfl rfl rfl (by decide) q646 dX6_tagAll_15 ?_
      refine v_iload_n dX6_tagAll_18 1 rfl rfl ?_
      refine v_iload_n dX6_tagAll_19 2 rfl rfl ?_
      obtain ⟨g3, h⟩ := gd_some h
      obtain ⟨s4, e5, h⟩ := stp_some h
      refine v_iast oc41 rx2 g3.1 g3.2 dX6_tagAll_20 ?_
      rw [← e5]
      obtain ⟨y6, e7, h⟩ := vl_some h
      refine v_iinc (L1 := [(2, vI (w32 (x2 + 1))), (0, vO 13), (3, vI x3)]) dX6_tagAll_21 1 rfl (by decide) rfl ?_
      rw [← e7]
      have r8 : rg y6 := by rw [e7]; exact w32_rg _
      refine v_aload_n dX6_tagAll_24 1 rfl rfl ?_
      refine v_getS (f := 1) (t := 10) cf6 oc13 rfl rfl rfl (by decide) q628 dX6_tagAll_25 ?_
      refine v_iload_n dX6_tagAll_28 2 rfl rfl ?_
      obtain ⟨r12, s9, e10, h⟩ := bd_some h
      have k11 := c_X4_kind e10 rx3
      have r13 : rg r12 := k11.1.2.2
      refine v_callV (st := []) cf4 oc10 k11 (lw_V q1445 q1446 q1447 q301 q1448) rfl yk_X4_kind ⟨Nat.le_of_ble_eq_true rfl, Nat.le_of_ble_eq_true rfl⟩ trivial ⟨kc13, trivial⟩ (Nat.le_of_ble_eq_true rfl) rfl dX6_tagAll_29 ?_
      refine v_bipush dX6_tagAll_32 rfl ?_
      refine v_icmp_ne (tgt := 46) dX6_tagAll_34 r13 (rgl rfl) (by decide) (fun c14 => ?_) (fun c14 => ?_)
      · rw [if_neg c14] at h
        cases h
        refine v_sub [1, 0] (L1 := [(0, vO 13), (2, vI y6)]) rfl ?_
        exact hE _ _ rfl r8
      · rw [if_pos c14] at h
        refine v_aload_n dX6_tagAll_37 1 rfl rfl ?_
        refine v_iload_n dX6_tagAll_38 2 rfl rfl ?_
        obtain ⟨r18, s15, e16, h⟩ := bd_some h
        have k17 := c_X6_assignedType e16 rx3
        have r19 : rg r18 := k17.1.2.2
        refine v_callV (st := []) cf6 oc13 k17 (lw_V q1571 q1573 qs57 q303 q1574) rfl yk_X6_assignedType ⟨Nat.le_of_ble_eq_true rfl, Nat.le_of_ble_eq_true rfl⟩ trivial ⟨kc13, trivial⟩ (Nat.le_of_ble_eq_true rfl) rfl dX6_tagAll_39 ?_
        refine v_istore_n (L1 := [(3, vI r18), (2, vI y6), (0, vO 13)]) dX6_tagAll_42 rfl (by decide) rfl ?_
        refine v_goto (tgt := 4) dX6_tagAll_43 (by decide) ?_
        refine v_sub [2, 1, 0] (L1 := [(0, vO 13), (2, vI y6), (3, vI r18)]) rfl ?_
        exact ih y6 r18 s15 _ h r8 r19 hE

def E_X6_tagAll_46 (rv : Option vA) (σo : vS) (q : vS) : Prop := ∀ (s' : vS), q = s' → VW cX6_tagAll (RX6, rv, σo, none, 7, 164, 4, []) (P0 []) s' 66 [] []
def l_X6_tagAll_46 : Nat → Int → vS → Option (vS)
  | 0, _, _ => none
  | n + 1, x2, s =>
    if x2 ≤ 0 then
      some s
    else
      vl (w32 (x2 + (-1))) fun y2 =>
      gd (inb y2 (gN s 41)) <|
      bdv (f_X6_tagOne (gE s 41 y2) s) fun s6 =>
      l_X6_tagAll_46 n y2 s6
theorem wl_X6_tagAll_46 {rv : Option vA} {σo : vS}  : ∀ (n : Nat) (x2 : Int) (s : vS) (q : vS), l_X6_tagAll_46 n x2 s = some q → rg x2 → E_X6_tagAll_46 rv σo q → VW cX6_tagAll (RX6, rv, σo, none, 7, 164, 4, []) (P0 []) s 46 [(0, vO 13), (2, vI x2)] [] := by
  intro n
  induction n with
  | zero => intro x2 s q h; cases h
  | succ n ih =>
    intro x2 s q h rx2 hE
    unfold l_X6_tagAll_46 at h
    refine v_iload_n dX6_tagAll_46 1 rfl rfl ?_
    refine v_if_le (tgt := 66) dX6_tagAll_47 rx2 (by decide) (fun c1 => ?_) (fun c1 => ?_)
    · rw [if_pos c1] at h
      cases h
      refine v_sub [] (L1 := []) rfl ?_
      exact hE _ rfl 
    · rw [if_neg c1] at h
      obtain ⟨y2, e3, h⟩ := vl_some h
      refine v_iinc (L1 := [(2, vI (w32 (x2 + (-1)))), (0, vO 13)]) dX6_tagAll_50 1 rfl (by decide) rfl ?_
      rw [← e3]
      have r4 : rg y2 := by rw [e3]; exact w32_rg _
      refine v_aload_n dX6_tagAll_53 1 rfl rfl ?_
      refine v_aload_n dX6_tagAll_54 1 rfl rfl ?_
      refine v_getS (f := 19) (t := 41) cf6 oc13 rfl rfl rfl (by decide) q646 dX6_tagAll_55 ?_
      refine v_iload_n dX6_tagAll_58 0 rfl rfl ?_
      obtain ⟨g5, h⟩ := gd_some h
      refine v_iald oc41 r4 g5.1 g5.2 dX6_tagAll_59 ?_
      obtain ⟨s6, e7, h⟩ := bdv_some h
      have k8 := c_X6_tagOne e7 (gE_rg _ _ _)
      refine v_callV (st := []) cf6 oc13 k8 (lw_V q1617 q1619 qs67 q303 q1620) rfl yk_X6_tagOne ⟨Nat.le_of_ble_eq_true rfl, Nat.le_of_ble_eq_true rfl⟩ trivial ⟨kc13, trivial⟩ (Nat.le_of_ble_eq_true rfl) rfl dX6_tagAll_60 ?_
      refine v_goto (tgt := 46) dX6_tagAll_63 (by decide) ?_
      refine v_sub [1, 0] (L1 := [(0, vO 13), (2, vI y2)]) rfl ?_
      exact ih y2 s6 _ h r4 hE

def f_X6_tagAll (x1 : Int) (s : vS) : Option (vS) :=
  lq_1 (l_X6_tagAll_4 FU 0 x1 s) fun y1 s2 =>
  lq_0 (l_X6_tagAll_46 FU y1 s2) fun s5 =>
  some s5
theorem yk_X6_tagAll : yOk yX6_tagAll 1 := ⟨by decide, by decide, by decide +kernel⟩
theorem c_X6_tagAll {x1 : Int} {s : vS} {out : vS} (h : f_X6_tagAll x1 s = some out)  (rx1 : rg x1) : VC yX6_tagAll cX6_tagAll 4 none 7 164 [vO 13, vI x1] s none out [] := by
  unfold f_X6_tagAll at h
  refine VC.of RX6 (by decide) rfl (Nat.le_of_ble_eq_true rfl) ?_
  show VW cX6_tagAll (RX6, none, out, none, 7, 164, 4, []) (P0 []) s 0 [(0, vO 13), (1, vI x1)] []
  refine v_iconst dX6_tagAll_0 ?_
  refine v_istore_n (L1 := [(2, vI 0), (0, vO 13), (1, vI x1)]) dX6_tagAll_1 rfl (by decide) rfl ?_
  refine v_iload_n dX6_tagAll_2 2 rfl rfl ?_
  refine v_istore_n (L1 := [(3, vI x1), (2, vI 0), (0, vO 13), (1, vI x1)]) dX6_tagAll_3 rfl (by decide) rfl ?_
  refine v_sub [2, 1, 0] (L1 := [(0, vO 13), (2, vI 0), (3, vI x1)]) rfl ?_
  obtain ⟨y1, s2, e3, h⟩ := lq_1_some h
  refine wl_X6_tagAll_4  FU 0 x1 s _ e3 (rgl rfl) rx1 ?_
  unfold E_X6_tagAll_4
  intro y1' s2' z_ r4
  cases z_
  obtain ⟨s5, e6, h⟩ := lq_0_some h
  refine wl_X6_tagAll_46  FU y1 s2 _ e6 r4 ?_
  unfold E_X6_tagAll_46
  intro s5' z_
  cases z_
  cases h
  exact v_vret dX6_tagAll_66

def E_X6_tagged_2 (rv : Option vA) (σo : vS) (q : vS) : Prop := ∀ (s' : vS), q = s' → VW cX6_tagged (RX6, rv, σo, (some .boolean), 8, 187, 2, []) (P0 []) s' 32 [(0, vO 13)] []
def l_X6_tagged_2 : Nat → Int → vS → Option (vS)
  | 0, _, _ => none
  | n + 1, x1, s =>
    bd (f_X4_size s) fun r4 s1 =>
    if r4 ≤ x1 then
      some s1
    else
      bd (f_X6_isType x1 s1) fun r10 s7 =>
      if r10 = 0 then
        vl (w32 (x1 + 1)) fun y13 =>
        l_X6_tagged_2 n y13 s7
      else
        bdv (f_X6_tagAll x1 s7) fun s16 =>
        vl (w32 (x1 + 1)) fun y19 =>
        l_X6_tagged_2 n y19 s16
theorem wl_X6_tagged_2 {rv : Option vA} {σo : vS}  : ∀ (n : Nat) (x1 : Int) (s : vS) (q : vS), l_X6_tagged_2 n x1 s = some q → rg x1 → E_X6_tagged_2 rv σo q → VW cX6_tagged (RX6, rv, σo, (some .boolean), 8, 187, 2, []) (P0 []) s 2 [(0, vO 13), (1, vI x1)] [] := by
  intro n
  induction n with
  | zero => intro x1 s q h; cases h
  | succ n ih =>
    intro x1 s q h rx1 hE
    unfold l_X6_tagged_2 at h
    refine v_iload_n dX6_tagged_2 1 rfl rfl ?_
    refine v_aload_n dX6_tagged_3 0 rfl rfl ?_
    refine v_getS (f := 1) (t := 10) cf6 oc13 rfl rfl rfl (by decide) q628 dX6_tagged_4 ?_
    obtain ⟨r4, s1, e2, h⟩ := bd_some h
    have k3 := c_X4_size e2
    have r5 : rg r4 := k3.1.2.2
    refine v_callV (st := [vI x1]) cf4 oc10 k3 (lw_V q1427 q1428 q1429 q301 q1430) rfl yk_X4_size ⟨Nat.le_of_ble_eq_true rfl, Nat.le_of_ble_eq_true rfl⟩ trivial ⟨kc13, trivial⟩ (Nat.le_of_ble_eq_true rfl) rfl dX6_tagged_7 ?_
    refine v_icmp_ge (tgt := 32) dX6_tagged_10 rx1 r5 (by decide) (fun c6 => ?_) (fun c6 => ?_)
    · rw [if_pos c6] at h
      cases h
      refine v_sub [0] (L1 := [(0, vO 13)]) rfl ?_
      exact hE _ rfl 
    · rw [if_neg c6] at h
      refine v_aload_n dX6_tagged_13 0 rfl rfl ?_
      refine v_iload_n dX6_tagged_14 1 rfl rfl ?_
      obtain ⟨r10, s7, e8, h⟩ := bd_some h
      have k9 := c_X6_isType e8 rx1
      have r11 : rg r10 := k9.1.2.2
      refine v_callV (st := []) cf6 oc13 k9 (lw_V q1488 q1490 qs47 q303 q1491) rfl yk_X6_isType ⟨Nat.le_of_ble_eq_true rfl, Nat.le_of_ble_eq_true rfl⟩ trivial ⟨kc13, trivial⟩ (Nat.le_of_ble_eq_true rfl) rfl dX6_tagged_15 ?_
      refine v_if_eq (tgt := 26) dX6_tagged_18 r11 (by decide) (fun c12 => ?_) (fun c12 => ?_)
      · rw [if_pos c12] at h
        obtain ⟨y13, e14, h⟩ := vl_some h
        refine v_iinc (L1 := [(1, vI (w32 (x1 + 1))), (0, vO 13)]) dX6_tagged_26 1 rfl (by decide) rfl ?_
        rw [← e14]
        have r15 : rg y13 := by rw [e14]; exact w32_rg _
        refine v_goto (tgt := 2) dX6_tagged_29 (by decide) ?_
        refine v_sub [1, 0] (L1 := [(0, vO 13), (1, vI y13)]) rfl ?_
        exact ih y13 s7 _ h r15 hE
      · rw [if_neg c12] at h
        refine v_aload_n dX6_tagged_21 0 rfl rfl ?_
        refine v_iload_n dX6_tagged_22 1 rfl rfl ?_
        obtain ⟨s16, e17, h⟩ := bdv_some h
        have k18 := c_X6_tagAll e17 rx1
        refine v_callV (st := []) cf6 oc13 k18 (lw_V q1613 q1615 qs66 q303 q1616) rfl yk_X6_tagAll ⟨Nat.le_of_ble_eq_true rfl, Nat.le_of_ble_eq_true rfl⟩ trivial ⟨kc13, trivial⟩ (Nat.le_of_ble_eq_true rfl) rfl dX6_tagged_23 ?_
        obtain ⟨y19, e20, h⟩ := vl_some h
        refine v_iinc (L1 := [(1, vI (w32 (x1 + 1))), (0, vO 13)]) dX6_tagged_26 1 rfl (by decide) rfl ?_
        rw [← e20]
        have r21 : rg y19 := by rw [e20]; exact w32_rg _
        refine v_goto (tgt := 2) dX6_tagged_29 (by decide) ?_
        refine v_sub [1, 0] (L1 := [(0, vO 13), (1, vI y19)]) rfl ?_
        exact ih y19 s16 _ h r21 hE

def f_X6_tagged (s : vS) : Option (Int × vS) :=
  lq_0 (l_X6_tagged_2 FU 0 s) fun s1 =>
  if (gI s1 13 20) = 0 then
    some (1, s1)
  else
    some (0, s1)
theorem yk_X6_tagged : yOk yX6_tagged 0 := ⟨by decide, by decide, by decide +kernel⟩
theorem c_X6_tagged {s : vS} {out : Int × vS} (h : f_X6_tagged s = some out)   : VC yX6_tagged cX6_tagged 2 (some .boolean) 8 187 [vO 13] s (some (vI out.1)) out.2 [] := by
  unfold f_X6_tagged at h
  refine VC.of RX6 (by decide) rfl (Nat.le_of_ble_eq_true rfl) ?_
  show VW cX6_tagged (RX6, (some (vI out.1)), out.2, (some .boolean), 8, 187, 2, []) (P0 []) s 0 [(0, vO 13)] []
  refine v_iconst dX6_tagged_0 ?_
  refine v_istore_n (L1 := [(1, vI 0), (0, vO 13)]) dX6_tagged_1 rfl (by decide) rfl ?_
  refine v_sub [1, 0] (L1 := [(0, vO 13), (1, vI 0)]) rfl ?_
  obtain ⟨s1, e2, h⟩ := lq_0_some h
  refine wl_X6_tagged_2  FU 0 s _ e2 (rgl rfl) ?_
  unfold E_X6_tagged_2
  intro s1' z_
  cases z_
  refine v_aload_n dX6_tagged_32 0 rfl rfl ?_
  refine v_getI (f := 20) cf6 oc13 rfl (by decide) q647 dX6_tagged_33 ?_
  refine v_if_ne (tgt := 43) dX6_tagged_36 (gI_rg _ _ _) (by decide) (fun c3 => ?_) (fun c3 => ?_)
  · rw [if_neg c3] at h
    refine v_iconst dX6_tagged_43 ?_
    cases h
    exact v_zret (Or.inl rfl) dX6_tagged_44
  · rw [if_pos c3] at h
    refine v_iconst dX6_tagged_39 ?_
    refine v_goto (tgt := 44) dX6_tagged_40 (by decide) ?_
    cases h
    exact v_zret (Or.inr rfl) dX6_tagged_44

def f_X6_tag (x1 : Int) (x2 : Int) (s : vS) : Option (Int × vS) :=
  gd (inb x1 (gN s 36)) <|
  gd (inb (w32 ((gE s 36 x1) + x2)) (gN s 40)) <|
  some (gE s 40 (w32 ((gE s 36 x1) + x2)), s)
theorem yk_X6_tag : yOk yX6_tag 2 := ⟨by decide, by decide, by decide +kernel⟩
theorem c_X6_tag {x1 : Int} {x2 : Int} {s : vS} {out : Int × vS} (h : f_X6_tag x1 x2 s = some out)  (rx1 : rg x1) (rx2 : rg x2) : VC yX6_tag cX6_tag 3 (some .int) 0 0 [vO 13, vI x1, vI x2] s (some (vI out.1)) out.2 [] := by
  unfold f_X6_tag at h
  refine VC.of RX6 (by decide) rfl (Nat.le_of_ble_eq_true rfl) ?_
  show VW cX6_tag (RX6, (some (vI out.1)), out.2, (some .int), 0, 0, 3, []) (P0 []) s 0 [(0, vO 13), (1, vI x1), (2, vI x2)] []
  refine v_aload_n dX6_tag_0 0 rfl rfl ?_
  refine v_getS (f := 17) (t := 40) cf6 oc13 rfl rfl rfl (by decide) q644 dX6_tag_1 ?_
  refine v_aload_n dX6_tag_4 0 rfl rfl ?_
  refine v_getS (f := 13) (t := 36) cf6 oc13 rfl rfl rfl (by decide) q640 dX6_tag_5 ?_
  refine v_iload_n dX6_tag_8 1 rfl rfl ?_
  obtain ⟨g1, h⟩ := gd_some h
  refine v_iald oc36 rx1 g1.1 g1.2 dX6_tag_9 ?_
  refine v_iload_n dX6_tag_10 2 rfl rfl ?_
  refine v_iadd dX6_tag_11 ?_
  obtain ⟨g2, h⟩ := gd_some h
  refine v_iald oc40 (w32_rg _) g2.1 g2.2 dX6_tag_12 ?_
  cases h
  exact v_iret (gE_rg _ _ _) dX6_tag_13

def E_X6_collect_26 (rv : Option vA) (σo : vS) (q : vS) : Prop := ∀ (s' : vS), q = s' → VW cX6_collect (RX6, rv, σo, none, 7, 161, 6, []) (P0 []) s' 192 [] []
def E_X6_collect_137 (rv : Option vA) (σo : vS) (q : Int × vS) : Prop := ∀ (x2' : Int) (s' : vS), q = (x2', s') → rg x2' → VW cX6_collect (RX6, rv, σo, none, 7, 161, 6, []) (P0 []) s' 189 [(0, vO 13), (2, vI x2')] []
def l_X6_collect_137 : Nat → Int → Int → vS → Option (Int × vS)
  | 0, _, _, _ => none
  | n + 1, x2, x5, s =>
    if x5 = (-1) then
      some (x2, s)
    else
      bd (f_X6_grown 41 (w32 (x2 + 1)) s) fun r5 s6 =>
      gd (r5 = 0 ∨ (2 * gN s6 41 ≤ gN s6 199 ∧ 2 ≤ gN s6 199)) <|
      stp (grw s6 41 r5) fun s10 =>
      bd (f_X4_parts x5 s10) fun r15 s12 =>
      gd (gN s12 41 = gN s10 41) <|
      gd (inb x2 (gN s12 41)) <|
      stp (sE s12 41 x2 r15) fun s19 =>
      vl (w32 (x2 + 1)) fun y21 =>
      bd (f_X4_next x5 s19) fun r27 s24 =>
      l_X6_collect_137 n y21 r27 s24
theorem wl_X6_collect_137 {rv : Option vA} {σo : vS}  : ∀ (n : Nat) (x2 : Int) (x5 : Int) (s : vS) (q : Int × vS), l_X6_collect_137 n x2 x5 s = some q → rg x2 → rg x5 → E_X6_collect_137 rv σo q → VW cX6_collect (RX6, rv, σo, none, 7, 161, 6, []) (P0 []) s 137 [(0, vO 13), (2, vI x2), (5, vI x5)] [] := by
  intro n
  induction n with
  | zero => intro x2 x5 s q h; cases h
  | succ n ih =>
    intro x2 x5 s q h rx2 rx5 hE
    unfold l_X6_collect_137 at h
    refine v_iload dX6_collect_137 2 rfl ?_
    refine v_iconst dX6_collect_139 ?_
    refine v_icmp_eq (tgt := 189) dX6_collect_140 rx5 (rgl rfl) (by decide) (fun c1 => ?_) (fun c1 => ?_)
    · rw [if_pos c1] at h
      cases h
      refine v_sub [0, 1] (L1 := [(0, vO 13), (2, vI x2)]) rfl ?_
      exact hE _ _ rfl rx2
    · rw [if_neg c1] at h
      refine v_aload_n dX6_collect_143 0 rfl rfl ?_
      refine v_aload_n dX6_collect_144 0 rfl rfl ?_
      refine v_getS (f := 19) (t := 41) cf6 oc13 rfl rfl rfl (by decide) q646 dX6_collect_145 ?_
      refine v_iload_n dX6_collect_148 1 rfl rfl ?_
      refine v_iconst dX6_collect_149 ?_
      refine v_iadd dX6_collect_150 ?_
      obtain ⟨r5, s6, e7, h⟩ := bd_some h
      have k8 := c_X6_grown e7 (⟨by decide, rfl⟩ : okB 41 24) (w32_rg _)
      obtain ⟨g9, h⟩ := gd_some h
      obtain ⟨s10, e11, h⟩ := stp_some h
      refine v_regrow (f := 19) k8 (lw_S q1431 q1432 q303 q1433) yk_X6_grown ⟨Nat.le_of_ble_eq_true rfl, Nat.le_of_ble_eq_true rfl⟩ ⟨kc13, trivial⟩ ⟨kc13, trivial⟩ (Nat.le_of_ble_eq_true rfl) dX6_collect_151 cf6 (⟨by decide, rfl⟩ : okB 13 5) rfl (by decide) rfl rfl g9 q646 dX6_collect_154 rfl rfl rfl rfl ⟨(by decide), trivial⟩ trivial ?_
      rw [← e11]
      refine v_aload_n dX6_collect_157 0 rfl rfl ?_
      refine v_getS (f := 19) (t := 41) cf6 oc13 rfl rfl rfl (by decide) q646 dX6_collect_158 ?_
      refine v_iload_n dX6_collect_161 1 rfl rfl ?_
      refine v_aload_n dX6_collect_162 0 rfl rfl ?_
      refine v_getS (f := 1) (t := 10) cf6 oc13 rfl rfl rfl (by decide) q628 dX6_collect_163 ?_
      refine v_iload dX6_collect_166 2 rfl ?_
      obtain ⟨r15, s12, e13, h⟩ := bd_some h
      have k14 := c_X4_parts e13 rx5
      have r16 : rg r15 := k14.1.2.2
      obtain ⟨g17, h⟩ := gd_some h
      refine v_callV (st := [vI x2, vO 41]) cf4 oc10 k14 (lw_V q1492 q1493 q1494 q301 q1495) rfl yk_X4_parts ⟨Nat.le_of_ble_eq_true rfl, Nat.le_of_ble_eq_true rfl⟩ ⟨(kp_arr (by decide) g17), trivial⟩ ⟨kc13, trivial⟩ (Nat.le_of_ble_eq_true rfl) rfl dX6_collect_168 ?_
      obtain ⟨g18, h⟩ := gd_some h
      obtain ⟨s19, e20, h⟩ := stp_some h
      refine v_iast oc41 rx2 g18.1 g18.2 dX6_collect_171 ?_
      rw [← e20]
      obtain ⟨y21, e22, h⟩ := vl_some h
      refine v_iinc (L1 := [(2, vI (w32 (x2 + 1))), (0, vO 13), (5, vI x5)]) dX6_collect_172 1 rfl (by decide) rfl ?_
      rw [← e22]
      have r23 : rg y21 := by rw [e22]; exact w32_rg _
      refine v_aload_n dX6_collect_175 1 rfl rfl ?_
      refine v_getS (f := 1) (t := 10) cf6 oc13 rfl rfl rfl (by decide) q628 dX6_collect_176 ?_
      refine v_iload dX6_collect_179 2 rfl ?_
      obtain ⟨r27, s24, e25, h⟩ := bd_some h
      have k26 := c_X4_next e25 rx5
      have r28 : rg r27 := k26.1.2.2
      refine v_callV (st := []) cf4 oc10 k26 (lw_V q1483 q1404 q1405 q301 q1406) rfl yk_X4_next ⟨Nat.le_of_ble_eq_true rfl, Nat.le_of_ble_eq_true rfl⟩ trivial ⟨kc13, trivial⟩ (Nat.le_of_ble_eq_true rfl) rfl dX6_collect_181 ?_
      refine v_istore (L1 := [(5, vI r27), (2, vI y21), (0, vO 13)]) dX6_collect_184 (by decide) rfl ?_
      refine v_goto (tgt := 137) dX6_collect_186 (by decide) ?_
      refine v_sub [2, 1, 0] (L1 := [(0, vO 13), (2, vI y21), (5, vI r27)]) rfl ?_
      exact ih y21 r27 s24 _ h r23 r28 hE

def l_X6_collect_26 : Nat → Int → vS → Option (vS)
  | 0, _, _ => none
  | n + 1, x2, s =>
    if x2 ≤ 0 then
      some s
    else
      vl (w32 (x2 + (-1))) fun y2 =>
      gd (inb y2 (gN s 41)) <|
      vl (gE s 41 y2) fun y6 =>
      gd (inb y6 (gN s 37)) <|
      if (gE s 37 y6) ≤ 0 then
        bd (f_X6_base y6 s) fun r14 s11 =>
        gd (inb r14 (gN s11 38)) <|
        if (gE s11 38 r14) = (gI s11 13 24) then
          l_X6_collect_26 n y2 s11
        else
          gd (inb r14 (gN s11 38)) <|
          stp (sE s11 38 r14 (gI s11 13 24)) fun s19 =>
          bd (f_X4_parts r14 s19) fun r24 s21 =>
          lq_1 (l_X6_collect_137 FU y2 r24 s21) fun y26 s27 =>
          l_X6_collect_26 n y26 s27
      else
        bd (f_X6_grown 42 (w32 ((gI s 13 23) + 1)) s) fun r33 s34 =>
        gd (r33 = 0 ∨ (2 * gN s34 42 ≤ gN s34 199 ∧ 2 ≤ gN s34 199)) <|
        stp (grw s34 42 r33) fun s38 =>
        bd (f_X6_tag y6 0 s38) fun r43 s40 =>
        gd (gN s40 42 = gN s38 42) <|
        gd (inb (gI s38 13 23) (gN s40 42)) <|
        stp (sE s40 42 (gI s38 13 23) r43) fun s47 =>
        stp (sI s47 13 23 (w32 ((gI s47 13 23) + 1))) fun s49 =>
        l_X6_collect_26 n y2 s49
theorem wl_X6_collect_26 {rv : Option vA} {σo : vS}  : ∀ (n : Nat) (x2 : Int) (s : vS) (q : vS), l_X6_collect_26 n x2 s = some q → rg x2 → E_X6_collect_26 rv σo q → VW cX6_collect (RX6, rv, σo, none, 7, 161, 6, []) (P0 []) s 26 [(0, vO 13), (2, vI x2)] [] := by
  intro n
  induction n with
  | zero => intro x2 s q h; cases h
  | succ n ih =>
    intro x2 s q h rx2 hE
    unfold l_X6_collect_26 at h
    refine v_iload_n dX6_collect_26 1 rfl rfl ?_
    refine v_if_le (tgt := 192) dX6_collect_27 rx2 (by decide) (fun c1 => ?_) (fun c1 => ?_)
    · rw [if_pos c1] at h
      cases h
      refine v_sub [] (L1 := []) rfl ?_
      exact hE _ rfl 
    · rw [if_neg c1] at h
      obtain ⟨y2, e3, h⟩ := vl_some h
      refine v_iinc (L1 := [(2, vI (w32 (x2 + (-1)))), (0, vO 13)]) dX6_collect_30 1 rfl (by decide) rfl ?_
      rw [← e3]
      have r4 : rg y2 := by rw [e3]; exact w32_rg _
      refine v_aload_n dX6_collect_33 1 rfl rfl ?_
      refine v_getS (f := 19) (t := 41) cf6 oc13 rfl rfl rfl (by decide) q646 dX6_collect_34 ?_
      refine v_iload_n dX6_collect_37 0 rfl rfl ?_
      obtain ⟨g5, h⟩ := gd_some h
      refine v_iald oc41 r4 g5.1 g5.2 dX6_collect_38 ?_
      obtain ⟨y6, e7, h⟩ := vl_some h
      rw [← e7]
      have r8 : rg y6 := by rw [e7]; exact gE_rg _ _ _
      refine v_istore_n (L1 := [(3, vI y6), (2, vI y2), (0, vO 13)]) dX6_collect_39 rfl (by decide) rfl ?_
      refine v_aload_n dX6_collect_40 2 rfl rfl ?_
      refine v_getS (f := 14) (t := 37) cf6 oc13 rfl rfl rfl (by decide) q641 dX6_collect_41 ?_
      refine v_iload_n dX6_collect_44 0 rfl rfl ?_
      obtain ⟨g9, h⟩ := gd_some h
      refine v_iald oc37 r8 g9.1 g9.2 dX6_collect_45 ?_
      refine v_if_le (tgt := 94) dX6_collect_46 (gE_rg _ _ _) (by decide) (fun c10 => ?_) (fun c10 => ?_)
      · rw [if_pos c10] at h
        refine v_aload_n dX6_collect_94 2 rfl rfl ?_
        refine v_iload_n dX6_collect_95 0 rfl rfl ?_
        obtain ⟨r14, s11, e12, h⟩ := bd_some h
        have k13 := c_X6_base e12 r8
        have r15 : rg r14 := k13.1.2.2
        refine v_callV (st := []) cf6 oc13 k13 (lw_V q1588 q1590 qs60 q303 q1591) rfl yk_X6_base ⟨Nat.le_of_ble_eq_true rfl, Nat.le_of_ble_eq_true rfl⟩ trivial ⟨kc13, trivial⟩ (Nat.le_of_ble_eq_true rfl) rfl dX6_collect_96 ?_
        refine v_istore (L1 := [(4, vI r14), (3, vI y6), (2, vI y2), (0, vO 13)]) dX6_collect_99 (by decide) rfl ?_
        refine v_aload_n dX6_collect_101 3 rfl rfl ?_
        refine v_getS (f := 15) (t := 38) cf6 oc13 rfl rfl rfl (by decide) q642 dX6_collect_102 ?_
        refine v_iload dX6_collect_105 0 rfl ?_
        obtain ⟨g16, h⟩ := gd_some h
        refine v_iald oc38 r15 g16.1 g16.2 dX6_collect_107 ?_
        refine v_aload_n dX6_collect_108 3 rfl rfl ?_
        refine v_getI (f := 24) cf6 oc13 rfl (by decide) q651 dX6_collect_109 ?_
        refine v_icmp_eq (tgt := 189) dX6_collect_112 (gE_rg _ _ _) (gI_rg _ _ _) (by decide) (fun c17 => ?_) (fun c17 => ?_)
        · rw [if_pos c17] at h
          refine v_goto (tgt := 26) dX6_collect_189 (by decide) ?_
          refine v_sub [3, 2] (L1 := [(0, vO 13), (2, vI y2)]) rfl ?_
          exact ih y2 s11 _ h r4 hE
        · rw [if_neg c17] at h
          refine v_aload_n dX6_collect_115 3 rfl rfl ?_
          refine v_getS (f := 15) (t := 38) cf6 oc13 rfl rfl rfl (by decide) q642 dX6_collect_116 ?_
          refine v_iload dX6_collect_119 0 rfl ?_
          refine v_aload_n dX6_collect_121 3 rfl rfl ?_
          refine v_getI (f := 24) cf6 oc13 rfl (by decide) q651 dX6_collect_122 ?_
          obtain ⟨g18, h⟩ := gd_some h
          obtain ⟨s19, e20, h⟩ := stp_some h
          refine v_iast oc38 r15 g18.1 g18.2 dX6_collect_125 ?_
          rw [← e20]
          refine v_aload_n dX6_collect_126 3 rfl rfl ?_
          refine v_getS (f := 1) (t := 10) cf6 oc13 rfl rfl rfl (by decide) q628 dX6_collect_127 ?_
          refine v_iload dX6_collect_130 0 rfl ?_
          obtain ⟨r24, s21, e22, h⟩ := bd_some h
          have k23 := c_X4_parts e22 r15
          have r25 : rg r24 := k23.1.2.2
          refine v_callV (st := []) cf4 oc10 k23 (lw_V q1492 q1493 q1494 q301 q1495) rfl yk_X4_parts ⟨Nat.le_of_ble_eq_true rfl, Nat.le_of_ble_eq_true rfl⟩ trivial ⟨kc13, trivial⟩ (Nat.le_of_ble_eq_true rfl) rfl dX6_collect_132 ?_
          refine v_istore (L1 := [(5, vI r24), (4, vI r14), (3, vI y6), (2, vI y2), (0, vO 13)]) dX6_collect_135 (by decide) rfl ?_
          refine v_sub [4, 3, 0] (L1 := [(0, vO 13), (2, vI y2), (5, vI r24)]) rfl ?_
          obtain ⟨y26, s27, e28, h⟩ := lq_1_some h
          refine wl_X6_collect_137  FU y2 r24 s21 _ e28 r4 r25 ?_
          unfold E_X6_collect_137
          intro y26' s27' z_ r29
          cases z_
          refine v_goto (tgt := 26) dX6_collect_189 (by decide) ?_
          exact ih y26 s27 _ h r29 hE
      · rw [if_neg c10] at h
        refine v_aload_n dX6_collect_49 2 rfl rfl ?_
        refine v_aload_n dX6_collect_50 2 rfl rfl ?_
        refine v_getS (f := 22) (t := 42) cf6 oc13 rfl rfl rfl (by decide) q649 dX6_collect_51 ?_
        refine v_aload_n dX6_collect_54 2 rfl rfl ?_
        refine v_getI (f := 23) cf6 oc13 rfl (by decide) q650 dX6_collect_55 ?_
        refine v_iconst dX6_collect_58 ?_
        refine v_iadd dX6_collect_59 ?_
        obtain ⟨r33, s34, e35, h⟩ := bd_some h
        have k36 := c_X6_grown e35 (⟨by decide, rfl⟩ : okB 42 24) (w32_rg _)
        obtain ⟨g37, h⟩ := gd_some h
        obtain ⟨s38, e39, h⟩ := stp_some h
        refine v_regrow (f := 22) k36 (lw_S q1431 q1432 q303 q1433) yk_X6_grown ⟨Nat.le_of_ble_eq_true rfl, Nat.le_of_ble_eq_true rfl⟩ ⟨kc13, trivial⟩ ⟨kc13, trivial⟩ (Nat.le_of_ble_eq_true rfl) dX6_collect_60 cf6 (⟨by decide, rfl⟩ : okB 13 5) rfl (by decide) rfl rfl g37 q649 dX6_collect_63 rfl rfl rfl rfl ⟨(by decide), trivial⟩ trivial ?_
        rw [← e39]
        refine v_aload_n dX6_collect_66 2 rfl rfl ?_
        refine v_getS (f := 22) (t := 42) cf6 oc13 rfl rfl rfl (by decide) q649 dX6_collect_67 ?_
        refine v_aload_n dX6_collect_70 2 rfl rfl ?_
        refine v_getI (f := 23) cf6 oc13 rfl (by decide) q650 dX6_collect_71 ?_
        refine v_aload_n dX6_collect_74 2 rfl rfl ?_
        refine v_iload_n dX6_collect_75 0 rfl rfl ?_
        refine v_iconst dX6_collect_76 ?_
        obtain ⟨r43, s40, e41, h⟩ := bd_some h
        have k42 := c_X6_tag e41 r8 (rgl rfl)
        have r44 : rg r43 := k42.1.2.2
        obtain ⟨g45, h⟩ := gd_some h
        refine v_callV (st := [vI (gI s38 13 23), vO 42]) cf6 oc13 k42 (lw_V q1644 q1645 q1646 q303 q1647) rfl yk_X6_tag ⟨Nat.le_of_ble_eq_true rfl, Nat.le_of_ble_eq_true rfl⟩ ⟨(kp_arr (by decide) g45), trivial⟩ ⟨kc13, trivial⟩ (Nat.le_of_ble_eq_true rfl) rfl dX6_collect_77 ?_
        obtain ⟨g46, h⟩ := gd_some h
        obtain ⟨s47, e48, h⟩ := stp_some h
        refine v_iast oc42 (gI_rg _ _ _) g46.1 g46.2 dX6_collect_80 ?_
        rw [← e48]
        refine v_aload_n dX6_collect_81 2 rfl rfl ?_
        refine v_dupO dX6_collect_82 ?_
        refine v_getI (f := 23) cf6 oc13 rfl (by decide) q650 dX6_collect_83 ?_
        refine v_iconst dX6_collect_86 ?_
        refine v_iadd dX6_collect_87 ?_
        obtain ⟨s49, e50, h⟩ := stp_some h
        refine v_putI (f := 23) cf6 oc13 rfl (by decide) q650 dX6_collect_88 rfl rfl ?_
        rw [← e50]
        refine v_goto (tgt := 189) dX6_collect_91 (by decide) ?_
        refine v_goto (tgt := 26) dX6_collect_189 (by decide) ?_
        refine v_sub [2, 1] (L1 := [(0, vO 13), (2, vI y2)]) rfl ?_
        exact ih y2 s49 _ h r4 hE

def f_X6_collect (x1 : Int) (s : vS) : Option (vS) :=
  stp (sI s 13 23 0) fun s1 =>
  stp (sI s1 13 24 (w32 ((gI s1 13 24) + 1))) fun s3 =>
  gd (inb 0 (gN s3 41)) <|
  stp (sE s3 41 0 x1) fun s6 =>
  lq_0 (l_X6_collect_26 FU 1 s6) fun s8 =>
  some s8
theorem yk_X6_collect : yOk yX6_collect 1 := ⟨by decide, by decide, by decide +kernel⟩
theorem c_X6_collect {x1 : Int} {s : vS} {out : vS} (h : f_X6_collect x1 s = some out)  (rx1 : rg x1) : VC yX6_collect cX6_collect 6 none 7 161 [vO 13, vI x1] s none out [] := by
  unfold f_X6_collect at h
  refine VC.of RX6 (by decide) rfl (Nat.le_of_ble_eq_true rfl) ?_
  show VW cX6_collect (RX6, none, out, none, 7, 161, 6, []) (P0 []) s 0 [(0, vO 13), (1, vI x1)] []
  refine v_aload_n dX6_collect_0 0 rfl rfl ?_
  refine v_iconst dX6_collect_1 ?_
  obtain ⟨s1, e2, h⟩ := stp_some h
  refine v_putI (f := 23) cf6 oc13 rfl (by decide) q650 dX6_collect_2 rfl rfl ?_
  rw [← e2]
  refine v_aload_n dX6_collect_5 0 rfl rfl ?_
  refine v_dupO dX6_collect_6 ?_
  refine v_getI (f := 24) cf6 oc13 rfl (by decide) q651 dX6_collect_7 ?_
  refine v_iconst dX6_collect_10 ?_
  refine v_iadd dX6_collect_11 ?_
  obtain ⟨s3, e4, h⟩ := stp_some h
  refine v_putI (f := 24) cf6 oc13 rfl (by decide) q651 dX6_collect_12 rfl rfl ?_
  rw [← e4]
  refine v_iconst dX6_collect_15 ?_
  refine v_istore_n (L1 := [(2, vI 0), (0, vO 13), (1, vI x1)]) dX6_collect_16 rfl (by decide) rfl ?_
  refine v_aload_n dX6_collect_17 1 rfl rfl ?_
  refine v_getS (f := 19) (t := 41) cf6 oc13 rfl rfl rfl (by decide) q646 dX6_collect_18 ?_
  refine v_iconst dX6_collect_21 ?_
  refine v_iload_n dX6_collect_22 2 rfl rfl ?_
  obtain ⟨g5, h⟩ := gd_some h
  obtain ⟨s6, e7, h⟩ := stp_some h
  refine v_iast oc41 (rgl rfl) g5.1 g5.2 dX6_collect_23 ?_
  rw [← e7]
  refine v_iconst dX6_collect_24 ?_
  refine v_istore_n (L1 := [(2, vI 1), (0, vO 13), (1, vI x1)]) dX6_collect_25 rfl (by decide) rfl ?_
  refine v_sub [1, 0] (L1 := [(0, vO 13), (2, vI 1)]) rfl ?_
  obtain ⟨s8, e9, h⟩ := lq_0_some h
  refine wl_X6_collect_26  FU 1 s6 _ e9 (rgl rfl) ?_
  unfold E_X6_collect_26
  intro s8' z_
  cases z_
  cases h
  exact v_vret dX6_collect_192
