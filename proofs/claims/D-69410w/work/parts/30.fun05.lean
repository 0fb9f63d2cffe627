set_option maxRecDepth 100000
set_option maxHeartbeats 1000000
def j_X12_element_231 (z1 : Int) (z2 : Int) (s : vS) : Option (Int × vS) :=
  bdv (f_X12_enter z1 z2 s) fun s1 =>
  some (1, s1)
theorem wj_X12_element_231 {z1 : Int} {z2 : Int} {s : vS} {out : Int × vS} (h : j_X12_element_231 z1 z2 s = some out)  (rz1 : rg z1) (rz2 : rg z2) : VW cX12_element (RX12, (some (vI out.1)), out.2, (some .boolean), 3, 70, 7, []) (P0 []) s 231 [] [vI z2, vI z1, vO 44] := by
  unfold j_X12_element_231 at h
  obtain ⟨s1, e2, h⟩ := bdv_some h
  have k3 := c_X12_enter e2 rz1 rz2
  refine v_callV (st := []) cf12 oc44 k3 (lw_V q2111 q2113 qs124 q309 q2114) rfl yk_X12_enter ⟨Nat.le_of_ble_eq_true rfl, Nat.le_of_ble_eq_true rfl⟩ trivial trivial (Nat.le_of_ble_eq_true rfl) rfl dX12_element_231 ?_
  refine v_goto (tgt := 278) dX12_element_234 (by decide) ?_
  refine v_iconst dX12_element_278 ?_
  cases h
  exact v_zret (Or.inr rfl) dX12_element_279

def j_X12_element_214 (x2 : Int) (x6 : Int) (z1 : Int) (s : vS) : Option (Int × vS) :=
  if x6 = (-1) then
    j_X12_element_231 z1 x2 s
  else
    j_X12_element_231 z1 (w32 ((gI s 44 1) + x6)) s
theorem wj_X12_element_214 {x2 : Int} {x6 : Int} {z1 : Int} {s : vS} {out : Int × vS} (h : j_X12_element_214 x2 x6 z1 s = some out)  (rx2 : rg x2) (rx6 : rg x6) (rz1 : rg z1) : VW cX12_element (RX12, (some (vI out.1)), out.2, (some .boolean), 3, 70, 7, []) (P0 []) s 214 [(0, vO 44), (2, vI x2), (6, vI x6)] [vI z1, vO 44] := by
  unfold j_X12_element_214 at h
  refine v_iload dX12_element_214 2 rfl ?_
  refine v_iconst dX12_element_216 ?_
  refine v_icmp_ne (tgt := 224) dX12_element_217 rx6 (rgl rfl) (by decide) (fun c1 => ?_) (fun c1 => ?_)
  · rw [if_neg c1] at h
    refine v_aload_n dX12_element_224 0 rfl rfl ?_
    refine v_getI (f := 1) cf12 oc44 rfl (by decide) q710 dX12_element_225 ?_
    refine v_iload dX12_element_228 2 rfl ?_
    refine v_iadd dX12_element_230 ?_
    refine v_sub [] (L1 := []) rfl ?_
    exact wj_X12_element_231 h rz1 (w32_rg _)
  · rw [if_pos c1] at h
    refine v_iload_n dX12_element_220 1 rfl rfl ?_
    refine v_goto (tgt := 231) dX12_element_221 (by decide) ?_
    refine v_sub [] (L1 := []) rfl ?_
    exact wj_X12_element_231 h rz1 rx2

def j_X12_element_160 (x2 : Int) (x3 : Int) (x4 : Int) (x5 : Int) (x6 : Int) (s : vS) : Option (Int × vS) :=
  bdv (f_X12_add (or32 (shl32 (shr32 x3 6) 28) x4) x5 s) fun s1 =>
  gd (inb (w32 ((gI s1 44 10) - 1)) (gN s1 47)) <|
  stp (sE s1 47 (w32 ((gI s1 44 10) - 1)) (gI s1 44 1)) fun s5 =>
  if x5 = 0 then
    stp (sI s5 44 1 (w32 ((gI s5 44 1) + x6))) fun s8 =>
    gd (inb (w32 ((gI s8 44 10) - 1)) (gN s8 48)) <|
    stp (sE s8 48 (w32 ((gI s8 44 10) - 1)) (gI s8 44 1)) fun s11 =>
    gd (inb (w32 ((gI s11 44 10) - 1)) (gN s11 49)) <|
    stp (sE s11 49 (w32 ((gI s11 44 10) - 1)) (gI s11 44 10)) fun s14 =>
    some (1, s14)
  else
    if x6 = (-1) then
      j_X12_element_214 x2 x6 (-1) s5
    else
      j_X12_element_214 x2 x6 (w32 ((gI s5 44 1) + x6)) s5
theorem wj_X12_element_160 {x2 : Int} {x3 : Int} {x4 : Int} {x5 : Int} {x6 : Int} {s : vS} {out : Int × vS} (h : j_X12_element_160 x2 x3 x4 x5 x6 s = some out)  (rx2 : rg x2) (rx3 : rg x3) (rx4 : rg x4) (rx5 : rg x5) (rx6 : rg x6) : VW cX12_element (RX12, (some (vI out.1)), out.2, (some .boolean), 3, 70, 7, []) (P0 []) s 160 [(0, vO 44), (2, vI x2), (3, vI x3), (4, vI x4), (5, vI x5), (6, vI x6)] [] := by
  unfold j_X12_element_160 at h
  refine v_aload_n dX12_element_160 0 rfl rfl ?_
  refine v_iload_n dX12_element_161 2 rfl rfl ?_
  refine v_bipush dX12_element_162 rfl ?_
  refine v_ishr dX12_element_164 ?_
  refine v_bipush dX12_element_165 rfl ?_
  refine v_ishl dX12_element_167 ?_
  refine v_iload dX12_element_168 3 rfl ?_
  refine v_ior dX12_element_170 ?_
  refine v_iload dX12_element_171 4 rfl ?_
  obtain ⟨s1, e2, h⟩ := bdv_some h
  have k3 := c_X12_add e2 (or32_rg _ _) rx5
  refine v_callV (st := []) cf12 oc44 k3 (lw_V q2103 q2105 qs123 q309 q2106) rfl yk_X12_add ⟨Nat.le_of_ble_eq_true rfl, Nat.le_of_ble_eq_true rfl⟩ trivial ⟨kc44, trivial⟩ (Nat.le_of_ble_eq_true rfl) rfl dX12_element_173 ?_
  refine v_aload_n dX12_element_176 0 rfl rfl ?_
  refine v_getS (f := 6) (t := 47) cf12 oc44 rfl rfl rfl (by decide) q715 dX12_element_177 ?_
  refine v_aload_n dX12_element_180 0 rfl rfl ?_
  refine v_getI (f := 10) cf12 oc44 rfl (by decide) q719 dX12_element_181 ?_
  refine v_iconst dX12_element_184 ?_
  refine v_isub dX12_element_185 ?_
  refine v_aload_n dX12_element_186 0 rfl rfl ?_
  refine v_getI (f := 1) cf12 oc44 rfl (by decide) q710 dX12_element_187 ?_
  obtain ⟨g4, h⟩ := gd_some h
  obtain ⟨s5, e6, h⟩ := stp_some h
  refine v_iast oc47 (w32_rg _) g4.1 g4.2 dX12_element_190 ?_
  rw [← e6]
  refine v_iload dX12_element_191 4 rfl ?_
  refine v_if_eq (tgt := 237) dX12_element_193 rx5 (by decide) (fun c7 => ?_) (fun c7 => ?_)
  · rw [if_pos c7] at h
    refine v_aload_n dX12_element_237 0 rfl rfl ?_
    refine v_dupO dX12_element_238 ?_
    refine v_getI (f := 1) cf12 oc44 rfl (by decide) q710 dX12_element_239 ?_
    refine v_iload dX12_element_242 5 rfl ?_
    refine v_iadd dX12_element_244 ?_
    obtain ⟨s8, e9, h⟩ := stp_some h
    refine v_putI (f := 1) cf12 oc44 rfl (by decide) q710 dX12_element_245 rfl rfl ?_
    rw [← e9]
    refine v_aload_n dX12_element_248 0 rfl rfl ?_
    refine v_getS (f := 7) (t := 48) cf12 oc44 rfl rfl rfl (by decide) q716 dX12_element_249 ?_
    refine v_aload_n dX12_element_252 0 rfl rfl ?_
    refine v_getI (f := 10) cf12 oc44 rfl (by decide) q719 dX12_element_253 ?_
    refine v_iconst dX12_element_256 ?_
    refine v_isub dX12_element_257 ?_
    refine v_aload_n dX12_element_258 0 rfl rfl ?_
    refine v_getI (f := 1) cf12 oc44 rfl (by decide) q710 dX12_element_259 ?_
    obtain ⟨g10, h⟩ := gd_some h
    obtain ⟨s11, e12, h⟩ := stp_some h
    refine v_iast oc48 (w32_rg _) g10.1 g10.2 dX12_element_262 ?_
    rw [← e12]
    refine v_aload_n dX12_element_263 0 rfl rfl ?_
    refine v_getS (f := 8) (t := 49) cf12 oc44 rfl rfl rfl (by decide) q717 dX12_element_264 ?_
    refine v_aload_n dX12_element_267 0 rfl rfl ?_
    refine v_getI (f := 10) cf12 oc44 rfl (by decide) q719 dX12_element_268 ?_
    refine v_iconst dX12_element_271 ?_
    refine v_isub dX12_element_272 ?_
    refine v_aload_n dX12_element_273 0 rfl rfl ?_
    refine v_getI (f := 10) cf12 oc44 rfl (by decide) q719 dX12_element_274 ?_
    obtain ⟨g13, h⟩ := gd_some h
    obtain ⟨s14, e15, h⟩ := stp_some h
    refine v_iast oc49 (w32_rg _) g13.1 g13.2 dX12_element_277 ?_
    rw [← e15]
    refine v_iconst dX12_element_278 ?_
    cases h
    exact v_zret (Or.inr rfl) dX12_element_279
  · rw [if_neg c7] at h
    refine v_aload_n dX12_element_196 0 rfl rfl ?_
    refine v_iload dX12_element_197 5 rfl ?_
    refine v_iconst dX12_element_199 ?_
    refine v_icmp_ne (tgt := 207) dX12_element_200 rx6 (rgl rfl) (by decide) (fun c16 => ?_) (fun c16 => ?_)
    · rw [if_neg c16] at h
      refine v_aload_n dX12_element_207 0 rfl rfl ?_
      refine v_getI (f := 1) cf12 oc44 rfl (by decide) q710 dX12_element_208 ?_
      refine v_iload dX12_element_211 5 rfl ?_
      refine v_iadd dX12_element_213 ?_
      refine v_sub [0, 1, 5] (L1 := [(0, vO 44), (2, vI x2), (6, vI x6)]) rfl ?_
      exact wj_X12_element_214 h rx2 rx6 (w32_rg _)
    · rw [if_pos c16] at h
      refine v_iconst dX12_element_203 ?_
      refine v_goto (tgt := 214) dX12_element_204 (by decide) ?_
      refine v_sub [0, 1, 5] (L1 := [(0, vO 44), (2, vI x2), (6, vI x6)]) rfl ?_
      exact wj_X12_element_214 h rx2 rx6 (rgl rfl)

def j_X12_element_117 (x2 : Int) (x3 : Int) (x4 : Int) (z0 : Int) (s : vS) : Option (Int × vS) :=
  bd (f_X12_length x2 z0 s) fun r4 s1 =>
  if (gI s1 44 2) = 0 then
    if r4 = (-1) then
      j_X12_element_160 x2 x3 x4 z0 r4 s1
    else
      if r4 ≤ (w32 (x2 - (gI s1 44 1))) then
        j_X12_element_160 x2 x3 x4 z0 r4 s1
      else
        bd (f_X12_wrong 1 s1) fun r12 s9 =>
        gd (r12 = 0 ∨ r12 = 1) <|
        some (r12, s9)
  else
    some (0, s1)
theorem wj_X12_element_117 {x2 : Int} {x3 : Int} {x4 : Int} {z0 : Int} {s : vS} {out : Int × vS} (h : j_X12_element_117 x2 x3 x4 z0 s = some out)  (rx2 : rg x2) (rx3 : rg x3) (rx4 : rg x4) (rz0 : rg z0) : VW cX12_element (RX12, (some (vI out.1)), out.2, (some .boolean), 3, 70, 7, []) (P0 []) s 117 [(0, vO 44), (2, vI x2), (3, vI x3), (4, vI x4)] [vI z0] := by
  unfold j_X12_element_117 at h
  refine v_istore (L1 := [(5, vI z0), (0, vO 44), (2, vI x2), (3, vI x3), (4, vI x4)]) dX12_element_117 (by decide) rfl ?_
  refine v_aload_n dX12_element_119 1 rfl rfl ?_
  refine v_iload_n dX12_element_120 2 rfl rfl ?_
  refine v_iload dX12_element_121 0 rfl ?_
  obtain ⟨r4, s1, e2, h⟩ := bd_some h
  have k3 := c_X12_length e2 rx2 rz0
  have r5 : rg r4 := k3.1.2.2
  refine v_callV (st := []) cf12 oc44 k3 (lw_V q2098 q2100 qs122 q309 q2101) rfl yk_X12_length ⟨Nat.le_of_ble_eq_true rfl, Nat.le_of_ble_eq_true rfl⟩ trivial ⟨kc44, trivial⟩ (Nat.le_of_ble_eq_true rfl) rfl dX12_element_123 ?_
  refine v_istore (L1 := [(6, vI r4), (5, vI z0), (0, vO 44), (2, vI x2), (3, vI x3), (4, vI x4)]) dX12_element_126 (by decide) rfl ?_
  refine v_aload_n dX12_element_128 2 rfl rfl ?_
  refine v_getI (f := 2) cf12 oc44 rfl (by decide) q711 dX12_element_129 ?_
  refine v_if_eq (tgt := 137) dX12_element_132 (gI_rg _ _ _) (by decide) (fun c6 => ?_) (fun c6 => ?_)
  · rw [if_pos c6] at h
    refine v_iload dX12_element_137 0 rfl ?_
    refine v_iconst dX12_element_139 ?_
    refine v_icmp_eq (tgt := 160) dX12_element_140 r5 (rgl rfl) (by decide) (fun c7 => ?_) (fun c7 => ?_)
    · rw [if_pos c7] at h
      refine v_sub [2, 3, 4, 5, 1, 0] (L1 := [(0, vO 44), (2, vI x2), (3, vI x3), (4, vI x4), (5, vI z0), (6, vI r4)]) rfl ?_
      exact wj_X12_element_160 h rx2 rx3 rx4 rz0 r5
    · rw [if_neg c7] at h
      refine v_iload dX12_element_143 0 rfl ?_
      refine v_iload_n dX12_element_145 3 rfl rfl ?_
      refine v_aload_n dX12_element_146 2 rfl rfl ?_
      refine v_getI (f := 1) cf12 oc44 rfl (by decide) q710 dX12_element_147 ?_
      refine v_isub dX12_element_150 ?_
      refine v_icmp_le (tgt := 160) dX12_element_151 r5 (w32_rg _) (by decide) (fun c8 => ?_) (fun c8 => ?_)
      · rw [if_pos c8] at h
        refine v_sub [2, 3, 4, 5, 1, 0] (L1 := [(0, vO 44), (2, vI x2), (3, vI x3), (4, vI x4), (5, vI z0), (6, vI r4)]) rfl ?_
        exact wj_X12_element_160 h rx2 rx3 rx4 rz0 r5
      · rw [if_neg c8] at h
        refine v_aload_n dX12_element_154 2 rfl rfl ?_
        refine v_iconst dX12_element_155 ?_
        obtain ⟨r12, s9, e10, h⟩ := bd_some h
        have k11 := c_X12_wrong e10 (rgl rfl)
        have r13 : rg r12 := k11.1.2.2
        refine v_callV (st := []) cf12 oc44 k11 (lw_V q2088 q2090 qs120 q309 q2091) rfl yk_X12_wrong ⟨Nat.le_of_ble_eq_true rfl, Nat.le_of_ble_eq_true rfl⟩ trivial ⟨kc44, trivial⟩ (Nat.le_of_ble_eq_true rfl) rfl dX12_element_156 ?_
        obtain ⟨g14, h⟩ := gd_some h
        cases h
        exact v_zret g14 dX12_element_159
  · rw [if_neg c6] at h
    refine v_iconst dX12_element_135 ?_
    cases h
    exact v_zret (Or.inl rfl) dX12_element_136

def j_X12_element_105 (x2 : Int) (x3 : Int) (x4 : Int) (s : vS) : Option (Int × vS) :=
  if (and32 x3 32) = 0 then
    j_X12_element_117 x2 x3 x4 0 s
  else
    j_X12_element_117 x2 x3 x4 1 s
theorem wj_X12_element_105 {x2 : Int} {x3 : Int} {x4 : Int} {s : vS} {out : Int × vS} (h : j_X12_element_105 x2 x3 x4 s = some out)  (rx2 : rg x2) (rx3 : rg x3) (rx4 : rg x4) : VW cX12_element (RX12, (some (vI out.1)), out.2, (some .boolean), 3, 70, 7, []) (P0 []) s 105 [(0, vO 44), (2, vI x2), (3, vI x3), (4, vI x4)] [] := by
  unfold j_X12_element_105 at h
  refine v_iload_n dX12_element_105 2 rfl rfl ?_
  refine v_bipush dX12_element_106 rfl ?_
  refine v_iand dX12_element_108 ?_
  refine v_if_eq (tgt := 116) dX12_element_109 (and32_rg _ _) (by decide) (fun c1 => ?_) (fun c1 => ?_)
  · rw [if_pos c1] at h
    refine v_iconst dX12_element_116 ?_
    exact wj_X12_element_117 h rx2 rx3 rx4 (rgl rfl)
  · rw [if_neg c1] at h
    refine v_iconst dX12_element_112 ?_
    refine v_goto (tgt := 117) dX12_element_113 (by decide) ?_
    exact wj_X12_element_117 h rx2 rx3 rx4 (rgl rfl)

def f_X12_element (x1 : Int) (s : vS) : Option (Int × vS) :=
  stp (sI s 44 3 (gI s 44 1)) fun s1 =>
  bd (f_X12_bound s1) fun r6 s3 =>
  if (gI s3 44 1) < r6 then
    if (gI s3 44 14) ≤ x1 then
      gd (okB (gR s3 44 0) 1) <|
      bd (f_X2_at (gR s3 44 0) (gI s3 44 1) s3) fun r14 s11 =>
      stp (sI s11 44 1 (w32 ((gI s11 44 1) + 1))) fun s16 =>
      if (and32 r14 223) = 0 then
        bd (f_X12_wrong 4 s16) fun r32 s29 =>
        gd (r32 = 0 ∨ r32 = 1) <|
        some (r32, s29)
      else
        vl (and32 r14 31) fun y19 =>
        if y19 = 31 then
          bd (f_X12_tagNumber r6 s16) fun r26 s23 =>
          if r26 = (-1) then
            some (0, s23)
          else
            j_X12_element_105 r6 r14 r26 s23
        else
          j_X12_element_105 r6 r14 y19 s16
    else
      bd (f_X12_wrong 5 s3) fun r38 s35 =>
      gd (r38 = 0 ∨ r38 = 1) <|
      some (r38, s35)
  else
    bd (f_X12_wrong 1 s3) fun r44 s41 =>
    gd (r44 = 0 ∨ r44 = 1) <|
    some (r44, s41)
theorem yk_X12_element : yOk yX12_element 1 := ⟨by decide, by decide, by decide +kernel⟩
theorem c_X12_element {x1 : Int} {s : vS} {out : Int × vS} (h : f_X12_element x1 s = some out)  (rx1 : rg x1) : VC yX12_element cX12_element 7 (some .boolean) 3 70 [vO 44, vI x1] s (some (vI out.1)) out.2 [] := by
  unfold f_X12_element at h
  refine VC.of RX12 (by decide) rfl (Nat.le_of_ble_eq_true rfl) ?_
  show VW cX12_element (RX12, (some (vI out.1)), out.2, (some .boolean), 3, 70, 7, []) (P0 []) s 0 [(0, vO 44), (1, vI x1)] []
  refine v_aload_n dX12_element_0 0 rfl rfl ?_
  refine v_aload_n dX12_element_1 0 rfl rfl ?_
  refine v_getI (f := 1) cf12 oc44 rfl (by decide) q710 dX12_element_2 ?_
  obtain ⟨s1, e2, h⟩ := stp_some h
  refine v_putI (f := 3) cf12 oc44 rfl (by decide) q712 dX12_element_5 rfl rfl ?_
  rw [← e2]
  refine v_aload_n dX12_element_8 0 rfl rfl ?_
  obtain ⟨r6, s3, e4, h⟩ := bd_some h
  have k5 := c_X12_bound e4
  have r7 : rg r6 := k5.1.2.2
  refine v_callV (st := []) cf12 oc44 k5 (lw_V q2083 q2085 qs119 q309 q2086) rfl yk_X12_bound ⟨Nat.le_of_ble_eq_true rfl, Nat.le_of_ble_eq_true rfl⟩ trivial ⟨kc44, trivial⟩ (Nat.le_of_ble_eq_true rfl) rfl dX12_element_9 ?_
  refine v_istore_n (L1 := [(2, vI r6), (0, vO 44), (1, vI x1)]) dX12_element_12 rfl (by decide) rfl ?_
  refine v_aload_n dX12_element_13 1 rfl rfl ?_
  refine v_getI (f := 1) cf12 oc44 rfl (by decide) q710 dX12_element_14 ?_
  refine v_iload_n dX12_element_17 0 rfl rfl ?_
  refine v_icmp_lt (tgt := 27) dX12_element_18 (gI_rg _ _ _) r7 (by decide) (fun c8 => ?_) (fun c8 => ?_)
  · rw [if_pos c8] at h
    refine v_aload_n dX12_element_27 1 rfl rfl ?_
    refine v_getI (f := 14) cf12 oc44 rfl (by decide) q723 dX12_element_28 ?_
    refine v_iload_n dX12_element_31 2 rfl rfl ?_
    refine v_icmp_le (tgt := 41) dX12_element_32 (gI_rg _ _ _) rx1 (by decide) (fun c9 => ?_) (fun c9 => ?_)
    · rw [if_pos c9] at h
      refine v_aload_n dX12_element_41 1 rfl rfl ?_
      obtain ⟨g10, h⟩ := gd_some h
      refine v_getR (f := 0) cf12 oc44 rfl (okB_R g10 (by decide) (by decide)) (by decide) q709 dX12_element_42 ?_
      refine v_aload_n dX12_element_45 1 rfl rfl ?_
      refine v_getI (f := 1) cf12 oc44 rfl (by decide) q710 dX12_element_46 ?_
      obtain ⟨r14, s11, e12, h⟩ := bd_some h
      have k13 := c_X2_at e12 g10 (gI_rg _ _ _)
      have r15 : rg r14 := k13.1.2.2
      refine v_callV (st := []) cf2 (okB_ok g10) k13 (lw_V q2092 q1072 q1073 q299 q1074) rfl yk_X2_at ⟨Nat.le_of_ble_eq_true rfl, Nat.le_of_ble_eq_true rfl⟩ trivial ⟨kc44, trivial⟩ (Nat.le_of_ble_eq_true rfl) rfl dX12_element_49 ?_
      refine v_istore_n (L1 := [(3, vI r14), (2, vI r6), (0, vO 44), (1, vI x1)]) dX12_element_52 rfl (by decide) rfl ?_
      refine v_aload_n dX12_element_53 2 rfl rfl ?_
      refine v_dupO dX12_element_54 ?_
      refine v_getI (f := 1) cf12 oc44 rfl (by decide) q710 dX12_element_55 ?_
      refine v_iconst dX12_element_58 ?_
      refine v_iadd dX12_element_59 ?_
      obtain ⟨s16, e17, h⟩ := stp_some h
      refine v_putI (f := 1) cf12 oc44 rfl (by decide) q710 dX12_element_60 rfl rfl ?_
      rw [← e17]
      refine v_iload_n dX12_element_63 0 rfl rfl ?_
      refine v_sipush dX12_element_64 rfl ?_
      refine v_iand dX12_element_67 ?_
      refine v_if_ne (tgt := 77) dX12_element_68 (and32_rg _ _) (by decide) (fun c18 => ?_) (fun c18 => ?_)
      · rw [if_neg c18] at h
        refine v_iload_n dX12_element_77 0 rfl rfl ?_
        refine v_bipush dX12_element_78 rfl ?_
        refine v_iand dX12_element_80 ?_
        obtain ⟨y19, e20, h⟩ := vl_some h
        rw [← e20]
        have r21 : rg y19 := by rw [e20]; exact and32_rg _ _
        refine v_istore (L1 := [(4, vI y19), (3, vI r14), (2, vI r6), (0, vO 44), (1, vI x1)]) dX12_element_81 (by decide) rfl ?_
        refine v_iload dX12_element_83 0 rfl ?_
        refine v_bipush dX12_element_85 rfl ?_
        refine v_icmp_ne (tgt := 105) dX12_element_87 r21 (rgl rfl) (by decide) (fun c22 => ?_) (fun c22 => ?_)
        · rw [if_neg c22] at h
          refine v_sub [3, 2, 1, 0] (L1 := [(0, vO 44), (2, vI r6), (3, vI r14), (4, vI y19)]) rfl ?_
          exact wj_X12_element_105 h r7 r15 r21
        · rw [if_pos c22] at h
          refine v_aload_n dX12_element_90 3 rfl rfl ?_
          refine v_iload_n dX12_element_91 2 rfl rfl ?_
          obtain ⟨r26, s23, e24, h⟩ := bd_some h
          have k25 := c_X12_tagNumber e24 r7
          have r27 : rg r26 := k25.1.2.2
          refine v_callV (st := []) cf12 oc44 k25 (lw_V q2093 q2095 qs121 q309 q2096) rfl yk_X12_tagNumber ⟨Nat.le_of_ble_eq_true rfl, Nat.le_of_ble_eq_true rfl⟩ trivial ⟨kc44, trivial⟩ (Nat.le_of_ble_eq_true rfl) rfl dX12_element_92 ?_
          refine v_istore (L1 := [(4, vI r26), (3, vI r14), (2, vI r6), (0, vO 44), (1, vI x1)]) dX12_element_95 (by decide) rfl ?_
          refine v_iload dX12_element_97 0 rfl ?_
          refine v_iconst dX12_element_99 ?_
          refine v_icmp_ne (tgt := 105) dX12_element_100 r27 (rgl rfl) (by decide) (fun c28 => ?_) (fun c28 => ?_)
          · rw [if_neg c28] at h
            refine v_sub [3, 2, 1, 0] (L1 := [(0, vO 44), (2, vI r6), (3, vI r14), (4, vI r26)]) rfl ?_
            exact wj_X12_element_105 h r7 r15 r27
          · rw [if_pos c28] at h
            refine v_iconst dX12_element_103 ?_
            cases h
            exact v_zret (Or.inl rfl) dX12_element_104
      · rw [if_pos c18] at h
        refine v_aload_n dX12_element_71 2 rfl rfl ?_
        refine v_iconst dX12_element_72 ?_
        obtain ⟨r32, s29, e30, h⟩ := bd_some h
        have k31 := c_X12_wrong e30 (rgl rfl)
        have r33 : rg r32 := k31.1.2.2
        refine v_callV (st := []) cf12 oc44 k31 (lw_V q2088 q2090 qs120 q309 q2091) rfl yk_X12_wrong ⟨Nat.le_of_ble_eq_true rfl, Nat.le_of_ble_eq_true rfl⟩ trivial ⟨kc44, trivial⟩ (Nat.le_of_ble_eq_true rfl) rfl dX12_element_73 ?_
        obtain ⟨g34, h⟩ := gd_some h
        cases h
        exact v_zret g34 dX12_element_76
    · rw [if_neg c9] at h
      refine v_aload_n dX12_element_35 1 rfl rfl ?_
      refine v_iconst dX12_element_36 ?_
      obtain ⟨r38, s35, e36, h⟩ := bd_some h
      have k37 := c_X12_wrong e36 (rgl rfl)
      have r39 : rg r38 := k37.1.2.2
      refine v_callV (st := []) cf12 oc44 k37 (lw_V q2088 q2090 qs120 q309 q2091) rfl yk_X12_wrong ⟨Nat.le_of_ble_eq_true rfl, Nat.le_of_ble_eq_true rfl⟩ trivial ⟨kc44, trivial⟩ (Nat.le_of_ble_eq_true rfl) rfl dX12_element_37 ?_
      obtain ⟨g40, h⟩ := gd_some h
      cases h
      exact v_zret g40 dX12_element_40
  · rw [if_neg c8] at h
    refine v_aload_n dX12_element_21 1 rfl rfl ?_
    refine v_iconst dX12_element_22 ?_
    obtain ⟨r44, s41, e42, h⟩ := bd_some h
    have k43 := c_X12_wrong e42 (rgl rfl)
    have r45 : rg r44 := k43.1.2.2
    refine v_callV (st := []) cf12 oc44 k43 (lw_V q2088 q2090 qs120 q309 q2091) rfl yk_X12_wrong ⟨Nat.le_of_ble_eq_true rfl, Nat.le_of_ble_eq_true rfl⟩ trivial ⟨kc44, trivial⟩ (Nat.le_of_ble_eq_true rfl) rfl dX12_element_23 ?_
    obtain ⟨g46, h⟩ := gd_some h
    cases h
    exact v_zret g46 dX12_element_26

def f_X12_leave (x1 : Int) (s : vS) : Option (vS) :=
  stp (sI s 44 14 (w32 ((gI s 44 14) - 1))) fun s1 =>
  gd (inb (gI s1 44 14) (gN s1 51)) <|
  gd (inb (gE s1 51 (gI s1 44 14)) (gN s1 48)) <|
  stp (sE s1 48 (gE s1 51 (gI s1 44 14)) x1) fun s5 =>
  gd (inb (gI s5 44 14) (gN s5 51)) <|
  gd (inb (gE s5 51 (gI s5 44 14)) (gN s5 49)) <|
  stp (sE s5 49 (gE s5 51 (gI s5 44 14)) (gI s5 44 10)) fun s9 =>
  some s9
theorem yk_X12_leave : yOk yX12_leave 1 := ⟨by decide, by decide, by decide +kernel⟩
theorem c_X12_leave {x1 : Int} {s : vS} {out : vS} (h : f_X12_leave x1 s = some out)  (rx1 : rg x1) : VC yX12_leave cX12_leave 2 none 0 0 [vO 44, vI x1] s none out [] := by
  unfold f_X12_leave at h
  refine VC.of RX12 (by decide) rfl (Nat.le_of_ble_eq_true rfl) ?_
  show VW cX12_leave (RX12, none, out, none, 0, 0, 2, []) (P0 []) s 0 [(0, vO 44), (1, vI x1)] []
  refine v_aload_n dX12_leave_0 0 rfl rfl ?_
  refine v_dupO dX12_leave_1 ?_
  refine v_getI (f := 14) cf12 oc44 rfl (by decide) q723 dX12_leave_2 ?_
  refine v_iconst dX12_leave_5 ?_
  refine v_isub dX12_leave_6 ?_
  obtain ⟨s1, e2, h⟩ := stp_some h
  refine v_putI (f := 14) cf12 oc44 rfl (by decide) q723 dX12_leave_7 rfl rfl ?_
  rw [← e2]
  refine v_aload_n dX12_leave_10 0 rfl rfl ?_
  refine v_getS (f := 7) (t := 48) cf12 oc44 rfl rfl rfl (by decide) q716 dX12_leave_11 ?_
  refine v_aload_n dX12_leave_14 0 rfl rfl ?_
  refine v_getS (f := 11) (t := 51) cf12 oc44 rfl rfl rfl (by decide) q720 dX12_leave_15 ?_
  refine v_aload_n dX12_leave_18 0 rfl rfl ?_
  refine v_getI (f := 14) cf12 oc44 rfl (by decide) q723 dX12_leave_19 ?_
  obtain ⟨g3, h⟩ := gd_some h
  refine v_iald oc51 (gI_rg _ _ _) g3.1 g3.2 dX12_leave_22 ?_
  refine v_iload_n dX12_leave_23 1 rfl rfl ?_
  obtain ⟨g4, h⟩ := gd_some h
  obtain ⟨s5, e6, h⟩ := stp_some h
  refine v_iast oc48 (gE_rg _ _ _) g4.1 g4.2 dX12_leave_24 ?_
  rw [← e6]
  refine v_aload_n dX12_leave_25 0 rfl rfl ?_
  refine v_getS (f := 8) (t := 49) cf12 oc44 rfl rfl rfl (by decide) q717 dX12_leave_26 ?_
  refine v_aload_n dX12_leave_29 0 rfl rfl ?_
  refine v_getS (f := 11) (t := 51) cf12 oc44 rfl rfl rfl (by decide) q720 dX12_leave_30 ?_
  refine v_aload_n dX12_leave_33 0 rfl rfl ?_
  refine v_getI (f := 14) cf12 oc44 rfl (by decide) q723 dX12_leave_34 ?_
  obtain ⟨g7, h⟩ := gd_some h
  refine v_iald oc51 (gI_rg _ _ _) g7.1 g7.2 dX12_leave_37 ?_
  refine v_aload_n dX12_leave_38 0 rfl rfl ?_
  refine v_getI (f := 10) cf12 oc44 rfl (by decide) q719 dX12_leave_39 ?_
  obtain ⟨g8, h⟩ := gd_some h
  obtain ⟨s9, e10, h⟩ := stp_some h
  refine v_iast oc49 (gE_rg _ _ _) g8.1 g8.2 dX12_leave_42 ?_
  rw [← e10]
  cases h
  exact v_vret dX12_leave_43

def j_X12_step_98 (x1 : Int) (s : vS) : Option (Int × vS) :=
  bd (f_X12_element x1 s) fun r4 s1 =>
  gd (r4 = 0 ∨ r4 = 1) <|
  some (r4, s1)
theorem wj_X12_step_98 {x1 : Int} {s : vS} {out : Int × vS} (h : j_X12_step_98 x1 s = some out)  (rx1 : rg x1) : VW cX12_step (RX12, (some (vI out.1)), out.2, (some .boolean), 4, 96, 3, []) (P0 []) s 98 [(0, vO 44), (1, vI x1)] [] := by
  unfold j_X12_step_98 at h
  refine v_aload_n dX12_step_98 0 rfl rfl ?_
  refine v_iload_n dX12_step_99 1 rfl rfl ?_
  obtain ⟨r4, s1, e2, h⟩ := bd_some h
  have k3 := c_X12_element e2 rx1
  have r5 : rg r4 := k3.1.2.2
  refine v_callV (st := []) cf12 oc44 k3 (lw_V q2079 q2081 qs118 q309 q2082) rfl yk_X12_element ⟨Nat.le_of_ble_eq_true rfl, Nat.le_of_ble_eq_true rfl⟩ trivial ⟨kc44, trivial⟩ (Nat.le_of_ble_eq_true rfl) rfl dX12_step_100 ?_
  obtain ⟨g6, h⟩ := gd_some h
  cases h
  exact v_zret g6 dX12_step_103

def f_X12_step (x1 : Int) (s : vS) : Option (Int × vS) :=
  gd (inb (w32 ((gI s 44 14) - 1)) (gN s 52)) <|
  vl (gE s 52 (w32 ((gI s 44 14) - 1))) fun y2 =>
  if y2 = (gI s 44 1) then
    bdv (f_X12_leave (gI s 44 1) s) fun s32 =>
    some (1, s32)
  else
    if y2 = (-1) then
      bd (f_X12_bound s) fun r10 s7 =>
      if r10 ≤ (w32 ((gI s 44 1) + 1)) then
        j_X12_step_98 x1 s7
      else
        gd (okB (gR s7 44 0) 1) <|
        bd (f_X2_at (gR s7 44 0) (gI s7 44 1) s7) fun r17 s14 =>
        if r17 = 0 then
          gd (okB (gR s14 44 0) 1) <|
          bd (f_X2_at (gR s14 44 0) (w32 ((gI s14 44 1) + 1)) s14) fun r24 s21 =>
          if r24 = 0 then
            bdv (f_X12_leave (gI s21 44 1) s21) fun s27 =>
            stp (sI s27 44 1 (w32 ((gI s27 44 1) + 2))) fun s30 =>
            some (1, s30)
          else
            j_X12_step_98 x1 s21
        else
          j_X12_step_98 x1 s14
    else
      j_X12_step_98 x1 s
theorem yk_X12_step : yOk yX12_step 1 := ⟨by decide, by decide, by decide +kernel⟩
theorem c_X12_step {x1 : Int} {s : vS} {out : Int × vS} (h : f_X12_step x1 s = some out)  (rx1 : rg x1) : VC yX12_step cX12_step 3 (some .boolean) 4 96 [vO 44, vI x1] s (some (vI out.1)) out.2 [] := by
  unfold f_X12_step at h
  refine VC.of RX12 (by decide) rfl (Nat.le_of_ble_eq_true rfl) ?_
  show VW cX12_step (RX12, (some (vI out.1)), out.2, (some .boolean), 4, 96, 3, []) (P0 []) s 0 [(0, vO 44), (1, vI x1)] []
  refine v_aload_n dX12_step_0 0 rfl rfl ?_
  refine v_getS (f := 12) (t := 52) cf12 oc44 rfl rfl rfl (by decide) q721 dX12_step_1 ?_
  refine v_aload_n dX12_step_4 0 rfl rfl ?_
  refine v_getI (f := 14) cf12 oc44 rfl (by decide) q723 dX12_step_5 ?_
  refine v_iconst dX12_step_8 ?_
  refine v_isub dX12_step_9 ?_
  obtain ⟨g1, h⟩ := gd_some h
  refine v_iald oc52 (w32_rg _) g1.1 g1.2 dX12_step_10 ?_
  obtain ⟨y2, e3, h⟩ := vl_some h
  rw [← e3]
  have r4 : rg y2 := by rw [e3]; exact gE_rg _ _ _
  refine v_istore_n (L1 := [(2, vI y2), (0, vO 44), (1, vI x1)]) dX12_step_11 rfl (by decide) rfl ?_
  refine v_iload_n dX12_step_12 0 rfl rfl ?_
  refine v_aload_n dX12_step_13 1 rfl rfl ?_
  refine v_getI (f := 1) cf12 oc44 rfl (by decide) q710 dX12_step_14 ?_
  refine v_icmp_ne (tgt := 30) dX12_step_17 r4 (gI_rg _ _ _) (by decide) (fun c5 => ?_) (fun c5 => ?_)
  · rw [if_neg c5] at h
    refine v_iload_n dX12_step_30 0 rfl rfl ?_
    refine v_iconst dX12_step_31 ?_
    refine v_icmp_ne (tgt := 98) dX12_step_32 r4 (rgl rfl) (by decide) (fun c6 => ?_) (fun c6 => ?_)
    · rw [if_neg c6] at h
      refine v_sub [1, 2] (L1 := [(0, vO 44), (1, vI x1)]) rfl ?_
      exact wj_X12_step_98 h rx1
    · rw [if_pos c6] at h
      refine v_aload_n dX12_step_35 1 rfl rfl ?_
      refine v_getI (f := 1) cf12 oc44 rfl (by decide) q710 dX12_step_36 ?_
      refine v_iconst dX12_step_39 ?_
      refine v_iadd dX12_step_40 ?_
      refine v_aload_n dX12_step_41 1 rfl rfl ?_
      obtain ⟨r10, s7, e8, h⟩ := bd_some h
      have k9 := c_X12_bound e8
      have r11 : rg r10 := k9.1.2.2
      refine v_callV (st := [vI (w32 ((gI s 44 1) + 1))]) cf12 oc44 k9 (lw_V q2083 q2085 qs119 q309 q2086) rfl yk_X12_bound ⟨Nat.le_of_ble_eq_true rfl, Nat.le_of_ble_eq_true rfl⟩ trivial ⟨kc44, trivial⟩ (Nat.le_of_ble_eq_true rfl) rfl dX12_step_42 ?_
      refine v_icmp_ge (tgt := 98) dX12_step_45 (w32_rg _) r11 (by decide) (fun c12 => ?_) (fun c12 => ?_)
      · rw [if_pos c12] at h
        refine v_sub [1, 2] (L1 := [(0, vO 44), (1, vI x1)]) rfl ?_
        exact wj_X12_step_98 h rx1
      · rw [if_neg c12] at h
        refine v_aload_n dX12_step_48 1 rfl rfl ?_
        obtain ⟨g13, h⟩ := gd_some h
        refine v_getR (f := 0) cf12 oc44 rfl (okB_R g13 (by decide) (by decide)) (by decide) q709 dX12_step_49 ?_
        refine v_aload_n dX12_step_52 1 rfl rfl ?_
        refine v_getI (f := 1) cf12 oc44 rfl (by decide) q710 dX12_step_53 ?_
        obtain ⟨r17, s14, e15, h⟩ := bd_some h
        have k16 := c_X2_at e15 g13 (gI_rg _ _ _)
        have r18 : rg r17 := k16.1.2.2
        refine v_callV (st := []) cf2 (okB_ok g13) k16 (lw_V q2092 q1072 q1073 q299 q1074) rfl yk_X2_at ⟨Nat.le_of_ble_eq_true rfl, Nat.le_of_ble_eq_true rfl⟩ trivial ⟨kc44, trivial⟩ (Nat.le_of_ble_eq_true rfl) rfl dX12_step_56 ?_
        refine v_if_ne (tgt := 98) dX12_step_59 r18 (by decide) (fun c19 => ?_) (fun c19 => ?_)
        · rw [if_neg c19] at h
          refine v_sub [1, 2] (L1 := [(0, vO 44), (1, vI x1)]) rfl ?_
          exact wj_X12_step_98 h rx1
        · rw [if_pos c19] at h
          refine v_aload_n dX12_step_62 1 rfl rfl ?_
          obtain ⟨g20, h⟩ := gd_some h
          refine v_getR (f := 0) cf12 oc44 rfl (okB_R g20 (by decide) (by decide)) (by decide) q709 dX12_step_63 ?_
          refine v_aload_n dX12_step_66 1 rfl rfl ?_
          refine v_getI (f := 1) cf12 oc44 rfl (by decide) q710 dX12_step_67 ?_
          refine v_iconst dX12_step_70 ?_
          refine v_iadd dX12_step_71 ?_
          obtain ⟨r24, s21, e22, h⟩ := bd_some h
          have k23 := c_X2_at e22 g20 (w32_rg _)
          have r25 : rg r24 := k23.1.2.2
          refine v_callV (st := []) cf2 (okB_ok g20) k23 (lw_V q2092 q1072 q1073 q299 q1074) rfl yk_X2_at ⟨Nat.le_of_ble_eq_true rfl, Nat.le_of_ble_eq_true rfl⟩ trivial ⟨kc44, trivial⟩ (Nat.le_of_ble_eq_true rfl) rfl dX12_step_72 ?_
          refine v_if_ne (tgt := 98) dX12_step_75 r25 (by decide) (fun c26 => ?_) (fun c26 => ?_)
          · rw [if_neg c26] at h
            refine v_sub [1, 2] (L1 := [(0, vO 44), (1, vI x1)]) rfl ?_
            exact wj_X12_step_98 h rx1
          · rw [if_pos c26] at h
            refine v_aload_n dX12_step_78 1 rfl rfl ?_
            refine v_aload_n dX12_step_79 1 rfl rfl ?_
            refine v_getI (f := 1) cf12 oc44 rfl (by decide) q710 dX12_step_80 ?_
            obtain ⟨s27, e28, h⟩ := bdv_some h
            have k29 := c_X12_leave e28 (gI_rg _ _ _)
            refine v_callV (st := []) cf12 oc44 k29 (lw_V q2119 q2121 qs126 q309 q2122) rfl yk_X12_leave ⟨Nat.le_of_ble_eq_true rfl, Nat.le_of_ble_eq_true rfl⟩ trivial ⟨kc44, trivial⟩ (Nat.le_of_ble_eq_true rfl) rfl dX12_step_83 ?_
            refine v_aload_n dX12_step_86 1 rfl rfl ?_
            refine v_dupO dX12_step_87 ?_
            refine v_getI (f := 1) cf12 oc44 rfl (by decide) q710 dX12_step_88 ?_
            refine v_iconst dX12_step_91 ?_
            refine v_iadd dX12_step_92 ?_
            obtain ⟨s30, e31, h⟩ := stp_some h
            refine v_putI (f := 1) cf12 oc44 rfl (by decide) q710 dX12_step_93 rfl rfl ?_
            rw [← e31]
            refine v_iconst dX12_step_96 ?_
            cases h
            exact v_zret (Or.inr rfl) dX12_step_97
  · rw [if_pos c5] at h
    refine v_aload_n dX12_step_20 1 rfl rfl ?_
    refine v_aload_n dX12_step_21 1 rfl rfl ?_
    refine v_getI (f := 1) cf12 oc44 rfl (by decide) q710 dX12_step_22 ?_
    obtain ⟨s32, e33, h⟩ := bdv_some h
    have k34 := c_X12_leave e33 (gI_rg _ _ _)
    refine v_callV (st := []) cf12 oc44 k34 (lw_V q2119 q2121 qs126 q309 q2122) rfl yk_X12_leave ⟨Nat.le_of_ble_eq_true rfl, Nat.le_of_ble_eq_true rfl⟩ trivial ⟨kc44, trivial⟩ (Nat.le_of_ble_eq_true rfl) rfl dX12_step_25 ?_
    refine v_iconst dX12_step_28 ?_
    cases h
    exact v_zret (Or.inr rfl) dX12_step_29

def E_X12_read_40 (p1 : Nat) (rv : Option vA) (σo : vS) (q : (vS) ⊕ (Int × vS)) : Prop := (∀ (s' : vS), q = .inl s' → VW cX12_read (RX12, rv, σo, (some .boolean), 5, 118, 3, []) (P0 []) s' 57 [(0, vO 44)] []) ∧ (∀ (v : Int) (s' : vS), q = .inr (v, s') → rv = some (vI v) ∧ σo = s')
def l_X12_read_40 (p1 : Nat) : Nat → Int → vS → Option ((vS) ⊕ (Int × vS))
  | 0, _, _ => none
  | n + 1, x2, s =>
    if (gI s 44 14) ≤ 0 then
      some (.inl s)
    else
      bd (f_X12_step x2 s) fun r5 s2 =>
      if r5 = 0 then
        some (.inr (0, s2))
      else
        l_X12_read_40 p1 n x2 s2
theorem wl_X12_read_40 (p1 : Nat) {x2 : Int} {rv : Option vA} {σo : vS} (hp1 : okB p1 1) (rx2 : rg x2) : ∀ (n : Nat) (s : vS) (q : (vS) ⊕ (Int × vS)), l_X12_read_40 p1 n x2 s = some q → E_X12_read_40 p1 rv σo q → VW cX12_read (RX12, rv, σo, (some .boolean), 5, 118, 3, []) (P0 []) s 40 [(0, vO 44), (2, vI x2)] [] := by
  intro n
  induction n with
  | zero => intro s q h; cases h
  | succ n ih =>
    intro s q h  hE
    unfold l_X12_read_40 at h
    refine v_aload_n dX12_read_40 0 rfl rfl ?_
    refine v_getI (f := 14) cf12 oc44 rfl (by decide) q723 dX12_read_41 ?_
    refine v_if_le (tgt := 57) dX12_read_44 (gI_rg _ _ _) (by decide) (fun c1 => ?_) (fun c1 => ?_)
    · rw [if_pos c1] at h
      cases h
      refine v_sub [0] (L1 := [(0, vO 44)]) rfl ?_
      exact hE.1 _ rfl 
    · rw [if_neg c1] at h
      refine v_aload_n dX12_read_47 0 rfl rfl ?_
      refine v_iload_n dX12_read_48 1 rfl rfl ?_
      obtain ⟨r5, s2, e3, h⟩ := bd_some h
      have k4 := c_X12_step e3 rx2
      have r6 : rg r5 := k4.1.2.2
      refine v_callV (st := []) cf12 oc44 k4 (lw_V q2115 q2117 qs125 q309 q2118) rfl yk_X12_step ⟨Nat.le_of_ble_eq_true rfl, Nat.le_of_ble_eq_true rfl⟩ trivial ⟨kc44, trivial⟩ (Nat.le_of_ble_eq_true rfl) rfl dX12_read_49 ?_
      refine v_if_ne (tgt := 40) dX12_read_52 r6 (by decide) (fun c7 => ?_) (fun c7 => ?_)
      · rw [if_neg c7] at h
        exact ih s2 _ h  hE
      · rw [if_pos c7] at h
        refine v_iconst dX12_read_55 ?_
        cases h
        obtain ⟨z1, z2⟩ := hE.2 _ _ rfl
        subst z1
        subst z2
        exact v_zret (Or.inl rfl) dX12_read_56

def f_X12_read (p1 : Nat) (x2 : Int) (s : vS) : Option (Int × vS) :=
  stp (sR s 44 0 p1) fun s1 =>
  stp (sI s1 44 1 0) fun s3 =>
  stp (sI s3 44 10 0) fun s5 =>
  stp (sI s5 44 14 0) fun s7 =>
  stp (sI s7 44 2 0) fun s9 =>
  stp (sI s9 44 3 0) fun s11 =>
  bd (f_X12_element x2 s11) fun r16 s13 =>
  if r16 = 0 then
    some (0, s13)
  else
    lqs_0 (l_X12_read_40 p1 FU x2 s13) (fun s19 =>
      stp (sI s19 44 3 (gI s19 44 1)) fun s21 =>
      gd (okB (gR s21 44 0) 1) <|
      bd (f_X2_size (gR s21 44 0) s21) fun r27 s24 =>
      if (gI s21 44 1) = r27 then
        some (1, s24)
      else
        bd (f_X12_wrong 6 s24) fun r33 s30 =>
        if r33 = 0 then
          some (0, s30)
        else
          some (1, s30))
      (fun q => some q)
theorem yk_X12_read : yOk yX12_read 2 := ⟨by decide, by decide, by decide +kernel⟩
theorem c_X12_read {p1 : Nat} {x2 : Int} {s : vS} {out : Int × vS} (h : f_X12_read p1 x2 s = some out) (hp1 : okB p1 1) (rx2 : rg x2) : VC yX12_read cX12_read 3 (some .boolean) 5 118 [vO 44, vO p1, vI x2] s (some (vI out.1)) out.2 [] := by
  unfold f_X12_read at h
  refine VC.of RX12 (by decide) rfl (Nat.le_of_ble_eq_true rfl) ?_
  show VW cX12_read (RX12, (some (vI out.1)), out.2, (some .boolean), 5, 118, 3, []) (P0 []) s 0 [(0, vO 44), (1, vO p1), (2, vI x2)] []
  refine v_aload_n dX12_read_0 0 rfl rfl ?_
  refine v_aload_n dX12_read_1 1 rfl rfl ?_
  obtain ⟨s1, e2, h⟩ := stp_some h
  refine v_putR (f := 0) cf12 oc44 rfl (okB_R hp1 (by decide) (by decide)) (by decide) q709 dX12_read_2 rfl rfl ?_
  rw [← e2]
  refine v_aload_n dX12_read_5 0 rfl rfl ?_
  refine v_iconst dX12_read_6 ?_
  obtain ⟨s3, e4, h⟩ := stp_some h
  refine v_putI (f := 1) cf12 oc44 rfl (by decide) q710 dX12_read_7 rfl rfl ?_
  rw [← e4]
  refine v_aload_n dX12_read_10 0 rfl rfl ?_
  refine v_iconst dX12_read_11 ?_
  obtain ⟨s5, e6, h⟩ := stp_some h
  refine v_putI (f := 10) cf12 oc44 rfl (by decide) q719 dX12_read_12 rfl rfl ?_
  rw [← e6]
  refine v_aload_n dX12_read_15 0 rfl rfl ?_
  refine v_iconst dX12_read_16 ?_
  obtain ⟨s7, e8, h⟩ := stp_some h
  refine v_putI (f := 14) cf12 oc44 rfl (by decide) q723 dX12_read_17 rfl rfl ?_
  rw [← e8]
  refine v_aload_n dX12_read_20 0 rfl rfl ?_
  refine v_iconst dX12_read_21 ?_
  obtain ⟨s9, e10, h⟩ := stp_some h
  refine v_putI (f := 2) cf12 oc44 rfl (by decide) q711 dX12_read_22 rfl rfl ?_
  rw [← e10]
  refine v_aload_n dX12_read_25 0 rfl rfl ?_
  refine v_iconst dX12_read_26 ?_
  obtain ⟨s11, e12, h⟩ := stp_some h
  refine v_putI (f := 3) cf12 oc44 rfl (by decide) q712 dX12_read_27 rfl rfl ?_
  rw [← e12]
  refine v_aload_n dX12_read_30 0 rfl rfl ?_
  refine v_iload_n dX12_read_31 2 rfl rfl ?_
  obtain ⟨r16, s13, e14, h⟩ := bd_some h
  have k15 := c_X12_element e14 rx2
  have r17 : rg r16 := k15.1.2.2
  refine v_callV (st := []) cf12 oc44 k15 (lw_V q2079 q2081 qs118 q309 q2082) rfl yk_X12_element ⟨Nat.le_of_ble_eq_true rfl, Nat.le_of_ble_eq_true rfl⟩ trivial ⟨kc44, (okB_kp hp1 (by decide)), trivial⟩ (Nat.le_of_ble_eq_true rfl) rfl dX12_read_32 ?_
  refine v_if_ne (tgt := 40) dX12_read_35 r17 (by decide) (fun c18 => ?_) (fun c18 => ?_)
  · rw [if_neg c18] at h
    refine v_sub [0, 2] (L1 := [(0, vO 44), (2, vI x2)]) rfl ?_
    rcases lqs_0_some h with ⟨s19, e20, h⟩ | ⟨q9, e20, h⟩
    · refine wl_X12_read_40 p1 hp1 rx2 FU  s13 _ e20  ?_
      unfold E_X12_read_40
      refine ⟨?_, fun v9 s9 z_ => (by cases z_)⟩
      intro s19' z_
      cases z_
      refine v_aload_n dX12_read_57 0 rfl rfl ?_
      refine v_aload_n dX12_read_58 0 rfl rfl ?_
      refine v_getI (f := 1) cf12 oc44 rfl (by decide) q710 dX12_read_59 ?_
      obtain ⟨s21, e22, h⟩ := stp_some h
      refine v_putI (f := 3) cf12 oc44 rfl (by decide) q712 dX12_read_62 rfl rfl ?_
      rw [← e22]
      refine v_aload_n dX12_read_65 0 rfl rfl ?_
      refine v_getI (f := 1) cf12 oc44 rfl (by decide) q710 dX12_read_66 ?_
      refine v_aload_n dX12_read_69 0 rfl rfl ?_
      obtain ⟨g23, h⟩ := gd_some h
      refine v_getR (f := 0) cf12 oc44 rfl (okB_R g23 (by decide) (by decide)) (by decide) q709 dX12_read_70 ?_
      obtain ⟨r27, s24, e25, h⟩ := bd_some h
      have k26 := c_X2_size e25 g23
      have r28 : rg r27 := k26.1.2.2
      refine v_callV (st := [vI (gI s21 44 1)]) cf2 (okB_ok g23) k26 (lw_V q2087 q918 q919 q299 q920) rfl yk_X2_size ⟨Nat.le_of_ble_eq_true rfl, Nat.le_of_ble_eq_true rfl⟩ trivial ⟨kc44, trivial⟩ (Nat.le_of_ble_eq_true rfl) rfl dX12_read_73 ?_
      refine v_icmp_eq (tgt := 88) dX12_read_76 (gI_rg _ _ _) r28 (by decide) (fun c29 => ?_) (fun c29 => ?_)
      · rw [if_pos c29] at h
        refine v_iconst dX12_read_88 ?_
        refine v_goto (tgt := 93) dX12_read_89 (by decide) ?_
        cases h
        exact v_zret (Or.inr rfl) dX12_read_93
      · rw [if_neg c29] at h
        refine v_aload_n dX12_read_79 0 rfl rfl ?_
        refine v_bipush dX12_read_80 rfl ?_
        obtain ⟨r33, s30, e31, h⟩ := bd_some h
        have k32 := c_X12_wrong e31 (rgl rfl)
        have r34 : rg r33 := k32.1.2.2
        refine v_callV (st := []) cf12 oc44 k32 (lw_V q2088 q2090 qs120 q309 q2091) rfl yk_X12_wrong ⟨Nat.le_of_ble_eq_true rfl, Nat.le_of_ble_eq_true rfl⟩ trivial ⟨kc44, trivial⟩ (Nat.le_of_ble_eq_true rfl) rfl dX12_read_82 ?_
        refine v_if_eq (tgt := 92) dX12_read_85 r34 (by decide) (fun c35 => ?_) (fun c35 => ?_)
        · rw [if_pos c35] at h
          refine v_iconst dX12_read_92 ?_
          cases h
          exact v_zret (Or.inl rfl) dX12_read_93
        · rw [if_neg c35] at h
          refine v_iconst dX12_read_88 ?_
          refine v_goto (tgt := 93) dX12_read_89 (by decide) ?_
          cases h
          exact v_zret (Or.inr rfl) dX12_read_93
    · cases h
      refine wl_X12_read_40 p1 hp1 rx2 FU  s13 _ e20  ?_
      unfold E_X12_read_40
      refine ⟨fun _ z_ => (by cases z_), ?_⟩
      intro v9 s9 z_
      cases z_
      exact ⟨rfl, rfl⟩
  · rw [if_pos c18] at h
    refine v_iconst dX12_read_38 ?_
    cases h
    exact v_zret (Or.inl rfl) dX12_read_39

def f_X12_fault (s : vS) : Option (Int × vS) :=
  some (gI s 44 2, s)
theorem yk_X12_fault : yOk yX12_fault 0 := ⟨by decide, by decide, by decide +kernel⟩
theorem c_X12_fault {s : vS} {out : Int × vS} (h : f_X12_fault s = some out)   : VC yX12_fault cX12_fault 1 (some .int) 0 0 [vO 44] s (some (vI out.1)) out.2 [] := by
  unfold f_X12_fault at h
  refine VC.of RX12 (by decide) rfl (Nat.le_of_ble_eq_true rfl) ?_
  show VW cX12_fault (RX12, (some (vI out.1)), out.2, (some .int), 0, 0, 1, []) (P0 []) s 0 [(0, vO 44)] []
  refine v_aload_n dX12_fault_0 0 rfl rfl ?_
  refine v_getI (f := 2) cf12 oc44 rfl (by decide) q711 dX12_fault_1 ?_
  cases h
  exact v_iret (gI_rg _ _ _) dX12_fault_4

def f_X12_place (s : vS) : Option (Int × vS) :=
  some (gI s 44 3, s)
theorem yk_X12_place : yOk yX12_place 0 := ⟨by decide, by decide, by decide +kernel⟩
theorem c_X12_place {s : vS} {out : Int × vS} (h : f_X12_place s = some out)   : VC yX12_place cX12_place 1 (some .int) 0 0 [vO 44] s (some (vI out.1)) out.2 [] := by
  unfold f_X12_place at h
  refine VC.of RX12 (by decide) rfl (Nat.le_of_ble_eq_true rfl) ?_
  show VW cX12_place (RX12, (some (vI out.1)), out.2, (some .int), 0, 0, 1, []) (P0 []) s 0 [(0, vO 44)] []
  refine v_aload_n dX12_place_0 0 rfl rfl ?_
  refine v_getI (f := 3) cf12 oc44 rfl (by decide) q712 dX12_place_1 ?_
  cases h
  exact v_iret (gI_rg _ _ _) dX12_place_4

def f_X12_size (s : vS) : Option (Int × vS) :=
  some (gI s 44 10, s)
theorem yk_X12_size : yOk yX12_size 0 := ⟨by decide, by decide, by decide +kernel⟩
theorem c_X12_size {s : vS} {out : Int × vS} (h : f_X12_size s = some out)   : VC yX12_size cX12_size 1 (some .int) 0 0 [vO 44] s (some (vI out.1)) out.2 [] := by
  unfold f_X12_size at h
  refine VC.of RX12 (by decide) rfl (Nat.le_of_ble_eq_true rfl) ?_
  show VW cX12_size (RX12, (some (vI out.1)), out.2, (some .int), 0, 0, 1, []) (P0 []) s 0 [(0, vO 44)] []
  refine v_aload_n dX12_size_0 0 rfl rfl ?_
  refine v_getI (f := 10) cf12 oc44 rfl (by decide) q719 dX12_size_1 ?_
  cases h
  exact v_iret (gI_rg _ _ _) dX12_size_4

def f_X13_grown (p0 : Nat) (x1 : Int) (s : vS) : Option (Int × vS) :=
  if (w32 (gN s p0 : Int)) < x1 then
    gd (naG (max x1 (w32 (2 * (w32 (gN s p0 : Int)))))) <|
    stp (sA s 199 (Int.toNat (max x1 (w32 (2 * (w32 (gN s p0 : Int))))), fun _ => 0)) fun s3 =>
    gd (cpG 0 0 (w32 (gN s3 p0 : Int)) (gN s3 p0) (gN s3 199)) <|
    stp (cpA s3 p0 199 0 0 (w32 (gN s3 p0 : Int))) fun s6 =>
    some (1, s6)
  else
    some (0, s)
theorem yk_X13_grown : yOk yX13_grown 2 := ⟨by decide, by decide, by decide +kernel⟩
theorem c_X13_grown {p0 : Nat} {x1 : Int} {s : vS} {out : Int × vS} (h : f_X13_grown p0 x1 s = some out) (hp0 : okB p0 24) (rx1 : rg x1) : VC yX13_grown cX13_grown 3 (some (.array .int)) 1 26 [vO p0, vI x1] s (some (vO (if out.1 = 0 then p0 else 199))) out.2 (if out.1 = 0 then [] else [(24, 1)]) := by
  unfold f_X13_grown at h
  refine VC.of RX13 (by decide) rfl (Nat.le_of_ble_eq_true rfl) ?_
  show VW cX13_grown (RX13, (some (vO (if out.1 = 0 then p0 else 199))), out.2, (some (.array .int)), 1, 26, 3, (if out.1 = 0 then [] else [(24, 1)])) (P0 []) s 0 [(0, vO p0), (1, vI x1)] []
  refine v_iload_n dX13_grown_0 1 rfl rfl ?_
  refine v_aload_n dX13_grown_1 0 rfl rfl ?_
  refine v_alen24 (okB_ok hp0) dX13_grown_2 ?_
  refine v_icmp_gt (tgt := 8) dX13_grown_3 rx1 (w32_rg _) (by decide) (fun c1 => ?_) (fun c1 => ?_)
  · rw [if_pos c1] at h
    refine v_iload_n dX13_grown_8 1 rfl rfl ?_
    refine v_iconst dX13_grown_9 ?_
    refine v_aload_n dX13_grown_10 0 rfl rfl ?_
    refine v_alen24 (okB_ok hp0) dX13_grown_11 ?_
    refine v_imul dX13_grown_12 ?_
    refine v_max rx1 (w32_rg _) (Nat.le_of_ble_eq_true rfl) (Nat.le_of_ble_eq_true rfl) q2142 dX13_grown_13 ?_
    obtain ⟨g2, h⟩ := gd_some h
    obtain ⟨s3, e4, h⟩ := stp_some h
    refine v_na24 (K := 199) (tk1 := [(24, 1)]) rfl rfl (by decide) (max_rg rx1 (w32_rg _)) g2 ⟨(Nat.lt_of_lt_of_le hp0.1 (by decide)), trivial⟩ trivial q459 dX13_grown_16 ?_
    rw [← e4]
    refine v_astore_n (L1 := [(2, vO 199), (0, vO p0), (1, vI x1)]) dX13_grown_18 rfl (by decide) rfl ?_
    refine v_aload_n dX13_grown_19 1 rfl rfl ?_
    refine v_iconst dX13_grown_20 ?_
    refine v_aload_n dX13_grown_21 0 rfl rfl ?_
    refine v_iconst dX13_grown_22 ?_
    refine v_aload_n dX13_grown_23 1 rfl rfl ?_
    refine v_alen24 (okB_ok hp0) dX13_grown_24 ?_
    obtain ⟨g5, h⟩ := gd_some h
    obtain ⟨s6, e7, h⟩ := stp_some h
    refine v_cp (t := 24) (by decide) (by decide) (okB_ok hp0) (ok_tmp (i := 0) rfl) (rgl rfl) (rgl rfl) (w32_rg _) g5 (Nat.le_of_ble_eq_true rfl) (Nat.le_of_ble_eq_true rfl) q2143 dX13_grown_25 ?_
    rw [← e7]
    refine v_aload_n dX13_grown_28 0 rfl rfl ?_
    cases h
    exact v_aretT dX13_grown_29
  · rw [if_neg c1] at h
    refine v_aload_n dX13_grown_6 0 rfl rfl ?_
    cases h
    exact v_aretT dX13_grown_7

def f_X12_tag (x1 : Int) (s : vS) : Option (Int × vS) :=
  gd (inb x1 (gN s 45)) <|
  some (gE s 45 x1, s)
theorem yk_X12_tag : yOk yX12_tag 1 := ⟨by decide, by decide, by decide +kernel⟩
theorem c_X12_tag {x1 : Int} {s : vS} {out : Int × vS} (h : f_X12_tag x1 s = some out)  (rx1 : rg x1) : VC yX12_tag cX12_tag 2 (some .int) 0 0 [vO 44, vI x1] s (some (vI out.1)) out.2 [] := by
  unfold f_X12_tag at h
  refine VC.of RX12 (by decide) rfl (Nat.le_of_ble_eq_true rfl) ?_
  show VW cX12_tag (RX12, (some (vI out.1)), out.2, (some .int), 0, 0, 2, []) (P0 []) s 0 [(0, vO 44), (1, vI x1)] []
  refine v_aload_n dX12_tag_0 0 rfl rfl ?_
  refine v_getS (f := 4) (t := 45) cf12 oc44 rfl rfl rfl (by decide) q713 dX12_tag_1 ?_
  refine v_iload_n dX12_tag_4 1 rfl rfl ?_
  obtain ⟨g1, h⟩ := gd_some h
  refine v_iald oc45 rx1 g1.1 g1.2 dX12_tag_5 ?_
  cases h
  exact v_iret (gE_rg _ _ _) dX12_tag_6

def E_X13_find_9 (rv : Option vA) (σo : vS) (q : (vS) ⊕ (Int × vS)) : Prop := (∀ (s' : vS), q = .inl s' → VW cX13_find (RX13, rv, σo, (some .int), 7, 161, 6, []) (P0 []) s' 126 [] []) ∧ (∀ (v : Int) (s' : vS), q = .inr (v, s') → rv = some (vI v) ∧ σo = s')
def E_X13_find_71 (x2 : Int) (rv : Option vA) (σo : vS) (q : Int × vS) : Prop := ∀ (x3' : Int) (s' : vS), q = (x3', s') → rg x3' → VW cX13_find (RX13, rv, σo, (some .int), 7, 161, 6, []) (P0 []) s' 123 [(0, vO 54), (2, vI x2), (3, vI x3')] []
def l_X13_find_71 : Nat → Int → Int → Int → vS → Option (Int × vS)
  | 0, _, _, _, _ => none
  | n + 1, x2, x3, x5, s =>
    if x5 = (-1) then
      some (x3, s)
    else
      bd (f_X13_grown 72 (w32 (x3 + 1)) s) fun r5 s6 =>
      gd (r5 = 0 ∨ (2 * gN s6 72 ≤ gN s6 199 ∧ 2 ≤ gN s6 199)) <|
      stp (grw s6 72 r5) fun s10 =>
      bd (f_X4_parts x5 s10) fun r15 s12 =>
      gd (gN s12 72 = gN s10 72) <|
      gd (inb x3 (gN s12 72)) <|
      stp (sE s12 72 x3 r15) fun s19 =>
      vl (w32 (x3 + 1)) fun y21 =>
      bd (f_X4_next x5 s19) fun r27 s24 =>
      l_X13_find_71 n x2 y21 r27 s24
theorem wl_X13_find_71 {x2 : Int} {rv : Option vA} {σo : vS}  (rx2 : rg x2) : ∀ (n : Nat) (x3 : Int) (x5 : Int) (s : vS) (q : Int × vS), l_X13_find_71 n x2 x3 x5 s = some q → rg x3 → rg x5 → E_X13_find_71 x2 rv σo q → VW cX13_find (RX13, rv, σo, (some .int), 7, 161, 6, []) (P0 []) s 71 [(0, vO 54), (2, vI x2), (3, vI x3), (5, vI x5)] [] := by
  intro n
  induction n with
  | zero => intro x3 x5 s q h; cases h
  | succ n ih =>
    intro x3 x5 s q h rx3 rx5 hE
    unfold l_X13_find_71 at h
    refine v_iload dX13_find_71 3 rfl ?_
    refine v_iconst dX13_find_73 ?_
    refine v_icmp_eq (tgt := 123) dX13_find_74 rx5 (rgl rfl) (by decide) (fun c1 => ?_) (fun c1 => ?_)
    · rw [if_pos c1] at h
      cases h
      refine v_sub [0, 1, 2] (L1 := [(0, vO 54), (2, vI x2), (3, vI x3)]) rfl ?_
      exact hE _ _ rfl rx3
    · rw [if_neg c1] at h
      refine v_aload_n dX13_find_77 0 rfl rfl ?_
      refine v_aload_n dX13_find_78 0 rfl rfl ?_
      refine v_getS (f := 20) (t := 72) cf13 oc54 rfl rfl rfl (by decide) q790 dX13_find_79 ?_
      refine v_iload_n dX13_find_82 2 rfl rfl ?_
      refine v_iconst dX13_find_83 ?_
      refine v_iadd dX13_find_84 ?_
      obtain ⟨r5, s6, e7, h⟩ := bd_some h
      have k8 := c_X13_grown e7 (⟨by decide, rfl⟩ : okB 72 24) (w32_rg _)
      obtain ⟨g9, h⟩ := gd_some h
      obtain ⟨s10, e11, h⟩ := stp_some h
      refine v_regrow (f := 20) k8 (lw_S q2139 q2140 q310 q2141) yk_X13_grown ⟨Nat.le_of_ble_eq_true rfl, Nat.le_of_ble_eq_true rfl⟩ ⟨kc54, trivial⟩ ⟨kc54, trivial⟩ (Nat.le_of_ble_eq_true rfl) dX13_find_85 cf13 (⟨by decide, rfl⟩ : okB 54 12) rfl (by decide) rfl rfl g9 q790 dX13_find_88 rfl rfl rfl rfl ⟨(by decide), trivial⟩ trivial ?_
      rw [← e11]
      refine v_aload_n dX13_find_91 0 rfl rfl ?_
      refine v_getS (f := 20) (t := 72) cf13 oc54 rfl rfl rfl (by decide) q790 dX13_find_92 ?_
      refine v_iload_n dX13_find_95 2 rfl rfl ?_
      refine v_aload_n dX13_find_96 0 rfl rfl ?_
      refine v_getS (f := 0) (t := 10) cf13 oc54 rfl rfl rfl (by decide) q770 dX13_find_97 ?_
      refine v_iload dX13_find_100 3 rfl ?_
      obtain ⟨r15, s12, e13, h⟩ := bd_some h
      have k14 := c_X4_parts e13 rx5
      have r16 : rg r15 := k14.1.2.2
      obtain ⟨g17, h⟩ := gd_some h
      refine v_callV (st := [vI x3, vO 72]) cf4 oc10 k14 (lw_V q2156 q1493 q1494 q301 q1495) rfl yk_X4_parts ⟨Nat.le_of_ble_eq_true rfl, Nat.le_of_ble_eq_true rfl⟩ ⟨(kp_arr (by decide) g17), trivial⟩ ⟨kc54, trivial⟩ (Nat.le_of_ble_eq_true rfl) rfl dX13_find_102 ?_
      obtain ⟨g18, h⟩ := gd_some h
      obtain ⟨s19, e20, h⟩ := stp_some h
      refine v_iast oc72 rx3 g18.1 g18.2 dX13_find_105 ?_
      rw [← e20]
      obtain ⟨y21, e22, h⟩ := vl_some h
      refine v_iinc (L1 := [(3, vI (w32 (x3 + 1))), (0, vO 54), (2, vI x2), (5, vI x5)]) dX13_find_106 2 rfl (by decide) rfl ?_
      rw [← e22]
      have r23 : rg y21 := by rw [e22]; exact w32_rg _
      refine v_aload_n dX13_find_109 1 rfl rfl ?_
      refine v_getS (f := 0) (t := 10) cf13 oc54 rfl rfl rfl (by decide) q770 dX13_find_110 ?_
      refine v_iload dX13_find_113 3 rfl ?_
      obtain ⟨r27, s24, e25, h⟩ := bd_some h
      have k26 := c_X4_next e25 rx5
      have r28 : rg r27 := k26.1.2.2
      refine v_callV (st := []) cf4 oc10 k26 (lw_V q2157 q1404 q1405 q301 q1406) rfl yk_X4_next ⟨Nat.le_of_ble_eq_true rfl, Nat.le_of_ble_eq_true rfl⟩ trivial ⟨kc54, trivial⟩ (Nat.le_of_ble_eq_true rfl) rfl dX13_find_115 ?_
      refine v_istore (L1 := [(5, vI r27), (3, vI y21), (0, vO 54), (2, vI x2)]) dX13_find_118 (by decide) rfl ?_
      refine v_goto (tgt := 71) dX13_find_120 (by decide) ?_
      refine v_sub [2, 3, 1, 0] (L1 := [(0, vO 54), (2, vI x2), (3, vI y21), (5, vI r27)]) rfl ?_
      exact ih y21 r27 s24 _ h r23 r28 hE

def l_X13_find_9 : Nat → Int → Int → vS → Option ((vS) ⊕ (Int × vS))
  | 0, _, _, _ => none
  | n + 1, x2, x3, s =>
    if x3 ≤ 0 then
      some (.inl s)
    else
      vl (w32 (x3 + (-1))) fun y2 =>
      gd (inb y2 (gN s 72)) <|
      vl (gE s 72 y2) fun y6 =>
      bd (f_X6_tagCount y6 s) fun r12 s9 =>
      if r12 ≤ 0 then
        bd (f_X6_base y6 s9) fun r18 s15 =>
        bd (f_X4_parts r18 s15) fun r23 s20 =>
        lq_1 (l_X13_find_71 FU x2 y2 r23 s20) fun y25 s26 =>
        l_X13_find_9 n x2 y25 s26
      else
        bd (f_X6_tag y6 0 s9) fun r32 s29 =>
        if r32 = x2 then
          some (.inr (y6, s29))
        else
          l_X13_find_9 n x2 y2 s29
theorem wl_X13_find_9 {x2 : Int} {rv : Option vA} {σo : vS}  (rx2 : rg x2) : ∀ (n : Nat) (x3 : Int) (s : vS) (q : (vS) ⊕ (Int × vS)), l_X13_find_9 n x2 x3 s = some q → rg x3 → E_X13_find_9 rv σo q → VW cX13_find (RX13, rv, σo, (some .int), 7, 161, 6, []) (P0 []) s 9 [(0, vO 54), (2, vI x2), (3, vI x3)] [] := by
  intro n
  induction n with
  | zero => intro x3 s q h; cases h
  | succ n ih =>
    intro x3 s q h rx3 hE
    unfold l_X13_find_9 at h
    refine v_iload_n dX13_find_9 2 rfl rfl ?_
    refine v_if_le (tgt := 126) dX13_find_10 rx3 (by decide) (fun c1 => ?_) (fun c1 => ?_)
    · rw [if_pos c1] at h
      cases h
      refine v_sub [] (L1 := []) rfl ?_
      exact hE.1 _ rfl 
    · rw [if_neg c1] at h
      obtain ⟨y2, e3, h⟩ := vl_some h
      refine v_iinc (L1 := [(3, vI (w32 (x3 + (-1)))), (0, vO 54), (2, vI x2)]) dX13_find_13 2 rfl (by decide) rfl ?_
      rw [← e3]
      have r4 : rg y2 := by rw [e3]; exact w32_rg _
      refine v_aload_n dX13_find_16 1 rfl rfl ?_
      refine v_getS (f := 20) (t := 72) cf13 oc54 rfl rfl rfl (by decide) q790 dX13_find_17 ?_
      refine v_iload_n dX13_find_20 0 rfl rfl ?_
      obtain ⟨g5, h⟩ := gd_some h
      refine v_iald oc72 r4 g5.1 g5.2 dX13_find_21 ?_
      obtain ⟨y6, e7, h⟩ := vl_some h
      rw [← e7]
      have r8 : rg y6 := by rw [e7]; exact gE_rg _ _ _
      refine v_istore (L1 := [(4, vI y6), (3, vI y2), (0, vO 54), (2, vI x2)]) dX13_find_22 (by decide) rfl ?_
      refine v_aload_n dX13_find_24 2 rfl rfl ?_
      refine v_getS (f := 1) (t := 13) cf13 oc54 rfl rfl rfl (by decide) q771 dX13_find_25 ?_
      refine v_iload dX13_find_28 0 rfl ?_
      obtain ⟨r12, s9, e10, h⟩ := bd_some h
      have k11 := c_X6_tagCount e10 r8
      have r13 : rg r12 := k11.1.2.2
      refine v_callV (st := []) cf6 oc13 k11 (lw_V q2153 q2016 q2017 q303 q2018) rfl yk_X6_tagCount ⟨Nat.le_of_ble_eq_true rfl, Nat.le_of_ble_eq_true rfl⟩ trivial ⟨kc54, trivial⟩ (Nat.le_of_ble_eq_true rfl) rfl dX13_find_30 ?_
      refine v_if_le (tgt := 53) dX13_find_33 r13 (by decide) (fun c14 => ?_) (fun c14 => ?_)
      · rw [if_pos c14] at h
        refine v_aload_n dX13_find_53 2 rfl rfl ?_
        refine v_getS (f := 0) (t := 10) cf13 oc54 rfl rfl rfl (by decide) q770 dX13_find_54 ?_
        refine v_aload_n dX13_find_57 2 rfl rfl ?_
        refine v_getS (f := 1) (t := 13) cf13 oc54 rfl rfl rfl (by decide) q771 dX13_find_58 ?_
        refine v_iload dX13_find_61 0 rfl ?_
        obtain ⟨r18, s15, e16, h⟩ := bd_some h
        have k17 := c_X6_base e16 r8
        have r19 : rg r18 := k17.1.2.2
        refine v_callVN (st := [vO 10]) cf6 oc13 k17 q1591 q2155 q1590 qs60 q303 yk_X6_base ⟨Nat.le_of_ble_eq_true rfl, Nat.le_of_ble_eq_true rfl⟩ ⟨kc10, trivial⟩ ⟨kc54, trivial⟩ (Nat.le_of_ble_eq_true rfl) rfl dX13_find_63 ?_
        obtain ⟨r23, s20, e21, h⟩ := bd_some h
        have k22 := c_X4_parts e21 r19
        have r24 : rg r23 := k22.1.2.2
        refine v_callV (st := []) cf4 oc10 k22 (lw_V q2156 q1493 q1494 q301 q1495) rfl yk_X4_parts ⟨Nat.le_of_ble_eq_true rfl, Nat.le_of_ble_eq_true rfl⟩ trivial ⟨kc54, trivial⟩ (Nat.le_of_ble_eq_true rfl) rfl dX13_find_66 ?_
        refine v_istore (L1 := [(5, vI r23), (4, vI y6), (3, vI y2), (0, vO 54), (2, vI x2)]) dX13_find_69 (by decide) rfl ?_
        refine v_sub [3, 4, 2, 0] (L1 := [(0, vO 54), (2, vI x2), (3, vI y2), (5, vI r23)]) rfl ?_
        obtain ⟨y25, s26, e27, h⟩ := lq_1_some h
        refine wl_X13_find_71 rx2 FU y2 r23 s20 _ e27 r4 r24 ?_
        unfold E_X13_find_71
        intro y25' s26' z_ r28
        cases z_
        refine v_goto (tgt := 9) dX13_find_123 (by decide) ?_
        exact ih y25 s26 _ h r28 hE
      · rw [if_neg c14] at h
        refine v_aload_n dX13_find_36 2 rfl rfl ?_
        refine v_getS (f := 1) (t := 13) cf13 oc54 rfl rfl rfl (by decide) q771 dX13_find_37 ?_
        refine v_iload dX13_find_40 0 rfl ?_
        refine v_iconst dX13_find_42 ?_
        obtain ⟨r32, s29, e30, h⟩ := bd_some h
        have k31 := c_X6_tag e30 r8 (rgl rfl)
        have r33 : rg r32 := k31.1.2.2
        refine v_callV (st := []) cf6 oc13 k31 (lw_V q2154 q1645 q1646 q303 q1647) rfl yk_X6_tag ⟨Nat.le_of_ble_eq_true rfl, Nat.le_of_ble_eq_true rfl⟩ trivial ⟨kc54, trivial⟩ (Nat.le_of_ble_eq_true rfl) rfl dX13_find_43 ?_
        refine v_iload_n dX13_find_46 3 rfl rfl ?_
        refine v_icmp_ne (tgt := 123) dX13_find_47 r33 rx2 (by decide) (fun c34 => ?_) (fun c34 => ?_)
        · rw [if_neg c34] at h
          refine v_goto (tgt := 9) dX13_find_123 (by decide) ?_
          refine v_sub [2, 3, 1] (L1 := [(0, vO 54), (2, vI x2), (3, vI y2)]) rfl ?_
          exact ih y2 s29 _ h r4 hE
        · rw [if_pos c34] at h
          refine v_iload dX13_find_50 0 rfl ?_
          cases h
          obtain ⟨z1, z2⟩ := hE.2 _ _ rfl
          subst z1
          subst z2
          exact v_iret r8 dX13_find_52

def f_X13_find (x1 : Int) (x2 : Int) (s : vS) : Option (Int × vS) :=
  gd (inb 0 (gN s 72)) <|
  stp (sE s 72 0 x1) fun s2 =>
  lqs_0 (l_X13_find_9 FU x2 1 s2) (fun s4 =>
    some ((-1), s4))
    (fun q => some q)
theorem yk_X13_find : yOk yX13_find 2 := ⟨by decide, by decide, by decide +kernel⟩
theorem c_X13_find {x1 : Int} {x2 : Int} {s : vS} {out : Int × vS} (h : f_X13_find x1 x2 s = some out)  (rx1 : rg x1) (rx2 : rg x2) : VC yX13_find cX13_find 6 (some .int) 7 161 [vO 54, vI x1, vI x2] s (some (vI out.1)) out.2 [] := by
  unfold f_X13_find at h
  refine VC.of RX13 (by decide) rfl (Nat.le_of_ble_eq_true rfl) ?_
  show VW cX13_find (RX13, (some (vI out.1)), out.2, (some .int), 7, 161, 6, []) (P0 []) s 0 [(0, vO 54), (1, vI x1), (2, vI x2)] []
  refine v_iconst dX13_find_0 ?_
  refine v_istore_n (L1 := [(3, vI 1), (0, vO 54), (1, vI x1), (2, vI x2)]) dX13_find_1 rfl (by decide) rfl ?_
  refine v_aload_n dX13_find_2 1 rfl rfl ?_
  refine v_getS (f := 20) (t := 72) cf13 oc54 rfl rfl rfl (by decide) q790 dX13_find_3 ?_
  refine v_iconst dX13_find_6 ?_
  refine v_iload_n dX13_find_7 2 rfl rfl ?_
  obtain ⟨g1, h⟩ := gd_some h
  obtain ⟨s2, e3, h⟩ := stp_some h
  refine v_iast oc72 (rgl rfl) g1.1 g1.2 dX13_find_8 ?_
  rw [← e3]
  refine v_sub [1, 3, 0] (L1 := [(0, vO 54), (2, vI x2), (3, vI 1)]) rfl ?_
  rcases lqs_0_some h with ⟨s4, e5, h⟩ | ⟨q9, e5, h⟩
  · refine wl_X13_find_9 rx2 FU 1 s2 _ e5 (rgl rfl) ?_
    unfold E_X13_find_9
    refine ⟨?_, fun v9 s9 z_ => (by cases z_)⟩
    intro s4' z_
    cases z_
    refine v_iconst dX13_find_126 ?_
    cases h
    exact v_iret (rgl rfl) dX13_find_127
  · cases h
    refine wl_X13_find_9 rx2 FU 1 s2 _ e5 (rgl rfl) ?_
    unfold E_X13_find_9
    refine ⟨fun _ z_ => (by cases z_), ?_⟩
    intro v9 s9 z_
    cases z_
    exact ⟨rfl, rfl⟩

def f_X12_start (x1 : Int) (s : vS) : Option (Int × vS) :=
  gd (inb x1 (gN s 46)) <|
  some (gE s 46 x1, s)
theorem yk_X12_start : yOk yX12_start 1 := ⟨by decide, by decide, by decide +kernel⟩
theorem c_X12_start {x1 : Int} {s : vS} {out : Int × vS} (h : f_X12_start x1 s = some out)  (rx1 : rg x1) : VC yX12_start cX12_start 2 (some .int) 0 0 [vO 44, vI x1] s (some (vI out.1)) out.2 [] := by
  unfold f_X12_start at h
  refine VC.of RX12 (by decide) rfl (Nat.le_of_ble_eq_true rfl) ?_
  show VW cX12_start (RX12, (some (vI out.1)), out.2, (some .int), 0, 0, 2, []) (P0 []) s 0 [(0, vO 44), (1, vI x1)] []
  refine v_aload_n dX12_start_0 0 rfl rfl ?_
  refine v_getS (f := 5) (t := 46) cf12 oc44 rfl rfl rfl (by decide) q714 dX12_start_1 ?_
  refine v_iload_n dX12_start_4 1 rfl rfl ?_
  obtain ⟨g1, h⟩ := gd_some h
  refine v_iald oc46 rx1 g1.1 g1.2 dX12_start_5 ?_
  cases h
  exact v_iret (gE_rg _ _ _) dX12_start_6

def f_X13_wrong (x1 : Int) (x2 : Int) (s : vS) : Option (Int × vS) :=
  stp (sI s 54 6 x1) fun s1 =>
  gd (gR s1 54 5 = 44) <|
  bd (f_X12_start x2 s1) fun r7 s4 =>
  stp (sI s4 54 7 r7) fun s9 =>
  some (0, s9)
theorem yk_X13_wrong : yOk yX13_wrong 2 := ⟨by decide, by decide, by decide +kernel⟩
theorem c_X13_wrong {x1 : Int} {x2 : Int} {s : vS} {out : Int × vS} (h : f_X13_wrong x1 x2 s = some out)  (rx1 : rg x1) (rx2 : rg x2) : VC yX13_wrong cX13_wrong 3 (some .boolean) 1 21 [vO 54, vI x1, vI x2] s (some (vI out.1)) out.2 [] := by
  unfold f_X13_wrong at h
  refine VC.of RX13 (by decide) rfl (Nat.le_of_ble_eq_true rfl) ?_
  show VW cX13_wrong (RX13, (some (vI out.1)), out.2, (some .boolean), 1, 21, 3, []) (P0 []) s 0 [(0, vO 54), (1, vI x1), (2, vI x2)] []
  refine v_aload_n dX13_wrong_0 0 rfl rfl ?_
  refine v_iload_n dX13_wrong_1 1 rfl rfl ?_
  obtain ⟨s1, e2, h⟩ := stp_some h
  refine v_putI (f := 6) cf13 oc54 rfl (by decide) q776 dX13_wrong_2 rfl rfl ?_
  rw [← e2]
  refine v_aload_n dX13_wrong_5 0 rfl rfl ?_
  refine v_aload_n dX13_wrong_6 0 rfl rfl ?_
  obtain ⟨g3, h⟩ := gd_some h
  refine v_getR (f := 5) cf13 oc54 rfl (by rw [g3]; decide) (by decide) q775 dX13_wrong_7 ?_
  rw [g3]
  refine v_iload_n dX13_wrong_10 2 rfl rfl ?_
  obtain ⟨r7, s4, e5, h⟩ := bd_some h
  have k6 := c_X12_start e5 rx2
  have r8 : rg r7 := k6.1.2.2
  refine v_callV (st := [vO 54]) cf12 oc44 k6 (lw_V q2162 q2163 q2164 q309 q2165) rfl yk_X12_start ⟨Nat.le_of_ble_eq_true rfl, Nat.le_of_ble_eq_true rfl⟩ ⟨kc54, trivial⟩ ⟨kc54, trivial⟩ (Nat.le_of_ble_eq_true rfl) rfl dX13_wrong_11 ?_
  obtain ⟨s9, e10, h⟩ := stp_some h
  refine v_putI (f := 7) cf13 oc54 rfl (by decide) q777 dX13_wrong_14 rfl rfl ?_
  rw [← e10]
  refine v_iconst dX13_wrong_17 ?_
  cases h
  exact v_zret (Or.inl rfl) dX13_wrong_18

def f_X13_kind (x1 : Int) (s : vS) : Option (Int × vS) :=
  gd (inb x1 (gN s 61)) <|
  bd (f_X6_base (gE s 61 x1) s) fun r5 s2 =>
  bd (f_X4_kind r5 s2) fun r10 s7 =>
  some (r10, s7)
theorem yk_X13_kind : yOk yX13_kind 1 := ⟨by decide, by decide, by decide +kernel⟩
theorem c_X13_kind {x1 : Int} {s : vS} {out : Int × vS} (h : f_X13_kind x1 s = some out)  (rx1 : rg x1) : VC yX13_kind cX13_kind 2 (some .int) 7 161 [vO 54, vI x1] s (some (vI out.1)) out.2 [] := by
  unfold f_X13_kind at h
  refine VC.of RX13 (by decide) rfl (Nat.le_of_ble_eq_true rfl) ?_
  show VW cX13_kind (RX13, (some (vI out.1)), out.2, (some .int), 7, 161, 2, []) (P0 []) s 0 [(0, vO 54), (1, vI x1)] []
  refine v_aload_n dX13_kind_0 0 rfl rfl ?_
  refine v_getS (f := 0) (t := 10) cf13 oc54 rfl rfl rfl (by decide) q770 dX13_kind_1 ?_
  refine v_aload_n dX13_kind_4 0 rfl rfl ?_
  refine v_getS (f := 1) (t := 13) cf13 oc54 rfl rfl rfl (by decide) q771 dX13_kind_5 ?_
  refine v_aload_n dX13_kind_8 0 rfl rfl ?_
  refine v_getS (f := 8) (t := 61) cf13 oc54 rfl rfl rfl (by decide) q778 dX13_kind_9 ?_
  refine v_iload_n dX13_kind_12 1 rfl rfl ?_
  obtain ⟨g1, h⟩ := gd_some h
  refine v_iald oc61 rx1 g1.1 g1.2 dX13_kind_13 ?_
  obtain ⟨r5, s2, e3, h⟩ := bd_some h
  have k4 := c_X6_base e3 (gE_rg _ _ _)
  have r6 : rg r5 := k4.1.2.2
  refine v_callVN (st := [vO 10]) cf6 oc13 k4 q1591 q2155 q1590 qs60 q303 yk_X6_base ⟨Nat.le_of_ble_eq_true rfl, Nat.le_of_ble_eq_true rfl⟩ ⟨kc10, trivial⟩ ⟨kc54, trivial⟩ (Nat.le_of_ble_eq_true rfl) rfl dX13_kind_14 ?_
  obtain ⟨r10, s7, e8, h⟩ := bd_some h
  have k9 := c_X4_kind e8 r6
  have r11 : rg r10 := k9.1.2.2
  refine v_callV (st := []) cf4 oc10 k9 (lw_V q2174 q1446 q1447 q301 q1448) rfl yk_X4_kind ⟨Nat.le_of_ble_eq_true rfl, Nat.le_of_ble_eq_true rfl⟩ trivial ⟨kc54, trivial⟩ (Nat.le_of_ble_eq_true rfl) rfl dX13_kind_17 ?_
  cases h
  exact v_iret r11 dX13_kind_20

def f_X13_isAround (x1 : Int) (s : vS) : Option (Int × vS) :=
  gd (inb x1 (gN s 62)) <|
  gd (inb x1 (gN s 61)) <|
  bd (f_X6_tagCount (gE s 61 x1) s) fun r6 s3 =>
  if (w32 ((gE s 62 x1) + 1)) < r6 then
    some (1, s3)
  else
    bd (f_X13_kind x1 s3) fun r12 s9 =>
    if r12 = 16 then
      some (1, s9)
    else
      some (0, s9)
theorem yk_X13_isAround : yOk yX13_isAround 1 := ⟨by decide, by decide, by decide +kernel⟩
theorem c_X13_isAround {x1 : Int} {s : vS} {out : Int × vS} (h : f_X13_isAround x1 s = some out)  (rx1 : rg x1) : VC yX13_isAround cX13_isAround 2 (some .boolean) 8 182 [vO 54, vI x1] s (some (vI out.1)) out.2 [] := by
  unfold f_X13_isAround at h
  refine VC.of RX13 (by decide) rfl (Nat.le_of_ble_eq_true rfl) ?_
  show VW cX13_isAround (RX13, (some (vI out.1)), out.2, (some .boolean), 8, 182, 2, []) (P0 []) s 0 [(0, vO 54), (1, vI x1)] []
  refine v_aload_n dX13_isAround_0 0 rfl rfl ?_
  refine v_getS (f := 9) (t := 62) cf13 oc54 rfl rfl rfl (by decide) q779 dX13_isAround_1 ?_
  refine v_iload_n dX13_isAround_4 1 rfl rfl ?_
  obtain ⟨g1, h⟩ := gd_some h
  refine v_iald oc62 rx1 g1.1 g1.2 dX13_isAround_5 ?_
  refine v_iconst dX13_isAround_6 ?_
  refine v_iadd dX13_isAround_7 ?_
  refine v_aload_n dX13_isAround_8 0 rfl rfl ?_
  refine v_getS (f := 1) (t := 13) cf13 oc54 rfl rfl rfl (by decide) q771 dX13_isAround_9 ?_
  refine v_aload_n dX13_isAround_12 0 rfl rfl ?_
  refine v_getS (f := 8) (t := 61) cf13 oc54 rfl rfl rfl (by decide) q778 dX13_isAround_13 ?_
  refine v_iload_n dX13_isAround_16 1 rfl rfl ?_
  obtain ⟨g2, h⟩ := gd_some h
  refine v_iald oc61 rx1 g2.1 g2.2 dX13_isAround_17 ?_
  obtain ⟨r6, s3, e4, h⟩ := bd_some h
  have k5 := c_X6_tagCount e4 (gE_rg _ _ _)
  have r7 : rg r6 := k5.1.2.2
  refine v_callV (st := [vI (w32 ((gE s 62 x1) + 1))]) cf6 oc13 k5 (lw_V q2153 q2016 q2017 q303 q2018) rfl yk_X6_tagCount ⟨Nat.le_of_ble_eq_true rfl, Nat.le_of_ble_eq_true rfl⟩ trivial ⟨kc54, trivial⟩ (Nat.le_of_ble_eq_true rfl) rfl dX13_isAround_18 ?_
  refine v_icmp_lt (tgt := 34) dX13_isAround_21 (w32_rg _) r7 (by decide) (fun c8 => ?_) (fun c8 => ?_)
  · rw [if_pos c8] at h
    refine v_iconst dX13_isAround_34 ?_
    refine v_goto (tgt := 39) dX13_isAround_35 (by decide) ?_
    cases h
    exact v_zret (Or.inr rfl) dX13_isAround_39
  · rw [if_neg c8] at h
    refine v_aload_n dX13_isAround_24 0 rfl rfl ?_
    refine v_iload_n dX13_isAround_25 1 rfl rfl ?_
    obtain ⟨r12, s9, e10, h⟩ := bd_some h
    have k11 := c_X13_kind e10 rx1
    have r13 : rg r12 := k11.1.2.2
    refine v_callV (st := []) cf13 oc54 k11 (lw_V q2170 q2172 qs130 q310 q2173) rfl yk_X13_kind ⟨Nat.le_of_ble_eq_true rfl, Nat.le_of_ble_eq_true rfl⟩ trivial ⟨kc54, trivial⟩ (Nat.le_of_ble_eq_true rfl) rfl dX13_isAround_26 ?_
    refine v_bipush dX13_isAround_29 rfl ?_
    refine v_icmp_ne (tgt := 38) dX13_isAround_31 r13 (rgl rfl) (by decide) (fun c14 => ?_) (fun c14 => ?_)
    · rw [if_neg c14] at h
      refine v_iconst dX13_isAround_38 ?_
      cases h
      exact v_zret (Or.inl rfl) dX13_isAround_39
    · rw [if_pos c14] at h
      refine v_iconst dX13_isAround_34 ?_
      refine v_goto (tgt := 39) dX13_isAround_35 (by decide) ?_
      cases h
      exact v_zret (Or.inr rfl) dX13_isAround_39

def f_X13_isMany (x1 : Int) (s : vS) : Option (Int × vS) :=
  if x1 < 12 then
    some (0, s)
  else
    if 15 < x1 then
      some (0, s)
    else
      some (1, s)
theorem yk_X13_isMany : yOk yX13_isMany 1 := ⟨by decide, by decide, by decide +kernel⟩
theorem c_X13_isMany {x1 : Int} {s : vS} {out : Int × vS} (h : f_X13_isMany x1 s = some out)  (rx1 : rg x1) : VC yX13_isMany cX13_isMany 2 (some .boolean) 0 0 [vO 54, vI x1] s (some (vI out.1)) out.2 [] := by
  unfold f_X13_isMany at h
  refine VC.of RX13 (by decide) rfl (Nat.le_of_ble_eq_true rfl) ?_
  show VW cX13_isMany (RX13, (some (vI out.1)), out.2, (some .boolean), 0, 0, 2, []) (P0 []) s 0 [(0, vO 54), (1, vI x1)] []
  refine v_iload_n dX13_isMany_0 1 rfl rfl ?_
  refine v_bipush dX13_isMany_1 rfl ?_
  refine v_icmp_lt (tgt := 16) dX13_isMany_3 rx1 (rgl rfl) (by decide) (fun c1 => ?_) (fun c1 => ?_)
  · rw [if_pos c1] at h
    refine v_iconst dX13_isMany_16 ?_
    cases h
    exact v_zret (Or.inl rfl) dX13_isMany_17
  · rw [if_neg c1] at h
    refine v_iload_n dX13_isMany_6 1 rfl rfl ?_
    refine v_bipush dX13_isMany_7 rfl ?_
    refine v_icmp_gt (tgt := 16) dX13_isMany_9 rx1 (rgl rfl) (by decide) (fun c2 => ?_) (fun c2 => ?_)
    · rw [if_pos c2] at h
      refine v_iconst dX13_isMany_16 ?_
      cases h
      exact v_zret (Or.inl rfl) dX13_isMany_17
    · rw [if_neg c2] at h
      refine v_iconst dX13_isMany_12 ?_
      refine v_goto (tgt := 17) dX13_isMany_13 (by decide) ?_
      cases h
      exact v_zret (Or.inr rfl) dX13_isMany_17

def f_X12_hasParts (x1 : Int) (s : vS) : Option (Int × vS) :=
  gd (inb x1 (gN s 50)) <|
  gd ((gZ s 50 x1) = 0 ∨ (gZ s 50 x1) = 1) <|
  some (gZ s 50 x1, s)
theorem yk_X12_hasParts : yOk yX12_hasParts 1 := ⟨by decide, by decide, by decide +kernel⟩
theorem c_X12_hasParts {x1 : Int} {s : vS} {out : Int × vS} (h : f_X12_hasParts x1 s = some out)  (rx1 : rg x1) : VC yX12_hasParts cX12_hasParts 2 (some .boolean) 0 0 [vO 44, vI x1] s (some (vI out.1)) out.2 [] := by
  unfold f_X12_hasParts at h
  refine VC.of RX12 (by decide) rfl (Nat.le_of_ble_eq_true rfl) ?_
  show VW cX12_hasParts (RX12, (some (vI out.1)), out.2, (some .boolean), 0, 0, 2, []) (P0 []) s 0 [(0, vO 44), (1, vI x1)] []
  refine v_aload_n dX12_hasParts_0 0 rfl rfl ?_
  refine v_getS (f := 9) (t := 50) cf12 oc44 rfl rfl rfl (by decide) q718 dX12_hasParts_1 ?_
  refine v_iload_n dX12_hasParts_4 1 rfl rfl ?_
  obtain ⟨g1, h⟩ := gd_some h
  refine v_zald oc50 rx1 g1.1 g1.2 dX12_hasParts_5 ?_
  obtain ⟨g2, h⟩ := gd_some h
  cases h
  exact v_zret g2 dX12_hasParts_6

def f_X12_from (x1 : Int) (s : vS) : Option (Int × vS) :=
  gd (inb x1 (gN s 47)) <|
  some (gE s 47 x1, s)
theorem yk_X12_from : yOk yX12_from 1 := ⟨by decide, by decide, by decide +kernel⟩
theorem c_X12_from {x1 : Int} {s : vS} {out : Int × vS} (h : f_X12_from x1 s = some out)  (rx1 : rg x1) : VC yX12_from cX12_from 2 (some .int) 0 0 [vO 44, vI x1] s (some (vI out.1)) out.2 [] := by
  unfold f_X12_from at h
  refine VC.of RX12 (by decide) rfl (Nat.le_of_ble_eq_true rfl) ?_
  show VW cX12_from (RX12, (some (vI out.1)), out.2, (some .int), 0, 0, 2, []) (P0 []) s 0 [(0, vO 44), (1, vI x1)] []
  refine v_aload_n dX12_from_0 0 rfl rfl ?_
  refine v_getS (f := 6) (t := 47) cf12 oc44 rfl rfl rfl (by decide) q715 dX12_from_1 ?_
  refine v_iload_n dX12_from_4 1 rfl rfl ?_
  obtain ⟨g1, h⟩ := gd_some h
  refine v_iald oc47 rx1 g1.1 g1.2 dX12_from_5 ?_
  cases h
  exact v_iret (gE_rg _ _ _) dX12_from_6

def f_X12_to (x1 : Int) (s : vS) : Option (Int × vS) :=
  gd (inb x1 (gN s 48)) <|
  some (gE s 48 x1, s)
theorem yk_X12_to : yOk yX12_to 1 := ⟨by decide, by decide, by decide +kernel⟩
theorem c_X12_to {x1 : Int} {s : vS} {out : Int × vS} (h : f_X12_to x1 s = some out)  (rx1 : rg x1) : VC yX12_to cX12_to 2 (some .int) 0 0 [vO 44, vI x1] s (some (vI out.1)) out.2 [] := by
  unfold f_X12_to at h
  refine VC.of RX12 (by decide) rfl (Nat.le_of_ble_eq_true rfl) ?_
  show VW cX12_to (RX12, (some (vI out.1)), out.2, (some .int), 0, 0, 2, []) (P0 []) s 0 [(0, vO 44), (1, vI x1)] []
  refine v_aload_n dX12_to_0 0 rfl rfl ?_
  refine v_getS (f := 7) (t := 48) cf12 oc44 rfl rfl rfl (by decide) q716 dX12_to_1 ?_
  refine v_iload_n dX12_to_4 1 rfl rfl ?_
  obtain ⟨g1, h⟩ := gd_some h
  refine v_iald oc48 rx1 g1.1 g1.2 dX12_to_5 ?_
  cases h
  exact v_iret (gE_rg _ _ _) dX12_to_6

def f_X7_isShort (p0 : Nat) (x1 : Int) (x2 : Int) (s : vS) : Option (Int × vS) :=
  if 2 ≤ (w32 (x2 - x1)) then
    bd (f_X2_at p0 x1 s) fun r5 s2 =>
    bd (f_X2_at p0 (w32 (x1 + 1)) s2) fun r10 s7 =>
    vl (or32 (shl32 r5 1) (shr32 r10 7)) fun y12 =>
    if y12 = 0 then
      some (0, s7)
    else
      if y12 = 511 then
        some (0, s7)
      else
        some (1, s7)
  else
    if x2 ≤ x1 then
      some (0, s)
    else
      some (1, s)
theorem yk_X7_isShort : yOk yX7_isShort 3 := ⟨by decide, by decide, by decide +kernel⟩
theorem c_X7_isShort {p0 : Nat} {x1 : Int} {x2 : Int} {s : vS} {out : Int × vS} (h : f_X7_isShort p0 x1 x2 s = some out) (hp0 : okB p0 1) (rx1 : rg x1) (rx2 : rg x2) : VC yX7_isShort cX7_isShort 4 (some .boolean) 1 21 [vO p0, vI x1, vI x2] s (some (vI out.1)) out.2 [] := by
  unfold f_X7_isShort at h
  refine VC.of RX7 (by decide) rfl (Nat.le_of_ble_eq_true rfl) ?_
  show VW cX7_isShort (RX7, (some (vI out.1)), out.2, (some .boolean), 1, 21, 4, []) (P0 []) s 0 [(0, vO p0), (1, vI x1), (2, vI x2)] []
  refine v_iload_n dX7_isShort_0 2 rfl rfl ?_
  refine v_iload_n dX7_isShort_1 1 rfl rfl ?_
  refine v_isub dX7_isShort_2 ?_
  refine v_iconst dX7_isShort_3 ?_
  refine v_icmp_ge (tgt := 18) dX7_isShort_4 (w32_rg _) (rgl rfl) (by decide) (fun c1 => ?_) (fun c1 => ?_)
  · rw [if_pos c1] at h
    refine v_aload_n dX7_isShort_18 0 rfl rfl ?_
    refine v_iload_n dX7_isShort_19 1 rfl rfl ?_
    obtain ⟨r5, s2, e3, h⟩ := bd_some h
    have k4 := c_X2_at e3 hp0 rx1
    have r6 : rg r5 := k4.1.2.2
    refine v_callV (st := []) cf2 (okB_ok hp0) k4 (lw_V q1512 q1072 q1073 q299 q1074) rfl yk_X2_at ⟨Nat.le_of_ble_eq_true rfl, Nat.le_of_ble_eq_true rfl⟩ trivial ⟨(okB_kp hp0 (by decide)), trivial⟩ (Nat.le_of_ble_eq_true rfl) rfl dX7_isShort_20 ?_
    refine v_iconst dX7_isShort_23 ?_
    refine v_ishl dX7_isShort_24 ?_
    refine v_aload_n dX7_isShort_25 0 rfl rfl ?_
    refine v_iload_n dX7_isShort_26 1 rfl rfl ?_
    refine v_iconst dX7_isShort_27 ?_
    refine v_iadd dX7_isShort_28 ?_
    obtain ⟨r10, s7, e8, h⟩ := bd_some h
    have k9 := c_X2_at e8 hp0 (w32_rg _)
    have r11 : rg r10 := k9.1.2.2
    refine v_callV (st := [vI (shl32 r5 1)]) cf2 (okB_ok hp0) k9 (lw_V q1512 q1072 q1073 q299 q1074) rfl yk_X2_at ⟨Nat.le_of_ble_eq_true rfl, Nat.le_of_ble_eq_true rfl⟩ trivial ⟨(okB_kp hp0 (by decide)), trivial⟩ (Nat.le_of_ble_eq_true rfl) rfl dX7_isShort_29 ?_
    refine v_bipush dX7_isShort_32 rfl ?_
    refine v_ishr dX7_isShort_34 ?_
    refine v_ior dX7_isShort_35 ?_
    obtain ⟨y12, e13, h⟩ := vl_some h
    rw [← e13]
    have r14 : rg y12 := by rw [e13]; exact or32_rg _ _
    refine v_istore_n (L1 := [(3, vI y12), (0, vO p0), (1, vI x1), (2, vI x2)]) dX7_isShort_36 rfl (by decide) rfl ?_
    refine v_iload_n dX7_isShort_37 0 rfl rfl ?_
    refine v_if_eq (tgt := 52) dX7_isShort_38 r14 (by decide) (fun c15 => ?_) (fun c15 => ?_)
    · rw [if_pos c15] at h
      refine v_iconst dX7_isShort_52 ?_
      cases h
      exact v_zret (Or.inl rfl) dX7_isShort_53
    · rw [if_neg c15] at h
      refine v_iload_n dX7_isShort_41 0 rfl rfl ?_
      refine v_sipush dX7_isShort_42 rfl ?_
      refine v_icmp_eq (tgt := 52) dX7_isShort_45 r14 (rgl rfl) (by decide) (fun c16 => ?_) (fun c16 => ?_)
      · rw [if_pos c16] at h
        refine v_iconst dX7_isShort_52 ?_
        cases h
        exact v_zret (Or.inl rfl) dX7_isShort_53
      · rw [if_neg c16] at h
        refine v_iconst dX7_isShort_48 ?_
        refine v_goto (tgt := 53) dX7_isShort_49 (by decide) ?_
        cases h
        exact v_zret (Or.inr rfl) dX7_isShort_53
  · rw [if_neg c1] at h
    refine v_iload_n dX7_isShort_7 2 rfl rfl ?_
    refine v_iload_n dX7_isShort_8 1 rfl rfl ?_
    refine v_icmp_le (tgt := 16) dX7_isShort_9 rx2 rx1 (by decide) (fun c17 => ?_) (fun c17 => ?_)
    · rw [if_pos c17] at h
      refine v_iconst dX7_isShort_16 ?_
      cases h
      exact v_zret (Or.inl rfl) dX7_isShort_17
    · rw [if_neg c17] at h
      refine v_iconst dX7_isShort_12 ?_
      refine v_goto (tgt := 17) dX7_isShort_13 (by decide) ?_
      cases h
      exact v_zret (Or.inr rfl) dX7_isShort_17

def E_X11_isOid_5 (p0 : Nat) (x1 : Int) (x2 : Int) (rv : Option vA) (σo : vS) (q : (Int × vS) ⊕ (Int × vS)) : Prop := (∀ (x3' : Int) (s' : vS), q = .inl (x3', s') → rg x3' → VW cX11_isOid (RX11, rv, σo, (some .boolean), 1, 21, 5, []) (P0 []) s' 53 [(1, vI x1), (2, vI x2), (3, vI x3')] []) ∧ (∀ (v : Int) (s' : vS), q = .inr (v, s') → rv = some (vI v) ∧ σo = s')
def j_X11_isOid_29 (p0 : Nat) (rec : Int → Int → Int → Int → vS → Option ((Int × vS) ⊕ (Int × vS))) (x1 : Int) (x2 : Int) (x4 : Int) (s : vS) : Option ((Int × vS) ⊕ (Int × vS)) :=
  bd (f_X2_at p0 x4 s) fun r4 s1 =>
  if 128 ≤ r4 then
    vl (w32 (x4 + 1)) fun y7 =>
    rec x1 x2 0 y7 s1
  else
    vl (w32 (x4 + 1)) fun y10 =>
    rec x1 x2 1 y10 s1
theorem wj_X11_isOid_29 {p0 : Nat} {x1 : Int} {x2 : Int} {x4 : Int} {s : vS} {rv : Option vA} {σo : vS} {rec : Int → Int → Int → Int → vS → Option ((Int × vS) ⊕ (Int × vS))} {q : (Int × vS) ⊕ (Int × vS)} (h : j_X11_isOid_29 p0 rec x1 x2 x4 s = some q) (hp0 : okB p0 1) (rx1 : rg x1) (rx2 : rg x2) (rx4 : rg x4) (hrec : ∀ (y3 : Int) (y4 : Int) (s : vS) (q : (Int × vS) ⊕ (Int × vS)), rec x1 x2 y3 y4 s = some q → rg y3 → rg y4 → E_X11_isOid_5 p0 x1 x2 rv σo q → VW cX11_isOid (RX11, rv, σo, (some .boolean), 1, 21, 5, []) (P0 []) s 5 [(0, vO p0), (1, vI x1), (2, vI x2), (3, vI y3), (4, vI y4)] []) (hE : E_X11_isOid_5 p0 x1 x2 rv σo q) : VW cX11_isOid (RX11, rv, σo, (some .boolean), 1, 21, 5, []) (P0 []) s 29 [(0, vO p0), (1, vI x1), (2, vI x2), (4, vI x4)] [] := by
  unfold j_X11_isOid_29 at h
  refine v_aload_n dX11_isOid_29 0 rfl rfl ?_
  refine v_iload dX11_isOid_30 3 rfl ?_
  obtain ⟨r4, s1, e2, h⟩ := bd_some h
  have k3 := c_X2_at e2 hp0 rx4
  have r5 : rg r4 := k3.1.2.2
  refine v_callV (st := []) cf2 (okB_ok hp0) k3 (lw_V q1747 q1072 q1073 q299 q1074) rfl yk_X2_at ⟨Nat.le_of_ble_eq_true rfl, Nat.le_of_ble_eq_true rfl⟩ trivial ⟨(okB_kp hp0 (by decide)), trivial⟩ (Nat.le_of_ble_eq_true rfl) rfl dX11_isOid_32 ?_
  refine v_sipush dX11_isOid_35 rfl ?_
  refine v_icmp_ge (tgt := 45) dX11_isOid_38 r5 (rgl rfl) (by decide) (fun c6 => ?_) (fun c6 => ?_)
  · rw [if_pos c6] at h
    refine v_iconst dX11_isOid_45 ?_
    refine v_istore_n (L1 := [(3, vI 0), (0, vO p0), (1, vI x1), (2, vI x2), (4, vI x4)]) dX11_isOid_46 rfl (by decide) rfl ?_
    obtain ⟨y7, e8, h⟩ := vl_some h
    refine v_iinc (L1 := [(4, vI (w32 (x4 + 1))), (3, vI 0), (0, vO p0), (1, vI x1), (2, vI x2)]) dX11_isOid_47 4 rfl (by decide) rfl ?_
    rw [← e8]
    have r9 : rg y7 := by rw [e8]; exact w32_rg _
    refine v_goto (tgt := 5) dX11_isOid_50 (by decide) ?_
    refine v_sub [2, 3, 4, 1, 0] (L1 := [(0, vO p0), (1, vI x1), (2, vI x2), (3, vI 0), (4, vI y7)]) rfl ?_
    exact hrec 0 y7 s1 _ h (rgl rfl) r9 hE
  · rw [if_neg c6] at h
    refine v_iconst dX11_isOid_41 ?_
    refine v_goto (tgt := 46) dX11_isOid_42 (by decide) ?_
    refine v_istore_n (L1 := [(3, vI 1), (0, vO p0), (1, vI x1), (2, vI x2), (4, vI x4)]) dX11_isOid_46 rfl (by decide) rfl ?_
    obtain ⟨y10, e11, h⟩ := vl_some h
    refine v_iinc (L1 := [(4, vI (w32 (x4 + 1))), (3, vI 1), (0, vO p0), (1, vI x1), (2, vI x2)]) dX11_isOid_47 4 rfl (by decide) rfl ?_
    rw [← e11]
    have r12 : rg y10 := by rw [e11]; exact w32_rg _
    refine v_goto (tgt := 5) dX11_isOid_50 (by decide) ?_
    refine v_sub [2, 3, 4, 1, 0] (L1 := [(0, vO p0), (1, vI x1), (2, vI x2), (3, vI 1), (4, vI y10)]) rfl ?_
    exact hrec 1 y10 s1 _ h (rgl rfl) r12 hE

def l_X11_isOid_5 (p0 : Nat) : Nat → Int → Int → Int → Int → vS → Option ((Int × vS) ⊕ (Int × vS))
  | 0, _, _, _, _, _ => none
  | n + 1, x1, x2, x3, x4, s =>
    if x2 ≤ x4 then
      some (.inl (x3, s))
    else
      if x3 = 0 then
        j_X11_isOid_29 p0 (l_X11_isOid_5 p0 n) x1 x2 x4 s
      else
        bd (f_X2_at p0 x4 s) fun r6 s3 =>
        if r6 = 128 then
          some (.inr (0, s3))
        else
          j_X11_isOid_29 p0 (l_X11_isOid_5 p0 n) x1 x2 x4 s3
theorem wl_X11_isOid_5 (p0 : Nat) {x1 : Int} {x2 : Int} {rv : Option vA} {σo : vS} (hp0 : okB p0 1) (rx1 : rg x1) (rx2 : rg x2) : ∀ (n : Nat) (x3 : Int) (x4 : Int) (s : vS) (q : (Int × vS) ⊕ (Int × vS)), l_X11_isOid_5 p0 n x1 x2 x3 x4 s = some q → rg x3 → rg x4 → E_X11_isOid_5 p0 x1 x2 rv σo q → VW cX11_isOid (RX11, rv, σo, (some .boolean), 1, 21, 5, []) (P0 []) s 5 [(0, vO p0), (1, vI x1), (2, vI x2), (3, vI x3), (4, vI x4)] [] := by
  intro n
  induction n with
  | zero => intro x3 x4 s q h; cases h
  | succ n ih =>
    intro x3 x4 s q h rx3 rx4 hE
    unfold l_X11_isOid_5 at h
    refine v_iload dX11_isOid_5 4 rfl ?_
    refine v_iload_n dX11_isOid_7 2 rfl rfl ?_
    refine v_icmp_ge (tgt := 53) dX11_isOid_8 rx4 rx2 (by decide) (fun c1 => ?_) (fun c1 => ?_)
    · rw [if_pos c1] at h
      cases h
      refine v_sub [1, 2, 3] (L1 := [(1, vI x1), (2, vI x2), (3, vI x3)]) rfl ?_
      exact hE.1 _ _ rfl rx3
    · rw [if_neg c1] at h
      refine v_iload_n dX11_isOid_11 3 rfl rfl ?_
      refine v_if_eq (tgt := 29) dX11_isOid_12 rx3 (by decide) (fun c2 => ?_) (fun c2 => ?_)
      · rw [if_pos c2] at h
        refine v_sub [0, 1, 2, 4] (L1 := [(0, vO p0), (1, vI x1), (2, vI x2), (4, vI x4)]) rfl ?_
        exact wj_X11_isOid_29 h hp0 rx1 rx2 rx4 ih hE
      · rw [if_neg c2] at h
        refine v_aload_n dX11_isOid_15 0 rfl rfl ?_
        refine v_iload dX11_isOid_16 4 rfl ?_
        obtain ⟨r6, s3, e4, h⟩ := bd_some h
        have k5 := c_X2_at e4 hp0 rx4
        have r7 : rg r6 := k5.1.2.2
        refine v_callV (st := []) cf2 (okB_ok hp0) k5 (lw_V q1747 q1072 q1073 q299 q1074) rfl yk_X2_at ⟨Nat.le_of_ble_eq_true rfl, Nat.le_of_ble_eq_true rfl⟩ trivial ⟨(okB_kp hp0 (by decide)), trivial⟩ (Nat.le_of_ble_eq_true rfl) rfl dX11_isOid_18 ?_
        refine v_sipush dX11_isOid_21 rfl ?_
        refine v_icmp_ne (tgt := 29) dX11_isOid_24 r7 (rgl rfl) (by decide) (fun c8 => ?_) (fun c8 => ?_)
        · rw [if_neg c8] at h
          refine v_sub [0, 1, 2, 4] (L1 := [(0, vO p0), (1, vI x1), (2, vI x2), (4, vI x4)]) rfl ?_
          exact wj_X11_isOid_29 h hp0 rx1 rx2 rx4 ih hE
        · rw [if_pos c8] at h
          refine v_iconst dX11_isOid_27 ?_
          cases h
          obtain ⟨z1, z2⟩ := hE.2 _ _ rfl
          subst z1
          subst z2
          exact v_zret (Or.inl rfl) dX11_isOid_28

def f_X11_isOid (p0 : Nat) (x1 : Int) (x2 : Int) (s : vS) : Option (Int × vS) :=
  lqs_1 (l_X11_isOid_5 p0 FU x1 x2 1 x1 s) (fun y1 s2 =>
    if x2 ≤ x1 then
      some (0, s2)
    else
      if y1 = 0 then
        some (0, s2)
      else
        some (1, s2))
    (fun q => some q)
theorem yk_X11_isOid : yOk yX11_isOid 3 := ⟨by decide, by decide, by decide +kernel⟩
theorem c_X11_isOid {p0 : Nat} {x1 : Int} {x2 : Int} {s : vS} {out : Int × vS} (h : f_X11_isOid p0 x1 x2 s = some out) (hp0 : okB p0 1) (rx1 : rg x1) (rx2 : rg x2) : VC yX11_isOid cX11_isOid 5 (some .boolean) 1 21 [vO p0, vI x1, vI x2] s (some (vI out.1)) out.2 [] := by
  unfold f_X11_isOid at h
  refine VC.of RX11 (by decide) rfl (Nat.le_of_ble_eq_true rfl) ?_
  show VW cX11_isOid (RX11, (some (vI out.1)), out.2, (some .boolean), 1, 21, 5, []) (P0 []) s 0 [(0, vO p0), (1, vI x1), (2, vI x2)] []
  refine v_iconst dX11_isOid_0 ?_
  refine v_istore_n (L1 := [(3, vI 1), (0, vO p0), (1, vI x1), (2, vI x2)]) dX11_isOid_1 rfl (by decide) rfl ?_
  refine v_iload_n dX11_isOid_2 2 rfl rfl ?_
  refine v_istore (L1 := [(4, vI x1), (3, vI 1), (0, vO p0), (1, vI x1), (2, vI x2)]) dX11_isOid_3 (by decide) rfl ?_
  refine v_sub [2, 3, 4, 1, 0] (L1 := [(0, vO p0), (1, vI x1), (2, vI x2), (3, vI 1), (4, vI x1)]) rfl ?_
  rcases lqs_1_some h with ⟨y1, s2, e3, h⟩ | ⟨q9, e3, h⟩
  · refine wl_X11_isOid_5 p0 hp0 rx1 rx2 FU 1 x1 s _ e3 (rgl rfl) rx1 ?_
    unfold E_X11_isOid_5
    refine ⟨?_, fun v9 s9 z_ => (by cases z_)⟩
    intro y1' s2' z_ r4
    cases z_
    refine v_iload_n dX11_isOid_53 1 rfl rfl ?_
    refine v_iload_n dX11_isOid_54 0 rfl rfl ?_
    refine v_icmp_le (tgt := 66) dX11_isOid_55 rx2 rx1 (by decide) (fun c5 => ?_) (fun c5 => ?_)
    · rw [if_pos c5] at h
      refine v_iconst dX11_isOid_66 ?_
      cases h
      exact v_zret (Or.inl rfl) dX11_isOid_67
    · rw [if_neg c5] at h
      refine v_iload_n dX11_isOid_58 2 rfl rfl ?_
      refine v_if_eq (tgt := 66) dX11_isOid_59 r4 (by decide) (fun c6 => ?_) (fun c6 => ?_)
      · rw [if_pos c6] at h
        refine v_iconst dX11_isOid_66 ?_
        cases h
        exact v_zret (Or.inl rfl) dX11_isOid_67
      · rw [if_neg c6] at h
        refine v_iconst dX11_isOid_62 ?_
        refine v_goto (tgt := 67) dX11_isOid_63 (by decide) ?_
        cases h
        exact v_zret (Or.inr rfl) dX11_isOid_67
  · cases h
    refine wl_X11_isOid_5 p0 hp0 rx1 rx2 FU 1 x1 s _ e3 (rgl rfl) rx1 ?_
    unfold E_X11_isOid_5
    refine ⟨fun _ _ z_ => (by cases z_), ?_⟩
    intro v9 s9 z_
    cases z_
    exact ⟨rfl, rfl⟩

def j_X11_fault_79 (p1 : Nat) (x4 : Int) (s : vS) : Option (Int × vS) :=
  if x4 = 0 then
    some (16, s)
  else
    some (0, s)
theorem wj_X11_fault_79 {p1 : Nat} {x4 : Int} {s : vS} {out : Int × vS} (h : j_X11_fault_79 p1 x4 s = some out) (hp1 : okB p1 1) (rx4 : rg x4) : VW cX11_fault (RX11, (some (vI out.1)), out.2, (some .int), 2, 45, 5, []) (P0 []) s 79 [(4, vI x4)] [] := by
  unfold j_X11_fault_79 at h
  refine v_iload dX11_fault_79 0 rfl ?_
  refine v_if_eq (tgt := 88) dX11_fault_81 rx4 (by decide) (fun c1 => ?_) (fun c1 => ?_)
  · rw [if_pos c1] at h
    refine v_bipush dX11_fault_88 rfl ?_
    cases h
    exact v_iret (rgl rfl) dX11_fault_90
  · rw [if_neg c1] at h
    refine v_iconst dX11_fault_84 ?_
    refine v_goto (tgt := 90) dX11_fault_85 (by decide) ?_
    cases h
    exact v_iret (rgl rfl) dX11_fault_90

def j_X11_fault_54 (p1 : Nat) (x2 : Int) (x3 : Int) (s : vS) : Option (Int × vS) :=
  bd (f_X7_isShort p1 x2 x3 s) fun r4 s1 =>
  j_X11_fault_79 p1 r4 s1
theorem wj_X11_fault_54 {p1 : Nat} {x2 : Int} {x3 : Int} {s : vS} {out : Int × vS} (h : j_X11_fault_54 p1 x2 x3 s = some out) (hp1 : okB p1 1) (rx2 : rg x2) (rx3 : rg x3) : VW cX11_fault (RX11, (some (vI out.1)), out.2, (some .int), 2, 45, 5, []) (P0 []) s 54 [(1, vO p1), (2, vI x2), (3, vI x3)] [] := by
  unfold j_X11_fault_54 at h
  refine v_aload_n dX11_fault_54 0 rfl rfl ?_
  refine v_iload_n dX11_fault_55 1 rfl rfl ?_
  refine v_iload_n dX11_fault_56 2 rfl rfl ?_
  obtain ⟨r4, s1, e2, h⟩ := bd_some h
  have k3 := c_X7_isShort e2 hp1 rx2 rx3
  have r5 : rg r4 := k3.1.2.2
  refine v_callS (st := []) k3 (lw_S q2207 q2208 q304 q2209) yk_X7_isShort ⟨Nat.le_of_ble_eq_true rfl, Nat.le_of_ble_eq_true rfl⟩ trivial ⟨(okB_kp hp1 (by decide)), trivial⟩ (Nat.le_of_ble_eq_true rfl) rfl dX11_fault_57 ?_
  refine v_istore (L1 := [(4, vI r4), (1, vO p1), (2, vI x2), (3, vI x3)]) dX11_fault_60 (by decide) rfl ?_
  refine v_goto (tgt := 79) dX11_fault_62 (by decide) ?_
  refine v_sub [0] (L1 := [(4, vI r4)]) rfl ?_
  exact wj_X11_fault_79 h hp1 r5

def f_X11_fault (x0 : Int) (p1 : Nat) (x2 : Int) (x3 : Int) (s : vS) : Option (Int × vS) :=
  if x0 = 0 then
    if (w32 (x3 - x2)) = 1 then
      j_X11_fault_79 p1 1 s
    else
      j_X11_fault_79 p1 0 s
  else
    if x0 = 1 then
      if x3 = x2 then
        j_X11_fault_79 p1 1 s
      else
        j_X11_fault_79 p1 0 s
    else
      if x0 = 2 then
        j_X11_fault_54 p1 x2 x3 s
      else
        if x0 = 3 then
          j_X11_fault_54 p1 x2 x3 s
        else
          if x0 = 6 then
            bd (f_X11_isOid p1 x2 x3 s) fun r9 s6 =>
            j_X11_fault_79 p1 r9 s6
          else
            j_X11_fault_79 p1 1 s
theorem yk_X11_fault : yOk yX11_fault 4 := ⟨by decide, by decide, by decide +kernel⟩
theorem c_X11_fault {x0 : Int} {p1 : Nat} {x2 : Int} {x3 : Int} {s : vS} {out : Int × vS} (h : f_X11_fault x0 p1 x2 x3 s = some out) (hp1 : okB p1 1) (rx0 : rg x0) (rx2 : rg x2) (rx3 : rg x3) : VC yX11_fault cX11_fault 5 (some .int) 2 45 [vI x0, vO p1, vI x2, vI x3] s (some (vI out.1)) out.2 [] := by
  unfold f_X11_fault at h
  refine VC.of RX11 (by decide) rfl (Nat.le_of_ble_eq_true rfl) ?_
  show VW cX11_fault (RX11, (some (vI out.1)), out.2, (some .int), 2, 45, 5, []) (P0 []) s 0 [(0, vI x0), (1, vO p1), (2, vI x2), (3, vI x3)] []
  refine v_iconst dX11_fault_0 ?_
  refine v_istore (L1 := [(4, vI 1), (0, vI x0), (1, vO p1), (2, vI x2), (3, vI x3)]) dX11_fault_1 (by decide) rfl ?_
  refine v_iload_n dX11_fault_3 1 rfl rfl ?_
  refine v_if_ne (tgt := 24) dX11_fault_4 rx0 (by decide) (fun c1 => ?_) (fun c1 => ?_)
  · rw [if_neg c1] at h
    refine v_iload_n dX11_fault_24 1 rfl rfl ?_
    refine v_iconst dX11_fault_25 ?_
    refine v_icmp_ne (tgt := 44) dX11_fault_26 rx0 (rgl rfl) (by decide) (fun c2 => ?_) (fun c2 => ?_)
    · rw [if_neg c2] at h
      refine v_iload_n dX11_fault_44 1 rfl rfl ?_
      refine v_iconst dX11_fault_45 ?_
      refine v_icmp_eq (tgt := 54) dX11_fault_46 rx0 (rgl rfl) (by decide) (fun c3 => ?_) (fun c3 => ?_)
      · rw [if_pos c3] at h
        refine v_sub [2, 3, 4] (L1 := [(1, vO p1), (2, vI x2), (3, vI x3)]) rfl ?_
        exact wj_X11_fault_54 h hp1 rx2 rx3
      · rw [if_neg c3] at h
        refine v_iload_n dX11_fault_49 1 rfl rfl ?_
        refine v_iconst dX11_fault_50 ?_
        refine v_icmp_ne (tgt := 65) dX11_fault_51 rx0 (rgl rfl) (by decide) (fun c4 => ?_) (fun c4 => ?_)
        · rw [if_neg c4] at h
          refine v_iload_n dX11_fault_65 1 rfl rfl ?_
          refine v_bipush dX11_fault_66 rfl ?_
          refine v_icmp_ne (tgt := 79) dX11_fault_68 rx0 (rgl rfl) (by decide) (fun c5 => ?_) (fun c5 => ?_)
          · rw [if_neg c5] at h
            refine v_sub [0] (L1 := [(4, vI 1)]) rfl ?_
            exact wj_X11_fault_79 h hp1 (rgl rfl)
          · rw [if_pos c5] at h
            refine v_aload_n dX11_fault_71 2 rfl rfl ?_
            refine v_iload_n dX11_fault_72 3 rfl rfl ?_
            refine v_iload_n dX11_fault_73 4 rfl rfl ?_
            obtain ⟨r9, s6, e7, h⟩ := bd_some h
            have k8 := c_X11_isOid e7 hp1 rx2 rx3
            have r10 : rg r9 := k8.1.2.2
            refine v_callS (st := []) k8 (lw_S q2210 q2211 q308 q2212) yk_X11_isOid ⟨Nat.le_of_ble_eq_true rfl, Nat.le_of_ble_eq_true rfl⟩ trivial ⟨(okB_kp hp1 (by decide)), trivial⟩ (Nat.le_of_ble_eq_true rfl) rfl dX11_fault_74 ?_
            refine v_istore (L1 := [(4, vI r9), (0, vI x0), (1, vO p1), (2, vI x2), (3, vI x3)]) dX11_fault_77 (by decide) rfl ?_
            refine v_sub [0] (L1 := [(4, vI r9)]) rfl ?_
            exact wj_X11_fault_79 h hp1 r10
        · rw [if_pos c4] at h
          refine v_sub [2, 3, 4] (L1 := [(1, vO p1), (2, vI x2), (3, vI x3)]) rfl ?_
          exact wj_X11_fault_54 h hp1 rx2 rx3
    · rw [if_pos c2] at h
      refine v_iload_n dX11_fault_29 4 rfl rfl ?_
      refine v_iload_n dX11_fault_30 3 rfl rfl ?_
      refine v_icmp_ne (tgt := 38) dX11_fault_31 rx3 rx2 (by decide) (fun c11 => ?_) (fun c11 => ?_)
      · rw [if_neg c11] at h
        refine v_iconst dX11_fault_38 ?_
        refine v_istore (L1 := [(4, vI 0), (0, vI x0), (1, vO p1), (2, vI x2), (3, vI x3)]) dX11_fault_39 (by decide) rfl ?_
        refine v_goto (tgt := 79) dX11_fault_41 (by decide) ?_
        refine v_sub [0] (L1 := [(4, vI 0)]) rfl ?_
        exact wj_X11_fault_79 h hp1 (rgl rfl)
      · rw [if_pos c11] at h
        refine v_iconst dX11_fault_34 ?_
        refine v_goto (tgt := 39) dX11_fault_35 (by decide) ?_
        refine v_istore (L1 := [(4, vI 1), (0, vI x0), (1, vO p1), (2, vI x2), (3, vI x3)]) dX11_fault_39 (by decide) rfl ?_
        refine v_goto (tgt := 79) dX11_fault_41 (by decide) ?_
        refine v_sub [0] (L1 := [(4, vI 1)]) rfl ?_
        exact wj_X11_fault_79 h hp1 (rgl rfl)
  · rw [if_pos c1] at h
    refine v_iload_n dX11_fault_7 4 rfl rfl ?_
    refine v_iload_n dX11_fault_8 3 rfl rfl ?_
    refine v_isub dX11_fault_9 ?_
    refine v_iconst dX11_fault_10 ?_
    refine v_icmp_ne (tgt := 18) dX11_fault_11 (w32_rg _) (rgl rfl) (by decide) (fun c12 => ?_) (fun c12 => ?_)
    · rw [if_neg c12] at h
      refine v_iconst dX11_fault_18 ?_
      refine v_istore (L1 := [(4, vI 0), (0, vI x0), (1, vO p1), (2, vI x2), (3, vI x3)]) dX11_fault_19 (by decide) rfl ?_
      refine v_goto (tgt := 79) dX11_fault_21 (by decide) ?_
      refine v_sub [0] (L1 := [(4, vI 0)]) rfl ?_
      exact wj_X11_fault_79 h hp1 (rgl rfl)
    · rw [if_pos c12] at h
      refine v_iconst dX11_fault_14 ?_
      refine v_goto (tgt := 19) dX11_fault_15 (by decide) ?_
      refine v_istore (L1 := [(4, vI 1), (0, vI x0), (1, vO p1), (2, vI x2), (3, vI x3)]) dX11_fault_19 (by decide) rfl ?_
      refine v_goto (tgt := 79) dX11_fault_21 (by decide) ?_
      refine v_sub [0] (L1 := [(4, vI 1)]) rfl ?_
      exact wj_X11_fault_79 h hp1 (rgl rfl)

def j_X13_plain_154 (z1 : Int) (s : vS) : Option (vS) :=
  bdv (f_X2_add 73 z1 s) fun s1 =>
  some s1
theorem wj_X13_plain_154 {z1 : Int} {s : vS} {out : vS} (h : j_X13_plain_154 z1 s = some out)  (rz1 : rg z1) : VW cX13_plain (RX13, none, out, none, 7, 164, 7, []) (P0 []) s 154 [] [vI z1, vO 73] := by
  unfold j_X13_plain_154 at h
  obtain ⟨s1, e2, h⟩ := bdv_some h
  have k3 := c_X2_add e2 (⟨by decide, rfl⟩ : okB 73 1) rz1
  refine v_callV (st := []) cf2 oc73 k3 (lw_V q2216 q1003 q1004 q299 q1005) rfl yk_X2_add ⟨Nat.le_of_ble_eq_true rfl, Nat.le_of_ble_eq_true rfl⟩ trivial trivial (Nat.le_of_ble_eq_true rfl) rfl dX13_plain_154 ?_
  refine v_goto (tgt := 175) dX13_plain_157 (by decide) ?_
  cases h
  exact v_vret dX13_plain_175

def j_X13_plain_127 (x2 : Int) (x4 : Int) (x5 : Int) (s : vS) : Option (vS) :=
  if x2 = 0 then
    gd (okB (gR s 54 4) 1) <|
    bd (f_X2_at (gR s 54 4) x4 s) fun r10 s7 =>
    if r10 = 0 then
      j_X13_plain_154 0 s7
    else
      j_X13_plain_154 255 s7
  else
    gd (okB (gR s 54 4) 1) <|
    bdv (f_X2_all 73 (gR s 54 4) x4 x5 s) fun s3 =>
    some s3
theorem wj_X13_plain_127 {x2 : Int} {x4 : Int} {x5 : Int} {s : vS} {out : vS} (h : j_X13_plain_127 x2 x4 x5 s = some out)  (rx2 : rg x2) (rx4 : rg x4) (rx5 : rg x5) : VW cX13_plain (RX13, none, out, none, 7, 164, 7, []) (P0 []) s 127 [(0, vO 54), (2, vI x2), (4, vI x4), (5, vI x5)] [] := by
  unfold j_X13_plain_127 at h
  refine v_iload_n dX13_plain_127 1 rfl rfl ?_
  refine v_if_ne (tgt := 160) dX13_plain_128 rx2 (by decide) (fun c1 => ?_) (fun c1 => ?_)
  · rw [if_neg c1] at h
    refine v_aload_n dX13_plain_160 0 rfl rfl ?_
    refine v_getS (f := 21) (t := 73) cf13 oc54 rfl rfl rfl (by decide) q791 dX13_plain_161 ?_
    refine v_aload_n dX13_plain_164 0 rfl rfl ?_
    obtain ⟨g2, h⟩ := gd_some h
    refine v_getR (f := 4) cf13 oc54 rfl (okB_R g2 (by decide) (by decide)) (by decide) q774 dX13_plain_165 ?_
    refine v_iload dX13_plain_168 2 rfl ?_
    refine v_iload dX13_plain_170 3 rfl ?_
    obtain ⟨s3, e4, h⟩ := bdv_some h
    have k5 := c_X2_all e4 (⟨by decide, rfl⟩ : okB 73 1) g2 rx4 rx5
    refine v_callV (st := []) cf2 oc73 k5 (lw_V q2217 q1059 q1060 q299 q1061) rfl yk_X2_all ⟨Nat.le_of_ble_eq_true rfl, Nat.le_of_ble_eq_true rfl⟩ trivial ⟨kc54, trivial⟩ (Nat.le_of_ble_eq_true rfl) rfl dX13_plain_172 ?_
    cases h
    exact v_vret dX13_plain_175
  · rw [if_pos c1] at h
    refine v_aload_n dX13_plain_131 0 rfl rfl ?_
    refine v_getS (f := 21) (t := 73) cf13 oc54 rfl rfl rfl (by decide) q791 dX13_plain_132 ?_
    refine v_aload_n dX13_plain_135 0 rfl rfl ?_
    obtain ⟨g6, h⟩ := gd_some h
    refine v_getR (f := 4) cf13 oc54 rfl (okB_R g6 (by decide) (by decide)) (by decide) q774 dX13_plain_136 ?_
    refine v_iload dX13_plain_139 2 rfl ?_
    obtain ⟨r10, s7, e8, h⟩ := bd_some h
    have k9 := c_X2_at e8 g6 rx4
    have r11 : rg r10 := k9.1.2.2
    refine v_callV (st := [vO 73]) cf2 (okB_ok g6) k9 (lw_V q2215 q1072 q1073 q299 q1074) rfl yk_X2_at ⟨Nat.le_of_ble_eq_true rfl, Nat.le_of_ble_eq_true rfl⟩ ⟨kc73, trivial⟩ ⟨kc54, trivial⟩ (Nat.le_of_ble_eq_true rfl) rfl dX13_plain_141 ?_
    refine v_if_ne (tgt := 151) dX13_plain_144 r11 (by decide) (fun c12 => ?_) (fun c12 => ?_)
    · rw [if_neg c12] at h
      refine v_sipush dX13_plain_151 rfl ?_
      refine v_sub [] (L1 := []) rfl ?_
      exact wj_X13_plain_154 h (rgl rfl)
    · rw [if_pos c12] at h
      refine v_iconst dX13_plain_147 ?_
      refine v_goto (tgt := 154) dX13_plain_148 (by decide) ?_
      refine v_sub [] (L1 := []) rfl ?_
      exact wj_X13_plain_154 h (rgl rfl)

def j_X13_plain_92 (x1 : Int) (x2 : Int) (x3 : Int) (x4 : Int) (x5 : Int) (s : vS) : Option (vS) :=
  if x2 = 2 then
    gd (okB (gR s 54 4) 1) <|
    bd (f_X6_isInRange x3 (gR s 54 4) x4 x5 s) fun r6 s3 =>
    if r6 = 0 then
      bd (f_X13_wrong 21 x1 s3) fun r12 s9 =>
      some s9
    else
      j_X13_plain_127 x2 x4 x5 s3
  else
    j_X13_plain_127 x2 x4 x5 s
theorem wj_X13_plain_92 {x1 : Int} {x2 : Int} {x3 : Int} {x4 : Int} {x5 : Int} {s : vS} {out : vS} (h : j_X13_plain_92 x1 x2 x3 x4 x5 s = some out)  (rx1 : rg x1) (rx2 : rg x2) (rx3 : rg x3) (rx4 : rg x4) (rx5 : rg x5) : VW cX13_plain (RX13, none, out, none, 7, 164, 7, []) (P0 []) s 92 [(0, vO 54), (1, vI x1), (2, vI x2), (3, vI x3), (4, vI x4), (5, vI x5)] [] := by
  unfold j_X13_plain_92 at h
  refine v_iload_n dX13_plain_92 2 rfl rfl ?_
  refine v_iconst dX13_plain_93 ?_
  refine v_icmp_ne (tgt := 127) dX13_plain_94 rx2 (rgl rfl) (by decide) (fun c1 => ?_) (fun c1 => ?_)
  · rw [if_neg c1] at h
    refine v_sub [0, 2, 4, 5] (L1 := [(0, vO 54), (2, vI x2), (4, vI x4), (5, vI x5)]) rfl ?_
    exact wj_X13_plain_127 h rx2 rx4 rx5
  · rw [if_pos c1] at h
    refine v_aload_n dX13_plain_97 0 rfl rfl ?_
    refine v_getS (f := 1) (t := 13) cf13 oc54 rfl rfl rfl (by decide) q771 dX13_plain_98 ?_
    refine v_iload_n dX13_plain_101 3 rfl rfl ?_
    refine v_aload_n dX13_plain_102 0 rfl rfl ?_
    obtain ⟨g2, h⟩ := gd_some h
    refine v_getR (f := 4) cf13 oc54 rfl (okB_R g2 (by decide) (by decide)) (by decide) q774 dX13_plain_103 ?_
    refine v_iload dX13_plain_106 4 rfl ?_
    refine v_iload dX13_plain_108 5 rfl ?_
    obtain ⟨r6, s3, e4, h⟩ := bd_some h
    have k5 := c_X6_isInRange e4 g2 rx3 rx4 rx5
    have r7 : rg r6 := k5.1.2.2
    refine v_callV (st := []) cf6 oc13 k5 (lw_V q2214 q1713 q1714 q303 q1715) rfl yk_X6_isInRange ⟨Nat.le_of_ble_eq_true rfl, Nat.le_of_ble_eq_true rfl⟩ trivial ⟨kc54, trivial⟩ (Nat.le_of_ble_eq_true rfl) rfl dX13_plain_110 ?_
    refine v_if_ne (tgt := 127) dX13_plain_113 r7 (by decide) (fun c8 => ?_) (fun c8 => ?_)
    · rw [if_neg c8] at h
      refine v_sub [0, 2, 4, 5] (L1 := [(0, vO 54), (2, vI x2), (4, vI x4), (5, vI x5)]) rfl ?_
      exact wj_X13_plain_127 h rx2 rx4 rx5
    · rw [if_pos c8] at h
      refine v_aload_n dX13_plain_116 0 rfl rfl ?_
      refine v_bipush dX13_plain_117 rfl ?_
      refine v_iload_n dX13_plain_119 1 rfl rfl ?_
      obtain ⟨r12, s9, e10, h⟩ := bd_some h
      have k11 := c_X13_wrong e10 (rgl rfl) rx1
      have r13 : rg r12 := k11.1.2.2
      refine v_callV (st := []) cf13 oc54 k11 (lw_V q2158 q2160 qs128 q310 q2161) rfl yk_X13_wrong ⟨Nat.le_of_ble_eq_true rfl, Nat.le_of_ble_eq_true rfl⟩ trivial ⟨kc54, trivial⟩ (Nat.le_of_ble_eq_true rfl) rfl dX13_plain_120 ?_
      refine v_popI dX13_plain_123 ?_
      refine v_goto (tgt := 175) dX13_plain_124 (by decide) ?_
      cases h
      exact v_vret dX13_plain_175

def f_X13_plain (x1 : Int) (x2 : Int) (x3 : Int) (s : vS) : Option (vS) :=
  gd (gR s 54 5 = 44) <|
  bd (f_X12_from x1 s) fun r5 s2 =>
  gd (gR s2 54 5 = 44) <|
  bd (f_X12_to x1 s2) fun r11 s8 =>
  gd (okB (gR s8 54 4) 1) <|
  bd (f_X11_fault x2 (gR s8 54 4) r5 r11 s8) fun r17 s14 =>
  if r17 = 0 then
    if x2 = 3 then
      bd (f_X6_base x3 s14) fun r24 s21 =>
      gd (okB (gR s21 54 4) 1) <|
      bd (f_X6_isItem r24 (gR s21 54 4) r5 r11 s21) fun r30 s27 =>
      if r30 = 0 then
        bd (f_X13_wrong 23 x1 s27) fun r36 s33 =>
        some s33
      else
        j_X13_plain_92 x1 x2 x3 r5 r11 s27
    else
      j_X13_plain_92 x1 x2 x3 r5 r11 s14
  else
    bd (f_X13_wrong r17 x1 s14) fun r41 s38 =>
    some s38
theorem yk_X13_plain : yOk yX13_plain 3 := ⟨by decide, by decide, by decide +kernel⟩
theorem c_X13_plain {x1 : Int} {x2 : Int} {x3 : Int} {s : vS} {out : vS} (h : f_X13_plain x1 x2 x3 s = some out)  (rx1 : rg x1) (rx2 : rg x2) (rx3 : rg x3) : VC yX13_plain cX13_plain 7 none 7 164 [vO 54, vI x1, vI x2, vI x3] s none out [] := by
  unfold f_X13_plain at h
  refine VC.of RX13 (by decide) rfl (Nat.le_of_ble_eq_true rfl) ?_
  show VW cX13_plain (RX13, none, out, none, 7, 164, 7, []) (P0 []) s 0 [(0, vO 54), (1, vI x1), (2, vI x2), (3, vI x3)] []
  refine v_aload_n dX13_plain_0 0 rfl rfl ?_
  obtain ⟨g1, h⟩ := gd_some h
  refine v_getR (f := 5) cf13 oc54 rfl (by rw [g1]; decide) (by decide) q775 dX13_plain_1 ?_
  rw [g1]
  refine v_iload_n dX13_plain_4 1 rfl rfl ?_
  obtain ⟨r5, s2, e3, h⟩ := bd_some h
  have k4 := c_X12_from e3 rx1
  have r6 : rg r5 := k4.1.2.2
  refine v_callV (st := []) cf12 oc44 k4 (lw_V q2196 q2197 q2198 q309 q2199) rfl yk_X12_from ⟨Nat.le_of_ble_eq_true rfl, Nat.le_of_ble_eq_true rfl⟩ trivial ⟨kc54, trivial⟩ (Nat.le_of_ble_eq_true rfl) rfl dX13_plain_5 ?_
  refine v_istore (L1 := [(4, vI r5), (0, vO 54), (1, vI x1), (2, vI x2), (3, vI x3)]) dX13_plain_8 (by decide) rfl ?_
  refine v_aload_n dX13_plain_10 1 rfl rfl ?_
  obtain ⟨g7, h⟩ := gd_some h
  refine v_getR (f := 5) cf13 oc54 rfl (by rw [g7]; decide) (by decide) q775 dX13_plain_11 ?_
  rw [g7]
  refine v_iload_n dX13_plain_14 2 rfl rfl ?_
  obtain ⟨r11, s8, e9, h⟩ := bd_some h
  have k10 := c_X12_to e9 rx1
  have r12 : rg r11 := k10.1.2.2
  refine v_callV (st := []) cf12 oc44 k10 (lw_V q2200 q2201 q2202 q309 q2203) rfl yk_X12_to ⟨Nat.le_of_ble_eq_true rfl, Nat.le_of_ble_eq_true rfl⟩ trivial ⟨kc54, trivial⟩ (Nat.le_of_ble_eq_true rfl) rfl dX13_plain_15 ?_
  refine v_istore (L1 := [(5, vI r11), (4, vI r5), (0, vO 54), (1, vI x1), (2, vI x2), (3, vI x3)]) dX13_plain_18 (by decide) rfl ?_
  refine v_iload_n dX13_plain_20 4 rfl rfl ?_
  refine v_aload_n dX13_plain_21 2 rfl rfl ?_
  obtain ⟨g13, h⟩ := gd_some h
  refine v_getR (f := 4) cf13 oc54 rfl (okB_R g13 (by decide) (by decide)) (by decide) q774 dX13_plain_22 ?_
  refine v_iload dX13_plain_25 1 rfl ?_
  refine v_iload dX13_plain_27 0 rfl ?_
  obtain ⟨r17, s14, e15, h⟩ := bd_some h
  have k16 := c_X11_fault e15 g13 rx2 r6 r12
  have r18 : rg r17 := k16.1.2.2
  refine v_callS (st := []) k16 (lw_S q2204 q2205 q308 q2206) yk_X11_fault ⟨Nat.le_of_ble_eq_true rfl, Nat.le_of_ble_eq_true rfl⟩ trivial ⟨kc54, trivial⟩ (Nat.le_of_ble_eq_true rfl) rfl dX13_plain_29 ?_
  refine v_istore (L1 := [(6, vI r17), (5, vI r11), (4, vI r5), (0, vO 54), (1, vI x1), (2, vI x2), (3, vI x3)]) dX13_plain_32 (by decide) rfl ?_
  refine v_iload dX13_plain_34 0 rfl ?_
  refine v_if_eq (tgt := 50) dX13_plain_36 r18 (by decide) (fun c19 => ?_) (fun c19 => ?_)
  · rw [if_pos c19] at h
    refine v_iload_n dX13_plain_50 5 rfl rfl ?_
    refine v_iconst dX13_plain_51 ?_
    refine v_icmp_ne (tgt := 92) dX13_plain_52 rx2 (rgl rfl) (by decide) (fun c20 => ?_) (fun c20 => ?_)
    · rw [if_neg c20] at h
      refine v_sub [3, 4, 5, 6, 2, 1] (L1 := [(0, vO 54), (1, vI x1), (2, vI x2), (3, vI x3), (4, vI r5), (5, vI r11)]) rfl ?_
      exact wj_X13_plain_92 h rx1 rx2 rx3 r6 r12
    · rw [if_pos c20] at h
      refine v_aload_n dX13_plain_55 3 rfl rfl ?_
      refine v_getS (f := 1) (t := 13) cf13 oc54 rfl rfl rfl (by decide) q771 dX13_plain_56 ?_
      refine v_aload_n dX13_plain_59 3 rfl rfl ?_
      refine v_getS (f := 1) (t := 13) cf13 oc54 rfl rfl rfl (by decide) q771 dX13_plain_60 ?_
      refine v_iload_n dX13_plain_63 6 rfl rfl ?_
      obtain ⟨r24, s21, e22, h⟩ := bd_some h
      have k23 := c_X6_base e22 rx3
      have r25 : rg r24 := k23.1.2.2
      refine v_callVN (st := [vO 13]) cf6 oc13 k23 q1591 q2155 q1590 qs60 q303 yk_X6_base ⟨Nat.le_of_ble_eq_true rfl, Nat.le_of_ble_eq_true rfl⟩ ⟨kc13, trivial⟩ ⟨kc54, trivial⟩ (Nat.le_of_ble_eq_true rfl) rfl dX13_plain_64 ?_
      refine v_aload_n dX13_plain_67 3 rfl rfl ?_
      obtain ⟨g26, h⟩ := gd_some h
      refine v_getR (f := 4) cf13 oc54 rfl (okB_R g26 (by decide) (by decide)) (by decide) q774 dX13_plain_68 ?_
      refine v_iload dX13_plain_71 2 rfl ?_
      refine v_iload dX13_plain_73 1 rfl ?_
      obtain ⟨r30, s27, e28, h⟩ := bd_some h
      have k29 := c_X6_isItem e28 g26 r25 r6 r12
      have r31 : rg r30 := k29.1.2.2
      refine v_callV (st := []) cf6 oc13 k29 (lw_V q2213 q1729 q1730 q303 q1731) rfl yk_X6_isItem ⟨Nat.le_of_ble_eq_true rfl, Nat.le_of_ble_eq_true rfl⟩ trivial ⟨kc54, trivial⟩ (Nat.le_of_ble_eq_true rfl) rfl dX13_plain_75 ?_
      refine v_if_ne (tgt := 92) dX13_plain_78 r31 (by decide) (fun c32 => ?_) (fun c32 => ?_)
      · rw [if_neg c32] at h
        refine v_sub [3, 4, 5, 6, 2, 1] (L1 := [(0, vO 54), (1, vI x1), (2, vI x2), (3, vI x3), (4, vI r5), (5, vI r11)]) rfl ?_
        exact wj_X13_plain_92 h rx1 rx2 rx3 r6 r12
      · rw [if_pos c32] at h
        refine v_aload_n dX13_plain_81 3 rfl rfl ?_
        refine v_bipush dX13_plain_82 rfl ?_
        refine v_iload_n dX13_plain_84 4 rfl rfl ?_
        obtain ⟨r36, s33, e34, h⟩ := bd_some h
        have k35 := c_X13_wrong e34 (rgl rfl) rx1
        have r37 : rg r36 := k35.1.2.2
        refine v_callV (st := []) cf13 oc54 k35 (lw_V q2158 q2160 qs128 q310 q2161) rfl yk_X13_wrong ⟨Nat.le_of_ble_eq_true rfl, Nat.le_of_ble_eq_true rfl⟩ trivial ⟨kc54, trivial⟩ (Nat.le_of_ble_eq_true rfl) rfl dX13_plain_85 ?_
        refine v_popI dX13_plain_88 ?_
        refine v_goto (tgt := 175) dX13_plain_89 (by decide) ?_
        cases h
        exact v_vret dX13_plain_175
  · rw [if_neg c19] at h
    refine v_aload_n dX13_plain_39 3 rfl rfl ?_
    refine v_iload dX13_plain_40 0 rfl ?_
    refine v_iload_n dX13_plain_42 4 rfl rfl ?_
    obtain ⟨r41, s38, e39, h⟩ := bd_some h
    have k40 := c_X13_wrong e39 r18 rx1
    have r42 : rg r41 := k40.1.2.2
    refine v_callV (st := []) cf13 oc54 k40 (lw_V q2158 q2160 qs128 q310 q2161) rfl yk_X13_wrong ⟨Nat.le_of_ble_eq_true rfl, Nat.le_of_ble_eq_true rfl⟩ trivial ⟨kc54, trivial⟩ (Nat.le_of_ble_eq_true rfl) rfl dX13_plain_43 ?_
    refine v_popI dX13_plain_46 ?_
    refine v_goto (tgt := 175) dX13_plain_47 (by decide) ?_
    cases h
    exact v_vret dX13_plain_175

def f_X12_behind (x1 : Int) (s : vS) : Option (Int × vS) :=
  gd (inb x1 (gN s 49)) <|
  some (gE s 49 x1, s)
theorem yk_X12_behind : yOk yX12_behind 1 := ⟨by decide, by decide, by decide +kernel⟩
theorem c_X12_behind {x1 : Int} {s : vS} {out : Int × vS} (h : f_X12_behind x1 s = some out)  (rx1 : rg x1) : VC yX12_behind cX12_behind 2 (some .int) 0 0 [vO 44, vI x1] s (some (vI out.1)) out.2 [] := by
  unfold f_X12_behind at h
  refine VC.of RX12 (by decide) rfl (Nat.le_of_ble_eq_true rfl) ?_
  show VW cX12_behind (RX12, (some (vI out.1)), out.2, (some .int), 0, 0, 2, []) (P0 []) s 0 [(0, vO 44), (1, vI x1)] []
  refine v_aload_n dX12_behind_0 0 rfl rfl ?_
  refine v_getS (f := 8) (t := 49) cf12 oc44 rfl rfl rfl (by decide) q717 dX12_behind_1 ?_
  refine v_iload_n dX12_behind_4 1 rfl rfl ?_
  obtain ⟨g1, h⟩ := gd_some h
  refine v_iald oc49 rx1 g1.1 g1.2 dX12_behind_5 ?_
  cases h
  exact v_iret (gE_rg _ _ _) dX12_behind_6

def j_X13_addBits_56 (x2 : Int) (x3 : Int) (s : vS) : Option (Int × vS) :=
  gd (okB (gR s 54 4) 1) <|
  bd (f_X2_at (gR s 54 4) x2 s) fun r5 s2 =>
  bdv (f_X2_set 75 0 r5 s2) fun s7 =>
  gd (okB (gR s7 54 4) 1) <|
  bdv (f_X2_all 75 (gR s7 54 4) (w32 (x2 + 1)) x3 s7) fun s11 =>
  some (1, s11)
theorem wj_X13_addBits_56 {x2 : Int} {x3 : Int} {s : vS} {out : Int × vS} (h : j_X13_addBits_56 x2 x3 s = some out)  (rx2 : rg x2) (rx3 : rg x3) : VW cX13_addBits (RX13, (some (vI out.1)), out.2, (some .boolean), 3, 72, 4, []) (P0 []) s 56 [(0, vO 54), (2, vI x2), (3, vI x3)] [] := by
  unfold j_X13_addBits_56 at h
  refine v_aload_n dX13_addBits_56 0 rfl rfl ?_
  refine v_getS (f := 22) (t := 75) cf13 oc54 rfl rfl rfl (by decide) q792 dX13_addBits_57 ?_
  refine v_iconst dX13_addBits_60 ?_
  refine v_aload_n dX13_addBits_61 0 rfl rfl ?_
  obtain ⟨g1, h⟩ := gd_some h
  refine v_getR (f := 4) cf13 oc54 rfl (okB_R g1 (by decide) (by decide)) (by decide) q774 dX13_addBits_62 ?_
  refine v_iload_n dX13_addBits_65 1 rfl rfl ?_
  obtain ⟨r5, s2, e3, h⟩ := bd_some h
  have k4 := c_X2_at e3 g1 rx2
  have r6 : rg r5 := k4.1.2.2
  refine v_callV (st := [vI 0, vO 75]) cf2 (okB_ok g1) k4 (lw_V q2215 q1072 q1073 q299 q1074) rfl yk_X2_at ⟨Nat.le_of_ble_eq_true rfl, Nat.le_of_ble_eq_true rfl⟩ ⟨kc75, trivial⟩ ⟨kc54, trivial⟩ (Nat.le_of_ble_eq_true rfl) rfl dX13_addBits_66 ?_
  obtain ⟨s7, e8, h⟩ := bdv_some h
  have k9 := c_X2_set e8 (⟨by decide, rfl⟩ : okB 75 1) (rgl rfl) r6
  refine v_callV (st := []) cf2 oc75 k9 (lw_V q2230 q1536 q1537 q299 q1538) rfl yk_X2_set ⟨Nat.le_of_ble_eq_true rfl, Nat.le_of_ble_eq_true rfl⟩ trivial ⟨kc54, trivial⟩ (Nat.le_of_ble_eq_true rfl) rfl dX13_addBits_69 ?_
  refine v_aload_n dX13_addBits_72 0 rfl rfl ?_
  refine v_getS (f := 22) (t := 75) cf13 oc54 rfl rfl rfl (by decide) q792 dX13_addBits_73 ?_
  refine v_aload_n dX13_addBits_76 0 rfl rfl ?_
  obtain ⟨g10, h⟩ := gd_some h
  refine v_getR (f := 4) cf13 oc54 rfl (okB_R g10 (by decide) (by decide)) (by decide) q774 dX13_addBits_77 ?_
  refine v_iload_n dX13_addBits_80 1 rfl rfl ?_
  refine v_iconst dX13_addBits_81 ?_
  refine v_iadd dX13_addBits_82 ?_
  refine v_iload_n dX13_addBits_83 2 rfl rfl ?_
  obtain ⟨s11, e12, h⟩ := bdv_some h
  have k13 := c_X2_all e12 (⟨by decide, rfl⟩ : okB 75 1) g10 (w32_rg _) rx3
  refine v_callV (st := []) cf2 oc75 k13 (lw_V q2217 q1059 q1060 q299 q1061) rfl yk_X2_all ⟨Nat.le_of_ble_eq_true rfl, Nat.le_of_ble_eq_true rfl⟩ trivial ⟨kc54, trivial⟩ (Nat.le_of_ble_eq_true rfl) rfl dX13_addBits_84 ?_
  refine v_iconst dX13_addBits_87 ?_
  cases h
  exact v_zret (Or.inr rfl) dX13_addBits_88

def f_X13_addBits (x1 : Int) (s : vS) : Option (Int × vS) :=
  gd (gR s 54 5 = 44) <|
  bd (f_X12_from x1 s) fun r5 s2 =>
  gd (gR s2 54 5 = 44) <|
  bd (f_X12_to x1 s2) fun r11 s8 =>
  if r5 = r11 then
    some (0, s8)
  else
    gd (okB (gR s8 54 4) 1) <|
    bd (f_X2_at (gR s8 54 4) r5 s8) fun r18 s15 =>
    if 7 < r18 then
      some (0, s15)
    else
      gd (okB (gR s15 54 4) 1) <|
      bd (f_X2_at (gR s15 54 4) r5 s15) fun r25 s22 =>
      if r25 ≤ 0 then
        j_X13_addBits_56 r5 r11 s22
      else
        if (w32 (r11 - r5)) = 1 then
          some (0, s22)
        else
          j_X13_addBits_56 r5 r11 s22
theorem yk_X13_addBits : yOk yX13_addBits 1 := ⟨by decide, by decide, by decide +kernel⟩
theorem c_X13_addBits {x1 : Int} {s : vS} {out : Int × vS} (h : f_X13_addBits x1 s = some out)  (rx1 : rg x1) : VC yX13_addBits cX13_addBits 4 (some .boolean) 3 72 [vO 54, vI x1] s (some (vI out.1)) out.2 [] := by
  unfold f_X13_addBits at h
  refine VC.of RX13 (by decide) rfl (Nat.le_of_ble_eq_true rfl) ?_
  show VW cX13_addBits (RX13, (some (vI out.1)), out.2, (some .boolean), 3, 72, 4, []) (P0 []) s 0 [(0, vO 54), (1, vI x1)] []
  refine v_aload_n dX13_addBits_0 0 rfl rfl ?_
  obtain ⟨g1, h⟩ := gd_some h
  refine v_getR (f := 5) cf13 oc54 rfl (by rw [g1]; decide) (by decide) q775 dX13_addBits_1 ?_
  rw [g1]
  refine v_iload_n dX13_addBits_4 1 rfl rfl ?_
  obtain ⟨r5, s2, e3, h⟩ := bd_some h
  have k4 := c_X12_from e3 rx1
  have r6 : rg r5 := k4.1.2.2
  refine v_callV (st := []) cf12 oc44 k4 (lw_V q2196 q2197 q2198 q309 q2199) rfl yk_X12_from ⟨Nat.le_of_ble_eq_true rfl, Nat.le_of_ble_eq_true rfl⟩ trivial ⟨kc54, trivial⟩ (Nat.le_of_ble_eq_true rfl) rfl dX13_addBits_5 ?_
  refine v_istore_n (L1 := [(2, vI r5), (0, vO 54), (1, vI x1)]) dX13_addBits_8 rfl (by decide) rfl ?_
  refine v_aload_n dX13_addBits_9 1 rfl rfl ?_
  obtain ⟨g7, h⟩ := gd_some h
  refine v_getR (f := 5) cf13 oc54 rfl (by rw [g7]; decide) (by decide) q775 dX13_addBits_10 ?_
  rw [g7]
  refine v_iload_n dX13_addBits_13 2 rfl rfl ?_
  obtain ⟨r11, s8, e9, h⟩ := bd_some h
  have k10 := c_X12_to e9 rx1
  have r12 : rg r11 := k10.1.2.2
  refine v_callV (st := []) cf12 oc44 k10 (lw_V q2200 q2201 q2202 q309 q2203) rfl yk_X12_to ⟨Nat.le_of_ble_eq_true rfl, Nat.le_of_ble_eq_true rfl⟩ trivial ⟨kc54, trivial⟩ (Nat.le_of_ble_eq_true rfl) rfl dX13_addBits_14 ?_
  refine v_istore_n (L1 := [(3, vI r11), (2, vI r5), (0, vO 54), (1, vI x1)]) dX13_addBits_17 rfl (by decide) rfl ?_
  refine v_iload_n dX13_addBits_18 1 rfl rfl ?_
  refine v_iload_n dX13_addBits_19 0 rfl rfl ?_
  refine v_icmp_eq (tgt := 54) dX13_addBits_20 r6 r12 (by decide) (fun c13 => ?_) (fun c13 => ?_)
  · rw [if_pos c13] at h
    refine v_iconst dX13_addBits_54 ?_
    cases h
    exact v_zret (Or.inl rfl) dX13_addBits_55
  · rw [if_neg c13] at h
    refine v_aload_n dX13_addBits_23 2 rfl rfl ?_
    obtain ⟨g14, h⟩ := gd_some h
    refine v_getR (f := 4) cf13 oc54 rfl (okB_R g14 (by decide) (by decide)) (by decide) q774 dX13_addBits_24 ?_
    refine v_iload_n dX13_addBits_27 1 rfl rfl ?_
    obtain ⟨r18, s15, e16, h⟩ := bd_some h
    have k17 := c_X2_at e16 g14 r6
    have r19 : rg r18 := k17.1.2.2
    refine v_callV (st := []) cf2 (okB_ok g14) k17 (lw_V q2215 q1072 q1073 q299 q1074) rfl yk_X2_at ⟨Nat.le_of_ble_eq_true rfl, Nat.le_of_ble_eq_true rfl⟩ trivial ⟨kc54, trivial⟩ (Nat.le_of_ble_eq_true rfl) rfl dX13_addBits_28 ?_
    refine v_bipush dX13_addBits_31 rfl ?_
    refine v_icmp_gt (tgt := 54) dX13_addBits_33 r19 (rgl rfl) (by decide) (fun c20 => ?_) (fun c20 => ?_)
    · rw [if_pos c20] at h
      refine v_iconst dX13_addBits_54 ?_
      cases h
      exact v_zret (Or.inl rfl) dX13_addBits_55
    · rw [if_neg c20] at h
      refine v_aload_n dX13_addBits_36 2 rfl rfl ?_
      obtain ⟨g21, h⟩ := gd_some h
      refine v_getR (f := 4) cf13 oc54 rfl (okB_R g21 (by decide) (by decide)) (by decide) q774 dX13_addBits_37 ?_
      refine v_iload_n dX13_addBits_40 1 rfl rfl ?_
      obtain ⟨r25, s22, e23, h⟩ := bd_some h
      have k24 := c_X2_at e23 g21 r6
      have r26 : rg r25 := k24.1.2.2
      refine v_callV (st := []) cf2 (okB_ok g21) k24 (lw_V q2215 q1072 q1073 q299 q1074) rfl yk_X2_at ⟨Nat.le_of_ble_eq_true rfl, Nat.le_of_ble_eq_true rfl⟩ trivial ⟨kc54, trivial⟩ (Nat.le_of_ble_eq_true rfl) rfl dX13_addBits_41 ?_
      refine v_if_le (tgt := 56) dX13_addBits_44 r26 (by decide) (fun c27 => ?_) (fun c27 => ?_)
      · rw [if_pos c27] at h
        refine v_sub [2, 1, 0] (L1 := [(0, vO 54), (2, vI r5), (3, vI r11)]) rfl ?_
        exact wj_X13_addBits_56 h r6 r12
      · rw [if_neg c27] at h
        refine v_iload_n dX13_addBits_47 0 rfl rfl ?_
        refine v_iload_n dX13_addBits_48 1 rfl rfl ?_
        refine v_isub dX13_addBits_49 ?_
        refine v_iconst dX13_addBits_50 ?_
        refine v_icmp_ne (tgt := 56) dX13_addBits_51 (w32_rg _) (rgl rfl) (by decide) (fun c28 => ?_) (fun c28 => ?_)
        · rw [if_neg c28] at h
          refine v_sub [2, 1, 0] (L1 := [(0, vO 54), (2, vI r5), (3, vI r11)]) rfl ?_
          exact wj_X13_addBits_56 h r6 r12
        · rw [if_pos c28] at h
          refine v_iconst dX13_addBits_54 ?_
          cases h
          exact v_zret (Or.inl rfl) dX13_addBits_55

def E_X13_bits_64 (x1 : Int) (x2 : Int) (rv : Option vA) (σo : vS) (q : vS) : Prop := ∀ (s' : vS), q = s' → VW cX13_bits (RX13, rv, σo, none, 8, 191, 6, []) (P0 []) s' 162 [(0, vO 54), (1, vI x1), (2, vI x2)] []
def j_X13_bits_145 (rec : Int → Int → Int → Int → Int → vS → Option (vS)) (x1 : Int) (x2 : Int) (x4 : Int) (x5 : Int) (s : vS) : Option (vS) :=
  bd (f_X13_wrong 16 x1 s) fun r4 s1 =>
  vl (w32 (x5 + 1)) fun y6 =>
  rec x1 x2 x5 x4 y6 s1
theorem wj_X13_bits_145 {x1 : Int} {x2 : Int} {x4 : Int} {x5 : Int} {s : vS} {rv : Option vA} {σo : vS} {rec : Int → Int → Int → Int → Int → vS → Option (vS)} {q : vS} (h : j_X13_bits_145 rec x1 x2 x4 x5 s = some q)  (rx1 : rg x1) (rx2 : rg x2) (rx4 : rg x4) (rx5 : rg x5) (hrec : ∀ (y3 : Int) (y5 : Int) (s : vS) (q : vS), rec x1 x2 y3 x4 y5 s = some q → rg y3 → rg y5 → E_X13_bits_64 x1 x2 rv σo q → VW cX13_bits (RX13, rv, σo, none, 8, 191, 6, []) (P0 []) s 64 [(0, vO 54), (1, vI x1), (2, vI x2), (3, vI y3), (4, vI x4), (5, vI y5)] []) (hE : E_X13_bits_64 x1 x2 rv σo q) : VW cX13_bits (RX13, rv, σo, none, 8, 191, 6, []) (P0 []) s 145 [(0, vO 54), (1, vI x1), (2, vI x2), (4, vI x4), (5, vI x5)] [] := by
  unfold j_X13_bits_145 at h
  refine v_aload_n dX13_bits_145 0 rfl rfl ?_
  refine v_bipush dX13_bits_146 rfl ?_
  refine v_iload_n dX13_bits_148 1 rfl rfl ?_
  obtain ⟨r4, s1, e2, h⟩ := bd_some h
  have k3 := c_X13_wrong e2 (rgl rfl) rx1
  have r5 : rg r4 := k3.1.2.2
  refine v_callV (st := []) cf13 oc54 k3 (lw_V q2158 q2160 qs128 q310 q2161) rfl yk_X13_wrong ⟨Nat.le_of_ble_eq_true rfl, Nat.le_of_ble_eq_true rfl⟩ trivial ⟨kc54, trivial⟩ (Nat.le_of_ble_eq_true rfl) rfl dX13_bits_149 ?_
  refine v_popI dX13_bits_152 ?_
  refine v_iload dX13_bits_153 4 rfl ?_
  refine v_istore_n (L1 := [(3, vI x5), (0, vO 54), (1, vI x1), (2, vI x2), (4, vI x4), (5, vI x5)]) dX13_bits_155 rfl (by decide) rfl ?_
  obtain ⟨y6, e7, h⟩ := vl_some h
  refine v_iinc (L1 := [(5, vI (w32 (x5 + 1))), (3, vI x5), (0, vO 54), (1, vI x1), (2, vI x2), (4, vI x4)]) dX13_bits_156 5 rfl (by decide) rfl ?_
  rw [← e7]
  have r8 : rg y6 := by rw [e7]; exact w32_rg _
  refine v_goto (tgt := 64) dX13_bits_159 (by decide) ?_
  refine v_sub [2, 3, 4, 1, 5, 0] (L1 := [(0, vO 54), (1, vI x1), (2, vI x2), (3, vI x5), (4, vI x4), (5, vI y6)]) rfl ?_
  exact hrec x5 y6 s1 _ h rx5 r8 hE

def j_X13_bits_136 (rec : Int → Int → Int → Int → Int → vS → Option (vS)) (x1 : Int) (x2 : Int) (x4 : Int) (x5 : Int) (s : vS) : Option (vS) :=
  bd (f_X13_addBits x5 s) fun r4 s1 =>
  if r4 = 0 then
    j_X13_bits_145 rec x1 x2 x4 x5 s1
  else
    vl (w32 (x5 + 1)) fun y7 =>
    rec x1 x2 x5 x4 y7 s1
theorem wj_X13_bits_136 {x1 : Int} {x2 : Int} {x4 : Int} {x5 : Int} {s : vS} {rv : Option vA} {σo : vS} {rec : Int → Int → Int → Int → Int → vS → Option (vS)} {q : vS} (h : j_X13_bits_136 rec x1 x2 x4 x5 s = some q)  (rx1 : rg x1) (rx2 : rg x2) (rx4 : rg x4) (rx5 : rg x5) (hrec : ∀ (y3 : Int) (y5 : Int) (s : vS) (q : vS), rec x1 x2 y3 x4 y5 s = some q → rg y3 → rg y5 → E_X13_bits_64 x1 x2 rv σo q → VW cX13_bits (RX13, rv, σo, none, 8, 191, 6, []) (P0 []) s 64 [(0, vO 54), (1, vI x1), (2, vI x2), (3, vI y3), (4, vI x4), (5, vI y5)] []) (hE : E_X13_bits_64 x1 x2 rv σo q) : VW cX13_bits (RX13, rv, σo, none, 8, 191, 6, []) (P0 []) s 136 [(0, vO 54), (1, vI x1), (2, vI x2), (4, vI x4), (5, vI x5)] [] := by
  unfold j_X13_bits_136 at h
  refine v_aload_n dX13_bits_136 0 rfl rfl ?_
  refine v_iload dX13_bits_137 4 rfl ?_
  obtain ⟨r4, s1, e2, h⟩ := bd_some h
  have k3 := c_X13_addBits e2 rx5
  have r5 : rg r4 := k3.1.2.2
  refine v_callV (st := []) cf13 oc54 k3 (lw_V q2226 q2228 qs136 q310 q2229) rfl yk_X13_addBits ⟨Nat.le_of_ble_eq_true rfl, Nat.le_of_ble_eq_true rfl⟩ trivial ⟨kc54, trivial⟩ (Nat.le_of_ble_eq_true rfl) rfl dX13_bits_139 ?_
  refine v_if_ne (tgt := 153) dX13_bits_142 r5 (by decide) (fun c6 => ?_) (fun c6 => ?_)
  · rw [if_neg c6] at h
    refine v_iload dX13_bits_153 4 rfl ?_
    refine v_istore_n (L1 := [(3, vI x5), (0, vO 54), (1, vI x1), (2, vI x2), (4, vI x4), (5, vI x5)]) dX13_bits_155 rfl (by decide) rfl ?_
    obtain ⟨y7, e8, h⟩ := vl_some h
    refine v_iinc (L1 := [(5, vI (w32 (x5 + 1))), (3, vI x5), (0, vO 54), (1, vI x1), (2, vI x2), (4, vI x4)]) dX13_bits_156 5 rfl (by decide) rfl ?_
    rw [← e8]
    have r9 : rg y7 := by rw [e8]; exact w32_rg _
    refine v_goto (tgt := 64) dX13_bits_159 (by decide) ?_
    refine v_sub [2, 3, 4, 1, 5, 0] (L1 := [(0, vO 54), (1, vI x1), (2, vI x2), (3, vI x5), (4, vI x4), (5, vI y7)]) rfl ?_
    exact hrec x5 y7 s1 _ h rx5 r9 hE
  · rw [if_pos c6] at h
    exact wj_X13_bits_145 h rx1 rx2 rx4 rx5 hrec hE

def j_X13_bits_108 (rec : Int → Int → Int → Int → Int → vS → Option (vS)) (x1 : Int) (x2 : Int) (x3 : Int) (x4 : Int) (x5 : Int) (s : vS) : Option (vS) :=
  gd (gR s 54 5 = 44) <|
  bd (f_X12_hasParts x5 s) fun r5 s2 =>
  if r5 = 0 then
    if x3 = (-1) then
      j_X13_bits_136 rec x1 x2 x4 x5 s2
    else
      bd (f_X2_at 75 0 s2) fun r15 s12 =>
      if 0 < r15 then
        j_X13_bits_145 rec x1 x2 x4 x5 s12
      else
        j_X13_bits_136 rec x1 x2 x4 x5 s12
  else
    vl (w32 (x5 + 1)) fun y8 =>
    rec x1 x2 x3 x4 y8 s2
theorem wj_X13_bits_108 {x1 : Int} {x2 : Int} {x3 : Int} {x4 : Int} {x5 : Int} {s : vS} {rv : Option vA} {σo : vS} {rec : Int → Int → Int → Int → Int → vS → Option (vS)} {q : vS} (h : j_X13_bits_108 rec x1 x2 x3 x4 x5 s = some q)  (rx1 : rg x1) (rx2 : rg x2) (rx3 : rg x3) (rx4 : rg x4) (rx5 : rg x5) (hrec : ∀ (y3 : Int) (y5 : Int) (s : vS) (q : vS), rec x1 x2 y3 x4 y5 s = some q → rg y3 → rg y5 → E_X13_bits_64 x1 x2 rv σo q → VW cX13_bits (RX13, rv, σo, none, 8, 191, 6, []) (P0 []) s 64 [(0, vO 54), (1, vI x1), (2, vI x2), (3, vI y3), (4, vI x4), (5, vI y5)] []) (hE : E_X13_bits_64 x1 x2 rv σo q) : VW cX13_bits (RX13, rv, σo, none, 8, 191, 6, []) (P0 []) s 108 [(0, vO 54), (1, vI x1), (2, vI x2), (3, vI x3), (4, vI x4), (5, vI x5)] [] := by
  unfold j_X13_bits_108 at h
  refine v_aload_n dX13_bits_108 0 rfl rfl ?_
  obtain ⟨g1, h⟩ := gd_some h
  refine v_getR (f := 5) cf13 oc54 rfl (by rw [g1]; decide) (by decide) q775 dX13_bits_109 ?_
  rw [g1]
  refine v_iload dX13_bits_112 5 rfl ?_
  obtain ⟨r5, s2, e3, h⟩ := bd_some h
  have k4 := c_X12_hasParts e3 rx5
  have r6 : rg r5 := k4.1.2.2
  refine v_callV (st := []) cf12 oc44 k4 (lw_V q2187 q2188 q2189 q309 q2190) rfl yk_X12_hasParts ⟨Nat.le_of_ble_eq_true rfl, Nat.le_of_ble_eq_true rfl⟩ trivial ⟨kc54, trivial⟩ (Nat.le_of_ble_eq_true rfl) rfl dX13_bits_114 ?_
  refine v_if_ne (tgt := 156) dX13_bits_117 r6 (by decide) (fun c7 => ?_) (fun c7 => ?_)
  · rw [if_neg c7] at h
    obtain ⟨y8, e9, h⟩ := vl_some h
    refine v_iinc (L1 := [(5, vI (w32 (x5 + 1))), (0, vO 54), (1, vI x1), (2, vI x2), (3, vI x3), (4, vI x4)]) dX13_bits_156 5 rfl (by decide) rfl ?_
    rw [← e9]
    have r10 : rg y8 := by rw [e9]; exact w32_rg _
    refine v_goto (tgt := 64) dX13_bits_159 (by decide) ?_
    refine v_sub [1, 2, 3, 4, 5, 0] (L1 := [(0, vO 54), (1, vI x1), (2, vI x2), (3, vI x3), (4, vI x4), (5, vI y8)]) rfl ?_
    exact hrec x3 y8 s2 _ h rx3 r10 hE
  · rw [if_pos c7] at h
    refine v_iload_n dX13_bits_120 3 rfl rfl ?_
    refine v_iconst dX13_bits_121 ?_
    refine v_icmp_eq (tgt := 136) dX13_bits_122 rx3 (rgl rfl) (by decide) (fun c11 => ?_) (fun c11 => ?_)
    · rw [if_pos c11] at h
      refine v_sub [0, 1, 2, 4, 5] (L1 := [(0, vO 54), (1, vI x1), (2, vI x2), (4, vI x4), (5, vI x5)]) rfl ?_
      exact wj_X13_bits_136 h rx1 rx2 rx4 rx5 hrec hE
    · rw [if_neg c11] at h
      refine v_aload_n dX13_bits_125 0 rfl rfl ?_
      refine v_getS (f := 22) (t := 75) cf13 oc54 rfl rfl rfl (by decide) q792 dX13_bits_126 ?_
      refine v_iconst dX13_bits_129 ?_
      obtain ⟨r15, s12, e13, h⟩ := bd_some h
      have k14 := c_X2_at e13 (⟨by decide, rfl⟩ : okB 75 1) (rgl rfl)
      have r16 : rg r15 := k14.1.2.2
      refine v_callV (st := []) cf2 oc75 k14 (lw_V q2215 q1072 q1073 q299 q1074) rfl yk_X2_at ⟨Nat.le_of_ble_eq_true rfl, Nat.le_of_ble_eq_true rfl⟩ trivial ⟨kc54, trivial⟩ (Nat.le_of_ble_eq_true rfl) rfl dX13_bits_130 ?_
      refine v_if_gt (tgt := 145) dX13_bits_133 r16 (by decide) (fun c17 => ?_) (fun c17 => ?_)
      · rw [if_pos c17] at h
        refine v_sub [0, 1, 2, 4, 5] (L1 := [(0, vO 54), (1, vI x1), (2, vI x2), (4, vI x4), (5, vI x5)]) rfl ?_
        exact wj_X13_bits_145 h rx1 rx2 rx4 rx5 hrec hE
      · rw [if_neg c17] at h
        refine v_sub [0, 1, 2, 4, 5] (L1 := [(0, vO 54), (1, vI x1), (2, vI x2), (4, vI x4), (5, vI x5)]) rfl ?_
        exact wj_X13_bits_136 h rx1 rx2 rx4 rx5 hrec hE

def l_X13_bits_64 : Nat → Int → Int → Int → Int → Int → vS → Option (vS)
  | 0, _, _, _, _, _, _ => none
  | n + 1, x1, x2, x3, x4, x5, s =>
    if x4 ≤ x5 then
      some s
    else
      if (gI s 54 6) = 0 then
        if x5 ≤ x1 then
          j_X13_bits_108 (l_X13_bits_64 n) x1 x2 x3 x4 x5 s
        else
          gd (gR s 54 5 = 44) <|
          bd (f_X12_tag x5 s) fun r8 s5 =>
          if r8 = 3 then
            j_X13_bits_108 (l_X13_bits_64 n) x1 x2 x3 x4 x5 s5
          else
            bd (f_X13_wrong 16 x1 s5) fun r14 s11 =>
            vl (w32 (x5 + 1)) fun y16 =>
            l_X13_bits_64 n x1 x2 x3 x4 y16 s11
      else
        some s
theorem wl_X13_bits_64 {x1 : Int} {x2 : Int} {x4 : Int} {rv : Option vA} {σo : vS}  (rx1 : rg x1) (rx2 : rg x2) (rx4 : rg x4) : ∀ (n : Nat) (x3 : Int) (x5 : Int) (s : vS) (q : vS), l_X13_bits_64 n x1 x2 x3 x4 x5 s = some q → rg x3 → rg x5 → E_X13_bits_64 x1 x2 rv σo q → VW cX13_bits (RX13, rv, σo, none, 8, 191, 6, []) (P0 []) s 64 [(0, vO 54), (1, vI x1), (2, vI x2), (3, vI x3), (4, vI x4), (5, vI x5)] [] := by
  intro n
  induction n with
  | zero => intro x3 x5 s q h; cases h
  | succ n ih =>
    intro x3 x5 s q h rx3 rx5 hE
    unfold l_X13_bits_64 at h
    refine v_iload dX13_bits_64 5 rfl ?_
    refine v_iload dX13_bits_66 4 rfl ?_
    refine v_icmp_ge (tgt := 162) dX13_bits_68 rx5 rx4 (by decide) (fun c1 => ?_) (fun c1 => ?_)
    · rw [if_pos c1] at h
      cases h
      refine v_sub [0, 1, 2] (L1 := [(0, vO 54), (1, vI x1), (2, vI x2)]) rfl ?_
      exact hE _ rfl 
    · rw [if_neg c1] at h
      refine v_aload_n dX13_bits_71 0 rfl rfl ?_
      refine v_getI (f := 6) cf13 oc54 rfl (by decide) q776 dX13_bits_72 ?_
      refine v_if_ne (tgt := 162) dX13_bits_75 (gI_rg _ _ _) (by decide) (fun c2 => ?_) (fun c2 => ?_)
      · rw [if_neg c2] at h
        cases h
        refine v_sub [0, 1, 2] (L1 := [(0, vO 54), (1, vI x1), (2, vI x2)]) rfl ?_
        exact hE _ rfl 
      · rw [if_pos c2] at h
        refine v_iload dX13_bits_78 5 rfl ?_
        refine v_iload_n dX13_bits_80 1 rfl rfl ?_
        refine v_icmp_le (tgt := 108) dX13_bits_81 rx5 rx1 (by decide) (fun c3 => ?_) (fun c3 => ?_)
        · rw [if_pos c3] at h
          exact wj_X13_bits_108 h rx1 rx2 rx3 rx4 rx5 ih hE
        · rw [if_neg c3] at h
          refine v_aload_n dX13_bits_84 0 rfl rfl ?_
          obtain ⟨g4, h⟩ := gd_some h
          refine v_getR (f := 5) cf13 oc54 rfl (by rw [g4]; decide) (by decide) q775 dX13_bits_85 ?_
          rw [g4]
          refine v_iload dX13_bits_88 5 rfl ?_
          obtain ⟨r8, s5, e6, h⟩ := bd_some h
          have k7 := c_X12_tag e6 rx5
          have r9 : rg r8 := k7.1.2.2
          refine v_callV (st := []) cf12 oc44 k7 (lw_V q2145 q2146 q2147 q309 q2148) rfl yk_X12_tag ⟨Nat.le_of_ble_eq_true rfl, Nat.le_of_ble_eq_true rfl⟩ trivial ⟨kc54, trivial⟩ (Nat.le_of_ble_eq_true rfl) rfl dX13_bits_90 ?_
          refine v_iconst dX13_bits_93 ?_
          refine v_icmp_eq (tgt := 108) dX13_bits_94 r9 (rgl rfl) (by decide) (fun c10 => ?_) (fun c10 => ?_)
          · rw [if_pos c10] at h
            exact wj_X13_bits_108 h rx1 rx2 rx3 rx4 rx5 ih hE
          · rw [if_neg c10] at h
            refine v_aload_n dX13_bits_97 0 rfl rfl ?_
            refine v_bipush dX13_bits_98 rfl ?_
            refine v_iload_n dX13_bits_100 1 rfl rfl ?_
            obtain ⟨r14, s11, e12, h⟩ := bd_some h
            have k13 := c_X13_wrong e12 (rgl rfl) rx1
            have r15 : rg r14 := k13.1.2.2
            refine v_callV (st := []) cf13 oc54 k13 (lw_V q2158 q2160 qs128 q310 q2161) rfl yk_X13_wrong ⟨Nat.le_of_ble_eq_true rfl, Nat.le_of_ble_eq_true rfl⟩ trivial ⟨kc54, trivial⟩ (Nat.le_of_ble_eq_true rfl) rfl dX13_bits_101 ?_
            refine v_popI dX13_bits_104 ?_
            refine v_goto (tgt := 156) dX13_bits_105 (by decide) ?_
            obtain ⟨y16, e17, h⟩ := vl_some h
            refine v_iinc (L1 := [(5, vI (w32 (x5 + 1))), (0, vO 54), (1, vI x1), (2, vI x2), (3, vI x3), (4, vI x4)]) dX13_bits_156 5 rfl (by decide) rfl ?_
            rw [← e17]
            have r18 : rg y16 := by rw [e17]; exact w32_rg _
            refine v_goto (tgt := 64) dX13_bits_159 (by decide) ?_
            refine v_sub [1, 2, 3, 4, 5, 0] (L1 := [(0, vO 54), (1, vI x1), (2, vI x2), (3, vI x3), (4, vI x4), (5, vI y16)]) rfl ?_
            exact ih x3 y16 s11 _ h rx3 r18 hE

def j_X13_bits_162 (x1 : Int) (x2 : Int) (s : vS) : Option (vS) :=
  if (gI s 54 6) = 0 then
    bd (f_X6_base x2 s) fun r5 s2 =>
    bd (f_X2_size 75 s2) fun r10 s7 =>
    bd (f_X6_bitsOf x2 r5 75 0 r10 s7) fun r15 s12 =>
    if r15 = (-1) then
      bd (f_X13_wrong 22 x1 s12) fun r29 s26 =>
      some s26
    else
      bd (f_X2_size 75 s12) fun r21 s18 =>
      bdv (f_X11_write 75 0 r21 r15 73 s18) fun s23 =>
      some s23
  else
    some s
theorem wj_X13_bits_162 {x1 : Int} {x2 : Int} {s : vS} {out : vS} (h : j_X13_bits_162 x1 x2 s = some out)  (rx1 : rg x1) (rx2 : rg x2) : VW cX13_bits (RX13, none, out, none, 8, 191, 6, []) (P0 []) s 162 [(0, vO 54), (1, vI x1), (2, vI x2)] [] := by
  unfold j_X13_bits_162 at h
  refine v_aload_n dX13_bits_162 0 rfl rfl ?_
  refine v_getI (f := 6) cf13 oc54 rfl (by decide) q776 dX13_bits_163 ?_
  refine v_if_eq (tgt := 170) dX13_bits_166 (gI_rg _ _ _) (by decide) (fun c1 => ?_) (fun c1 => ?_)
  · rw [if_pos c1] at h
    refine v_aload_n dX13_bits_170 0 rfl rfl ?_
    refine v_getS (f := 1) (t := 13) cf13 oc54 rfl rfl rfl (by decide) q771 dX13_bits_171 ?_
    refine v_iload_n dX13_bits_174 2 rfl rfl ?_
    refine v_aload_n dX13_bits_175 0 rfl rfl ?_
    refine v_getS (f := 1) (t := 13) cf13 oc54 rfl rfl rfl (by decide) q771 dX13_bits_176 ?_
    refine v_iload_n dX13_bits_179 2 rfl rfl ?_
    obtain ⟨r5, s2, e3, h⟩ := bd_some h
    have k4 := c_X6_base e3 rx2
    have r6 : rg r5 := k4.1.2.2
    refine v_callVN (st := [vI x2, vO 13]) cf6 oc13 k4 q1591 q2155 q1590 qs60 q303 yk_X6_base ⟨Nat.le_of_ble_eq_true rfl, Nat.le_of_ble_eq_true rfl⟩ ⟨kc13, trivial⟩ ⟨kc54, trivial⟩ (Nat.le_of_ble_eq_true rfl) rfl dX13_bits_180 ?_
    refine v_aload_n dX13_bits_183 0 rfl rfl ?_
    refine v_getS (f := 22) (t := 75) cf13 oc54 rfl rfl rfl (by decide) q792 dX13_bits_184 ?_
    refine v_iconst dX13_bits_187 ?_
    refine v_aload_n dX13_bits_188 0 rfl rfl ?_
    refine v_getS (f := 22) (t := 75) cf13 oc54 rfl rfl rfl (by decide) q792 dX13_bits_189 ?_
    obtain ⟨r10, s7, e8, h⟩ := bd_some h
    have k9 := c_X2_size e8 (⟨by decide, rfl⟩ : okB 75 1)
    have r11 : rg r10 := k9.1.2.2
    refine v_callV (st := [vI 0, vO 75, vI r5, vI x2, vO 13]) cf2 oc75 k9 (lw_V q2191 q918 q919 q299 q920) rfl yk_X2_size ⟨Nat.le_of_ble_eq_true rfl, Nat.le_of_ble_eq_true rfl⟩ ⟨kc75, kc13, trivial⟩ ⟨kc54, trivial⟩ (Nat.le_of_ble_eq_true rfl) rfl dX13_bits_192 ?_
    obtain ⟨r15, s12, e13, h⟩ := bd_some h
    have k14 := c_X6_bitsOf e13 (⟨by decide, rfl⟩ : okB 75 1) rx2 r6 (rgl rfl) r11
    have r16 : rg r15 := k14.1.2.2
    refine v_callV (st := []) cf6 oc13 k14 (lw_V q2231 q1737 q1738 q303 q1739) rfl yk_X6_bitsOf ⟨Nat.le_of_ble_eq_true rfl, Nat.le_of_ble_eq_true rfl⟩ trivial ⟨kc54, trivial⟩ (Nat.le_of_ble_eq_true rfl) rfl dX13_bits_195 ?_
    refine v_istore (L1 := [(5, vI r15), (0, vO 54), (1, vI x1), (2, vI x2)]) dX13_bits_198 (by decide) rfl ?_
    refine v_iload dX13_bits_200 0 rfl ?_
    refine v_iconst dX13_bits_202 ?_
    refine v_icmp_ne (tgt := 217) dX13_bits_203 r16 (rgl rfl) (by decide) (fun c17 => ?_) (fun c17 => ?_)
    · rw [if_neg c17] at h
      refine v_aload_n dX13_bits_217 1 rfl rfl ?_
      refine v_getS (f := 22) (t := 75) cf13 oc54 rfl rfl rfl (by decide) q792 dX13_bits_218 ?_
      refine v_iconst dX13_bits_221 ?_
      refine v_aload_n dX13_bits_222 1 rfl rfl ?_
      refine v_getS (f := 22) (t := 75) cf13 oc54 rfl rfl rfl (by decide) q792 dX13_bits_223 ?_
      obtain ⟨r21, s18, e19, h⟩ := bd_some h
      have k20 := c_X2_size e19 (⟨by decide, rfl⟩ : okB 75 1)
      have r22 : rg r21 := k20.1.2.2
      refine v_callV (st := [vI 0, vO 75]) cf2 oc75 k20 (lw_V q2191 q918 q919 q299 q920) rfl yk_X2_size ⟨Nat.le_of_ble_eq_true rfl, Nat.le_of_ble_eq_true rfl⟩ ⟨kc75, trivial⟩ ⟨kc54, trivial⟩ (Nat.le_of_ble_eq_true rfl) rfl dX13_bits_226 ?_
      refine v_iload dX13_bits_229 0 rfl ?_
      refine v_aload_n dX13_bits_231 1 rfl rfl ?_
      refine v_getS (f := 21) (t := 73) cf13 oc54 rfl rfl rfl (by decide) q791 dX13_bits_232 ?_
      obtain ⟨s23, e24, h⟩ := bdv_some h
      have k25 := c_X11_write e24 (⟨by decide, rfl⟩ : okB 75 1) (⟨by decide, rfl⟩ : okB 73 1) (rgl rfl) r22 r16
      refine v_callS (st := []) k25 (lw_S q2232 q1778 q308 q1779) yk_X11_write ⟨Nat.le_of_ble_eq_true rfl, Nat.le_of_ble_eq_true rfl⟩ trivial ⟨kc54, trivial⟩ (Nat.le_of_ble_eq_true rfl) rfl dX13_bits_235 ?_
      cases h
      exact v_vret dX13_bits_238
    · rw [if_pos c17] at h
      refine v_aload_n dX13_bits_206 1 rfl rfl ?_
      refine v_bipush dX13_bits_207 rfl ?_
      refine v_iload_n dX13_bits_209 2 rfl rfl ?_
      obtain ⟨r29, s26, e27, h⟩ := bd_some h
      have k28 := c_X13_wrong e27 (rgl rfl) rx1
      have r30 : rg r29 := k28.1.2.2
      refine v_callV (st := []) cf13 oc54 k28 (lw_V q2158 q2160 qs128 q310 q2161) rfl yk_X13_wrong ⟨Nat.le_of_ble_eq_true rfl, Nat.le_of_ble_eq_true rfl⟩ trivial ⟨kc54, trivial⟩ (Nat.le_of_ble_eq_true rfl) rfl dX13_bits_210 ?_
      refine v_popI dX13_bits_213 ?_
      refine v_goto (tgt := 238) dX13_bits_214 (by decide) ?_
      cases h
      exact v_vret dX13_bits_238
  · rw [if_neg c1] at h
    cases h
    exact v_vret dX13_bits_169

def j_X13_bits_42 (x1 : Int) (x2 : Int) (x3 : Int) (z0 : Int) (s : vS) : Option (vS) :=
  gd (gR s 54 5 = 44) <|
  bd (f_X12_hasParts x1 s) fun r5 s2 =>
  if r5 = 0 then
    lq_0 (l_X13_bits_64 FU x1 x2 x3 z0 x1 s2) fun s8 =>
    j_X13_bits_162 x1 x2 s8
  else
    vl (w32 (x1 + 1)) fun y10 =>
    lq_0 (l_X13_bits_64 FU x1 x2 x3 z0 y10 s2) fun s13 =>
    j_X13_bits_162 x1 x2 s13
theorem wj_X13_bits_42 {x1 : Int} {x2 : Int} {x3 : Int} {z0 : Int} {s : vS} {out : vS} (h : j_X13_bits_42 x1 x2 x3 z0 s = some out)  (rx1 : rg x1) (rx2 : rg x2) (rx3 : rg x3) (rz0 : rg z0) : VW cX13_bits (RX13, none, out, none, 8, 191, 6, []) (P0 []) s 42 [(0, vO 54), (1, vI x1), (2, vI x2), (3, vI x3)] [vI z0] := by
  unfold j_X13_bits_42 at h
  refine v_istore (L1 := [(4, vI z0), (0, vO 54), (1, vI x1), (2, vI x2), (3, vI x3)]) dX13_bits_42 (by decide) rfl ?_
  refine v_aload_n dX13_bits_44 1 rfl rfl ?_
  obtain ⟨g1, h⟩ := gd_some h
  refine v_getR (f := 5) cf13 oc54 rfl (by rw [g1]; decide) (by decide) q775 dX13_bits_45 ?_
  rw [g1]
  refine v_iload_n dX13_bits_48 2 rfl rfl ?_
  obtain ⟨r5, s2, e3, h⟩ := bd_some h
  have k4 := c_X12_hasParts e3 rx1
  have r6 : rg r5 := k4.1.2.2
  refine v_callV (st := []) cf12 oc44 k4 (lw_V q2187 q2188 q2189 q309 q2190) rfl yk_X12_hasParts ⟨Nat.le_of_ble_eq_true rfl, Nat.le_of_ble_eq_true rfl⟩ trivial ⟨kc54, trivial⟩ (Nat.le_of_ble_eq_true rfl) rfl dX13_bits_49 ?_
  refine v_if_eq (tgt := 61) dX13_bits_52 r6 (by decide) (fun c7 => ?_) (fun c7 => ?_)
  · rw [if_pos c7] at h
    refine v_iload_n dX13_bits_61 2 rfl rfl ?_
    refine v_istore (L1 := [(5, vI x1), (4, vI z0), (0, vO 54), (1, vI x1), (2, vI x2), (3, vI x3)]) dX13_bits_62 (by decide) rfl ?_
    refine v_sub [2, 3, 4, 5, 1, 0] (L1 := [(0, vO 54), (1, vI x1), (2, vI x2), (3, vI x3), (4, vI z0), (5, vI x1)]) rfl ?_
    obtain ⟨s8, e9, h⟩ := lq_0_some h
    refine wl_X13_bits_64 rx1 rx2 rz0 FU x3 x1 s2 _ e9 rx3 rx1 ?_
    unfold E_X13_bits_64
    intro s8' z_
    cases z_
    exact wj_X13_bits_162 h rx1 rx2
  · rw [if_neg c7] at h
    refine v_iload_n dX13_bits_55 2 rfl rfl ?_
    refine v_iconst dX13_bits_56 ?_
    refine v_iadd dX13_bits_57 ?_
    refine v_goto (tgt := 62) dX13_bits_58 (by decide) ?_
    obtain ⟨y10, e11, h⟩ := vl_some h
    rw [← e11]
    have r12 : rg y10 := by rw [e11]; exact w32_rg _
    refine v_istore (L1 := [(5, vI y10), (4, vI z0), (0, vO 54), (1, vI x1), (2, vI x2), (3, vI x3)]) dX13_bits_62 (by decide) rfl ?_
    refine v_sub [2, 3, 4, 5, 1, 0] (L1 := [(0, vO 54), (1, vI x1), (2, vI x2), (3, vI x3), (4, vI z0), (5, vI y10)]) rfl ?_
    obtain ⟨s13, e14, h⟩ := lq_0_some h
    refine wl_X13_bits_64 rx1 rx2 rz0 FU x3 y10 s2 _ e14 rx3 r12 ?_
    unfold E_X13_bits_64
    intro s13' z_
    cases z_
    exact wj_X13_bits_162 h rx1 rx2

def f_X13_bits (x1 : Int) (x2 : Int) (s : vS) : Option (vS) :=
  bdv (f_X2_clear 75 s) fun s1 =>
  bdv (f_X2_add 75 0 s1) fun s4 =>
  gd (gR s4 54 5 = 44) <|
  bd (f_X12_hasParts x1 s4) fun r11 s8 =>
  if r11 = 0 then
    j_X13_bits_42 x1 x2 (-1) (w32 (x1 + 1)) s8
  else
    gd (gR s8 54 5 = 44) <|
    bd (f_X12_behind x1 s8) fun r18 s15 =>
    j_X13_bits_42 x1 x2 (-1) r18 s15
theorem yk_X13_bits : yOk yX13_bits 2 := ⟨by decide, by decide, by decide +kernel⟩
theorem c_X13_bits {x1 : Int} {x2 : Int} {s : vS} {out : vS} (h : f_X13_bits x1 x2 s = some out)  (rx1 : rg x1) (rx2 : rg x2) : VC yX13_bits cX13_bits 6 none 8 191 [vO 54, vI x1, vI x2] s none out [] := by
  unfold f_X13_bits at h
  refine VC.of RX13 (by decide) rfl (Nat.le_of_ble_eq_true rfl) ?_
  show VW cX13_bits (RX13, none, out, none, 8, 191, 6, []) (P0 []) s 0 [(0, vO 54), (1, vI x1), (2, vI x2)] []
  refine v_aload_n dX13_bits_0 0 rfl rfl ?_
  refine v_getS (f := 22) (t := 75) cf13 oc54 rfl rfl rfl (by decide) q792 dX13_bits_1 ?_
  obtain ⟨s1, e2, h⟩ := bdv_some h
  have k3 := c_X2_clear e2 (⟨by decide, rfl⟩ : okB 75 1)
  refine v_callV (st := []) cf2 oc75 k3 (lw_V q2144 q1055 q1056 q299 q1057) rfl yk_X2_clear ⟨Nat.le_of_ble_eq_true rfl, Nat.le_of_ble_eq_true rfl⟩ trivial ⟨kc54, trivial⟩ (Nat.le_of_ble_eq_true rfl) rfl dX13_bits_4 ?_
  refine v_aload_n dX13_bits_7 0 rfl rfl ?_
  refine v_getS (f := 22) (t := 75) cf13 oc54 rfl rfl rfl (by decide) q792 dX13_bits_8 ?_
  refine v_iconst dX13_bits_11 ?_
  obtain ⟨s4, e5, h⟩ := bdv_some h
  have k6 := c_X2_add e5 (⟨by decide, rfl⟩ : okB 75 1) (rgl rfl)
  refine v_callV (st := []) cf2 oc75 k6 (lw_V q2216 q1003 q1004 q299 q1005) rfl yk_X2_add ⟨Nat.le_of_ble_eq_true rfl, Nat.le_of_ble_eq_true rfl⟩ trivial ⟨kc54, trivial⟩ (Nat.le_of_ble_eq_true rfl) rfl dX13_bits_12 ?_
  refine v_iconst dX13_bits_15 ?_
  refine v_istore_n (L1 := [(3, vI (-1)), (0, vO 54), (1, vI x1), (2, vI x2)]) dX13_bits_16 rfl (by decide) rfl ?_
  refine v_aload_n dX13_bits_17 1 rfl rfl ?_
  obtain ⟨g7, h⟩ := gd_some h
  refine v_getR (f := 5) cf13 oc54 rfl (by rw [g7]; decide) (by decide) q775 dX13_bits_18 ?_
  rw [g7]
  refine v_iload_n dX13_bits_21 2 rfl rfl ?_
  obtain ⟨r11, s8, e9, h⟩ := bd_some h
  have k10 := c_X12_hasParts e9 rx1
  have r12 : rg r11 := k10.1.2.2
  refine v_callV (st := []) cf12 oc44 k10 (lw_V q2187 q2188 q2189 q309 q2190) rfl yk_X12_hasParts ⟨Nat.le_of_ble_eq_true rfl, Nat.le_of_ble_eq_true rfl⟩ trivial ⟨kc54, trivial⟩ (Nat.le_of_ble_eq_true rfl) rfl dX13_bits_22 ?_
  refine v_if_eq (tgt := 39) dX13_bits_25 r12 (by decide) (fun c13 => ?_) (fun c13 => ?_)
  · rw [if_pos c13] at h
    refine v_iload_n dX13_bits_39 2 rfl rfl ?_
    refine v_iconst dX13_bits_40 ?_
    refine v_iadd dX13_bits_41 ?_
    refine v_sub [1, 2, 3, 0] (L1 := [(0, vO 54), (1, vI x1), (2, vI x2), (3, vI (-1))]) rfl ?_
    exact wj_X13_bits_42 h rx1 rx2 (rgl rfl) (w32_rg _)
  · rw [if_neg c13] at h
    refine v_aload_n dX13_bits_28 1 rfl rfl ?_
    obtain ⟨g14, h⟩ := gd_some h
    refine v_getR (f := 5) cf13 oc54 rfl (by rw [g14]; decide) (by decide) q775 dX13_bits_29 ?_
    rw [g14]
    refine v_iload_n dX13_bits_32 2 rfl rfl ?_
    obtain ⟨r18, s15, e16, h⟩ := bd_some h
    have k17 := c_X12_behind e16 rx1
    have r19 : rg r18 := k17.1.2.2
    refine v_callV (st := []) cf12 oc44 k17 (lw_V q2222 q2223 q2224 q309 q2225) rfl yk_X12_behind ⟨Nat.le_of_ble_eq_true rfl, Nat.le_of_ble_eq_true rfl⟩ trivial ⟨kc54, trivial⟩ (Nat.le_of_ble_eq_true rfl) rfl dX13_bits_33 ?_
    refine v_goto (tgt := 42) dX13_bits_36 (by decide) ?_
    refine v_sub [1, 2, 3, 0] (L1 := [(0, vO 54), (1, vI x1), (2, vI x2), (3, vI (-1))]) rfl ?_
    exact wj_X13_bits_42 h rx1 rx2 (rgl rfl) r19

def f_X11_characters (o : Nat) (s : vS) : Option (Int × vS) :=
  some (gI s o 1, s)
theorem yk_X11_characters : yOk yX11_characters 0 := ⟨by decide, by decide, by decide +kernel⟩
theorem c_X11_characters {o : Nat} {s : vS} {out : Int × vS} (h : f_X11_characters o s = some out) (ho : okB o 10)  : VC yX11_characters cX11_characters 1 (some .int) 0 0 [vO o] s (some (vI out.1)) out.2 [] := by
  unfold f_X11_characters at h
  refine VC.of RX11 (by decide) rfl (Nat.le_of_ble_eq_true rfl) ?_
  show VW cX11_characters (RX11, (some (vI out.1)), out.2, (some .int), 0, 0, 1, []) (P0 []) s 0 [(0, vO o)] []
  refine v_aload_n dX11_characters_0 0 rfl rfl ?_
  refine v_getI (f := 1) cf11 (okB_ok ho) rfl (by decide) q615 dX11_characters_1 ?_
  cases h
  exact v_iret (gI_rg _ _ _) dX11_characters_4

def j_X13_string_182 (x1 : Int) (zo1 : Nat) (z2 : Int) (z3 : Int) (z4 : Int) (s : vS) : Option (vS) :=
  bd (f_X8_read 58 zo1 z2 z3 z4 73 s) fun r4 s1 =>
  if r4 = 0 then
    some s1
  else
    bd (f_X13_wrong r4 x1 s1) fun r10 s7 =>
    some s7
theorem wj_X13_string_182 {x1 : Int} {zo1 : Nat} {z2 : Int} {z3 : Int} {z4 : Int} {s : vS} {out : vS} (h : j_X13_string_182 x1 zo1 z2 z3 z4 s = some out)  (rx1 : rg x1) (hzo1 : okB zo1 1) (rz2 : rg z2) (rz3 : rg z3) (rz4 : rg z4) : VW cX13_string (RX13, none, out, none, 7, 162, 8, []) (P0 []) s 182 [(0, vO 54), (1, vI x1)] [vI z4, vI z3, vI z2, vO zo1, vO 58] := by
  unfold j_X13_string_182 at h
  refine v_aload_n dX13_string_182 0 rfl rfl ?_
  refine v_getS (f := 21) (t := 73) cf13 oc54 rfl rfl rfl (by decide) q791 dX13_string_183 ?_
  obtain ⟨r4, s1, e2, h⟩ := bd_some h
  have k3 := c_X8_read e2 (⟨by decide, rfl⟩ : okB 58 7) hzo1 (⟨by decide, rfl⟩ : okB 73 1) rz2 rz3 rz4
  have r5 : rg r4 := k3.1.2.2
  refine v_callV (st := []) cf8 oc58 k3 (lw_V q2237 q1859 q1860 q305 q1861) rfl yk_X8_read ⟨Nat.le_of_ble_eq_true rfl, Nat.le_of_ble_eq_true rfl⟩ trivial ⟨kc54, trivial⟩ (Nat.le_of_ble_eq_true rfl) rfl dX13_string_186 ?_
  refine v_istore (L1 := [(7, vI r4), (0, vO 54), (1, vI x1)]) dX13_string_189 (by decide) rfl ?_
  refine v_iload dX13_string_191 0 rfl ?_
  refine v_if_eq (tgt := 204) dX13_string_193 r5 (by decide) (fun c6 => ?_) (fun c6 => ?_)
  · rw [if_pos c6] at h
    refine v_goto (tgt := 277) dX13_string_204 (by decide) ?_
    cases h
    exact v_vret dX13_string_277
  · rw [if_neg c6] at h
    refine v_aload_n dX13_string_196 1 rfl rfl ?_
    refine v_iload dX13_string_197 0 rfl ?_
    refine v_iload_n dX13_string_199 2 rfl rfl ?_
    obtain ⟨r10, s7, e8, h⟩ := bd_some h
    have k9 := c_X13_wrong e8 r5 rx1
    have r11 : rg r10 := k9.1.2.2
    refine v_callV (st := []) cf13 oc54 k9 (lw_V q2158 q2160 qs128 q310 q2161) rfl yk_X13_wrong ⟨Nat.le_of_ble_eq_true rfl, Nat.le_of_ble_eq_true rfl⟩ trivial ⟨kc54, trivial⟩ (Nat.le_of_ble_eq_true rfl) rfl dX13_string_200 ?_
    refine v_popI dX13_string_203 ?_
    refine v_goto (tgt := 277) dX13_string_204 (by decide) ?_
    cases h
    exact v_vret dX13_string_277

def j_X13_string_161 (x1 : Int) (x2 : Int) (u4 : Nat) (x5 : Int) (x6 : Int) (s : vS) : Option (vS) :=
  if x2 = 11 then
    j_X13_string_182 x1 u4 x5 x6 1 s
  else
    j_X13_string_182 x1 u4 x5 x6 0 s
theorem wj_X13_string_161 {x1 : Int} {x2 : Int} {u4 : Nat} {x5 : Int} {x6 : Int} {s : vS} {out : vS} (h : j_X13_string_161 x1 x2 u4 x5 x6 s = some out)  (rx1 : rg x1) (rx2 : rg x2) (hu4 : okB u4 1) (rx5 : rg x5) (rx6 : rg x6) : VW cX13_string (RX13, none, out, none, 7, 162, 8, []) (P0 []) s 161 [(0, vO 54), (1, vI x1), (2, vI x2), (4, vO u4), (5, vI x5), (6, vI x6)] [] := by
  unfold j_X13_string_161 at h
  refine v_aload_n dX13_string_161 0 rfl rfl ?_
  refine v_getS (f := 3) (t := 58) cf13 oc54 rfl rfl rfl (by decide) q773 dX13_string_162 ?_
  refine v_aload dX13_string_165 3 rfl ?_
  refine v_iload dX13_string_167 4 rfl ?_
  refine v_iload dX13_string_169 5 rfl ?_
  refine v_iload_n dX13_string_171 2 rfl rfl ?_
  refine v_bipush dX13_string_172 rfl ?_
  refine v_icmp_ne (tgt := 181) dX13_string_174 rx2 (rgl rfl) (by decide) (fun c1 => ?_) (fun c1 => ?_)
  · rw [if_neg c1] at h
    refine v_iconst dX13_string_181 ?_
    refine v_sub [0, 1] (L1 := [(0, vO 54), (1, vI x1)]) rfl ?_
    exact wj_X13_string_182 h rx1 hu4 rx5 rx6 (rgl rfl)
  · rw [if_pos c1] at h
    refine v_iconst dX13_string_177 ?_
    refine v_goto (tgt := 182) dX13_string_178 (by decide) ?_
    refine v_sub [0, 1] (L1 := [(0, vO 54), (1, vI x1)]) rfl ?_
    exact wj_X13_string_182 h rx1 hu4 rx5 rx6 (rgl rfl)

def j_X13_string_149 (x1 : Int) (x2 : Int) (x3 : Int) (u4 : Nat) (x5 : Int) (x6 : Int) (s : vS) : Option (vS) :=
  if x2 = 10 then
    j_X13_string_161 x1 x2 u4 x5 x6 s
  else
    if x2 = 11 then
      j_X13_string_161 x1 x2 u4 x5 x6 s
    else
      bd (f_X11_isString 55 x2 u4 x5 x6 s) fun r6 s3 =>
      if r6 = 0 then
        bd (f_X13_wrong 17 x1 s3) fun r31 s28 =>
        some s28
      else
        bd (f_X11_characters 55 s3) fun r12 s9 =>
        bd (f_X6_isSize x3 r12 s9) fun r17 s14 =>
        if r17 = 0 then
          bd (f_X13_wrong 22 x1 s14) fun r26 s23 =>
          some s23
        else
          bdv (f_X2_all 73 u4 x5 x6 s14) fun s20 =>
          some s20
theorem wj_X13_string_149 {x1 : Int} {x2 : Int} {x3 : Int} {u4 : Nat} {x5 : Int} {x6 : Int} {s : vS} {out : vS} (h : j_X13_string_149 x1 x2 x3 u4 x5 x6 s = some out)  (rx1 : rg x1) (rx2 : rg x2) (rx3 : rg x3) (hu4 : okB u4 1) (rx5 : rg x5) (rx6 : rg x6) : VW cX13_string (RX13, none, out, none, 7, 162, 8, []) (P0 []) s 149 [(0, vO 54), (1, vI x1), (2, vI x2), (3, vI x3), (4, vO u4), (5, vI x5), (6, vI x6)] [] := by
  unfold j_X13_string_149 at h
  refine v_iload_n dX13_string_149 2 rfl rfl ?_
  refine v_bipush dX13_string_150 rfl ?_
  refine v_icmp_eq (tgt := 161) dX13_string_152 rx2 (rgl rfl) (by decide) (fun c1 => ?_) (fun c1 => ?_)
  · rw [if_pos c1] at h
    refine v_sub [0, 1, 2, 4, 5, 6] (L1 := [(0, vO 54), (1, vI x1), (2, vI x2), (4, vO u4), (5, vI x5), (6, vI x6)]) rfl ?_
    exact wj_X13_string_161 h rx1 rx2 hu4 rx5 rx6
  · rw [if_neg c1] at h
    refine v_iload_n dX13_string_155 2 rfl rfl ?_
    refine v_bipush dX13_string_156 rfl ?_
    refine v_icmp_ne (tgt := 207) dX13_string_158 rx2 (rgl rfl) (by decide) (fun c2 => ?_) (fun c2 => ?_)
    · rw [if_neg c2] at h
      refine v_aload_n dX13_string_207 0 rfl rfl ?_
      refine v_getS (f := 2) (t := 55) cf13 oc54 rfl rfl rfl (by decide) q772 dX13_string_208 ?_
      refine v_iload_n dX13_string_211 2 rfl rfl ?_
      refine v_aload dX13_string_212 4 rfl ?_
      refine v_iload dX13_string_214 5 rfl ?_
      refine v_iload dX13_string_216 6 rfl ?_
      obtain ⟨r6, s3, e4, h⟩ := bd_some h
      have k5 := c_X11_isString e4 (⟨by decide, rfl⟩ : okB 55 10) hu4 rx2 rx5 rx6
      have r7 : rg r6 := k5.1.2.2
      refine v_callV (st := []) cf11 oc55 k5 (lw_V q2238 q1910 q1911 q308 q1912) rfl yk_X11_isString ⟨Nat.le_of_ble_eq_true rfl, Nat.le_of_ble_eq_true rfl⟩ trivial ⟨kc54, (okB_kp hu4 (by decide)), trivial⟩ (Nat.le_of_ble_eq_true rfl) rfl dX13_string_218 ?_
      refine v_if_ne (tgt := 235) dX13_string_221 r7 (by decide) (fun c8 => ?_) (fun c8 => ?_)
      · rw [if_neg c8] at h
        refine v_aload_n dX13_string_235 0 rfl rfl ?_
        refine v_getS (f := 1) (t := 13) cf13 oc54 rfl rfl rfl (by decide) q771 dX13_string_236 ?_
        refine v_iload_n dX13_string_239 3 rfl rfl ?_
        refine v_aload_n dX13_string_240 0 rfl rfl ?_
        refine v_getS (f := 2) (t := 55) cf13 oc54 rfl rfl rfl (by decide) q772 dX13_string_241 ?_
        obtain ⟨r12, s9, e10, h⟩ := bd_some h
        have k11 := c_X11_characters e10 (⟨by decide, rfl⟩ : okB 55 10)
        have r13 : rg r12 := k11.1.2.2
        refine v_callV (st := [vI x3, vO 13]) cf11 oc55 k11 (lw_V q2239 q2240 q2241 q308 q2242) rfl yk_X11_characters ⟨Nat.le_of_ble_eq_true rfl, Nat.le_of_ble_eq_true rfl⟩ ⟨kc13, trivial⟩ ⟨kc54, (okB_kp hu4 (by decide)), trivial⟩ (Nat.le_of_ble_eq_true rfl) rfl dX13_string_244 ?_
        obtain ⟨r17, s14, e15, h⟩ := bd_some h
        have k16 := c_X6_isSize e15 rx3 r13
        have r18 : rg r17 := k16.1.2.2
        refine v_callV (st := []) cf6 oc13 k16 (lw_V q2243 q1749 q1750 q303 q1751) rfl yk_X6_isSize ⟨Nat.le_of_ble_eq_true rfl, Nat.le_of_ble_eq_true rfl⟩ trivial ⟨kc54, (okB_kp hu4 (by decide)), trivial⟩ (Nat.le_of_ble_eq_true rfl) rfl dX13_string_247 ?_
        refine v_if_ne (tgt := 264) dX13_string_250 r18 (by decide) (fun c19 => ?_) (fun c19 => ?_)
        · rw [if_neg c19] at h
          refine v_aload_n dX13_string_264 0 rfl rfl ?_
          refine v_getS (f := 21) (t := 73) cf13 oc54 rfl rfl rfl (by decide) q791 dX13_string_265 ?_
          refine v_aload dX13_string_268 4 rfl ?_
          refine v_iload dX13_string_270 5 rfl ?_
          refine v_iload dX13_string_272 6 rfl ?_
          obtain ⟨s20, e21, h⟩ := bdv_some h
          have k22 := c_X2_all e21 (⟨by decide, rfl⟩ : okB 73 1) hu4 rx5 rx6
          refine v_callV (st := []) cf2 oc73 k22 (lw_V q2217 q1059 q1060 q299 q1061) rfl yk_X2_all ⟨Nat.le_of_ble_eq_true rfl, Nat.le_of_ble_eq_true rfl⟩ trivial ⟨kc54, (okB_kp hu4 (by decide)), trivial⟩ (Nat.le_of_ble_eq_true rfl) rfl dX13_string_274 ?_
          cases h
          exact v_vret dX13_string_277
        · rw [if_pos c19] at h
          refine v_aload_n dX13_string_253 0 rfl rfl ?_
          refine v_bipush dX13_string_254 rfl ?_
          refine v_iload_n dX13_string_256 1 rfl rfl ?_
          obtain ⟨r26, s23, e24, h⟩ := bd_some h
          have k25 := c_X13_wrong e24 (rgl rfl) rx1
          have r27 : rg r26 := k25.1.2.2
          refine v_callV (st := []) cf13 oc54 k25 (lw_V q2158 q2160 qs128 q310 q2161) rfl yk_X13_wrong ⟨Nat.le_of_ble_eq_true rfl, Nat.le_of_ble_eq_true rfl⟩ trivial ⟨kc54, (okB_kp hu4 (by decide)), trivial⟩ (Nat.le_of_ble_eq_true rfl) rfl dX13_string_257 ?_
          refine v_popI dX13_string_260 ?_
          refine v_goto (tgt := 277) dX13_string_261 (by decide) ?_
          cases h
          exact v_vret dX13_string_277
      · rw [if_pos c8] at h
        refine v_aload_n dX13_string_224 0 rfl rfl ?_
        refine v_bipush dX13_string_225 rfl ?_
        refine v_iload_n dX13_string_227 1 rfl rfl ?_
        obtain ⟨r31, s28, e29, h⟩ := bd_some h
        have k30 := c_X13_wrong e29 (rgl rfl) rx1
        have r32 : rg r31 := k30.1.2.2
        refine v_callV (st := []) cf13 oc54 k30 (lw_V q2158 q2160 qs128 q310 q2161) rfl yk_X13_wrong ⟨Nat.le_of_ble_eq_true rfl, Nat.le_of_ble_eq_true rfl⟩ trivial ⟨kc54, (okB_kp hu4 (by decide)), trivial⟩ (Nat.le_of_ble_eq_true rfl) rfl dX13_string_228 ?_
        refine v_popI dX13_string_231 ?_
        refine v_goto (tgt := 277) dX13_string_232 (by decide) ?_
        cases h
        exact v_vret dX13_string_277
    · rw [if_pos c2] at h
      refine v_sub [0, 1, 2, 4, 5, 6] (L1 := [(0, vO 54), (1, vI x1), (2, vI x2), (4, vO u4), (5, vI x5), (6, vI x6)]) rfl ?_
      exact wj_X13_string_161 h rx1 rx2 hu4 rx5 rx6

def E_X13_string_49 (x1 : Int) (x2 : Int) (x3 : Int) (rv : Option vA) (σo : vS) (q : (vS) ⊕ (vS)) : Prop := (∀ (s' : vS), q = .inl s' → VW cX13_string (RX13, rv, σo, none, 7, 162, 8, []) (P0 []) s' 131 [(0, vO 54), (1, vI x1), (2, vI x2), (3, vI x3)] []) ∧ (∀ (s' : vS), q = .inr s' → rv = none ∧ σo = s')
def l_X13_string_49 : Nat → Int → Int → Int → Int → vS → Option ((vS) ⊕ (vS))
  | 0, _, _, _, _, _ => none
  | n + 1, x1, x2, x3, x7, s =>
    gd (gR s 54 5 = 44) <|
    bd (f_X12_behind x1 s) fun r5 s2 =>
    if r5 ≤ x7 then
      some (.inl s2)
    else
      gd (gR s2 54 5 = 44) <|
      bd (f_X12_tag x7 s2) fun r12 s9 =>
      if r12 = 4 then
        gd (gR s9 54 5 = 44) <|
        bd (f_X12_hasParts x7 s9) fun r19 s16 =>
        if r19 = 0 then
          gd (okB (gR s16 54 4) 1) <|
          gd (gR s16 54 5 = 44) <|
          bd (f_X12_from x7 s16) fun r30 s27 =>
          gd (gR s27 54 5 = 44) <|
          bd (f_X12_to x7 s27) fun r36 s33 =>
          bdv (f_X2_all 75 (gR s16 54 4) r30 r36 s33) fun s38 =>
          vl (w32 (x7 + 1)) fun y41 =>
          l_X13_string_49 n x1 x2 x3 y41 s38
        else
          vl (w32 (x7 + 1)) fun y22 =>
          l_X13_string_49 n x1 x2 x3 y22 s16
      else
        bd (f_X13_wrong 16 x1 s9) fun r47 s44 =>
        some (.inr s44)
theorem wl_X13_string_49 {x1 : Int} {x2 : Int} {x3 : Int} {rv : Option vA} {σo : vS}  (rx1 : rg x1) (rx2 : rg x2) (rx3 : rg x3) : ∀ (n : Nat) (x7 : Int) (s : vS) (q : (vS) ⊕ (vS)), l_X13_string_49 n x1 x2 x3 x7 s = some q → rg x7 → E_X13_string_49 x1 x2 x3 rv σo q → VW cX13_string (RX13, rv, σo, none, 7, 162, 8, []) (P0 []) s 49 [(0, vO 54), (1, vI x1), (2, vI x2), (3, vI x3), (7, vI x7)] [] := by
  intro n
  induction n with
  | zero => intro x7 s q h; cases h
  | succ n ih =>
    intro x7 s q h rx7 hE
    unfold l_X13_string_49 at h
    refine v_iload dX13_string_49 4 rfl ?_
    refine v_aload_n dX13_string_51 0 rfl rfl ?_
    obtain ⟨g1, h⟩ := gd_some h
    refine v_getR (f := 5) cf13 oc54 rfl (by rw [g1]; decide) (by decide) q775 dX13_string_52 ?_
    rw [g1]
    refine v_iload_n dX13_string_55 1 rfl rfl ?_
    obtain ⟨r5, s2, e3, h⟩ := bd_some h
    have k4 := c_X12_behind e3 rx1
    have r6 : rg r5 := k4.1.2.2
    refine v_callV (st := [vI x7]) cf12 oc44 k4 (lw_V q2222 q2223 q2224 q309 q2225) rfl yk_X12_behind ⟨Nat.le_of_ble_eq_true rfl, Nat.le_of_ble_eq_true rfl⟩ trivial ⟨kc54, trivial⟩ (Nat.le_of_ble_eq_true rfl) rfl dX13_string_56 ?_
    refine v_icmp_ge (tgt := 131) dX13_string_59 rx7 r6 (by decide) (fun c7 => ?_) (fun c7 => ?_)
    · rw [if_pos c7] at h
      cases h
      refine v_sub [0, 1, 2, 3] (L1 := [(0, vO 54), (1, vI x1), (2, vI x2), (3, vI x3)]) rfl ?_
      exact hE.1 _ rfl 
    · rw [if_neg c7] at h
      refine v_aload_n dX13_string_62 0 rfl rfl ?_
      obtain ⟨g8, h⟩ := gd_some h
      refine v_getR (f := 5) cf13 oc54 rfl (by rw [g8]; decide) (by decide) q775 dX13_string_63 ?_
      rw [g8]
      refine v_iload dX13_string_66 4 rfl ?_
      obtain ⟨r12, s9, e10, h⟩ := bd_some h
      have k11 := c_X12_tag e10 rx7
      have r13 : rg r12 := k11.1.2.2
      refine v_callV (st := []) cf12 oc44 k11 (lw_V q2145 q2146 q2147 q309 q2148) rfl yk_X12_tag ⟨Nat.le_of_ble_eq_true rfl, Nat.le_of_ble_eq_true rfl⟩ trivial ⟨kc54, trivial⟩ (Nat.le_of_ble_eq_true rfl) rfl dX13_string_68 ?_
      refine v_iconst dX13_string_71 ?_
      refine v_icmp_eq (tgt := 84) dX13_string_72 r13 (rgl rfl) (by decide) (fun c14 => ?_) (fun c14 => ?_)
      · rw [if_pos c14] at h
        refine v_aload_n dX13_string_84 0 rfl rfl ?_
        obtain ⟨g15, h⟩ := gd_some h
        refine v_getR (f := 5) cf13 oc54 rfl (by rw [g15]; decide) (by decide) q775 dX13_string_85 ?_
        rw [g15]
        refine v_iload dX13_string_88 4 rfl ?_
        obtain ⟨r19, s16, e17, h⟩ := bd_some h
        have k18 := c_X12_hasParts e17 rx7
        have r20 : rg r19 := k18.1.2.2
        refine v_callV (st := []) cf12 oc44 k18 (lw_V q2187 q2188 q2189 q309 q2190) rfl yk_X12_hasParts ⟨Nat.le_of_ble_eq_true rfl, Nat.le_of_ble_eq_true rfl⟩ trivial ⟨kc54, trivial⟩ (Nat.le_of_ble_eq_true rfl) rfl dX13_string_90 ?_
        refine v_if_ne (tgt := 125) dX13_string_93 r20 (by decide) (fun c21 => ?_) (fun c21 => ?_)
        · rw [if_neg c21] at h
          obtain ⟨y22, e23, h⟩ := vl_some h
          refine v_iinc (L1 := [(7, vI (w32 (x7 + 1))), (0, vO 54), (1, vI x1), (2, vI x2), (3, vI x3)]) dX13_string_125 4 rfl (by decide) rfl ?_
          rw [← e23]
          have r24 : rg y22 := by rw [e23]; exact w32_rg _
          refine v_goto (tgt := 49) dX13_string_128 (by decide) ?_
          refine v_sub [1, 2, 3, 4, 0] (L1 := [(0, vO 54), (1, vI x1), (2, vI x2), (3, vI x3), (7, vI y22)]) rfl ?_
          exact ih y22 s16 _ h r24 hE
        · rw [if_pos c21] at h
          refine v_aload_n dX13_string_96 0 rfl rfl ?_
          refine v_getS (f := 22) (t := 75) cf13 oc54 rfl rfl rfl (by decide) q792 dX13_string_97 ?_
          refine v_aload_n dX13_string_100 0 rfl rfl ?_
          obtain ⟨g25, h⟩ := gd_some h
          refine v_getR (f := 4) cf13 oc54 rfl (okB_R g25 (by decide) (by decide)) (by decide) q774 dX13_string_101 ?_
          refine v_aload_n dX13_string_104 0 rfl rfl ?_
          obtain ⟨g26, h⟩ := gd_some h
          refine v_getR (f := 5) cf13 oc54 rfl (by rw [g26]; decide) (by decide) q775 dX13_string_105 ?_
          rw [g26]
          refine v_iload dX13_string_108 4 rfl ?_
          obtain ⟨r30, s27, e28, h⟩ := bd_some h
          have k29 := c_X12_from e28 rx7
          have r31 : rg r30 := k29.1.2.2
          refine v_callV (st := [vO (gR s16 54 4), vO 75]) cf12 oc44 k29 (lw_V q2196 q2197 q2198 q309 q2199) rfl yk_X12_from ⟨Nat.le_of_ble_eq_true rfl, Nat.le_of_ble_eq_true rfl⟩ ⟨(okB_kp g25 (by decide)), kc75, trivial⟩ ⟨kc54, trivial⟩ (Nat.le_of_ble_eq_true rfl) rfl dX13_string_110 ?_
          refine v_aload_n dX13_string_113 0 rfl rfl ?_
          obtain ⟨g32, h⟩ := gd_some h
          refine v_getR (f := 5) cf13 oc54 rfl (by rw [g32]; decide) (by decide) q775 dX13_string_114 ?_
          rw [g32]
          refine v_iload dX13_string_117 4 rfl ?_
          obtain ⟨r36, s33, e34, h⟩ := bd_some h
          have k35 := c_X12_to e34 rx7
          have r37 : rg r36 := k35.1.2.2
          refine v_callV (st := [vI r30, vO (gR s16 54 4), vO 75]) cf12 oc44 k35 (lw_V q2200 q2201 q2202 q309 q2203) rfl yk_X12_to ⟨Nat.le_of_ble_eq_true rfl, Nat.le_of_ble_eq_true rfl⟩ ⟨(okB_kp g25 (by decide)), kc75, trivial⟩ ⟨kc54, trivial⟩ (Nat.le_of_ble_eq_true rfl) rfl dX13_string_119 ?_
          obtain ⟨s38, e39, h⟩ := bdv_some h
          have k40 := c_X2_all e39 (⟨by decide, rfl⟩ : okB 75 1) g25 r31 r37
          refine v_callV (st := []) cf2 oc75 k40 (lw_V q2217 q1059 q1060 q299 q1061) rfl yk_X2_all ⟨Nat.le_of_ble_eq_true rfl, Nat.le_of_ble_eq_true rfl⟩ trivial ⟨kc54, trivial⟩ (Nat.le_of_ble_eq_true rfl) rfl dX13_string_122 ?_
          obtain ⟨y41, e42, h⟩ := vl_some h
          refine v_iinc (L1 := [(7, vI (w32 (x7 + 1))), (0, vO 54), (1, vI x1), (2, vI x2), (3, vI x3)]) dX13_string_125 4 rfl (by decide) rfl ?_
          rw [← e42]
          have r43 : rg y41 := by rw [e42]; exact w32_rg _
          refine v_goto (tgt := 49) dX13_string_128 (by decide) ?_
          refine v_sub [1, 2, 3, 4, 0] (L1 := [(0, vO 54), (1, vI x1), (2, vI x2), (3, vI x3), (7, vI y41)]) rfl ?_
          exact ih y41 s38 _ h r43 hE
      · rw [if_neg c14] at h
        refine v_aload_n dX13_string_75 0 rfl rfl ?_
        refine v_bipush dX13_string_76 rfl ?_
        refine v_iload_n dX13_string_78 1 rfl rfl ?_
        obtain ⟨r47, s44, e45, h⟩ := bd_some h
        have k46 := c_X13_wrong e45 (rgl rfl) rx1
        have r48 : rg r47 := k46.1.2.2
        refine v_callV (st := []) cf13 oc54 k46 (lw_V q2158 q2160 qs128 q310 q2161) rfl yk_X13_wrong ⟨Nat.le_of_ble_eq_true rfl, Nat.le_of_ble_eq_true rfl⟩ trivial ⟨kc54, trivial⟩ (Nat.le_of_ble_eq_true rfl) rfl dX13_string_79 ?_
        refine v_popI dX13_string_82 ?_
        cases h
        obtain ⟨z1, z2⟩ := hE.2 _ rfl
        subst z1
        subst z2
        exact v_vret dX13_string_83

def f_X13_string (x1 : Int) (x2 : Int) (x3 : Int) (s : vS) : Option (vS) :=
  gd (okB (gR s 54 4) 1) <|
  gd (gR s 54 5 = 44) <|
  bd (f_X12_from x1 s) fun r6 s3 =>
  gd (gR s3 54 5 = 44) <|
  bd (f_X12_to x1 s3) fun r12 s9 =>
  gd (gR s9 54 5 = 44) <|
  bd (f_X12_hasParts x1 s9) fun r18 s15 =>
  if r18 = 0 then
    j_X13_string_149 x1 x2 x3 (gR s 54 4) r6 r12 s15
  else
    bdv (f_X2_clear 75 s15) fun s21 =>
    vl (w32 (x1 + 1)) fun y24 =>
    lqs_0 (l_X13_string_49 FU x1 x2 x3 y24 s21) (fun s27 =>
      bd (f_X2_size 75 s27) fun r32 s29 =>
      j_X13_string_149 x1 x2 x3 75 0 r32 s29)
      (fun q => some q)
theorem yk_X13_string : yOk yX13_string 3 := ⟨by decide, by decide, by decide +kernel⟩
theorem c_X13_string {x1 : Int} {x2 : Int} {x3 : Int} {s : vS} {out : vS} (h : f_X13_string x1 x2 x3 s = some out)  (rx1 : rg x1) (rx2 : rg x2) (rx3 : rg x3) : VC yX13_string cX13_string 8 none 7 162 [vO 54, vI x1, vI x2, vI x3] s none out [] := by
  unfold f_X13_string at h
  refine VC.of RX13 (by decide) rfl (Nat.le_of_ble_eq_true rfl) ?_
  show VW cX13_string (RX13, none, out, none, 7, 162, 8, []) (P0 []) s 0 [(0, vO 54), (1, vI x1), (2, vI x2), (3, vI x3)] []
  refine v_aload_n dX13_string_0 0 rfl rfl ?_
  obtain ⟨g1, h⟩ := gd_some h
  refine v_getR (f := 4) cf13 oc54 rfl (okB_R g1 (by decide) (by decide)) (by decide) q774 dX13_string_1 ?_
  refine v_astore (L1 := [(4, vO (gR s 54 4)), (0, vO 54), (1, vI x1), (2, vI x2), (3, vI x3)]) dX13_string_4 (by decide) rfl ?_
  refine v_aload_n dX13_string_6 1 rfl rfl ?_
  obtain ⟨g2, h⟩ := gd_some h
  refine v_getR (f := 5) cf13 oc54 rfl (by rw [g2]; decide) (by decide) q775 dX13_string_7 ?_
  rw [g2]
  refine v_iload_n dX13_string_10 2 rfl rfl ?_
  obtain ⟨r6, s3, e4, h⟩ := bd_some h
  have k5 := c_X12_from e4 rx1
  have r7 : rg r6 := k5.1.2.2
  refine v_callV (st := []) cf12 oc44 k5 (lw_V q2196 q2197 q2198 q309 q2199) rfl yk_X12_from ⟨Nat.le_of_ble_eq_true rfl, Nat.le_of_ble_eq_true rfl⟩ trivial ⟨(okB_kp g1 (by decide)), kc54, trivial⟩ (Nat.le_of_ble_eq_true rfl) rfl dX13_string_11 ?_
  refine v_istore (L1 := [(5, vI r6), (4, vO (gR s 54 4)), (0, vO 54), (1, vI x1), (2, vI x2), (3, vI x3)]) dX13_string_14 (by decide) rfl ?_
  refine v_aload_n dX13_string_16 2 rfl rfl ?_
  obtain ⟨g8, h⟩ := gd_some h
  refine v_getR (f := 5) cf13 oc54 rfl (by rw [g8]; decide) (by decide) q775 dX13_string_17 ?_
  rw [g8]
  refine v_iload_n dX13_string_20 3 rfl rfl ?_
  obtain ⟨r12, s9, e10, h⟩ := bd_some h
  have k11 := c_X12_to e10 rx1
  have r13 : rg r12 := k11.1.2.2
  refine v_callV (st := []) cf12 oc44 k11 (lw_V q2200 q2201 q2202 q309 q2203) rfl yk_X12_to ⟨Nat.le_of_ble_eq_true rfl, Nat.le_of_ble_eq_true rfl⟩ trivial ⟨(okB_kp g1 (by decide)), kc54, trivial⟩ (Nat.le_of_ble_eq_true rfl) rfl dX13_string_21 ?_
  refine v_istore (L1 := [(6, vI r12), (5, vI r6), (4, vO (gR s 54 4)), (0, vO 54), (1, vI x1), (2, vI x2), (3, vI x3)]) dX13_string_24 (by decide) rfl ?_
  refine v_aload_n dX13_string_26 3 rfl rfl ?_
  obtain ⟨g14, h⟩ := gd_some h
  refine v_getR (f := 5) cf13 oc54 rfl (by rw [g14]; decide) (by decide) q775 dX13_string_27 ?_
  rw [g14]
  refine v_iload_n dX13_string_30 4 rfl rfl ?_
  obtain ⟨r18, s15, e16, h⟩ := bd_some h
  have k17 := c_X12_hasParts e16 rx1
  have r19 : rg r18 := k17.1.2.2
  refine v_callV (st := []) cf12 oc44 k17 (lw_V q2187 q2188 q2189 q309 q2190) rfl yk_X12_hasParts ⟨Nat.le_of_ble_eq_true rfl, Nat.le_of_ble_eq_true rfl⟩ trivial ⟨(okB_kp g1 (by decide)), kc54, trivial⟩ (Nat.le_of_ble_eq_true rfl) rfl dX13_string_31 ?_
  refine v_if_eq (tgt := 149) dX13_string_34 r19 (by decide) (fun c20 => ?_) (fun c20 => ?_)
  · rw [if_pos c20] at h
    refine v_sub [3, 4, 5, 6, 2, 1, 0] (L1 := [(0, vO 54), (1, vI x1), (2, vI x2), (3, vI x3), (4, vO (gR s 54 4)), (5, vI r6), (6, vI r12)]) rfl ?_
    exact wj_X13_string_149 h rx1 rx2 rx3 g1 r7 r13
  · rw [if_neg c20] at h
    refine v_aload_n dX13_string_37 3 rfl rfl ?_
    refine v_getS (f := 22) (t := 75) cf13 oc54 rfl rfl rfl (by decide) q792 dX13_string_38 ?_
    obtain ⟨s21, e22, h⟩ := bdv_some h
    have k23 := c_X2_clear e22 (⟨by decide, rfl⟩ : okB 75 1)
    refine v_callV (st := []) cf2 oc75 k23 (lw_V q2144 q1055 q1056 q299 q1057) rfl yk_X2_clear ⟨Nat.le_of_ble_eq_true rfl, Nat.le_of_ble_eq_true rfl⟩ trivial ⟨(okB_kp g1 (by decide)), kc54, trivial⟩ (Nat.le_of_ble_eq_true rfl) rfl dX13_string_41 ?_
    refine v_iload_n dX13_string_44 4 rfl rfl ?_
    refine v_iconst dX13_string_45 ?_
    refine v_iadd dX13_string_46 ?_
    obtain ⟨y24, e25, h⟩ := vl_some h
    rw [← e25]
    have r26 : rg y24 := by rw [e25]; exact w32_rg _
    refine v_istore (L1 := [(7, vI y24), (6, vI r12), (5, vI r6), (4, vO (gR s 54 4)), (0, vO 54), (1, vI x1), (2, vI x2), (3, vI x3)]) dX13_string_47 (by decide) rfl ?_
    refine v_sub [4, 5, 6, 7, 0] (L1 := [(0, vO 54), (1, vI x1), (2, vI x2), (3, vI x3), (7, vI y24)]) rfl ?_
    rcases lqs_0_some h with ⟨s27, e28, h⟩ | ⟨q9, e28, h⟩
    · refine wl_X13_string_49 rx1 rx2 rx3 FU y24 s21 _ e28 r26 ?_
      unfold E_X13_string_49
      refine ⟨?_, fun s9 z_ => (by cases z_)⟩
      intro s27' z_
      cases z_
      refine v_aload_n dX13_string_131 0 rfl rfl ?_
      refine v_getS (f := 22) (t := 75) cf13 oc54 rfl rfl rfl (by decide) q792 dX13_string_132 ?_
      refine v_astore (L1 := [(4, vO 75), (0, vO 54), (1, vI x1), (2, vI x2), (3, vI x3)]) dX13_string_135 (by decide) rfl ?_
      refine v_iconst dX13_string_137 ?_
      refine v_istore (L1 := [(5, vI 0), (4, vO 75), (0, vO 54), (1, vI x1), (2, vI x2), (3, vI x3)]) dX13_string_138 (by decide) rfl ?_
      refine v_aload_n dX13_string_140 2 rfl rfl ?_
      refine v_getS (f := 22) (t := 75) cf13 oc54 rfl rfl rfl (by decide) q792 dX13_string_141 ?_
      obtain ⟨r32, s29, e30, h⟩ := bd_some h
      have k31 := c_X2_size e30 (⟨by decide, rfl⟩ : okB 75 1)
      have r33 : rg r32 := k31.1.2.2
      refine v_callV (st := []) cf2 oc75 k31 (lw_V q2191 q918 q919 q299 q920) rfl yk_X2_size ⟨Nat.le_of_ble_eq_true rfl, Nat.le_of_ble_eq_true rfl⟩ trivial ⟨kc75, kc54, trivial⟩ (Nat.le_of_ble_eq_true rfl) rfl dX13_string_144 ?_
      refine v_istore (L1 := [(6, vI r32), (5, vI 0), (4, vO 75), (0, vO 54), (1, vI x1), (2, vI x2), (3, vI x3)]) dX13_string_147 (by decide) rfl ?_
      refine v_sub [3, 4, 5, 6, 2, 1, 0] (L1 := [(0, vO 54), (1, vI x1), (2, vI x2), (3, vI x3), (4, vO 75), (5, vI 0), (6, vI r32)]) rfl ?_
      exact wj_X13_string_149 h rx1 rx2 rx3 (⟨by decide, rfl⟩ : okB 75 1) (rgl rfl) r33
    · cases h
      refine wl_X13_string_49 rx1 rx2 rx3 FU y24 s21 _ e28 r26 ?_
      unfold E_X13_string_49
      refine ⟨fun _ z_ => (by cases z_), ?_⟩
      intro s9 z_
      cases z_
      exact ⟨rfl, rfl⟩

def j_X13_leaf_100 (x1 : Int) (s : vS) : Option (vS) :=
  bd (f_X2_size 73 s) fun r4 s1 =>
  gd (gN s1 66 = gN s 66) <|
  gd (inb x1 (gN s1 65)) <|
  gd (inb x1 (gN s1 66)) <|
  stp (sE s1 66 x1 (w32 (r4 - (gE s1 65 x1)))) fun s9 =>
  some s9
theorem wj_X13_leaf_100 {x1 : Int} {s : vS} {out : vS} (h : j_X13_leaf_100 x1 s = some out)  (rx1 : rg x1) : VW cX13_leaf (RX13, none, out, none, 9, 216, 5, []) (P0 []) s 100 [(0, vO 54), (1, vI x1)] [] := by
  unfold j_X13_leaf_100 at h
  refine v_aload_n dX13_leaf_100 0 rfl rfl ?_
  refine v_getS (f := 13) (t := 66) cf13 oc54 rfl rfl rfl (by decide) q783 dX13_leaf_101 ?_
  refine v_iload_n dX13_leaf_104 1 rfl rfl ?_
  refine v_aload_n dX13_leaf_105 0 rfl rfl ?_
  refine v_getS (f := 21) (t := 73) cf13 oc54 rfl rfl rfl (by decide) q791 dX13_leaf_106 ?_
  obtain ⟨r4, s1, e2, h⟩ := bd_some h
  have k3 := c_X2_size e2 (⟨by decide, rfl⟩ : okB 73 1)
  have r5 : rg r4 := k3.1.2.2
  obtain ⟨g6, h⟩ := gd_some h
  refine v_callV (st := [vI x1, vO 66]) cf2 oc73 k3 (lw_V q2191 q918 q919 q299 q920) rfl yk_X2_size ⟨Nat.le_of_ble_eq_true rfl, Nat.le_of_ble_eq_true rfl⟩ ⟨(kp_arr (by decide) g6), trivial⟩ ⟨kc54, trivial⟩ (Nat.le_of_ble_eq_true rfl) rfl dX13_leaf_109 ?_
  refine v_aload_n dX13_leaf_112 0 rfl rfl ?_
  refine v_getS (f := 12) (t := 65) cf13 oc54 rfl rfl rfl (by decide) q782 dX13_leaf_113 ?_
  refine v_iload_n dX13_leaf_116 1 rfl rfl ?_
  obtain ⟨g7, h⟩ := gd_some h
  refine v_iald oc65 rx1 g7.1 g7.2 dX13_leaf_117 ?_
  refine v_isub dX13_leaf_118 ?_
  obtain ⟨g8, h⟩ := gd_some h
  obtain ⟨s9, e10, h⟩ := stp_some h
  refine v_iast oc66 rx1 g8.1 g8.2 dX13_leaf_119 ?_
  rw [← e10]
  cases h
  exact v_vret dX13_leaf_120

def j_X13_leaf_41 (x1 : Int) (x2 : Int) (x3 : Int) (s : vS) : Option (vS) :=
  bd (f_X2_size 73 s) fun r4 s1 =>
  gd (gN s1 65 = gN s 65) <|
  gd (inb x1 (gN s1 65)) <|
  stp (sE s1 65 x1 r4) fun s8 =>
  gd (inb x1 (gN s8 61)) <|
  vl (gE s8 61 x1) fun y11 =>
  if x3 = 0 then
    if x2 = 4 then
      bdv (f_X13_bits x1 y11 s8) fun s19 =>
      j_X13_leaf_100 x1 s19
    else
      bdv (f_X13_string x1 x2 y11 s8) fun s16 =>
      j_X13_leaf_100 x1 s16
  else
    bdv (f_X13_plain x1 x2 y11 s8) fun s22 =>
    j_X13_leaf_100 x1 s22
theorem wj_X13_leaf_41 {x1 : Int} {x2 : Int} {x3 : Int} {s : vS} {out : vS} (h : j_X13_leaf_41 x1 x2 x3 s = some out)  (rx1 : rg x1) (rx2 : rg x2) (rx3 : rg x3) : VW cX13_leaf (RX13, none, out, none, 9, 216, 5, []) (P0 []) s 41 [(0, vO 54), (1, vI x1), (2, vI x2), (3, vI x3)] [] := by
  unfold j_X13_leaf_41 at h
  refine v_aload_n dX13_leaf_41 0 rfl rfl ?_
  refine v_getS (f := 12) (t := 65) cf13 oc54 rfl rfl rfl (by decide) q782 dX13_leaf_42 ?_
  refine v_iload_n dX13_leaf_45 1 rfl rfl ?_
  refine v_aload_n dX13_leaf_46 0 rfl rfl ?_
  refine v_getS (f := 21) (t := 73) cf13 oc54 rfl rfl rfl (by decide) q791 dX13_leaf_47 ?_
  obtain ⟨r4, s1, e2, h⟩ := bd_some h
  have k3 := c_X2_size e2 (⟨by decide, rfl⟩ : okB 73 1)
  have r5 : rg r4 := k3.1.2.2
  obtain ⟨g6, h⟩ := gd_some h
  refine v_callV (st := [vI x1, vO 65]) cf2 oc73 k3 (lw_V q2191 q918 q919 q299 q920) rfl yk_X2_size ⟨Nat.le_of_ble_eq_true rfl, Nat.le_of_ble_eq_true rfl⟩ ⟨(kp_arr (by decide) g6), trivial⟩ ⟨kc54, trivial⟩ (Nat.le_of_ble_eq_true rfl) rfl dX13_leaf_50 ?_
  obtain ⟨g7, h⟩ := gd_some h
  obtain ⟨s8, e9, h⟩ := stp_some h
  refine v_iast oc65 rx1 g7.1 g7.2 dX13_leaf_53 ?_
  rw [← e9]
  refine v_aload_n dX13_leaf_54 0 rfl rfl ?_
  refine v_getS (f := 8) (t := 61) cf13 oc54 rfl rfl rfl (by decide) q778 dX13_leaf_55 ?_
  refine v_iload_n dX13_leaf_58 1 rfl rfl ?_
  obtain ⟨g10, h⟩ := gd_some h
  refine v_iald oc61 rx1 g10.1 g10.2 dX13_leaf_59 ?_
  obtain ⟨y11, e12, h⟩ := vl_some h
  rw [← e12]
  have r13 : rg y11 := by rw [e12]; exact gE_rg _ _ _
  refine v_istore (L1 := [(4, vI y11), (0, vO 54), (1, vI x1), (2, vI x2), (3, vI x3)]) dX13_leaf_60 (by decide) rfl ?_
  refine v_iload_n dX13_leaf_62 4 rfl rfl ?_
  refine v_if_eq (tgt := 77) dX13_leaf_63 rx3 (by decide) (fun c14 => ?_) (fun c14 => ?_)
  · rw [if_pos c14] at h
    refine v_iload_n dX13_leaf_77 3 rfl rfl ?_
    refine v_iconst dX13_leaf_78 ?_
    refine v_icmp_ne (tgt := 92) dX13_leaf_79 rx2 (rgl rfl) (by decide) (fun c15 => ?_) (fun c15 => ?_)
    · rw [if_neg c15] at h
      refine v_aload_n dX13_leaf_92 1 rfl rfl ?_
      refine v_iload_n dX13_leaf_93 2 rfl rfl ?_
      refine v_iload_n dX13_leaf_94 3 rfl rfl ?_
      refine v_iload dX13_leaf_95 0 rfl ?_
      obtain ⟨s16, e17, h⟩ := bdv_some h
      have k18 := c_X13_string e17 rx1 rx2 r13
      refine v_callV (st := []) cf13 oc54 k18 (lw_V q2233 q2235 qs137 q310 q2236) rfl yk_X13_string ⟨Nat.le_of_ble_eq_true rfl, Nat.le_of_ble_eq_true rfl⟩ trivial ⟨kc54, trivial⟩ (Nat.le_of_ble_eq_true rfl) rfl dX13_leaf_97 ?_
      refine v_sub [1, 2] (L1 := [(0, vO 54), (1, vI x1)]) rfl ?_
      exact wj_X13_leaf_100 h rx1
    · rw [if_pos c15] at h
      refine v_aload_n dX13_leaf_82 1 rfl rfl ?_
      refine v_iload_n dX13_leaf_83 2 rfl rfl ?_
      refine v_iload dX13_leaf_84 0 rfl ?_
      obtain ⟨s19, e20, h⟩ := bdv_some h
      have k21 := c_X13_bits e20 rx1 r13
      refine v_callV (st := []) cf13 oc54 k21 (lw_V q2218 q2220 qs135 q310 q2221) rfl yk_X13_bits ⟨Nat.le_of_ble_eq_true rfl, Nat.le_of_ble_eq_true rfl⟩ trivial ⟨kc54, trivial⟩ (Nat.le_of_ble_eq_true rfl) rfl dX13_leaf_86 ?_
      refine v_goto (tgt := 100) dX13_leaf_89 (by decide) ?_
      refine v_sub [1, 2] (L1 := [(0, vO 54), (1, vI x1)]) rfl ?_
      exact wj_X13_leaf_100 h rx1
  · rw [if_neg c14] at h
    refine v_aload_n dX13_leaf_66 1 rfl rfl ?_
    refine v_iload_n dX13_leaf_67 2 rfl rfl ?_
    refine v_iload_n dX13_leaf_68 3 rfl rfl ?_
    refine v_iload dX13_leaf_69 0 rfl ?_
    obtain ⟨s22, e23, h⟩ := bdv_some h
    have k24 := c_X13_plain e23 rx1 rx2 r13
    refine v_callV (st := []) cf13 oc54 k24 (lw_V q2192 q2194 qs134 q310 q2195) rfl yk_X13_plain ⟨Nat.le_of_ble_eq_true rfl, Nat.le_of_ble_eq_true rfl⟩ trivial ⟨kc54, trivial⟩ (Nat.le_of_ble_eq_true rfl) rfl dX13_leaf_71 ?_
    refine v_goto (tgt := 100) dX13_leaf_74 (by decide) ?_
    refine v_sub [1, 2] (L1 := [(0, vO 54), (1, vI x1)]) rfl ?_
    exact wj_X13_leaf_100 h rx1

def j_X13_leaf_16 (x1 : Int) (x2 : Int) (z0 : Int) (s : vS) : Option (vS) :=
  if z0 = 0 then
    j_X13_leaf_41 x1 x2 z0 s
  else
    gd (gR s 54 5 = 44) <|
    bd (f_X12_hasParts x1 s) fun r6 s3 =>
    if r6 = 0 then
      j_X13_leaf_41 x1 x2 z0 s3
    else
      bd (f_X13_wrong 14 x1 s3) fun r12 s9 =>
      some s9
theorem wj_X13_leaf_16 {x1 : Int} {x2 : Int} {z0 : Int} {s : vS} {out : vS} (h : j_X13_leaf_16 x1 x2 z0 s = some out)  (rx1 : rg x1) (rx2 : rg x2) (rz0 : rg z0) : VW cX13_leaf (RX13, none, out, none, 9, 216, 5, []) (P0 []) s 16 [(0, vO 54), (1, vI x1), (2, vI x2)] [vI z0] := by
  unfold j_X13_leaf_16 at h
  refine v_istore_n (L1 := [(3, vI z0), (0, vO 54), (1, vI x1), (2, vI x2)]) dX13_leaf_16 rfl (by decide) rfl ?_
  refine v_iload_n dX13_leaf_17 0 rfl rfl ?_
  refine v_if_eq (tgt := 41) dX13_leaf_18 rz0 (by decide) (fun c1 => ?_) (fun c1 => ?_)
  · rw [if_pos c1] at h
    refine v_sub [1, 2, 3, 0] (L1 := [(0, vO 54), (1, vI x1), (2, vI x2), (3, vI z0)]) rfl ?_
    exact wj_X13_leaf_41 h rx1 rx2 rz0
  · rw [if_neg c1] at h
    refine v_aload_n dX13_leaf_21 1 rfl rfl ?_
    obtain ⟨g2, h⟩ := gd_some h
    refine v_getR (f := 5) cf13 oc54 rfl (by rw [g2]; decide) (by decide) q775 dX13_leaf_22 ?_
    rw [g2]
    refine v_iload_n dX13_leaf_25 2 rfl rfl ?_
    obtain ⟨r6, s3, e4, h⟩ := bd_some h
    have k5 := c_X12_hasParts e4 rx1
    have r7 : rg r6 := k5.1.2.2
    refine v_callV (st := []) cf12 oc44 k5 (lw_V q2187 q2188 q2189 q309 q2190) rfl yk_X12_hasParts ⟨Nat.le_of_ble_eq_true rfl, Nat.le_of_ble_eq_true rfl⟩ trivial ⟨kc54, trivial⟩ (Nat.le_of_ble_eq_true rfl) rfl dX13_leaf_26 ?_
    refine v_if_eq (tgt := 41) dX13_leaf_29 r7 (by decide) (fun c8 => ?_) (fun c8 => ?_)
    · rw [if_pos c8] at h
      refine v_sub [1, 2, 3, 0] (L1 := [(0, vO 54), (1, vI x1), (2, vI x2), (3, vI z0)]) rfl ?_
      exact wj_X13_leaf_41 h rx1 rx2 rz0
    · rw [if_neg c8] at h
      refine v_aload_n dX13_leaf_32 1 rfl rfl ?_
      refine v_bipush dX13_leaf_33 rfl ?_
      refine v_iload_n dX13_leaf_35 2 rfl rfl ?_
      obtain ⟨r12, s9, e10, h⟩ := bd_some h
      have k11 := c_X13_wrong e10 (rgl rfl) rx1
      have r13 : rg r12 := k11.1.2.2
      refine v_callV (st := []) cf13 oc54 k11 (lw_V q2158 q2160 qs128 q310 q2161) rfl yk_X13_wrong ⟨Nat.le_of_ble_eq_true rfl, Nat.le_of_ble_eq_true rfl⟩ trivial ⟨kc54, trivial⟩ (Nat.le_of_ble_eq_true rfl) rfl dX13_leaf_36 ?_
      refine v_popI dX13_leaf_39 ?_
      cases h
      exact v_vret dX13_leaf_40

def f_X13_leaf (x1 : Int) (x2 : Int) (s : vS) : Option (vS) :=
  if x2 < 4 then
    j_X13_leaf_16 x1 x2 1 s
  else
    if x2 = 6 then
      j_X13_leaf_16 x1 x2 1 s
    else
      j_X13_leaf_16 x1 x2 0 s
theorem yk_X13_leaf : yOk yX13_leaf 2 := ⟨by decide, by decide, by decide +kernel⟩
theorem c_X13_leaf {x1 : Int} {x2 : Int} {s : vS} {out : vS} (h : f_X13_leaf x1 x2 s = some out)  (rx1 : rg x1) (rx2 : rg x2) : VC yX13_leaf cX13_leaf 5 none 9 216 [vO 54, vI x1, vI x2] s none out [] := by
  unfold f_X13_leaf at h
  refine VC.of RX13 (by decide) rfl (Nat.le_of_ble_eq_true rfl) ?_
  show VW cX13_leaf (RX13, none, out, none, 9, 216, 5, []) (P0 []) s 0 [(0, vO 54), (1, vI x1), (2, vI x2)] []
  refine v_iload_n dX13_leaf_0 2 rfl rfl ?_
  refine v_iconst dX13_leaf_1 ?_
  refine v_icmp_lt (tgt := 11) dX13_leaf_2 rx2 (rgl rfl) (by decide) (fun c1 => ?_) (fun c1 => ?_)
  · rw [if_pos c1] at h
    refine v_iconst dX13_leaf_11 ?_
    refine v_goto (tgt := 16) dX13_leaf_12 (by decide) ?_
    exact wj_X13_leaf_16 h rx1 rx2 (rgl rfl)
  · rw [if_neg c1] at h
    refine v_iload_n dX13_leaf_5 2 rfl rfl ?_
    refine v_bipush dX13_leaf_6 rfl ?_
    refine v_icmp_ne (tgt := 15) dX13_leaf_8 rx2 (rgl rfl) (by decide) (fun c2 => ?_) (fun c2 => ?_)
    · rw [if_neg c2] at h
      refine v_iconst dX13_leaf_15 ?_
      exact wj_X13_leaf_16 h rx1 rx2 (rgl rfl)
    · rw [if_pos c2] at h
      refine v_iconst dX13_leaf_11 ?_
      refine v_goto (tgt := 16) dX13_leaf_12 (by decide) ?_
      exact wj_X13_leaf_16 h rx1 rx2 (rgl rfl)

def E_X13_enter_104 (x1 : Int) (x2 : Int) (x4 : Int) (rv : Option vA) (σo : vS) (q : Int × vS) : Prop := ∀ (x5' : Int) (s' : vS), q = (x5', s') → rg x5' → VW cX13_enter (RX13, rv, σo, none, 2, 48, 8, []) (P0 []) s' 127 [(0, vO 54), (1, vI x1), (2, vI x2), (4, vI x4), (5, vI x5')] []
def l_X13_enter_104 : Nat → Int → Int → Int → Int → Int → vS → Option (Int × vS)
  | 0, _, _, _, _, _, _ => none
  | n + 1, x1, x2, x4, x5, x6, s =>
    if x6 = (-1) then
      some (x5, s)
    else
      vl (w32 (x5 + 1)) fun y2 =>
      bd (f_X4_next x6 s) fun r8 s5 =>
      l_X13_enter_104 n x1 x2 x4 y2 r8 s5
theorem wl_X13_enter_104 {x1 : Int} {x2 : Int} {x4 : Int} {rv : Option vA} {σo : vS}  (rx1 : rg x1) (rx2 : rg x2) (rx4 : rg x4) : ∀ (n : Nat) (x5 : Int) (x6 : Int) (s : vS) (q : Int × vS), l_X13_enter_104 n x1 x2 x4 x5 x6 s = some q → rg x5 → rg x6 → E_X13_enter_104 x1 x2 x4 rv σo q → VW cX13_enter (RX13, rv, σo, none, 2, 48, 8, []) (P0 []) s 104 [(0, vO 54), (1, vI x1), (2, vI x2), (4, vI x4), (5, vI x5), (6, vI x6)] [] := by
  intro n
  induction n with
  | zero => intro x5 x6 s q h; cases h
  | succ n ih =>
    intro x5 x6 s q h rx5 rx6 hE
    unfold l_X13_enter_104 at h
    refine v_iload dX13_enter_104 5 rfl ?_
    refine v_iconst dX13_enter_106 ?_
    refine v_icmp_eq (tgt := 127) dX13_enter_107 rx6 (rgl rfl) (by decide) (fun c1 => ?_) (fun c1 => ?_)
    · rw [if_pos c1] at h
      cases h
      refine v_sub [0, 1, 2, 3, 4] (L1 := [(0, vO 54), (1, vI x1), (2, vI x2), (4, vI x4), (5, vI x5)]) rfl ?_
      exact hE _ _ rfl rx5
    · rw [if_neg c1] at h
      obtain ⟨y2, e3, h⟩ := vl_some h
      refine v_iinc (L1 := [(5, vI (w32 (x5 + 1))), (0, vO 54), (1, vI x1), (2, vI x2), (4, vI x4), (6, vI x6)]) dX13_enter_110 4 rfl (by decide) rfl ?_
      rw [← e3]
      have r4 : rg y2 := by rw [e3]; exact w32_rg _
      refine v_aload_n dX13_enter_113 1 rfl rfl ?_
      refine v_getS (f := 0) (t := 10) cf13 oc54 rfl rfl rfl (by decide) q770 dX13_enter_114 ?_
      refine v_iload dX13_enter_117 5 rfl ?_
      obtain ⟨r8, s5, e6, h⟩ := bd_some h
      have k7 := c_X4_next e6 rx6
      have r9 : rg r8 := k7.1.2.2
      refine v_callV (st := []) cf4 oc10 k7 (lw_V q2157 q1404 q1405 q301 q1406) rfl yk_X4_next ⟨Nat.le_of_ble_eq_true rfl, Nat.le_of_ble_eq_true rfl⟩ trivial ⟨kc54, trivial⟩ (Nat.le_of_ble_eq_true rfl) rfl dX13_enter_119 ?_
      refine v_istore (L1 := [(6, vI r8), (5, vI y2), (0, vO 54), (1, vI x1), (2, vI x2), (4, vI x4)]) dX13_enter_122 (by decide) rfl ?_
      refine v_goto (tgt := 104) dX13_enter_124 (by decide) ?_
      refine v_sub [2, 3, 4, 5, 1, 0] (L1 := [(0, vO 54), (1, vI x1), (2, vI x2), (4, vI x4), (5, vI y2), (6, vI r8)]) rfl ?_
      exact ih y2 r8 s5 _ h r4 r9 hE

def E_X13_enter_157 (x1 : Int) (x2 : Int) (x4 : Int) (x6 : Int) (rv : Option vA) (σo : vS) (q : vS) : Prop := ∀ (s' : vS), q = s' → VW cX13_enter (RX13, rv, σo, none, 2, 48, 8, []) (P0 []) s' 178 [(0, vO 54), (1, vI x1), (2, vI x2), (4, vI x4), (6, vI x6)] []
def l_X13_enter_157 : Nat → Int → Int → Int → Int → Int → vS → Option (vS)
  | 0, _, _, _, _, _, _ => none
  | n + 1, x1, x2, x4, x6, x7, s =>
    if x6 ≤ x7 then
      some s
    else
      gd (inb x7 (gN s 71)) <|
      stp (sE s 71 x7 0) fun s3 =>
      vl (w32 (x7 + 1)) fun y5 =>
      l_X13_enter_157 n x1 x2 x4 x6 y5 s3
theorem wl_X13_enter_157 {x1 : Int} {x2 : Int} {x4 : Int} {x6 : Int} {rv : Option vA} {σo : vS}  (rx1 : rg x1) (rx2 : rg x2) (rx4 : rg x4) (rx6 : rg x6) : ∀ (n : Nat) (x7 : Int) (s : vS) (q : vS), l_X13_enter_157 n x1 x2 x4 x6 x7 s = some q → rg x7 → E_X13_enter_157 x1 x2 x4 x6 rv σo q → VW cX13_enter (RX13, rv, σo, none, 2, 48, 8, []) (P0 []) s 157 [(0, vO 54), (1, vI x1), (2, vI x2), (4, vI x4), (6, vI x6), (7, vI x7)] [] := by
  intro n
  induction n with
  | zero => intro x7 s q h; cases h
  | succ n ih =>
    intro x7 s q h rx7 hE
    unfold l_X13_enter_157 at h
    refine v_iload dX13_enter_157 5 rfl ?_
    refine v_iload dX13_enter_159 4 rfl ?_
    refine v_icmp_ge (tgt := 178) dX13_enter_161 rx7 rx6 (by decide) (fun c1 => ?_) (fun c1 => ?_)
    · rw [if_pos c1] at h
      cases h
      refine v_sub [0, 1, 2, 3, 4] (L1 := [(0, vO 54), (1, vI x1), (2, vI x2), (4, vI x4), (6, vI x6)]) rfl ?_
      exact hE _ rfl 
    · rw [if_neg c1] at h
      refine v_aload_n dX13_enter_164 0 rfl rfl ?_
      refine v_getS (f := 19) (t := 71) cf13 oc54 rfl rfl rfl (by decide) q789 dX13_enter_165 ?_
      refine v_iload dX13_enter_168 5 rfl ?_
      refine v_iconst dX13_enter_170 ?_
      obtain ⟨g2, h⟩ := gd_some h
      obtain ⟨s3, e4, h⟩ := stp_some h
      refine v_iast oc71 rx7 g2.1 g2.2 dX13_enter_171 ?_
      rw [← e4]
      obtain ⟨y5, e6, h⟩ := vl_some h
      refine v_iinc (L1 := [(7, vI (w32 (x7 + 1))), (0, vO 54), (1, vI x1), (2, vI x2), (4, vI x4), (6, vI x6)]) dX13_enter_172 5 rfl (by decide) rfl ?_
      rw [← e6]
      have r7 : rg y5 := by rw [e6]; exact w32_rg _
      refine v_goto (tgt := 157) dX13_enter_175 (by decide) ?_
      refine v_sub [1, 2, 3, 4, 5, 0] (L1 := [(0, vO 54), (1, vI x1), (2, vI x2), (4, vI x4), (6, vI x6), (7, vI y5)]) rfl ?_
      exact ih y5 s3 _ h r7 hE

def j_X13_enter_88 (x1 : Int) (x2 : Int) (x3 : Int) (z0 : Int) (s : vS) : Option (vS) :=
  if x3 = 0 then
    lq_1 (l_X13_enter_104 FU x1 x2 z0 0 (-1) s) fun y2 s3 =>
    vl (w32 (z0 + (d32 (w32 (y2 + 31)) 32))) fun y6 =>
    bd (f_X13_grown 71 y6 s3) fun r12 s13 =>
    gd (r12 = 0 ∨ (2 * gN s13 71 ≤ gN s13 199 ∧ 2 ≤ gN s13 199)) <|
    stp (grw s13 71 r12) fun s17 =>
    lq_0 (l_X13_enter_157 FU x1 x2 z0 y6 z0 s17) fun s19 =>
    gd (inb (gI s19 54 18) (gN s19 67)) <|
    stp (sE s19 67 (gI s19 54 18) x1) fun s22 =>
    gd (inb (gI s22 54 18) (gN s22 68)) <|
    stp (sE s22 68 (gI s22 54 18) x2) fun s25 =>
    gd (inb (gI s25 54 18) (gN s25 69)) <|
    stp (sE s25 69 (gI s25 54 18) 0) fun s28 =>
    gd (inb (gI s28 54 18) (gN s28 70)) <|
    stp (sE s28 70 (gI s28 54 18) z0) fun s31 =>
    stp (sI s31 54 18 (w32 ((gI s31 54 18) + 1))) fun s33 =>
    gd (inb (gI s33 54 18) (gN s33 70)) <|
    stp (sE s33 70 (gI s33 54 18) y6) fun s36 =>
    some s36
  else
    lq_1 (l_X13_enter_104 FU x1 x2 z0 0 x2 s) fun y38 s39 =>
    vl (w32 (z0 + (d32 (w32 (y38 + 31)) 32))) fun y42 =>
    bd (f_X13_grown 71 y42 s39) fun r48 s49 =>
    gd (r48 = 0 ∨ (2 * gN s49 71 ≤ gN s49 199 ∧ 2 ≤ gN s49 199)) <|
    stp (grw s49 71 r48) fun s53 =>
    lq_0 (l_X13_enter_157 FU x1 x2 z0 y42 z0 s53) fun s55 =>
    gd (inb (gI s55 54 18) (gN s55 67)) <|
    stp (sE s55 67 (gI s55 54 18) x1) fun s58 =>
    gd (inb (gI s58 54 18) (gN s58 68)) <|
    stp (sE s58 68 (gI s58 54 18) x2) fun s61 =>
    gd (inb (gI s61 54 18) (gN s61 69)) <|
    stp (sE s61 69 (gI s61 54 18) 0) fun s64 =>
    gd (inb (gI s64 54 18) (gN s64 70)) <|
    stp (sE s64 70 (gI s64 54 18) z0) fun s67 =>
    stp (sI s67 54 18 (w32 ((gI s67 54 18) + 1))) fun s69 =>
    gd (inb (gI s69 54 18) (gN s69 70)) <|
    stp (sE s69 70 (gI s69 54 18) y42) fun s72 =>
    some s72
theorem wj_X13_enter_88 {x1 : Int} {x2 : Int} {x3 : Int} {z0 : Int} {s : vS} {out : vS} (h : j_X13_enter_88 x1 x2 x3 z0 s = some out)  (rx1 : rg x1) (rx2 : rg x2) (rx3 : rg x3) (rz0 : rg z0) : VW cX13_enter (RX13, none, out, none, 2, 48, 8, []) (P0 []) s 88 [(0, vO 54), (1, vI x1), (2, vI x2), (3, vI x3)] [vI z0] := by
  unfold j_X13_enter_88 at h
  refine v_istore (L1 := [(4, vI z0), (0, vO 54), (1, vI x1), (2, vI x2), (3, vI x3)]) dX13_enter_88 (by decide) rfl ?_
  refine v_iconst dX13_enter_90 ?_
  refine v_istore (L1 := [(5, vI 0), (4, vI z0), (0, vO 54), (1, vI x1), (2, vI x2), (3, vI x3)]) dX13_enter_91 (by decide) rfl ?_
  refine v_iload_n dX13_enter_93 5 rfl rfl ?_
  refine v_if_eq (tgt := 101) dX13_enter_94 rx3 (by decide) (fun c1 => ?_) (fun c1 => ?_)
  · rw [if_pos c1] at h
    refine v_iconst dX13_enter_101 ?_
    refine v_istore (L1 := [(6, vI (-1)), (5, vI 0), (4, vI z0), (0, vO 54), (1, vI x1), (2, vI x2), (3, vI x3)]) dX13_enter_102 (by decide) rfl ?_
    refine v_sub [3, 4, 5, 2, 1, 0] (L1 := [(0, vO 54), (1, vI x1), (2, vI x2), (4, vI z0), (5, vI 0), (6, vI (-1))]) rfl ?_
    obtain ⟨y2, s3, e4, h⟩ := lq_1_some h
    refine wl_X13_enter_104 rx1 rx2 rz0 FU 0 (-1) s _ e4 (rgl rfl) (rgl rfl) ?_
    unfold E_X13_enter_104
    intro y2' s3' z_ r5
    cases z_
    refine v_iload dX13_enter_127 3 rfl ?_
    refine v_iload dX13_enter_129 4 rfl ?_
    refine v_bipush dX13_enter_131 rfl ?_
    refine v_iadd dX13_enter_133 ?_
    refine v_bipush dX13_enter_134 rfl ?_
    refine v_idiv dX13_enter_136 (rgl rfl) (by decide) ?_
    refine v_iadd dX13_enter_137 ?_
    obtain ⟨y6, e7, h⟩ := vl_some h
    rw [← e7]
    have r8 : rg y6 := by rw [e7]; exact w32_rg _
    refine v_istore (L1 := [(6, vI y6), (0, vO 54), (1, vI x1), (2, vI x2), (4, vI z0), (5, vI y2)]) dX13_enter_138 (by decide) rfl ?_
    refine v_aload_n dX13_enter_140 1 rfl rfl ?_
    refine v_aload_n dX13_enter_141 1 rfl rfl ?_
    refine v_getS (f := 19) (t := 71) cf13 oc54 rfl rfl rfl (by decide) q789 dX13_enter_142 ?_
    refine v_iload dX13_enter_145 0 rfl ?_
    obtain ⟨r12, s13, e14, h⟩ := bd_some h
    have k15 := c_X13_grown e14 (⟨by decide, rfl⟩ : okB 71 24) r8
    obtain ⟨g16, h⟩ := gd_some h
    obtain ⟨s17, e18, h⟩ := stp_some h
    refine v_regrow (f := 19) k15 (lw_S q2139 q2140 q310 q2141) yk_X13_grown ⟨Nat.le_of_ble_eq_true rfl, Nat.le_of_ble_eq_true rfl⟩ ⟨kc54, trivial⟩ ⟨kc54, trivial⟩ (Nat.le_of_ble_eq_true rfl) dX13_enter_147 cf13 (⟨by decide, rfl⟩ : okB 54 12) rfl (by decide) rfl rfl g16 q789 dX13_enter_150 rfl rfl rfl rfl ⟨(by decide), trivial⟩ trivial ?_
    rw [← e18]
    refine v_iload dX13_enter_153 4 rfl ?_
    refine v_istore (L1 := [(7, vI z0), (6, vI y6), (0, vO 54), (1, vI x1), (2, vI x2), (4, vI z0), (5, vI y2)]) dX13_enter_155 (by decide) rfl ?_
    refine v_sub [2, 3, 4, 5, 1, 0] (L1 := [(0, vO 54), (1, vI x1), (2, vI x2), (4, vI z0), (6, vI y6), (7, vI z0)]) rfl ?_
    obtain ⟨s19, e20, h⟩ := lq_0_some h
    refine wl_X13_enter_157 rx1 rx2 rz0 r8 FU z0 s17 _ e20 rz0 ?_
    unfold E_X13_enter_157
    intro s19' z_
    cases z_
    refine v_aload_n dX13_enter_178 0 rfl rfl ?_
    refine v_getS (f := 14) (t := 67) cf13 oc54 rfl rfl rfl (by decide) q784 dX13_enter_179 ?_
    refine v_aload_n dX13_enter_182 0 rfl rfl ?_
    refine v_getI (f := 18) cf13 oc54 rfl (by decide) q788 dX13_enter_183 ?_
    refine v_iload_n dX13_enter_186 1 rfl rfl ?_
    obtain ⟨g21, h⟩ := gd_some h
    obtain ⟨s22, e23, h⟩ := stp_some h
    refine v_iast oc67 (gI_rg _ _ _) g21.1 g21.2 dX13_enter_187 ?_
    rw [← e23]
    refine v_aload_n dX13_enter_188 0 rfl rfl ?_
    refine v_getS (f := 15) (t := 68) cf13 oc54 rfl rfl rfl (by decide) q785 dX13_enter_189 ?_
    refine v_aload_n dX13_enter_192 0 rfl rfl ?_
    refine v_getI (f := 18) cf13 oc54 rfl (by decide) q788 dX13_enter_193 ?_
    refine v_iload_n dX13_enter_196 2 rfl rfl ?_
    obtain ⟨g24, h⟩ := gd_some h
    obtain ⟨s25, e26, h⟩ := stp_some h
    refine v_iast oc68 (gI_rg _ _ _) g24.1 g24.2 dX13_enter_197 ?_
    rw [← e26]
    refine v_aload_n dX13_enter_198 0 rfl rfl ?_
    refine v_getS (f := 16) (t := 69) cf13 oc54 rfl rfl rfl (by decide) q786 dX13_enter_199 ?_
    refine v_aload_n dX13_enter_202 0 rfl rfl ?_
    refine v_getI (f := 18) cf13 oc54 rfl (by decide) q788 dX13_enter_203 ?_
    refine v_iconst dX13_enter_206 ?_
    obtain ⟨g27, h⟩ := gd_some h
    obtain ⟨s28, e29, h⟩ := stp_some h
    refine v_iast oc69 (gI_rg _ _ _) g27.1 g27.2 dX13_enter_207 ?_
    rw [← e29]
    refine v_aload_n dX13_enter_208 0 rfl rfl ?_
    refine v_getS (f := 17) (t := 70) cf13 oc54 rfl rfl rfl (by decide) q787 dX13_enter_209 ?_
    refine v_aload_n dX13_enter_212 0 rfl rfl ?_
    refine v_getI (f := 18) cf13 oc54 rfl (by decide) q788 dX13_enter_213 ?_
    refine v_iload dX13_enter_216 3 rfl ?_
    obtain ⟨g30, h⟩ := gd_some h
    obtain ⟨s31, e32, h⟩ := stp_some h
    refine v_iast oc70 (gI_rg _ _ _) g30.1 g30.2 dX13_enter_218 ?_
    rw [← e32]
    refine v_aload_n dX13_enter_219 0 rfl rfl ?_
    refine v_dupO dX13_enter_220 ?_
    refine v_getI (f := 18) cf13 oc54 rfl (by decide) q788 dX13_enter_221 ?_
    refine v_iconst dX13_enter_224 ?_
    refine v_iadd dX13_enter_225 ?_
    obtain ⟨s33, e34, h⟩ := stp_some h
    refine v_putI (f := 18) cf13 oc54 rfl (by decide) q788 dX13_enter_226 rfl rfl ?_
    rw [← e34]
    refine v_aload_n dX13_enter_229 0 rfl rfl ?_
    refine v_getS (f := 17) (t := 70) cf13 oc54 rfl rfl rfl (by decide) q787 dX13_enter_230 ?_
    refine v_aload_n dX13_enter_233 0 rfl rfl ?_
    refine v_getI (f := 18) cf13 oc54 rfl (by decide) q788 dX13_enter_234 ?_
    refine v_iload dX13_enter_237 4 rfl ?_
    obtain ⟨g35, h⟩ := gd_some h
    obtain ⟨s36, e37, h⟩ := stp_some h
    refine v_iast oc70 (gI_rg _ _ _) g35.1 g35.2 dX13_enter_239 ?_
    rw [← e37]
    cases h
    exact v_vret dX13_enter_240
  · rw [if_neg c1] at h
    refine v_iload_n dX13_enter_97 4 rfl rfl ?_
    refine v_goto (tgt := 102) dX13_enter_98 (by decide) ?_
    refine v_istore (L1 := [(6, vI x2), (5, vI 0), (4, vI z0), (0, vO 54), (1, vI x1), (2, vI x2), (3, vI x3)]) dX13_enter_102 (by decide) rfl ?_
    refine v_sub [3, 4, 5, 2, 1, 0] (L1 := [(0, vO 54), (1, vI x1), (2, vI x2), (4, vI z0), (5, vI 0), (6, vI x2)]) rfl ?_
    obtain ⟨y38, s39, e40, h⟩ := lq_1_some h
    refine wl_X13_enter_104 rx1 rx2 rz0 FU 0 x2 s _ e40 (rgl rfl) rx2 ?_
    unfold E_X13_enter_104
    intro y38' s39' z_ r41
    cases z_
    refine v_iload dX13_enter_127 3 rfl ?_
    refine v_iload dX13_enter_129 4 rfl ?_
    refine v_bipush dX13_enter_131 rfl ?_
    refine v_iadd dX13_enter_133 ?_
    refine v_bipush dX13_enter_134 rfl ?_
    refine v_idiv dX13_enter_136 (rgl rfl) (by decide) ?_
    refine v_iadd dX13_enter_137 ?_
    obtain ⟨y42, e43, h⟩ := vl_some h
    rw [← e43]
    have r44 : rg y42 := by rw [e43]; exact w32_rg _
    refine v_istore (L1 := [(6, vI y42), (0, vO 54), (1, vI x1), (2, vI x2), (4, vI z0), (5, vI y38)]) dX13_enter_138 (by decide) rfl ?_
    refine v_aload_n dX13_enter_140 1 rfl rfl ?_
    refine v_aload_n dX13_enter_141 1 rfl rfl ?_
    refine v_getS (f := 19) (t := 71) cf13 oc54 rfl rfl rfl (by decide) q789 dX13_enter_142 ?_
    refine v_iload dX13_enter_145 0 rfl ?_
    obtain ⟨r48, s49, e50, h⟩ := bd_some h
    have k51 := c_X13_grown e50 (⟨by decide, rfl⟩ : okB 71 24) r44
    obtain ⟨g52, h⟩ := gd_some h
    obtain ⟨s53, e54, h⟩ := stp_some h
    refine v_regrow (f := 19) k51 (lw_S q2139 q2140 q310 q2141) yk_X13_grown ⟨Nat.le_of_ble_eq_true rfl, Nat.le_of_ble_eq_true rfl⟩ ⟨kc54, trivial⟩ ⟨kc54, trivial⟩ (Nat.le_of_ble_eq_true rfl) dX13_enter_147 cf13 (⟨by decide, rfl⟩ : okB 54 12) rfl (by decide) rfl rfl g52 q789 dX13_enter_150 rfl rfl rfl rfl ⟨(by decide), trivial⟩ trivial ?_
    rw [← e54]
    refine v_iload dX13_enter_153 4 rfl ?_
    refine v_istore (L1 := [(7, vI z0), (6, vI y42), (0, vO 54), (1, vI x1), (2, vI x2), (4, vI z0), (5, vI y38)]) dX13_enter_155 (by decide) rfl ?_
    refine v_sub [2, 3, 4, 5, 1, 0] (L1 := [(0, vO 54), (1, vI x1), (2, vI x2), (4, vI z0), (6, vI y42), (7, vI z0)]) rfl ?_
    obtain ⟨s55, e56, h⟩ := lq_0_some h
    refine wl_X13_enter_157 rx1 rx2 rz0 r44 FU z0 s53 _ e56 rz0 ?_
    unfold E_X13_enter_157
    intro s55' z_
    cases z_
    refine v_aload_n dX13_enter_178 0 rfl rfl ?_
    refine v_getS (f := 14) (t := 67) cf13 oc54 rfl rfl rfl (by decide) q784 dX13_enter_179 ?_
    refine v_aload_n dX13_enter_182 0 rfl rfl ?_
    refine v_getI (f := 18) cf13 oc54 rfl (by decide) q788 dX13_enter_183 ?_
    refine v_iload_n dX13_enter_186 1 rfl rfl ?_
    obtain ⟨g57, h⟩ := gd_some h
    obtain ⟨s58, e59, h⟩ := stp_some h
    refine v_iast oc67 (gI_rg _ _ _) g57.1 g57.2 dX13_enter_187 ?_
    rw [← e59]
    refine v_aload_n dX13_enter_188 0 rfl rfl ?_
    refine v_getS (f := 15) (t := 68) cf13 oc54 rfl rfl rfl (by decide) q785 dX13_enter_189 ?_
    refine v_aload_n dX13_enter_192 0 rfl rfl ?_
    refine v_getI (f := 18) cf13 oc54 rfl (by decide) q788 dX13_enter_193 ?_
    refine v_iload_n dX13_enter_196 2 rfl rfl ?_
    obtain ⟨g60, h⟩ := gd_some h
    obtain ⟨s61, e62, h⟩ := stp_some h
    refine v_iast oc68 (gI_rg _ _ _) g60.1 g60.2 dX13_enter_197 ?_
    rw [← e62]
    refine v_aload_n dX13_enter_198 0 rfl rfl ?_
    refine v_getS (f := 16) (t := 69) cf13 oc54 rfl rfl rfl (by decide) q786 dX13_enter_199 ?_
    refine v_aload_n dX13_enter_202 0 rfl rfl ?_
    refine v_getI (f := 18) cf13 oc54 rfl (by decide) q788 dX13_enter_203 ?_
    refine v_iconst dX13_enter_206 ?_
    obtain ⟨g63, h⟩ := gd_some h
    obtain ⟨s64, e65, h⟩ := stp_some h
    refine v_iast oc69 (gI_rg _ _ _) g63.1 g63.2 dX13_enter_207 ?_
    rw [← e65]
    refine v_aload_n dX13_enter_208 0 rfl rfl ?_
    refine v_getS (f := 17) (t := 70) cf13 oc54 rfl rfl rfl (by decide) q787 dX13_enter_209 ?_
    refine v_aload_n dX13_enter_212 0 rfl rfl ?_
    refine v_getI (f := 18) cf13 oc54 rfl (by decide) q788 dX13_enter_213 ?_
    refine v_iload dX13_enter_216 3 rfl ?_
    obtain ⟨g66, h⟩ := gd_some h
    obtain ⟨s67, e68, h⟩ := stp_some h
    refine v_iast oc70 (gI_rg _ _ _) g66.1 g66.2 dX13_enter_218 ?_
    rw [← e68]
    refine v_aload_n dX13_enter_219 0 rfl rfl ?_
    refine v_dupO dX13_enter_220 ?_
    refine v_getI (f := 18) cf13 oc54 rfl (by decide) q788 dX13_enter_221 ?_
    refine v_iconst dX13_enter_224 ?_
    refine v_iadd dX13_enter_225 ?_
    obtain ⟨s69, e70, h⟩ := stp_some h
    refine v_putI (f := 18) cf13 oc54 rfl (by decide) q788 dX13_enter_226 rfl rfl ?_
    rw [← e70]
    refine v_aload_n dX13_enter_229 0 rfl rfl ?_
    refine v_getS (f := 17) (t := 70) cf13 oc54 rfl rfl rfl (by decide) q787 dX13_enter_230 ?_
    refine v_aload_n dX13_enter_233 0 rfl rfl ?_
    refine v_getI (f := 18) cf13 oc54 rfl (by decide) q788 dX13_enter_234 ?_
    refine v_iload dX13_enter_237 4 rfl ?_
    obtain ⟨g71, h⟩ := gd_some h
    obtain ⟨s72, e73, h⟩ := stp_some h
    refine v_iast oc70 (gI_rg _ _ _) g71.1 g71.2 dX13_enter_239 ?_
    rw [← e73]
    cases h
    exact v_vret dX13_enter_240

def f_X13_enter (x1 : Int) (x2 : Int) (x3 : Int) (s : vS) : Option (vS) :=
  bd (f_X13_grown 67 (w32 ((gI s 54 18) + 1)) s) fun r4 s5 =>
  gd (r4 = 0 ∨ (2 * gN s5 67 ≤ gN s5 199 ∧ 2 ≤ gN s5 199)) <|
  stp (grw s5 67 r4) fun s9 =>
  bd (f_X13_grown 68 (w32 ((gI s9 54 18) + 1)) s9) fun r14 s15 =>
  gd (r14 = 0 ∨ (2 * gN s15 68 ≤ gN s15 199 ∧ 2 ≤ gN s15 199)) <|
  stp (grw s15 68 r14) fun s19 =>
  bd (f_X13_grown 69 (w32 ((gI s19 54 18) + 1)) s19) fun r24 s25 =>
  gd (r24 = 0 ∨ (2 * gN s25 69 ≤ gN s25 199 ∧ 2 ≤ gN s25 199)) <|
  stp (grw s25 69 r24) fun s29 =>
  bd (f_X13_grown 70 (w32 ((gI s29 54 18) + 2)) s29) fun r34 s35 =>
  gd (r34 = 0 ∨ (2 * gN s35 70 ≤ gN s35 199 ∧ 2 ≤ gN s35 199)) <|
  stp (grw s35 70 r34) fun s39 =>
  if (gI s39 54 18) = 0 then
    j_X13_enter_88 x1 x2 x3 0 s39
  else
    gd (inb (gI s39 54 18) (gN s39 70)) <|
    j_X13_enter_88 x1 x2 x3 (gE s39 70 (gI s39 54 18)) s39
theorem yk_X13_enter : yOk yX13_enter 3 := ⟨by decide, by decide, by decide +kernel⟩
theorem c_X13_enter {x1 : Int} {x2 : Int} {x3 : Int} {s : vS} {out : vS} (h : f_X13_enter x1 x2 x3 s = some out)  (rx1 : rg x1) (rx2 : rg x2) (rx3 : rg x3) : VC yX13_enter cX13_enter 8 none 2 48 [vO 54, vI x1, vI x2, vI x3] s none out [] := by
  unfold f_X13_enter at h
  refine VC.of RX13 (by decide) rfl (Nat.le_of_ble_eq_true rfl) ?_
  show VW cX13_enter (RX13, none, out, none, 2, 48, 8, []) (P0 []) s 0 [(0, vO 54), (1, vI x1), (2, vI x2), (3, vI x3)] []
  refine v_aload_n dX13_enter_0 0 rfl rfl ?_
  refine v_aload_n dX13_enter_1 0 rfl rfl ?_
  refine v_getS (f := 14) (t := 67) cf13 oc54 rfl rfl rfl (by decide) q784 dX13_enter_2 ?_
  refine v_aload_n dX13_enter_5 0 rfl rfl ?_
  refine v_getI (f := 18) cf13 oc54 rfl (by decide) q788 dX13_enter_6 ?_
  refine v_iconst dX13_enter_9 ?_
  refine v_iadd dX13_enter_10 ?_
  obtain ⟨r4, s5, e6, h⟩ := bd_some h
  have k7 := c_X13_grown e6 (⟨by decide, rfl⟩ : okB 67 24) (w32_rg _)
  obtain ⟨g8, h⟩ := gd_some h
  obtain ⟨s9, e10, h⟩ := stp_some h
  refine v_regrow (f := 14) k7 (lw_S q2139 q2140 q310 q2141) yk_X13_grown ⟨Nat.le_of_ble_eq_true rfl, Nat.le_of_ble_eq_true rfl⟩ ⟨kc54, trivial⟩ ⟨kc54, trivial⟩ (Nat.le_of_ble_eq_true rfl) dX13_enter_11 cf13 (⟨by decide, rfl⟩ : okB 54 12) rfl (by decide) rfl rfl g8 q784 dX13_enter_14 rfl rfl rfl rfl ⟨(by decide), trivial⟩ trivial ?_
  rw [← e10]
  refine v_aload_n dX13_enter_17 0 rfl rfl ?_
  refine v_aload_n dX13_enter_18 0 rfl rfl ?_
  refine v_getS (f := 15) (t := 68) cf13 oc54 rfl rfl rfl (by decide) q785 dX13_enter_19 ?_
  refine v_aload_n dX13_enter_22 0 rfl rfl ?_
  refine v_getI (f := 18) cf13 oc54 rfl (by decide) q788 dX13_enter_23 ?_
  refine v_iconst dX13_enter_26 ?_
  refine v_iadd dX13_enter_27 ?_
  obtain ⟨r14, s15, e16, h⟩ := bd_some h
  have k17 := c_X13_grown e16 (⟨by decide, rfl⟩ : okB 68 24) (w32_rg _)
  obtain ⟨g18, h⟩ := gd_some h
  obtain ⟨s19, e20, h⟩ := stp_some h
  refine v_regrow (f := 15) k17 (lw_S q2139 q2140 q310 q2141) yk_X13_grown ⟨Nat.le_of_ble_eq_true rfl, Nat.le_of_ble_eq_true rfl⟩ ⟨kc54, trivial⟩ ⟨kc54, trivial⟩ (Nat.le_of_ble_eq_true rfl) dX13_enter_28 cf13 (⟨by decide, rfl⟩ : okB 54 12) rfl (by decide) rfl rfl g18 q785 dX13_enter_31 rfl rfl rfl rfl ⟨(by decide), trivial⟩ trivial ?_
  rw [← e20]
  refine v_aload_n dX13_enter_34 0 rfl rfl ?_
  refine v_aload_n dX13_enter_35 0 rfl rfl ?_
  refine v_getS (f := 16) (t := 69) cf13 oc54 rfl rfl rfl (by decide) q786 dX13_enter_36 ?_
  refine v_aload_n dX13_enter_39 0 rfl rfl ?_
  refine v_getI (f := 18) cf13 oc54 rfl (by decide) q788 dX13_enter_40 ?_
  refine v_iconst dX13_enter_43 ?_
  refine v_iadd dX13_enter_44 ?_
  obtain ⟨r24, s25, e26, h⟩ := bd_some h
  have k27 := c_X13_grown e26 (⟨by decide, rfl⟩ : okB 69 24) (w32_rg _)
  obtain ⟨g28, h⟩ := gd_some h
  obtain ⟨s29, e30, h⟩ := stp_some h
  refine v_regrow (f := 16) k27 (lw_S q2139 q2140 q310 q2141) yk_X13_grown ⟨Nat.le_of_ble_eq_true rfl, Nat.le_of_ble_eq_true rfl⟩ ⟨kc54, trivial⟩ ⟨kc54, trivial⟩ (Nat.le_of_ble_eq_true rfl) dX13_enter_45 cf13 (⟨by decide, rfl⟩ : okB 54 12) rfl (by decide) rfl rfl g28 q786 dX13_enter_48 rfl rfl rfl rfl ⟨(by decide), trivial⟩ trivial ?_
  rw [← e30]
  refine v_aload_n dX13_enter_51 0 rfl rfl ?_
  refine v_aload_n dX13_enter_52 0 rfl rfl ?_
  refine v_getS (f := 17) (t := 70) cf13 oc54 rfl rfl rfl (by decide) q787 dX13_enter_53 ?_
  refine v_aload_n dX13_enter_56 0 rfl rfl ?_
  refine v_getI (f := 18) cf13 oc54 rfl (by decide) q788 dX13_enter_57 ?_
  refine v_iconst dX13_enter_60 ?_
  refine v_iadd dX13_enter_61 ?_
  obtain ⟨r34, s35, e36, h⟩ := bd_some h
  have k37 := c_X13_grown e36 (⟨by decide, rfl⟩ : okB 70 24) (w32_rg _)
  obtain ⟨g38, h⟩ := gd_some h
  obtain ⟨s39, e40, h⟩ := stp_some h
  refine v_regrow (f := 17) k37 (lw_S q2139 q2140 q310 q2141) yk_X13_grown ⟨Nat.le_of_ble_eq_true rfl, Nat.le_of_ble_eq_true rfl⟩ ⟨kc54, trivial⟩ ⟨kc54, trivial⟩ (Nat.le_of_ble_eq_true rfl) dX13_enter_62 cf13 (⟨by decide, rfl⟩ : okB 54 12) rfl (by decide) rfl rfl g38 q787 dX13_enter_65 rfl rfl rfl rfl ⟨(by decide), trivial⟩ trivial ?_
  rw [← e40]
  refine v_aload_n dX13_enter_68 0 rfl rfl ?_
  refine v_getI (f := 18) cf13 oc54 rfl (by decide) q788 dX13_enter_69 ?_
  refine v_if_ne (tgt := 79) dX13_enter_72 (gI_rg _ _ _) (by decide) (fun c41 => ?_) (fun c41 => ?_)
  · rw [if_neg c41] at h
    refine v_aload_n dX13_enter_79 0 rfl rfl ?_
    refine v_getS (f := 17) (t := 70) cf13 oc54 rfl rfl rfl (by decide) q787 dX13_enter_80 ?_
    refine v_aload_n dX13_enter_83 0 rfl rfl ?_
    refine v_getI (f := 18) cf13 oc54 rfl (by decide) q788 dX13_enter_84 ?_
    obtain ⟨g42, h⟩ := gd_some h
    refine v_iald oc70 (gI_rg _ _ _) g42.1 g42.2 dX13_enter_87 ?_
    exact wj_X13_enter_88 h rx1 rx2 rx3 (gE_rg _ _ _)
  · rw [if_pos c41] at h
    refine v_iconst dX13_enter_75 ?_
    refine v_goto (tgt := 88) dX13_enter_76 (by decide) ?_
    exact wj_X13_enter_88 h rx1 rx2 rx3 (rgl rfl)

def j_X13_begin_145 (x1 : Int) (z1 : Int) (z2 : Int) (z3 : Int) (s : vS) : Option (Int × vS) :=
  bdv (f_X13_enter z1 z2 z3 s) fun s1 =>
  some (w32 (x1 + 1), s1)
theorem wj_X13_begin_145 {x1 : Int} {z1 : Int} {z2 : Int} {z3 : Int} {s : vS} {out : Int × vS} (h : j_X13_begin_145 x1 z1 z2 z3 s = some out)  (rx1 : rg x1) (rz1 : rg z1) (rz2 : rg z2) (rz3 : rg z3) : VW cX13_begin (RX13, (some (vI out.1)), out.2, (some .int), 10, 240, 8, []) (P0 []) s 145 [(1, vI x1)] [vI z3, vI z2, vI z1, vO 54] := by
  unfold j_X13_begin_145 at h
  obtain ⟨s1, e2, h⟩ := bdv_some h
  have k3 := c_X13_enter e2 rz1 rz2 rz3
  refine v_callV (st := []) cf13 oc54 k3 (lw_V q2244 q2246 qs138 q310 q2247) rfl yk_X13_enter ⟨Nat.le_of_ble_eq_true rfl, Nat.le_of_ble_eq_true rfl⟩ trivial trivial (Nat.le_of_ble_eq_true rfl) rfl dX13_begin_145 ?_
  refine v_iload_n dX13_begin_148 0 rfl rfl ?_
  refine v_iconst dX13_begin_149 ?_
  refine v_iadd dX13_begin_150 ?_
  cases h
  exact v_iret (w32_rg _) dX13_begin_151

def j_X13_begin_128 (x1 : Int) (x6 : Int) (x7 : Int) (z1 : Int) (z2 : Int) (s : vS) : Option (Int × vS) :=
  if x7 = 0 then
    if x6 = 13 then
      j_X13_begin_145 x1 z1 z2 1 s
    else
      j_X13_begin_145 x1 z1 z2 0 s
  else
    j_X13_begin_145 x1 z1 z2 0 s
theorem wj_X13_begin_128 {x1 : Int} {x6 : Int} {x7 : Int} {z1 : Int} {z2 : Int} {s : vS} {out : Int × vS} (h : j_X13_begin_128 x1 x6 x7 z1 z2 s = some out)  (rx1 : rg x1) (rx6 : rg x6) (rx7 : rg x7) (rz1 : rg z1) (rz2 : rg z2) : VW cX13_begin (RX13, (some (vI out.1)), out.2, (some .int), 10, 240, 8, []) (P0 []) s 128 [(1, vI x1), (6, vI x6), (7, vI x7)] [vI z2, vI z1, vO 54] := by
  unfold j_X13_begin_128 at h
  refine v_iload dX13_begin_128 2 rfl ?_
  refine v_if_ne (tgt := 144) dX13_begin_130 rx7 (by decide) (fun c1 => ?_) (fun c1 => ?_)
  · rw [if_neg c1] at h
    refine v_iconst dX13_begin_144 ?_
    refine v_sub [0] (L1 := [(1, vI x1)]) rfl ?_
    exact wj_X13_begin_145 h rx1 rz1 rz2 (rgl rfl)
  · rw [if_pos c1] at h
    refine v_iload dX13_begin_133 1 rfl ?_
    refine v_bipush dX13_begin_135 rfl ?_
    refine v_icmp_ne (tgt := 144) dX13_begin_137 rx6 (rgl rfl) (by decide) (fun c2 => ?_) (fun c2 => ?_)
    · rw [if_neg c2] at h
      refine v_iconst dX13_begin_144 ?_
      refine v_sub [0] (L1 := [(1, vI x1)]) rfl ?_
      exact wj_X13_begin_145 h rx1 rz1 rz2 (rgl rfl)
    · rw [if_pos c2] at h
      refine v_iconst dX13_begin_140 ?_
      refine v_goto (tgt := 145) dX13_begin_141 (by decide) ?_
      refine v_sub [0] (L1 := [(1, vI x1)]) rfl ?_
      exact wj_X13_begin_145 h rx1 rz1 rz2 (rgl rfl)

def j_X13_begin_81 (x1 : Int) (x2 : Int) (x6 : Int) (x7 : Int) (s : vS) : Option (Int × vS) :=
  gd (gR s 54 5 = 44) <|
  bd (f_X12_hasParts x1 s) fun r5 s2 =>
  if r5 = 0 then
    bd (f_X13_wrong 14 x1 s2) fun r22 s19 =>
    some (x1, s19)
  else
    if x7 = 0 then
      bd (f_X6_base x2 s2) fun r12 s9 =>
      bd (f_X4_parts r12 s9) fun r17 s14 =>
      j_X13_begin_128 x1 x6 x7 x1 r17 s14
    else
      j_X13_begin_128 x1 x6 x7 x1 (-1) s2
theorem wj_X13_begin_81 {x1 : Int} {x2 : Int} {x6 : Int} {x7 : Int} {s : vS} {out : Int × vS} (h : j_X13_begin_81 x1 x2 x6 x7 s = some out)  (rx1 : rg x1) (rx2 : rg x2) (rx6 : rg x6) (rx7 : rg x7) : VW cX13_begin (RX13, (some (vI out.1)), out.2, (some .int), 10, 240, 8, []) (P0 []) s 81 [(0, vO 54), (1, vI x1), (2, vI x2), (6, vI x6), (7, vI x7)] [] := by
  unfold j_X13_begin_81 at h
  refine v_aload_n dX13_begin_81 0 rfl rfl ?_
  obtain ⟨g1, h⟩ := gd_some h
  refine v_getR (f := 5) cf13 oc54 rfl (by rw [g1]; decide) (by decide) q775 dX13_begin_82 ?_
  rw [g1]
  refine v_iload_n dX13_begin_85 1 rfl rfl ?_
  obtain ⟨r5, s2, e3, h⟩ := bd_some h
  have k4 := c_X12_hasParts e3 rx1
  have r6 : rg r5 := k4.1.2.2
  refine v_callV (st := []) cf12 oc44 k4 (lw_V q2187 q2188 q2189 q309 q2190) rfl yk_X12_hasParts ⟨Nat.le_of_ble_eq_true rfl, Nat.le_of_ble_eq_true rfl⟩ trivial ⟨kc54, trivial⟩ (Nat.le_of_ble_eq_true rfl) rfl dX13_begin_86 ?_
  refine v_if_ne (tgt := 102) dX13_begin_89 r6 (by decide) (fun c7 => ?_) (fun c7 => ?_)
  · rw [if_neg c7] at h
    refine v_aload_n dX13_begin_102 0 rfl rfl ?_
    refine v_iload_n dX13_begin_103 1 rfl rfl ?_
    refine v_iload dX13_begin_104 4 rfl ?_
    refine v_if_eq (tgt := 113) dX13_begin_106 rx7 (by decide) (fun c8 => ?_) (fun c8 => ?_)
    · rw [if_pos c8] at h
      refine v_aload_n dX13_begin_113 0 rfl rfl ?_
      refine v_getS (f := 0) (t := 10) cf13 oc54 rfl rfl rfl (by decide) q770 dX13_begin_114 ?_
      refine v_aload_n dX13_begin_117 0 rfl rfl ?_
      refine v_getS (f := 1) (t := 13) cf13 oc54 rfl rfl rfl (by decide) q771 dX13_begin_118 ?_
      refine v_iload_n dX13_begin_121 2 rfl rfl ?_
      obtain ⟨r12, s9, e10, h⟩ := bd_some h
      have k11 := c_X6_base e10 rx2
      have r13 : rg r12 := k11.1.2.2
      refine v_callVN (st := [vO 10, vI x1, vO 54]) cf6 oc13 k11 q1591 q2155 q1590 qs60 q303 yk_X6_base ⟨Nat.le_of_ble_eq_true rfl, Nat.le_of_ble_eq_true rfl⟩ ⟨kc10, kc54, trivial⟩ ⟨kc54, trivial⟩ (Nat.le_of_ble_eq_true rfl) rfl dX13_begin_122 ?_
      obtain ⟨r17, s14, e15, h⟩ := bd_some h
      have k16 := c_X4_parts e15 r13
      have r18 : rg r17 := k16.1.2.2
      refine v_callV (st := [vI x1, vO 54]) cf4 oc10 k16 (lw_V q2156 q1493 q1494 q301 q1495) rfl yk_X4_parts ⟨Nat.le_of_ble_eq_true rfl, Nat.le_of_ble_eq_true rfl⟩ ⟨kc54, trivial⟩ ⟨kc54, trivial⟩ (Nat.le_of_ble_eq_true rfl) rfl dX13_begin_125 ?_
      refine v_sub [1, 3, 4] (L1 := [(1, vI x1), (6, vI x6), (7, vI x7)]) rfl ?_
      exact wj_X13_begin_128 h rx1 rx6 rx7 rx1 r18
    · rw [if_neg c8] at h
      refine v_iconst dX13_begin_109 ?_
      refine v_goto (tgt := 128) dX13_begin_110 (by decide) ?_
      refine v_sub [1, 3, 4] (L1 := [(1, vI x1), (6, vI x6), (7, vI x7)]) rfl ?_
      exact wj_X13_begin_128 h rx1 rx6 rx7 rx1 (rgl rfl)
  · rw [if_pos c7] at h
    refine v_aload_n dX13_begin_92 0 rfl rfl ?_
    refine v_bipush dX13_begin_93 rfl ?_
    refine v_iload_n dX13_begin_95 1 rfl rfl ?_
    obtain ⟨r22, s19, e20, h⟩ := bd_some h
    have k21 := c_X13_wrong e20 (rgl rfl) rx1
    have r23 : rg r22 := k21.1.2.2
    refine v_callV (st := []) cf13 oc54 k21 (lw_V q2158 q2160 qs128 q310 q2161) rfl yk_X13_wrong ⟨Nat.le_of_ble_eq_true rfl, Nat.le_of_ble_eq_true rfl⟩ trivial ⟨kc54, trivial⟩ (Nat.le_of_ble_eq_true rfl) rfl dX13_begin_96 ?_
    refine v_popI dX13_begin_99 ?_
    refine v_iload_n dX13_begin_100 1 rfl rfl ?_
    cases h
    exact v_iret rx1 dX13_begin_101

def f_X13_begin (x1 : Int) (x2 : Int) (x3 : Int) (x4 : Int) (x5 : Int) (s : vS) : Option (Int × vS) :=
  gd (inb x1 (gN s 61)) <|
  stp (sE s 61 x1 x2) fun s2 =>
  gd (inb x1 (gN s2 62)) <|
  stp (sE s2 62 x1 x3) fun s5 =>
  gd (inb x1 (gN s5 63)) <|
  stp (sE s5 63 x1 x4) fun s8 =>
  gd (inb x1 (gN s8 64)) <|
  stp (sE s8 64 x1 x5) fun s11 =>
  gd (inb x1 (gN s11 66)) <|
  stp (sE s11 66 x1 0) fun s14 =>
  bd (f_X13_kind x1 s14) fun r19 s16 =>
  bd (f_X13_isAround x1 s16) fun r24 s21 =>
  if r24 = 0 then
    bd (f_X13_isMany r19 s21) fun r30 s27 =>
    if r30 = 0 then
      bdv (f_X13_leaf x1 r19 s27) fun s33 =>
      gd (gR s33 54 5 = 44) <|
      bd (f_X12_behind x1 s33) fun r40 s37 =>
      some (r40, s37)
    else
      j_X13_begin_81 x1 x2 r19 r24 s27
  else
    j_X13_begin_81 x1 x2 r19 r24 s21
theorem yk_X13_begin : yOk yX13_begin 5 := ⟨by decide, by decide, by decide +kernel⟩
theorem c_X13_begin {x1 : Int} {x2 : Int} {x3 : Int} {x4 : Int} {x5 : Int} {s : vS} {out : Int × vS} (h : f_X13_begin x1 x2 x3 x4 x5 s = some out)  (rx1 : rg x1) (rx2 : rg x2) (rx3 : rg x3) (rx4 : rg x4) (rx5 : rg x5) : VC yX13_begin cX13_begin 8 (some .int) 10 240 [vO 54, vI x1, vI x2, vI x3, vI x4, vI x5] s (some (vI out.1)) out.2 [] := by
  unfold f_X13_begin at h
  refine VC.of RX13 (by decide) rfl (Nat.le_of_ble_eq_true rfl) ?_
  show VW cX13_begin (RX13, (some (vI out.1)), out.2, (some .int), 10, 240, 8, []) (P0 []) s 0 [(0, vO 54), (1, vI x1), (2, vI x2), (3, vI x3), (4, vI x4), (5, vI x5)] []
  refine v_aload_n dX13_begin_0 0 rfl rfl ?_
  refine v_getS (f := 8) (t := 61) cf13 oc54 rfl rfl rfl (by decide) q778 dX13_begin_1 ?_
  refine v_iload_n dX13_begin_4 1 rfl rfl ?_
  refine v_iload_n dX13_begin_5 2 rfl rfl ?_
  obtain ⟨g1, h⟩ := gd_some h
  obtain ⟨s2, e3, h⟩ := stp_some h
  refine v_iast oc61 rx1 g1.1 g1.2 dX13_begin_6 ?_
  rw [← e3]
  refine v_aload_n dX13_begin_7 0 rfl rfl ?_
  refine v_getS (f := 9) (t := 62) cf13 oc54 rfl rfl rfl (by decide) q779 dX13_begin_8 ?_
  refine v_iload_n dX13_begin_11 1 rfl rfl ?_
  refine v_iload_n dX13_begin_12 3 rfl rfl ?_
  obtain ⟨g4, h⟩ := gd_some h
  obtain ⟨s5, e6, h⟩ := stp_some h
  refine v_iast oc62 rx1 g4.1 g4.2 dX13_begin_13 ?_
  rw [← e6]
  refine v_aload_n dX13_begin_14 0 rfl rfl ?_
  refine v_getS (f := 10) (t := 63) cf13 oc54 rfl rfl rfl (by decide) q780 dX13_begin_15 ?_
  refine v_iload_n dX13_begin_18 1 rfl rfl ?_
  refine v_iload dX13_begin_19 4 rfl ?_
  obtain ⟨g7, h⟩ := gd_some h
  obtain ⟨s8, e9, h⟩ := stp_some h
  refine v_iast oc63 rx1 g7.1 g7.2 dX13_begin_21 ?_
  rw [← e9]
  refine v_aload_n dX13_begin_22 0 rfl rfl ?_
  refine v_getS (f := 11) (t := 64) cf13 oc54 rfl rfl rfl (by decide) q781 dX13_begin_23 ?_
  refine v_iload_n dX13_begin_26 1 rfl rfl ?_
  refine v_iload dX13_begin_27 5 rfl ?_
  obtain ⟨g10, h⟩ := gd_some h
  obtain ⟨s11, e12, h⟩ := stp_some h
  refine v_iast oc64 rx1 g10.1 g10.2 dX13_begin_29 ?_
  rw [← e12]
  refine v_aload_n dX13_begin_30 0 rfl rfl ?_
  refine v_getS (f := 13) (t := 66) cf13 oc54 rfl rfl rfl (by decide) q783 dX13_begin_31 ?_
  refine v_iload_n dX13_begin_34 1 rfl rfl ?_
  refine v_iconst dX13_begin_35 ?_
  obtain ⟨g13, h⟩ := gd_some h
  obtain ⟨s14, e15, h⟩ := stp_some h
  refine v_iast oc66 rx1 g13.1 g13.2 dX13_begin_36 ?_
  rw [← e15]
  refine v_aload_n dX13_begin_37 0 rfl rfl ?_
  refine v_iload_n dX13_begin_38 1 rfl rfl ?_
  obtain ⟨r19, s16, e17, h⟩ := bd_some h
  have k18 := c_X13_kind e17 rx1
  have r20 : rg r19 := k18.1.2.2
  refine v_callV (st := []) cf13 oc54 k18 (lw_V q2170 q2172 qs130 q310 q2173) rfl yk_X13_kind ⟨Nat.le_of_ble_eq_true rfl, Nat.le_of_ble_eq_true rfl⟩ trivial ⟨kc54, trivial⟩ (Nat.le_of_ble_eq_true rfl) rfl dX13_begin_39 ?_
  refine v_istore (L1 := [(6, vI r19), (0, vO 54), (1, vI x1), (2, vI x2), (3, vI x3), (4, vI x4), (5, vI x5)]) dX13_begin_42 (by decide) rfl ?_
  refine v_aload_n dX13_begin_44 1 rfl rfl ?_
  refine v_iload_n dX13_begin_45 2 rfl rfl ?_
  obtain ⟨r24, s21, e22, h⟩ := bd_some h
  have k23 := c_X13_isAround e22 rx1
  have r25 : rg r24 := k23.1.2.2
  refine v_callV (st := []) cf13 oc54 k23 (lw_V q2175 q2177 qs131 q310 q2178) rfl yk_X13_isAround ⟨Nat.le_of_ble_eq_true rfl, Nat.le_of_ble_eq_true rfl⟩ trivial ⟨kc54, trivial⟩ (Nat.le_of_ble_eq_true rfl) rfl dX13_begin_46 ?_
  refine v_istore (L1 := [(7, vI r24), (6, vI r19), (0, vO 54), (1, vI x1), (2, vI x2), (3, vI x3), (4, vI x4), (5, vI x5)]) dX13_begin_49 (by decide) rfl ?_
  refine v_iload dX13_begin_51 0 rfl ?_
  refine v_if_ne (tgt := 81) dX13_begin_53 r25 (by decide) (fun c26 => ?_) (fun c26 => ?_)
  · rw [if_neg c26] at h
    refine v_sub [2, 3, 4, 1, 0] (L1 := [(0, vO 54), (1, vI x1), (2, vI x2), (6, vI r19), (7, vI r24)]) rfl ?_
    exact wj_X13_begin_81 h rx1 rx2 r20 r25
  · rw [if_pos c26] at h
    refine v_aload_n dX13_begin_56 2 rfl rfl ?_
    refine v_iload dX13_begin_57 1 rfl ?_
    obtain ⟨r30, s27, e28, h⟩ := bd_some h
    have k29 := c_X13_isMany e28 r20
    have r31 : rg r30 := k29.1.2.2
    refine v_callV (st := []) cf13 oc54 k29 (lw_V q2179 q2181 qs132 q310 q2182) rfl yk_X13_isMany ⟨Nat.le_of_ble_eq_true rfl, Nat.le_of_ble_eq_true rfl⟩ trivial ⟨kc54, trivial⟩ (Nat.le_of_ble_eq_true rfl) rfl dX13_begin_59 ?_
    refine v_if_ne (tgt := 81) dX13_begin_62 r31 (by decide) (fun c32 => ?_) (fun c32 => ?_)
    · rw [if_neg c32] at h
      refine v_sub [2, 3, 4, 1, 0] (L1 := [(0, vO 54), (1, vI x1), (2, vI x2), (6, vI r19), (7, vI r24)]) rfl ?_
      exact wj_X13_begin_81 h rx1 rx2 r20 r25
    · rw [if_pos c32] at h
      refine v_aload_n dX13_begin_65 2 rfl rfl ?_
      refine v_iload_n dX13_begin_66 3 rfl rfl ?_
      refine v_iload dX13_begin_67 1 rfl ?_
      obtain ⟨s33, e34, h⟩ := bdv_some h
      have k35 := c_X13_leaf e34 rx1 r20
      refine v_callV (st := []) cf13 oc54 k35 (lw_V q2183 q2185 qs133 q310 q2186) rfl yk_X13_leaf ⟨Nat.le_of_ble_eq_true rfl, Nat.le_of_ble_eq_true rfl⟩ trivial ⟨kc54, trivial⟩ (Nat.le_of_ble_eq_true rfl) rfl dX13_begin_69 ?_
      refine v_aload_n dX13_begin_72 2 rfl rfl ?_
      obtain ⟨g36, h⟩ := gd_some h
      refine v_getR (f := 5) cf13 oc54 rfl (by rw [g36]; decide) (by decide) q775 dX13_begin_73 ?_
      rw [g36]
      refine v_iload_n dX13_begin_76 3 rfl rfl ?_
      obtain ⟨r40, s37, e38, h⟩ := bd_some h
      have k39 := c_X12_behind e38 rx1
      have r41 : rg r40 := k39.1.2.2
      refine v_callV (st := []) cf12 oc44 k39 (lw_V q2222 q2223 q2224 q309 q2225) rfl yk_X12_behind ⟨Nat.le_of_ble_eq_true rfl, Nat.le_of_ble_eq_true rfl⟩ trivial ⟨kc54, trivial⟩ (Nat.le_of_ble_eq_true rfl) rfl dX13_begin_77 ?_
      cases h
      exact v_iret r41 dX13_begin_80

def E_X13_missing_23 (rv : Option vA) (σo : vS) (q : vS) : Prop := ∀ (s' : vS), q = s' → VW cX13_missing (RX13, rv, σo, none, 7, 161, 4, []) (P0 []) s' 94 [] []
def j_X13_missing_79 (rec : Int → Int → Int → vS → Option (vS)) (x1 : Int) (x2 : Int) (x3 : Int) (s : vS) : Option (vS) :=
  vl (w32 (x2 + 1)) fun y1 =>
  bd (f_X4_next x3 s) fun r7 s4 =>
  rec x1 y1 r7 s4
theorem wj_X13_missing_79 {x1 : Int} {x2 : Int} {x3 : Int} {s : vS} {rv : Option vA} {σo : vS} {rec : Int → Int → Int → vS → Option (vS)} {q : vS} (h : j_X13_missing_79 rec x1 x2 x3 s = some q)  (rx1 : rg x1) (rx2 : rg x2) (rx3 : rg x3) (hrec : ∀ (y2 : Int) (y3 : Int) (s : vS) (q : vS), rec x1 y2 y3 s = some q → rg y2 → rg y3 → E_X13_missing_23 rv σo q → VW cX13_missing (RX13, rv, σo, none, 7, 161, 4, []) (P0 []) s 23 [(0, vO 54), (1, vI x1), (2, vI y2), (3, vI y3)] []) (hE : E_X13_missing_23 rv σo q) : VW cX13_missing (RX13, rv, σo, none, 7, 161, 4, []) (P0 []) s 79 [(0, vO 54), (1, vI x1), (2, vI x2), (3, vI x3)] [] := by
  unfold j_X13_missing_79 at h
  obtain ⟨y1, e2, h⟩ := vl_some h
  refine v_iinc (L1 := [(2, vI (w32 (x2 + 1))), (0, vO 54), (1, vI x1), (3, vI x3)]) dX13_missing_79 2 rfl (by decide) rfl ?_
  rw [← e2]
  have r3 : rg y1 := by rw [e2]; exact w32_rg _
  refine v_aload_n dX13_missing_82 1 rfl rfl ?_
  refine v_getS (f := 0) (t := 10) cf13 oc54 rfl rfl rfl (by decide) q770 dX13_missing_83 ?_
  refine v_iload_n dX13_missing_86 3 rfl rfl ?_
  obtain ⟨r7, s4, e5, h⟩ := bd_some h
  have k6 := c_X4_next e5 rx3
  have r8 : rg r7 := k6.1.2.2
  refine v_callV (st := []) cf4 oc10 k6 (lw_V q2157 q1404 q1405 q301 q1406) rfl yk_X4_next ⟨Nat.le_of_ble_eq_true rfl, Nat.le_of_ble_eq_true rfl⟩ trivial ⟨kc54, trivial⟩ (Nat.le_of_ble_eq_true rfl) rfl dX13_missing_87 ?_
  refine v_istore_n (L1 := [(3, vI r7), (2, vI y1), (0, vO 54), (1, vI x1)]) dX13_missing_90 rfl (by decide) rfl ?_
  refine v_goto (tgt := 23) dX13_missing_91 (by decide) ?_
  refine v_sub [2, 3, 1, 0] (L1 := [(0, vO 54), (1, vI x1), (2, vI y1), (3, vI r7)]) rfl ?_
  exact hrec y1 r7 s4 _ h r3 r8 hE

def l_X13_missing_23 : Nat → Int → Int → Int → vS → Option (vS)
  | 0, _, _, _, _ => none
  | n + 1, x1, x2, x3, s =>
    if x3 = (-1) then
      some s
    else
      bd (f_X4_at x3 5 s) fun r5 s2 =>
      if r5 = 0 then
        gd (inb (w32 ((gI s2 54 18) - 1)) (gN s2 70)) <|
        gd (inb (w32 ((gE s2 70 (w32 ((gI s2 54 18) - 1))) + (d32 x2 32))) (gN s2 71)) <|
        if (and32 (shr32 (gE s2 71 (w32 ((gE s2 70 (w32 ((gI s2 54 18) - 1))) + (d32 x2 32)))) (m32 x2 32)) 1) = 0 then
          bd (f_X13_wrong 12 x1 s2) fun r14 s11 =>
          j_X13_missing_79 (l_X13_missing_23 n) x1 x2 x3 s11
        else
          j_X13_missing_79 (l_X13_missing_23 n) x1 x2 x3 s2
      else
        j_X13_missing_79 (l_X13_missing_23 n) x1 x2 x3 s2
theorem wl_X13_missing_23 {x1 : Int} {rv : Option vA} {σo : vS}  (rx1 : rg x1) : ∀ (n : Nat) (x2 : Int) (x3 : Int) (s : vS) (q : vS), l_X13_missing_23 n x1 x2 x3 s = some q → rg x2 → rg x3 → E_X13_missing_23 rv σo q → VW cX13_missing (RX13, rv, σo, none, 7, 161, 4, []) (P0 []) s 23 [(0, vO 54), (1, vI x1), (2, vI x2), (3, vI x3)] [] := by
  intro n
  induction n with
  | zero => intro x2 x3 s q h; cases h
  | succ n ih =>
    intro x2 x3 s q h rx2 rx3 hE
    unfold l_X13_missing_23 at h
    refine v_iload_n dX13_missing_23 3 rfl rfl ?_
    refine v_iconst dX13_missing_24 ?_
    refine v_icmp_eq (tgt := 94) dX13_missing_25 rx3 (rgl rfl) (by decide) (fun c1 => ?_) (fun c1 => ?_)
    · rw [if_pos c1] at h
      cases h
      refine v_sub [] (L1 := []) rfl ?_
      exact hE _ rfl 
    · rw [if_neg c1] at h
      refine v_aload_n dX13_missing_28 0 rfl rfl ?_
      refine v_getS (f := 0) (t := 10) cf13 oc54 rfl rfl rfl (by decide) q770 dX13_missing_29 ?_
      refine v_iload_n dX13_missing_32 3 rfl rfl ?_
      refine v_iconst dX13_missing_33 ?_
      obtain ⟨r5, s2, e3, h⟩ := bd_some h
      have k4 := c_X4_at e3 rx3 (rgl rfl)
      have r6 : rg r5 := k4.1.2.2
      refine v_callV (st := []) cf4 oc10 k4 (lw_V q2252 q1400 q1401 q301 q1402) rfl yk_X4_at ⟨Nat.le_of_ble_eq_true rfl, Nat.le_of_ble_eq_true rfl⟩ trivial ⟨kc54, trivial⟩ (Nat.le_of_ble_eq_true rfl) rfl dX13_missing_34 ?_
      refine v_if_ne (tgt := 79) dX13_missing_37 r6 (by decide) (fun c7 => ?_) (fun c7 => ?_)
      · rw [if_neg c7] at h
        exact wj_X13_missing_79 h rx1 rx2 rx3 ih hE
      · rw [if_pos c7] at h
        refine v_aload_n dX13_missing_40 0 rfl rfl ?_
        refine v_getS (f := 19) (t := 71) cf13 oc54 rfl rfl rfl (by decide) q789 dX13_missing_41 ?_
        refine v_aload_n dX13_missing_44 0 rfl rfl ?_
        refine v_getS (f := 17) (t := 70) cf13 oc54 rfl rfl rfl (by decide) q787 dX13_missing_45 ?_
        refine v_aload_n dX13_missing_48 0 rfl rfl ?_
        refine v_getI (f := 18) cf13 oc54 rfl (by decide) q788 dX13_missing_49 ?_
        refine v_iconst dX13_missing_52 ?_
        refine v_isub dX13_missing_53 ?_
        obtain ⟨g8, h⟩ := gd_some h
        refine v_iald oc70 (w32_rg _) g8.1 g8.2 dX13_missing_54 ?_
        refine v_iload_n dX13_missing_55 2 rfl rfl ?_
        refine v_bipush dX13_missing_56 rfl ?_
        refine v_idiv dX13_missing_58 (rgl rfl) (by decide) ?_
        refine v_iadd dX13_missing_59 ?_
        obtain ⟨g9, h⟩ := gd_some h
        refine v_iald oc71 (w32_rg _) g9.1 g9.2 dX13_missing_60 ?_
        refine v_iload_n dX13_missing_61 2 rfl rfl ?_
        refine v_bipush dX13_missing_62 rfl ?_
        refine v_irem dX13_missing_64 (rgl rfl) (by decide) ?_
        refine v_ishr dX13_missing_65 ?_
        refine v_iconst dX13_missing_66 ?_
        refine v_iand dX13_missing_67 ?_
        refine v_if_ne (tgt := 79) dX13_missing_68 (and32_rg _ _) (by decide) (fun c10 => ?_) (fun c10 => ?_)
        · rw [if_neg c10] at h
          exact wj_X13_missing_79 h rx1 rx2 rx3 ih hE
        · rw [if_pos c10] at h
          refine v_aload_n dX13_missing_71 0 rfl rfl ?_
          refine v_bipush dX13_missing_72 rfl ?_
          refine v_iload_n dX13_missing_74 1 rfl rfl ?_
          obtain ⟨r14, s11, e12, h⟩ := bd_some h
          have k13 := c_X13_wrong e12 (rgl rfl) rx1
          have r15 : rg r14 := k13.1.2.2
          refine v_callV (st := []) cf13 oc54 k13 (lw_V q2158 q2160 qs128 q310 q2161) rfl yk_X13_wrong ⟨Nat.le_of_ble_eq_true rfl, Nat.le_of_ble_eq_true rfl⟩ trivial ⟨kc54, trivial⟩ (Nat.le_of_ble_eq_true rfl) rfl dX13_missing_75 ?_
          refine v_popI dX13_missing_78 ?_
          exact wj_X13_missing_79 h rx1 rx2 rx3 ih hE

def f_X13_missing (x1 : Int) (s : vS) : Option (vS) :=
  gd (inb x1 (gN s 61)) <|
  bd (f_X6_base (gE s 61 x1) s) fun r5 s2 =>
  bd (f_X4_parts r5 s2) fun r10 s7 =>
  lq_0 (l_X13_missing_23 FU x1 0 r10 s7) fun s12 =>
  some s12
theorem yk_X13_missing : yOk yX13_missing 1 := ⟨by decide, by decide, by decide +kernel⟩
theorem c_X13_missing {x1 : Int} {s : vS} {out : vS} (h : f_X13_missing x1 s = some out)  (rx1 : rg x1) : VC yX13_missing cX13_missing 4 none 7 161 [vO 54, vI x1] s none out [] := by
  unfold f_X13_missing at h
  refine VC.of RX13 (by decide) rfl (Nat.le_of_ble_eq_true rfl) ?_
  show VW cX13_missing (RX13, none, out, none, 7, 161, 4, []) (P0 []) s 0 [(0, vO 54), (1, vI x1)] []
  refine v_iconst dX13_missing_0 ?_
  refine v_istore_n (L1 := [(2, vI 0), (0, vO 54), (1, vI x1)]) dX13_missing_1 rfl (by decide) rfl ?_
  refine v_aload_n dX13_missing_2 1 rfl rfl ?_
  refine v_getS (f := 0) (t := 10) cf13 oc54 rfl rfl rfl (by decide) q770 dX13_missing_3 ?_
  refine v_aload_n dX13_missing_6 1 rfl rfl ?_
  refine v_getS (f := 1) (t := 13) cf13 oc54 rfl rfl rfl (by decide) q771 dX13_missing_7 ?_
  refine v_aload_n dX13_missing_10 1 rfl rfl ?_
  refine v_getS (f := 8) (t := 61) cf13 oc54 rfl rfl rfl (by decide) q778 dX13_missing_11 ?_
  refine v_iload_n dX13_missing_14 2 rfl rfl ?_
  obtain ⟨g1, h⟩ := gd_some h
  refine v_iald oc61 rx1 g1.1 g1.2 dX13_missing_15 ?_
  obtain ⟨r5, s2, e3, h⟩ := bd_some h
  have k4 := c_X6_base e3 (gE_rg _ _ _)
  have r6 : rg r5 := k4.1.2.2
  refine v_callVN (st := [vO 10]) cf6 oc13 k4 q1591 q2155 q1590 qs60 q303 yk_X6_base ⟨Nat.le_of_ble_eq_true rfl, Nat.le_of_ble_eq_true rfl⟩ ⟨kc10, trivial⟩ ⟨kc54, trivial⟩ (Nat.le_of_ble_eq_true rfl) rfl dX13_missing_16 ?_
  obtain ⟨r10, s7, e8, h⟩ := bd_some h
  have k9 := c_X4_parts e8 r6
  have r11 : rg r10 := k9.1.2.2
  refine v_callV (st := []) cf4 oc10 k9 (lw_V q2156 q1493 q1494 q301 q1495) rfl yk_X4_parts ⟨Nat.le_of_ble_eq_true rfl, Nat.le_of_ble_eq_true rfl⟩ trivial ⟨kc54, trivial⟩ (Nat.le_of_ble_eq_true rfl) rfl dX13_missing_19 ?_
  refine v_istore_n (L1 := [(3, vI r10), (2, vI 0), (0, vO 54), (1, vI x1)]) dX13_missing_22 rfl (by decide) rfl ?_
  refine v_sub [2, 3, 1, 0] (L1 := [(0, vO 54), (1, vI x1), (2, vI 0), (3, vI r10)]) rfl ?_
  obtain ⟨s12, e13, h⟩ := lq_0_some h
  refine wl_X13_missing_23 rx1 FU 0 r10 s7 _ e13 (rgl rfl) r11 ?_
  unfold E_X13_missing_23
  intro s12' z_
  cases z_
  cases h
  exact v_vret dX13_missing_94

def E_X13_close_62 (rv : Option vA) (σo : vS) (q : vS) : Prop := ∀ (s' : vS), q = s' → VW cX13_close (RX13, rv, σo, none, 9, 203, 5, []) (P0 []) s' 103 [(0, vO 54)] []
def j_X13_close_89 (rec : Int → Int → vS → Option (vS)) (x2 : Int) (x4 : Int) (s : vS) : Option (vS) :=
  bd (f_X4_next x4 s) fun r4 s1 =>
  rec x2 r4 s1
theorem wj_X13_close_89 {x2 : Int} {x4 : Int} {s : vS} {rv : Option vA} {σo : vS} {rec : Int → Int → vS → Option (vS)} {q : vS} (h : j_X13_close_89 rec x2 x4 s = some q)  (rx2 : rg x2) (rx4 : rg x4) (hrec : ∀ (y4 : Int) (s : vS) (q : vS), rec x2 y4 s = some q → rg y4 → E_X13_close_62 rv σo q → VW cX13_close (RX13, rv, σo, none, 9, 203, 5, []) (P0 []) s 62 [(0, vO 54), (2, vI x2), (4, vI y4)] []) (hE : E_X13_close_62 rv σo q) : VW cX13_close (RX13, rv, σo, none, 9, 203, 5, []) (P0 []) s 89 [(0, vO 54), (2, vI x2), (4, vI x4)] [] := by
  unfold j_X13_close_89 at h
  refine v_aload_n dX13_close_89 0 rfl rfl ?_
  refine v_getS (f := 0) (t := 10) cf13 oc54 rfl rfl rfl (by decide) q770 dX13_close_90 ?_
  refine v_iload dX13_close_93 2 rfl ?_
  obtain ⟨r4, s1, e2, h⟩ := bd_some h
  have k3 := c_X4_next e2 rx4
  have r5 : rg r4 := k3.1.2.2
  refine v_callV (st := []) cf4 oc10 k3 (lw_V q2157 q1404 q1405 q301 q1406) rfl yk_X4_next ⟨Nat.le_of_ble_eq_true rfl, Nat.le_of_ble_eq_true rfl⟩ trivial ⟨kc54, trivial⟩ (Nat.le_of_ble_eq_true rfl) rfl dX13_close_95 ?_
  refine v_istore (L1 := [(4, vI r4), (0, vO 54), (2, vI x2)]) dX13_close_98 (by decide) rfl ?_
  refine v_goto (tgt := 62) dX13_close_100 (by decide) ?_
  refine v_sub [1, 2, 0] (L1 := [(0, vO 54), (2, vI x2), (4, vI r4)]) rfl ?_
  exact hrec r4 s1 _ h r5 hE

def l_X13_close_62 : Nat → Int → Int → vS → Option (vS)
  | 0, _, _, _ => none
  | n + 1, x2, x4, s =>
    if x4 = (-1) then
      some s
    else
      bd (f_X4_at x4 5 s) fun r5 s2 =>
      if r5 = 0 then
        bd (f_X13_wrong 12 x2 s2) fun r11 s8 =>
        j_X13_close_89 (l_X13_close_62 n) x2 x4 s8
      else
        j_X13_close_89 (l_X13_close_62 n) x2 x4 s2
theorem wl_X13_close_62 {x2 : Int} {rv : Option vA} {σo : vS}  (rx2 : rg x2) : ∀ (n : Nat) (x4 : Int) (s : vS) (q : vS), l_X13_close_62 n x2 x4 s = some q → rg x4 → E_X13_close_62 rv σo q → VW cX13_close (RX13, rv, σo, none, 9, 203, 5, []) (P0 []) s 62 [(0, vO 54), (2, vI x2), (4, vI x4)] [] := by
  intro n
  induction n with
  | zero => intro x4 s q h; cases h
  | succ n ih =>
    intro x4 s q h rx4 hE
    unfold l_X13_close_62 at h
    refine v_iload dX13_close_62 2 rfl ?_
    refine v_iconst dX13_close_64 ?_
    refine v_icmp_eq (tgt := 103) dX13_close_65 rx4 (rgl rfl) (by decide) (fun c1 => ?_) (fun c1 => ?_)
    · rw [if_pos c1] at h
      cases h
      refine v_sub [0] (L1 := [(0, vO 54)]) rfl ?_
      exact hE _ rfl 
    · rw [if_neg c1] at h
      refine v_aload_n dX13_close_68 0 rfl rfl ?_
      refine v_getS (f := 0) (t := 10) cf13 oc54 rfl rfl rfl (by decide) q770 dX13_close_69 ?_
      refine v_iload dX13_close_72 2 rfl ?_
      refine v_iconst dX13_close_74 ?_
      obtain ⟨r5, s2, e3, h⟩ := bd_some h
      have k4 := c_X4_at e3 rx4 (rgl rfl)
      have r6 : rg r5 := k4.1.2.2
      refine v_callV (st := []) cf4 oc10 k4 (lw_V q2252 q1400 q1401 q301 q1402) rfl yk_X4_at ⟨Nat.le_of_ble_eq_true rfl, Nat.le_of_ble_eq_true rfl⟩ trivial ⟨kc54, trivial⟩ (Nat.le_of_ble_eq_true rfl) rfl dX13_close_75 ?_
      refine v_if_ne (tgt := 89) dX13_close_78 r6 (by decide) (fun c7 => ?_) (fun c7 => ?_)
      · rw [if_neg c7] at h
        exact wj_X13_close_89 h rx2 rx4 ih hE
      · rw [if_pos c7] at h
        refine v_aload_n dX13_close_81 0 rfl rfl ?_
        refine v_bipush dX13_close_82 rfl ?_
        refine v_iload_n dX13_close_84 1 rfl rfl ?_
        obtain ⟨r11, s8, e9, h⟩ := bd_some h
        have k10 := c_X13_wrong e9 (rgl rfl) rx2
        have r12 : rg r11 := k10.1.2.2
        refine v_callV (st := []) cf13 oc54 k10 (lw_V q2158 q2160 qs128 q310 q2161) rfl yk_X13_wrong ⟨Nat.le_of_ble_eq_true rfl, Nat.le_of_ble_eq_true rfl⟩ trivial ⟨kc54, trivial⟩ (Nat.le_of_ble_eq_true rfl) rfl dX13_close_85 ?_
        refine v_popI dX13_close_88 ?_
        exact wj_X13_close_89 h rx2 rx4 ih hE

def f_X13_close (s : vS) : Option (vS) :=
  vl (w32 ((gI s 54 18) - 1)) fun y1 =>
  gd (inb y1 (gN s 67)) <|
  vl (gE s 67 y1) fun y5 =>
  bd (f_X13_kind y5 s) fun r11 s8 =>
  bd (f_X13_isAround y5 s8) fun r16 s13 =>
  if r16 = 0 then
    if r11 = 12 then
      gd (inb y1 (gN s13 68)) <|
      vl (gE s13 68 y1) fun y44 =>
      lq_0 (l_X13_close_62 FU y5 y44 s13) fun s47 =>
      stp (sI s47 54 18 (w32 ((gI s47 54 18) - 1))) fun s49 =>
      some s49
    else
      if r11 = 13 then
        bdv (f_X13_missing y5 s13) fun s38 =>
        stp (sI s38 54 18 (w32 ((gI s38 54 18) - 1))) fun s41 =>
        some s41
      else
        gd (inb y5 (gN s13 61)) <|
        gd (inb y1 (gN s13 69)) <|
        bd (f_X6_isSize (gE s13 61 y5) (gE s13 69 y1) s13) fun r26 s23 =>
        if r26 = 0 then
          bd (f_X13_wrong 22 y5 s23) fun r34 s31 =>
          stp (sI s31 54 18 (w32 ((gI s31 54 18) - 1))) fun s36 =>
          some s36
        else
          stp (sI s23 54 18 (w32 ((gI s23 54 18) - 1))) fun s29 =>
          some s29
  else
    gd (inb y1 (gN s13 69)) <|
    if (gE s13 69 y1) = 0 then
      bd (f_X13_wrong 15 y5 s13) fun r58 s55 =>
      stp (sI s55 54 18 (w32 ((gI s55 54 18) - 1))) fun s60 =>
      some s60
    else
      stp (sI s13 54 18 (w32 ((gI s13 54 18) - 1))) fun s53 =>
      some s53
theorem yk_X13_close : yOk yX13_close 0 := ⟨by decide, by decide, by decide +kernel⟩
theorem c_X13_close {s : vS} {out : vS} (h : f_X13_close s = some out)   : VC yX13_close cX13_close 5 none 9 203 [vO 54] s none out [] := by
  unfold f_X13_close at h
  refine VC.of RX13 (by decide) rfl (Nat.le_of_ble_eq_true rfl) ?_
  show VW cX13_close (RX13, none, out, none, 9, 203, 5, []) (P0 []) s 0 [(0, vO 54)] []
  refine v_aload_n dX13_close_0 0 rfl rfl ?_
  refine v_getI (f := 18) cf13 oc54 rfl (by decide) q788 dX13_close_1 ?_
  refine v_iconst dX13_close_4 ?_
  refine v_isub dX13_close_5 ?_
  obtain ⟨y1, e2, h⟩ := vl_some h
  rw [← e2]
  have r3 : rg y1 := by rw [e2]; exact w32_rg _
  refine v_istore_n (L1 := [(1, vI y1), (0, vO 54)]) dX13_close_6 rfl (by decide) rfl ?_
  refine v_aload_n dX13_close_7 1 rfl rfl ?_
  refine v_getS (f := 14) (t := 67) cf13 oc54 rfl rfl rfl (by decide) q784 dX13_close_8 ?_
  refine v_iload_n dX13_close_11 0 rfl rfl ?_
  obtain ⟨g4, h⟩ := gd_some h
  refine v_iald oc67 r3 g4.1 g4.2 dX13_close_12 ?_
  obtain ⟨y5, e6, h⟩ := vl_some h
  rw [← e6]
  have r7 : rg y5 := by rw [e6]; exact gE_rg _ _ _
  refine v_istore_n (L1 := [(2, vI y5), (1, vI y1), (0, vO 54)]) dX13_close_13 rfl (by decide) rfl ?_
  refine v_aload_n dX13_close_14 2 rfl rfl ?_
  refine v_iload_n dX13_close_15 0 rfl rfl ?_
  obtain ⟨r11, s8, e9, h⟩ := bd_some h
  have k10 := c_X13_kind e9 r7
  have r12 : rg r11 := k10.1.2.2
  refine v_callV (st := []) cf13 oc54 k10 (lw_V q2170 q2172 qs130 q310 q2173) rfl yk_X13_kind ⟨Nat.le_of_ble_eq_true rfl, Nat.le_of_ble_eq_true rfl⟩ trivial ⟨kc54, trivial⟩ (Nat.le_of_ble_eq_true rfl) rfl dX13_close_16 ?_
  refine v_istore_n (L1 := [(3, vI r11), (2, vI y5), (1, vI y1), (0, vO 54)]) dX13_close_19 rfl (by decide) rfl ?_
  refine v_aload_n dX13_close_20 3 rfl rfl ?_
  refine v_iload_n dX13_close_21 1 rfl rfl ?_
  obtain ⟨r16, s13, e14, h⟩ := bd_some h
  have k15 := c_X13_isAround e14 r7
  have r17 : rg r16 := k15.1.2.2
  refine v_callV (st := []) cf13 oc54 k15 (lw_V q2175 q2177 qs131 q310 q2178) rfl yk_X13_isAround ⟨Nat.le_of_ble_eq_true rfl, Nat.le_of_ble_eq_true rfl⟩ trivial ⟨kc54, trivial⟩ (Nat.le_of_ble_eq_true rfl) rfl dX13_close_22 ?_
  refine v_if_eq (tgt := 48) dX13_close_25 r17 (by decide) (fun c18 => ?_) (fun c18 => ?_)
  · rw [if_pos c18] at h
    refine v_iload_n dX13_close_48 0 rfl rfl ?_
    refine v_bipush dX13_close_49 rfl ?_
    refine v_icmp_ne (tgt := 106) dX13_close_51 r12 (rgl rfl) (by decide) (fun c19 => ?_) (fun c19 => ?_)
    · rw [if_neg c19] at h
      refine v_iload_n dX13_close_106 0 rfl rfl ?_
      refine v_bipush dX13_close_107 rfl ?_
      refine v_icmp_ne (tgt := 120) dX13_close_109 r12 (rgl rfl) (by decide) (fun c20 => ?_) (fun c20 => ?_)
      · rw [if_neg c20] at h
        refine v_aload_n dX13_close_120 3 rfl rfl ?_
        refine v_getS (f := 1) (t := 13) cf13 oc54 rfl rfl rfl (by decide) q771 dX13_close_121 ?_
        refine v_aload_n dX13_close_124 3 rfl rfl ?_
        refine v_getS (f := 8) (t := 61) cf13 oc54 rfl rfl rfl (by decide) q778 dX13_close_125 ?_
        refine v_iload_n dX13_close_128 1 rfl rfl ?_
        obtain ⟨g21, h⟩ := gd_some h
        refine v_iald oc61 r7 g21.1 g21.2 dX13_close_129 ?_
        refine v_aload_n dX13_close_130 3 rfl rfl ?_
        refine v_getS (f := 16) (t := 69) cf13 oc54 rfl rfl rfl (by decide) q786 dX13_close_131 ?_
        refine v_iload_n dX13_close_134 2 rfl rfl ?_
        obtain ⟨g22, h⟩ := gd_some h
        refine v_iald oc69 r3 g22.1 g22.2 dX13_close_135 ?_
        obtain ⟨r26, s23, e24, h⟩ := bd_some h
        have k25 := c_X6_isSize e24 (gE_rg _ _ _) (gE_rg _ _ _)
        have r27 : rg r26 := k25.1.2.2
        refine v_callV (st := []) cf6 oc13 k25 (lw_V q2243 q1749 q1750 q303 q1751) rfl yk_X6_isSize ⟨Nat.le_of_ble_eq_true rfl, Nat.le_of_ble_eq_true rfl⟩ trivial ⟨kc54, trivial⟩ (Nat.le_of_ble_eq_true rfl) rfl dX13_close_136 ?_
        refine v_if_ne (tgt := 150) dX13_close_139 r27 (by decide) (fun c28 => ?_) (fun c28 => ?_)
        · rw [if_neg c28] at h
          refine v_aload_n dX13_close_150 3 rfl rfl ?_
          refine v_dupO dX13_close_151 ?_
          refine v_getI (f := 18) cf13 oc54 rfl (by decide) q788 dX13_close_152 ?_
          refine v_iconst dX13_close_155 ?_
          refine v_isub dX13_close_156 ?_
          obtain ⟨s29, e30, h⟩ := stp_some h
          refine v_putI (f := 18) cf13 oc54 rfl (by decide) q788 dX13_close_157 rfl rfl ?_
          rw [← e30]
          cases h
          exact v_vret dX13_close_160
        · rw [if_pos c28] at h
          refine v_aload_n dX13_close_142 3 rfl rfl ?_
          refine v_bipush dX13_close_143 rfl ?_
          refine v_iload_n dX13_close_145 1 rfl rfl ?_
          obtain ⟨r34, s31, e32, h⟩ := bd_some h
          have k33 := c_X13_wrong e32 (rgl rfl) r7
          have r35 : rg r34 := k33.1.2.2
          refine v_callV (st := []) cf13 oc54 k33 (lw_V q2158 q2160 qs128 q310 q2161) rfl yk_X13_wrong ⟨Nat.le_of_ble_eq_true rfl, Nat.le_of_ble_eq_true rfl⟩ trivial ⟨kc54, trivial⟩ (Nat.le_of_ble_eq_true rfl) rfl dX13_close_146 ?_
          refine v_popI dX13_close_149 ?_
          refine v_aload_n dX13_close_150 3 rfl rfl ?_
          refine v_dupO dX13_close_151 ?_
          refine v_getI (f := 18) cf13 oc54 rfl (by decide) q788 dX13_close_152 ?_
          refine v_iconst dX13_close_155 ?_
          refine v_isub dX13_close_156 ?_
          obtain ⟨s36, e37, h⟩ := stp_some h
          refine v_putI (f := 18) cf13 oc54 rfl (by decide) q788 dX13_close_157 rfl rfl ?_
          rw [← e37]
          cases h
          exact v_vret dX13_close_160
      · rw [if_pos c20] at h
        refine v_aload_n dX13_close_112 3 rfl rfl ?_
        refine v_iload_n dX13_close_113 1 rfl rfl ?_
        obtain ⟨s38, e39, h⟩ := bdv_some h
        have k40 := c_X13_missing e39 r7
        refine v_callV (st := []) cf13 oc54 k40 (lw_V q2253 q2255 qs140 q310 q2256) rfl yk_X13_missing ⟨Nat.le_of_ble_eq_true rfl, Nat.le_of_ble_eq_true rfl⟩ trivial ⟨kc54, trivial⟩ (Nat.le_of_ble_eq_true rfl) rfl dX13_close_114 ?_
        refine v_goto (tgt := 150) dX13_close_117 (by decide) ?_
        refine v_aload_n dX13_close_150 3 rfl rfl ?_
        refine v_dupO dX13_close_151 ?_
        refine v_getI (f := 18) cf13 oc54 rfl (by decide) q788 dX13_close_152 ?_
        refine v_iconst dX13_close_155 ?_
        refine v_isub dX13_close_156 ?_
        obtain ⟨s41, e42, h⟩ := stp_some h
        refine v_putI (f := 18) cf13 oc54 rfl (by decide) q788 dX13_close_157 rfl rfl ?_
        rw [← e42]
        cases h
        exact v_vret dX13_close_160
    · rw [if_pos c19] at h
      refine v_aload_n dX13_close_54 3 rfl rfl ?_
      refine v_getS (f := 15) (t := 68) cf13 oc54 rfl rfl rfl (by decide) q785 dX13_close_55 ?_
      refine v_iload_n dX13_close_58 2 rfl rfl ?_
      obtain ⟨g43, h⟩ := gd_some h
      refine v_iald oc68 r3 g43.1 g43.2 dX13_close_59 ?_
      obtain ⟨y44, e45, h⟩ := vl_some h
      rw [← e45]
      have r46 : rg y44 := by rw [e45]; exact gE_rg _ _ _
      refine v_istore (L1 := [(4, vI y44), (3, vI r11), (2, vI y5), (1, vI y1), (0, vO 54)]) dX13_close_60 (by decide) rfl ?_
      refine v_sub [4, 2, 0] (L1 := [(0, vO 54), (2, vI y5), (4, vI y44)]) rfl ?_
      obtain ⟨s47, e48, h⟩ := lq_0_some h
      refine wl_X13_close_62 r7 FU y44 s13 _ e48 r46 ?_
      unfold E_X13_close_62
      intro s47' z_
      cases z_
      refine v_goto (tgt := 150) dX13_close_103 (by decide) ?_
      refine v_aload_n dX13_close_150 0 rfl rfl ?_
      refine v_dupO dX13_close_151 ?_
      refine v_getI (f := 18) cf13 oc54 rfl (by decide) q788 dX13_close_152 ?_
      refine v_iconst dX13_close_155 ?_
      refine v_isub dX13_close_156 ?_
      obtain ⟨s49, e50, h⟩ := stp_some h
      refine v_putI (f := 18) cf13 oc54 rfl (by decide) q788 dX13_close_157 rfl rfl ?_
      rw [← e50]
      cases h
      exact v_vret dX13_close_160
  · rw [if_neg c18] at h
    refine v_aload_n dX13_close_28 3 rfl rfl ?_
    refine v_getS (f := 16) (t := 69) cf13 oc54 rfl rfl rfl (by decide) q786 dX13_close_29 ?_
    refine v_iload_n dX13_close_32 2 rfl rfl ?_
    obtain ⟨g51, h⟩ := gd_some h
    refine v_iald oc69 r3 g51.1 g51.2 dX13_close_33 ?_
    refine v_if_ne (tgt := 150) dX13_close_34 (gE_rg _ _ _) (by decide) (fun c52 => ?_) (fun c52 => ?_)
    · rw [if_neg c52] at h
      refine v_aload_n dX13_close_150 3 rfl rfl ?_
      refine v_dupO dX13_close_151 ?_
      refine v_getI (f := 18) cf13 oc54 rfl (by decide) q788 dX13_close_152 ?_
      refine v_iconst dX13_close_155 ?_
      refine v_isub dX13_close_156 ?_
      obtain ⟨s53, e54, h⟩ := stp_some h
      refine v_putI (f := 18) cf13 oc54 rfl (by decide) q788 dX13_close_157 rfl rfl ?_
      rw [← e54]
      cases h
      exact v_vret dX13_close_160
    · rw [if_pos c52] at h
      refine v_aload_n dX13_close_37 3 rfl rfl ?_
      refine v_bipush dX13_close_38 rfl ?_
      refine v_iload_n dX13_close_40 1 rfl rfl ?_
      obtain ⟨r58, s55, e56, h⟩ := bd_some h
      have k57 := c_X13_wrong e56 (rgl rfl) r7
      have r59 : rg r58 := k57.1.2.2
      refine v_callV (st := []) cf13 oc54 k57 (lw_V q2158 q2160 qs128 q310 q2161) rfl yk_X13_wrong ⟨Nat.le_of_ble_eq_true rfl, Nat.le_of_ble_eq_true rfl⟩ trivial ⟨kc54, trivial⟩ (Nat.le_of_ble_eq_true rfl) rfl dX13_close_41 ?_
      refine v_popI dX13_close_44 ?_
      refine v_goto (tgt := 150) dX13_close_45 (by decide) ?_
      refine v_aload_n dX13_close_150 3 rfl rfl ?_
      refine v_dupO dX13_close_151 ?_
      refine v_getI (f := 18) cf13 oc54 rfl (by decide) q788 dX13_close_152 ?_
      refine v_iconst dX13_close_155 ?_
      refine v_isub dX13_close_156 ?_
      obtain ⟨s60, e61, h⟩ := stp_some h
      refine v_putI (f := 18) cf13 oc54 rfl (by decide) q788 dX13_close_157 rfl rfl ?_
      rw [← e61]
      cases h
      exact v_vret dX13_close_160

def f_X13_unexpected (x1 : Int) (s : vS) : Option (Int × vS) :=
  bd (f_X13_wrong 11 x1 s) fun r4 s1 =>
  some (x1, s1)
theorem yk_X13_unexpected : yOk yX13_unexpected 1 := ⟨by decide, by decide, by decide +kernel⟩
theorem c_X13_unexpected {x1 : Int} {s : vS} {out : Int × vS} (h : f_X13_unexpected x1 s = some out)  (rx1 : rg x1) : VC yX13_unexpected cX13_unexpected 2 (some .int) 2 43 [vO 54, vI x1] s (some (vI out.1)) out.2 [] := by
  unfold f_X13_unexpected at h
  refine VC.of RX13 (by decide) rfl (Nat.le_of_ble_eq_true rfl) ?_
  show VW cX13_unexpected (RX13, (some (vI out.1)), out.2, (some .int), 2, 43, 2, []) (P0 []) s 0 [(0, vO 54), (1, vI x1)] []
  refine v_aload_n dX13_unexpected_0 0 rfl rfl ?_
  refine v_bipush dX13_unexpected_1 rfl ?_
  refine v_iload_n dX13_unexpected_3 1 rfl rfl ?_
  obtain ⟨r4, s1, e2, h⟩ := bd_some h
  have k3 := c_X13_wrong e2 (rgl rfl) rx1
  have r5 : rg r4 := k3.1.2.2
  refine v_callV (st := []) cf13 oc54 k3 (lw_V q2158 q2160 qs128 q310 q2161) rfl yk_X13_wrong ⟨Nat.le_of_ble_eq_true rfl, Nat.le_of_ble_eq_true rfl⟩ trivial ⟨kc54, trivial⟩ (Nat.le_of_ble_eq_true rfl) rfl dX13_unexpected_4 ?_
  refine v_popI dX13_unexpected_7 ?_
  refine v_iload_n dX13_unexpected_8 1 rfl rfl ?_
  cases h
  exact v_iret rx1 dX13_unexpected_9

def E_X13_inner_116 (x2 : Int) (rv : Option vA) (σo : vS) (q : (vS) ⊕ (Int × vS)) : Prop := (∀ (s' : vS), q = .inl s' → VW cX13_inner (RX13, rv, σo, (some .int), 11, 267, 8, []) (P0 []) s' 176 [(0, vO 54), (2, vI x2)] []) ∧ (∀ (v : Int) (s' : vS), q = .inr (v, s') → rv = some (vI v) ∧ σo = s')
def l_X13_inner_116 : Nat → Int → Int → Int → vS → Option ((vS) ⊕ (Int × vS))
  | 0, _, _, _, _ => none
  | n + 1, x1, x2, x6, s =>
    if x6 = (-1) then
      some (.inl s)
    else
      bd (f_X4_parts x6 s) fun r5 s2 =>
      gd (gR s2 54 5 = 44) <|
      bd (f_X12_tag x2 s2) fun r11 s8 =>
      bd (f_X13_find r5 r11 s8) fun r16 s13 =>
      if r16 = (-1) then
        bd (f_X4_next x6 s13) fun r22 s19 =>
        l_X13_inner_116 n x1 x2 r22 s19
      else
        bd (f_X13_begin x2 r16 0 (-1) x1 s13) fun r27 s24 =>
        some (.inr (r27, s24))
theorem wl_X13_inner_116 {x1 : Int} {x2 : Int} {rv : Option vA} {σo : vS}  (rx1 : rg x1) (rx2 : rg x2) : ∀ (n : Nat) (x6 : Int) (s : vS) (q : (vS) ⊕ (Int × vS)), l_X13_inner_116 n x1 x2 x6 s = some q → rg x6 → E_X13_inner_116 x2 rv σo q → VW cX13_inner (RX13, rv, σo, (some .int), 11, 267, 8, []) (P0 []) s 116 [(0, vO 54), (1, vI x1), (2, vI x2), (6, vI x6)] [] := by
  intro n
  induction n with
  | zero => intro x6 s q h; cases h
  | succ n ih =>
    intro x6 s q h rx6 hE
    unfold l_X13_inner_116 at h
    refine v_iload dX13_inner_116 3 rfl ?_
    refine v_iconst dX13_inner_118 ?_
    refine v_icmp_eq (tgt := 176) dX13_inner_119 rx6 (rgl rfl) (by decide) (fun c1 => ?_) (fun c1 => ?_)
    · rw [if_pos c1] at h
      cases h
      refine v_sub [0, 2] (L1 := [(0, vO 54), (2, vI x2)]) rfl ?_
      exact hE.1 _ rfl 
    · rw [if_neg c1] at h
      refine v_aload_n dX13_inner_122 0 rfl rfl ?_
      refine v_aload_n dX13_inner_123 0 rfl rfl ?_
      refine v_getS (f := 0) (t := 10) cf13 oc54 rfl rfl rfl (by decide) q770 dX13_inner_124 ?_
      refine v_iload dX13_inner_127 3 rfl ?_
      obtain ⟨r5, s2, e3, h⟩ := bd_some h
      have k4 := c_X4_parts e3 rx6
      have r6 : rg r5 := k4.1.2.2
      refine v_callV (st := [vO 54]) cf4 oc10 k4 (lw_V q2156 q1493 q1494 q301 q1495) rfl yk_X4_parts ⟨Nat.le_of_ble_eq_true rfl, Nat.le_of_ble_eq_true rfl⟩ ⟨kc54, trivial⟩ ⟨kc54, trivial⟩ (Nat.le_of_ble_eq_true rfl) rfl dX13_inner_129 ?_
      refine v_aload_n dX13_inner_132 0 rfl rfl ?_
      obtain ⟨g7, h⟩ := gd_some h
      refine v_getR (f := 5) cf13 oc54 rfl (by rw [g7]; decide) (by decide) q775 dX13_inner_133 ?_
      rw [g7]
      refine v_iload_n dX13_inner_136 2 rfl rfl ?_
      obtain ⟨r11, s8, e9, h⟩ := bd_some h
      have k10 := c_X12_tag e9 rx2
      have r12 : rg r11 := k10.1.2.2
      refine v_callV (st := [vI r5, vO 54]) cf12 oc44 k10 (lw_V q2145 q2146 q2147 q309 q2148) rfl yk_X12_tag ⟨Nat.le_of_ble_eq_true rfl, Nat.le_of_ble_eq_true rfl⟩ ⟨kc54, trivial⟩ ⟨kc54, trivial⟩ (Nat.le_of_ble_eq_true rfl) rfl dX13_inner_137 ?_
      obtain ⟨r16, s13, e14, h⟩ := bd_some h
      have k15 := c_X13_find e14 r6 r12
      have r17 : rg r16 := k15.1.2.2
      refine v_callV (st := []) cf13 oc54 k15 (lw_V q2149 q2151 qs127 q310 q2152) rfl yk_X13_find ⟨Nat.le_of_ble_eq_true rfl, Nat.le_of_ble_eq_true rfl⟩ trivial ⟨kc54, trivial⟩ (Nat.le_of_ble_eq_true rfl) rfl dX13_inner_140 ?_
      refine v_istore (L1 := [(7, vI r16), (0, vO 54), (1, vI x1), (2, vI x2), (6, vI x6)]) dX13_inner_143 (by decide) rfl ?_
      refine v_iload dX13_inner_145 0 rfl ?_
      refine v_iconst dX13_inner_147 ?_
      refine v_icmp_eq (tgt := 162) dX13_inner_148 r17 (rgl rfl) (by decide) (fun c18 => ?_) (fun c18 => ?_)
      · rw [if_pos c18] at h
        refine v_aload_n dX13_inner_162 1 rfl rfl ?_
        refine v_getS (f := 0) (t := 10) cf13 oc54 rfl rfl rfl (by decide) q770 dX13_inner_163 ?_
        refine v_iload dX13_inner_166 4 rfl ?_
        obtain ⟨r22, s19, e20, h⟩ := bd_some h
        have k21 := c_X4_next e20 rx6
        have r23 : rg r22 := k21.1.2.2
        refine v_callV (st := []) cf4 oc10 k21 (lw_V q2157 q1404 q1405 q301 q1406) rfl yk_X4_next ⟨Nat.le_of_ble_eq_true rfl, Nat.le_of_ble_eq_true rfl⟩ trivial ⟨kc54, trivial⟩ (Nat.le_of_ble_eq_true rfl) rfl dX13_inner_168 ?_
        refine v_istore (L1 := [(6, vI r22), (7, vI r16), (0, vO 54), (1, vI x1), (2, vI x2)]) dX13_inner_171 (by decide) rfl ?_
        refine v_goto (tgt := 116) dX13_inner_173 (by decide) ?_
        refine v_sub [2, 3, 4, 0] (L1 := [(0, vO 54), (1, vI x1), (2, vI x2), (6, vI r22)]) rfl ?_
        exact ih r22 s19 _ h r23 hE
      · rw [if_neg c18] at h
        refine v_aload_n dX13_inner_151 1 rfl rfl ?_
        refine v_iload_n dX13_inner_152 3 rfl rfl ?_
        refine v_iload dX13_inner_153 0 rfl ?_
        refine v_iconst dX13_inner_155 ?_
        refine v_iconst dX13_inner_156 ?_
        refine v_iload_n dX13_inner_157 2 rfl rfl ?_
        obtain ⟨r27, s24, e25, h⟩ := bd_some h
        have k26 := c_X13_begin e25 rx2 r17 (rgl rfl) (rgl rfl) rx1
        have r28 : rg r27 := k26.1.2.2
        refine v_callV (st := []) cf13 oc54 k26 (lw_V q2166 q2168 qs129 q310 q2169) rfl yk_X13_begin ⟨Nat.le_of_ble_eq_true rfl, Nat.le_of_ble_eq_true rfl⟩ trivial ⟨kc54, trivial⟩ (Nat.le_of_ble_eq_true rfl) rfl dX13_inner_158 ?_
        cases h
        obtain ⟨z1, z2⟩ := hE.2 _ _ rfl
        subst z1
        subst z2
        exact v_iret r28 dX13_inner_161

def f_X13_inner (x1 : Int) (x2 : Int) (s : vS) : Option (Int × vS) :=
  gd (inb (w32 ((gI s 54 18) - 1)) (gN s 69)) <|
  if (gE s 69 (w32 ((gI s 54 18) - 1))) ≤ 1 then
    gd (inb x1 (gN s 61)) <|
    vl (gE s 61 x1) fun y4 =>
    gd (inb x1 (gN s 62)) <|
    vl (w32 ((gE s 62 x1) + 1)) fun y8 =>
    bd (f_X6_tagCount y4 s) fun r14 s11 =>
    if r14 ≤ y8 then
      bd (f_X6_base y4 s11) fun r20 s17 =>
      bd (f_X4_parts r20 s17) fun r25 s22 =>
      lqs_0 (l_X13_inner_116 FU x1 x2 r25 s22) (fun s27 =>
        bd (f_X13_unexpected x2 s27) fun r32 s29 =>
        some (r32, s29))
        (fun q => some q)
    else
      bd (f_X6_tag y4 y8 s11) fun r37 s34 =>
      gd (gR s34 54 5 = 44) <|
      bd (f_X12_tag x2 s34) fun r43 s40 =>
      if r37 = r43 then
        bd (f_X13_begin x2 y4 y8 (-1) x1 s40) fun r54 s51 =>
        some (r54, s51)
      else
        bd (f_X13_unexpected x2 s40) fun r49 s46 =>
        some (r49, s46)
  else
    bd (f_X13_wrong 15 x1 s) fun r59 s56 =>
    some (x2, s56)
theorem yk_X13_inner : yOk yX13_inner 2 := ⟨by decide, by decide, by decide +kernel⟩
theorem c_X13_inner {x1 : Int} {x2 : Int} {s : vS} {out : Int × vS} (h : f_X13_inner x1 x2 s = some out)  (rx1 : rg x1) (rx2 : rg x2) : VC yX13_inner cX13_inner 8 (some .int) 11 267 [vO 54, vI x1, vI x2] s (some (vI out.1)) out.2 [] := by
  unfold f_X13_inner at h
  refine VC.of RX13 (by decide) rfl (Nat.le_of_ble_eq_true rfl) ?_
  show VW cX13_inner (RX13, (some (vI out.1)), out.2, (some .int), 11, 267, 8, []) (P0 []) s 0 [(0, vO 54), (1, vI x1), (2, vI x2)] []
  refine v_aload_n dX13_inner_0 0 rfl rfl ?_
  refine v_getS (f := 16) (t := 69) cf13 oc54 rfl rfl rfl (by decide) q786 dX13_inner_1 ?_
  refine v_aload_n dX13_inner_4 0 rfl rfl ?_
  refine v_getI (f := 18) cf13 oc54 rfl (by decide) q788 dX13_inner_5 ?_
  refine v_iconst dX13_inner_8 ?_
  refine v_isub dX13_inner_9 ?_
  obtain ⟨g1, h⟩ := gd_some h
  refine v_iald oc69 (w32_rg _) g1.1 g1.2 dX13_inner_10 ?_
  refine v_iconst dX13_inner_11 ?_
  refine v_icmp_le (tgt := 25) dX13_inner_12 (gE_rg _ _ _) (rgl rfl) (by decide) (fun c2 => ?_) (fun c2 => ?_)
  · rw [if_pos c2] at h
    refine v_aload_n dX13_inner_25 0 rfl rfl ?_
    refine v_getS (f := 8) (t := 61) cf13 oc54 rfl rfl rfl (by decide) q778 dX13_inner_26 ?_
    refine v_iload_n dX13_inner_29 1 rfl rfl ?_
    obtain ⟨g3, h⟩ := gd_some h
    refine v_iald oc61 rx1 g3.1 g3.2 dX13_inner_30 ?_
    obtain ⟨y4, e5, h⟩ := vl_some h
    rw [← e5]
    have r6 : rg y4 := by rw [e5]; exact gE_rg _ _ _
    refine v_istore_n (L1 := [(3, vI y4), (0, vO 54), (1, vI x1), (2, vI x2)]) dX13_inner_31 rfl (by decide) rfl ?_
    refine v_aload_n dX13_inner_32 1 rfl rfl ?_
    refine v_getS (f := 9) (t := 62) cf13 oc54 rfl rfl rfl (by decide) q779 dX13_inner_33 ?_
    refine v_iload_n dX13_inner_36 2 rfl rfl ?_
    obtain ⟨g7, h⟩ := gd_some h
    refine v_iald oc62 rx1 g7.1 g7.2 dX13_inner_37 ?_
    refine v_iconst dX13_inner_38 ?_
    refine v_iadd dX13_inner_39 ?_
    obtain ⟨y8, e9, h⟩ := vl_some h
    rw [← e9]
    have r10 : rg y8 := by rw [e9]; exact w32_rg _
    refine v_istore (L1 := [(4, vI y8), (3, vI y4), (0, vO 54), (1, vI x1), (2, vI x2)]) dX13_inner_40 (by decide) rfl ?_
    refine v_iload dX13_inner_42 0 rfl ?_
    refine v_aload_n dX13_inner_44 2 rfl rfl ?_
    refine v_getS (f := 1) (t := 13) cf13 oc54 rfl rfl rfl (by decide) q771 dX13_inner_45 ?_
    refine v_iload_n dX13_inner_48 1 rfl rfl ?_
    obtain ⟨r14, s11, e12, h⟩ := bd_some h
    have k13 := c_X6_tagCount e12 r6
    have r15 : rg r14 := k13.1.2.2
    refine v_callV (st := [vI y8]) cf6 oc13 k13 (lw_V q2153 q2016 q2017 q303 q2018) rfl yk_X6_tagCount ⟨Nat.le_of_ble_eq_true rfl, Nat.le_of_ble_eq_true rfl⟩ trivial ⟨kc54, trivial⟩ (Nat.le_of_ble_eq_true rfl) rfl dX13_inner_49 ?_
    refine v_icmp_ge (tgt := 95) dX13_inner_52 r10 r15 (by decide) (fun c16 => ?_) (fun c16 => ?_)
    · rw [if_pos c16] at h
      refine v_aload_n dX13_inner_95 2 rfl rfl ?_
      refine v_getS (f := 1) (t := 13) cf13 oc54 rfl rfl rfl (by decide) q771 dX13_inner_96 ?_
      refine v_iload_n dX13_inner_99 1 rfl rfl ?_
      obtain ⟨r20, s17, e18, h⟩ := bd_some h
      have k19 := c_X6_base e18 r6
      have r21 : rg r20 := k19.1.2.2
      refine v_callVN (st := []) cf6 oc13 k19 q1591 q2155 q1590 qs60 q303 yk_X6_base ⟨Nat.le_of_ble_eq_true rfl, Nat.le_of_ble_eq_true rfl⟩ trivial ⟨kc54, trivial⟩ (Nat.le_of_ble_eq_true rfl) rfl dX13_inner_100 ?_
      refine v_istore (L1 := [(5, vI r20), (4, vI y8), (3, vI y4), (0, vO 54), (1, vI x1), (2, vI x2)]) dX13_inner_103 (by decide) rfl ?_
      refine v_aload_n dX13_inner_105 3 rfl rfl ?_
      refine v_getS (f := 0) (t := 10) cf13 oc54 rfl rfl rfl (by decide) q770 dX13_inner_106 ?_
      refine v_iload dX13_inner_109 0 rfl ?_
      obtain ⟨r25, s22, e23, h⟩ := bd_some h
      have k24 := c_X4_parts e23 r21
      have r26 : rg r25 := k24.1.2.2
      refine v_callV (st := []) cf4 oc10 k24 (lw_V q2156 q1493 q1494 q301 q1495) rfl yk_X4_parts ⟨Nat.le_of_ble_eq_true rfl, Nat.le_of_ble_eq_true rfl⟩ trivial ⟨kc54, trivial⟩ (Nat.le_of_ble_eq_true rfl) rfl dX13_inner_111 ?_
      refine v_istore (L1 := [(6, vI r25), (5, vI r20), (4, vI y8), (3, vI y4), (0, vO 54), (1, vI x1), (2, vI x2)]) dX13_inner_114 (by decide) rfl ?_
      refine v_sub [4, 5, 6, 0] (L1 := [(0, vO 54), (1, vI x1), (2, vI x2), (6, vI r25)]) rfl ?_
      rcases lqs_0_some h with ⟨s27, e28, h⟩ | ⟨q9, e28, h⟩
      · refine wl_X13_inner_116 rx1 rx2 FU r25 s22 _ e28 r26 ?_
        unfold E_X13_inner_116
        refine ⟨?_, fun v9 s9 z_ => (by cases z_)⟩
        intro s27' z_
        cases z_
        refine v_aload_n dX13_inner_176 0 rfl rfl ?_
        refine v_iload_n dX13_inner_177 1 rfl rfl ?_
        obtain ⟨r32, s29, e30, h⟩ := bd_some h
        have k31 := c_X13_unexpected e30 rx2
        have r33 : rg r32 := k31.1.2.2
        refine v_callV (st := []) cf13 oc54 k31 (lw_V q2265 q2267 qs143 q310 q2268) rfl yk_X13_unexpected ⟨Nat.le_of_ble_eq_true rfl, Nat.le_of_ble_eq_true rfl⟩ trivial ⟨kc54, trivial⟩ (Nat.le_of_ble_eq_true rfl) rfl dX13_inner_178 ?_
        cases h
        exact v_iret r33 dX13_inner_181
      · cases h
        refine wl_X13_inner_116 rx1 rx2 FU r25 s22 _ e28 r26 ?_
        unfold E_X13_inner_116
        refine ⟨fun _ z_ => (by cases z_), ?_⟩
        intro v9 s9 z_
        cases z_
        exact ⟨rfl, rfl⟩
    · rw [if_neg c16] at h
      refine v_aload_n dX13_inner_55 2 rfl rfl ?_
      refine v_getS (f := 1) (t := 13) cf13 oc54 rfl rfl rfl (by decide) q771 dX13_inner_56 ?_
      refine v_iload_n dX13_inner_59 1 rfl rfl ?_
      refine v_iload dX13_inner_60 0 rfl ?_
      obtain ⟨r37, s34, e35, h⟩ := bd_some h
      have k36 := c_X6_tag e35 r6 r10
      have r38 : rg r37 := k36.1.2.2
      refine v_callV (st := []) cf6 oc13 k36 (lw_V q2154 q1645 q1646 q303 q1647) rfl yk_X6_tag ⟨Nat.le_of_ble_eq_true rfl, Nat.le_of_ble_eq_true rfl⟩ trivial ⟨kc54, trivial⟩ (Nat.le_of_ble_eq_true rfl) rfl dX13_inner_62 ?_
      refine v_aload_n dX13_inner_65 2 rfl rfl ?_
      obtain ⟨g39, h⟩ := gd_some h
      refine v_getR (f := 5) cf13 oc54 rfl (by rw [g39]; decide) (by decide) q775 dX13_inner_66 ?_
      rw [g39]
      refine v_iload_n dX13_inner_69 4 rfl rfl ?_
      obtain ⟨r43, s40, e41, h⟩ := bd_some h
      have k42 := c_X12_tag e41 rx2
      have r44 : rg r43 := k42.1.2.2
      refine v_callV (st := [vI r37]) cf12 oc44 k42 (lw_V q2145 q2146 q2147 q309 q2148) rfl yk_X12_tag ⟨Nat.le_of_ble_eq_true rfl, Nat.le_of_ble_eq_true rfl⟩ trivial ⟨kc54, trivial⟩ (Nat.le_of_ble_eq_true rfl) rfl dX13_inner_70 ?_
      refine v_icmp_ne (tgt := 89) dX13_inner_73 r38 r44 (by decide) (fun c45 => ?_) (fun c45 => ?_)
      · rw [if_neg c45] at h
        refine v_aload_n dX13_inner_89 2 rfl rfl ?_
        refine v_iload_n dX13_inner_90 4 rfl rfl ?_
        obtain ⟨r49, s46, e47, h⟩ := bd_some h
        have k48 := c_X13_unexpected e47 rx2
        have r50 : rg r49 := k48.1.2.2
        refine v_callV (st := []) cf13 oc54 k48 (lw_V q2265 q2267 qs143 q310 q2268) rfl yk_X13_unexpected ⟨Nat.le_of_ble_eq_true rfl, Nat.le_of_ble_eq_true rfl⟩ trivial ⟨kc54, trivial⟩ (Nat.le_of_ble_eq_true rfl) rfl dX13_inner_91 ?_
        cases h
        exact v_iret r50 dX13_inner_94
      · rw [if_pos c45] at h
        refine v_aload_n dX13_inner_76 2 rfl rfl ?_
        refine v_iload_n dX13_inner_77 4 rfl rfl ?_
        refine v_iload_n dX13_inner_78 1 rfl rfl ?_
        refine v_iload dX13_inner_79 0 rfl ?_
        refine v_iconst dX13_inner_81 ?_
        refine v_iload_n dX13_inner_82 3 rfl rfl ?_
        obtain ⟨r54, s51, e52, h⟩ := bd_some h
        have k53 := c_X13_begin e52 rx2 r6 r10 (rgl rfl) rx1
        have r55 : rg r54 := k53.1.2.2
        refine v_callV (st := []) cf13 oc54 k53 (lw_V q2166 q2168 qs129 q310 q2169) rfl yk_X13_begin ⟨Nat.le_of_ble_eq_true rfl, Nat.le_of_ble_eq_true rfl⟩ trivial ⟨kc54, trivial⟩ (Nat.le_of_ble_eq_true rfl) rfl dX13_inner_83 ?_
        refine v_goto (tgt := 94) dX13_inner_86 (by decide) ?_
        cases h
        exact v_iret r55 dX13_inner_94
  · rw [if_neg c2] at h
    refine v_aload_n dX13_inner_15 0 rfl rfl ?_
    refine v_bipush dX13_inner_16 rfl ?_
    refine v_iload_n dX13_inner_18 1 rfl rfl ?_
    obtain ⟨r59, s56, e57, h⟩ := bd_some h
    have k58 := c_X13_wrong e57 (rgl rfl) rx1
    have r60 : rg r59 := k58.1.2.2
    refine v_callV (st := []) cf13 oc54 k58 (lw_V q2158 q2160 qs128 q310 q2161) rfl yk_X13_wrong ⟨Nat.le_of_ble_eq_true rfl, Nat.le_of_ble_eq_true rfl⟩ trivial ⟨kc54, trivial⟩ (Nat.le_of_ble_eq_true rfl) rfl dX13_inner_19 ?_
    refine v_popI dX13_inner_22 ?_
    refine v_iload_n dX13_inner_23 2 rfl rfl ?_
    cases h
    exact v_iret rx2 dX13_inner_24

def E_X13_inOrder_12 (x2 : Int) (rv : Option vA) (σo : vS) (q : (vS) ⊕ (Int × vS)) : Prop := (∀ (s' : vS), q = .inl s' → VW cX13_inOrder (RX13, rv, σo, (some .int), 11, 267, 5, []) (P0 []) s' 105 [(0, vO 54), (2, vI x2)] []) ∧ (∀ (v : Int) (s' : vS), q = .inr (v, s') → rv = some (vI v) ∧ σo = s')
def l_X13_inOrder_12 : Nat → Int → Int → Int → vS → Option ((vS) ⊕ (Int × vS))
  | 0, _, _, _, _ => none
  | n + 1, x1, x2, x3, s =>
    if x3 = (-1) then
      some (.inl s)
    else
      bd (f_X4_parts x3 s) fun r5 s2 =>
      gd (gR s2 54 5 = 44) <|
      bd (f_X12_tag x2 s2) fun r11 s8 =>
      bd (f_X13_find r5 r11 s8) fun r16 s13 =>
      if r16 = (-1) then
        bd (f_X4_at x3 5 s13) fun r22 s19 =>
        if r22 = 0 then
          bd (f_X13_unexpected x2 s19) fun r33 s30 =>
          some (.inr (r33, s30))
        else
          bd (f_X4_next x3 s19) fun r28 s25 =>
          l_X13_inOrder_12 n x1 x2 r28 s25
      else
        bd (f_X4_next x3 s13) fun r38 s35 =>
        gd (gN s35 68 = gN s13 68) <|
        gd (inb (w32 ((gI s13 54 18) - 1)) (gN s35 68)) <|
        stp (sE s35 68 (w32 ((gI s13 54 18) - 1)) r38) fun s42 =>
        bd (f_X13_begin x2 r16 0 x3 x1 s42) fun r47 s44 =>
        some (.inr (r47, s44))
theorem wl_X13_inOrder_12 {x1 : Int} {x2 : Int} {rv : Option vA} {σo : vS}  (rx1 : rg x1) (rx2 : rg x2) : ∀ (n : Nat) (x3 : Int) (s : vS) (q : (vS) ⊕ (Int × vS)), l_X13_inOrder_12 n x1 x2 x3 s = some q → rg x3 → E_X13_inOrder_12 x2 rv σo q → VW cX13_inOrder (RX13, rv, σo, (some .int), 11, 267, 5, []) (P0 []) s 12 [(0, vO 54), (1, vI x1), (2, vI x2), (3, vI x3)] [] := by
  intro n
  induction n with
  | zero => intro x3 s q h; cases h
  | succ n ih =>
    intro x3 s q h rx3 hE
    unfold l_X13_inOrder_12 at h
    refine v_iload_n dX13_inOrder_12 3 rfl rfl ?_
    refine v_iconst dX13_inOrder_13 ?_
    refine v_icmp_eq (tgt := 105) dX13_inOrder_14 rx3 (rgl rfl) (by decide) (fun c1 => ?_) (fun c1 => ?_)
    · rw [if_pos c1] at h
      cases h
      refine v_sub [0, 2] (L1 := [(0, vO 54), (2, vI x2)]) rfl ?_
      exact hE.1 _ rfl 
    · rw [if_neg c1] at h
      refine v_aload_n dX13_inOrder_17 0 rfl rfl ?_
      refine v_aload_n dX13_inOrder_18 0 rfl rfl ?_
      refine v_getS (f := 0) (t := 10) cf13 oc54 rfl rfl rfl (by decide) q770 dX13_inOrder_19 ?_
      refine v_iload_n dX13_inOrder_22 3 rfl rfl ?_
      obtain ⟨r5, s2, e3, h⟩ := bd_some h
      have k4 := c_X4_parts e3 rx3
      have r6 : rg r5 := k4.1.2.2
      refine v_callV (st := [vO 54]) cf4 oc10 k4 (lw_V q2156 q1493 q1494 q301 q1495) rfl yk_X4_parts ⟨Nat.le_of_ble_eq_true rfl, Nat.le_of_ble_eq_true rfl⟩ ⟨kc54, trivial⟩ ⟨kc54, trivial⟩ (Nat.le_of_ble_eq_true rfl) rfl dX13_inOrder_23 ?_
      refine v_aload_n dX13_inOrder_26 0 rfl rfl ?_
      obtain ⟨g7, h⟩ := gd_some h
      refine v_getR (f := 5) cf13 oc54 rfl (by rw [g7]; decide) (by decide) q775 dX13_inOrder_27 ?_
      rw [g7]
      refine v_iload_n dX13_inOrder_30 2 rfl rfl ?_
      obtain ⟨r11, s8, e9, h⟩ := bd_some h
      have k10 := c_X12_tag e9 rx2
      have r12 : rg r11 := k10.1.2.2
      refine v_callV (st := [vI r5, vO 54]) cf12 oc44 k10 (lw_V q2145 q2146 q2147 q309 q2148) rfl yk_X12_tag ⟨Nat.le_of_ble_eq_true rfl, Nat.le_of_ble_eq_true rfl⟩ ⟨kc54, trivial⟩ ⟨kc54, trivial⟩ (Nat.le_of_ble_eq_true rfl) rfl dX13_inOrder_31 ?_
      obtain ⟨r16, s13, e14, h⟩ := bd_some h
      have k15 := c_X13_find e14 r6 r12
      have r17 : rg r16 := k15.1.2.2
      refine v_callV (st := []) cf13 oc54 k15 (lw_V q2149 q2151 qs127 q310 q2152) rfl yk_X13_find ⟨Nat.le_of_ble_eq_true rfl, Nat.le_of_ble_eq_true rfl⟩ trivial ⟨kc54, trivial⟩ (Nat.le_of_ble_eq_true rfl) rfl dX13_inOrder_34 ?_
      refine v_istore (L1 := [(4, vI r16), (0, vO 54), (1, vI x1), (2, vI x2), (3, vI x3)]) dX13_inOrder_37 (by decide) rfl ?_
      refine v_iload dX13_inOrder_39 0 rfl ?_
      refine v_iconst dX13_inOrder_41 ?_
      refine v_icmp_eq (tgt := 75) dX13_inOrder_42 r17 (rgl rfl) (by decide) (fun c18 => ?_) (fun c18 => ?_)
      · rw [if_pos c18] at h
        refine v_aload_n dX13_inOrder_75 1 rfl rfl ?_
        refine v_getS (f := 0) (t := 10) cf13 oc54 rfl rfl rfl (by decide) q770 dX13_inOrder_76 ?_
        refine v_iload_n dX13_inOrder_79 4 rfl rfl ?_
        refine v_iconst dX13_inOrder_80 ?_
        obtain ⟨r22, s19, e20, h⟩ := bd_some h
        have k21 := c_X4_at e20 rx3 (rgl rfl)
        have r23 : rg r22 := k21.1.2.2
        refine v_callV (st := []) cf4 oc10 k21 (lw_V q2252 q1400 q1401 q301 q1402) rfl yk_X4_at ⟨Nat.le_of_ble_eq_true rfl, Nat.le_of_ble_eq_true rfl⟩ trivial ⟨kc54, trivial⟩ (Nat.le_of_ble_eq_true rfl) rfl dX13_inOrder_81 ?_
        refine v_if_ne (tgt := 93) dX13_inOrder_84 r23 (by decide) (fun c24 => ?_) (fun c24 => ?_)
        · rw [if_neg c24] at h
          refine v_aload_n dX13_inOrder_93 1 rfl rfl ?_
          refine v_getS (f := 0) (t := 10) cf13 oc54 rfl rfl rfl (by decide) q770 dX13_inOrder_94 ?_
          refine v_iload_n dX13_inOrder_97 4 rfl rfl ?_
          obtain ⟨r28, s25, e26, h⟩ := bd_some h
          have k27 := c_X4_next e26 rx3
          have r29 : rg r28 := k27.1.2.2
          refine v_callV (st := []) cf4 oc10 k27 (lw_V q2157 q1404 q1405 q301 q1406) rfl yk_X4_next ⟨Nat.le_of_ble_eq_true rfl, Nat.le_of_ble_eq_true rfl⟩ trivial ⟨kc54, trivial⟩ (Nat.le_of_ble_eq_true rfl) rfl dX13_inOrder_98 ?_
          refine v_istore_n (L1 := [(3, vI r28), (4, vI r16), (0, vO 54), (1, vI x1), (2, vI x2)]) dX13_inOrder_101 rfl (by decide) rfl ?_
          refine v_goto (tgt := 12) dX13_inOrder_102 (by decide) ?_
          refine v_sub [2, 3, 4, 0] (L1 := [(0, vO 54), (1, vI x1), (2, vI x2), (3, vI r28)]) rfl ?_
          exact ih r28 s25 _ h r29 hE
        · rw [if_pos c24] at h
          refine v_aload_n dX13_inOrder_87 1 rfl rfl ?_
          refine v_iload_n dX13_inOrder_88 3 rfl rfl ?_
          obtain ⟨r33, s30, e31, h⟩ := bd_some h
          have k32 := c_X13_unexpected e31 rx2
          have r34 : rg r33 := k32.1.2.2
          refine v_callV (st := []) cf13 oc54 k32 (lw_V q2265 q2267 qs143 q310 q2268) rfl yk_X13_unexpected ⟨Nat.le_of_ble_eq_true rfl, Nat.le_of_ble_eq_true rfl⟩ trivial ⟨kc54, trivial⟩ (Nat.le_of_ble_eq_true rfl) rfl dX13_inOrder_89 ?_
          cases h
          obtain ⟨z1, z2⟩ := hE.2 _ _ rfl
          subst z1
          subst z2
          exact v_iret r34 dX13_inOrder_92
      · rw [if_neg c18] at h
        refine v_aload_n dX13_inOrder_45 1 rfl rfl ?_
        refine v_getS (f := 15) (t := 68) cf13 oc54 rfl rfl rfl (by decide) q785 dX13_inOrder_46 ?_
        refine v_aload_n dX13_inOrder_49 1 rfl rfl ?_
        refine v_getI (f := 18) cf13 oc54 rfl (by decide) q788 dX13_inOrder_50 ?_
        refine v_iconst dX13_inOrder_53 ?_
        refine v_isub dX13_inOrder_54 ?_
        refine v_aload_n dX13_inOrder_55 1 rfl rfl ?_
        refine v_getS (f := 0) (t := 10) cf13 oc54 rfl rfl rfl (by decide) q770 dX13_inOrder_56 ?_
        refine v_iload_n dX13_inOrder_59 4 rfl rfl ?_
        obtain ⟨r38, s35, e36, h⟩ := bd_some h
        have k37 := c_X4_next e36 rx3
        have r39 : rg r38 := k37.1.2.2
        obtain ⟨g40, h⟩ := gd_some h
        refine v_callV (st := [vI (w32 ((gI s13 54 18) - 1)), vO 68]) cf4 oc10 k37 (lw_V q2157 q1404 q1405 q301 q1406) rfl yk_X4_next ⟨Nat.le_of_ble_eq_true rfl, Nat.le_of_ble_eq_true rfl⟩ ⟨(kp_arr (by decide) g40), trivial⟩ ⟨kc54, trivial⟩ (Nat.le_of_ble_eq_true rfl) rfl dX13_inOrder_60 ?_
        obtain ⟨g41, h⟩ := gd_some h
        obtain ⟨s42, e43, h⟩ := stp_some h
        refine v_iast oc68 (w32_rg _) g41.1 g41.2 dX13_inOrder_63 ?_
        rw [← e43]
        refine v_aload_n dX13_inOrder_64 1 rfl rfl ?_
        refine v_iload_n dX13_inOrder_65 3 rfl rfl ?_
        refine v_iload dX13_inOrder_66 0 rfl ?_
        refine v_iconst dX13_inOrder_68 ?_
        refine v_iload_n dX13_inOrder_69 4 rfl rfl ?_
        refine v_iload_n dX13_inOrder_70 2 rfl rfl ?_
        obtain ⟨r47, s44, e45, h⟩ := bd_some h
        have k46 := c_X13_begin e45 rx2 r17 (rgl rfl) rx3 rx1
        have r48 : rg r47 := k46.1.2.2
        refine v_callV (st := []) cf13 oc54 k46 (lw_V q2166 q2168 qs129 q310 q2169) rfl yk_X13_begin ⟨Nat.le_of_ble_eq_true rfl, Nat.le_of_ble_eq_true rfl⟩ trivial ⟨kc54, trivial⟩ (Nat.le_of_ble_eq_true rfl) rfl dX13_inOrder_71 ?_
        cases h
        obtain ⟨z1, z2⟩ := hE.2 _ _ rfl
        subst z1
        subst z2
        exact v_iret r48 dX13_inOrder_74

def f_X13_inOrder (x1 : Int) (x2 : Int) (s : vS) : Option (Int × vS) :=
  gd (inb (w32 ((gI s 54 18) - 1)) (gN s 68)) <|
  vl (gE s 68 (w32 ((gI s 54 18) - 1))) fun y2 =>
  lqs_0 (l_X13_inOrder_12 FU x1 x2 y2 s) (fun s5 =>
    bd (f_X13_unexpected x2 s5) fun r10 s7 =>
    some (r10, s7))
    (fun q => some q)
theorem yk_X13_inOrder : yOk yX13_inOrder 2 := ⟨by decide, by decide, by decide +kernel⟩
theorem c_X13_inOrder {x1 : Int} {x2 : Int} {s : vS} {out : Int × vS} (h : f_X13_inOrder x1 x2 s = some out)  (rx1 : rg x1) (rx2 : rg x2) : VC yX13_inOrder cX13_inOrder 5 (some .int) 11 267 [vO 54, vI x1, vI x2] s (some (vI out.1)) out.2 [] := by
  unfold f_X13_inOrder at h
  refine VC.of RX13 (by decide) rfl (Nat.le_of_ble_eq_true rfl) ?_
  show VW cX13_inOrder (RX13, (some (vI out.1)), out.2, (some .int), 11, 267, 5, []) (P0 []) s 0 [(0, vO 54), (1, vI x1), (2, vI x2)] []
  refine v_aload_n dX13_inOrder_0 0 rfl rfl ?_
  refine v_getS (f := 15) (t := 68) cf13 oc54 rfl rfl rfl (by decide) q785 dX13_inOrder_1 ?_
  refine v_aload_n dX13_inOrder_4 0 rfl rfl ?_
  refine v_getI (f := 18) cf13 oc54 rfl (by decide) q788 dX13_inOrder_5 ?_
  refine v_iconst dX13_inOrder_8 ?_
  refine v_isub dX13_inOrder_9 ?_
  obtain ⟨g1, h⟩ := gd_some h
  refine v_iald oc68 (w32_rg _) g1.1 g1.2 dX13_inOrder_10 ?_
  obtain ⟨y2, e3, h⟩ := vl_some h
  rw [← e3]
  have r4 : rg y2 := by rw [e3]; exact gE_rg _ _ _
  refine v_istore_n (L1 := [(3, vI y2), (0, vO 54), (1, vI x1), (2, vI x2)]) dX13_inOrder_11 rfl (by decide) rfl ?_
  refine v_sub [1, 2, 3, 0] (L1 := [(0, vO 54), (1, vI x1), (2, vI x2), (3, vI y2)]) rfl ?_
  rcases lqs_0_some h with ⟨s5, e6, h⟩ | ⟨q9, e6, h⟩
  · refine wl_X13_inOrder_12 rx1 rx2 FU y2 s _ e6 r4 ?_
    unfold E_X13_inOrder_12
    refine ⟨?_, fun v9 s9 z_ => (by cases z_)⟩
    intro s5' z_
    cases z_
    refine v_aload_n dX13_inOrder_105 0 rfl rfl ?_
    refine v_iload_n dX13_inOrder_106 1 rfl rfl ?_
    obtain ⟨r10, s7, e8, h⟩ := bd_some h
    have k9 := c_X13_unexpected e8 rx2
    have r11 : rg r10 := k9.1.2.2
    refine v_callV (st := []) cf13 oc54 k9 (lw_V q2265 q2267 qs143 q310 q2268) rfl yk_X13_unexpected ⟨Nat.le_of_ble_eq_true rfl, Nat.le_of_ble_eq_true rfl⟩ trivial ⟨kc54, trivial⟩ (Nat.le_of_ble_eq_true rfl) rfl dX13_inOrder_107 ?_
    cases h
    exact v_iret r11 dX13_inOrder_110
  · cases h
    refine wl_X13_inOrder_12 rx1 rx2 FU y2 s _ e6 r4 ?_
    unfold E_X13_inOrder_12
    refine ⟨fun _ z_ => (by cases z_), ?_⟩
    intro v9 s9 z_
    cases z_
    exact ⟨rfl, rfl⟩

def E_X13_anywhere_24 (x2 : Int) (rv : Option vA) (σo : vS) (q : (vS) ⊕ (Int × vS)) : Prop := (∀ (s' : vS), q = .inl s' → VW cX13_anywhere (RX13, rv, σo, (some .int), 11, 267, 7, []) (P0 []) s' 150 [(0, vO 54), (2, vI x2)] []) ∧ (∀ (v : Int) (s' : vS), q = .inr (v, s') → rv = some (vI v) ∧ σo = s')
def l_X13_anywhere_24 : Nat → Int → Int → Int → Int → vS → Option ((vS) ⊕ (Int × vS))
  | 0, _, _, _, _, _ => none
  | n + 1, x1, x2, x3, x4, s =>
    if x4 = (-1) then
      some (.inl s)
    else
      bd (f_X4_parts x4 s) fun r5 s2 =>
      gd (gR s2 54 5 = 44) <|
      bd (f_X12_tag x2 s2) fun r11 s8 =>
      bd (f_X13_find r5 r11 s8) fun r16 s13 =>
      if r16 = (-1) then
        vl (w32 (x3 + 1)) fun y19 =>
        bd (f_X4_next x4 s13) fun r25 s22 =>
        l_X13_anywhere_24 n x1 x2 y19 r25 s22
      else
        gd (inb (w32 ((gI s13 54 18) - 1)) (gN s13 70)) <|
        vl (w32 ((gE s13 70 (w32 ((gI s13 54 18) - 1))) + (d32 x3 32))) fun y28 =>
        gd (inb y28 (gN s13 71)) <|
        if (and32 (shr32 (gE s13 71 y28) (m32 x3 32)) 1) = 1 then
          bd (f_X13_wrong 13 x2 s13) fun r45 s42 =>
          some (.inr (x2, s42))
        else
          gd (inb y28 (gN s13 71)) <|
          gd (inb y28 (gN s13 71)) <|
          stp (sE s13 71 y28 (or32 (gE s13 71 y28) (shl32 1 (m32 x3 32)))) fun s35 =>
          bd (f_X13_begin x2 r16 0 x4 x1 s35) fun r40 s37 =>
          some (.inr (r40, s37))
theorem wl_X13_anywhere_24 {x1 : Int} {x2 : Int} {rv : Option vA} {σo : vS}  (rx1 : rg x1) (rx2 : rg x2) : ∀ (n : Nat) (x3 : Int) (x4 : Int) (s : vS) (q : (vS) ⊕ (Int × vS)), l_X13_anywhere_24 n x1 x2 x3 x4 s = some q → rg x3 → rg x4 → E_X13_anywhere_24 x2 rv σo q → VW cX13_anywhere (RX13, rv, σo, (some .int), 11, 267, 7, []) (P0 []) s 24 [(0, vO 54), (1, vI x1), (2, vI x2), (3, vI x3), (4, vI x4)] [] := by
  intro n
  induction n with
  | zero => intro x3 x4 s q h; cases h
  | succ n ih =>
    intro x3 x4 s q h rx3 rx4 hE
    unfold l_X13_anywhere_24 at h
    refine v_iload dX13_anywhere_24 4 rfl ?_
    refine v_iconst dX13_anywhere_26 ?_
    refine v_icmp_eq (tgt := 150) dX13_anywhere_27 rx4 (rgl rfl) (by decide) (fun c1 => ?_) (fun c1 => ?_)
    · rw [if_pos c1] at h
      cases h
      refine v_sub [0, 2] (L1 := [(0, vO 54), (2, vI x2)]) rfl ?_
      exact hE.1 _ rfl 
    · rw [if_neg c1] at h
      refine v_aload_n dX13_anywhere_30 0 rfl rfl ?_
      refine v_aload_n dX13_anywhere_31 0 rfl rfl ?_
      refine v_getS (f := 0) (t := 10) cf13 oc54 rfl rfl rfl (by decide) q770 dX13_anywhere_32 ?_
      refine v_iload dX13_anywhere_35 4 rfl ?_
      obtain ⟨r5, s2, e3, h⟩ := bd_some h
      have k4 := c_X4_parts e3 rx4
      have r6 : rg r5 := k4.1.2.2
      refine v_callV (st := [vO 54]) cf4 oc10 k4 (lw_V q2156 q1493 q1494 q301 q1495) rfl yk_X4_parts ⟨Nat.le_of_ble_eq_true rfl, Nat.le_of_ble_eq_true rfl⟩ ⟨kc54, trivial⟩ ⟨kc54, trivial⟩ (Nat.le_of_ble_eq_true rfl) rfl dX13_anywhere_37 ?_
      refine v_aload_n dX13_anywhere_40 0 rfl rfl ?_
      obtain ⟨g7, h⟩ := gd_some h
      refine v_getR (f := 5) cf13 oc54 rfl (by rw [g7]; decide) (by decide) q775 dX13_anywhere_41 ?_
      rw [g7]
      refine v_iload_n dX13_anywhere_44 2 rfl rfl ?_
      obtain ⟨r11, s8, e9, h⟩ := bd_some h
      have k10 := c_X12_tag e9 rx2
      have r12 : rg r11 := k10.1.2.2
      refine v_callV (st := [vI r5, vO 54]) cf12 oc44 k10 (lw_V q2145 q2146 q2147 q309 q2148) rfl yk_X12_tag ⟨Nat.le_of_ble_eq_true rfl, Nat.le_of_ble_eq_true rfl⟩ ⟨kc54, trivial⟩ ⟨kc54, trivial⟩ (Nat.le_of_ble_eq_true rfl) rfl dX13_anywhere_45 ?_
      obtain ⟨r16, s13, e14, h⟩ := bd_some h
      have k15 := c_X13_find e14 r6 r12
      have r17 : rg r16 := k15.1.2.2
      refine v_callV (st := []) cf13 oc54 k15 (lw_V q2149 q2151 qs127 q310 q2152) rfl yk_X13_find ⟨Nat.le_of_ble_eq_true rfl, Nat.le_of_ble_eq_true rfl⟩ trivial ⟨kc54, trivial⟩ (Nat.le_of_ble_eq_true rfl) rfl dX13_anywhere_48 ?_
      refine v_istore (L1 := [(5, vI r16), (0, vO 54), (1, vI x1), (2, vI x2), (3, vI x3), (4, vI x4)]) dX13_anywhere_51 (by decide) rfl ?_
      refine v_iload dX13_anywhere_53 0 rfl ?_
      refine v_iconst dX13_anywhere_55 ?_
      refine v_icmp_eq (tgt := 133) dX13_anywhere_56 r17 (rgl rfl) (by decide) (fun c18 => ?_) (fun c18 => ?_)
      · rw [if_pos c18] at h
        obtain ⟨y19, e20, h⟩ := vl_some h
        refine v_iinc (L1 := [(3, vI (w32 (x3 + 1))), (5, vI r16), (0, vO 54), (1, vI x1), (2, vI x2), (4, vI x4)]) dX13_anywhere_133 4 rfl (by decide) rfl ?_
        rw [← e20]
        have r21 : rg y19 := by rw [e20]; exact w32_rg _
        refine v_aload_n dX13_anywhere_136 2 rfl rfl ?_
        refine v_getS (f := 0) (t := 10) cf13 oc54 rfl rfl rfl (by decide) q770 dX13_anywhere_137 ?_
        refine v_iload dX13_anywhere_140 5 rfl ?_
        obtain ⟨r25, s22, e23, h⟩ := bd_some h
        have k24 := c_X4_next e23 rx4
        have r26 : rg r25 := k24.1.2.2
        refine v_callV (st := []) cf4 oc10 k24 (lw_V q2157 q1404 q1405 q301 q1406) rfl yk_X4_next ⟨Nat.le_of_ble_eq_true rfl, Nat.le_of_ble_eq_true rfl⟩ trivial ⟨kc54, trivial⟩ (Nat.le_of_ble_eq_true rfl) rfl dX13_anywhere_142 ?_
        refine v_istore (L1 := [(4, vI r25), (3, vI y19), (5, vI r16), (0, vO 54), (1, vI x1), (2, vI x2)]) dX13_anywhere_145 (by decide) rfl ?_
        refine v_goto (tgt := 24) dX13_anywhere_147 (by decide) ?_
        refine v_sub [3, 4, 5, 1, 0] (L1 := [(0, vO 54), (1, vI x1), (2, vI x2), (3, vI y19), (4, vI r25)]) rfl ?_
        exact ih y19 r25 s22 _ h r21 r26 hE
      · rw [if_neg c18] at h
        refine v_aload_n dX13_anywhere_59 1 rfl rfl ?_
        refine v_getS (f := 17) (t := 70) cf13 oc54 rfl rfl rfl (by decide) q787 dX13_anywhere_60 ?_
        refine v_aload_n dX13_anywhere_63 1 rfl rfl ?_
        refine v_getI (f := 18) cf13 oc54 rfl (by decide) q788 dX13_anywhere_64 ?_
        refine v_iconst dX13_anywhere_67 ?_
        refine v_isub dX13_anywhere_68 ?_
        obtain ⟨g27, h⟩ := gd_some h
        refine v_iald oc70 (w32_rg _) g27.1 g27.2 dX13_anywhere_69 ?_
        refine v_iload_n dX13_anywhere_70 4 rfl rfl ?_
        refine v_bipush dX13_anywhere_71 rfl ?_
        refine v_idiv dX13_anywhere_73 (rgl rfl) (by decide) ?_
        refine v_iadd dX13_anywhere_74 ?_
        obtain ⟨y28, e29, h⟩ := vl_some h
        rw [← e29]
        have r30 : rg y28 := by rw [e29]; exact w32_rg _
        refine v_istore (L1 := [(6, vI y28), (5, vI r16), (0, vO 54), (1, vI x1), (2, vI x2), (3, vI x3), (4, vI x4)]) dX13_anywhere_75 (by decide) rfl ?_
        refine v_aload_n dX13_anywhere_77 2 rfl rfl ?_
        refine v_getS (f := 19) (t := 71) cf13 oc54 rfl rfl rfl (by decide) q789 dX13_anywhere_78 ?_
        refine v_iload dX13_anywhere_81 0 rfl ?_
        obtain ⟨g31, h⟩ := gd_some h
        refine v_iald oc71 r30 g31.1 g31.2 dX13_anywhere_83 ?_
        refine v_iload_n dX13_anywhere_84 5 rfl rfl ?_
        refine v_bipush dX13_anywhere_85 rfl ?_
        refine v_irem dX13_anywhere_87 (rgl rfl) (by decide) ?_
        refine v_ishr dX13_anywhere_88 ?_
        refine v_iconst dX13_anywhere_89 ?_
        refine v_iand dX13_anywhere_90 ?_
        refine v_iconst dX13_anywhere_91 ?_
        refine v_icmp_ne (tgt := 105) dX13_anywhere_92 (and32_rg _ _) (rgl rfl) (by decide) (fun c32 => ?_) (fun c32 => ?_)
        · rw [if_neg c32] at h
          refine v_aload_n dX13_anywhere_105 2 rfl rfl ?_
          refine v_getS (f := 19) (t := 71) cf13 oc54 rfl rfl rfl (by decide) q789 dX13_anywhere_106 ?_
          refine v_iload dX13_anywhere_109 0 rfl ?_
          refine v_dup2IO dX13_anywhere_111 ?_
          obtain ⟨g33, h⟩ := gd_some h
          refine v_iald oc71 r30 g33.1 g33.2 dX13_anywhere_112 ?_
          refine v_iconst dX13_anywhere_113 ?_
          refine v_iload_n dX13_anywhere_114 5 rfl rfl ?_
          refine v_bipush dX13_anywhere_115 rfl ?_
          refine v_irem dX13_anywhere_117 (rgl rfl) (by decide) ?_
          refine v_ishl dX13_anywhere_118 ?_
          refine v_ior dX13_anywhere_119 ?_
          obtain ⟨g34, h⟩ := gd_some h
          obtain ⟨s35, e36, h⟩ := stp_some h
          refine v_iast oc71 r30 g34.1 g34.2 dX13_anywhere_120 ?_
          rw [← e36]
          refine v_aload_n dX13_anywhere_121 2 rfl rfl ?_
          refine v_iload_n dX13_anywhere_122 4 rfl rfl ?_
          refine v_iload dX13_anywhere_123 1 rfl ?_
          refine v_iconst dX13_anywhere_125 ?_
          refine v_iload dX13_anywhere_126 6 rfl ?_
          refine v_iload_n dX13_anywhere_128 3 rfl rfl ?_
          obtain ⟨r40, s37, e38, h⟩ := bd_some h
          have k39 := c_X13_begin e38 rx2 r17 (rgl rfl) rx4 rx1
          have r41 : rg r40 := k39.1.2.2
          refine v_callV (st := []) cf13 oc54 k39 (lw_V q2166 q2168 qs129 q310 q2169) rfl yk_X13_begin ⟨Nat.le_of_ble_eq_true rfl, Nat.le_of_ble_eq_true rfl⟩ trivial ⟨kc54, trivial⟩ (Nat.le_of_ble_eq_true rfl) rfl dX13_anywhere_129 ?_
          cases h
          obtain ⟨z1, z2⟩ := hE.2 _ _ rfl
          subst z1
          subst z2
          exact v_iret r41 dX13_anywhere_132
        · rw [if_pos c32] at h
          refine v_aload_n dX13_anywhere_95 2 rfl rfl ?_
          refine v_bipush dX13_anywhere_96 rfl ?_
          refine v_iload_n dX13_anywhere_98 4 rfl rfl ?_
          obtain ⟨r45, s42, e43, h⟩ := bd_some h
          have k44 := c_X13_wrong e43 (rgl rfl) rx2
          have r46 : rg r45 := k44.1.2.2
          refine v_callV (st := []) cf13 oc54 k44 (lw_V q2158 q2160 qs128 q310 q2161) rfl yk_X13_wrong ⟨Nat.le_of_ble_eq_true rfl, Nat.le_of_ble_eq_true rfl⟩ trivial ⟨kc54, trivial⟩ (Nat.le_of_ble_eq_true rfl) rfl dX13_anywhere_99 ?_
          refine v_popI dX13_anywhere_102 ?_
          refine v_iload_n dX13_anywhere_103 4 rfl rfl ?_
          cases h
          obtain ⟨z1, z2⟩ := hE.2 _ _ rfl
          subst z1
          subst z2
          exact v_iret rx2 dX13_anywhere_104

def f_X13_anywhere (x1 : Int) (x2 : Int) (s : vS) : Option (Int × vS) :=
  gd (inb x1 (gN s 61)) <|
  bd (f_X6_base (gE s 61 x1) s) fun r5 s2 =>
  bd (f_X4_parts r5 s2) fun r10 s7 =>
  lqs_0 (l_X13_anywhere_24 FU x1 x2 0 r10 s7) (fun s12 =>
    bd (f_X13_unexpected x2 s12) fun r17 s14 =>
    some (r17, s14))
    (fun q => some q)
theorem yk_X13_anywhere : yOk yX13_anywhere 2 := ⟨by decide, by decide, by decide +kernel⟩
theorem c_X13_anywhere {x1 : Int} {x2 : Int} {s : vS} {out : Int × vS} (h : f_X13_anywhere x1 x2 s = some out)  (rx1 : rg x1) (rx2 : rg x2) : VC yX13_anywhere cX13_anywhere 7 (some .int) 11 267 [vO 54, vI x1, vI x2] s (some (vI out.1)) out.2 [] := by
  unfold f_X13_anywhere at h
  refine VC.of RX13 (by decide) rfl (Nat.le_of_ble_eq_true rfl) ?_
  show VW cX13_anywhere (RX13, (some (vI out.1)), out.2, (some .int), 11, 267, 7, []) (P0 []) s 0 [(0, vO 54), (1, vI x1), (2, vI x2)] []
  refine v_iconst dX13_anywhere_0 ?_
  refine v_istore_n (L1 := [(3, vI 0), (0, vO 54), (1, vI x1), (2, vI x2)]) dX13_anywhere_1 rfl (by decide) rfl ?_
  refine v_aload_n dX13_anywhere_2 1 rfl rfl ?_
  refine v_getS (f := 0) (t := 10) cf13 oc54 rfl rfl rfl (by decide) q770 dX13_anywhere_3 ?_
  refine v_aload_n dX13_anywhere_6 1 rfl rfl ?_
  refine v_getS (f := 1) (t := 13) cf13 oc54 rfl rfl rfl (by decide) q771 dX13_anywhere_7 ?_
  refine v_aload_n dX13_anywhere_10 1 rfl rfl ?_
  refine v_getS (f := 8) (t := 61) cf13 oc54 rfl rfl rfl (by decide) q778 dX13_anywhere_11 ?_
  refine v_iload_n dX13_anywhere_14 2 rfl rfl ?_
  obtain ⟨g1, h⟩ := gd_some h
  refine v_iald oc61 rx1 g1.1 g1.2 dX13_anywhere_15 ?_
  obtain ⟨r5, s2, e3, h⟩ := bd_some h
  have k4 := c_X6_base e3 (gE_rg _ _ _)
  have r6 : rg r5 := k4.1.2.2
  refine v_callVN (st := [vO 10]) cf6 oc13 k4 q1591 q2155 q1590 qs60 q303 yk_X6_base ⟨Nat.le_of_ble_eq_true rfl, Nat.le_of_ble_eq_true rfl⟩ ⟨kc10, trivial⟩ ⟨kc54, trivial⟩ (Nat.le_of_ble_eq_true rfl) rfl dX13_anywhere_16 ?_
  obtain ⟨r10, s7, e8, h⟩ := bd_some h
  have k9 := c_X4_parts e8 r6
  have r11 : rg r10 := k9.1.2.2
  refine v_callV (st := []) cf4 oc10 k9 (lw_V q2156 q1493 q1494 q301 q1495) rfl yk_X4_parts ⟨Nat.le_of_ble_eq_true rfl, Nat.le_of_ble_eq_true rfl⟩ trivial ⟨kc54, trivial⟩ (Nat.le_of_ble_eq_true rfl) rfl dX13_anywhere_19 ?_
  refine v_istore (L1 := [(4, vI r10), (3, vI 0), (0, vO 54), (1, vI x1), (2, vI x2)]) dX13_anywhere_22 (by decide) rfl ?_
  refine v_sub [2, 3, 4, 1, 0] (L1 := [(0, vO 54), (1, vI x1), (2, vI x2), (3, vI 0), (4, vI r10)]) rfl ?_
  rcases lqs_0_some h with ⟨s12, e13, h⟩ | ⟨q9, e13, h⟩
  · refine wl_X13_anywhere_24 rx1 rx2 FU 0 r10 s7 _ e13 (rgl rfl) r11 ?_
    unfold E_X13_anywhere_24
    refine ⟨?_, fun v9 s9 z_ => (by cases z_)⟩
    intro s12' z_
    cases z_
    refine v_aload_n dX13_anywhere_150 0 rfl rfl ?_
    refine v_iload_n dX13_anywhere_151 1 rfl rfl ?_
    obtain ⟨r17, s14, e15, h⟩ := bd_some h
    have k16 := c_X13_unexpected e15 rx2
    have r18 : rg r17 := k16.1.2.2
    refine v_callV (st := []) cf13 oc54 k16 (lw_V q2265 q2267 qs143 q310 q2268) rfl yk_X13_unexpected ⟨Nat.le_of_ble_eq_true rfl, Nat.le_of_ble_eq_true rfl⟩ trivial ⟨kc54, trivial⟩ (Nat.le_of_ble_eq_true rfl) rfl dX13_anywhere_152 ?_
    cases h
    exact v_iret r18 dX13_anywhere_155
  · cases h
    refine wl_X13_anywhere_24 rx1 rx2 FU 0 r10 s7 _ e13 (rgl rfl) r11 ?_
    unfold E_X13_anywhere_24
    refine ⟨fun _ z_ => (by cases z_), ?_⟩
    intro v9 s9 z_
    cases z_
    exact ⟨rfl, rfl⟩

def f_X13_child (x1 : Int) (x2 : Int) (s : vS) : Option (Int × vS) :=
  vl (w32 ((gI s 54 18) - 1)) fun y1 =>
  gd (inb y1 (gN s 69)) <|
  gd (inb y1 (gN s 69)) <|
  stp (sE s 69 y1 (w32 ((gE s 69 y1) + 1))) fun s6 =>
  bd (f_X13_kind x1 s6) fun r11 s8 =>
  bd (f_X13_isAround x1 s8) fun r16 s13 =>
  if r16 = 0 then
    if r11 = 12 then
      bd (f_X13_inOrder x1 x2 s13) fun r62 s59 =>
      some (r62, s59)
    else
      if r11 = 13 then
        bd (f_X13_anywhere x1 x2 s13) fun r57 s54 =>
        some (r57, s54)
      else
        gd (inb x1 (gN s13 61)) <|
        bd (f_X6_base (gE s13 61 x1) s13) fun r25 s22 =>
        bd (f_X4_parts r25 s22) fun r30 s27 =>
        gd (gR s27 54 5 = 44) <|
        bd (f_X12_tag x2 s27) fun r36 s33 =>
        bd (f_X13_find r30 r36 s33) fun r41 s38 =>
        if r41 = (-1) then
          bd (f_X13_unexpected x2 s38) fun r52 s49 =>
          some (r52, s49)
        else
          bd (f_X13_begin x2 r41 0 (-1) x1 s38) fun r47 s44 =>
          some (r47, s44)
  else
    bd (f_X13_inner x1 x2 s13) fun r67 s64 =>
    some (r67, s64)
theorem yk_X13_child : yOk yX13_child 2 := ⟨by decide, by decide, by decide +kernel⟩
theorem c_X13_child {x1 : Int} {x2 : Int} {s : vS} {out : Int × vS} (h : f_X13_child x1 x2 s = some out)  (rx1 : rg x1) (rx2 : rg x2) : VC yX13_child cX13_child 6 (some .int) 12 294 [vO 54, vI x1, vI x2] s (some (vI out.1)) out.2 [] := by
  unfold f_X13_child at h
  refine VC.of RX13 (by decide) rfl (Nat.le_of_ble_eq_true rfl) ?_
  show VW cX13_child (RX13, (some (vI out.1)), out.2, (some .int), 12, 294, 6, []) (P0 []) s 0 [(0, vO 54), (1, vI x1), (2, vI x2)] []
  refine v_aload_n dX13_child_0 0 rfl rfl ?_
  refine v_getI (f := 18) cf13 oc54 rfl (by decide) q788 dX13_child_1 ?_
  refine v_iconst dX13_child_4 ?_
  refine v_isub dX13_child_5 ?_
  obtain ⟨y1, e2, h⟩ := vl_some h
  rw [← e2]
  have r3 : rg y1 := by rw [e2]; exact w32_rg _
  refine v_istore_n (L1 := [(3, vI y1), (0, vO 54), (1, vI x1), (2, vI x2)]) dX13_child_6 rfl (by decide) rfl ?_
  refine v_aload_n dX13_child_7 1 rfl rfl ?_
  refine v_getS (f := 16) (t := 69) cf13 oc54 rfl rfl rfl (by decide) q786 dX13_child_8 ?_
  refine v_iload_n dX13_child_11 0 rfl rfl ?_
  refine v_dup2IO dX13_child_12 ?_
  obtain ⟨g4, h⟩ := gd_some h
  refine v_iald oc69 r3 g4.1 g4.2 dX13_child_13 ?_
  refine v_iconst dX13_child_14 ?_
  refine v_iadd dX13_child_15 ?_
  obtain ⟨g5, h⟩ := gd_some h
  obtain ⟨s6, e7, h⟩ := stp_some h
  refine v_iast oc69 r3 g5.1 g5.2 dX13_child_16 ?_
  rw [← e7]
  refine v_aload_n dX13_child_17 1 rfl rfl ?_
  refine v_iload_n dX13_child_18 2 rfl rfl ?_
  obtain ⟨r11, s8, e9, h⟩ := bd_some h
  have k10 := c_X13_kind e9 rx1
  have r12 : rg r11 := k10.1.2.2
  refine v_callV (st := []) cf13 oc54 k10 (lw_V q2170 q2172 qs130 q310 q2173) rfl yk_X13_kind ⟨Nat.le_of_ble_eq_true rfl, Nat.le_of_ble_eq_true rfl⟩ trivial ⟨kc54, trivial⟩ (Nat.le_of_ble_eq_true rfl) rfl dX13_child_19 ?_
  refine v_istore (L1 := [(4, vI r11), (3, vI y1), (0, vO 54), (1, vI x1), (2, vI x2)]) dX13_child_22 (by decide) rfl ?_
  refine v_aload_n dX13_child_24 2 rfl rfl ?_
  refine v_iload_n dX13_child_25 3 rfl rfl ?_
  obtain ⟨r16, s13, e14, h⟩ := bd_some h
  have k15 := c_X13_isAround e14 rx1
  have r17 : rg r16 := k15.1.2.2
  refine v_callV (st := []) cf13 oc54 k15 (lw_V q2175 q2177 qs131 q310 q2178) rfl yk_X13_isAround ⟨Nat.le_of_ble_eq_true rfl, Nat.le_of_ble_eq_true rfl⟩ trivial ⟨kc54, trivial⟩ (Nat.le_of_ble_eq_true rfl) rfl dX13_child_26 ?_
  refine v_if_eq (tgt := 39) dX13_child_29 r17 (by decide) (fun c18 => ?_) (fun c18 => ?_)
  · rw [if_pos c18] at h
    refine v_iload dX13_child_39 0 rfl ?_
    refine v_bipush dX13_child_41 rfl ?_
    refine v_icmp_ne (tgt := 53) dX13_child_43 r12 (rgl rfl) (by decide) (fun c19 => ?_) (fun c19 => ?_)
    · rw [if_neg c19] at h
      refine v_iload dX13_child_53 0 rfl ?_
      refine v_bipush dX13_child_55 rfl ?_
      refine v_icmp_ne (tgt := 67) dX13_child_57 r12 (rgl rfl) (by decide) (fun c20 => ?_) (fun c20 => ?_)
      · rw [if_neg c20] at h
        refine v_aload_n dX13_child_67 2 rfl rfl ?_
        refine v_aload_n dX13_child_68 2 rfl rfl ?_
        refine v_getS (f := 0) (t := 10) cf13 oc54 rfl rfl rfl (by decide) q770 dX13_child_69 ?_
        refine v_aload_n dX13_child_72 2 rfl rfl ?_
        refine v_getS (f := 1) (t := 13) cf13 oc54 rfl rfl rfl (by decide) q771 dX13_child_73 ?_
        refine v_aload_n dX13_child_76 2 rfl rfl ?_
        refine v_getS (f := 8) (t := 61) cf13 oc54 rfl rfl rfl (by decide) q778 dX13_child_77 ?_
        refine v_iload_n dX13_child_80 3 rfl rfl ?_
        obtain ⟨g21, h⟩ := gd_some h
        refine v_iald oc61 rx1 g21.1 g21.2 dX13_child_81 ?_
        obtain ⟨r25, s22, e23, h⟩ := bd_some h
        have k24 := c_X6_base e23 (gE_rg _ _ _)
        have r26 : rg r25 := k24.1.2.2
        refine v_callVN (st := [vO 10, vO 54]) cf6 oc13 k24 q1591 q2155 q1590 qs60 q303 yk_X6_base ⟨Nat.le_of_ble_eq_true rfl, Nat.le_of_ble_eq_true rfl⟩ ⟨kc10, kc54, trivial⟩ ⟨kc54, trivial⟩ (Nat.le_of_ble_eq_true rfl) rfl dX13_child_82 ?_
        obtain ⟨r30, s27, e28, h⟩ := bd_some h
        have k29 := c_X4_parts e28 r26
        have r31 : rg r30 := k29.1.2.2
        refine v_callV (st := [vO 54]) cf4 oc10 k29 (lw_V q2156 q1493 q1494 q301 q1495) rfl yk_X4_parts ⟨Nat.le_of_ble_eq_true rfl, Nat.le_of_ble_eq_true rfl⟩ ⟨kc54, trivial⟩ ⟨kc54, trivial⟩ (Nat.le_of_ble_eq_true rfl) rfl dX13_child_85 ?_
        refine v_aload_n dX13_child_88 2 rfl rfl ?_
        obtain ⟨g32, h⟩ := gd_some h
        refine v_getR (f := 5) cf13 oc54 rfl (by rw [g32]; decide) (by decide) q775 dX13_child_89 ?_
        rw [g32]
        refine v_iload_n dX13_child_92 4 rfl rfl ?_
        obtain ⟨r36, s33, e34, h⟩ := bd_some h
        have k35 := c_X12_tag e34 rx2
        have r37 : rg r36 := k35.1.2.2
        refine v_callV (st := [vI r30, vO 54]) cf12 oc44 k35 (lw_V q2145 q2146 q2147 q309 q2148) rfl yk_X12_tag ⟨Nat.le_of_ble_eq_true rfl, Nat.le_of_ble_eq_true rfl⟩ ⟨kc54, trivial⟩ ⟨kc54, trivial⟩ (Nat.le_of_ble_eq_true rfl) rfl dX13_child_93 ?_
        obtain ⟨r41, s38, e39, h⟩ := bd_some h
        have k40 := c_X13_find e39 r31 r37
        have r42 : rg r41 := k40.1.2.2
        refine v_callV (st := []) cf13 oc54 k40 (lw_V q2149 q2151 qs127 q310 q2152) rfl yk_X13_find ⟨Nat.le_of_ble_eq_true rfl, Nat.le_of_ble_eq_true rfl⟩ trivial ⟨kc54, trivial⟩ (Nat.le_of_ble_eq_true rfl) rfl dX13_child_96 ?_
        refine v_istore (L1 := [(5, vI r41), (4, vI r11), (3, vI y1), (0, vO 54), (1, vI x1), (2, vI x2)]) dX13_child_99 (by decide) rfl ?_
        refine v_iload dX13_child_101 0 rfl ?_
        refine v_iconst dX13_child_103 ?_
        refine v_icmp_ne (tgt := 115) dX13_child_104 r42 (rgl rfl) (by decide) (fun c43 => ?_) (fun c43 => ?_)
        · rw [if_neg c43] at h
          refine v_aload_n dX13_child_115 3 rfl rfl ?_
          refine v_iload_n dX13_child_116 5 rfl rfl ?_
          refine v_iload dX13_child_117 0 rfl ?_
          refine v_iconst dX13_child_119 ?_
          refine v_iconst dX13_child_120 ?_
          refine v_iload_n dX13_child_121 4 rfl rfl ?_
          obtain ⟨r47, s44, e45, h⟩ := bd_some h
          have k46 := c_X13_begin e45 rx2 r42 (rgl rfl) (rgl rfl) rx1
          have r48 : rg r47 := k46.1.2.2
          refine v_callV (st := []) cf13 oc54 k46 (lw_V q2166 q2168 qs129 q310 q2169) rfl yk_X13_begin ⟨Nat.le_of_ble_eq_true rfl, Nat.le_of_ble_eq_true rfl⟩ trivial ⟨kc54, trivial⟩ (Nat.le_of_ble_eq_true rfl) rfl dX13_child_122 ?_
          cases h
          exact v_iret r48 dX13_child_125
        · rw [if_pos c43] at h
          refine v_aload_n dX13_child_107 3 rfl rfl ?_
          refine v_iload_n dX13_child_108 5 rfl rfl ?_
          obtain ⟨r52, s49, e50, h⟩ := bd_some h
          have k51 := c_X13_unexpected e50 rx2
          have r53 : rg r52 := k51.1.2.2
          refine v_callV (st := []) cf13 oc54 k51 (lw_V q2265 q2267 qs143 q310 q2268) rfl yk_X13_unexpected ⟨Nat.le_of_ble_eq_true rfl, Nat.le_of_ble_eq_true rfl⟩ trivial ⟨kc54, trivial⟩ (Nat.le_of_ble_eq_true rfl) rfl dX13_child_109 ?_
          refine v_goto (tgt := 125) dX13_child_112 (by decide) ?_
          cases h
          exact v_iret r53 dX13_child_125
      · rw [if_pos c20] at h
        refine v_aload_n dX13_child_60 2 rfl rfl ?_
        refine v_iload_n dX13_child_61 3 rfl rfl ?_
        refine v_iload_n dX13_child_62 4 rfl rfl ?_
        obtain ⟨r57, s54, e55, h⟩ := bd_some h
        have k56 := c_X13_anywhere e55 rx1 rx2
        have r58 : rg r57 := k56.1.2.2
        refine v_callV (st := []) cf13 oc54 k56 (lw_V q2273 q2275 qs145 q310 q2276) rfl yk_X13_anywhere ⟨Nat.le_of_ble_eq_true rfl, Nat.le_of_ble_eq_true rfl⟩ trivial ⟨kc54, trivial⟩ (Nat.le_of_ble_eq_true rfl) rfl dX13_child_63 ?_
        cases h
        exact v_iret r58 dX13_child_66
    · rw [if_pos c19] at h
      refine v_aload_n dX13_child_46 2 rfl rfl ?_
      refine v_iload_n dX13_child_47 3 rfl rfl ?_
      refine v_iload_n dX13_child_48 4 rfl rfl ?_
      obtain ⟨r62, s59, e60, h⟩ := bd_some h
      have k61 := c_X13_inOrder e60 rx1 rx2
      have r63 : rg r62 := k61.1.2.2
      refine v_callV (st := []) cf13 oc54 k61 (lw_V q2269 q2271 qs144 q310 q2272) rfl yk_X13_inOrder ⟨Nat.le_of_ble_eq_true rfl, Nat.le_of_ble_eq_true rfl⟩ trivial ⟨kc54, trivial⟩ (Nat.le_of_ble_eq_true rfl) rfl dX13_child_49 ?_
      cases h
      exact v_iret r63 dX13_child_52
  · rw [if_neg c18] at h
    refine v_aload_n dX13_child_32 2 rfl rfl ?_
    refine v_iload_n dX13_child_33 3 rfl rfl ?_
    refine v_iload_n dX13_child_34 4 rfl rfl ?_
    obtain ⟨r67, s64, e65, h⟩ := bd_some h
    have k66 := c_X13_inner e65 rx1 rx2
    have r68 : rg r67 := k66.1.2.2
    refine v_callV (st := []) cf13 oc54 k66 (lw_V q2261 q2263 qs142 q310 q2264) rfl yk_X13_inner ⟨Nat.le_of_ble_eq_true rfl, Nat.le_of_ble_eq_true rfl⟩ trivial ⟨kc54, trivial⟩ (Nat.le_of_ble_eq_true rfl) rfl dX13_child_35 ?_
    cases h
    exact v_iret r68 dX13_child_38

def E_X13_read_97 (p3 : Nat) (x1 : Int) (rv : Option vA) (σo : vS) (q : vS) : Prop := ∀ (s' : vS), q = s' → VW cX13_read (RX13, rv, σo, (some .boolean), 13, 319, 7, []) (P0 []) s' 118 [(0, vO 54), (1, vI x1), (2, vO 44)] []
def l_X13_read_97 (p3 : Nat) : Nat → Int → Int → Int → vS → Option (vS)
  | 0, _, _, _, _ => none
  | n + 1, x1, x4, x5, s =>
    if x4 ≤ x5 then
      some s
    else
      gd (inb x5 (gN s 61)) <|
      stp (sE s 61 x5 (-1)) fun s3 =>
      vl (w32 (x5 + 1)) fun y5 =>
      l_X13_read_97 p3 n x1 x4 y5 s3
theorem wl_X13_read_97 (p3 : Nat) {x1 : Int} {x4 : Int} {rv : Option vA} {σo : vS} (hp3 : okB p3 1) (rx1 : rg x1) (rx4 : rg x4) : ∀ (n : Nat) (x5 : Int) (s : vS) (q : vS), l_X13_read_97 p3 n x1 x4 x5 s = some q → rg x5 → E_X13_read_97 p3 x1 rv σo q → VW cX13_read (RX13, rv, σo, (some .boolean), 13, 319, 7, []) (P0 []) s 97 [(0, vO 54), (1, vI x1), (2, vO 44), (4, vI x4), (5, vI x5)] [] := by
  intro n
  induction n with
  | zero => intro x5 s q h; cases h
  | succ n ih =>
    intro x5 s q h rx5 hE
    unfold l_X13_read_97 at h
    refine v_iload dX13_read_97 4 rfl ?_
    refine v_iload dX13_read_99 3 rfl ?_
    refine v_icmp_ge (tgt := 118) dX13_read_101 rx5 rx4 (by decide) (fun c1 => ?_) (fun c1 => ?_)
    · rw [if_pos c1] at h
      cases h
      refine v_sub [0, 1, 2] (L1 := [(0, vO 54), (1, vI x1), (2, vO 44)]) rfl ?_
      exact hE _ rfl 
    · rw [if_neg c1] at h
      refine v_aload_n dX13_read_104 0 rfl rfl ?_
      refine v_getS (f := 8) (t := 61) cf13 oc54 rfl rfl rfl (by decide) q778 dX13_read_105 ?_
      refine v_iload dX13_read_108 4 rfl ?_
      refine v_iconst dX13_read_110 ?_
      obtain ⟨g2, h⟩ := gd_some h
      obtain ⟨s3, e4, h⟩ := stp_some h
      refine v_iast oc61 rx5 g2.1 g2.2 dX13_read_111 ?_
      rw [← e4]
      obtain ⟨y5, e6, h⟩ := vl_some h
      refine v_iinc (L1 := [(5, vI (w32 (x5 + 1))), (0, vO 54), (1, vI x1), (2, vO 44), (4, vI x4)]) dX13_read_112 4 rfl (by decide) rfl ?_
      rw [← e6]
      have r7 : rg y5 := by rw [e6]; exact w32_rg _
      refine v_goto (tgt := 97) dX13_read_115 (by decide) ?_
      refine v_sub [1, 2, 3, 4, 0] (L1 := [(0, vO 54), (1, vI x1), (2, vO 44), (4, vI x4), (5, vI y5)]) rfl ?_
      exact ih y5 s3 _ h r7 hE

def E_X13_read_173 (p3 : Nat) (rv : Option vA) (σo : vS) (q : vS) : Prop := ∀ (s' : vS), q = s' → VW cX13_read (RX13, rv, σo, (some .boolean), 13, 319, 7, []) (P0 []) s' 236 [(0, vO 54)] []
def l_X13_read_173 (p3 : Nat) : Nat → Int → vS → Option (vS)
  | 0, _, _ => none
  | n + 1, x6, s =>
    if (gI s 54 6) = 0 then
      if (gI s 54 18) ≤ 0 then
        some s
      else
        gd (inb (w32 ((gI s 54 18) - 1)) (gN s 67)) <|
        bd (f_X12_behind (gE s 67 (w32 ((gI s 54 18) - 1))) s) fun r7 s4 =>
        if x6 = r7 then
          bdv (f_X13_close s4) fun s16 =>
          l_X13_read_173 p3 n x6 s16
        else
          gd (inb (w32 ((gI s4 54 18) - 1)) (gN s4 67)) <|
          bd (f_X13_child (gE s4 67 (w32 ((gI s4 54 18) - 1))) x6 s4) fun r14 s11 =>
          l_X13_read_173 p3 n r14 s11
    else
      some s
theorem wl_X13_read_173 (p3 : Nat) {rv : Option vA} {σo : vS} (hp3 : okB p3 1) : ∀ (n : Nat) (x6 : Int) (s : vS) (q : vS), l_X13_read_173 p3 n x6 s = some q → rg x6 → E_X13_read_173 p3 rv σo q → VW cX13_read (RX13, rv, σo, (some .boolean), 13, 319, 7, []) (P0 []) s 173 [(0, vO 54), (2, vO 44), (6, vI x6)] [] := by
  intro n
  induction n with
  | zero => intro x6 s q h; cases h
  | succ n ih =>
    intro x6 s q h rx6 hE
    unfold l_X13_read_173 at h
    refine v_aload_n dX13_read_173 0 rfl rfl ?_
    refine v_getI (f := 6) cf13 oc54 rfl (by decide) q776 dX13_read_174 ?_
    refine v_if_ne (tgt := 236) dX13_read_177 (gI_rg _ _ _) (by decide) (fun c1 => ?_) (fun c1 => ?_)
    · rw [if_neg c1] at h
      cases h
      refine v_sub [0] (L1 := [(0, vO 54)]) rfl ?_
      exact hE _ rfl 
    · rw [if_pos c1] at h
      refine v_aload_n dX13_read_180 0 rfl rfl ?_
      refine v_getI (f := 18) cf13 oc54 rfl (by decide) q788 dX13_read_181 ?_
      refine v_if_le (tgt := 236) dX13_read_184 (gI_rg _ _ _) (by decide) (fun c2 => ?_) (fun c2 => ?_)
      · rw [if_pos c2] at h
        cases h
        refine v_sub [0] (L1 := [(0, vO 54)]) rfl ?_
        exact hE _ rfl 
      · rw [if_neg c2] at h
        refine v_iload dX13_read_187 2 rfl ?_
        refine v_aload_n dX13_read_189 1 rfl rfl ?_
        refine v_aload_n dX13_read_190 0 rfl rfl ?_
        refine v_getS (f := 14) (t := 67) cf13 oc54 rfl rfl rfl (by decide) q784 dX13_read_191 ?_
        refine v_aload_n dX13_read_194 0 rfl rfl ?_
        refine v_getI (f := 18) cf13 oc54 rfl (by decide) q788 dX13_read_195 ?_
        refine v_iconst dX13_read_198 ?_
        refine v_isub dX13_read_199 ?_
        obtain ⟨g3, h⟩ := gd_some h
        refine v_iald oc67 (w32_rg _) g3.1 g3.2 dX13_read_200 ?_
        obtain ⟨r7, s4, e5, h⟩ := bd_some h
        have k6 := c_X12_behind e5 (gE_rg _ _ _)
        have r8 : rg r7 := k6.1.2.2
        refine v_callV (st := [vI x6]) cf12 oc44 k6 (lw_V q2222 q2223 q2224 q309 q2225) rfl yk_X12_behind ⟨Nat.le_of_ble_eq_true rfl, Nat.le_of_ble_eq_true rfl⟩ trivial ⟨kc54, kc44, trivial⟩ (Nat.le_of_ble_eq_true rfl) rfl dX13_read_201 ?_
        refine v_icmp_ne (tgt := 214) dX13_read_204 rx6 r8 (by decide) (fun c9 => ?_) (fun c9 => ?_)
        · rw [if_neg c9] at h
          refine v_aload_n dX13_read_214 0 rfl rfl ?_
          refine v_aload_n dX13_read_215 0 rfl rfl ?_
          refine v_getS (f := 14) (t := 67) cf13 oc54 rfl rfl rfl (by decide) q784 dX13_read_216 ?_
          refine v_aload_n dX13_read_219 0 rfl rfl ?_
          refine v_getI (f := 18) cf13 oc54 rfl (by decide) q788 dX13_read_220 ?_
          refine v_iconst dX13_read_223 ?_
          refine v_isub dX13_read_224 ?_
          obtain ⟨g10, h⟩ := gd_some h
          refine v_iald oc67 (w32_rg _) g10.1 g10.2 dX13_read_225 ?_
          refine v_iload dX13_read_226 2 rfl ?_
          obtain ⟨r14, s11, e12, h⟩ := bd_some h
          have k13 := c_X13_child e12 (gE_rg _ _ _) rx6
          have r15 : rg r14 := k13.1.2.2
          refine v_callV (st := []) cf13 oc54 k13 (lw_V q2257 q2259 qs141 q310 q2260) rfl yk_X13_child ⟨Nat.le_of_ble_eq_true rfl, Nat.le_of_ble_eq_true rfl⟩ trivial ⟨kc54, kc44, trivial⟩ (Nat.le_of_ble_eq_true rfl) rfl dX13_read_228 ?_
          refine v_istore (L1 := [(6, vI r14), (0, vO 54), (2, vO 44)]) dX13_read_231 (by decide) rfl ?_
          refine v_goto (tgt := 173) dX13_read_233 (by decide) ?_
          refine v_sub [1, 2, 0] (L1 := [(0, vO 54), (2, vO 44), (6, vI r14)]) rfl ?_
          exact ih r14 s11 _ h r15 hE
        · rw [if_pos c9] at h
          refine v_aload_n dX13_read_207 0 rfl rfl ?_
          obtain ⟨s16, e17, h⟩ := bdv_some h
          have k18 := c_X13_close e17
          refine v_callV (st := []) cf13 oc54 k18 (lw_V q2248 q2250 qs139 q310 q2251) rfl yk_X13_close ⟨Nat.le_of_ble_eq_true rfl, Nat.le_of_ble_eq_true rfl⟩ trivial ⟨kc54, kc44, trivial⟩ (Nat.le_of_ble_eq_true rfl) rfl dX13_read_208 ?_
          refine v_goto (tgt := 173) dX13_read_211 (by decide) ?_
          exact ih x6 s16 _ h rx6 hE

def j_X13_read_236 (p3 : Nat) (s : vS) : Option (Int × vS) :=
  if (gI s 54 6) = 0 then
    some (1, s)
  else
    some (0, s)
theorem wj_X13_read_236 {p3 : Nat} {s : vS} {out : Int × vS} (h : j_X13_read_236 p3 s = some out) (hp3 : okB p3 1) : VW cX13_read (RX13, (some (vI out.1)), out.2, (some .boolean), 13, 319, 7, []) (P0 []) s 236 [(0, vO 54)] [] := by
  unfold j_X13_read_236 at h
  refine v_aload_n dX13_read_236 0 rfl rfl ?_
  refine v_getI (f := 6) cf13 oc54 rfl (by decide) q776 dX13_read_237 ?_
  refine v_if_ne (tgt := 247) dX13_read_240 (gI_rg _ _ _) (by decide) (fun c1 => ?_) (fun c1 => ?_)
  · rw [if_neg c1] at h
    refine v_iconst dX13_read_247 ?_
    cases h
    exact v_zret (Or.inl rfl) dX13_read_248
  · rw [if_pos c1] at h
    refine v_iconst dX13_read_243 ?_
    refine v_goto (tgt := 248) dX13_read_244 (by decide) ?_
    cases h
    exact v_zret (Or.inr rfl) dX13_read_248

def f_X13_read (x1 : Int) (p3 : Nat) (s : vS) : Option (Int × vS) :=
  stp (sR s 54 4 p3) fun s1 =>
  stp (sR s1 54 5 44) fun s3 =>
  bd (f_X12_size s3) fun r8 s5 =>
  bd (f_X13_grown 61 r8 s5) fun r13 s14 =>
  gd (r13 = 0 ∨ (2 * gN s14 61 ≤ gN s14 199 ∧ 2 ≤ gN s14 199)) <|
  stp (grw s14 61 r13) fun s18 =>
  bd (f_X13_grown 62 r8 s18) fun r23 s24 =>
  gd (r23 = 0 ∨ (2 * gN s24 62 ≤ gN s24 199 ∧ 2 ≤ gN s24 199)) <|
  stp (grw s24 62 r23) fun s28 =>
  bd (f_X13_grown 63 r8 s28) fun r33 s34 =>
  gd (r33 = 0 ∨ (2 * gN s34 63 ≤ gN s34 199 ∧ 2 ≤ gN s34 199)) <|
  stp (grw s34 63 r33) fun s38 =>
  bd (f_X13_grown 64 r8 s38) fun r43 s44 =>
  gd (r43 = 0 ∨ (2 * gN s44 64 ≤ gN s44 199 ∧ 2 ≤ gN s44 199)) <|
  stp (grw s44 64 r43) fun s48 =>
  bd (f_X13_grown 65 r8 s48) fun r53 s54 =>
  gd (r53 = 0 ∨ (2 * gN s54 65 ≤ gN s54 199 ∧ 2 ≤ gN s54 199)) <|
  stp (grw s54 65 r53) fun s58 =>
  bd (f_X13_grown 66 r8 s58) fun r63 s64 =>
  gd (r63 = 0 ∨ (2 * gN s64 66 ≤ gN s64 199 ∧ 2 ≤ gN s64 199)) <|
  stp (grw s64 66 r63) fun s68 =>
  lq_0 (l_X13_read_97 p3 FU x1 r8 0 s68) fun s70 =>
  bdv (f_X2_clear 73 s70) fun s72 =>
  stp (sI s72 54 18 0) fun s75 =>
  stp (sI s75 54 6 0) fun s77 =>
  bd (f_X12_tag 0 s77) fun r82 s79 =>
  bd (f_X13_find x1 r82 s79) fun r87 s84 =>
  if r87 = (-1) then
    bd (f_X13_wrong 11 0 s84) fun r100 s97 =>
    gd (r100 = 0 ∨ r100 = 1) <|
    some (r100, s97)
  else
    bd (f_X13_begin 0 r87 0 (-1) (-1) s84) fun r93 s90 =>
    lq_0 (l_X13_read_173 p3 FU r93 s90) fun s95 =>
    j_X13_read_236 p3 s95
theorem yk_X13_read : yOk yX13_read 3 := ⟨by decide, by decide, by decide +kernel⟩
theorem c_X13_read {x1 : Int} {p3 : Nat} {s : vS} {out : Int × vS} (h : f_X13_read x1 p3 s = some out) (hp3 : okB p3 1) (rx1 : rg x1) : VC yX13_read cX13_read 7 (some .boolean) 13 319 [vO 54, vI x1, vO 44, vO p3] s (some (vI out.1)) out.2 [] := by
  unfold f_X13_read at h
  refine VC.of RX13 (by decide) rfl (Nat.le_of_ble_eq_true rfl) ?_
  show VW cX13_read (RX13, (some (vI out.1)), out.2, (some .boolean), 13, 319, 7, []) (P0 []) s 0 [(0, vO 54), (1, vI x1), (2, vO 44), (3, vO p3)] []
  refine v_aload_n dX13_read_0 0 rfl rfl ?_
  refine v_aload_n dX13_read_1 3 rfl rfl ?_
  obtain ⟨s1, e2, h⟩ := stp_some h
  refine v_putR (f := 4) cf13 oc54 rfl (okB_R hp3 (by decide) (by decide)) (by decide) q774 dX13_read_2 rfl rfl ?_
  rw [← e2]
  refine v_aload_n dX13_read_5 0 rfl rfl ?_
  refine v_aload_n dX13_read_6 2 rfl rfl ?_
  obtain ⟨s3, e4, h⟩ := stp_some h
  refine v_putR (f := 5) cf13 oc54 rfl (by decide) (by decide) q775 dX13_read_7 rfl rfl ?_
  rw [← e4]
  refine v_aload_n dX13_read_10 2 rfl rfl ?_
  obtain ⟨r8, s5, e6, h⟩ := bd_some h
  have k7 := c_X12_size e6
  have r9 : rg r8 := k7.1.2.2
  refine v_callV (st := []) cf12 oc44 k7 (lw_V q2135 q2136 q2137 q309 q2138) rfl yk_X12_size ⟨Nat.le_of_ble_eq_true rfl, Nat.le_of_ble_eq_true rfl⟩ trivial ⟨kc54, kc44, (okB_kp hp3 (by decide)), trivial⟩ (Nat.le_of_ble_eq_true rfl) rfl dX13_read_11 ?_
  refine v_istore (L1 := [(4, vI r8), (0, vO 54), (1, vI x1), (2, vO 44), (3, vO p3)]) dX13_read_14 (by decide) rfl ?_
  refine v_aload_n dX13_read_16 1 rfl rfl ?_
  refine v_aload_n dX13_read_17 1 rfl rfl ?_
  refine v_getS (f := 8) (t := 61) cf13 oc54 rfl rfl rfl (by decide) q778 dX13_read_18 ?_
  refine v_iload dX13_read_21 0 rfl ?_
  obtain ⟨r13, s14, e15, h⟩ := bd_some h
  have k16 := c_X13_grown e15 (⟨by decide, rfl⟩ : okB 61 24) r9
  obtain ⟨g17, h⟩ := gd_some h
  obtain ⟨s18, e19, h⟩ := stp_some h
  refine v_regrow (f := 8) k16 (lw_S q2139 q2140 q310 q2141) yk_X13_grown ⟨Nat.le_of_ble_eq_true rfl, Nat.le_of_ble_eq_true rfl⟩ ⟨kc54, trivial⟩ ⟨kc54, kc44, (okB_kp hp3 (by decide)), trivial⟩ (Nat.le_of_ble_eq_true rfl) dX13_read_23 cf13 (⟨by decide, rfl⟩ : okB 54 12) rfl (by decide) rfl rfl g17 q778 dX13_read_26 rfl rfl (by simp only [rnL, rnA, List.map_cons, List.map_nil, rn_ob hp3 (by decide) (by decide : 14 ≤ kd 61)]; rfl) rfl ⟨(by decide), (by decide), (Nat.lt_of_lt_of_le hp3.1 (by decide)), trivial⟩ trivial ?_
  rw [← e19]
  refine v_aload_n dX13_read_29 1 rfl rfl ?_
  refine v_aload_n dX13_read_30 1 rfl rfl ?_
  refine v_getS (f := 9) (t := 62) cf13 oc54 rfl rfl rfl (by decide) q779 dX13_read_31 ?_
  refine v_iload dX13_read_34 0 rfl ?_
  obtain ⟨r23, s24, e25, h⟩ := bd_some h
  have k26 := c_X13_grown e25 (⟨by decide, rfl⟩ : okB 62 24) r9
  obtain ⟨g27, h⟩ := gd_some h
  obtain ⟨s28, e29, h⟩ := stp_some h
  refine v_regrow (f := 9) k26 (lw_S q2139 q2140 q310 q2141) yk_X13_grown ⟨Nat.le_of_ble_eq_true rfl, Nat.le_of_ble_eq_true rfl⟩ ⟨kc54, trivial⟩ ⟨kc54, kc44, (okB_kp hp3 (by decide)), trivial⟩ (Nat.le_of_ble_eq_true rfl) dX13_read_36 cf13 (⟨by decide, rfl⟩ : okB 54 12) rfl (by decide) rfl rfl g27 q779 dX13_read_39 rfl rfl (by simp only [rnL, rnA, List.map_cons, List.map_nil, rn_ob hp3 (by decide) (by decide : 14 ≤ kd 62)]; rfl) rfl ⟨(by decide), (by decide), (Nat.lt_of_lt_of_le hp3.1 (by decide)), trivial⟩ trivial ?_
  rw [← e29]
  refine v_aload_n dX13_read_42 1 rfl rfl ?_
  refine v_aload_n dX13_read_43 1 rfl rfl ?_
  refine v_getS (f := 10) (t := 63) cf13 oc54 rfl rfl rfl (by decide) q780 dX13_read_44 ?_
  refine v_iload dX13_read_47 0 rfl ?_
  obtain ⟨r33, s34, e35, h⟩ := bd_some h
  have k36 := c_X13_grown e35 (⟨by decide, rfl⟩ : okB 63 24) r9
  obtain ⟨g37, h⟩ := gd_some h
  obtain ⟨s38, e39, h⟩ := stp_some h
  refine v_regrow (f := 10) k36 (lw_S q2139 q2140 q310 q2141) yk_X13_grown ⟨Nat.le_of_ble_eq_true rfl, Nat.le_of_ble_eq_true rfl⟩ ⟨kc54, trivial⟩ ⟨kc54, kc44, (okB_kp hp3 (by decide)), trivial⟩ (Nat.le_of_ble_eq_true rfl) dX13_read_49 cf13 (⟨by decide, rfl⟩ : okB 54 12) rfl (by decide) rfl rfl g37 q780 dX13_read_52 rfl rfl (by simp only [rnL, rnA, List.map_cons, List.map_nil, rn_ob hp3 (by decide) (by decide : 14 ≤ kd 63)]; rfl) rfl ⟨(by decide), (by decide), (Nat.lt_of_lt_of_le hp3.1 (by decide)), trivial⟩ trivial ?_
  rw [← e39]
  refine v_aload_n dX13_read_55 1 rfl rfl ?_
  refine v_aload_n dX13_read_56 1 rfl rfl ?_
  refine v_getS (f := 11) (t := 64) cf13 oc54 rfl rfl rfl (by decide) q781 dX13_read_57 ?_
  refine v_iload dX13_read_60 0 rfl ?_
  obtain ⟨r43, s44, e45, h⟩ := bd_some h
  have k46 := c_X13_grown e45 (⟨by decide, rfl⟩ : okB 64 24) r9
  obtain ⟨g47, h⟩ := gd_some h
  obtain ⟨s48, e49, h⟩ := stp_some h
  refine v_regrow (f := 11) k46 (lw_S q2139 q2140 q310 q2141) yk_X13_grown ⟨Nat.le_of_ble_eq_true rfl, Nat.le_of_ble_eq_true rfl⟩ ⟨kc54, trivial⟩ ⟨kc54, kc44, (okB_kp hp3 (by decide)), trivial⟩ (Nat.le_of_ble_eq_true rfl) dX13_read_62 cf13 (⟨by decide, rfl⟩ : okB 54 12) rfl (by decide) rfl rfl g47 q781 dX13_read_65 rfl rfl (by simp only [rnL, rnA, List.map_cons, List.map_nil, rn_ob hp3 (by decide) (by decide : 14 ≤ kd 64)]; rfl) rfl ⟨(by decide), (by decide), (Nat.lt_of_lt_of_le hp3.1 (by decide)), trivial⟩ trivial ?_
  rw [← e49]
  refine v_aload_n dX13_read_68 1 rfl rfl ?_
  refine v_aload_n dX13_read_69 1 rfl rfl ?_
  refine v_getS (f := 12) (t := 65) cf13 oc54 rfl rfl rfl (by decide) q782 dX13_read_70 ?_
  refine v_iload dX13_read_73 0 rfl ?_
  obtain ⟨r53, s54, e55, h⟩ := bd_some h
  have k56 := c_X13_grown e55 (⟨by decide, rfl⟩ : okB 65 24) r9
  obtain ⟨g57, h⟩ := gd_some h
  obtain ⟨s58, e59, h⟩ := stp_some h
  refine v_regrow (f := 12) k56 (lw_S q2139 q2140 q310 q2141) yk_X13_grown ⟨Nat.le_of_ble_eq_true rfl, Nat.le_of_ble_eq_true rfl⟩ ⟨kc54, trivial⟩ ⟨kc54, kc44, (okB_kp hp3 (by decide)), trivial⟩ (Nat.le_of_ble_eq_true rfl) dX13_read_75 cf13 (⟨by decide, rfl⟩ : okB 54 12) rfl (by decide) rfl rfl g57 q782 dX13_read_78 rfl rfl (by simp only [rnL, rnA, List.map_cons, List.map_nil, rn_ob hp3 (by decide) (by decide : 14 ≤ kd 65)]; rfl) rfl ⟨(by decide), (by decide), (Nat.lt_of_lt_of_le hp3.1 (by decide)), trivial⟩ trivial ?_
  rw [← e59]
  refine v_aload_n dX13_read_81 1 rfl rfl ?_
  refine v_aload_n dX13_read_82 1 rfl rfl ?_
  refine v_getS (f := 13) (t := 66) cf13 oc54 rfl rfl rfl (by decide) q783 dX13_read_83 ?_
  refine v_iload dX13_read_86 0 rfl ?_
  obtain ⟨r63, s64, e65, h⟩ := bd_some h
  have k66 := c_X13_grown e65 (⟨by decide, rfl⟩ : okB 66 24) r9
  obtain ⟨g67, h⟩ := gd_some h
  obtain ⟨s68, e69, h⟩ := stp_some h
  refine v_regrow (f := 13) k66 (lw_S q2139 q2140 q310 q2141) yk_X13_grown ⟨Nat.le_of_ble_eq_true rfl, Nat.le_of_ble_eq_true rfl⟩ ⟨kc54, trivial⟩ ⟨kc54, kc44, (okB_kp hp3 (by decide)), trivial⟩ (Nat.le_of_ble_eq_true rfl) dX13_read_88 cf13 (⟨by decide, rfl⟩ : okB 54 12) rfl (by decide) rfl rfl g67 q783 dX13_read_91 rfl rfl (by simp only [rnL, rnA, List.map_cons, List.map_nil, rn_ob hp3 (by decide) (by decide : 14 ≤ kd 66)]; rfl) rfl ⟨(by decide), (by decide), (Nat.lt_of_lt_of_le hp3.1 (by decide)), trivial⟩ trivial ?_
  rw [← e69]
  refine v_iconst dX13_read_94 ?_
  refine v_istore (L1 := [(5, vI 0), (4, vI r8), (0, vO 54), (1, vI x1), (2, vO 44), (3, vO p3)]) dX13_read_95 (by decide) rfl ?_
  refine v_sub [2, 3, 4, 1, 0] (L1 := [(0, vO 54), (1, vI x1), (2, vO 44), (4, vI r8), (5, vI 0)]) rfl ?_
  obtain ⟨s70, e71, h⟩ := lq_0_some h
  refine wl_X13_read_97 p3 hp3 rx1 r9 FU 0 s68 _ e71 (rgl rfl) ?_
  unfold E_X13_read_97
  intro s70' z_
  cases z_
  refine v_aload_n dX13_read_118 0 rfl rfl ?_
  refine v_getS (f := 21) (t := 73) cf13 oc54 rfl rfl rfl (by decide) q791 dX13_read_119 ?_
  obtain ⟨s72, e73, h⟩ := bdv_some h
  have k74 := c_X2_clear e73 (⟨by decide, rfl⟩ : okB 73 1)
  refine v_callV (st := []) cf2 oc73 k74 (lw_V q2144 q1055 q1056 q299 q1057) rfl yk_X2_clear ⟨Nat.le_of_ble_eq_true rfl, Nat.le_of_ble_eq_true rfl⟩ trivial ⟨kc54, kc44, trivial⟩ (Nat.le_of_ble_eq_true rfl) rfl dX13_read_122 ?_
  refine v_aload_n dX13_read_125 0 rfl rfl ?_
  refine v_iconst dX13_read_126 ?_
  obtain ⟨s75, e76, h⟩ := stp_some h
  refine v_putI (f := 18) cf13 oc54 rfl (by decide) q788 dX13_read_127 rfl rfl ?_
  rw [← e76]
  refine v_aload_n dX13_read_130 0 rfl rfl ?_
  refine v_iconst dX13_read_131 ?_
  obtain ⟨s77, e78, h⟩ := stp_some h
  refine v_putI (f := 6) cf13 oc54 rfl (by decide) q776 dX13_read_132 rfl rfl ?_
  rw [← e78]
  refine v_aload_n dX13_read_135 0 rfl rfl ?_
  refine v_iload_n dX13_read_136 1 rfl rfl ?_
  refine v_aload_n dX13_read_137 2 rfl rfl ?_
  refine v_iconst dX13_read_138 ?_
  obtain ⟨r82, s79, e80, h⟩ := bd_some h
  have k81 := c_X12_tag e80 (rgl rfl)
  have r83 : rg r82 := k81.1.2.2
  refine v_callV (st := [vI x1, vO 54]) cf12 oc44 k81 (lw_V q2145 q2146 q2147 q309 q2148) rfl yk_X12_tag ⟨Nat.le_of_ble_eq_true rfl, Nat.le_of_ble_eq_true rfl⟩ ⟨kc54, trivial⟩ ⟨kc54, kc44, trivial⟩ (Nat.le_of_ble_eq_true rfl) rfl dX13_read_139 ?_
  obtain ⟨r87, s84, e85, h⟩ := bd_some h
  have k86 := c_X13_find e85 rx1 r83
  have r88 : rg r87 := k86.1.2.2
  refine v_callV (st := []) cf13 oc54 k86 (lw_V q2149 q2151 qs127 q310 q2152) rfl yk_X13_find ⟨Nat.le_of_ble_eq_true rfl, Nat.le_of_ble_eq_true rfl⟩ trivial ⟨kc54, kc44, trivial⟩ (Nat.le_of_ble_eq_true rfl) rfl dX13_read_142 ?_
  refine v_istore (L1 := [(5, vI r87), (0, vO 54), (1, vI x1), (2, vO 44)]) dX13_read_145 (by decide) rfl ?_
  refine v_iload dX13_read_147 0 rfl ?_
  refine v_iconst dX13_read_149 ?_
  refine v_icmp_ne (tgt := 161) dX13_read_150 r88 (rgl rfl) (by decide) (fun c89 => ?_) (fun c89 => ?_)
  · rw [if_neg c89] at h
    refine v_aload_n dX13_read_161 1 rfl rfl ?_
    refine v_iconst dX13_read_162 ?_
    refine v_iload dX13_read_163 0 rfl ?_
    refine v_iconst dX13_read_165 ?_
    refine v_iconst dX13_read_166 ?_
    refine v_iconst dX13_read_167 ?_
    obtain ⟨r93, s90, e91, h⟩ := bd_some h
    have k92 := c_X13_begin e91 (rgl rfl) r88 (rgl rfl) (rgl rfl) (rgl rfl)
    have r94 : rg r93 := k92.1.2.2
    refine v_callV (st := []) cf13 oc54 k92 (lw_V q2166 q2168 qs129 q310 q2169) rfl yk_X13_begin ⟨Nat.le_of_ble_eq_true rfl, Nat.le_of_ble_eq_true rfl⟩ trivial ⟨kc54, kc44, trivial⟩ (Nat.le_of_ble_eq_true rfl) rfl dX13_read_168 ?_
    refine v_istore (L1 := [(6, vI r93), (5, vI r87), (0, vO 54), (1, vI x1), (2, vO 44)]) dX13_read_171 (by decide) rfl ?_
    refine v_sub [2, 4, 0] (L1 := [(0, vO 54), (2, vO 44), (6, vI r93)]) rfl ?_
    obtain ⟨s95, e96, h⟩ := lq_0_some h
    refine wl_X13_read_173 p3 hp3 FU r93 s90 _ e96 r94 ?_
    unfold E_X13_read_173
    intro s95' z_
    cases z_
    exact wj_X13_read_236 h hp3
  · rw [if_pos c89] at h
    refine v_aload_n dX13_read_153 1 rfl rfl ?_
    refine v_bipush dX13_read_154 rfl ?_
    refine v_iconst dX13_read_156 ?_
    obtain ⟨r100, s97, e98, h⟩ := bd_some h
    have k99 := c_X13_wrong e98 (rgl rfl) (rgl rfl)
    have r101 : rg r100 := k99.1.2.2
    refine v_callV (st := []) cf13 oc54 k99 (lw_V q2158 q2160 qs128 q310 q2161) rfl yk_X13_wrong ⟨Nat.le_of_ble_eq_true rfl, Nat.le_of_ble_eq_true rfl⟩ trivial ⟨kc54, kc44, trivial⟩ (Nat.le_of_ble_eq_true rfl) rfl dX13_read_157 ?_
    obtain ⟨g102, h⟩ := gd_some h
    cases h
    exact v_zret g102 dX13_read_160

def f_X13_fault (s : vS) : Option (Int × vS) :=
  some (gI s 54 6, s)
theorem yk_X13_fault : yOk yX13_fault 0 := ⟨by decide, by decide, by decide +kernel⟩
theorem c_X13_fault {s : vS} {out : Int × vS} (h : f_X13_fault s = some out)   : VC yX13_fault cX13_fault 1 (some .int) 0 0 [vO 54] s (some (vI out.1)) out.2 [] := by
  unfold f_X13_fault at h
  refine VC.of RX13 (by decide) rfl (Nat.le_of_ble_eq_true rfl) ?_
  show VW cX13_fault (RX13, (some (vI out.1)), out.2, (some .int), 0, 0, 1, []) (P0 []) s 0 [(0, vO 54)] []
  refine v_aload_n dX13_fault_0 0 rfl rfl ?_
  refine v_getI (f := 6) cf13 oc54 rfl (by decide) q776 dX13_fault_1 ?_
  cases h
  exact v_iret (gI_rg _ _ _) dX13_fault_4

def f_X13_place (s : vS) : Option (Int × vS) :=
  some (gI s 54 7, s)
theorem yk_X13_place : yOk yX13_place 0 := ⟨by decide, by decide, by decide +kernel⟩
theorem c_X13_place {s : vS} {out : Int × vS} (h : f_X13_place s = some out)   : VC yX13_place cX13_place 1 (some .int) 0 0 [vO 54] s (some (vI out.1)) out.2 [] := by
  unfold f_X13_place at h
  refine VC.of RX13 (by decide) rfl (Nat.le_of_ble_eq_true rfl) ?_
  show VW cX13_place (RX13, (some (vI out.1)), out.2, (some .int), 0, 0, 1, []) (P0 []) s 0 [(0, vO 54)] []
  refine v_aload_n dX13_place_0 0 rfl rfl ?_
  refine v_getI (f := 7) cf13 oc54 rfl (by decide) q777 dX13_place_1 ?_
  cases h
  exact v_iret (gI_rg _ _ _) dX13_place_4

def f_X6_pool (s : vS) : Option (Nat × vS) :=
  some (30, s)
theorem yk_X6_pool : yOk yX6_pool 0 := ⟨by decide, by decide, by decide +kernel⟩
theorem c_X6_pool {s : vS} {out : Nat × vS} (h : f_X6_pool s = some out)   : VC yX6_pool cX6_pool 1 (some (.object "SchemaWorkshop$Bytes")) 0 0 [vO 13] s (some (vO out.1)) out.2 [] := by
  unfold f_X6_pool at h
  refine VC.of RX6 (by decide) rfl (Nat.le_of_ble_eq_true rfl) ?_
  show VW cX6_pool (RX6, (some (vO out.1)), out.2, (some (.object "SchemaWorkshop$Bytes")), 0, 0, 1, []) (P0 []) s 0 [(0, vO 13)] []
  refine v_aload_n dX6_pool_0 0 rfl rfl ?_
  refine v_getS (f := 9) (t := 30) cf6 oc13 rfl rfl rfl (by decide) q636 dX6_pool_1 ?_
  cases h
  exact v_aret dX6_pool_4

def E_X13_isDefault_29 (x2 : Int) (rv : Option vA) (σo : vS) (q : Int × vS) : Prop := ∀ (x3' : Int) (s' : vS), q = (x3', s') → rg x3' → VW cX13_isDefault (RX13, rv, σo, (some .boolean), 9, 203, 6, []) (P0 []) s' 43 [(0, vO 54), (2, vI x2), (3, vI x3')] []
def l_X13_isDefault_29 : Nat → Int → Int → vS → Option (Int × vS)
  | 0, _, _, _ => none
  | n + 1, x2, x3, s =>
    bd (f_X13_isAround x3 s) fun r4 s1 =>
    if r4 = 0 then
      some (x3, s1)
    else
      vl (w32 (x3 + 1)) fun y7 =>
      l_X13_isDefault_29 n x2 y7 s1
theorem wl_X13_isDefault_29 {x2 : Int} {rv : Option vA} {σo : vS}  (rx2 : rg x2) : ∀ (n : Nat) (x3 : Int) (s : vS) (q : Int × vS), l_X13_isDefault_29 n x2 x3 s = some q → rg x3 → E_X13_isDefault_29 x2 rv σo q → VW cX13_isDefault (RX13, rv, σo, (some .boolean), 9, 203, 6, []) (P0 []) s 29 [(0, vO 54), (2, vI x2), (3, vI x3)] [] := by
  intro n
  induction n with
  | zero => intro x3 s q h; cases h
  | succ n ih =>
    intro x3 s q h rx3 hE
    unfold l_X13_isDefault_29 at h
    refine v_aload_n dX13_isDefault_29 0 rfl rfl ?_
    refine v_iload_n dX13_isDefault_30 2 rfl rfl ?_
    obtain ⟨r4, s1, e2, h⟩ := bd_some h
    have k3 := c_X13_isAround e2 rx3
    have r5 : rg r4 := k3.1.2.2
    refine v_callV (st := []) cf13 oc54 k3 (lw_V q2175 q2177 qs131 q310 q2178) rfl yk_X13_isAround ⟨Nat.le_of_ble_eq_true rfl, Nat.le_of_ble_eq_true rfl⟩ trivial ⟨kc54, trivial⟩ (Nat.le_of_ble_eq_true rfl) rfl dX13_isDefault_31 ?_
    refine v_if_eq (tgt := 43) dX13_isDefault_34 r5 (by decide) (fun c6 => ?_) (fun c6 => ?_)
    · rw [if_pos c6] at h
      cases h
      exact hE _ _ rfl rx3
    · rw [if_neg c6] at h
      obtain ⟨y7, e8, h⟩ := vl_some h
      refine v_iinc (L1 := [(3, vI (w32 (x3 + 1))), (0, vO 54), (2, vI x2)]) dX13_isDefault_37 2 rfl (by decide) rfl ?_
      rw [← e8]
      have r9 : rg y7 := by rw [e8]; exact w32_rg _
      refine v_goto (tgt := 29) dX13_isDefault_40 (by decide) ?_
      refine v_sub [1, 2, 0] (L1 := [(0, vO 54), (2, vI x2), (3, vI y7)]) rfl ?_
      exact ih y7 s1 _ h r9 hE

def f_X13_isDefault (x1 : Int) (s : vS) : Option (Int × vS) :=
  gd (inb x1 (gN s 63)) <|
  vl (gE s 63 x1) fun y2 =>
  if y2 = (-1) then
    some (0, s)
  else
    bd (f_X4_at y2 5 s) fun r9 s6 =>
    if r9 = 2 then
      lq_1 (l_X13_isDefault_29 FU y2 x1 s6) fun y12 s13 =>
      bd (f_X6_valueFrom y2 s13) fun r19 s16 =>
      bd (f_X6_valueTo y2 s16) fun r24 s21 =>
      bd (f_X13_kind y12 s21) fun r29 s26 =>
      bd (f_X13_isMany r29 s26) fun r34 s31 =>
      if r34 = 0 then
        gd (inb y12 (gN s31 65)) <|
        gd (inb y12 (gN s31 65)) <|
        gd (inb y12 (gN s31 66)) <|
        bdo (f_X6_pool s31) fun r43 s40 =>
        gd (okB r43 1) <|
        bd (f_X2_compare 73 (gE s31 65 y12) (w32 ((gE s31 65 y12) + (gE s31 66 y12))) r43 r19 r24 s40) fun r48 s45 =>
        if r48 = 0 then
          some (1, s45)
        else
          some (0, s45)
      else
        gd (inb y12 (gN s31 66)) <|
        if (gE s31 66 y12) = 0 then
          some (1, s31)
        else
          some (0, s31)
    else
      some (0, s6)
theorem yk_X13_isDefault : yOk yX13_isDefault 1 := ⟨by decide, by decide, by decide +kernel⟩
theorem c_X13_isDefault {x1 : Int} {s : vS} {out : Int × vS} (h : f_X13_isDefault x1 s = some out)  (rx1 : rg x1) : VC yX13_isDefault cX13_isDefault 6 (some .boolean) 9 203 [vO 54, vI x1] s (some (vI out.1)) out.2 [] := by
  unfold f_X13_isDefault at h
  refine VC.of RX13 (by decide) rfl (Nat.le_of_ble_eq_true rfl) ?_
  show VW cX13_isDefault (RX13, (some (vI out.1)), out.2, (some .boolean), 9, 203, 6, []) (P0 []) s 0 [(0, vO 54), (1, vI x1)] []
  refine v_aload_n dX13_isDefault_0 0 rfl rfl ?_
  refine v_getS (f := 10) (t := 63) cf13 oc54 rfl rfl rfl (by decide) q780 dX13_isDefault_1 ?_
  refine v_iload_n dX13_isDefault_4 1 rfl rfl ?_
  obtain ⟨g1, h⟩ := gd_some h
  refine v_iald oc63 rx1 g1.1 g1.2 dX13_isDefault_5 ?_
  obtain ⟨y2, e3, h⟩ := vl_some h
  rw [← e3]
  have r4 : rg y2 := by rw [e3]; exact gE_rg _ _ _
  refine v_istore_n (L1 := [(2, vI y2), (0, vO 54), (1, vI x1)]) dX13_isDefault_6 rfl (by decide) rfl ?_
  refine v_iload_n dX13_isDefault_7 0 rfl rfl ?_
  refine v_iconst dX13_isDefault_8 ?_
  refine v_icmp_eq (tgt := 25) dX13_isDefault_9 r4 (rgl rfl) (by decide) (fun c5 => ?_) (fun c5 => ?_)
  · rw [if_pos c5] at h
    refine v_iconst dX13_isDefault_25 ?_
    cases h
    exact v_zret (Or.inl rfl) dX13_isDefault_26
  · rw [if_neg c5] at h
    refine v_aload_n dX13_isDefault_12 1 rfl rfl ?_
    refine v_getS (f := 0) (t := 10) cf13 oc54 rfl rfl rfl (by decide) q770 dX13_isDefault_13 ?_
    refine v_iload_n dX13_isDefault_16 0 rfl rfl ?_
    refine v_iconst dX13_isDefault_17 ?_
    obtain ⟨r9, s6, e7, h⟩ := bd_some h
    have k8 := c_X4_at e7 r4 (rgl rfl)
    have r10 : rg r9 := k8.1.2.2
    refine v_callV (st := []) cf4 oc10 k8 (lw_V q2252 q1400 q1401 q301 q1402) rfl yk_X4_at ⟨Nat.le_of_ble_eq_true rfl, Nat.le_of_ble_eq_true rfl⟩ trivial ⟨kc54, trivial⟩ (Nat.le_of_ble_eq_true rfl) rfl dX13_isDefault_18 ?_
    refine v_iconst dX13_isDefault_21 ?_
    refine v_icmp_eq (tgt := 27) dX13_isDefault_22 r10 (rgl rfl) (by decide) (fun c11 => ?_) (fun c11 => ?_)
    · rw [if_pos c11] at h
      refine v_iload_n dX13_isDefault_27 2 rfl rfl ?_
      refine v_istore_n (L1 := [(3, vI x1), (2, vI y2), (0, vO 54), (1, vI x1)]) dX13_isDefault_28 rfl (by decide) rfl ?_
      refine v_sub [2, 1, 0] (L1 := [(0, vO 54), (2, vI y2), (3, vI x1)]) rfl ?_
      obtain ⟨y12, s13, e14, h⟩ := lq_1_some h
      refine wl_X13_isDefault_29 r4 FU x1 s6 _ e14 rx1 ?_
      unfold E_X13_isDefault_29
      intro y12' s13' z_ r15
      cases z_
      refine v_aload_n dX13_isDefault_43 0 rfl rfl ?_
      refine v_getS (f := 1) (t := 13) cf13 oc54 rfl rfl rfl (by decide) q771 dX13_isDefault_44 ?_
      refine v_iload_n dX13_isDefault_47 1 rfl rfl ?_
      obtain ⟨r19, s16, e17, h⟩ := bd_some h
      have k18 := c_X6_valueFrom e17 r4
      have r20 : rg r19 := k18.1.2.2
      refine v_callV (st := []) cf6 oc13 k18 (lw_V q2297 q2058 q2059 q303 q2060) rfl yk_X6_valueFrom ⟨Nat.le_of_ble_eq_true rfl, Nat.le_of_ble_eq_true rfl⟩ trivial ⟨kc54, trivial⟩ (Nat.le_of_ble_eq_true rfl) rfl dX13_isDefault_48 ?_
      refine v_istore (L1 := [(4, vI r19), (0, vO 54), (2, vI y2), (3, vI y12)]) dX13_isDefault_51 (by decide) rfl ?_
      refine v_aload_n dX13_isDefault_53 1 rfl rfl ?_
      refine v_getS (f := 1) (t := 13) cf13 oc54 rfl rfl rfl (by decide) q771 dX13_isDefault_54 ?_
      refine v_iload_n dX13_isDefault_57 2 rfl rfl ?_
      obtain ⟨r24, s21, e22, h⟩ := bd_some h
      have k23 := c_X6_valueTo e22 r4
      have r25 : rg r24 := k23.1.2.2
      refine v_callV (st := []) cf6 oc13 k23 (lw_V q2298 q2054 q2055 q303 q2056) rfl yk_X6_valueTo ⟨Nat.le_of_ble_eq_true rfl, Nat.le_of_ble_eq_true rfl⟩ trivial ⟨kc54, trivial⟩ (Nat.le_of_ble_eq_true rfl) rfl dX13_isDefault_58 ?_
      refine v_istore (L1 := [(5, vI r24), (4, vI r19), (0, vO 54), (2, vI y2), (3, vI y12)]) dX13_isDefault_61 (by decide) rfl ?_
      refine v_aload_n dX13_isDefault_63 2 rfl rfl ?_
      refine v_aload_n dX13_isDefault_64 2 rfl rfl ?_
      refine v_iload_n dX13_isDefault_65 4 rfl rfl ?_
      obtain ⟨r29, s26, e27, h⟩ := bd_some h
      have k28 := c_X13_kind e27 r15
      have r30 : rg r29 := k28.1.2.2
      refine v_callV (st := [vO 54]) cf13 oc54 k28 (lw_V q2170 q2172 qs130 q310 q2173) rfl yk_X13_kind ⟨Nat.le_of_ble_eq_true rfl, Nat.le_of_ble_eq_true rfl⟩ ⟨kc54, trivial⟩ ⟨kc54, trivial⟩ (Nat.le_of_ble_eq_true rfl) rfl dX13_isDefault_66 ?_
      obtain ⟨r34, s31, e32, h⟩ := bd_some h
      have k33 := c_X13_isMany e32 r30
      have r35 : rg r34 := k33.1.2.2
      refine v_callV (st := []) cf13 oc54 k33 (lw_V q2179 q2181 qs132 q310 q2182) rfl yk_X13_isMany ⟨Nat.le_of_ble_eq_true rfl, Nat.le_of_ble_eq_true rfl⟩ trivial ⟨kc54, trivial⟩ (Nat.le_of_ble_eq_true rfl) rfl dX13_isDefault_69 ?_
      refine v_if_eq (tgt := 90) dX13_isDefault_72 r35 (by decide) (fun c36 => ?_) (fun c36 => ?_)
      · rw [if_pos c36] at h
        refine v_aload_n dX13_isDefault_90 2 rfl rfl ?_
        refine v_getS (f := 21) (t := 73) cf13 oc54 rfl rfl rfl (by decide) q791 dX13_isDefault_91 ?_
        refine v_aload_n dX13_isDefault_94 2 rfl rfl ?_
        refine v_getS (f := 12) (t := 65) cf13 oc54 rfl rfl rfl (by decide) q782 dX13_isDefault_95 ?_
        refine v_iload_n dX13_isDefault_98 4 rfl rfl ?_
        obtain ⟨g37, h⟩ := gd_some h
        refine v_iald oc65 r15 g37.1 g37.2 dX13_isDefault_99 ?_
        refine v_aload_n dX13_isDefault_100 2 rfl rfl ?_
        refine v_getS (f := 12) (t := 65) cf13 oc54 rfl rfl rfl (by decide) q782 dX13_isDefault_101 ?_
        refine v_iload_n dX13_isDefault_104 4 rfl rfl ?_
        obtain ⟨g38, h⟩ := gd_some h
        refine v_iald oc65 r15 g38.1 g38.2 dX13_isDefault_105 ?_
        refine v_aload_n dX13_isDefault_106 2 rfl rfl ?_
        refine v_getS (f := 13) (t := 66) cf13 oc54 rfl rfl rfl (by decide) q783 dX13_isDefault_107 ?_
        refine v_iload_n dX13_isDefault_110 4 rfl rfl ?_
        obtain ⟨g39, h⟩ := gd_some h
        refine v_iald oc66 r15 g39.1 g39.2 dX13_isDefault_111 ?_
        refine v_iadd dX13_isDefault_112 ?_
        refine v_aload_n dX13_isDefault_113 2 rfl rfl ?_
        refine v_getS (f := 1) (t := 13) cf13 oc54 rfl rfl rfl (by decide) q771 dX13_isDefault_114 ?_
        obtain ⟨r43, s40, e41, h⟩ := bdo_some h
        have k42 := c_X6_pool e41
        obtain ⟨g44, h⟩ := gd_some h
        refine v_callV (st := [vI (w32 ((gE s31 65 y12) + (gE s31 66 y12))), vI (gE s31 65 y12), vO 73]) cf6 oc13 k42 (lw_V q2299 q2300 q2301 q303 q2302) rfl yk_X6_pool ⟨Nat.le_of_ble_eq_true rfl, Nat.le_of_ble_eq_true rfl⟩ ⟨kc73, trivial⟩ ⟨kc54, trivial⟩ (Nat.le_of_ble_eq_true rfl) rfl dX13_isDefault_117 ?_
        refine v_iload dX13_isDefault_120 1 rfl ?_
        refine v_iload dX13_isDefault_122 0 rfl ?_
        obtain ⟨r48, s45, e46, h⟩ := bd_some h
        have k47 := c_X2_compare e46 (⟨by decide, rfl⟩ : okB 73 1) g44 (gE_rg _ _ _) (w32_rg _) r20 r25
        have r49 : rg r48 := k47.1.2.2
        refine v_callV (st := []) cf2 oc73 k47 (lw_V q2303 q1470 q1471 q299 q1472) rfl yk_X2_compare ⟨Nat.le_of_ble_eq_true rfl, Nat.le_of_ble_eq_true rfl⟩ trivial ⟨kc54, trivial⟩ (Nat.le_of_ble_eq_true rfl) rfl dX13_isDefault_124 ?_
        refine v_if_ne (tgt := 134) dX13_isDefault_127 r49 (by decide) (fun c50 => ?_) (fun c50 => ?_)
        · rw [if_neg c50] at h
          refine v_iconst dX13_isDefault_134 ?_
          cases h
          exact v_zret (Or.inl rfl) dX13_isDefault_135
        · rw [if_pos c50] at h
          refine v_iconst dX13_isDefault_130 ?_
          refine v_goto (tgt := 135) dX13_isDefault_131 (by decide) ?_
          cases h
          exact v_zret (Or.inr rfl) dX13_isDefault_135
      · rw [if_neg c36] at h
        refine v_aload_n dX13_isDefault_75 2 rfl rfl ?_
        refine v_getS (f := 13) (t := 66) cf13 oc54 rfl rfl rfl (by decide) q783 dX13_isDefault_76 ?_
        refine v_iload_n dX13_isDefault_79 4 rfl rfl ?_
        obtain ⟨g51, h⟩ := gd_some h
        refine v_iald oc66 r15 g51.1 g51.2 dX13_isDefault_80 ?_
        refine v_if_ne (tgt := 88) dX13_isDefault_81 (gE_rg _ _ _) (by decide) (fun c52 => ?_) (fun c52 => ?_)
        · rw [if_neg c52] at h
          refine v_iconst dX13_isDefault_88 ?_
          cases h
          exact v_zret (Or.inl rfl) dX13_isDefault_89
        · rw [if_pos c52] at h
          refine v_iconst dX13_isDefault_84 ?_
          refine v_goto (tgt := 89) dX13_isDefault_85 (by decide) ?_
          cases h
          exact v_zret (Or.inr rfl) dX13_isDefault_89
    · rw [if_neg c11] at h
      refine v_iconst dX13_isDefault_25 ?_
      cases h
      exact v_zret (Or.inl rfl) dX13_isDefault_26

def f_X13_tagBytes (x0 : Int) (s : vS) : Option (Int × vS) :=
  vl (and32 x0 268435455) fun y1 =>
  if 31 ≤ y1 then
    if 128 ≤ y1 then
      if 16384 ≤ y1 then
        if 2097152 ≤ y1 then
          some (5, s)
        else
          some (4, s)
      else
        some (3, s)
    else
      some (2, s)
  else
    some (1, s)
theorem yk_X13_tagBytes : yOk yX13_tagBytes 1 := ⟨by decide, by decide, by decide +kernel⟩
theorem c_X13_tagBytes {x0 : Int} {s : vS} {out : Int × vS} (h : f_X13_tagBytes x0 s = some out)  (rx0 : rg x0) : VC yX13_tagBytes cX13_tagBytes 2 (some .int) 0 0 [vI x0] s (some (vI out.1)) out.2 [] := by
  unfold f_X13_tagBytes at h
  refine VC.of RX13 (by decide) rfl (Nat.le_of_ble_eq_true rfl) ?_
  show VW cX13_tagBytes (RX13, (some (vI out.1)), out.2, (some .int), 0, 0, 2, []) (P0 []) s 0 [(0, vI x0)] []
  refine v_iload_n dX13_tagBytes_0 0 rfl rfl ?_
  refine v_ldcw (n := 268435455) dX13_tagBytes_1 q2311 rfl ?_
  refine v_iand dX13_tagBytes_4 ?_
  obtain ⟨y1, e2, h⟩ := vl_some h
  rw [← e2]
  have r3 : rg y1 := by rw [e2]; exact and32_rg _ _
  refine v_istore_n (L1 := [(1, vI y1), (0, vI x0)]) dX13_tagBytes_5 rfl (by decide) rfl ?_
  refine v_iload_n dX13_tagBytes_6 0 rfl rfl ?_
  refine v_bipush dX13_tagBytes_7 rfl ?_
  refine v_icmp_ge (tgt := 16) dX13_tagBytes_9 r3 (rgl rfl) (by decide) (fun c4 => ?_) (fun c4 => ?_)
  · rw [if_pos c4] at h
    refine v_iload_n dX13_tagBytes_16 0 rfl rfl ?_
    refine v_sipush dX13_tagBytes_17 rfl ?_
    refine v_icmp_ge (tgt := 27) dX13_tagBytes_20 r3 (rgl rfl) (by decide) (fun c5 => ?_) (fun c5 => ?_)
    · rw [if_pos c5] at h
      refine v_iload_n dX13_tagBytes_27 0 rfl rfl ?_
      refine v_sipush dX13_tagBytes_28 rfl ?_
      refine v_icmp_ge (tgt := 38) dX13_tagBytes_31 r3 (rgl rfl) (by decide) (fun c6 => ?_) (fun c6 => ?_)
      · rw [if_pos c6] at h
        refine v_iload_n dX13_tagBytes_38 0 rfl rfl ?_
        refine v_ldcw (n := 2097152) dX13_tagBytes_39 q2312 rfl ?_
        refine v_icmp_ge (tgt := 49) dX13_tagBytes_42 r3 (rgl rfl) (by decide) (fun c7 => ?_) (fun c7 => ?_)
        · rw [if_pos c7] at h
          refine v_iconst dX13_tagBytes_49 ?_
          cases h
          exact v_iret (rgl rfl) dX13_tagBytes_50
        · rw [if_neg c7] at h
          refine v_iconst dX13_tagBytes_45 ?_
          refine v_goto (tgt := 50) dX13_tagBytes_46 (by decide) ?_
          cases h
          exact v_iret (rgl rfl) dX13_tagBytes_50
      · rw [if_neg c6] at h
        refine v_iconst dX13_tagBytes_34 ?_
        refine v_goto (tgt := 50) dX13_tagBytes_35 (by decide) ?_
        cases h
        exact v_iret (rgl rfl) dX13_tagBytes_50
    · rw [if_neg c5] at h
      refine v_iconst dX13_tagBytes_23 ?_
      refine v_goto (tgt := 50) dX13_tagBytes_24 (by decide) ?_
      cases h
      exact v_iret (rgl rfl) dX13_tagBytes_50
  · rw [if_neg c4] at h
    refine v_iconst dX13_tagBytes_12 ?_
    refine v_goto (tgt := 50) dX13_tagBytes_13 (by decide) ?_
    cases h
    exact v_iret (rgl rfl) dX13_tagBytes_50

def f_X13_lengthBytes (x0 : Int) (s : vS) : Option (Int × vS) :=
  if 128 ≤ x0 then
    if 256 ≤ x0 then
      if 65536 ≤ x0 then
        if 16777216 ≤ x0 then
          some (5, s)
        else
          some (4, s)
      else
        some (3, s)
    else
      some (2, s)
  else
    some (1, s)
theorem yk_X13_lengthBytes : yOk yX13_lengthBytes 1 := ⟨by decide, by decide, by decide +kernel⟩
theorem c_X13_lengthBytes {x0 : Int} {s : vS} {out : Int × vS} (h : f_X13_lengthBytes x0 s = some out)  (rx0 : rg x0) : VC yX13_lengthBytes cX13_lengthBytes 1 (some .int) 0 0 [vI x0] s (some (vI out.1)) out.2 [] := by
  unfold f_X13_lengthBytes at h
  refine VC.of RX13 (by decide) rfl (Nat.le_of_ble_eq_true rfl) ?_
  show VW cX13_lengthBytes (RX13, (some (vI out.1)), out.2, (some .int), 0, 0, 1, []) (P0 []) s 0 [(0, vI x0)] []
  refine v_iload_n dX13_lengthBytes_0 0 rfl rfl ?_
  refine v_sipush dX13_lengthBytes_1 rfl ?_
  refine v_icmp_ge (tgt := 11) dX13_lengthBytes_4 rx0 (rgl rfl) (by decide) (fun c1 => ?_) (fun c1 => ?_)
  · rw [if_pos c1] at h
    refine v_iload_n dX13_lengthBytes_11 0 rfl rfl ?_
    refine v_sipush dX13_lengthBytes_12 rfl ?_
    refine v_icmp_ge (tgt := 22) dX13_lengthBytes_15 rx0 (rgl rfl) (by decide) (fun c2 => ?_) (fun c2 => ?_)
    · rw [if_pos c2] at h
      refine v_iload_n dX13_lengthBytes_22 0 rfl rfl ?_
      refine v_ldcw (n := 65536) dX13_lengthBytes_23 q2316 rfl ?_
      refine v_icmp_ge (tgt := 33) dX13_lengthBytes_26 rx0 (rgl rfl) (by decide) (fun c3 => ?_) (fun c3 => ?_)
      · rw [if_pos c3] at h
        refine v_iload_n dX13_lengthBytes_33 0 rfl rfl ?_
        refine v_ldcw (n := 16777216) dX13_lengthBytes_34 q2317 rfl ?_
        refine v_icmp_ge (tgt := 44) dX13_lengthBytes_37 rx0 (rgl rfl) (by decide) (fun c4 => ?_) (fun c4 => ?_)
        · rw [if_pos c4] at h
          refine v_iconst dX13_lengthBytes_44 ?_
          cases h
          exact v_iret (rgl rfl) dX13_lengthBytes_45
        · rw [if_neg c4] at h
          refine v_iconst dX13_lengthBytes_40 ?_
          refine v_goto (tgt := 45) dX13_lengthBytes_41 (by decide) ?_
          cases h
          exact v_iret (rgl rfl) dX13_lengthBytes_45
      · rw [if_neg c3] at h
        refine v_iconst dX13_lengthBytes_29 ?_
        refine v_goto (tgt := 45) dX13_lengthBytes_30 (by decide) ?_
        cases h
        exact v_iret (rgl rfl) dX13_lengthBytes_45
    · rw [if_neg c2] at h
      refine v_iconst dX13_lengthBytes_18 ?_
      refine v_goto (tgt := 45) dX13_lengthBytes_19 (by decide) ?_
      cases h
      exact v_iret (rgl rfl) dX13_lengthBytes_45
  · rw [if_neg c1] at h
    refine v_iconst dX13_lengthBytes_7 ?_
    refine v_goto (tgt := 45) dX13_lengthBytes_8 (by decide) ?_
    cases h
    exact v_iret (rgl rfl) dX13_lengthBytes_45

def f_X13_total (x1 : Int) (s : vS) : Option (Int × vS) :=
  gd (gR s 54 5 = 44) <|
  bd (f_X12_tag x1 s) fun r5 s2 =>
  bd (f_X13_tagBytes r5 s2) fun r10 s7 =>
  gd (inb x1 (gN s7 66)) <|
  bd (f_X13_lengthBytes (gE s7 66 x1) s7) fun r16 s13 =>
  gd (inb x1 (gN s13 66)) <|
  some (w32 ((w32 (r10 + r16)) + (gE s13 66 x1)), s13)
theorem yk_X13_total : yOk yX13_total 1 := ⟨by decide, by decide, by decide +kernel⟩
theorem c_X13_total {x1 : Int} {s : vS} {out : Int × vS} (h : f_X13_total x1 s = some out)  (rx1 : rg x1) : VC yX13_total cX13_total 2 (some .int) 1 21 [vO 54, vI x1] s (some (vI out.1)) out.2 [] := by
  unfold f_X13_total at h
  refine VC.of RX13 (by decide) rfl (Nat.le_of_ble_eq_true rfl) ?_
  show VW cX13_total (RX13, (some (vI out.1)), out.2, (some .int), 1, 21, 2, []) (P0 []) s 0 [(0, vO 54), (1, vI x1)] []
  refine v_aload_n dX13_total_0 0 rfl rfl ?_
  obtain ⟨g1, h⟩ := gd_some h
  refine v_getR (f := 5) cf13 oc54 rfl (by rw [g1]; decide) (by decide) q775 dX13_total_1 ?_
  rw [g1]
  refine v_iload_n dX13_total_4 1 rfl rfl ?_
  obtain ⟨r5, s2, e3, h⟩ := bd_some h
  have k4 := c_X12_tag e3 rx1
  have r6 : rg r5 := k4.1.2.2
  refine v_callV (st := []) cf12 oc44 k4 (lw_V q2145 q2146 q2147 q309 q2148) rfl yk_X12_tag ⟨Nat.le_of_ble_eq_true rfl, Nat.le_of_ble_eq_true rfl⟩ trivial ⟨kc54, trivial⟩ (Nat.le_of_ble_eq_true rfl) rfl dX13_total_5 ?_
  obtain ⟨r10, s7, e8, h⟩ := bd_some h
  have k9 := c_X13_tagBytes e8 r6
  have r11 : rg r10 := k9.1.2.2
  refine v_callS (st := []) k9 (lw_S q2308 q2309 q310 q2310) yk_X13_tagBytes ⟨Nat.le_of_ble_eq_true rfl, Nat.le_of_ble_eq_true rfl⟩ trivial ⟨kc54, trivial⟩ (Nat.le_of_ble_eq_true rfl) rfl dX13_total_8 ?_
  refine v_aload_n dX13_total_11 0 rfl rfl ?_
  refine v_getS (f := 13) (t := 66) cf13 oc54 rfl rfl rfl (by decide) q783 dX13_total_12 ?_
  refine v_iload_n dX13_total_15 1 rfl rfl ?_
  obtain ⟨g12, h⟩ := gd_some h
  refine v_iald oc66 rx1 g12.1 g12.2 dX13_total_16 ?_
  obtain ⟨r16, s13, e14, h⟩ := bd_some h
  have k15 := c_X13_lengthBytes e14 (gE_rg _ _ _)
  have r17 : rg r16 := k15.1.2.2
  refine v_callS (st := [vI r10]) k15 (lw_S q2313 q2314 q310 q2315) yk_X13_lengthBytes ⟨Nat.le_of_ble_eq_true rfl, Nat.le_of_ble_eq_true rfl⟩ trivial ⟨kc54, trivial⟩ (Nat.le_of_ble_eq_true rfl) rfl dX13_total_17 ?_
  refine v_iadd dX13_total_20 ?_
  refine v_aload_n dX13_total_21 0 rfl rfl ?_
  refine v_getS (f := 13) (t := 66) cf13 oc54 rfl rfl rfl (by decide) q783 dX13_total_22 ?_
  refine v_iload_n dX13_total_25 1 rfl rfl ?_
  obtain ⟨g18, h⟩ := gd_some h
  refine v_iald oc66 rx1 g18.1 g18.2 dX13_total_26 ?_
  refine v_iadd dX13_total_27 ?_
  cases h
  exact v_iret (w32_rg _) dX13_total_28

def E_X13_measure_10 (rv : Option vA) (σo : vS) (q : vS) : Prop := ∀ (s' : vS), q = s' → VW cX13_measure (RX13, rv, σo, none, 10, 228, 2, []) (P0 []) s' 77 [] []
def l_X13_measure_10 : Nat → Int → vS → Option (vS)
  | 0, _, _ => none
  | n + 1, x1, s =>
    if x1 < 0 then
      some s
    else
      gd (inb x1 (gN s 61)) <|
      if (gE s 61 x1) = (-1) then
        vl (w32 (x1 + (-1))) fun y4 =>
        l_X13_measure_10 n y4 s
      else
        bd (f_X13_isDefault x1 s) fun r10 s7 =>
        if r10 = 0 then
          gd (inb x1 (gN s7 64)) <|
          if (gE s7 64 x1) = (-1) then
            vl (w32 (x1 + (-1))) fun y15 =>
            l_X13_measure_10 n y15 s7
          else
            gd (inb x1 (gN s7 64)) <|
            vl (gE s7 64 x1) fun y19 =>
            gd (inb y19 (gN s7 66)) <|
            bd (f_X13_total x1 s7) fun r26 s23 =>
            gd (gN s23 66 = gN s7 66) <|
            gd (inb y19 (gN s23 66)) <|
            stp (sE s23 66 y19 (w32 ((gE s7 66 y19) + r26))) fun s30 =>
            vl (w32 (x1 + (-1))) fun y32 =>
            l_X13_measure_10 n y32 s30
        else
          gd (inb x1 (gN s7 61)) <|
          stp (sE s7 61 x1 (-1)) fun s36 =>
          vl (w32 (x1 + (-1))) fun y38 =>
          l_X13_measure_10 n y38 s36
theorem wl_X13_measure_10 {rv : Option vA} {σo : vS}  : ∀ (n : Nat) (x1 : Int) (s : vS) (q : vS), l_X13_measure_10 n x1 s = some q → rg x1 → E_X13_measure_10 rv σo q → VW cX13_measure (RX13, rv, σo, none, 10, 228, 2, []) (P0 []) s 10 [(0, vO 54), (1, vI x1)] [] := by
  intro n
  induction n with
  | zero => intro x1 s q h; cases h
  | succ n ih =>
    intro x1 s q h rx1 hE
    unfold l_X13_measure_10 at h
    refine v_iload_n dX13_measure_10 1 rfl rfl ?_
    refine v_if_lt (tgt := 77) dX13_measure_11 rx1 (by decide) (fun c1 => ?_) (fun c1 => ?_)
    · rw [if_pos c1] at h
      cases h
      refine v_sub [] (L1 := []) rfl ?_
      exact hE _ rfl 
    · rw [if_neg c1] at h
      refine v_aload_n dX13_measure_14 0 rfl rfl ?_
      refine v_getS (f := 8) (t := 61) cf13 oc54 rfl rfl rfl (by decide) q778 dX13_measure_15 ?_
      refine v_iload_n dX13_measure_18 1 rfl rfl ?_
      obtain ⟨g2, h⟩ := gd_some h
      refine v_iald oc61 rx1 g2.1 g2.2 dX13_measure_19 ?_
      refine v_iconst dX13_measure_20 ?_
      refine v_icmp_eq (tgt := 71) dX13_measure_21 (gE_rg _ _ _) (rgl rfl) (by decide) (fun c3 => ?_) (fun c3 => ?_)
      · rw [if_pos c3] at h
        obtain ⟨y4, e5, h⟩ := vl_some h
        refine v_iinc (L1 := [(1, vI (w32 (x1 + (-1)))), (0, vO 54)]) dX13_measure_71 1 rfl (by decide) rfl ?_
        rw [← e5]
        have r6 : rg y4 := by rw [e5]; exact w32_rg _
        refine v_goto (tgt := 10) dX13_measure_74 (by decide) ?_
        refine v_sub [1, 0] (L1 := [(0, vO 54), (1, vI y4)]) rfl ?_
        exact ih y4 s _ h r6 hE
      · rw [if_neg c3] at h
        refine v_aload_n dX13_measure_24 0 rfl rfl ?_
        refine v_iload_n dX13_measure_25 1 rfl rfl ?_
        obtain ⟨r10, s7, e8, h⟩ := bd_some h
        have k9 := c_X13_isDefault e8 rx1
        have r11 : rg r10 := k9.1.2.2
        refine v_callV (st := []) cf13 oc54 k9 (lw_V q2293 q2295 qs147 q310 q2296) rfl yk_X13_isDefault ⟨Nat.le_of_ble_eq_true rfl, Nat.le_of_ble_eq_true rfl⟩ trivial ⟨kc54, trivial⟩ (Nat.le_of_ble_eq_true rfl) rfl dX13_measure_26 ?_
        refine v_if_eq (tgt := 42) dX13_measure_29 r11 (by decide) (fun c12 => ?_) (fun c12 => ?_)
        · rw [if_pos c12] at h
          refine v_aload_n dX13_measure_42 0 rfl rfl ?_
          refine v_getS (f := 11) (t := 64) cf13 oc54 rfl rfl rfl (by decide) q781 dX13_measure_43 ?_
          refine v_iload_n dX13_measure_46 1 rfl rfl ?_
          obtain ⟨g13, h⟩ := gd_some h
          refine v_iald oc64 rx1 g13.1 g13.2 dX13_measure_47 ?_
          refine v_iconst dX13_measure_48 ?_
          refine v_icmp_eq (tgt := 71) dX13_measure_49 (gE_rg _ _ _) (rgl rfl) (by decide) (fun c14 => ?_) (fun c14 => ?_)
          · rw [if_pos c14] at h
            obtain ⟨y15, e16, h⟩ := vl_some h
            refine v_iinc (L1 := [(1, vI (w32 (x1 + (-1)))), (0, vO 54)]) dX13_measure_71 1 rfl (by decide) rfl ?_
            rw [← e16]
            have r17 : rg y15 := by rw [e16]; exact w32_rg _
            refine v_goto (tgt := 10) dX13_measure_74 (by decide) ?_
            refine v_sub [1, 0] (L1 := [(0, vO 54), (1, vI y15)]) rfl ?_
            exact ih y15 s7 _ h r17 hE
          · rw [if_neg c14] at h
            refine v_aload_n dX13_measure_52 0 rfl rfl ?_
            refine v_getS (f := 13) (t := 66) cf13 oc54 rfl rfl rfl (by decide) q783 dX13_measure_53 ?_
            refine v_aload_n dX13_measure_56 0 rfl rfl ?_
            refine v_getS (f := 11) (t := 64) cf13 oc54 rfl rfl rfl (by decide) q781 dX13_measure_57 ?_
            refine v_iload_n dX13_measure_60 1 rfl rfl ?_
            obtain ⟨g18, h⟩ := gd_some h
            refine v_iald oc64 rx1 g18.1 g18.2 dX13_measure_61 ?_
            obtain ⟨y19, e20, h⟩ := vl_some h
            rw [← e20]
            have r21 : rg y19 := by rw [e20]; exact gE_rg _ _ _
            refine v_dup2IO dX13_measure_62 ?_
            obtain ⟨g22, h⟩ := gd_some h
            refine v_iald oc66 r21 g22.1 g22.2 dX13_measure_63 ?_
            refine v_aload_n dX13_measure_64 0 rfl rfl ?_
            refine v_iload_n dX13_measure_65 1 rfl rfl ?_
            obtain ⟨r26, s23, e24, h⟩ := bd_some h
            have k25 := c_X13_total e24 rx1
            have r27 : rg r26 := k25.1.2.2
            obtain ⟨g28, h⟩ := gd_some h
            refine v_callV (st := [vI (gE s7 66 y19), vI y19, vO 66]) cf13 oc54 k25 (lw_V q2304 q2306 qs148 q310 q2307) rfl yk_X13_total ⟨Nat.le_of_ble_eq_true rfl, Nat.le_of_ble_eq_true rfl⟩ ⟨(kp_arr (by decide) g28), trivial⟩ ⟨kc54, trivial⟩ (Nat.le_of_ble_eq_true rfl) rfl dX13_measure_66 ?_
            refine v_iadd dX13_measure_69 ?_
            obtain ⟨g29, h⟩ := gd_some h
            obtain ⟨s30, e31, h⟩ := stp_some h
            refine v_iast oc66 r21 g29.1 g29.2 dX13_measure_70 ?_
            rw [← e31]
            obtain ⟨y32, e33, h⟩ := vl_some h
            refine v_iinc (L1 := [(1, vI (w32 (x1 + (-1)))), (0, vO 54)]) dX13_measure_71 1 rfl (by decide) rfl ?_
            rw [← e33]
            have r34 : rg y32 := by rw [e33]; exact w32_rg _
            refine v_goto (tgt := 10) dX13_measure_74 (by decide) ?_
            refine v_sub [1, 0] (L1 := [(0, vO 54), (1, vI y32)]) rfl ?_
            exact ih y32 s30 _ h r34 hE
        · rw [if_neg c12] at h
          refine v_aload_n dX13_measure_32 0 rfl rfl ?_
          refine v_getS (f := 8) (t := 61) cf13 oc54 rfl rfl rfl (by decide) q778 dX13_measure_33 ?_
          refine v_iload_n dX13_measure_36 1 rfl rfl ?_
          refine v_iconst dX13_measure_37 ?_
          obtain ⟨g35, h⟩ := gd_some h
          obtain ⟨s36, e37, h⟩ := stp_some h
          refine v_iast oc61 rx1 g35.1 g35.2 dX13_measure_38 ?_
          rw [← e37]
          refine v_goto (tgt := 71) dX13_measure_39 (by decide) ?_
          obtain ⟨y38, e39, h⟩ := vl_some h
          refine v_iinc (L1 := [(1, vI (w32 (x1 + (-1)))), (0, vO 54)]) dX13_measure_71 1 rfl (by decide) rfl ?_
          rw [← e39]
          have r40 : rg y38 := by rw [e39]; exact w32_rg _
          refine v_goto (tgt := 10) dX13_measure_74 (by decide) ?_
          refine v_sub [1, 0] (L1 := [(0, vO 54), (1, vI y38)]) rfl ?_
          exact ih y38 s36 _ h r40 hE

def f_X13_measure (s : vS) : Option (vS) :=
  gd (gR s 54 5 = 44) <|
  bd (f_X12_size s) fun r5 s2 =>
  vl (w32 (r5 - 1)) fun y7 =>
  lq_0 (l_X13_measure_10 FU y7 s2) fun s10 =>
  some s10
theorem yk_X13_measure : yOk yX13_measure 0 := ⟨by decide, by decide, by decide +kernel⟩
theorem c_X13_measure {s : vS} {out : vS} (h : f_X13_measure s = some out)   : VC yX13_measure cX13_measure 2 none 10 228 [vO 54] s none out [] := by
  unfold f_X13_measure at h
  refine VC.of RX13 (by decide) rfl (Nat.le_of_ble_eq_true rfl) ?_
  show VW cX13_measure (RX13, none, out, none, 10, 228, 2, []) (P0 []) s 0 [(0, vO 54)] []
  refine v_aload_n dX13_measure_0 0 rfl rfl ?_
  obtain ⟨g1, h⟩ := gd_some h
  refine v_getR (f := 5) cf13 oc54 rfl (by rw [g1]; decide) (by decide) q775 dX13_measure_1 ?_
  rw [g1]
  obtain ⟨r5, s2, e3, h⟩ := bd_some h
  have k4 := c_X12_size e3
  have r6 : rg r5 := k4.1.2.2
  refine v_callV (st := []) cf12 oc44 k4 (lw_V q2135 q2136 q2137 q309 q2138) rfl yk_X12_size ⟨Nat.le_of_ble_eq_true rfl, Nat.le_of_ble_eq_true rfl⟩ trivial ⟨kc54, trivial⟩ (Nat.le_of_ble_eq_true rfl) rfl dX13_measure_4 ?_
  refine v_iconst dX13_measure_7 ?_
  refine v_isub dX13_measure_8 ?_
  obtain ⟨y7, e8, h⟩ := vl_some h
  rw [← e8]
  have r9 : rg y7 := by rw [e8]; exact w32_rg _
  refine v_istore_n (L1 := [(1, vI y7), (0, vO 54)]) dX13_measure_9 rfl (by decide) rfl ?_
  refine v_sub [1, 0] (L1 := [(0, vO 54), (1, vI y7)]) rfl ?_
  obtain ⟨s10, e11, h⟩ := lq_0_some h
  refine wl_X13_measure_10  FU y7 s2 _ e11 r9 ?_
  unfold E_X13_measure_10
  intro s10' z_
  cases z_
  cases h
  exact v_vret dX13_measure_77

def E_X13_writeTag_76 (rv : Option vA) (σo : vS) (q : vS) : Prop := ∀ (s' : vS), q = s' → VW cX13_writeTag (RX13, rv, σo, none, 3, 70, 7, []) (P0 []) s' 118 [] []
def j_X13_writeTag_108 (rec : Int → Int → vS → Option (vS)) (x4 : Int) (x6 : Int) (z1 : Int) (z2 : Int) (s : vS) : Option (vS) :=
  bdv (f_X2_add 77 (or32 z1 z2) s) fun s1 =>
  vl (w32 (x6 + (-1))) fun y4 =>
  rec x4 y4 s1
theorem wj_X13_writeTag_108 {x4 : Int} {x6 : Int} {z1 : Int} {z2 : Int} {s : vS} {rv : Option vA} {σo : vS} {rec : Int → Int → vS → Option (vS)} {q : vS} (h : j_X13_writeTag_108 rec x4 x6 z1 z2 s = some q)  (rx4 : rg x4) (rx6 : rg x6) (rz1 : rg z1) (rz2 : rg z2) (hrec : ∀ (y6 : Int) (s : vS) (q : vS), rec x4 y6 s = some q → rg y6 → E_X13_writeTag_76 rv σo q → VW cX13_writeTag (RX13, rv, σo, none, 3, 70, 7, []) (P0 []) s 76 [(0, vO 54), (4, vI x4), (6, vI y6)] []) (hE : E_X13_writeTag_76 rv σo q) : VW cX13_writeTag (RX13, rv, σo, none, 3, 70, 7, []) (P0 []) s 108 [(0, vO 54), (4, vI x4), (6, vI x6)] [vI z2, vI z1, vO 77] := by
  unfold j_X13_writeTag_108 at h
  refine v_ior dX13_writeTag_108 ?_
  obtain ⟨s1, e2, h⟩ := bdv_some h
  have k3 := c_X2_add e2 (⟨by decide, rfl⟩ : okB 77 1) (or32_rg _ _)
  refine v_callV (st := []) cf2 oc77 k3 (lw_V q2216 q1003 q1004 q299 q1005) rfl yk_X2_add ⟨Nat.le_of_ble_eq_true rfl, Nat.le_of_ble_eq_true rfl⟩ trivial ⟨kc54, trivial⟩ (Nat.le_of_ble_eq_true rfl) rfl dX13_writeTag_109 ?_
  obtain ⟨y4, e5, h⟩ := vl_some h
  refine v_iinc (L1 := [(6, vI (w32 (x6 + (-1)))), (0, vO 54), (4, vI x4)]) dX13_writeTag_112 2 rfl (by decide) rfl ?_
  rw [← e5]
  have r6 : rg y4 := by rw [e5]; exact w32_rg _
  refine v_goto (tgt := 76) dX13_writeTag_115 (by decide) ?_
  refine v_sub [1, 2, 0] (L1 := [(0, vO 54), (4, vI x4), (6, vI y4)]) rfl ?_
  exact hrec y4 s1 _ h r6 hE

def l_X13_writeTag_76 : Nat → Int → Int → vS → Option (vS)
  | 0, _, _, _ => none
  | n + 1, x4, x6, s =>
    if x6 < 0 then
      some s
    else
      if x6 ≤ 0 then
        j_X13_writeTag_108 (l_X13_writeTag_76 n) x4 x6 (and32 (shr32 x4 (w32 (7 * x6))) 127) 0 s
      else
        j_X13_writeTag_108 (l_X13_writeTag_76 n) x4 x6 (and32 (shr32 x4 (w32 (7 * x6))) 127) 128 s
theorem wl_X13_writeTag_76 {x4 : Int} {rv : Option vA} {σo : vS}  (rx4 : rg x4) : ∀ (n : Nat) (x6 : Int) (s : vS) (q : vS), l_X13_writeTag_76 n x4 x6 s = some q → rg x6 → E_X13_writeTag_76 rv σo q → VW cX13_writeTag (RX13, rv, σo, none, 3, 70, 7, []) (P0 []) s 76 [(0, vO 54), (4, vI x4), (6, vI x6)] [] := by
  intro n
  induction n with
  | zero => intro x6 s q h; cases h
  | succ n ih =>
    intro x6 s q h rx6 hE
    unfold l_X13_writeTag_76 at h
    refine v_iload dX13_writeTag_76 2 rfl ?_
    refine v_if_lt (tgt := 118) dX13_writeTag_78 rx6 (by decide) (fun c1 => ?_) (fun c1 => ?_)
    · rw [if_pos c1] at h
      cases h
      refine v_sub [] (L1 := []) rfl ?_
      exact hE _ rfl 
    · rw [if_neg c1] at h
      refine v_aload_n dX13_writeTag_81 0 rfl rfl ?_
      refine v_getS (f := 23) (t := 77) cf13 oc54 rfl rfl rfl (by decide) q793 dX13_writeTag_82 ?_
      refine v_iload dX13_writeTag_85 1 rfl ?_
      refine v_bipush dX13_writeTag_87 rfl ?_
      refine v_iload dX13_writeTag_89 2 rfl ?_
      refine v_imul dX13_writeTag_91 ?_
      refine v_ishr dX13_writeTag_92 ?_
      refine v_bipush dX13_writeTag_93 rfl ?_
      refine v_iand dX13_writeTag_95 ?_
      refine v_iload dX13_writeTag_96 2 rfl ?_
      refine v_if_le (tgt := 107) dX13_writeTag_98 rx6 (by decide) (fun c2 => ?_) (fun c2 => ?_)
      · rw [if_pos c2] at h
        refine v_iconst dX13_writeTag_107 ?_
        exact wj_X13_writeTag_108 h rx4 rx6 (and32_rg _ _) (rgl rfl) ih hE
      · rw [if_neg c2] at h
        refine v_sipush dX13_writeTag_101 rfl ?_
        refine v_goto (tgt := 108) dX13_writeTag_104 (by decide) ?_
        exact wj_X13_writeTag_108 h rx4 rx6 (and32_rg _ _) (rgl rfl) ih hE

def j_X13_writeTag_33 (x3 : Int) (x4 : Int) (z0 : Int) (z1 : Int) (s : vS) : Option (vS) :=
  vl (or32 z0 z1) fun y1 =>
  if 31 ≤ x4 then
    bdv (f_X2_add 77 (or32 y1 31) s) fun s5 =>
    bd (f_X13_tagBytes x3 s5) fun r11 s8 =>
    vl (w32 (r11 - 2)) fun y13 =>
    lq_0 (l_X13_writeTag_76 FU x4 y13 s8) fun s16 =>
    some s16
  else
    bdv (f_X2_add 77 (or32 y1 x4) s) fun s18 =>
    some s18
theorem wj_X13_writeTag_33 {x3 : Int} {x4 : Int} {z0 : Int} {z1 : Int} {s : vS} {out : vS} (h : j_X13_writeTag_33 x3 x4 z0 z1 s = some out)  (rx3 : rg x3) (rx4 : rg x4) (rz0 : rg z0) (rz1 : rg z1) : VW cX13_writeTag (RX13, none, out, none, 3, 70, 7, []) (P0 []) s 33 [(0, vO 54), (3, vI x3), (4, vI x4)] [vI z1, vI z0] := by
  unfold j_X13_writeTag_33 at h
  refine v_ior dX13_writeTag_33 ?_
  obtain ⟨y1, e2, h⟩ := vl_some h
  rw [← e2]
  have r3 : rg y1 := by rw [e2]; exact or32_rg _ _
  refine v_istore (L1 := [(5, vI y1), (0, vO 54), (3, vI x3), (4, vI x4)]) dX13_writeTag_34 (by decide) rfl ?_
  refine v_iload dX13_writeTag_36 3 rfl ?_
  refine v_bipush dX13_writeTag_38 rfl ?_
  refine v_icmp_ge (tgt := 56) dX13_writeTag_40 rx4 (rgl rfl) (by decide) (fun c4 => ?_) (fun c4 => ?_)
  · rw [if_pos c4] at h
    refine v_aload_n dX13_writeTag_56 1 rfl rfl ?_
    refine v_getS (f := 23) (t := 77) cf13 oc54 rfl rfl rfl (by decide) q793 dX13_writeTag_57 ?_
    refine v_iload dX13_writeTag_60 0 rfl ?_
    refine v_bipush dX13_writeTag_62 rfl ?_
    refine v_ior dX13_writeTag_64 ?_
    obtain ⟨s5, e6, h⟩ := bdv_some h
    have k7 := c_X2_add e6 (⟨by decide, rfl⟩ : okB 77 1) (or32_rg _ _)
    refine v_callV (st := []) cf2 oc77 k7 (lw_V q2216 q1003 q1004 q299 q1005) rfl yk_X2_add ⟨Nat.le_of_ble_eq_true rfl, Nat.le_of_ble_eq_true rfl⟩ trivial ⟨kc54, trivial⟩ (Nat.le_of_ble_eq_true rfl) rfl dX13_writeTag_65 ?_
    refine v_iload_n dX13_writeTag_68 2 rfl rfl ?_
    obtain ⟨r11, s8, e9, h⟩ := bd_some h
    have k10 := c_X13_tagBytes e9 rx3
    have r12 : rg r11 := k10.1.2.2
    refine v_callS (st := []) k10 (lw_S q2308 q2309 q310 q2310) yk_X13_tagBytes ⟨Nat.le_of_ble_eq_true rfl, Nat.le_of_ble_eq_true rfl⟩ trivial ⟨kc54, trivial⟩ (Nat.le_of_ble_eq_true rfl) rfl dX13_writeTag_69 ?_
    refine v_iconst dX13_writeTag_72 ?_
    refine v_isub dX13_writeTag_73 ?_
    obtain ⟨y13, e14, h⟩ := vl_some h
    rw [← e14]
    have r15 : rg y13 := by rw [e14]; exact w32_rg _
    refine v_istore (L1 := [(6, vI y13), (5, vI y1), (0, vO 54), (3, vI x3), (4, vI x4)]) dX13_writeTag_74 (by decide) rfl ?_
    refine v_sub [2, 4, 0] (L1 := [(0, vO 54), (4, vI x4), (6, vI y13)]) rfl ?_
    obtain ⟨s16, e17, h⟩ := lq_0_some h
    refine wl_X13_writeTag_76 rx4 FU y13 s8 _ e17 r15 ?_
    unfold E_X13_writeTag_76
    intro s16' z_
    cases z_
    cases h
    exact v_vret dX13_writeTag_118
  · rw [if_neg c4] at h
    refine v_aload_n dX13_writeTag_43 1 rfl rfl ?_
    refine v_getS (f := 23) (t := 77) cf13 oc54 rfl rfl rfl (by decide) q793 dX13_writeTag_44 ?_
    refine v_iload dX13_writeTag_47 0 rfl ?_
    refine v_iload dX13_writeTag_49 3 rfl ?_
    refine v_ior dX13_writeTag_51 ?_
    obtain ⟨s18, e19, h⟩ := bdv_some h
    have k20 := c_X2_add e19 (⟨by decide, rfl⟩ : okB 77 1) (or32_rg _ _)
    refine v_callV (st := []) cf2 oc77 k20 (lw_V q2216 q1003 q1004 q299 q1005) rfl yk_X2_add ⟨Nat.le_of_ble_eq_true rfl, Nat.le_of_ble_eq_true rfl⟩ trivial ⟨kc54, trivial⟩ (Nat.le_of_ble_eq_true rfl) rfl dX13_writeTag_52 ?_
    cases h
    exact v_vret dX13_writeTag_55

def f_X13_writeTag (x1 : Int) (x2 : Int) (s : vS) : Option (vS) :=
  gd (gR s 54 5 = 44) <|
  bd (f_X12_tag x1 s) fun r5 s2 =>
  vl (and32 r5 268435455) fun y7 =>
  if x2 = 0 then
    j_X13_writeTag_33 r5 y7 (shl32 (shr32 r5 28) 6) 0 s2
  else
    j_X13_writeTag_33 r5 y7 (shl32 (shr32 r5 28) 6) 32 s2
theorem yk_X13_writeTag : yOk yX13_writeTag 2 := ⟨by decide, by decide, by decide +kernel⟩
theorem c_X13_writeTag {x1 : Int} {x2 : Int} {s : vS} {out : vS} (h : f_X13_writeTag x1 x2 s = some out)  (rx1 : rg x1) (rx2 : rg x2) : VC yX13_writeTag cX13_writeTag 7 none 3 70 [vO 54, vI x1, vI x2] s none out [] := by
  unfold f_X13_writeTag at h
  refine VC.of RX13 (by decide) rfl (Nat.le_of_ble_eq_true rfl) ?_
  show VW cX13_writeTag (RX13, none, out, none, 3, 70, 7, []) (P0 []) s 0 [(0, vO 54), (1, vI x1), (2, vI x2)] []
  refine v_aload_n dX13_writeTag_0 0 rfl rfl ?_
  obtain ⟨g1, h⟩ := gd_some h
  refine v_getR (f := 5) cf13 oc54 rfl (by rw [g1]; decide) (by decide) q775 dX13_writeTag_1 ?_
  rw [g1]
  refine v_iload_n dX13_writeTag_4 1 rfl rfl ?_
  obtain ⟨r5, s2, e3, h⟩ := bd_some h
  have k4 := c_X12_tag e3 rx1
  have r6 : rg r5 := k4.1.2.2
  refine v_callV (st := []) cf12 oc44 k4 (lw_V q2145 q2146 q2147 q309 q2148) rfl yk_X12_tag ⟨Nat.le_of_ble_eq_true rfl, Nat.le_of_ble_eq_true rfl⟩ trivial ⟨kc54, trivial⟩ (Nat.le_of_ble_eq_true rfl) rfl dX13_writeTag_5 ?_
  refine v_istore_n (L1 := [(3, vI r5), (0, vO 54), (1, vI x1), (2, vI x2)]) dX13_writeTag_8 rfl (by decide) rfl ?_
  refine v_iload_n dX13_writeTag_9 0 rfl rfl ?_
  refine v_ldcw (n := 268435455) dX13_writeTag_10 q2311 rfl ?_
  refine v_iand dX13_writeTag_13 ?_
  obtain ⟨y7, e8, h⟩ := vl_some h
  rw [← e8]
  have r9 : rg y7 := by rw [e8]; exact and32_rg _ _
  refine v_istore (L1 := [(4, vI y7), (3, vI r5), (0, vO 54), (1, vI x1), (2, vI x2)]) dX13_writeTag_14 (by decide) rfl ?_
  refine v_iload_n dX13_writeTag_16 1 rfl rfl ?_
  refine v_bipush dX13_writeTag_17 rfl ?_
  refine v_ishr dX13_writeTag_19 ?_
  refine v_bipush dX13_writeTag_20 rfl ?_
  refine v_ishl dX13_writeTag_22 ?_
  refine v_iload_n dX13_writeTag_23 4 rfl rfl ?_
  refine v_if_eq (tgt := 32) dX13_writeTag_24 rx2 (by decide) (fun c10 => ?_) (fun c10 => ?_)
  · rw [if_pos c10] at h
    refine v_iconst dX13_writeTag_32 ?_
    refine v_sub [2, 1, 0] (L1 := [(0, vO 54), (3, vI r5), (4, vI y7)]) rfl ?_
    exact wj_X13_writeTag_33 h r6 r9 (shl32_rg _ _) (rgl rfl)
  · rw [if_neg c10] at h
    refine v_bipush dX13_writeTag_27 rfl ?_
    refine v_goto (tgt := 33) dX13_writeTag_29 (by decide) ?_
    refine v_sub [2, 1, 0] (L1 := [(0, vO 54), (3, vI r5), (4, vI y7)]) rfl ?_
    exact wj_X13_writeTag_33 h r6 r9 (shl32_rg _ _) (rgl rfl)

def E_X13_writeLength_31 (rv : Option vA) (σo : vS) (q : vS) : Prop := ∀ (s' : vS), q = s' → VW cX13_writeLength (RX13, rv, σo, none, 3, 70, 4, []) (P0 []) s' 58 [] []
def l_X13_writeLength_31 : Nat → Int → Int → vS → Option (vS)
  | 0, _, _, _ => none
  | n + 1, x1, x3, s =>
    if x3 < 0 then
      some s
    else
      bdv (f_X2_add 77 (and32 (shr32 x1 (w32 (8 * x3))) 255) s) fun s2 =>
      vl (w32 (x3 + (-1))) fun y5 =>
      l_X13_writeLength_31 n x1 y5 s2
theorem wl_X13_writeLength_31 {x1 : Int} {rv : Option vA} {σo : vS}  (rx1 : rg x1) : ∀ (n : Nat) (x3 : Int) (s : vS) (q : vS), l_X13_writeLength_31 n x1 x3 s = some q → rg x3 → E_X13_writeLength_31 rv σo q → VW cX13_writeLength (RX13, rv, σo, none, 3, 70, 4, []) (P0 []) s 31 [(0, vO 54), (1, vI x1), (3, vI x3)] [] := by
  intro n
  induction n with
  | zero => intro x3 s q h; cases h
  | succ n ih =>
    intro x3 s q h rx3 hE
    unfold l_X13_writeLength_31 at h
    refine v_iload_n dX13_writeLength_31 2 rfl rfl ?_
    refine v_if_lt (tgt := 58) dX13_writeLength_32 rx3 (by decide) (fun c1 => ?_) (fun c1 => ?_)
    · rw [if_pos c1] at h
      cases h
      refine v_sub [] (L1 := []) rfl ?_
      exact hE _ rfl 
    · rw [if_neg c1] at h
      refine v_aload_n dX13_writeLength_35 0 rfl rfl ?_
      refine v_getS (f := 23) (t := 77) cf13 oc54 rfl rfl rfl (by decide) q793 dX13_writeLength_36 ?_
      refine v_iload_n dX13_writeLength_39 1 rfl rfl ?_
      refine v_bipush dX13_writeLength_40 rfl ?_
      refine v_iload_n dX13_writeLength_42 2 rfl rfl ?_
      refine v_imul dX13_writeLength_43 ?_
      refine v_ishr dX13_writeLength_44 ?_
      refine v_sipush dX13_writeLength_45 rfl ?_
      refine v_iand dX13_writeLength_48 ?_
      obtain ⟨s2, e3, h⟩ := bdv_some h
      have k4 := c_X2_add e3 (⟨by decide, rfl⟩ : okB 77 1) (and32_rg _ _)
      refine v_callV (st := []) cf2 oc77 k4 (lw_V q2216 q1003 q1004 q299 q1005) rfl yk_X2_add ⟨Nat.le_of_ble_eq_true rfl, Nat.le_of_ble_eq_true rfl⟩ trivial ⟨kc54, trivial⟩ (Nat.le_of_ble_eq_true rfl) rfl dX13_writeLength_49 ?_
      obtain ⟨y5, e6, h⟩ := vl_some h
      refine v_iinc (L1 := [(3, vI (w32 (x3 + (-1)))), (0, vO 54), (1, vI x1)]) dX13_writeLength_52 2 rfl (by decide) rfl ?_
      rw [← e6]
      have r7 : rg y5 := by rw [e6]; exact w32_rg _
      refine v_goto (tgt := 31) dX13_writeLength_55 (by decide) ?_
      refine v_sub [1, 2, 0] (L1 := [(0, vO 54), (1, vI x1), (3, vI y5)]) rfl ?_
      exact ih y5 s2 _ h r7 hE

def j_X13_writeLength_24 (x1 : Int) (x2 : Int) (z1 : Int) (s : vS) : Option (vS) :=
  bdv (f_X2_add 77 z1 s) fun s1 =>
  vl (w32 (x2 - 1)) fun y4 =>
  lq_0 (l_X13_writeLength_31 FU x1 y4 s1) fun s7 =>
  some s7
theorem wj_X13_writeLength_24 {x1 : Int} {x2 : Int} {z1 : Int} {s : vS} {out : vS} (h : j_X13_writeLength_24 x1 x2 z1 s = some out)  (rx1 : rg x1) (rx2 : rg x2) (rz1 : rg z1) : VW cX13_writeLength (RX13, none, out, none, 3, 70, 4, []) (P0 []) s 24 [(0, vO 54), (1, vI x1), (2, vI x2)] [vI z1, vO 77] := by
  unfold j_X13_writeLength_24 at h
  obtain ⟨s1, e2, h⟩ := bdv_some h
  have k3 := c_X2_add e2 (⟨by decide, rfl⟩ : okB 77 1) rz1
  refine v_callV (st := []) cf2 oc77 k3 (lw_V q2216 q1003 q1004 q299 q1005) rfl yk_X2_add ⟨Nat.le_of_ble_eq_true rfl, Nat.le_of_ble_eq_true rfl⟩ trivial ⟨kc54, trivial⟩ (Nat.le_of_ble_eq_true rfl) rfl dX13_writeLength_24 ?_
  refine v_iload_n dX13_writeLength_27 2 rfl rfl ?_
  refine v_iconst dX13_writeLength_28 ?_
  refine v_isub dX13_writeLength_29 ?_
  obtain ⟨y4, e5, h⟩ := vl_some h
  rw [← e5]
  have r6 : rg y4 := by rw [e5]; exact w32_rg _
  refine v_istore_n (L1 := [(3, vI y4), (0, vO 54), (1, vI x1), (2, vI x2)]) dX13_writeLength_30 rfl (by decide) rfl ?_
  refine v_sub [1, 2, 0] (L1 := [(0, vO 54), (1, vI x1), (3, vI y4)]) rfl ?_
  obtain ⟨s7, e8, h⟩ := lq_0_some h
  refine wl_X13_writeLength_31 rx1 FU y4 s1 _ e8 r6 ?_
  unfold E_X13_writeLength_31
  intro s7' z_
  cases z_
  cases h
  exact v_vret dX13_writeLength_58

def f_X13_writeLength (x1 : Int) (s : vS) : Option (vS) :=
  bd (f_X13_lengthBytes x1 s) fun r4 s1 =>
  vl (w32 (r4 - 1)) fun y6 =>
  if y6 = 0 then
    j_X13_writeLength_24 x1 y6 x1 s1
  else
    j_X13_writeLength_24 x1 y6 (w32 (128 + y6)) s1
theorem yk_X13_writeLength : yOk yX13_writeLength 1 := ⟨by decide, by decide, by decide +kernel⟩
theorem c_X13_writeLength {x1 : Int} {s : vS} {out : vS} (h : f_X13_writeLength x1 s = some out)  (rx1 : rg x1) : VC yX13_writeLength cX13_writeLength 4 none 3 70 [vO 54, vI x1] s none out [] := by
  unfold f_X13_writeLength at h
  refine VC.of RX13 (by decide) rfl (Nat.le_of_ble_eq_true rfl) ?_
  show VW cX13_writeLength (RX13, none, out, none, 3, 70, 4, []) (P0 []) s 0 [(0, vO 54), (1, vI x1)] []
  refine v_iload_n dX13_writeLength_0 1 rfl rfl ?_
  obtain ⟨r4, s1, e2, h⟩ := bd_some h
  have k3 := c_X13_lengthBytes e2 rx1
  have r5 : rg r4 := k3.1.2.2
  refine v_callS (st := []) k3 (lw_S q2313 q2314 q310 q2315) yk_X13_lengthBytes ⟨Nat.le_of_ble_eq_true rfl, Nat.le_of_ble_eq_true rfl⟩ trivial ⟨kc54, trivial⟩ (Nat.le_of_ble_eq_true rfl) rfl dX13_writeLength_1 ?_
  refine v_iconst dX13_writeLength_4 ?_
  refine v_isub dX13_writeLength_5 ?_
  obtain ⟨y6, e7, h⟩ := vl_some h
  rw [← e7]
  have r8 : rg y6 := by rw [e7]; exact w32_rg _
  refine v_istore_n (L1 := [(2, vI y6), (0, vO 54), (1, vI x1)]) dX13_writeLength_6 rfl (by decide) rfl ?_
  refine v_aload_n dX13_writeLength_7 1 rfl rfl ?_
  refine v_getS (f := 23) (t := 77) cf13 oc54 rfl rfl rfl (by decide) q793 dX13_writeLength_8 ?_
  refine v_iload_n dX13_writeLength_11 0 rfl rfl ?_
  refine v_if_ne (tgt := 19) dX13_writeLength_12 r8 (by decide) (fun c9 => ?_) (fun c9 => ?_)
  · rw [if_neg c9] at h
    refine v_sipush dX13_writeLength_19 rfl ?_
    refine v_iload_n dX13_writeLength_22 0 rfl rfl ?_
    refine v_iadd dX13_writeLength_23 ?_
    refine v_sub [1, 2, 0] (L1 := [(0, vO 54), (1, vI x1), (2, vI y6)]) rfl ?_
    exact wj_X13_writeLength_24 h rx1 r8 (w32_rg _)
  · rw [if_pos c9] at h
    refine v_iload_n dX13_writeLength_15 2 rfl rfl ?_
    refine v_goto (tgt := 24) dX13_writeLength_16 (by decide) ?_
    refine v_sub [1, 2, 0] (L1 := [(0, vO 54), (1, vI x1), (2, vI y6)]) rfl ?_
    exact wj_X13_writeLength_24 h rx1 r8 rx1

def f_X13_isBefore (x1 : Int) (x2 : Int) (x3 : Int) (s : vS) : Option (Int × vS) :=
  if x3 = 0 then
    gd (inb x1 (gN s 80)) <|
    gd (inb (w32 (x1 + 1)) (gN s 80)) <|
    gd (inb x2 (gN s 80)) <|
    gd (inb (w32 (x2 + 1)) (gN s 80)) <|
    bd (f_X2_compare 77 (gE s 80 x1) (gE s 80 (w32 (x1 + 1))) 77 (gE s 80 x2) (gE s 80 (w32 (x2 + 1))) s) fun r9 s6 =>
    if 0 ≤ r9 then
      some (0, s6)
    else
      some (1, s6)
  else
    gd (gR s 54 5 = 44) <|
    gd (inb x1 (gN s 79)) <|
    bd (f_X12_tag (gE s 79 x1) s) fun r17 s14 =>
    gd (gR s14 54 5 = 44) <|
    gd (inb x2 (gN s14 79)) <|
    bd (f_X12_tag (gE s14 79 x2) s14) fun r24 s21 =>
    if r24 ≤ r17 then
      some (0, s21)
    else
      some (1, s21)
theorem yk_X13_isBefore : yOk yX13_isBefore 3 := ⟨by decide, by decide, by decide +kernel⟩
theorem c_X13_isBefore {x1 : Int} {x2 : Int} {x3 : Int} {s : vS} {out : Int × vS} (h : f_X13_isBefore x1 x2 x3 s = some out)  (rx1 : rg x1) (rx2 : rg x2) (rx3 : rg x3) : VC yX13_isBefore cX13_isBefore 4 (some .boolean) 2 49 [vO 54, vI x1, vI x2, vI x3] s (some (vI out.1)) out.2 [] := by
  unfold f_X13_isBefore at h
  refine VC.of RX13 (by decide) rfl (Nat.le_of_ble_eq_true rfl) ?_
  show VW cX13_isBefore (RX13, (some (vI out.1)), out.2, (some .boolean), 2, 49, 4, []) (P0 []) s 0 [(0, vO 54), (1, vI x1), (2, vI x2), (3, vI x3)] []
  refine v_iload_n dX13_isBefore_0 3 rfl rfl ?_
  refine v_if_eq (tgt := 39) dX13_isBefore_1 rx3 (by decide) (fun c1 => ?_) (fun c1 => ?_)
  · rw [if_pos c1] at h
    refine v_aload_n dX13_isBefore_39 0 rfl rfl ?_
    refine v_getS (f := 23) (t := 77) cf13 oc54 rfl rfl rfl (by decide) q793 dX13_isBefore_40 ?_
    refine v_aload_n dX13_isBefore_43 0 rfl rfl ?_
    refine v_getS (f := 25) (t := 80) cf13 oc54 rfl rfl rfl (by decide) q795 dX13_isBefore_44 ?_
    refine v_iload_n dX13_isBefore_47 1 rfl rfl ?_
    obtain ⟨g2, h⟩ := gd_some h
    refine v_iald oc80 rx1 g2.1 g2.2 dX13_isBefore_48 ?_
    refine v_aload_n dX13_isBefore_49 0 rfl rfl ?_
    refine v_getS (f := 25) (t := 80) cf13 oc54 rfl rfl rfl (by decide) q795 dX13_isBefore_50 ?_
    refine v_iload_n dX13_isBefore_53 1 rfl rfl ?_
    refine v_iconst dX13_isBefore_54 ?_
    refine v_iadd dX13_isBefore_55 ?_
    obtain ⟨g3, h⟩ := gd_some h
    refine v_iald oc80 (w32_rg _) g3.1 g3.2 dX13_isBefore_56 ?_
    refine v_aload_n dX13_isBefore_57 0 rfl rfl ?_
    refine v_getS (f := 23) (t := 77) cf13 oc54 rfl rfl rfl (by decide) q793 dX13_isBefore_58 ?_
    refine v_aload_n dX13_isBefore_61 0 rfl rfl ?_
    refine v_getS (f := 25) (t := 80) cf13 oc54 rfl rfl rfl (by decide) q795 dX13_isBefore_62 ?_
    refine v_iload_n dX13_isBefore_65 2 rfl rfl ?_
    obtain ⟨g4, h⟩ := gd_some h
    refine v_iald oc80 rx2 g4.1 g4.2 dX13_isBefore_66 ?_
    refine v_aload_n dX13_isBefore_67 0 rfl rfl ?_
    refine v_getS (f := 25) (t := 80) cf13 oc54 rfl rfl rfl (by decide) q795 dX13_isBefore_68 ?_
    refine v_iload_n dX13_isBefore_71 2 rfl rfl ?_
    refine v_iconst dX13_isBefore_72 ?_
    refine v_iadd dX13_isBefore_73 ?_
    obtain ⟨g5, h⟩ := gd_some h
    refine v_iald oc80 (w32_rg _) g5.1 g5.2 dX13_isBefore_74 ?_
    obtain ⟨r9, s6, e7, h⟩ := bd_some h
    have k8 := c_X2_compare e7 (⟨by decide, rfl⟩ : okB 77 1) (⟨by decide, rfl⟩ : okB 77 1) (gE_rg _ _ _) (gE_rg _ _ _) (gE_rg _ _ _) (gE_rg _ _ _)
    have r10 : rg r9 := k8.1.2.2
    refine v_callV (st := []) cf2 oc77 k8 (lw_V q2303 q1470 q1471 q299 q1472) rfl yk_X2_compare ⟨Nat.le_of_ble_eq_true rfl, Nat.le_of_ble_eq_true rfl⟩ trivial ⟨kc54, trivial⟩ (Nat.le_of_ble_eq_true rfl) rfl dX13_isBefore_75 ?_
    refine v_if_ge (tgt := 85) dX13_isBefore_78 r10 (by decide) (fun c11 => ?_) (fun c11 => ?_)
    · rw [if_pos c11] at h
      refine v_iconst dX13_isBefore_85 ?_
      cases h
      exact v_zret (Or.inl rfl) dX13_isBefore_86
    · rw [if_neg c11] at h
      refine v_iconst dX13_isBefore_81 ?_
      refine v_goto (tgt := 86) dX13_isBefore_82 (by decide) ?_
      cases h
      exact v_zret (Or.inr rfl) dX13_isBefore_86
  · rw [if_neg c1] at h
    refine v_aload_n dX13_isBefore_4 0 rfl rfl ?_
    obtain ⟨g12, h⟩ := gd_some h
    refine v_getR (f := 5) cf13 oc54 rfl (by rw [g12]; decide) (by decide) q775 dX13_isBefore_5 ?_
    rw [g12]
    refine v_aload_n dX13_isBefore_8 0 rfl rfl ?_
    refine v_getS (f := 24) (t := 79) cf13 oc54 rfl rfl rfl (by decide) q794 dX13_isBefore_9 ?_
    refine v_iload_n dX13_isBefore_12 1 rfl rfl ?_
    obtain ⟨g13, h⟩ := gd_some h
    refine v_iald oc79 rx1 g13.1 g13.2 dX13_isBefore_13 ?_
    obtain ⟨r17, s14, e15, h⟩ := bd_some h
    have k16 := c_X12_tag e15 (gE_rg _ _ _)
    have r18 : rg r17 := k16.1.2.2
    refine v_callV (st := []) cf12 oc44 k16 (lw_V q2145 q2146 q2147 q309 q2148) rfl yk_X12_tag ⟨Nat.le_of_ble_eq_true rfl, Nat.le_of_ble_eq_true rfl⟩ trivial ⟨kc54, trivial⟩ (Nat.le_of_ble_eq_true rfl) rfl dX13_isBefore_14 ?_
    refine v_aload_n dX13_isBefore_17 0 rfl rfl ?_
    obtain ⟨g19, h⟩ := gd_some h
    refine v_getR (f := 5) cf13 oc54 rfl (by rw [g19]; decide) (by decide) q775 dX13_isBefore_18 ?_
    rw [g19]
    refine v_aload_n dX13_isBefore_21 0 rfl rfl ?_
    refine v_getS (f := 24) (t := 79) cf13 oc54 rfl rfl rfl (by decide) q794 dX13_isBefore_22 ?_
    refine v_iload_n dX13_isBefore_25 2 rfl rfl ?_
    obtain ⟨g20, h⟩ := gd_some h
    refine v_iald oc79 rx2 g20.1 g20.2 dX13_isBefore_26 ?_
    obtain ⟨r24, s21, e22, h⟩ := bd_some h
    have k23 := c_X12_tag e22 (gE_rg _ _ _)
    have r25 : rg r24 := k23.1.2.2
    refine v_callV (st := [vI r17]) cf12 oc44 k23 (lw_V q2145 q2146 q2147 q309 q2148) rfl yk_X12_tag ⟨Nat.le_of_ble_eq_true rfl, Nat.le_of_ble_eq_true rfl⟩ trivial ⟨kc54, trivial⟩ (Nat.le_of_ble_eq_true rfl) rfl dX13_isBefore_27 ?_
    refine v_icmp_ge (tgt := 37) dX13_isBefore_30 r18 r25 (by decide) (fun c26 => ?_) (fun c26 => ?_)
    · rw [if_pos c26] at h
      refine v_iconst dX13_isBefore_37 ?_
      cases h
      exact v_zret (Or.inl rfl) dX13_isBefore_38
    · rw [if_neg c26] at h
      refine v_iconst dX13_isBefore_33 ?_
      refine v_goto (tgt := 38) dX13_isBefore_34 (by decide) ?_
      cases h
      exact v_zret (Or.inr rfl) dX13_isBefore_38

def E_X13_merge_9 (rv : Option vA) (σo : vS) (q : vS) : Prop := ∀ (s' : vS), q = s' → VW cX13_merge (RX13, rv, σo, none, 3, 72, 9, []) (P0 []) s' 106 [] []
def j_X13_merge_85 (rec : Int → Int → Int → Int → Int → Int → vS → Option (vS)) (x2 : Int) (x3 : Int) (x4 : Int) (x5 : Int) (x6 : Int) (x7 : Int) (x8 : Int) (z1 : Int) (z2 : Int) (s : vS) : Option (vS) :=
  gd (inb z1 (gN s 83)) <|
  stp (sE s 83 z1 z2) fun s2 =>
  if x8 = 0 then
    vl (w32 (x6 + 1)) fun y5 =>
    vl (w32 (x7 + 1)) fun y8 =>
    rec x2 x3 x4 x5 y5 y8 s2
  else
    vl (w32 (x5 + 1)) fun y11 =>
    vl (w32 (x7 + 1)) fun y14 =>
    rec x2 x3 x4 y11 x6 y14 s2
theorem wj_X13_merge_85 {x2 : Int} {x3 : Int} {x4 : Int} {x5 : Int} {x6 : Int} {x7 : Int} {x8 : Int} {z1 : Int} {z2 : Int} {s : vS} {rv : Option vA} {σo : vS} {rec : Int → Int → Int → Int → Int → Int → vS → Option (vS)} {q : vS} (h : j_X13_merge_85 rec x2 x3 x4 x5 x6 x7 x8 z1 z2 s = some q)  (rx2 : rg x2) (rx3 : rg x3) (rx4 : rg x4) (rx5 : rg x5) (rx6 : rg x6) (rx7 : rg x7) (rx8 : rg x8) (rz1 : rg z1) (rz2 : rg z2) (hrec : ∀ (y5 : Int) (y6 : Int) (y7 : Int) (s : vS) (q : vS), rec x2 x3 x4 y5 y6 y7 s = some q → rg y5 → rg y6 → rg y7 → E_X13_merge_9 rv σo q → VW cX13_merge (RX13, rv, σo, none, 3, 72, 9, []) (P0 []) s 9 [(0, vO 54), (2, vI x2), (3, vI x3), (4, vI x4), (5, vI y5), (6, vI y6), (7, vI y7)] []) (hE : E_X13_merge_9 rv σo q) : VW cX13_merge (RX13, rv, σo, none, 3, 72, 9, []) (P0 []) s 85 [(0, vO 54), (2, vI x2), (3, vI x3), (4, vI x4), (5, vI x5), (6, vI x6), (7, vI x7), (8, vI x8)] [vI z2, vI z1, vO 83] := by
  unfold j_X13_merge_85 at h
  obtain ⟨g1, h⟩ := gd_some h
  obtain ⟨s2, e3, h⟩ := stp_some h
  refine v_iast oc83 rz1 g1.1 g1.2 dX13_merge_85 ?_
  rw [← e3]
  refine v_iload dX13_merge_86 7 rfl ?_
  refine v_if_eq (tgt := 97) dX13_merge_88 rx8 (by decide) (fun c4 => ?_) (fun c4 => ?_)
  · rw [if_pos c4] at h
    obtain ⟨y5, e6, h⟩ := vl_some h
    refine v_iinc (L1 := [(6, vI (w32 (x6 + 1))), (0, vO 54), (2, vI x2), (3, vI x3), (4, vI x4), (5, vI x5), (7, vI x7), (8, vI x8)]) dX13_merge_97 5 rfl (by decide) rfl ?_
    rw [← e6]
    have r7 : rg y5 := by rw [e6]; exact w32_rg _
    obtain ⟨y8, e9, h⟩ := vl_some h
    refine v_iinc (L1 := [(7, vI (w32 (x7 + 1))), (6, vI y5), (0, vO 54), (2, vI x2), (3, vI x3), (4, vI x4), (5, vI x5), (8, vI x8)]) dX13_merge_100 6 rfl (by decide) rfl ?_
    rw [← e9]
    have r10 : rg y8 := by rw [e9]; exact w32_rg _
    refine v_goto (tgt := 9) dX13_merge_103 (by decide) ?_
    refine v_sub [2, 3, 4, 5, 6, 1, 0] (L1 := [(0, vO 54), (2, vI x2), (3, vI x3), (4, vI x4), (5, vI x5), (6, vI y5), (7, vI y8)]) rfl ?_
    exact hrec x5 y5 y8 s2 _ h rx5 r7 r10 hE
  · rw [if_neg c4] at h
    obtain ⟨y11, e12, h⟩ := vl_some h
    refine v_iinc (L1 := [(5, vI (w32 (x5 + 1))), (0, vO 54), (2, vI x2), (3, vI x3), (4, vI x4), (6, vI x6), (7, vI x7), (8, vI x8)]) dX13_merge_91 4 rfl (by decide) rfl ?_
    rw [← e12]
    have r13 : rg y11 := by rw [e12]; exact w32_rg _
    refine v_goto (tgt := 100) dX13_merge_94 (by decide) ?_
    obtain ⟨y14, e15, h⟩ := vl_some h
    refine v_iinc (L1 := [(7, vI (w32 (x7 + 1))), (5, vI y11), (0, vO 54), (2, vI x2), (3, vI x3), (4, vI x4), (6, vI x6), (8, vI x8)]) dX13_merge_100 6 rfl (by decide) rfl ?_
    rw [← e15]
    have r16 : rg y14 := by rw [e15]; exact w32_rg _
    refine v_goto (tgt := 9) dX13_merge_103 (by decide) ?_
    refine v_sub [2, 3, 4, 5, 1, 6, 0] (L1 := [(0, vO 54), (2, vI x2), (3, vI x3), (4, vI x4), (5, vI y11), (6, vI x6), (7, vI y14)]) rfl ?_
    exact hrec y11 x6 y14 s2 _ h r13 rx6 r16 hE

def j_X13_merge_55 (rec : Int → Int → Int → Int → Int → Int → vS → Option (vS)) (x2 : Int) (x3 : Int) (x4 : Int) (x5 : Int) (x6 : Int) (x7 : Int) (z0 : Int) (s : vS) : Option (vS) :=
  if z0 = 0 then
    gd (inb x6 (gN s 82)) <|
    j_X13_merge_85 rec x2 x3 x4 x5 x6 x7 z0 x7 (gE s 82 x6) s
  else
    gd (inb x5 (gN s 82)) <|
    j_X13_merge_85 rec x2 x3 x4 x5 x6 x7 z0 x7 (gE s 82 x5) s
theorem wj_X13_merge_55 {x2 : Int} {x3 : Int} {x4 : Int} {x5 : Int} {x6 : Int} {x7 : Int} {z0 : Int} {s : vS} {rv : Option vA} {σo : vS} {rec : Int → Int → Int → Int → Int → Int → vS → Option (vS)} {q : vS} (h : j_X13_merge_55 rec x2 x3 x4 x5 x6 x7 z0 s = some q)  (rx2 : rg x2) (rx3 : rg x3) (rx4 : rg x4) (rx5 : rg x5) (rx6 : rg x6) (rx7 : rg x7) (rz0 : rg z0) (hrec : ∀ (y5 : Int) (y6 : Int) (y7 : Int) (s : vS) (q : vS), rec x2 x3 x4 y5 y6 y7 s = some q → rg y5 → rg y6 → rg y7 → E_X13_merge_9 rv σo q → VW cX13_merge (RX13, rv, σo, none, 3, 72, 9, []) (P0 []) s 9 [(0, vO 54), (2, vI x2), (3, vI x3), (4, vI x4), (5, vI y5), (6, vI y6), (7, vI y7)] []) (hE : E_X13_merge_9 rv σo q) : VW cX13_merge (RX13, rv, σo, none, 3, 72, 9, []) (P0 []) s 55 [(0, vO 54), (2, vI x2), (3, vI x3), (4, vI x4), (5, vI x5), (6, vI x6), (7, vI x7)] [vI z0] := by
  unfold j_X13_merge_55 at h
  refine v_istore (L1 := [(8, vI z0), (0, vO 54), (2, vI x2), (3, vI x3), (4, vI x4), (5, vI x5), (6, vI x6), (7, vI x7)]) dX13_merge_55 (by decide) rfl ?_
  refine v_aload_n dX13_merge_57 1 rfl rfl ?_
  refine v_getS (f := 29) (t := 83) cf13 oc54 rfl rfl rfl (by decide) q799 dX13_merge_58 ?_
  refine v_iload dX13_merge_61 7 rfl ?_
  refine v_iload dX13_merge_63 0 rfl ?_
  refine v_if_eq (tgt := 78) dX13_merge_65 rz0 (by decide) (fun c1 => ?_) (fun c1 => ?_)
  · rw [if_pos c1] at h
    refine v_aload_n dX13_merge_78 1 rfl rfl ?_
    refine v_getS (f := 28) (t := 82) cf13 oc54 rfl rfl rfl (by decide) q798 dX13_merge_79 ?_
    refine v_iload dX13_merge_82 6 rfl ?_
    obtain ⟨g2, h⟩ := gd_some h
    refine v_iald oc82 rx6 g2.1 g2.2 dX13_merge_84 ?_
    refine v_sub [1, 2, 3, 4, 5, 6, 7, 0] (L1 := [(0, vO 54), (2, vI x2), (3, vI x3), (4, vI x4), (5, vI x5), (6, vI x6), (7, vI x7), (8, vI z0)]) rfl ?_
    exact wj_X13_merge_85 h rx2 rx3 rx4 rx5 rx6 rx7 rz0 rx7 (gE_rg _ _ _) hrec hE
  · rw [if_neg c1] at h
    refine v_aload_n dX13_merge_68 1 rfl rfl ?_
    refine v_getS (f := 28) (t := 82) cf13 oc54 rfl rfl rfl (by decide) q798 dX13_merge_69 ?_
    refine v_iload dX13_merge_72 5 rfl ?_
    obtain ⟨g3, h⟩ := gd_some h
    refine v_iald oc82 rx5 g3.1 g3.2 dX13_merge_74 ?_
    refine v_goto (tgt := 85) dX13_merge_75 (by decide) ?_
    refine v_sub [1, 2, 3, 4, 5, 6, 7, 0] (L1 := [(0, vO 54), (2, vI x2), (3, vI x3), (4, vI x4), (5, vI x5), (6, vI x6), (7, vI x7), (8, vI z0)]) rfl ?_
    exact wj_X13_merge_85 h rx2 rx3 rx4 rx5 rx6 rx7 rz0 rx7 (gE_rg _ _ _) hrec hE

def l_X13_merge_9 : Nat → Int → Int → Int → Int → Int → Int → vS → Option (vS)
  | 0, _, _, _, _, _, _, _ => none
  | n + 1, x2, x3, x4, x5, x6, x7, s =>
    if x3 ≤ x7 then
      some s
    else
      if x6 = x3 then
        j_X13_merge_55 (l_X13_merge_9 n) x2 x3 x4 x5 x6 x7 1 s
      else
        if x2 ≤ x5 then
          j_X13_merge_55 (l_X13_merge_9 n) x2 x3 x4 x5 x6 x7 0 s
        else
          gd (inb x6 (gN s 82)) <|
          gd (inb x5 (gN s 82)) <|
          bd (f_X13_isBefore (gE s 82 x6) (gE s 82 x5) x4 s) fun r9 s6 =>
          if r9 = 0 then
            j_X13_merge_55 (l_X13_merge_9 n) x2 x3 x4 x5 x6 x7 1 s6
          else
            j_X13_merge_55 (l_X13_merge_9 n) x2 x3 x4 x5 x6 x7 0 s6
theorem wl_X13_merge_9 {x2 : Int} {x3 : Int} {x4 : Int} {rv : Option vA} {σo : vS}  (rx2 : rg x2) (rx3 : rg x3) (rx4 : rg x4) : ∀ (n : Nat) (x5 : Int) (x6 : Int) (x7 : Int) (s : vS) (q : vS), l_X13_merge_9 n x2 x3 x4 x5 x6 x7 s = some q → rg x5 → rg x6 → rg x7 → E_X13_merge_9 rv σo q → VW cX13_merge (RX13, rv, σo, none, 3, 72, 9, []) (P0 []) s 9 [(0, vO 54), (2, vI x2), (3, vI x3), (4, vI x4), (5, vI x5), (6, vI x6), (7, vI x7)] [] := by
  intro n
  induction n with
  | zero => intro x5 x6 x7 s q h; cases h
  | succ n ih =>
    intro x5 x6 x7 s q h rx5 rx6 rx7 hE
    unfold l_X13_merge_9 at h
    refine v_iload dX13_merge_9 6 rfl ?_
    refine v_iload_n dX13_merge_11 2 rfl rfl ?_
    refine v_icmp_ge (tgt := 106) dX13_merge_12 rx7 rx3 (by decide) (fun c1 => ?_) (fun c1 => ?_)
    · rw [if_pos c1] at h
      cases h
      refine v_sub [] (L1 := []) rfl ?_
      exact hE _ rfl 
    · rw [if_neg c1] at h
      refine v_iload dX13_merge_15 5 rfl ?_
      refine v_iload_n dX13_merge_17 2 rfl rfl ?_
      refine v_icmp_eq (tgt := 50) dX13_merge_18 rx6 rx3 (by decide) (fun c2 => ?_) (fun c2 => ?_)
      · rw [if_pos c2] at h
        refine v_iconst dX13_merge_50 ?_
        refine v_goto (tgt := 55) dX13_merge_51 (by decide) ?_
        exact wj_X13_merge_55 h rx2 rx3 rx4 rx5 rx6 rx7 (rgl rfl) ih hE
      · rw [if_neg c2] at h
        refine v_iload dX13_merge_21 4 rfl ?_
        refine v_iload_n dX13_merge_23 1 rfl rfl ?_
        refine v_icmp_ge (tgt := 54) dX13_merge_24 rx5 rx2 (by decide) (fun c3 => ?_) (fun c3 => ?_)
        · rw [if_pos c3] at h
          refine v_iconst dX13_merge_54 ?_
          exact wj_X13_merge_55 h rx2 rx3 rx4 rx5 rx6 rx7 (rgl rfl) ih hE
        · rw [if_neg c3] at h
          refine v_aload_n dX13_merge_27 0 rfl rfl ?_
          refine v_aload_n dX13_merge_28 0 rfl rfl ?_
          refine v_getS (f := 28) (t := 82) cf13 oc54 rfl rfl rfl (by decide) q798 dX13_merge_29 ?_
          refine v_iload dX13_merge_32 5 rfl ?_
          obtain ⟨g4, h⟩ := gd_some h
          refine v_iald oc82 rx6 g4.1 g4.2 dX13_merge_34 ?_
          refine v_aload_n dX13_merge_35 0 rfl rfl ?_
          refine v_getS (f := 28) (t := 82) cf13 oc54 rfl rfl rfl (by decide) q798 dX13_merge_36 ?_
          refine v_iload dX13_merge_39 4 rfl ?_
          obtain ⟨g5, h⟩ := gd_some h
          refine v_iald oc82 rx5 g5.1 g5.2 dX13_merge_41 ?_
          refine v_iload dX13_merge_42 3 rfl ?_
          obtain ⟨r9, s6, e7, h⟩ := bd_some h
          have k8 := c_X13_isBefore e7 (gE_rg _ _ _) (gE_rg _ _ _) rx4
          have r10 : rg r9 := k8.1.2.2
          refine v_callV (st := []) cf13 oc54 k8 (lw_V q2339 q2341 qs154 q310 q2342) rfl yk_X13_isBefore ⟨Nat.le_of_ble_eq_true rfl, Nat.le_of_ble_eq_true rfl⟩ trivial ⟨kc54, trivial⟩ (Nat.le_of_ble_eq_true rfl) rfl dX13_merge_44 ?_
          refine v_if_ne (tgt := 54) dX13_merge_47 r10 (by decide) (fun c11 => ?_) (fun c11 => ?_)
          · rw [if_neg c11] at h
            refine v_iconst dX13_merge_54 ?_
            exact wj_X13_merge_55 h rx2 rx3 rx4 rx5 rx6 rx7 (rgl rfl) ih hE
          · rw [if_pos c11] at h
            refine v_iconst dX13_merge_50 ?_
            refine v_goto (tgt := 55) dX13_merge_51 (by decide) ?_
            exact wj_X13_merge_55 h rx2 rx3 rx4 rx5 rx6 rx7 (rgl rfl) ih hE

def f_X13_merge (x1 : Int) (x2 : Int) (x3 : Int) (x4 : Int) (s : vS) : Option (vS) :=
  lq_0 (l_X13_merge_9 FU x2 x3 x4 x1 x2 x1 s) fun s1 =>
  some s1
theorem yk_X13_merge : yOk yX13_merge 4 := ⟨by decide, by decide, by decide +kernel⟩
theorem c_X13_merge {x1 : Int} {x2 : Int} {x3 : Int} {x4 : Int} {s : vS} {out : vS} (h : f_X13_merge x1 x2 x3 x4 s = some out)  (rx1 : rg x1) (rx2 : rg x2) (rx3 : rg x3) (rx4 : rg x4) : VC yX13_merge cX13_merge 9 none 3 72 [vO 54, vI x1, vI x2, vI x3, vI x4] s none out [] := by
  unfold f_X13_merge at h
  refine VC.of RX13 (by decide) rfl (Nat.le_of_ble_eq_true rfl) ?_
  show VW cX13_merge (RX13, none, out, none, 3, 72, 9, []) (P0 []) s 0 [(0, vO 54), (1, vI x1), (2, vI x2), (3, vI x3), (4, vI x4)] []
  refine v_iload_n dX13_merge_0 1 rfl rfl ?_
  refine v_istore (L1 := [(5, vI x1), (0, vO 54), (1, vI x1), (2, vI x2), (3, vI x3), (4, vI x4)]) dX13_merge_1 (by decide) rfl ?_
  refine v_iload_n dX13_merge_3 3 rfl rfl ?_
  refine v_istore (L1 := [(6, vI x2), (5, vI x1), (0, vO 54), (1, vI x1), (2, vI x2), (3, vI x3), (4, vI x4)]) dX13_merge_4 (by decide) rfl ?_
  refine v_iload_n dX13_merge_6 3 rfl rfl ?_
  refine v_istore (L1 := [(7, vI x1), (6, vI x2), (5, vI x1), (0, vO 54), (1, vI x1), (2, vI x2), (3, vI x3), (4, vI x4)]) dX13_merge_7 (by decide) rfl ?_
  refine v_sub [3, 5, 6, 7, 2, 1, 0] (L1 := [(0, vO 54), (2, vI x2), (3, vI x3), (4, vI x4), (5, vI x1), (6, vI x2), (7, vI x1)]) rfl ?_
  obtain ⟨s1, e2, h⟩ := lq_0_some h
  refine wl_X13_merge_9 rx2 rx3 rx4 FU x1 x2 x1 s _ e2 rx1 rx2 rx1 ?_
  unfold E_X13_merge_9
  intro s1' z_
  cases z_
  cases h
  exact v_vret dX13_merge_106

def E_X13_sort_34 (x1 : Int) (x3 : Int) (x4 : Int) (rv : Option vA) (σo : vS) (q : vS) : Prop := ∀ (s' : vS), q = s' → VW cX13_sort (RX13, rv, σo, none, 4, 100, 7, []) (P0 []) s' 58 [(0, vO 54), (1, vI x1), (3, vI x3), (4, vI x4)] []
def l_X13_sort_34 : Nat → Int → Int → Int → Int → vS → Option (vS)
  | 0, _, _, _, _, _ => none
  | n + 1, x1, x3, x4, x5, s =>
    if x4 ≤ x5 then
      some s
    else
      gd (inb x5 (gN s 82)) <|
      stp (sE s 82 x5 (w32 (x1 + x5))) fun s3 =>
      vl (w32 (x5 + 1)) fun y5 =>
      l_X13_sort_34 n x1 x3 x4 y5 s3
theorem wl_X13_sort_34 {x1 : Int} {x3 : Int} {x4 : Int} {rv : Option vA} {σo : vS}  (rx1 : rg x1) (rx3 : rg x3) (rx4 : rg x4) : ∀ (n : Nat) (x5 : Int) (s : vS) (q : vS), l_X13_sort_34 n x1 x3 x4 x5 s = some q → rg x5 → E_X13_sort_34 x1 x3 x4 rv σo q → VW cX13_sort (RX13, rv, σo, none, 4, 100, 7, []) (P0 []) s 34 [(0, vO 54), (1, vI x1), (3, vI x3), (4, vI x4), (5, vI x5)] [] := by
  intro n
  induction n with
  | zero => intro x5 s q h; cases h
  | succ n ih =>
    intro x5 s q h rx5 hE
    unfold l_X13_sort_34 at h
    refine v_iload dX13_sort_34 4 rfl ?_
    refine v_iload dX13_sort_36 3 rfl ?_
    refine v_icmp_ge (tgt := 58) dX13_sort_38 rx5 rx4 (by decide) (fun c1 => ?_) (fun c1 => ?_)
    · rw [if_pos c1] at h
      cases h
      refine v_sub [0, 1, 2, 3] (L1 := [(0, vO 54), (1, vI x1), (3, vI x3), (4, vI x4)]) rfl ?_
      exact hE _ rfl 
    · rw [if_neg c1] at h
      refine v_aload_n dX13_sort_41 0 rfl rfl ?_
      refine v_getS (f := 28) (t := 82) cf13 oc54 rfl rfl rfl (by decide) q798 dX13_sort_42 ?_
      refine v_iload dX13_sort_45 4 rfl ?_
      refine v_iload_n dX13_sort_47 1 rfl rfl ?_
      refine v_iload dX13_sort_48 4 rfl ?_
      refine v_iadd dX13_sort_50 ?_
      obtain ⟨g2, h⟩ := gd_some h
      obtain ⟨s3, e4, h⟩ := stp_some h
      refine v_iast oc82 rx5 g2.1 g2.2 dX13_sort_51 ?_
      rw [← e4]
      obtain ⟨y5, e6, h⟩ := vl_some h
      refine v_iinc (L1 := [(5, vI (w32 (x5 + 1))), (0, vO 54), (1, vI x1), (3, vI x3), (4, vI x4)]) dX13_sort_52 4 rfl (by decide) rfl ?_
      rw [← e6]
      have r7 : rg y5 := by rw [e6]; exact w32_rg _
      refine v_goto (tgt := 34) dX13_sort_55 (by decide) ?_
      refine v_sub [1, 2, 3, 4, 0] (L1 := [(0, vO 54), (1, vI x1), (3, vI x3), (4, vI x4), (5, vI y5)]) rfl ?_
      exact ih y5 s3 _ h r7 hE

def E_X13_sort_61 (x1 : Int) (x3 : Int) (x4 : Int) (rv : Option vA) (σo : vS) (q : vS) : Prop := ∀ (s' : vS), q = s' → VW cX13_sort (RX13, rv, σo, none, 4, 100, 7, []) (P0 []) s' 148 [(0, vO 54), (1, vI x1), (3, vI x3), (4, vI x4)] []
def E_X13_sort_71 (x1 : Int) (x3 : Int) (x4 : Int) (x5 : Int) (rv : Option vA) (σo : vS) (q : vS) : Prop := ∀ (s' : vS), q = s' → VW cX13_sort (RX13, rv, σo, none, 4, 100, 7, []) (P0 []) s' 119 [(0, vO 54), (1, vI x1), (3, vI x3), (4, vI x4), (5, vI x5)] []
def l_X13_sort_71 : Nat → Int → Int → Int → Int → Int → vS → Option (vS)
  | 0, _, _, _, _, _, _ => none
  | n + 1, x1, x3, x4, x5, x6, s =>
    if x4 ≤ x6 then
      some s
    else
      bdv (f_X13_merge x6 (min x4 (w32 (x6 + x5))) (min x4 (w32 (x6 + (w32 (2 * x5))))) x3 s) fun s2 =>
      vl (w32 (x6 + (w32 (2 * x5)))) fun y5 =>
      l_X13_sort_71 n x1 x3 x4 x5 y5 s2
theorem wl_X13_sort_71 {x1 : Int} {x3 : Int} {x4 : Int} {x5 : Int} {rv : Option vA} {σo : vS}  (rx1 : rg x1) (rx3 : rg x3) (rx4 : rg x4) (rx5 : rg x5) : ∀ (n : Nat) (x6 : Int) (s : vS) (q : vS), l_X13_sort_71 n x1 x3 x4 x5 x6 s = some q → rg x6 → E_X13_sort_71 x1 x3 x4 x5 rv σo q → VW cX13_sort (RX13, rv, σo, none, 4, 100, 7, []) (P0 []) s 71 [(0, vO 54), (1, vI x1), (3, vI x3), (4, vI x4), (5, vI x5), (6, vI x6)] [] := by
  intro n
  induction n with
  | zero => intro x6 s q h; cases h
  | succ n ih =>
    intro x6 s q h rx6 hE
    unfold l_X13_sort_71 at h
    refine v_iload dX13_sort_71 5 rfl ?_
    refine v_iload dX13_sort_73 3 rfl ?_
    refine v_icmp_ge (tgt := 119) dX13_sort_75 rx6 rx4 (by decide) (fun c1 => ?_) (fun c1 => ?_)
    · rw [if_pos c1] at h
      cases h
      refine v_sub [0, 1, 2, 3, 4] (L1 := [(0, vO 54), (1, vI x1), (3, vI x3), (4, vI x4), (5, vI x5)]) rfl ?_
      exact hE _ rfl 
    · rw [if_neg c1] at h
      refine v_aload_n dX13_sort_78 0 rfl rfl ?_
      refine v_iload dX13_sort_79 5 rfl ?_
      refine v_iload dX13_sort_81 3 rfl ?_
      refine v_iload dX13_sort_83 5 rfl ?_
      refine v_iload dX13_sort_85 4 rfl ?_
      refine v_iadd dX13_sort_87 ?_
      refine v_min rx4 (w32_rg _) (Nat.le_of_ble_eq_true rfl) (Nat.le_of_ble_eq_true rfl) q2334 dX13_sort_88 ?_
      refine v_iload dX13_sort_91 3 rfl ?_
      refine v_iload dX13_sort_93 5 rfl ?_
      refine v_iconst dX13_sort_95 ?_
      refine v_iload dX13_sort_96 4 rfl ?_
      refine v_imul dX13_sort_98 ?_
      refine v_iadd dX13_sort_99 ?_
      refine v_min rx4 (w32_rg _) (Nat.le_of_ble_eq_true rfl) (Nat.le_of_ble_eq_true rfl) q2334 dX13_sort_100 ?_
      refine v_iload_n dX13_sort_103 2 rfl rfl ?_
      obtain ⟨s2, e3, h⟩ := bdv_some h
      have k4 := c_X13_merge e3 rx6 (min_rg rx4 (w32_rg _)) (min_rg rx4 (w32_rg _)) rx3
      refine v_callV (st := []) cf13 oc54 k4 (lw_V q2335 q2337 qs153 q310 q2338) rfl yk_X13_merge ⟨Nat.le_of_ble_eq_true rfl, Nat.le_of_ble_eq_true rfl⟩ trivial ⟨kc54, trivial⟩ (Nat.le_of_ble_eq_true rfl) rfl dX13_sort_104 ?_
      refine v_iload dX13_sort_107 5 rfl ?_
      refine v_iconst dX13_sort_109 ?_
      refine v_iload dX13_sort_110 4 rfl ?_
      refine v_imul dX13_sort_112 ?_
      refine v_iadd dX13_sort_113 ?_
      obtain ⟨y5, e6, h⟩ := vl_some h
      rw [← e6]
      have r7 : rg y5 := by rw [e6]; exact w32_rg _
      refine v_istore (L1 := [(6, vI y5), (0, vO 54), (1, vI x1), (3, vI x3), (4, vI x4), (5, vI x5)]) dX13_sort_114 (by decide) rfl ?_
      refine v_goto (tgt := 71) dX13_sort_116 (by decide) ?_
      refine v_sub [1, 2, 3, 4, 5, 0] (L1 := [(0, vO 54), (1, vI x1), (3, vI x3), (4, vI x4), (5, vI x5), (6, vI y5)]) rfl ?_
      exact ih y5 s2 _ h r7 hE

def l_X13_sort_61 : Nat → Int → Int → Int → Int → vS → Option (vS)
  | 0, _, _, _, _, _ => none
  | n + 1, x1, x3, x4, x5, s =>
    if x4 ≤ x5 then
      some s
    else
      lq_0 (l_X13_sort_71 FU x1 x3 x4 x5 0 s) fun s2 =>
      stp (sw2 s2 82 83) fun s4 =>
      vl (w32 (x5 * 2)) fun y6 =>
      l_X13_sort_61 n x1 x3 x4 y6 s4
theorem wl_X13_sort_61 {x1 : Int} {x3 : Int} {x4 : Int} {rv : Option vA} {σo : vS}  (rx1 : rg x1) (rx3 : rg x3) (rx4 : rg x4) : ∀ (n : Nat) (x5 : Int) (s : vS) (q : vS), l_X13_sort_61 n x1 x3 x4 x5 s = some q → rg x5 → E_X13_sort_61 x1 x3 x4 rv σo q → VW cX13_sort (RX13, rv, σo, none, 4, 100, 7, []) (P0 []) s 61 [(0, vO 54), (1, vI x1), (3, vI x3), (4, vI x4), (5, vI x5)] [] := by
  intro n
  induction n with
  | zero => intro x5 s q h; cases h
  | succ n ih =>
    intro x5 s q h rx5 hE
    unfold l_X13_sort_61 at h
    refine v_iload dX13_sort_61 4 rfl ?_
    refine v_iload dX13_sort_63 3 rfl ?_
    refine v_icmp_ge (tgt := 148) dX13_sort_65 rx5 rx4 (by decide) (fun c1 => ?_) (fun c1 => ?_)
    · rw [if_pos c1] at h
      cases h
      refine v_sub [0, 1, 2, 3] (L1 := [(0, vO 54), (1, vI x1), (3, vI x3), (4, vI x4)]) rfl ?_
      exact hE _ rfl 
    · rw [if_neg c1] at h
      refine v_iconst dX13_sort_68 ?_
      refine v_istore (L1 := [(6, vI 0), (0, vO 54), (1, vI x1), (3, vI x3), (4, vI x4), (5, vI x5)]) dX13_sort_69 (by decide) rfl ?_
      refine v_sub [1, 2, 3, 4, 5, 0] (L1 := [(0, vO 54), (1, vI x1), (3, vI x3), (4, vI x4), (5, vI x5), (6, vI 0)]) rfl ?_
      obtain ⟨s2, e3, h⟩ := lq_0_some h
      refine wl_X13_sort_71 rx1 rx3 rx4 rx5 FU 0 s _ e3 (rgl rfl) ?_
      unfold E_X13_sort_71
      intro s2' z_
      cases z_
      refine v_aload_n dX13_sort_119 0 rfl rfl ?_
      refine v_getS (f := 28) (t := 82) cf13 oc54 rfl rfl rfl (by decide) q798 dX13_sort_120 ?_
      refine v_astore (L1 := [(6, vO 82), (0, vO 54), (1, vI x1), (3, vI x3), (4, vI x4), (5, vI x5)]) dX13_sort_123 (by decide) rfl ?_
      refine v_aload_n dX13_sort_125 1 rfl rfl ?_
      refine v_aload_n dX13_sort_126 1 rfl rfl ?_
      refine v_getS (f := 29) (t := 83) cf13 oc54 rfl rfl rfl (by decide) q799 dX13_sort_127 ?_
      obtain ⟨s4, e5, h⟩ := stp_some h
      refine v_exch (o := 54) (f0 := 28) (f1 := 29) (k0 := 1) (k6 := 0) (L1 := [(6, vO 83), (0, vO 54), (1, vI x1), (3, vI x3), (4, vI x4), (5, vI x5)]) cf13 (by decide) rfl rfl rfl (by decide) (by decide) (by decide) rfl rfl q798 q799 rfl rfl rfl rfl dX13_sort_130 dX13_sort_133 dX13_sort_134 dX13_sort_136 rfl rfl rfl rfl ?_
      rw [← e5]
      refine v_iload dX13_sort_139 5 rfl ?_
      refine v_iconst dX13_sort_141 ?_
      refine v_imul dX13_sort_142 ?_
      obtain ⟨y6, e7, h⟩ := vl_some h
      rw [← e7]
      have r8 : rg y6 := by rw [e7]; exact w32_rg _
      refine v_istore (L1 := [(5, vI y6), (6, vO 83), (0, vO 54), (1, vI x1), (3, vI x3), (4, vI x4)]) dX13_sort_143 (by decide) rfl ?_
      refine v_goto (tgt := 61) dX13_sort_145 (by decide) ?_
      refine v_sub [2, 3, 4, 5, 0] (L1 := [(0, vO 54), (1, vI x1), (3, vI x3), (4, vI x4), (5, vI y6)]) rfl ?_
      exact ih y6 s4 _ h r8 hE

def E_X13_sort_155 (x1 : Int) (x4 : Int) (rv : Option vA) (σo : vS) (q : vS) : Prop := ∀ (s' : vS), q = s' → VW cX13_sort (RX13, rv, σo, none, 4, 100, 7, []) (P0 []) s' 187 [(0, vO 54), (1, vI x1), (4, vI x4)] []
def l_X13_sort_155 : Nat → Int → Int → Int → vS → Option (vS)
  | 0, _, _, _, _ => none
  | n + 1, x1, x4, x5, s =>
    if x4 ≤ x5 then
      some s
    else
      gd (inb x5 (gN s 82)) <|
      gd (inb (gE s 82 x5) (gN s 79)) <|
      gd (inb x5 (gN s 83)) <|
      stp (sE s 83 x5 (gE s 79 (gE s 82 x5))) fun s5 =>
      vl (w32 (x5 + 1)) fun y7 =>
      l_X13_sort_155 n x1 x4 y7 s5
theorem wl_X13_sort_155 {x1 : Int} {x4 : Int} {rv : Option vA} {σo : vS}  (rx1 : rg x1) (rx4 : rg x4) : ∀ (n : Nat) (x5 : Int) (s : vS) (q : vS), l_X13_sort_155 n x1 x4 x5 s = some q → rg x5 → E_X13_sort_155 x1 x4 rv σo q → VW cX13_sort (RX13, rv, σo, none, 4, 100, 7, []) (P0 []) s 155 [(0, vO 54), (1, vI x1), (4, vI x4), (5, vI x5)] [] := by
  intro n
  induction n with
  | zero => intro x5 s q h; cases h
  | succ n ih =>
    intro x5 s q h rx5 hE
    unfold l_X13_sort_155 at h
    refine v_iload dX13_sort_155 3 rfl ?_
    refine v_iload dX13_sort_157 2 rfl ?_
    refine v_icmp_ge (tgt := 187) dX13_sort_159 rx5 rx4 (by decide) (fun c1 => ?_) (fun c1 => ?_)
    · rw [if_pos c1] at h
      cases h
      refine v_sub [0, 1, 2] (L1 := [(0, vO 54), (1, vI x1), (4, vI x4)]) rfl ?_
      exact hE _ rfl 
    · rw [if_neg c1] at h
      refine v_aload_n dX13_sort_162 0 rfl rfl ?_
      refine v_getS (f := 29) (t := 83) cf13 oc54 rfl rfl rfl (by decide) q799 dX13_sort_163 ?_
      refine v_iload dX13_sort_166 3 rfl ?_
      refine v_aload_n dX13_sort_168 0 rfl rfl ?_
      refine v_getS (f := 24) (t := 79) cf13 oc54 rfl rfl rfl (by decide) q794 dX13_sort_169 ?_
      refine v_aload_n dX13_sort_172 0 rfl rfl ?_
      refine v_getS (f := 28) (t := 82) cf13 oc54 rfl rfl rfl (by decide) q798 dX13_sort_173 ?_
      refine v_iload dX13_sort_176 3 rfl ?_
      obtain ⟨g2, h⟩ := gd_some h
      refine v_iald oc82 rx5 g2.1 g2.2 dX13_sort_178 ?_
      obtain ⟨g3, h⟩ := gd_some h
      refine v_iald oc79 (gE_rg _ _ _) g3.1 g3.2 dX13_sort_179 ?_
      obtain ⟨g4, h⟩ := gd_some h
      obtain ⟨s5, e6, h⟩ := stp_some h
      refine v_iast oc83 rx5 g4.1 g4.2 dX13_sort_180 ?_
      rw [← e6]
      obtain ⟨y7, e8, h⟩ := vl_some h
      refine v_iinc (L1 := [(5, vI (w32 (x5 + 1))), (0, vO 54), (1, vI x1), (4, vI x4)]) dX13_sort_181 3 rfl (by decide) rfl ?_
      rw [← e8]
      have r9 : rg y7 := by rw [e8]; exact w32_rg _
      refine v_goto (tgt := 155) dX13_sort_184 (by decide) ?_
      refine v_sub [1, 2, 3, 0] (L1 := [(0, vO 54), (1, vI x1), (4, vI x4), (5, vI y7)]) rfl ?_
      exact ih y7 s5 _ h r9 hE

def f_X13_sort (x1 : Int) (x2 : Int) (x3 : Int) (s : vS) : Option (vS) :=
  vl (w32 (x2 - x1)) fun y1 =>
  bd (f_X13_grown 82 y1 s) fun r7 s8 =>
  gd (r7 = 0 ∨ (2 * gN s8 82 ≤ gN s8 199 ∧ 2 ≤ gN s8 199)) <|
  stp (grw s8 82 r7) fun s12 =>
  bd (f_X13_grown 83 y1 s12) fun r17 s18 =>
  gd (r17 = 0 ∨ (2 * gN s18 83 ≤ gN s18 199 ∧ 2 ≤ gN s18 199)) <|
  stp (grw s18 83 r17) fun s22 =>
  lq_0 (l_X13_sort_34 FU x1 x3 y1 0 s22) fun s24 =>
  lq_0 (l_X13_sort_61 FU x1 x3 y1 1 s24) fun s26 =>
  if x3 = 0 then
    some s26
  else
    lq_0 (l_X13_sort_155 FU x1 y1 0 s26) fun s29 =>
    gd (cpG 0 x1 y1 (gN s29 83) (gN s29 79)) <|
    stp (cpA s29 83 79 0 x1 y1) fun s32 =>
    some s32
theorem yk_X13_sort : yOk yX13_sort 3 := ⟨by decide, by decide, by decide +kernel⟩
theorem c_X13_sort {x1 : Int} {x2 : Int} {x3 : Int} {s : vS} {out : vS} (h : f_X13_sort x1 x2 x3 s = some out)  (rx1 : rg x1) (rx2 : rg x2) (rx3 : rg x3) : VC yX13_sort cX13_sort 7 none 4 100 [vO 54, vI x1, vI x2, vI x3] s none out [] := by
  unfold f_X13_sort at h
  refine VC.of RX13 (by decide) rfl (Nat.le_of_ble_eq_true rfl) ?_
  show VW cX13_sort (RX13, none, out, none, 4, 100, 7, []) (P0 []) s 0 [(0, vO 54), (1, vI x1), (2, vI x2), (3, vI x3)] []
  refine v_iload_n dX13_sort_0 2 rfl rfl ?_
  refine v_iload_n dX13_sort_1 1 rfl rfl ?_
  refine v_isub dX13_sort_2 ?_
  obtain ⟨y1, e2, h⟩ := vl_some h
  rw [← e2]
  have r3 : rg y1 := by rw [e2]; exact w32_rg _
  refine v_istore (L1 := [(4, vI y1), (0, vO 54), (1, vI x1), (2, vI x2), (3, vI x3)]) dX13_sort_3 (by decide) rfl ?_
  refine v_aload_n dX13_sort_5 1 rfl rfl ?_
  refine v_aload_n dX13_sort_6 1 rfl rfl ?_
  refine v_getS (f := 28) (t := 82) cf13 oc54 rfl rfl rfl (by decide) q798 dX13_sort_7 ?_
  refine v_iload dX13_sort_10 0 rfl ?_
  obtain ⟨r7, s8, e9, h⟩ := bd_some h
  have k10 := c_X13_grown e9 (⟨by decide, rfl⟩ : okB 82 24) r3
  obtain ⟨g11, h⟩ := gd_some h
  obtain ⟨s12, e13, h⟩ := stp_some h
  refine v_regrow (f := 28) k10 (lw_S q2139 q2140 q310 q2141) yk_X13_grown ⟨Nat.le_of_ble_eq_true rfl, Nat.le_of_ble_eq_true rfl⟩ ⟨kc54, trivial⟩ ⟨kc54, trivial⟩ (Nat.le_of_ble_eq_true rfl) dX13_sort_12 cf13 (⟨by decide, rfl⟩ : okB 54 12) rfl (by decide) rfl rfl g11 q798 dX13_sort_15 rfl rfl rfl rfl ⟨(by decide), trivial⟩ trivial ?_
  rw [← e13]
  refine v_aload_n dX13_sort_18 1 rfl rfl ?_
  refine v_aload_n dX13_sort_19 1 rfl rfl ?_
  refine v_getS (f := 29) (t := 83) cf13 oc54 rfl rfl rfl (by decide) q799 dX13_sort_20 ?_
  refine v_iload dX13_sort_23 0 rfl ?_
  obtain ⟨r17, s18, e19, h⟩ := bd_some h
  have k20 := c_X13_grown e19 (⟨by decide, rfl⟩ : okB 83 24) r3
  obtain ⟨g21, h⟩ := gd_some h
  obtain ⟨s22, e23, h⟩ := stp_some h
  refine v_regrow (f := 29) k20 (lw_S q2139 q2140 q310 q2141) yk_X13_grown ⟨Nat.le_of_ble_eq_true rfl, Nat.le_of_ble_eq_true rfl⟩ ⟨kc54, trivial⟩ ⟨kc54, trivial⟩ (Nat.le_of_ble_eq_true rfl) dX13_sort_25 cf13 (⟨by decide, rfl⟩ : okB 54 12) rfl (by decide) rfl rfl g21 q799 dX13_sort_28 rfl rfl rfl rfl ⟨(by decide), trivial⟩ trivial ?_
  rw [← e23]
  refine v_iconst dX13_sort_31 ?_
  refine v_istore (L1 := [(5, vI 0), (4, vI y1), (0, vO 54), (1, vI x1), (2, vI x2), (3, vI x3)]) dX13_sort_32 (by decide) rfl ?_
  refine v_sub [2, 3, 5, 1, 0] (L1 := [(0, vO 54), (1, vI x1), (3, vI x3), (4, vI y1), (5, vI 0)]) rfl ?_
  obtain ⟨s24, e25, h⟩ := lq_0_some h
  refine wl_X13_sort_34 rx1 rx3 r3 FU 0 s22 _ e25 (rgl rfl) ?_
  unfold E_X13_sort_34
  intro s24' z_
  cases z_
  refine v_iconst dX13_sort_58 ?_
  refine v_istore (L1 := [(5, vI 1), (0, vO 54), (1, vI x1), (3, vI x3), (4, vI y1)]) dX13_sort_59 (by decide) rfl ?_
  refine v_sub [1, 2, 3, 4, 0] (L1 := [(0, vO 54), (1, vI x1), (3, vI x3), (4, vI y1), (5, vI 1)]) rfl ?_
  obtain ⟨s26, e27, h⟩ := lq_0_some h
  refine wl_X13_sort_61 rx1 rx3 r3 FU 1 s24 _ e27 (rgl rfl) ?_
  unfold E_X13_sort_61
  intro s26' z_
  cases z_
  refine v_iload_n dX13_sort_148 2 rfl rfl ?_
  refine v_if_eq (tgt := 202) dX13_sort_149 rx3 (by decide) (fun c28 => ?_) (fun c28 => ?_)
  · rw [if_pos c28] at h
    cases h
    exact v_vret dX13_sort_202
  · rw [if_neg c28] at h
    refine v_iconst dX13_sort_152 ?_
    refine v_istore (L1 := [(5, vI 0), (0, vO 54), (1, vI x1), (3, vI x3), (4, vI y1)]) dX13_sort_153 (by decide) rfl ?_
    refine v_sub [1, 2, 4, 0] (L1 := [(0, vO 54), (1, vI x1), (4, vI y1), (5, vI 0)]) rfl ?_
    obtain ⟨s29, e30, h⟩ := lq_0_some h
    refine wl_X13_sort_155 rx1 r3 FU 0 s26 _ e30 (rgl rfl) ?_
    unfold E_X13_sort_155
    intro s29' z_
    cases z_
    refine v_aload_n dX13_sort_187 0 rfl rfl ?_
    refine v_getS (f := 29) (t := 83) cf13 oc54 rfl rfl rfl (by decide) q799 dX13_sort_188 ?_
    refine v_iconst dX13_sort_191 ?_
    refine v_aload_n dX13_sort_192 0 rfl rfl ?_
    refine v_getS (f := 24) (t := 79) cf13 oc54 rfl rfl rfl (by decide) q794 dX13_sort_193 ?_
    refine v_iload_n dX13_sort_196 1 rfl rfl ?_
    refine v_iload dX13_sort_197 2 rfl ?_
    obtain ⟨g31, h⟩ := gd_some h
    obtain ⟨s32, e33, h⟩ := stp_some h
    refine v_cp (t := 24) (by decide) (by decide) oc83 oc79 (rgl rfl) rx1 r3 g31 (Nat.le_of_ble_eq_true rfl) (Nat.le_of_ble_eq_true rfl) q2143 dX13_sort_199 ?_
    rw [← e33]
    cases h
    exact v_vret dX13_sort_202

def E_X13_put_168 (x1 : Int) (rv : Option vA) (σo : vS) (q : vS) : Prop := ∀ (s' : vS), q = s' → VW cX13_put (RX13, rv, σo, none, 9, 203, 4, []) (P0 []) s' 256 [(0, vO 54), (1, vI x1)] []
def j_X13_put_244 (rec : Int → Int → vS → Option (vS)) (x1 : Int) (x3 : Int) (s : vS) : Option (vS) :=
  gd (gR s 54 5 = 44) <|
  bd (f_X12_behind x3 s) fun r5 s2 =>
  rec x1 r5 s2
theorem wj_X13_put_244 {x1 : Int} {x3 : Int} {s : vS} {rv : Option vA} {σo : vS} {rec : Int → Int → vS → Option (vS)} {q : vS} (h : j_X13_put_244 rec x1 x3 s = some q)  (rx1 : rg x1) (rx3 : rg x3) (hrec : ∀ (y3 : Int) (s : vS) (q : vS), rec x1 y3 s = some q → rg y3 → E_X13_put_168 x1 rv σo q → VW cX13_put (RX13, rv, σo, none, 9, 203, 4, []) (P0 []) s 168 [(0, vO 54), (1, vI x1), (3, vI y3)] []) (hE : E_X13_put_168 x1 rv σo q) : VW cX13_put (RX13, rv, σo, none, 9, 203, 4, []) (P0 []) s 244 [(0, vO 54), (1, vI x1), (3, vI x3)] [] := by
  unfold j_X13_put_244 at h
  refine v_aload_n dX13_put_244 0 rfl rfl ?_
  obtain ⟨g1, h⟩ := gd_some h
  refine v_getR (f := 5) cf13 oc54 rfl (by rw [g1]; decide) (by decide) q775 dX13_put_245 ?_
  rw [g1]
  refine v_iload_n dX13_put_248 2 rfl rfl ?_
  obtain ⟨r5, s2, e3, h⟩ := bd_some h
  have k4 := c_X12_behind e3 rx3
  have r6 : rg r5 := k4.1.2.2
  refine v_callV (st := []) cf12 oc44 k4 (lw_V q2222 q2223 q2224 q309 q2225) rfl yk_X12_behind ⟨Nat.le_of_ble_eq_true rfl, Nat.le_of_ble_eq_true rfl⟩ trivial ⟨kc54, trivial⟩ (Nat.le_of_ble_eq_true rfl) rfl dX13_put_249 ?_
  refine v_istore_n (L1 := [(3, vI r5), (0, vO 54), (1, vI x1)]) dX13_put_252 rfl (by decide) rfl ?_
  refine v_goto (tgt := 168) dX13_put_253 (by decide) ?_
  refine v_sub [1, 2, 0] (L1 := [(0, vO 54), (1, vI x1), (3, vI r5)]) rfl ?_
  exact hrec r5 s2 _ h r6 hE

def l_X13_put_168 : Nat → Int → Int → vS → Option (vS)
  | 0, _, _, _ => none
  | n + 1, x1, x3, s =>
    gd (gR s 54 5 = 44) <|
    bd (f_X12_behind x1 s) fun r5 s2 =>
    if r5 ≤ x3 then
      some s2
    else
      gd (inb x3 (gN s2 61)) <|
      if (gE s2 61 x3) = (-1) then
        j_X13_put_244 (l_X13_put_168 n) x1 x3 s2
      else
        bd (f_X13_grown 79 (w32 ((gI s2 54 27) + 1)) s2) fun r13 s14 =>
        gd (r13 = 0 ∨ (2 * gN s14 79 ≤ gN s14 199 ∧ 2 ≤ gN s14 199)) <|
        stp (grw s14 79 r13) fun s18 =>
        bd (f_X13_grown 80 (w32 ((gI s18 54 27) + 2)) s18) fun r23 s24 =>
        gd (r23 = 0 ∨ (2 * gN s24 80 ≤ gN s24 199 ∧ 2 ≤ gN s24 199)) <|
        stp (grw s24 80 r23) fun s28 =>
        gd (inb (gI s28 54 27) (gN s28 79)) <|
        stp (sE s28 79 (gI s28 54 27) x3) fun s31 =>
        stp (sI s31 54 27 (w32 ((gI s31 54 27) + 1))) fun s33 =>
        j_X13_put_244 (l_X13_put_168 n) x1 x3 s33
theorem wl_X13_put_168 {x1 : Int} {rv : Option vA} {σo : vS}  (rx1 : rg x1) : ∀ (n : Nat) (x3 : Int) (s : vS) (q : vS), l_X13_put_168 n x1 x3 s = some q → rg x3 → E_X13_put_168 x1 rv σo q → VW cX13_put (RX13, rv, σo, none, 9, 203, 4, []) (P0 []) s 168 [(0, vO 54), (1, vI x1), (3, vI x3)] [] := by
  intro n
  induction n with
  | zero => intro x3 s q h; cases h
  | succ n ih =>
    intro x3 s q h rx3 hE
    unfold l_X13_put_168 at h
    refine v_iload_n dX13_put_168 2 rfl rfl ?_
    refine v_aload_n dX13_put_169 0 rfl rfl ?_
    obtain ⟨g1, h⟩ := gd_some h
    refine v_getR (f := 5) cf13 oc54 rfl (by rw [g1]; decide) (by decide) q775 dX13_put_170 ?_
    rw [g1]
    refine v_iload_n dX13_put_173 1 rfl rfl ?_
    obtain ⟨r5, s2, e3, h⟩ := bd_some h
    have k4 := c_X12_behind e3 rx1
    have r6 : rg r5 := k4.1.2.2
    refine v_callV (st := [vI x3]) cf12 oc44 k4 (lw_V q2222 q2223 q2224 q309 q2225) rfl yk_X12_behind ⟨Nat.le_of_ble_eq_true rfl, Nat.le_of_ble_eq_true rfl⟩ trivial ⟨kc54, trivial⟩ (Nat.le_of_ble_eq_true rfl) rfl dX13_put_174 ?_
    refine v_icmp_ge (tgt := 256) dX13_put_177 rx3 r6 (by decide) (fun c7 => ?_) (fun c7 => ?_)
    · rw [if_pos c7] at h
      cases h
      refine v_sub [0, 1] (L1 := [(0, vO 54), (1, vI x1)]) rfl ?_
      exact hE _ rfl 
    · rw [if_neg c7] at h
      refine v_aload_n dX13_put_180 0 rfl rfl ?_
      refine v_getS (f := 8) (t := 61) cf13 oc54 rfl rfl rfl (by decide) q778 dX13_put_181 ?_
      refine v_iload_n dX13_put_184 2 rfl rfl ?_
      obtain ⟨g8, h⟩ := gd_some h
      refine v_iald oc61 rx3 g8.1 g8.2 dX13_put_185 ?_
      refine v_iconst dX13_put_186 ?_
      refine v_icmp_eq (tgt := 244) dX13_put_187 (gE_rg _ _ _) (rgl rfl) (by decide) (fun c9 => ?_) (fun c9 => ?_)
      · rw [if_pos c9] at h
        exact wj_X13_put_244 h rx1 rx3 ih hE
      · rw [if_neg c9] at h
        refine v_aload_n dX13_put_190 0 rfl rfl ?_
        refine v_aload_n dX13_put_191 0 rfl rfl ?_
        refine v_getS (f := 24) (t := 79) cf13 oc54 rfl rfl rfl (by decide) q794 dX13_put_192 ?_
        refine v_aload_n dX13_put_195 0 rfl rfl ?_
        refine v_getI (f := 27) cf13 oc54 rfl (by decide) q797 dX13_put_196 ?_
        refine v_iconst dX13_put_199 ?_
        refine v_iadd dX13_put_200 ?_
        obtain ⟨r13, s14, e15, h⟩ := bd_some h
        have k16 := c_X13_grown e15 (⟨by decide, rfl⟩ : okB 79 24) (w32_rg _)
        obtain ⟨g17, h⟩ := gd_some h
        obtain ⟨s18, e19, h⟩ := stp_some h
        refine v_regrow (f := 24) k16 (lw_S q2139 q2140 q310 q2141) yk_X13_grown ⟨Nat.le_of_ble_eq_true rfl, Nat.le_of_ble_eq_true rfl⟩ ⟨kc54, trivial⟩ ⟨kc54, trivial⟩ (Nat.le_of_ble_eq_true rfl) dX13_put_201 cf13 (⟨by decide, rfl⟩ : okB 54 12) rfl (by decide) rfl rfl g17 q794 dX13_put_204 rfl rfl rfl rfl ⟨(by decide), trivial⟩ trivial ?_
        rw [← e19]
        refine v_aload_n dX13_put_207 0 rfl rfl ?_
        refine v_aload_n dX13_put_208 0 rfl rfl ?_
        refine v_getS (f := 25) (t := 80) cf13 oc54 rfl rfl rfl (by decide) q795 dX13_put_209 ?_
        refine v_aload_n dX13_put_212 0 rfl rfl ?_
        refine v_getI (f := 27) cf13 oc54 rfl (by decide) q797 dX13_put_213 ?_
        refine v_iconst dX13_put_216 ?_
        refine v_iadd dX13_put_217 ?_
        obtain ⟨r23, s24, e25, h⟩ := bd_some h
        have k26 := c_X13_grown e25 (⟨by decide, rfl⟩ : okB 80 24) (w32_rg _)
        obtain ⟨g27, h⟩ := gd_some h
        obtain ⟨s28, e29, h⟩ := stp_some h
        refine v_regrow (f := 25) k26 (lw_S q2139 q2140 q310 q2141) yk_X13_grown ⟨Nat.le_of_ble_eq_true rfl, Nat.le_of_ble_eq_true rfl⟩ ⟨kc54, trivial⟩ ⟨kc54, trivial⟩ (Nat.le_of_ble_eq_true rfl) dX13_put_218 cf13 (⟨by decide, rfl⟩ : okB 54 12) rfl (by decide) rfl rfl g27 q795 dX13_put_221 rfl rfl rfl rfl ⟨(by decide), trivial⟩ trivial ?_
        rw [← e29]
        refine v_aload_n dX13_put_224 0 rfl rfl ?_
        refine v_getS (f := 24) (t := 79) cf13 oc54 rfl rfl rfl (by decide) q794 dX13_put_225 ?_
        refine v_aload_n dX13_put_228 0 rfl rfl ?_
        refine v_getI (f := 27) cf13 oc54 rfl (by decide) q797 dX13_put_229 ?_
        refine v_iload_n dX13_put_232 2 rfl rfl ?_
        obtain ⟨g30, h⟩ := gd_some h
        obtain ⟨s31, e32, h⟩ := stp_some h
        refine v_iast oc79 (gI_rg _ _ _) g30.1 g30.2 dX13_put_233 ?_
        rw [← e32]
        refine v_aload_n dX13_put_234 0 rfl rfl ?_
        refine v_dupO dX13_put_235 ?_
        refine v_getI (f := 27) cf13 oc54 rfl (by decide) q797 dX13_put_236 ?_
        refine v_iconst dX13_put_239 ?_
        refine v_iadd dX13_put_240 ?_
        obtain ⟨s33, e34, h⟩ := stp_some h
        refine v_putI (f := 27) cf13 oc54 rfl (by decide) q797 dX13_put_241 rfl rfl ?_
        rw [← e34]
        exact wj_X13_put_244 h rx1 rx3 ih hE

def j_X13_put_25 (x1 : Int) (z0 : Int) (s : vS) : Option (vS) :=
  bdv (f_X13_writeTag x1 z0 s) fun s1 =>
  gd (inb x1 (gN s1 66)) <|
  bdv (f_X13_writeLength (gE s1 66 x1) s1) fun s5 =>
  if z0 = 0 then
    gd (inb x1 (gN s5 65)) <|
    gd (inb x1 (gN s5 65)) <|
    gd (inb x1 (gN s5 66)) <|
    bdv (f_X2_all 77 73 (gE s5 65 x1) (w32 ((gE s5 65 x1) + (gE s5 66 x1))) s5) fun s78 =>
    some s78
  else
    bd (f_X13_grown 67 (w32 ((gI s5 54 18) + 1)) s5) fun r12 s13 =>
    gd (r12 = 0 ∨ (2 * gN s13 67 ≤ gN s13 199 ∧ 2 ≤ gN s13 199)) <|
    stp (grw s13 67 r12) fun s17 =>
    bd (f_X13_grown 68 (w32 ((gI s17 54 18) + 1)) s17) fun r22 s23 =>
    gd (r22 = 0 ∨ (2 * gN s23 68 ≤ gN s23 199 ∧ 2 ≤ gN s23 199)) <|
    stp (grw s23 68 r22) fun s27 =>
    bd (f_X13_grown 81 (w32 ((gI s27 54 18) + 1)) s27) fun r32 s33 =>
    gd (r32 = 0 ∨ (2 * gN s33 81 ≤ gN s33 199 ∧ 2 ≤ gN s33 199)) <|
    stp (grw s33 81 r32) fun s37 =>
    gd (inb (gI s37 54 18) (gN s37 67)) <|
    stp (sE s37 67 (gI s37 54 18) x1) fun s40 =>
    gd (inb (gI s40 54 18) (gN s40 81)) <|
    stp (sE s40 81 (gI s40 54 18) (gI s40 54 27)) fun s43 =>
    gd (inb (gI s43 54 18) (gN s43 68)) <|
    stp (sE s43 68 (gI s43 54 18) (gI s43 54 27)) fun s46 =>
    vl (w32 (x1 + 1)) fun y48 =>
    lq_0 (l_X13_put_168 FU x1 y48 s46) fun s51 =>
    bd (f_X13_isAround x1 s51) fun r56 s53 =>
    if r56 = 0 then
      bd (f_X13_kind x1 s53) fun r64 s61 =>
      if r64 = 13 then
        gd (inb (gI s61 54 18) (gN s61 81)) <|
        bdv (f_X13_sort (gE s61 81 (gI s61 54 18)) (gI s61 54 27) 1 s61) fun s70 =>
        stp (sI s70 54 18 (w32 ((gI s70 54 18) + 1))) fun s73 =>
        some s73
      else
        stp (sI s61 54 18 (w32 ((gI s61 54 18) + 1))) fun s67 =>
        some s67
    else
      stp (sI s53 54 18 (w32 ((gI s53 54 18) + 1))) fun s59 =>
      some s59
theorem wj_X13_put_25 {x1 : Int} {z0 : Int} {s : vS} {out : vS} (h : j_X13_put_25 x1 z0 s = some out)  (rx1 : rg x1) (rz0 : rg z0) : VW cX13_put (RX13, none, out, none, 9, 203, 4, []) (P0 []) s 25 [(0, vO 54), (1, vI x1)] [vI z0] := by
  unfold j_X13_put_25 at h
  refine v_istore_n (L1 := [(2, vI z0), (0, vO 54), (1, vI x1)]) dX13_put_25 rfl (by decide) rfl ?_
  refine v_aload_n dX13_put_26 1 rfl rfl ?_
  refine v_iload_n dX13_put_27 2 rfl rfl ?_
  refine v_iload_n dX13_put_28 0 rfl rfl ?_
  obtain ⟨s1, e2, h⟩ := bdv_some h
  have k3 := c_X13_writeTag e2 rx1 rz0
  refine v_callV (st := []) cf13 oc54 k3 (lw_V q2322 q2324 qs150 q310 q2325) rfl yk_X13_writeTag ⟨Nat.le_of_ble_eq_true rfl, Nat.le_of_ble_eq_true rfl⟩ trivial ⟨kc54, trivial⟩ (Nat.le_of_ble_eq_true rfl) rfl dX13_put_29 ?_
  refine v_aload_n dX13_put_32 1 rfl rfl ?_
  refine v_aload_n dX13_put_33 1 rfl rfl ?_
  refine v_getS (f := 13) (t := 66) cf13 oc54 rfl rfl rfl (by decide) q783 dX13_put_34 ?_
  refine v_iload_n dX13_put_37 2 rfl rfl ?_
  obtain ⟨g4, h⟩ := gd_some h
  refine v_iald oc66 rx1 g4.1 g4.2 dX13_put_38 ?_
  obtain ⟨s5, e6, h⟩ := bdv_some h
  have k7 := c_X13_writeLength e6 (gE_rg _ _ _)
  refine v_callV (st := []) cf13 oc54 k7 (lw_V q2326 q2328 qs151 q310 q2329) rfl yk_X13_writeLength ⟨Nat.le_of_ble_eq_true rfl, Nat.le_of_ble_eq_true rfl⟩ trivial ⟨kc54, trivial⟩ (Nat.le_of_ble_eq_true rfl) rfl dX13_put_39 ?_
  refine v_iload_n dX13_put_42 0 rfl rfl ?_
  refine v_if_ne (tgt := 77) dX13_put_43 rz0 (by decide) (fun c8 => ?_) (fun c8 => ?_)
  · rw [if_neg c8] at h
    refine v_aload_n dX13_put_77 1 rfl rfl ?_
    refine v_aload_n dX13_put_78 1 rfl rfl ?_
    refine v_getS (f := 14) (t := 67) cf13 oc54 rfl rfl rfl (by decide) q784 dX13_put_79 ?_
    refine v_aload_n dX13_put_82 1 rfl rfl ?_
    refine v_getI (f := 18) cf13 oc54 rfl (by decide) q788 dX13_put_83 ?_
    refine v_iconst dX13_put_86 ?_
    refine v_iadd dX13_put_87 ?_
    obtain ⟨r12, s13, e14, h⟩ := bd_some h
    have k15 := c_X13_grown e14 (⟨by decide, rfl⟩ : okB 67 24) (w32_rg _)
    obtain ⟨g16, h⟩ := gd_some h
    obtain ⟨s17, e18, h⟩ := stp_some h
    refine v_regrow (f := 14) k15 (lw_S q2139 q2140 q310 q2141) yk_X13_grown ⟨Nat.le_of_ble_eq_true rfl, Nat.le_of_ble_eq_true rfl⟩ ⟨kc54, trivial⟩ ⟨kc54, trivial⟩ (Nat.le_of_ble_eq_true rfl) dX13_put_88 cf13 (⟨by decide, rfl⟩ : okB 54 12) rfl (by decide) rfl rfl g16 q784 dX13_put_91 rfl rfl rfl rfl ⟨(by decide), trivial⟩ trivial ?_
    rw [← e18]
    refine v_aload_n dX13_put_94 1 rfl rfl ?_
    refine v_aload_n dX13_put_95 1 rfl rfl ?_
    refine v_getS (f := 15) (t := 68) cf13 oc54 rfl rfl rfl (by decide) q785 dX13_put_96 ?_
    refine v_aload_n dX13_put_99 1 rfl rfl ?_
    refine v_getI (f := 18) cf13 oc54 rfl (by decide) q788 dX13_put_100 ?_
    refine v_iconst dX13_put_103 ?_
    refine v_iadd dX13_put_104 ?_
    obtain ⟨r22, s23, e24, h⟩ := bd_some h
    have k25 := c_X13_grown e24 (⟨by decide, rfl⟩ : okB 68 24) (w32_rg _)
    obtain ⟨g26, h⟩ := gd_some h
    obtain ⟨s27, e28, h⟩ := stp_some h
    refine v_regrow (f := 15) k25 (lw_S q2139 q2140 q310 q2141) yk_X13_grown ⟨Nat.le_of_ble_eq_true rfl, Nat.le_of_ble_eq_true rfl⟩ ⟨kc54, trivial⟩ ⟨kc54, trivial⟩ (Nat.le_of_ble_eq_true rfl) dX13_put_105 cf13 (⟨by decide, rfl⟩ : okB 54 12) rfl (by decide) rfl rfl g26 q785 dX13_put_108 rfl rfl rfl rfl ⟨(by decide), trivial⟩ trivial ?_
    rw [← e28]
    refine v_aload_n dX13_put_111 1 rfl rfl ?_
    refine v_aload_n dX13_put_112 1 rfl rfl ?_
    refine v_getS (f := 26) (t := 81) cf13 oc54 rfl rfl rfl (by decide) q796 dX13_put_113 ?_
    refine v_aload_n dX13_put_116 1 rfl rfl ?_
    refine v_getI (f := 18) cf13 oc54 rfl (by decide) q788 dX13_put_117 ?_
    refine v_iconst dX13_put_120 ?_
    refine v_iadd dX13_put_121 ?_
    obtain ⟨r32, s33, e34, h⟩ := bd_some h
    have k35 := c_X13_grown e34 (⟨by decide, rfl⟩ : okB 81 24) (w32_rg _)
    obtain ⟨g36, h⟩ := gd_some h
    obtain ⟨s37, e38, h⟩ := stp_some h
    refine v_regrow (f := 26) k35 (lw_S q2139 q2140 q310 q2141) yk_X13_grown ⟨Nat.le_of_ble_eq_true rfl, Nat.le_of_ble_eq_true rfl⟩ ⟨kc54, trivial⟩ ⟨kc54, trivial⟩ (Nat.le_of_ble_eq_true rfl) dX13_put_122 cf13 (⟨by decide, rfl⟩ : okB 54 12) rfl (by decide) rfl rfl g36 q796 dX13_put_125 rfl rfl rfl rfl ⟨(by decide), trivial⟩ trivial ?_
    rw [← e38]
    refine v_aload_n dX13_put_128 1 rfl rfl ?_
    refine v_getS (f := 14) (t := 67) cf13 oc54 rfl rfl rfl (by decide) q784 dX13_put_129 ?_
    refine v_aload_n dX13_put_132 1 rfl rfl ?_
    refine v_getI (f := 18) cf13 oc54 rfl (by decide) q788 dX13_put_133 ?_
    refine v_iload_n dX13_put_136 2 rfl rfl ?_
    obtain ⟨g39, h⟩ := gd_some h
    obtain ⟨s40, e41, h⟩ := stp_some h
    refine v_iast oc67 (gI_rg _ _ _) g39.1 g39.2 dX13_put_137 ?_
    rw [← e41]
    refine v_aload_n dX13_put_138 1 rfl rfl ?_
    refine v_getS (f := 26) (t := 81) cf13 oc54 rfl rfl rfl (by decide) q796 dX13_put_139 ?_
    refine v_aload_n dX13_put_142 1 rfl rfl ?_
    refine v_getI (f := 18) cf13 oc54 rfl (by decide) q788 dX13_put_143 ?_
    refine v_aload_n dX13_put_146 1 rfl rfl ?_
    refine v_getI (f := 27) cf13 oc54 rfl (by decide) q797 dX13_put_147 ?_
    obtain ⟨g42, h⟩ := gd_some h
    obtain ⟨s43, e44, h⟩ := stp_some h
    refine v_iast oc81 (gI_rg _ _ _) g42.1 g42.2 dX13_put_150 ?_
    rw [← e44]
    refine v_aload_n dX13_put_151 1 rfl rfl ?_
    refine v_getS (f := 15) (t := 68) cf13 oc54 rfl rfl rfl (by decide) q785 dX13_put_152 ?_
    refine v_aload_n dX13_put_155 1 rfl rfl ?_
    refine v_getI (f := 18) cf13 oc54 rfl (by decide) q788 dX13_put_156 ?_
    refine v_aload_n dX13_put_159 1 rfl rfl ?_
    refine v_getI (f := 27) cf13 oc54 rfl (by decide) q797 dX13_put_160 ?_
    obtain ⟨g45, h⟩ := gd_some h
    obtain ⟨s46, e47, h⟩ := stp_some h
    refine v_iast oc68 (gI_rg _ _ _) g45.1 g45.2 dX13_put_163 ?_
    rw [← e47]
    refine v_iload_n dX13_put_164 2 rfl rfl ?_
    refine v_iconst dX13_put_165 ?_
    refine v_iadd dX13_put_166 ?_
    obtain ⟨y48, e49, h⟩ := vl_some h
    rw [← e49]
    have r50 : rg y48 := by rw [e49]; exact w32_rg _
    refine v_istore_n (L1 := [(3, vI y48), (2, vI z0), (0, vO 54), (1, vI x1)]) dX13_put_167 rfl (by decide) rfl ?_
    refine v_sub [2, 3, 0] (L1 := [(0, vO 54), (1, vI x1), (3, vI y48)]) rfl ?_
    obtain ⟨s51, e52, h⟩ := lq_0_some h
    refine wl_X13_put_168 rx1 FU y48 s46 _ e52 r50 ?_
    unfold E_X13_put_168
    intro s51' z_
    cases z_
    refine v_aload_n dX13_put_256 0 rfl rfl ?_
    refine v_iload_n dX13_put_257 1 rfl rfl ?_
    obtain ⟨r56, s53, e54, h⟩ := bd_some h
    have k55 := c_X13_isAround e54 rx1
    have r57 : rg r56 := k55.1.2.2
    refine v_callV (st := []) cf13 oc54 k55 (lw_V q2175 q2177 qs131 q310 q2178) rfl yk_X13_isAround ⟨Nat.le_of_ble_eq_true rfl, Nat.le_of_ble_eq_true rfl⟩ trivial ⟨kc54, trivial⟩ (Nat.le_of_ble_eq_true rfl) rfl dX13_put_258 ?_
    refine v_if_ne (tgt := 292) dX13_put_261 r57 (by decide) (fun c58 => ?_) (fun c58 => ?_)
    · rw [if_neg c58] at h
      refine v_aload_n dX13_put_292 0 rfl rfl ?_
      refine v_dupO dX13_put_293 ?_
      refine v_getI (f := 18) cf13 oc54 rfl (by decide) q788 dX13_put_294 ?_
      refine v_iconst dX13_put_297 ?_
      refine v_iadd dX13_put_298 ?_
      obtain ⟨s59, e60, h⟩ := stp_some h
      refine v_putI (f := 18) cf13 oc54 rfl (by decide) q788 dX13_put_299 rfl rfl ?_
      rw [← e60]
      cases h
      exact v_vret dX13_put_302
    · rw [if_pos c58] at h
      refine v_aload_n dX13_put_264 0 rfl rfl ?_
      refine v_iload_n dX13_put_265 1 rfl rfl ?_
      obtain ⟨r64, s61, e62, h⟩ := bd_some h
      have k63 := c_X13_kind e62 rx1
      have r65 : rg r64 := k63.1.2.2
      refine v_callV (st := []) cf13 oc54 k63 (lw_V q2170 q2172 qs130 q310 q2173) rfl yk_X13_kind ⟨Nat.le_of_ble_eq_true rfl, Nat.le_of_ble_eq_true rfl⟩ trivial ⟨kc54, trivial⟩ (Nat.le_of_ble_eq_true rfl) rfl dX13_put_266 ?_
      refine v_bipush dX13_put_269 rfl ?_
      refine v_icmp_ne (tgt := 292) dX13_put_271 r65 (rgl rfl) (by decide) (fun c66 => ?_) (fun c66 => ?_)
      · rw [if_neg c66] at h
        refine v_aload_n dX13_put_292 0 rfl rfl ?_
        refine v_dupO dX13_put_293 ?_
        refine v_getI (f := 18) cf13 oc54 rfl (by decide) q788 dX13_put_294 ?_
        refine v_iconst dX13_put_297 ?_
        refine v_iadd dX13_put_298 ?_
        obtain ⟨s67, e68, h⟩ := stp_some h
        refine v_putI (f := 18) cf13 oc54 rfl (by decide) q788 dX13_put_299 rfl rfl ?_
        rw [← e68]
        cases h
        exact v_vret dX13_put_302
      · rw [if_pos c66] at h
        refine v_aload_n dX13_put_274 0 rfl rfl ?_
        refine v_aload_n dX13_put_275 0 rfl rfl ?_
        refine v_getS (f := 26) (t := 81) cf13 oc54 rfl rfl rfl (by decide) q796 dX13_put_276 ?_
        refine v_aload_n dX13_put_279 0 rfl rfl ?_
        refine v_getI (f := 18) cf13 oc54 rfl (by decide) q788 dX13_put_280 ?_
        obtain ⟨g69, h⟩ := gd_some h
        refine v_iald oc81 (gI_rg _ _ _) g69.1 g69.2 dX13_put_283 ?_
        refine v_aload_n dX13_put_284 0 rfl rfl ?_
        refine v_getI (f := 27) cf13 oc54 rfl (by decide) q797 dX13_put_285 ?_
        refine v_iconst dX13_put_288 ?_
        obtain ⟨s70, e71, h⟩ := bdv_some h
        have k72 := c_X13_sort e71 (gE_rg _ _ _) (gI_rg _ _ _) (rgl rfl)
        refine v_callV (st := []) cf13 oc54 k72 (lw_V q2330 q2332 qs152 q310 q2333) rfl yk_X13_sort ⟨Nat.le_of_ble_eq_true rfl, Nat.le_of_ble_eq_true rfl⟩ trivial ⟨kc54, trivial⟩ (Nat.le_of_ble_eq_true rfl) rfl dX13_put_289 ?_
        refine v_aload_n dX13_put_292 0 rfl rfl ?_
        refine v_dupO dX13_put_293 ?_
        refine v_getI (f := 18) cf13 oc54 rfl (by decide) q788 dX13_put_294 ?_
        refine v_iconst dX13_put_297 ?_
        refine v_iadd dX13_put_298 ?_
        obtain ⟨s73, e74, h⟩ := stp_some h
        refine v_putI (f := 18) cf13 oc54 rfl (by decide) q788 dX13_put_299 rfl rfl ?_
        rw [← e74]
        cases h
        exact v_vret dX13_put_302
  · rw [if_pos c8] at h
    refine v_aload_n dX13_put_46 1 rfl rfl ?_
    refine v_getS (f := 23) (t := 77) cf13 oc54 rfl rfl rfl (by decide) q793 dX13_put_47 ?_
    refine v_aload_n dX13_put_50 1 rfl rfl ?_
    refine v_getS (f := 21) (t := 73) cf13 oc54 rfl rfl rfl (by decide) q791 dX13_put_51 ?_
    refine v_aload_n dX13_put_54 1 rfl rfl ?_
    refine v_getS (f := 12) (t := 65) cf13 oc54 rfl rfl rfl (by decide) q782 dX13_put_55 ?_
    refine v_iload_n dX13_put_58 2 rfl rfl ?_
    obtain ⟨g75, h⟩ := gd_some h
    refine v_iald oc65 rx1 g75.1 g75.2 dX13_put_59 ?_
    refine v_aload_n dX13_put_60 1 rfl rfl ?_
    refine v_getS (f := 12) (t := 65) cf13 oc54 rfl rfl rfl (by decide) q782 dX13_put_61 ?_
    refine v_iload_n dX13_put_64 2 rfl rfl ?_
    obtain ⟨g76, h⟩ := gd_some h
    refine v_iald oc65 rx1 g76.1 g76.2 dX13_put_65 ?_
    refine v_aload_n dX13_put_66 1 rfl rfl ?_
    refine v_getS (f := 13) (t := 66) cf13 oc54 rfl rfl rfl (by decide) q783 dX13_put_67 ?_
    refine v_iload_n dX13_put_70 2 rfl rfl ?_
    obtain ⟨g77, h⟩ := gd_some h
    refine v_iald oc66 rx1 g77.1 g77.2 dX13_put_71 ?_
    refine v_iadd dX13_put_72 ?_
    obtain ⟨s78, e79, h⟩ := bdv_some h
    have k80 := c_X2_all e79 (⟨by decide, rfl⟩ : okB 77 1) (⟨by decide, rfl⟩ : okB 73 1) (gE_rg _ _ _) (w32_rg _)
    refine v_callV (st := []) cf2 oc77 k80 (lw_V q2217 q1059 q1060 q299 q1061) rfl yk_X2_all ⟨Nat.le_of_ble_eq_true rfl, Nat.le_of_ble_eq_true rfl⟩ trivial ⟨kc54, trivial⟩ (Nat.le_of_ble_eq_true rfl) rfl dX13_put_73 ?_
    cases h
    exact v_vret dX13_put_76

def f_X13_put (x1 : Int) (s : vS) : Option (vS) :=
  bd (f_X13_isAround x1 s) fun r4 s1 =>
  if r4 = 0 then
    bd (f_X13_kind x1 s1) fun r10 s7 =>
    bd (f_X13_isMany r10 s7) fun r15 s12 =>
    if r15 = 0 then
      j_X13_put_25 x1 0 s12
    else
      j_X13_put_25 x1 1 s12
  else
    j_X13_put_25 x1 1 s1
theorem yk_X13_put : yOk yX13_put 1 := ⟨by decide, by decide, by decide +kernel⟩
theorem c_X13_put {x1 : Int} {s : vS} {out : vS} (h : f_X13_put x1 s = some out)  (rx1 : rg x1) : VC yX13_put cX13_put 4 none 9 203 [vO 54, vI x1] s none out [] := by
  unfold f_X13_put at h
  refine VC.of RX13 (by decide) rfl (Nat.le_of_ble_eq_true rfl) ?_
  show VW cX13_put (RX13, none, out, none, 9, 203, 4, []) (P0 []) s 0 [(0, vO 54), (1, vI x1)] []
  refine v_aload_n dX13_put_0 0 rfl rfl ?_
  refine v_iload_n dX13_put_1 1 rfl rfl ?_
  obtain ⟨r4, s1, e2, h⟩ := bd_some h
  have k3 := c_X13_isAround e2 rx1
  have r5 : rg r4 := k3.1.2.2
  refine v_callV (st := []) cf13 oc54 k3 (lw_V q2175 q2177 qs131 q310 q2178) rfl yk_X13_isAround ⟨Nat.le_of_ble_eq_true rfl, Nat.le_of_ble_eq_true rfl⟩ trivial ⟨kc54, trivial⟩ (Nat.le_of_ble_eq_true rfl) rfl dX13_put_2 ?_
  refine v_if_ne (tgt := 20) dX13_put_5 r5 (by decide) (fun c6 => ?_) (fun c6 => ?_)
  · rw [if_neg c6] at h
    refine v_iconst dX13_put_20 ?_
    refine v_goto (tgt := 25) dX13_put_21 (by decide) ?_
    exact wj_X13_put_25 h rx1 (rgl rfl)
  · rw [if_pos c6] at h
    refine v_aload_n dX13_put_8 0 rfl rfl ?_
    refine v_aload_n dX13_put_9 0 rfl rfl ?_
    refine v_iload_n dX13_put_10 1 rfl rfl ?_
    obtain ⟨r10, s7, e8, h⟩ := bd_some h
    have k9 := c_X13_kind e8 rx1
    have r11 : rg r10 := k9.1.2.2
    refine v_callV (st := [vO 54]) cf13 oc54 k9 (lw_V q2170 q2172 qs130 q310 q2173) rfl yk_X13_kind ⟨Nat.le_of_ble_eq_true rfl, Nat.le_of_ble_eq_true rfl⟩ ⟨kc54, trivial⟩ ⟨kc54, trivial⟩ (Nat.le_of_ble_eq_true rfl) rfl dX13_put_11 ?_
    obtain ⟨r15, s12, e13, h⟩ := bd_some h
    have k14 := c_X13_isMany e13 r11
    have r16 : rg r15 := k14.1.2.2
    refine v_callV (st := []) cf13 oc54 k14 (lw_V q2179 q2181 qs132 q310 q2182) rfl yk_X13_isMany ⟨Nat.le_of_ble_eq_true rfl, Nat.le_of_ble_eq_true rfl⟩ trivial ⟨kc54, trivial⟩ (Nat.le_of_ble_eq_true rfl) rfl dX13_put_14 ?_
    refine v_if_eq (tgt := 24) dX13_put_17 r16 (by decide) (fun c17 => ?_) (fun c17 => ?_)
    · rw [if_pos c17] at h
      refine v_iconst dX13_put_24 ?_
      exact wj_X13_put_25 h rx1 (rgl rfl)
    · rw [if_neg c17] at h
      refine v_iconst dX13_put_20 ?_
      refine v_goto (tgt := 25) dX13_put_21 (by decide) ?_
      exact wj_X13_put_25 h rx1 (rgl rfl)
