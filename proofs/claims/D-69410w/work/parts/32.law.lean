set_option maxRecDepth 100000
set_option maxHeartbeats 2000000
/-! (by tools/mklaw.py) the law's loop -/
def law_feed (n : Nat) (S : Int → Int) (i : Int) (s : vS) : Option vS :=
  gd (0 ≤ i ∧ i + 5 < (n : Int) ∧ n ≤ 384) <|
  bd (f_X0_feed (S (i + 1)) (S (i + 2)) (S (i + 3)) (S (i + 4)) (S (i + 5)) s) fun k s1 =>
  gd (gN s1 198 = gN s 198) <|
  bd (f_X14_feed (S (i + 1)) (S (i + 2)) (S (i + 3)) (S (i + 4)) (S (i + 5)) s1) fun b s2 =>
  gd (gN s2 198 = gN s1 198) <|
  bd (f_X14_thrown s2) fun t s3 =>
  gd (gN s3 198 = gN s2 198 ∧ t = k) <|
  gd (k = 0 → inb 0 (gN s3 198) ∧ gEL s3 198 0 = b) <|
  some s3
def law_end (n : Nat) (S : Int → Int) (i : Int) (s : vS) : Option vS :=
  gd (0 ≤ i ∧ i + 5 < (n : Int) ∧ n ≤ 384) <|
  bd (f_X0_end (S (i + 1)) s) fun k s1 =>
  gd (gN s1 198 = gN s 198) <|
  bd (f_X14_end (S (i + 1)) s1) fun b s2 =>
  gd (gN s2 198 = gN s1 198) <|
  bd (f_X14_thrown s2) fun t s3 =>
  gd (gN s3 198 = gN s2 198 ∧ t = k) <|
  gd (k = 0 → inb 0 (gN s3 198) ∧ gEL s3 198 0 = b) <|
  some s3
def law_compile (n : Nat) (S : Int → Int) (i : Int) (s : vS) : Option vS :=
  gd (0 ≤ i ∧ i + 5 < (n : Int) ∧ n ≤ 384) <|
  bd (f_X0_compile s) fun k s1 =>
  gd (gN s1 198 = gN s 198) <|
  bd (f_X14_compile s1) fun b s2 =>
  gd (gN s2 198 = gN s1 198) <|
  bd (f_X14_thrown s2) fun t s3 =>
  gd (gN s3 198 = gN s2 198 ∧ t = k) <|
  gd (k = 0 → inb 0 (gN s3 198) ∧ gEL s3 198 0 = b) <|
  some s3
def law_fault (n : Nat) (S : Int → Int) (i : Int) (s : vS) : Option vS :=
  gd (0 ≤ i ∧ i + 5 < (n : Int) ∧ n ≤ 384) <|
  bd (f_X0_fault (S (i + 1)) s) fun k s1 =>
  gd (gN s1 198 = gN s 198) <|
  bd (f_X14_fault (S (i + 1)) s1) fun b s2 =>
  gd (gN s2 198 = gN s1 198) <|
  bd (f_X14_thrown s2) fun t s3 =>
  gd (gN s3 198 = gN s2 198 ∧ t = k) <|
  gd (k = 0 → inb 0 (gN s3 198) ∧ gEL s3 198 0 = b) <|
  some s3
def law_type (n : Nat) (S : Int → Int) (i : Int) (s : vS) : Option vS :=
  gd (0 ≤ i ∧ i + 5 < (n : Int) ∧ n ≤ 384) <|
  bd (f_X0_type (S (i + 1)) (S (i + 2)) s) fun k s1 =>
  gd (gN s1 198 = gN s 198) <|
  bd (f_X14_type (S (i + 1)) (S (i + 2)) s1) fun b s2 =>
  gd (gN s2 198 = gN s1 198) <|
  bd (f_X14_thrown s2) fun t s3 =>
  gd (gN s3 198 = gN s2 198 ∧ t = k) <|
  gd (k = 0 → inb 0 (gN s3 198) ∧ gEL s3 198 0 = b) <|
  some s3
def law_name (n : Nat) (S : Int → Int) (i : Int) (s : vS) : Option vS :=
  gd (0 ≤ i ∧ i + 5 < (n : Int) ∧ n ≤ 384) <|
  bd (f_X0_name (S (i + 1)) (S (i + 2)) s) fun k s1 =>
  gd (gN s1 198 = gN s 198) <|
  bd (f_X14_name (S (i + 1)) (S (i + 2)) s1) fun b s2 =>
  gd (gN s2 198 = gN s1 198) <|
  bd (f_X14_thrown s2) fun t s3 =>
  gd (gN s3 198 = gN s2 198 ∧ t = k) <|
  gd (k = 0 → inb 0 (gN s3 198) ∧ gEL s3 198 0 = b) <|
  some s3
def law_defaultSize (n : Nat) (S : Int → Int) (i : Int) (s : vS) : Option vS :=
  gd (0 ≤ i ∧ i + 5 < (n : Int) ∧ n ≤ 384) <|
  bd (f_X0_defaultSize (S (i + 1)) (S (i + 2)) s) fun k s1 =>
  gd (gN s1 198 = gN s 198) <|
  bd (f_X14_defaultSize (S (i + 1)) (S (i + 2)) s1) fun b s2 =>
  gd (gN s2 198 = gN s1 198) <|
  bd (f_X14_thrown s2) fun t s3 =>
  gd (gN s3 198 = gN s2 198 ∧ t = k) <|
  gd (k = 0 → inb 0 (gN s3 198) ∧ gEL s3 198 0 = b) <|
  some s3
def law_limit (n : Nat) (S : Int → Int) (i : Int) (s : vS) : Option vS :=
  gd (0 ≤ i ∧ i + 5 < (n : Int) ∧ n ≤ 384) <|
  bd (f_X0_limit (S (i + 1)) s) fun k s1 =>
  gd (gN s1 198 = gN s 198) <|
  bd (f_X14_limit (S (i + 1)) s1) fun b s2 =>
  gd (gN s2 198 = gN s1 198) <|
  bd (f_X14_thrown s2) fun t s3 =>
  gd (gN s3 198 = gN s2 198 ∧ t = k) <|
  gd (k = 0 → inb 0 (gN s3 198) ∧ gEL s3 198 0 = b) <|
  some s3
def law_transcode (n : Nat) (S : Int → Int) (i : Int) (s : vS) : Option vS :=
  gd (0 ≤ i ∧ i + 5 < (n : Int) ∧ n ≤ 384) <|
  bd (f_X0_transcode (S (i + 1)) s) fun k s1 =>
  gd (gN s1 198 = gN s 198) <|
  bd (f_X14_transcode (S (i + 1)) s1) fun b s2 =>
  gd (gN s2 198 = gN s1 198) <|
  bd (f_X14_thrown s2) fun t s3 =>
  gd (gN s3 198 = gN s2 198 ∧ t = k) <|
  gd (k = 0 → inb 0 (gN s3 198) ∧ gEL s3 198 0 = b) <|
  some s3
def law_out (n : Nat) (S : Int → Int) (i : Int) (s : vS) : Option vS :=
  gd (0 ≤ i ∧ i + 5 < (n : Int) ∧ n ≤ 384) <|
  bd (f_X0_out (S (i + 1)) s) fun k s1 =>
  gd (gN s1 198 = gN s 198) <|
  bd (f_X14_out (S (i + 1)) s1) fun b s2 =>
  gd (gN s2 198 = gN s1 198) <|
  bd (f_X14_thrown s2) fun t s3 =>
  gd (gN s3 198 = gN s2 198 ∧ t = k) <|
  gd (k = 0 → inb 0 (gN s3 198) ∧ gEL s3 198 0 = b) <|
  some s3
def law_again (n : Nat) (S : Int → Int) (i : Int) (s : vS) : Option vS :=
  gd (0 ≤ i ∧ i + 5 < (n : Int) ∧ n ≤ 384) <|
  bd (f_X0_again s) fun k s1 =>
  gd (gN s1 198 = gN s 198) <|
  bd (f_X14_again s1) fun b s2 =>
  gd (gN s2 198 = gN s1 198) <|
  bd (f_X14_thrown s2) fun t s3 =>
  gd (gN s3 198 = gN s2 198 ∧ t = k) <|
  gd (k = 0 → inb 0 (gN s3 198) ∧ gEL s3 198 0 = b) <|
  some s3
def law_count (n : Nat) (S : Int → Int) (i : Int) (s : vS) : Option vS :=
  gd (0 ≤ i ∧ i + 5 < (n : Int) ∧ n ≤ 384) <|
  bd (f_X1_count (S (i + 1)) s) fun a s1 =>
  gd (gN s1 198 = gN s 198) <|
  bd (f_X14_count (S (i + 1)) s1) fun b s2 =>
  gd (gN s2 198 = gN s1 198 ∧ a = b) <|
  some s2
theorem w_law_feed {n : Nat} {S : Int → Int} {i : Int} {s s9 σo : vS} (hn : (σo.2.1 1200).1 = n) (hS : (σo.2.1 1200).2 = S) (hr : ∀ j, rg (S j)) (h : law_feed n S i s = some s9) (kk : VW code (R_law, some (vV (.long 0)), σo, ret, 8192, 104096, 7, []) (P0 []) s9 805 [(0, vO 1200), (1, vO 0), (2, vO 87), (3, vO 198), (4, vI i)] []) : VW code (R_law, some (vV (.long 0)), σo, ret, 8192, 104096, 7, []) (P0 []) s 104 [(0, vO 1200), (1, vO 0), (2, vO 87), (3, vO 198), (4, vI i)] [] := by
  unfold law_feed at h
  obtain ⟨g0, h⟩ := gd_some h
  obtain ⟨k, s1, e1, h⟩ := bd_some h
  obtain ⟨g1, h⟩ := gd_some h
  obtain ⟨b, s2, e2, h⟩ := bd_some h
  obtain ⟨g2, h⟩ := gd_some h
  obtain ⟨t, s3, e3, h⟩ := bd_some h
  obtain ⟨g3, h⟩ := gd_some h
  obtain ⟨g4, h⟩ := gd_some h
  have h := Option.some.inj h
  subst h
  have k1 := c_X0_feed e1 (hr _) (hr _) (hr _) (hr _) (hr _)
  have k2 := c_X14_feed e2 (hr _) (hr _) (hr _) (hr _) (hr _)
  have k3 := c_X14_thrown e3
  refine v_aload_n dL_law_104 1 rfl rfl ?_
  refine v_aload_n dL_law_105 0 rfl rfl ?_
  refine v_iload dL_law_106 4 rfl ?_
  refine v_iconst dL_law_108 ?_
  refine v_iadd dL_law_109 ?_
  rw [show w32 (i + 1) = i + 1 from w32_id (by unfold rg; omega)]
  refine v_sld hn hS (by unfold rg; omega) (by omega) dL_law_110 ?_
  refine v_aload_n dL_law_111 0 rfl rfl ?_
  refine v_iload dL_law_112 4 rfl ?_
  refine v_iconst dL_law_114 ?_
  refine v_iadd dL_law_115 ?_
  rw [show w32 (i + 2) = i + 2 from w32_id (by unfold rg; omega)]
  refine v_sld hn hS (by unfold rg; omega) (by omega) dL_law_116 ?_
  refine v_aload_n dL_law_117 0 rfl rfl ?_
  refine v_iload dL_law_118 4 rfl ?_
  refine v_iconst dL_law_120 ?_
  refine v_iadd dL_law_121 ?_
  rw [show w32 (i + 3) = i + 3 from w32_id (by unfold rg; omega)]
  refine v_sld hn hS (by unfold rg; omega) (by omega) dL_law_122 ?_
  refine v_aload_n dL_law_123 0 rfl rfl ?_
  refine v_iload dL_law_124 4 rfl ?_
  refine v_iconst dL_law_126 ?_
  refine v_iadd dL_law_127 ?_
  rw [show w32 (i + 4) = i + 4 from w32_id (by unfold rg; omega)]
  refine v_sld hn hS (by unfold rg; omega) (by omega) dL_law_128 ?_
  refine v_aload_n dL_law_129 0 rfl rfl ?_
  refine v_iload dL_law_130 4 rfl ?_
  refine v_iconst dL_law_132 ?_
  refine v_iadd dL_law_133 ?_
  rw [show w32 (i + 5) = i + 5 from w32_id (by unfold rg; omega)]
  refine v_sld hn hS (by unfold rg; omega) (by omega) dL_law_134 ?_
  refine v_aload_n dL_law_135 3 rfl rfl ?_
  refine v_callSW (st := []) k1 (lw_SW q921 q922 q297 q923) yk_X0_feed (by decide) trivial ⟨(Or.inr (by decide)), kc0, kc87, (kp_arr (by decide) g1), trivial⟩ (Nat.le_of_ble_eq_true rfl) rfl dL_law_136 ?_
  refine v_istore (L1 := [(5, vI k), (0, vO 1200), (1, vO 0), (2, vO 87), (3, vO 198), (4, vI i)]) dL_law_139 (by decide) rfl ?_
  refine v_aload_n dL_law_141 3 rfl rfl ?_
  refine v_aload_n dL_law_142 1 rfl rfl ?_
  refine v_iload dL_law_143 5 rfl ?_
  refine v_iconst dL_law_145 ?_
  refine v_iadd dL_law_146 ?_
  rw [show w32 (i + 1) = i + 1 from w32_id (by unfold rg; omega)]
  refine v_sld hn hS (by unfold rg; omega) (by omega) dL_law_147 ?_
  refine v_aload_n dL_law_148 1 rfl rfl ?_
  refine v_iload dL_law_149 5 rfl ?_
  refine v_iconst dL_law_151 ?_
  refine v_iadd dL_law_152 ?_
  rw [show w32 (i + 2) = i + 2 from w32_id (by unfold rg; omega)]
  refine v_sld hn hS (by unfold rg; omega) (by omega) dL_law_153 ?_
  refine v_aload_n dL_law_154 1 rfl rfl ?_
  refine v_iload dL_law_155 5 rfl ?_
  refine v_iconst dL_law_157 ?_
  refine v_iadd dL_law_158 ?_
  rw [show w32 (i + 3) = i + 3 from w32_id (by unfold rg; omega)]
  refine v_sld hn hS (by unfold rg; omega) (by omega) dL_law_159 ?_
  refine v_aload_n dL_law_160 1 rfl rfl ?_
  refine v_iload dL_law_161 5 rfl ?_
  refine v_iconst dL_law_163 ?_
  refine v_iadd dL_law_164 ?_
  rw [show w32 (i + 4) = i + 4 from w32_id (by unfold rg; omega)]
  refine v_sld hn hS (by unfold rg; omega) (by omega) dL_law_165 ?_
  refine v_aload_n dL_law_166 1 rfl rfl ?_
  refine v_iload dL_law_167 5 rfl ?_
  refine v_iconst dL_law_169 ?_
  refine v_iadd dL_law_170 ?_
  rw [show w32 (i + 5) = i + 5 from w32_id (by unfold rg; omega)]
  refine v_sld hn hS (by unfold rg; omega) (by omega) dL_law_171 ?_
  refine v_callV (st := []) cf14 oc87 k2 (lw_V q2865 q2866 q2867 q311 q2868) rfl yk_X14_feed (by decide) trivial ⟨(Or.inr (by decide)), kc0, kc87, (kp_arr (by decide) g2), trivial⟩ (Nat.le_of_ble_eq_true rfl) rfl dL_law_172 ?_
  refine v_istore (L1 := [(6, vI b), (5, vI k), (0, vO 1200), (1, vO 0), (2, vO 87), (3, vO 198), (4, vI i)]) dL_law_175 (by decide) rfl ?_
  refine v_aload_n dL_law_177 4 rfl rfl ?_
  refine v_callV (st := []) cf14 oc87 k3 (lw_V q2861 q2862 q2863 q311 q2864) rfl yk_X14_thrown (by decide) trivial ⟨(Or.inr (by decide)), kc0, kc87, (kp_arr (by decide) g3.1), trivial⟩ (Nat.le_of_ble_eq_true rfl) rfl dL_law_178 ?_
  refine v_iload dL_law_181 1 rfl ?_
  refine v_icmp_eq (tgt := 188) dL_law_183 k3.1.2.2 k1.1.2.2 (by decide) (fun _ => ?_) (fun z => absurd g3.2 z)
  refine v_iload dL_law_188 1 rfl ?_
  have kend : VW code (R_law, some (vV (.long 0)), σo, ret, 8192, 104096, 7, []) (P0 []) s3 205 [(6, vI b), (5, vI k), (0, vO 1200), (1, vO 0), (2, vO 87), (3, vO 198), (4, vI i)] [] := by
    refine v_goto (tgt := 805) dL_law_205 (by decide) ?_
    refine v_sub [2, 3, 4, 5, 6] (L1 := [(0, vO 1200), (1, vO 0), (2, vO 87), (3, vO 198), (4, vI i)]) rfl ?_
    exact kk
  refine v_if_ne (tgt := 205) dL_law_190 k1.1.2.2 (by decide) (fun _ => kend) (fun z => ?_)
  have g4 := g4 z
  refine v_aload_n dL_law_193 5 rfl rfl ?_
  refine v_iconst dL_law_194 ?_
  refine v_lald oc198 (rgl rfl) g4.1.1 g4.1.2 dL_law_195 ?_
  refine v_iload dL_law_196 0 rfl ?_
  refine v_i2l dL_law_198 k2.1.2.2 ?_
  refine v_lcmp dL_law_199 (gEL_rg _ _ _) (rg_rgL k2.1.2.2) ?_
  refine v_if_eq (tgt := 205) dL_law_200 (cmp64_rg _ _) (by decide) (fun _ => kend) (fun z9 => absurd (by unfold cmp64; rw [g4.2, if_neg (by omega), if_pos rfl]) z9)
theorem w_law_end {n : Nat} {S : Int → Int} {i : Int} {s s9 σo : vS} (hn : (σo.2.1 1200).1 = n) (hS : (σo.2.1 1200).2 = S) (hr : ∀ j, rg (S j)) (h : law_end n S i s = some s9) (kk : VW code (R_law, some (vV (.long 0)), σo, ret, 8192, 104096, 7, []) (P0 []) s9 805 [(0, vO 1200), (1, vO 0), (2, vO 87), (3, vO 198), (4, vI i)] []) : VW code (R_law, some (vV (.long 0)), σo, ret, 8192, 104096, 7, []) (P0 []) s 208 [(0, vO 1200), (1, vO 0), (2, vO 87), (3, vO 198), (4, vI i)] [] := by
  unfold law_end at h
  obtain ⟨g0, h⟩ := gd_some h
  obtain ⟨k, s1, e1, h⟩ := bd_some h
  obtain ⟨g1, h⟩ := gd_some h
  obtain ⟨b, s2, e2, h⟩ := bd_some h
  obtain ⟨g2, h⟩ := gd_some h
  obtain ⟨t, s3, e3, h⟩ := bd_some h
  obtain ⟨g3, h⟩ := gd_some h
  obtain ⟨g4, h⟩ := gd_some h
  have h := Option.some.inj h
  subst h
  have k1 := c_X0_end e1 (hr _)
  have k2 := c_X14_end e2 (hr _)
  have k3 := c_X14_thrown e3
  refine v_aload_n dL_law_208 1 rfl rfl ?_
  refine v_aload_n dL_law_209 0 rfl rfl ?_
  refine v_iload dL_law_210 4 rfl ?_
  refine v_iconst dL_law_212 ?_
  refine v_iadd dL_law_213 ?_
  rw [show w32 (i + 1) = i + 1 from w32_id (by unfold rg; omega)]
  refine v_sld hn hS (by unfold rg; omega) (by omega) dL_law_214 ?_
  refine v_aload_n dL_law_215 3 rfl rfl ?_
  refine v_callSW (st := []) k1 (lw_SW q1013 q1014 q297 q1015) yk_X0_end (by decide) trivial ⟨(Or.inr (by decide)), kc0, kc87, (kp_arr (by decide) g1), trivial⟩ (Nat.le_of_ble_eq_true rfl) rfl dL_law_216 ?_
  refine v_istore (L1 := [(5, vI k), (0, vO 1200), (1, vO 0), (2, vO 87), (3, vO 198), (4, vI i)]) dL_law_219 (by decide) rfl ?_
  refine v_aload_n dL_law_221 3 rfl rfl ?_
  refine v_aload_n dL_law_222 1 rfl rfl ?_
  refine v_iload dL_law_223 5 rfl ?_
  refine v_iconst dL_law_225 ?_
  refine v_iadd dL_law_226 ?_
  rw [show w32 (i + 1) = i + 1 from w32_id (by unfold rg; omega)]
  refine v_sld hn hS (by unfold rg; omega) (by omega) dL_law_227 ?_
  refine v_callV (st := []) cf14 oc87 k2 (lw_V q2874 q2875 q2876 q311 q2877) rfl yk_X14_end (by decide) trivial ⟨(Or.inr (by decide)), kc0, kc87, (kp_arr (by decide) g2), trivial⟩ (Nat.le_of_ble_eq_true rfl) rfl dL_law_228 ?_
  refine v_istore (L1 := [(6, vI b), (5, vI k), (0, vO 1200), (1, vO 0), (2, vO 87), (3, vO 198), (4, vI i)]) dL_law_231 (by decide) rfl ?_
  refine v_aload_n dL_law_233 4 rfl rfl ?_
  refine v_callV (st := []) cf14 oc87 k3 (lw_V q2861 q2862 q2863 q311 q2864) rfl yk_X14_thrown (by decide) trivial ⟨(Or.inr (by decide)), kc0, kc87, (kp_arr (by decide) g3.1), trivial⟩ (Nat.le_of_ble_eq_true rfl) rfl dL_law_234 ?_
  refine v_iload dL_law_237 1 rfl ?_
  refine v_icmp_eq (tgt := 244) dL_law_239 k3.1.2.2 k1.1.2.2 (by decide) (fun _ => ?_) (fun z => absurd g3.2 z)
  refine v_iload dL_law_244 1 rfl ?_
  have kend : VW code (R_law, some (vV (.long 0)), σo, ret, 8192, 104096, 7, []) (P0 []) s3 261 [(6, vI b), (5, vI k), (0, vO 1200), (1, vO 0), (2, vO 87), (3, vO 198), (4, vI i)] [] := by
    refine v_goto (tgt := 805) dL_law_261 (by decide) ?_
    refine v_sub [2, 3, 4, 5, 6] (L1 := [(0, vO 1200), (1, vO 0), (2, vO 87), (3, vO 198), (4, vI i)]) rfl ?_
    exact kk
  refine v_if_ne (tgt := 261) dL_law_246 k1.1.2.2 (by decide) (fun _ => kend) (fun z => ?_)
  have g4 := g4 z
  refine v_aload_n dL_law_249 5 rfl rfl ?_
  refine v_iconst dL_law_250 ?_
  refine v_lald oc198 (rgl rfl) g4.1.1 g4.1.2 dL_law_251 ?_
  refine v_iload dL_law_252 0 rfl ?_
  refine v_i2l dL_law_254 k2.1.2.2 ?_
  refine v_lcmp dL_law_255 (gEL_rg _ _ _) (rg_rgL k2.1.2.2) ?_
  refine v_if_eq (tgt := 261) dL_law_256 (cmp64_rg _ _) (by decide) (fun _ => kend) (fun z9 => absurd (by unfold cmp64; rw [g4.2, if_neg (by omega), if_pos rfl]) z9)
theorem w_law_compile {n : Nat} {S : Int → Int} {i : Int} {s s9 σo : vS} (hn : (σo.2.1 1200).1 = n) (hS : (σo.2.1 1200).2 = S) (hr : ∀ j, rg (S j)) (h : law_compile n S i s = some s9) (kk : VW code (R_law, some (vV (.long 0)), σo, ret, 8192, 104096, 7, []) (P0 []) s9 805 [(0, vO 1200), (1, vO 0), (2, vO 87), (3, vO 198), (4, vI i)] []) : VW code (R_law, some (vV (.long 0)), σo, ret, 8192, 104096, 7, []) (P0 []) s 264 [(0, vO 1200), (1, vO 0), (2, vO 87), (3, vO 198), (4, vI i)] [] := by
  unfold law_compile at h
  obtain ⟨g0, h⟩ := gd_some h
  obtain ⟨k, s1, e1, h⟩ := bd_some h
  obtain ⟨g1, h⟩ := gd_some h
  obtain ⟨b, s2, e2, h⟩ := bd_some h
  obtain ⟨g2, h⟩ := gd_some h
  obtain ⟨t, s3, e3, h⟩ := bd_some h
  obtain ⟨g3, h⟩ := gd_some h
  obtain ⟨g4, h⟩ := gd_some h
  have h := Option.some.inj h
  subst h
  have k1 := c_X0_compile e1 
  have k2 := c_X14_compile e2 
  have k3 := c_X14_thrown e3
  refine v_aload_n dL_law_264 1 rfl rfl ?_
  refine v_aload_n dL_law_265 3 rfl rfl ?_
  refine v_callSW (st := []) k1 (lw_SW q1043 q1044 q297 q1045) yk_X0_compile (by decide) trivial ⟨(Or.inr (by decide)), kc0, kc87, (kp_arr (by decide) g1), trivial⟩ (Nat.le_of_ble_eq_true rfl) rfl dL_law_266 ?_
  refine v_istore (L1 := [(5, vI k), (0, vO 1200), (1, vO 0), (2, vO 87), (3, vO 198), (4, vI i)]) dL_law_269 (by decide) rfl ?_
  refine v_aload_n dL_law_271 3 rfl rfl ?_
  refine v_callV (st := []) cf14 oc87 k2 (lw_V q2881 q2882 q2883 q311 q2884) rfl yk_X14_compile (by decide) trivial ⟨(Or.inr (by decide)), kc0, kc87, (kp_arr (by decide) g2), trivial⟩ (Nat.le_of_ble_eq_true rfl) rfl dL_law_272 ?_
  refine v_istore (L1 := [(6, vI b), (5, vI k), (0, vO 1200), (1, vO 0), (2, vO 87), (3, vO 198), (4, vI i)]) dL_law_275 (by decide) rfl ?_
  refine v_aload_n dL_law_277 4 rfl rfl ?_
  refine v_callV (st := []) cf14 oc87 k3 (lw_V q2861 q2862 q2863 q311 q2864) rfl yk_X14_thrown (by decide) trivial ⟨(Or.inr (by decide)), kc0, kc87, (kp_arr (by decide) g3.1), trivial⟩ (Nat.le_of_ble_eq_true rfl) rfl dL_law_278 ?_
  refine v_iload dL_law_281 1 rfl ?_
  refine v_icmp_eq (tgt := 288) dL_law_283 k3.1.2.2 k1.1.2.2 (by decide) (fun _ => ?_) (fun z => absurd g3.2 z)
  refine v_iload dL_law_288 1 rfl ?_
  have kend : VW code (R_law, some (vV (.long 0)), σo, ret, 8192, 104096, 7, []) (P0 []) s3 305 [(6, vI b), (5, vI k), (0, vO 1200), (1, vO 0), (2, vO 87), (3, vO 198), (4, vI i)] [] := by
    refine v_goto (tgt := 805) dL_law_305 (by decide) ?_
    refine v_sub [2, 3, 4, 5, 6] (L1 := [(0, vO 1200), (1, vO 0), (2, vO 87), (3, vO 198), (4, vI i)]) rfl ?_
    exact kk
  refine v_if_ne (tgt := 305) dL_law_290 k1.1.2.2 (by decide) (fun _ => kend) (fun z => ?_)
  have g4 := g4 z
  refine v_aload_n dL_law_293 5 rfl rfl ?_
  refine v_iconst dL_law_294 ?_
  refine v_lald oc198 (rgl rfl) g4.1.1 g4.1.2 dL_law_295 ?_
  refine v_iload dL_law_296 0 rfl ?_
  refine v_i2l dL_law_298 k2.1.2.2 ?_
  refine v_lcmp dL_law_299 (gEL_rg _ _ _) (rg_rgL k2.1.2.2) ?_
  refine v_if_eq (tgt := 305) dL_law_300 (cmp64_rg _ _) (by decide) (fun _ => kend) (fun z9 => absurd (by unfold cmp64; rw [g4.2, if_neg (by omega), if_pos rfl]) z9)
theorem w_law_fault {n : Nat} {S : Int → Int} {i : Int} {s s9 σo : vS} (hn : (σo.2.1 1200).1 = n) (hS : (σo.2.1 1200).2 = S) (hr : ∀ j, rg (S j)) (h : law_fault n S i s = some s9) (kk : VW code (R_law, some (vV (.long 0)), σo, ret, 8192, 104096, 7, []) (P0 []) s9 805 [(0, vO 1200), (1, vO 0), (2, vO 87), (3, vO 198), (4, vI i)] []) : VW code (R_law, some (vV (.long 0)), σo, ret, 8192, 104096, 7, []) (P0 []) s 308 [(0, vO 1200), (1, vO 0), (2, vO 87), (3, vO 198), (4, vI i)] [] := by
  unfold law_fault at h
  obtain ⟨g0, h⟩ := gd_some h
  obtain ⟨k, s1, e1, h⟩ := bd_some h
  obtain ⟨g1, h⟩ := gd_some h
  obtain ⟨b, s2, e2, h⟩ := bd_some h
  obtain ⟨g2, h⟩ := gd_some h
  obtain ⟨t, s3, e3, h⟩ := bd_some h
  obtain ⟨g3, h⟩ := gd_some h
  obtain ⟨g4, h⟩ := gd_some h
  have h := Option.some.inj h
  subst h
  have k1 := c_X0_fault e1 (hr _)
  have k2 := c_X14_fault e2 (hr _)
  have k3 := c_X14_thrown e3
  refine v_aload_n dL_law_308 1 rfl rfl ?_
  refine v_aload_n dL_law_309 0 rfl rfl ?_
  refine v_iload dL_law_310 4 rfl ?_
  refine v_iconst dL_law_312 ?_
  refine v_iadd dL_law_313 ?_
  rw [show w32 (i + 1) = i + 1 from w32_id (by unfold rg; omega)]
  refine v_sld hn hS (by unfold rg; omega) (by omega) dL_law_314 ?_
  refine v_aload_n dL_law_315 3 rfl rfl ?_
  refine v_callSW (st := []) k1 (lw_SW q1946 q1947 q297 q1948) yk_X0_fault (by decide) trivial ⟨(Or.inr (by decide)), kc0, kc87, (kp_arr (by decide) g1), trivial⟩ (Nat.le_of_ble_eq_true rfl) rfl dL_law_316 ?_
  refine v_istore (L1 := [(5, vI k), (0, vO 1200), (1, vO 0), (2, vO 87), (3, vO 198), (4, vI i)]) dL_law_319 (by decide) rfl ?_
  refine v_aload_n dL_law_321 3 rfl rfl ?_
  refine v_aload_n dL_law_322 1 rfl rfl ?_
  refine v_iload dL_law_323 5 rfl ?_
  refine v_iconst dL_law_325 ?_
  refine v_iadd dL_law_326 ?_
  rw [show w32 (i + 1) = i + 1 from w32_id (by unfold rg; omega)]
  refine v_sld hn hS (by unfold rg; omega) (by omega) dL_law_327 ?_
  refine v_callV (st := []) cf14 oc87 k2 (lw_V q3346 q3347 q3348 q311 q3349) rfl yk_X14_fault (by decide) trivial ⟨(Or.inr (by decide)), kc0, kc87, (kp_arr (by decide) g2), trivial⟩ (Nat.le_of_ble_eq_true rfl) rfl dL_law_328 ?_
  refine v_istore (L1 := [(6, vI b), (5, vI k), (0, vO 1200), (1, vO 0), (2, vO 87), (3, vO 198), (4, vI i)]) dL_law_331 (by decide) rfl ?_
  refine v_aload_n dL_law_333 4 rfl rfl ?_
  refine v_callV (st := []) cf14 oc87 k3 (lw_V q2861 q2862 q2863 q311 q2864) rfl yk_X14_thrown (by decide) trivial ⟨(Or.inr (by decide)), kc0, kc87, (kp_arr (by decide) g3.1), trivial⟩ (Nat.le_of_ble_eq_true rfl) rfl dL_law_334 ?_
  refine v_iload dL_law_337 1 rfl ?_
  refine v_icmp_eq (tgt := 344) dL_law_339 k3.1.2.2 k1.1.2.2 (by decide) (fun _ => ?_) (fun z => absurd g3.2 z)
  refine v_iload dL_law_344 1 rfl ?_
  have kend : VW code (R_law, some (vV (.long 0)), σo, ret, 8192, 104096, 7, []) (P0 []) s3 361 [(6, vI b), (5, vI k), (0, vO 1200), (1, vO 0), (2, vO 87), (3, vO 198), (4, vI i)] [] := by
    refine v_goto (tgt := 805) dL_law_361 (by decide) ?_
    refine v_sub [2, 3, 4, 5, 6] (L1 := [(0, vO 1200), (1, vO 0), (2, vO 87), (3, vO 198), (4, vI i)]) rfl ?_
    exact kk
  refine v_if_ne (tgt := 361) dL_law_346 k1.1.2.2 (by decide) (fun _ => kend) (fun z => ?_)
  have g4 := g4 z
  refine v_aload_n dL_law_349 5 rfl rfl ?_
  refine v_iconst dL_law_350 ?_
  refine v_lald oc198 (rgl rfl) g4.1.1 g4.1.2 dL_law_351 ?_
  refine v_iload dL_law_352 0 rfl ?_
  refine v_i2l dL_law_354 k2.1.2.2 ?_
  refine v_lcmp dL_law_355 (gEL_rg _ _ _) (rg_rgL k2.1.2.2) ?_
  refine v_if_eq (tgt := 361) dL_law_356 (cmp64_rg _ _) (by decide) (fun _ => kend) (fun z9 => absurd (by unfold cmp64; rw [g4.2, if_neg (by omega), if_pos rfl]) z9)
theorem w_law_type {n : Nat} {S : Int → Int} {i : Int} {s s9 σo : vS} (hn : (σo.2.1 1200).1 = n) (hS : (σo.2.1 1200).2 = S) (hr : ∀ j, rg (S j)) (h : law_type n S i s = some s9) (kk : VW code (R_law, some (vV (.long 0)), σo, ret, 8192, 104096, 7, []) (P0 []) s9 805 [(0, vO 1200), (1, vO 0), (2, vO 87), (3, vO 198), (4, vI i)] []) : VW code (R_law, some (vV (.long 0)), σo, ret, 8192, 104096, 7, []) (P0 []) s 364 [(0, vO 1200), (1, vO 0), (2, vO 87), (3, vO 198), (4, vI i)] [] := by
  unfold law_type at h
  obtain ⟨g0, h⟩ := gd_some h
  obtain ⟨k, s1, e1, h⟩ := bd_some h
  obtain ⟨g1, h⟩ := gd_some h
  obtain ⟨b, s2, e2, h⟩ := bd_some h
  obtain ⟨g2, h⟩ := gd_some h
  obtain ⟨t, s3, e3, h⟩ := bd_some h
  obtain ⟨g3, h⟩ := gd_some h
  obtain ⟨g4, h⟩ := gd_some h
  have h := Option.some.inj h
  subst h
  have k1 := c_X0_type e1 (hr _) (hr _)
  have k2 := c_X14_type e2 (hr _) (hr _)
  have k3 := c_X14_thrown e3
  refine v_aload_n dL_law_364 1 rfl rfl ?_
  refine v_aload_n dL_law_365 0 rfl rfl ?_
  refine v_iload dL_law_366 4 rfl ?_
  refine v_iconst dL_law_368 ?_
  refine v_iadd dL_law_369 ?_
  rw [show w32 (i + 1) = i + 1 from w32_id (by unfold rg; omega)]
  refine v_sld hn hS (by unfold rg; omega) (by omega) dL_law_370 ?_
  refine v_aload_n dL_law_371 0 rfl rfl ?_
  refine v_iload dL_law_372 4 rfl ?_
  refine v_iconst dL_law_374 ?_
  refine v_iadd dL_law_375 ?_
  rw [show w32 (i + 2) = i + 2 from w32_id (by unfold rg; omega)]
  refine v_sld hn hS (by unfold rg; omega) (by omega) dL_law_376 ?_
  refine v_aload_n dL_law_377 3 rfl rfl ?_
  refine v_callSW (st := []) k1 (lw_SW q2003 q2004 q297 q2005) yk_X0_type (by decide) trivial ⟨(Or.inr (by decide)), kc0, kc87, (kp_arr (by decide) g1), trivial⟩ (Nat.le_of_ble_eq_true rfl) rfl dL_law_378 ?_
  refine v_istore (L1 := [(5, vI k), (0, vO 1200), (1, vO 0), (2, vO 87), (3, vO 198), (4, vI i)]) dL_law_381 (by decide) rfl ?_
  refine v_aload_n dL_law_383 3 rfl rfl ?_
  refine v_aload_n dL_law_384 1 rfl rfl ?_
  refine v_iload dL_law_385 5 rfl ?_
  refine v_iconst dL_law_387 ?_
  refine v_iadd dL_law_388 ?_
  rw [show w32 (i + 1) = i + 1 from w32_id (by unfold rg; omega)]
  refine v_sld hn hS (by unfold rg; omega) (by omega) dL_law_389 ?_
  refine v_aload_n dL_law_390 1 rfl rfl ?_
  refine v_iload dL_law_391 5 rfl ?_
  refine v_iconst dL_law_393 ?_
  refine v_iadd dL_law_394 ?_
  rw [show w32 (i + 2) = i + 2 from w32_id (by unfold rg; omega)]
  refine v_sld hn hS (by unfold rg; omega) (by omega) dL_law_395 ?_
  refine v_callV (st := []) cf14 oc87 k2 (lw_V q3350 q3351 q3352 q311 q3353) rfl yk_X14_type (by decide) trivial ⟨(Or.inr (by decide)), kc0, kc87, (kp_arr (by decide) g2), trivial⟩ (Nat.le_of_ble_eq_true rfl) rfl dL_law_396 ?_
  refine v_istore (L1 := [(6, vI b), (5, vI k), (0, vO 1200), (1, vO 0), (2, vO 87), (3, vO 198), (4, vI i)]) dL_law_399 (by decide) rfl ?_
  refine v_aload_n dL_law_401 4 rfl rfl ?_
  refine v_callV (st := []) cf14 oc87 k3 (lw_V q2861 q2862 q2863 q311 q2864) rfl yk_X14_thrown (by decide) trivial ⟨(Or.inr (by decide)), kc0, kc87, (kp_arr (by decide) g3.1), trivial⟩ (Nat.le_of_ble_eq_true rfl) rfl dL_law_402 ?_
  refine v_iload dL_law_405 1 rfl ?_
  refine v_icmp_eq (tgt := 412) dL_law_407 k3.1.2.2 k1.1.2.2 (by decide) (fun _ => ?_) (fun z => absurd g3.2 z)
  refine v_iload dL_law_412 1 rfl ?_
  have kend : VW code (R_law, some (vV (.long 0)), σo, ret, 8192, 104096, 7, []) (P0 []) s3 429 [(6, vI b), (5, vI k), (0, vO 1200), (1, vO 0), (2, vO 87), (3, vO 198), (4, vI i)] [] := by
    refine v_goto (tgt := 805) dL_law_429 (by decide) ?_
    refine v_sub [2, 3, 4, 5, 6] (L1 := [(0, vO 1200), (1, vO 0), (2, vO 87), (3, vO 198), (4, vI i)]) rfl ?_
    exact kk
  refine v_if_ne (tgt := 429) dL_law_414 k1.1.2.2 (by decide) (fun _ => kend) (fun z => ?_)
  have g4 := g4 z
  refine v_aload_n dL_law_417 5 rfl rfl ?_
  refine v_iconst dL_law_418 ?_
  refine v_lald oc198 (rgl rfl) g4.1.1 g4.1.2 dL_law_419 ?_
  refine v_iload dL_law_420 0 rfl ?_
  refine v_i2l dL_law_422 k2.1.2.2 ?_
  refine v_lcmp dL_law_423 (gEL_rg _ _ _) (rg_rgL k2.1.2.2) ?_
  refine v_if_eq (tgt := 429) dL_law_424 (cmp64_rg _ _) (by decide) (fun _ => kend) (fun z9 => absurd (by unfold cmp64; rw [g4.2, if_neg (by omega), if_pos rfl]) z9)
theorem w_law_name {n : Nat} {S : Int → Int} {i : Int} {s s9 σo : vS} (hn : (σo.2.1 1200).1 = n) (hS : (σo.2.1 1200).2 = S) (hr : ∀ j, rg (S j)) (h : law_name n S i s = some s9) (kk : VW code (R_law, some (vV (.long 0)), σo, ret, 8192, 104096, 7, []) (P0 []) s9 805 [(0, vO 1200), (1, vO 0), (2, vO 87), (3, vO 198), (4, vI i)] []) : VW code (R_law, some (vV (.long 0)), σo, ret, 8192, 104096, 7, []) (P0 []) s 432 [(0, vO 1200), (1, vO 0), (2, vO 87), (3, vO 198), (4, vI i)] [] := by
  unfold law_name at h
  obtain ⟨g0, h⟩ := gd_some h
  obtain ⟨k, s1, e1, h⟩ := bd_some h
  obtain ⟨g1, h⟩ := gd_some h
  obtain ⟨b, s2, e2, h⟩ := bd_some h
  obtain ⟨g2, h⟩ := gd_some h
  obtain ⟨t, s3, e3, h⟩ := bd_some h
  obtain ⟨g3, h⟩ := gd_some h
  obtain ⟨g4, h⟩ := gd_some h
  have h := Option.some.inj h
  subst h
  have k1 := c_X0_name e1 (hr _) (hr _)
  have k2 := c_X14_name e2 (hr _) (hr _)
  have k3 := c_X14_thrown e3
  refine v_aload_n dL_law_432 1 rfl rfl ?_
  refine v_aload_n dL_law_433 0 rfl rfl ?_
  refine v_iload dL_law_434 4 rfl ?_
  refine v_iconst dL_law_436 ?_
  refine v_iadd dL_law_437 ?_
  rw [show w32 (i + 1) = i + 1 from w32_id (by unfold rg; omega)]
  refine v_sld hn hS (by unfold rg; omega) (by omega) dL_law_438 ?_
  refine v_aload_n dL_law_439 0 rfl rfl ?_
  refine v_iload dL_law_440 4 rfl ?_
  refine v_iconst dL_law_442 ?_
  refine v_iadd dL_law_443 ?_
  rw [show w32 (i + 2) = i + 2 from w32_id (by unfold rg; omega)]
  refine v_sld hn hS (by unfold rg; omega) (by omega) dL_law_444 ?_
  refine v_aload_n dL_law_445 3 rfl rfl ?_
  refine v_callSW (st := []) k1 (lw_SW q2037 q2038 q297 q2039) yk_X0_name (by decide) trivial ⟨(Or.inr (by decide)), kc0, kc87, (kp_arr (by decide) g1), trivial⟩ (Nat.le_of_ble_eq_true rfl) rfl dL_law_446 ?_
  refine v_istore (L1 := [(5, vI k), (0, vO 1200), (1, vO 0), (2, vO 87), (3, vO 198), (4, vI i)]) dL_law_449 (by decide) rfl ?_
  refine v_aload_n dL_law_451 3 rfl rfl ?_
  refine v_aload_n dL_law_452 1 rfl rfl ?_
  refine v_iload dL_law_453 5 rfl ?_
  refine v_iconst dL_law_455 ?_
  refine v_iadd dL_law_456 ?_
  rw [show w32 (i + 1) = i + 1 from w32_id (by unfold rg; omega)]
  refine v_sld hn hS (by unfold rg; omega) (by omega) dL_law_457 ?_
  refine v_aload_n dL_law_458 1 rfl rfl ?_
  refine v_iload dL_law_459 5 rfl ?_
  refine v_iconst dL_law_461 ?_
  refine v_iadd dL_law_462 ?_
  rw [show w32 (i + 2) = i + 2 from w32_id (by unfold rg; omega)]
  refine v_sld hn hS (by unfold rg; omega) (by omega) dL_law_463 ?_
  refine v_callV (st := []) cf14 oc87 k2 (lw_V q3358 q3359 q3360 q311 q3361) rfl yk_X14_name (by decide) trivial ⟨(Or.inr (by decide)), kc0, kc87, (kp_arr (by decide) g2), trivial⟩ (Nat.le_of_ble_eq_true rfl) rfl dL_law_464 ?_
  refine v_istore (L1 := [(6, vI b), (5, vI k), (0, vO 1200), (1, vO 0), (2, vO 87), (3, vO 198), (4, vI i)]) dL_law_467 (by decide) rfl ?_
  refine v_aload_n dL_law_469 4 rfl rfl ?_
  refine v_callV (st := []) cf14 oc87 k3 (lw_V q2861 q2862 q2863 q311 q2864) rfl yk_X14_thrown (by decide) trivial ⟨(Or.inr (by decide)), kc0, kc87, (kp_arr (by decide) g3.1), trivial⟩ (Nat.le_of_ble_eq_true rfl) rfl dL_law_470 ?_
  refine v_iload dL_law_473 1 rfl ?_
  refine v_icmp_eq (tgt := 480) dL_law_475 k3.1.2.2 k1.1.2.2 (by decide) (fun _ => ?_) (fun z => absurd g3.2 z)
  refine v_iload dL_law_480 1 rfl ?_
  have kend : VW code (R_law, some (vV (.long 0)), σo, ret, 8192, 104096, 7, []) (P0 []) s3 497 [(6, vI b), (5, vI k), (0, vO 1200), (1, vO 0), (2, vO 87), (3, vO 198), (4, vI i)] [] := by
    refine v_goto (tgt := 805) dL_law_497 (by decide) ?_
    refine v_sub [2, 3, 4, 5, 6] (L1 := [(0, vO 1200), (1, vO 0), (2, vO 87), (3, vO 198), (4, vI i)]) rfl ?_
    exact kk
  refine v_if_ne (tgt := 497) dL_law_482 k1.1.2.2 (by decide) (fun _ => kend) (fun z => ?_)
  have g4 := g4 z
  refine v_aload_n dL_law_485 5 rfl rfl ?_
  refine v_iconst dL_law_486 ?_
  refine v_lald oc198 (rgl rfl) g4.1.1 g4.1.2 dL_law_487 ?_
  refine v_iload dL_law_488 0 rfl ?_
  refine v_i2l dL_law_490 k2.1.2.2 ?_
  refine v_lcmp dL_law_491 (gEL_rg _ _ _) (rg_rgL k2.1.2.2) ?_
  refine v_if_eq (tgt := 497) dL_law_492 (cmp64_rg _ _) (by decide) (fun _ => kend) (fun z9 => absurd (by unfold cmp64; rw [g4.2, if_neg (by omega), if_pos rfl]) z9)
theorem w_law_defaultSize {n : Nat} {S : Int → Int} {i : Int} {s s9 σo : vS} (hn : (σo.2.1 1200).1 = n) (hS : (σo.2.1 1200).2 = S) (hr : ∀ j, rg (S j)) (h : law_defaultSize n S i s = some s9) (kk : VW code (R_law, some (vV (.long 0)), σo, ret, 8192, 104096, 7, []) (P0 []) s9 805 [(0, vO 1200), (1, vO 0), (2, vO 87), (3, vO 198), (4, vI i)] []) : VW code (R_law, some (vV (.long 0)), σo, ret, 8192, 104096, 7, []) (P0 []) s 500 [(0, vO 1200), (1, vO 0), (2, vO 87), (3, vO 198), (4, vI i)] [] := by
  unfold law_defaultSize at h
  obtain ⟨g0, h⟩ := gd_some h
  obtain ⟨k, s1, e1, h⟩ := bd_some h
  obtain ⟨g1, h⟩ := gd_some h
  obtain ⟨b, s2, e2, h⟩ := bd_some h
  obtain ⟨g2, h⟩ := gd_some h
  obtain ⟨t, s3, e3, h⟩ := bd_some h
  obtain ⟨g3, h⟩ := gd_some h
  obtain ⟨g4, h⟩ := gd_some h
  have h := Option.some.inj h
  subst h
  have k1 := c_X0_defaultSize e1 (hr _) (hr _)
  have k2 := c_X14_defaultSize e2 (hr _) (hr _)
  have k3 := c_X14_thrown e3
  refine v_aload_n dL_law_500 1 rfl rfl ?_
  refine v_aload_n dL_law_501 0 rfl rfl ?_
  refine v_iload dL_law_502 4 rfl ?_
  refine v_iconst dL_law_504 ?_
  refine v_iadd dL_law_505 ?_
  rw [show w32 (i + 1) = i + 1 from w32_id (by unfold rg; omega)]
  refine v_sld hn hS (by unfold rg; omega) (by omega) dL_law_506 ?_
  refine v_aload_n dL_law_507 0 rfl rfl ?_
  refine v_iload dL_law_508 4 rfl ?_
  refine v_iconst dL_law_510 ?_
  refine v_iadd dL_law_511 ?_
  rw [show w32 (i + 2) = i + 2 from w32_id (by unfold rg; omega)]
  refine v_sld hn hS (by unfold rg; omega) (by omega) dL_law_512 ?_
  refine v_aload_n dL_law_513 3 rfl rfl ?_
  refine v_callSW (st := []) k1 (lw_SW q2045 q2046 q297 q2047) yk_X0_defaultSize (by decide) trivial ⟨(Or.inr (by decide)), kc0, kc87, (kp_arr (by decide) g1), trivial⟩ (Nat.le_of_ble_eq_true rfl) rfl dL_law_514 ?_
  refine v_istore (L1 := [(5, vI k), (0, vO 1200), (1, vO 0), (2, vO 87), (3, vO 198), (4, vI i)]) dL_law_517 (by decide) rfl ?_
  refine v_aload_n dL_law_519 3 rfl rfl ?_
  refine v_aload_n dL_law_520 1 rfl rfl ?_
  refine v_iload dL_law_521 5 rfl ?_
  refine v_iconst dL_law_523 ?_
  refine v_iadd dL_law_524 ?_
  rw [show w32 (i + 1) = i + 1 from w32_id (by unfold rg; omega)]
  refine v_sld hn hS (by unfold rg; omega) (by omega) dL_law_525 ?_
  refine v_aload_n dL_law_526 1 rfl rfl ?_
  refine v_iload dL_law_527 5 rfl ?_
  refine v_iconst dL_law_529 ?_
  refine v_iadd dL_law_530 ?_
  rw [show w32 (i + 2) = i + 2 from w32_id (by unfold rg; omega)]
  refine v_sld hn hS (by unfold rg; omega) (by omega) dL_law_531 ?_
  refine v_callV (st := []) cf14 oc87 k2 (lw_V q3362 q3363 q3364 q311 q3365) rfl yk_X14_defaultSize (by decide) trivial ⟨(Or.inr (by decide)), kc0, kc87, (kp_arr (by decide) g2), trivial⟩ (Nat.le_of_ble_eq_true rfl) rfl dL_law_532 ?_
  refine v_istore (L1 := [(6, vI b), (5, vI k), (0, vO 1200), (1, vO 0), (2, vO 87), (3, vO 198), (4, vI i)]) dL_law_535 (by decide) rfl ?_
  refine v_aload_n dL_law_537 4 rfl rfl ?_
  refine v_callV (st := []) cf14 oc87 k3 (lw_V q2861 q2862 q2863 q311 q2864) rfl yk_X14_thrown (by decide) trivial ⟨(Or.inr (by decide)), kc0, kc87, (kp_arr (by decide) g3.1), trivial⟩ (Nat.le_of_ble_eq_true rfl) rfl dL_law_538 ?_
  refine v_iload dL_law_541 1 rfl ?_
  refine v_icmp_eq (tgt := 548) dL_law_543 k3.1.2.2 k1.1.2.2 (by decide) (fun _ => ?_) (fun z => absurd g3.2 z)
  refine v_iload dL_law_548 1 rfl ?_
  have kend : VW code (R_law, some (vV (.long 0)), σo, ret, 8192, 104096, 7, []) (P0 []) s3 565 [(6, vI b), (5, vI k), (0, vO 1200), (1, vO 0), (2, vO 87), (3, vO 198), (4, vI i)] [] := by
    refine v_goto (tgt := 805) dL_law_565 (by decide) ?_
    refine v_sub [2, 3, 4, 5, 6] (L1 := [(0, vO 1200), (1, vO 0), (2, vO 87), (3, vO 198), (4, vI i)]) rfl ?_
    exact kk
  refine v_if_ne (tgt := 565) dL_law_550 k1.1.2.2 (by decide) (fun _ => kend) (fun z => ?_)
  have g4 := g4 z
  refine v_aload_n dL_law_553 5 rfl rfl ?_
  refine v_iconst dL_law_554 ?_
  refine v_lald oc198 (rgl rfl) g4.1.1 g4.1.2 dL_law_555 ?_
  refine v_iload dL_law_556 0 rfl ?_
  refine v_i2l dL_law_558 k2.1.2.2 ?_
  refine v_lcmp dL_law_559 (gEL_rg _ _ _) (rg_rgL k2.1.2.2) ?_
  refine v_if_eq (tgt := 565) dL_law_560 (cmp64_rg _ _) (by decide) (fun _ => kend) (fun z9 => absurd (by unfold cmp64; rw [g4.2, if_neg (by omega), if_pos rfl]) z9)
theorem w_law_limit {n : Nat} {S : Int → Int} {i : Int} {s s9 σo : vS} (hn : (σo.2.1 1200).1 = n) (hS : (σo.2.1 1200).2 = S) (hr : ∀ j, rg (S j)) (h : law_limit n S i s = some s9) (kk : VW code (R_law, some (vV (.long 0)), σo, ret, 8192, 104096, 7, []) (P0 []) s9 805 [(0, vO 1200), (1, vO 0), (2, vO 87), (3, vO 198), (4, vI i)] []) : VW code (R_law, some (vV (.long 0)), σo, ret, 8192, 104096, 7, []) (P0 []) s 568 [(0, vO 1200), (1, vO 0), (2, vO 87), (3, vO 198), (4, vI i)] [] := by
  unfold law_limit at h
  obtain ⟨g0, h⟩ := gd_some h
  obtain ⟨k, s1, e1, h⟩ := bd_some h
  obtain ⟨g1, h⟩ := gd_some h
  obtain ⟨b, s2, e2, h⟩ := bd_some h
  obtain ⟨g2, h⟩ := gd_some h
  obtain ⟨t, s3, e3, h⟩ := bd_some h
  obtain ⟨g3, h⟩ := gd_some h
  obtain ⟨g4, h⟩ := gd_some h
  have h := Option.some.inj h
  subst h
  have k1 := c_X0_limit e1 (hr _)
  have k2 := c_X14_limit e2 (hr _)
  have k3 := c_X14_thrown e3
  refine v_aload_n dL_law_568 1 rfl rfl ?_
  refine v_aload_n dL_law_569 0 rfl rfl ?_
  refine v_iload dL_law_570 4 rfl ?_
  refine v_iconst dL_law_572 ?_
  refine v_iadd dL_law_573 ?_
  rw [show w32 (i + 1) = i + 1 from w32_id (by unfold rg; omega)]
  refine v_sld hn hS (by unfold rg; omega) (by omega) dL_law_574 ?_
  refine v_aload_n dL_law_575 3 rfl rfl ?_
  refine v_callSW (st := []) k1 (lw_SW q2061 q2062 q297 q2063) yk_X0_limit (by decide) trivial ⟨(Or.inr (by decide)), kc0, kc87, (kp_arr (by decide) g1), trivial⟩ (Nat.le_of_ble_eq_true rfl) rfl dL_law_576 ?_
  refine v_istore (L1 := [(5, vI k), (0, vO 1200), (1, vO 0), (2, vO 87), (3, vO 198), (4, vI i)]) dL_law_579 (by decide) rfl ?_
  refine v_aload_n dL_law_581 3 rfl rfl ?_
  refine v_aload_n dL_law_582 1 rfl rfl ?_
  refine v_iload dL_law_583 5 rfl ?_
  refine v_iconst dL_law_585 ?_
  refine v_iadd dL_law_586 ?_
  rw [show w32 (i + 1) = i + 1 from w32_id (by unfold rg; omega)]
  refine v_sld hn hS (by unfold rg; omega) (by omega) dL_law_587 ?_
  refine v_callV (st := []) cf14 oc87 k2 (lw_V q3366 q3367 q3368 q311 q3369) rfl yk_X14_limit (by decide) trivial ⟨(Or.inr (by decide)), kc0, kc87, (kp_arr (by decide) g2), trivial⟩ (Nat.le_of_ble_eq_true rfl) rfl dL_law_588 ?_
  refine v_istore (L1 := [(6, vI b), (5, vI k), (0, vO 1200), (1, vO 0), (2, vO 87), (3, vO 198), (4, vI i)]) dL_law_591 (by decide) rfl ?_
  refine v_aload_n dL_law_593 4 rfl rfl ?_
  refine v_callV (st := []) cf14 oc87 k3 (lw_V q2861 q2862 q2863 q311 q2864) rfl yk_X14_thrown (by decide) trivial ⟨(Or.inr (by decide)), kc0, kc87, (kp_arr (by decide) g3.1), trivial⟩ (Nat.le_of_ble_eq_true rfl) rfl dL_law_594 ?_
  refine v_iload dL_law_597 1 rfl ?_
  refine v_icmp_eq (tgt := 604) dL_law_599 k3.1.2.2 k1.1.2.2 (by decide) (fun _ => ?_) (fun z => absurd g3.2 z)
  refine v_iload dL_law_604 1 rfl ?_
  have kend : VW code (R_law, some (vV (.long 0)), σo, ret, 8192, 104096, 7, []) (P0 []) s3 621 [(6, vI b), (5, vI k), (0, vO 1200), (1, vO 0), (2, vO 87), (3, vO 198), (4, vI i)] [] := by
    refine v_goto (tgt := 805) dL_law_621 (by decide) ?_
    refine v_sub [2, 3, 4, 5, 6] (L1 := [(0, vO 1200), (1, vO 0), (2, vO 87), (3, vO 198), (4, vI i)]) rfl ?_
    exact kk
  refine v_if_ne (tgt := 621) dL_law_606 k1.1.2.2 (by decide) (fun _ => kend) (fun z => ?_)
  have g4 := g4 z
  refine v_aload_n dL_law_609 5 rfl rfl ?_
  refine v_iconst dL_law_610 ?_
  refine v_lald oc198 (rgl rfl) g4.1.1 g4.1.2 dL_law_611 ?_
  refine v_iload dL_law_612 0 rfl ?_
  refine v_i2l dL_law_614 k2.1.2.2 ?_
  refine v_lcmp dL_law_615 (gEL_rg _ _ _) (rg_rgL k2.1.2.2) ?_
  refine v_if_eq (tgt := 621) dL_law_616 (cmp64_rg _ _) (by decide) (fun _ => kend) (fun z9 => absurd (by unfold cmp64; rw [g4.2, if_neg (by omega), if_pos rfl]) z9)
theorem w_law_transcode {n : Nat} {S : Int → Int} {i : Int} {s s9 σo : vS} (hn : (σo.2.1 1200).1 = n) (hS : (σo.2.1 1200).2 = S) (hr : ∀ j, rg (S j)) (h : law_transcode n S i s = some s9) (kk : VW code (R_law, some (vV (.long 0)), σo, ret, 8192, 104096, 7, []) (P0 []) s9 805 [(0, vO 1200), (1, vO 0), (2, vO 87), (3, vO 198), (4, vI i)] []) : VW code (R_law, some (vV (.long 0)), σo, ret, 8192, 104096, 7, []) (P0 []) s 624 [(0, vO 1200), (1, vO 0), (2, vO 87), (3, vO 198), (4, vI i)] [] := by
  unfold law_transcode at h
  obtain ⟨g0, h⟩ := gd_some h
  obtain ⟨k, s1, e1, h⟩ := bd_some h
  obtain ⟨g1, h⟩ := gd_some h
  obtain ⟨b, s2, e2, h⟩ := bd_some h
  obtain ⟨g2, h⟩ := gd_some h
  obtain ⟨t, s3, e3, h⟩ := bd_some h
  obtain ⟨g3, h⟩ := gd_some h
  obtain ⟨g4, h⟩ := gd_some h
  have h := Option.some.inj h
  subst h
  have k1 := c_X0_transcode e1 (hr _)
  have k2 := c_X14_transcode e2 (hr _)
  have k3 := c_X14_thrown e3
  refine v_aload_n dL_law_624 1 rfl rfl ?_
  refine v_aload_n dL_law_625 0 rfl rfl ?_
  refine v_iload dL_law_626 4 rfl ?_
  refine v_iconst dL_law_628 ?_
  refine v_iadd dL_law_629 ?_
  rw [show w32 (i + 1) = i + 1 from w32_id (by unfold rg; omega)]
  refine v_sld hn hS (by unfold rg; omega) (by omega) dL_law_630 ?_
  refine v_aload_n dL_law_631 3 rfl rfl ?_
  refine v_callSW (st := []) k1 (lw_SW q2068 q2069 q297 q2070) yk_X0_transcode (by decide) trivial ⟨(Or.inr (by decide)), kc0, kc87, (kp_arr (by decide) g1), trivial⟩ (Nat.le_of_ble_eq_true rfl) rfl dL_law_632 ?_
  refine v_istore (L1 := [(5, vI k), (0, vO 1200), (1, vO 0), (2, vO 87), (3, vO 198), (4, vI i)]) dL_law_635 (by decide) rfl ?_
  refine v_aload_n dL_law_637 3 rfl rfl ?_
  refine v_aload_n dL_law_638 1 rfl rfl ?_
  refine v_iload dL_law_639 5 rfl ?_
  refine v_iconst dL_law_641 ?_
  refine v_iadd dL_law_642 ?_
  rw [show w32 (i + 1) = i + 1 from w32_id (by unfold rg; omega)]
  refine v_sld hn hS (by unfold rg; omega) (by omega) dL_law_643 ?_
  refine v_callV (st := []) cf14 oc87 k2 (lw_V q3370 q3371 q3372 q311 q3373) rfl yk_X14_transcode (by decide) trivial ⟨(Or.inr (by decide)), kc0, kc87, (kp_arr (by decide) g2), trivial⟩ (Nat.le_of_ble_eq_true rfl) rfl dL_law_644 ?_
  refine v_istore (L1 := [(6, vI b), (5, vI k), (0, vO 1200), (1, vO 0), (2, vO 87), (3, vO 198), (4, vI i)]) dL_law_647 (by decide) rfl ?_
  refine v_aload_n dL_law_649 4 rfl rfl ?_
  refine v_callV (st := []) cf14 oc87 k3 (lw_V q2861 q2862 q2863 q311 q2864) rfl yk_X14_thrown (by decide) trivial ⟨(Or.inr (by decide)), kc0, kc87, (kp_arr (by decide) g3.1), trivial⟩ (Nat.le_of_ble_eq_true rfl) rfl dL_law_650 ?_
  refine v_iload dL_law_653 1 rfl ?_
  refine v_icmp_eq (tgt := 660) dL_law_655 k3.1.2.2 k1.1.2.2 (by decide) (fun _ => ?_) (fun z => absurd g3.2 z)
  refine v_iload dL_law_660 1 rfl ?_
  have kend : VW code (R_law, some (vV (.long 0)), σo, ret, 8192, 104096, 7, []) (P0 []) s3 677 [(6, vI b), (5, vI k), (0, vO 1200), (1, vO 0), (2, vO 87), (3, vO 198), (4, vI i)] [] := by
    refine v_goto (tgt := 805) dL_law_677 (by decide) ?_
    refine v_sub [2, 3, 4, 5, 6] (L1 := [(0, vO 1200), (1, vO 0), (2, vO 87), (3, vO 198), (4, vI i)]) rfl ?_
    exact kk
  refine v_if_ne (tgt := 677) dL_law_662 k1.1.2.2 (by decide) (fun _ => kend) (fun z => ?_)
  have g4 := g4 z
  refine v_aload_n dL_law_665 5 rfl rfl ?_
  refine v_iconst dL_law_666 ?_
  refine v_lald oc198 (rgl rfl) g4.1.1 g4.1.2 dL_law_667 ?_
  refine v_iload dL_law_668 0 rfl ?_
  refine v_i2l dL_law_670 k2.1.2.2 ?_
  refine v_lcmp dL_law_671 (gEL_rg _ _ _) (rg_rgL k2.1.2.2) ?_
  refine v_if_eq (tgt := 677) dL_law_672 (cmp64_rg _ _) (by decide) (fun _ => kend) (fun z9 => absurd (by unfold cmp64; rw [g4.2, if_neg (by omega), if_pos rfl]) z9)
theorem w_law_out {n : Nat} {S : Int → Int} {i : Int} {s s9 σo : vS} (hn : (σo.2.1 1200).1 = n) (hS : (σo.2.1 1200).2 = S) (hr : ∀ j, rg (S j)) (h : law_out n S i s = some s9) (kk : VW code (R_law, some (vV (.long 0)), σo, ret, 8192, 104096, 7, []) (P0 []) s9 805 [(0, vO 1200), (1, vO 0), (2, vO 87), (3, vO 198), (4, vI i)] []) : VW code (R_law, some (vV (.long 0)), σo, ret, 8192, 104096, 7, []) (P0 []) s 680 [(0, vO 1200), (1, vO 0), (2, vO 87), (3, vO 198), (4, vI i)] [] := by
  unfold law_out at h
  obtain ⟨g0, h⟩ := gd_some h
  obtain ⟨k, s1, e1, h⟩ := bd_some h
  obtain ⟨g1, h⟩ := gd_some h
  obtain ⟨b, s2, e2, h⟩ := bd_some h
  obtain ⟨g2, h⟩ := gd_some h
  obtain ⟨t, s3, e3, h⟩ := bd_some h
  obtain ⟨g3, h⟩ := gd_some h
  obtain ⟨g4, h⟩ := gd_some h
  have h := Option.some.inj h
  subst h
  have k1 := c_X0_out e1 (hr _)
  have k2 := c_X14_out e2 (hr _)
  have k3 := c_X14_thrown e3
  refine v_aload_n dL_law_680 1 rfl rfl ?_
  refine v_aload_n dL_law_681 0 rfl rfl ?_
  refine v_iload dL_law_682 4 rfl ?_
  refine v_iconst dL_law_684 ?_
  refine v_iadd dL_law_685 ?_
  rw [show w32 (i + 1) = i + 1 from w32_id (by unfold rg; omega)]
  refine v_sld hn hS (by unfold rg; omega) (by omega) dL_law_686 ?_
  refine v_aload_n dL_law_687 3 rfl rfl ?_
  refine v_callSW (st := []) k1 (lw_SW q2349 q2350 q297 q2351) yk_X0_out (by decide) trivial ⟨(Or.inr (by decide)), kc0, kc87, (kp_arr (by decide) g1), trivial⟩ (Nat.le_of_ble_eq_true rfl) rfl dL_law_688 ?_
  refine v_istore (L1 := [(5, vI k), (0, vO 1200), (1, vO 0), (2, vO 87), (3, vO 198), (4, vI i)]) dL_law_691 (by decide) rfl ?_
  refine v_aload_n dL_law_693 3 rfl rfl ?_
  refine v_aload_n dL_law_694 1 rfl rfl ?_
  refine v_iload dL_law_695 5 rfl ?_
  refine v_iconst dL_law_697 ?_
  refine v_iadd dL_law_698 ?_
  rw [show w32 (i + 1) = i + 1 from w32_id (by unfold rg; omega)]
  refine v_sld hn hS (by unfold rg; omega) (by omega) dL_law_699 ?_
  refine v_callV (st := []) cf14 oc87 k2 (lw_V q3514 q3515 q3516 q311 q3517) rfl yk_X14_out (by decide) trivial ⟨(Or.inr (by decide)), kc0, kc87, (kp_arr (by decide) g2), trivial⟩ (Nat.le_of_ble_eq_true rfl) rfl dL_law_700 ?_
  refine v_istore (L1 := [(6, vI b), (5, vI k), (0, vO 1200), (1, vO 0), (2, vO 87), (3, vO 198), (4, vI i)]) dL_law_703 (by decide) rfl ?_
  refine v_aload_n dL_law_705 4 rfl rfl ?_
  refine v_callV (st := []) cf14 oc87 k3 (lw_V q2861 q2862 q2863 q311 q2864) rfl yk_X14_thrown (by decide) trivial ⟨(Or.inr (by decide)), kc0, kc87, (kp_arr (by decide) g3.1), trivial⟩ (Nat.le_of_ble_eq_true rfl) rfl dL_law_706 ?_
  refine v_iload dL_law_709 1 rfl ?_
  refine v_icmp_eq (tgt := 716) dL_law_711 k3.1.2.2 k1.1.2.2 (by decide) (fun _ => ?_) (fun z => absurd g3.2 z)
  refine v_iload dL_law_716 1 rfl ?_
  have kend : VW code (R_law, some (vV (.long 0)), σo, ret, 8192, 104096, 7, []) (P0 []) s3 733 [(6, vI b), (5, vI k), (0, vO 1200), (1, vO 0), (2, vO 87), (3, vO 198), (4, vI i)] [] := by
    refine v_goto (tgt := 805) dL_law_733 (by decide) ?_
    refine v_sub [2, 3, 4, 5, 6] (L1 := [(0, vO 1200), (1, vO 0), (2, vO 87), (3, vO 198), (4, vI i)]) rfl ?_
    exact kk
  refine v_if_ne (tgt := 733) dL_law_718 k1.1.2.2 (by decide) (fun _ => kend) (fun z => ?_)
  have g4 := g4 z
  refine v_aload_n dL_law_721 5 rfl rfl ?_
  refine v_iconst dL_law_722 ?_
  refine v_lald oc198 (rgl rfl) g4.1.1 g4.1.2 dL_law_723 ?_
  refine v_iload dL_law_724 0 rfl ?_
  refine v_i2l dL_law_726 k2.1.2.2 ?_
  refine v_lcmp dL_law_727 (gEL_rg _ _ _) (rg_rgL k2.1.2.2) ?_
  refine v_if_eq (tgt := 733) dL_law_728 (cmp64_rg _ _) (by decide) (fun _ => kend) (fun z9 => absurd (by unfold cmp64; rw [g4.2, if_neg (by omega), if_pos rfl]) z9)
theorem w_law_again {n : Nat} {S : Int → Int} {i : Int} {s s9 σo : vS} (hn : (σo.2.1 1200).1 = n) (hS : (σo.2.1 1200).2 = S) (hr : ∀ j, rg (S j)) (h : law_again n S i s = some s9) (kk : VW code (R_law, some (vV (.long 0)), σo, ret, 8192, 104096, 7, []) (P0 []) s9 805 [(0, vO 1200), (1, vO 0), (2, vO 87), (3, vO 198), (4, vI i)] []) : VW code (R_law, some (vV (.long 0)), σo, ret, 8192, 104096, 7, []) (P0 []) s 736 [(0, vO 1200), (1, vO 0), (2, vO 87), (3, vO 198), (4, vI i)] [] := by
  unfold law_again at h
  obtain ⟨g0, h⟩ := gd_some h
  obtain ⟨k, s1, e1, h⟩ := bd_some h
  obtain ⟨g1, h⟩ := gd_some h
  obtain ⟨b, s2, e2, h⟩ := bd_some h
  obtain ⟨g2, h⟩ := gd_some h
  obtain ⟨t, s3, e3, h⟩ := bd_some h
  obtain ⟨g3, h⟩ := gd_some h
  obtain ⟨g4, h⟩ := gd_some h
  have h := Option.some.inj h
  subst h
  have k1 := c_X0_again e1 
  have k2 := c_X14_again e2 
  have k3 := c_X14_thrown e3
  refine v_aload_n dL_law_736 1 rfl rfl ?_
  refine v_aload_n dL_law_737 3 rfl rfl ?_
  refine v_callSW (st := []) k1 (lw_SW q2356 q2357 q297 q2358) yk_X0_again (by decide) trivial ⟨(Or.inr (by decide)), kc0, kc87, (kp_arr (by decide) g1), trivial⟩ (Nat.le_of_ble_eq_true rfl) rfl dL_law_738 ?_
  refine v_istore (L1 := [(5, vI k), (0, vO 1200), (1, vO 0), (2, vO 87), (3, vO 198), (4, vI i)]) dL_law_741 (by decide) rfl ?_
  refine v_aload_n dL_law_743 3 rfl rfl ?_
  refine v_callV (st := []) cf14 oc87 k2 (lw_V q3518 q3519 q3520 q311 q3521) rfl yk_X14_again (by decide) trivial ⟨(Or.inr (by decide)), kc0, kc87, (kp_arr (by decide) g2), trivial⟩ (Nat.le_of_ble_eq_true rfl) rfl dL_law_744 ?_
  refine v_istore (L1 := [(6, vI b), (5, vI k), (0, vO 1200), (1, vO 0), (2, vO 87), (3, vO 198), (4, vI i)]) dL_law_747 (by decide) rfl ?_
  refine v_aload_n dL_law_749 4 rfl rfl ?_
  refine v_callV (st := []) cf14 oc87 k3 (lw_V q2861 q2862 q2863 q311 q2864) rfl yk_X14_thrown (by decide) trivial ⟨(Or.inr (by decide)), kc0, kc87, (kp_arr (by decide) g3.1), trivial⟩ (Nat.le_of_ble_eq_true rfl) rfl dL_law_750 ?_
  refine v_iload dL_law_753 1 rfl ?_
  refine v_icmp_eq (tgt := 760) dL_law_755 k3.1.2.2 k1.1.2.2 (by decide) (fun _ => ?_) (fun z => absurd g3.2 z)
  refine v_iload dL_law_760 1 rfl ?_
  have kend : VW code (R_law, some (vV (.long 0)), σo, ret, 8192, 104096, 7, []) (P0 []) s3 777 [(6, vI b), (5, vI k), (0, vO 1200), (1, vO 0), (2, vO 87), (3, vO 198), (4, vI i)] [] := by
    refine v_goto (tgt := 805) dL_law_777 (by decide) ?_
    refine v_sub [2, 3, 4, 5, 6] (L1 := [(0, vO 1200), (1, vO 0), (2, vO 87), (3, vO 198), (4, vI i)]) rfl ?_
    exact kk
  refine v_if_ne (tgt := 777) dL_law_762 k1.1.2.2 (by decide) (fun _ => kend) (fun z => ?_)
  have g4 := g4 z
  refine v_aload_n dL_law_765 5 rfl rfl ?_
  refine v_iconst dL_law_766 ?_
  refine v_lald oc198 (rgl rfl) g4.1.1 g4.1.2 dL_law_767 ?_
  refine v_iload dL_law_768 0 rfl ?_
  refine v_i2l dL_law_770 k2.1.2.2 ?_
  refine v_lcmp dL_law_771 (gEL_rg _ _ _) (rg_rgL k2.1.2.2) ?_
  refine v_if_eq (tgt := 777) dL_law_772 (cmp64_rg _ _) (by decide) (fun _ => kend) (fun z9 => absurd (by unfold cmp64; rw [g4.2, if_neg (by omega), if_pos rfl]) z9)
theorem w_law_count {n : Nat} {S : Int → Int} {i : Int} {s s9 σo : vS} (hn : (σo.2.1 1200).1 = n) (hS : (σo.2.1 1200).2 = S) (hr : ∀ j, rg (S j)) (h : law_count n S i s = some s9) (kk : VW code (R_law, some (vV (.long 0)), σo, ret, 8192, 104096, 7, []) (P0 []) s9 805 [(0, vO 1200), (1, vO 0), (2, vO 87), (3, vO 198), (4, vI i)] []) : VW code (R_law, some (vV (.long 0)), σo, ret, 8192, 104096, 7, []) (P0 []) s 780 [(0, vO 1200), (1, vO 0), (2, vO 87), (3, vO 198), (4, vI i)] [] := by
  unfold law_count at h
  obtain ⟨g0, h⟩ := gd_some h
  obtain ⟨a, s1, e1, h⟩ := bd_some h
  obtain ⟨g1, h⟩ := gd_some h
  obtain ⟨b, s2, e2, h⟩ := bd_some h
  obtain ⟨g2, h⟩ := gd_some h
  have h := Option.some.inj h
  subst h
  have k1 := c_X1_count e1 (hr _)
  have k2 := c_X14_count e2 (hr _)
  refine v_aload_n dL_law_780 1 rfl rfl ?_
  refine v_aload_n dL_law_781 0 rfl rfl ?_
  refine v_iload dL_law_782 4 rfl ?_
  refine v_iconst dL_law_784 ?_
  refine v_iadd dL_law_785 ?_
  rw [show w32 (i + 1) = i + 1 from w32_id (by unfold rg; omega)]
  refine v_sld hn hS (by unfold rg; omega) (by omega) dL_law_786 ?_
  refine v_callV (st := []) cf1 oc0 k1 (lw_V q913 q914 q915 q298 q916) rfl yk_X1_count (by decide) trivial ⟨(Or.inr (by decide)), kc0, kc87, (kp_arr (by decide) g1), trivial⟩ (Nat.le_of_ble_eq_true rfl) rfl dL_law_787 ?_
  refine v_aload_n dL_law_790 2 rfl rfl ?_
  refine v_aload_n dL_law_791 0 rfl rfl ?_
  refine v_iload dL_law_792 4 rfl ?_
  refine v_iconst dL_law_794 ?_
  refine v_iadd dL_law_795 ?_
  rw [show w32 (i + 1) = i + 1 from w32_id (by unfold rg; omega)]
  refine v_sld hn hS (by unfold rg; omega) (by omega) dL_law_796 ?_
  refine v_callV (st := [vI a]) cf14 oc87 k2 (lw_V q3522 q3523 q3524 q311 q3525) rfl yk_X14_count (by decide) trivial ⟨(Or.inr (by decide)), kc0, kc87, (kp_arr (by decide) g2.1), trivial⟩ (Nat.le_of_ble_eq_true rfl) rfl dL_law_797 ?_
  refine v_icmp_eq (tgt := 805) dL_law_800 k1.1.2.2 k2.1.2.2 (by decide) (fun _ => kk) (fun z => absurd g2.2 z)
/-- one call of the script -/
def law_step (n : Nat) (S : Int → Int) (i : Int) (s : vS) : Option vS :=
  if and32 (S i) 15 = 0 then law_feed n S i s else if and32 (S i) 15 = 1 then law_end n S i s else if and32 (S i) 15 = 2 then law_compile n S i s else if and32 (S i) 15 = 3 then law_fault n S i s else if and32 (S i) 15 = 4 then law_type n S i s else if and32 (S i) 15 = 5 then law_name n S i s else if and32 (S i) 15 = 6 then law_defaultSize n S i s else if and32 (S i) 15 = 7 then law_limit n S i s else if and32 (S i) 15 = 8 then law_transcode n S i s else if and32 (S i) 15 = 9 then law_out n S i s else if and32 (S i) 15 = 10 then law_again n S i s else if and32 (S i) 15 = 11 then law_count n S i s else some s
/-- the law's loop -/
def l_law (n : Nat) (S : Int → Int) : Nat → Int → vS → Option vS
  | 0, _, _ => none
  | m + 1, i, s => if (n : Int) - 6 < i then some s else (law_step n S i s).bind fun s1 => l_law n S m (i + 6) s1
theorem wl_law {n : Nat} {S : Int → Int} (h384 : n ≤ 384) (hr : ∀ j, rg (S j)) {s9 : vS} : ∀ (m : Nat) (i : Int) (s : vS), l_law n S m i s = some s9 → 0 ≤ i → i ≤ 400 → VW code (R_law, some (vV (.long 0)), lawS s9 n S, ret, 8192, 104096, 7, []) (P0 []) s 23 [(0, vO 1200), (1, vO 0), (2, vO 87), (3, vO 198), (4, vI i)] [] := by
  have hn : ((lawS s9 n S).2.1 1200).1 = n := rfl
  have hS : ((lawS s9 n S).2.1 1200).2 = S := rfl
  intro m
  induction m with
  | zero => intro i s h; cases h
  | succ m ih =>
    intro i s h h0 h1
    unfold l_law at h
    refine v_iload dL_law_23 4 rfl ?_
    refine v_aload_n dL_law_25 0 rfl rfl ?_
    refine v_slen hn dL_law_26 ?_
    refine v_bipush dL_law_27 rfl ?_
    refine v_isub dL_law_29 ?_
    rw [show w32 ((n : Int) - 6) = (n : Int) - 6 from w32_id (by unfold rg; omega)]
    refine v_icmp_gt (tgt := 811) dL_law_30 (by unfold rg; omega) (by unfold rg; omega) (by decide) (fun z => ?_) (fun z => ?_)
    · rw [if_pos z] at h
      cases h
      refine v_iconst dL_law_811 ?_
      exact v_lawret dL_law_812
    · rw [if_neg z] at h
      obtain ⟨s1, h2, h3⟩ := Option.bind_eq_some_iff.mp h
      have kk : VW code (R_law, some (vV (.long 0)), lawS s9 n S, ret, 8192, 104096, 7, []) (P0 []) s1 805 [(0, vO 1200), (1, vO 0), (2, vO 87), (3, vO 198), (4, vI i)] [] := by
        refine v_iinc (L1 := [(4, vI (w32 (i + 6))), (0, vO 1200), (1, vO 0), (2, vO 87), (3, vO 198)]) dL_law_805 4 rfl (by decide) rfl ?_
        rw [show w32 (i + 6) = i + 6 from w32_id (by unfold rg; omega)]
        refine v_goto (tgt := 23) dL_law_808 (by decide) ?_
        refine v_sub [1, 2, 3, 4, 0] (L1 := [(0, vO 1200), (1, vO 0), (2, vO 87), (3, vO 198), (4, vI (i + 6))]) rfl ?_
        exact ih (i + 6) s1 h3 (by omega) (by omega)
      refine v_aload_n dL_law_33 0 rfl rfl ?_
      refine v_iload dL_law_34 4 rfl ?_
      refine v_sld hn hS (by unfold rg; omega) (by omega) dL_law_36 ?_
      refine v_bipush dL_law_37 rfl ?_
      refine v_iand dL_law_39 ?_
      unfold law_step at h2
      by_cases c0 : and32 (S i) 15 = 0
      · rw [if_pos c0] at h2
        refine v_tswI (tgt := 104) dL_law_40 (and32_rg _ _) (by rw [c0]; decide) (by rw [c0]; decide) (by rw [c0]; try rfl) (by decide) ?_
        exact w_law_feed hn hS hr h2 kk
      rw [if_neg c0] at h2
      by_cases c1 : and32 (S i) 15 = 1
      · rw [if_pos c1] at h2
        refine v_tswI (tgt := 208) dL_law_40 (and32_rg _ _) (by rw [c1]; decide) (by rw [c1]; decide) (by rw [c1]; try rfl) (by decide) ?_
        exact w_law_end hn hS hr h2 kk
      rw [if_neg c1] at h2
      by_cases c2 : and32 (S i) 15 = 2
      · rw [if_pos c2] at h2
        refine v_tswI (tgt := 264) dL_law_40 (and32_rg _ _) (by rw [c2]; decide) (by rw [c2]; decide) (by rw [c2]; try rfl) (by decide) ?_
        exact w_law_compile hn hS hr h2 kk
      rw [if_neg c2] at h2
      by_cases c3 : and32 (S i) 15 = 3
      · rw [if_pos c3] at h2
        refine v_tswI (tgt := 308) dL_law_40 (and32_rg _ _) (by rw [c3]; decide) (by rw [c3]; decide) (by rw [c3]; try rfl) (by decide) ?_
        exact w_law_fault hn hS hr h2 kk
      rw [if_neg c3] at h2
      by_cases c4 : and32 (S i) 15 = 4
      · rw [if_pos c4] at h2
        refine v_tswI (tgt := 364) dL_law_40 (and32_rg _ _) (by rw [c4]; decide) (by rw [c4]; decide) (by rw [c4]; try rfl) (by decide) ?_
        exact w_law_type hn hS hr h2 kk
      rw [if_neg c4] at h2
      by_cases c5 : and32 (S i) 15 = 5
      · rw [if_pos c5] at h2
        refine v_tswI (tgt := 432) dL_law_40 (and32_rg _ _) (by rw [c5]; decide) (by rw [c5]; decide) (by rw [c5]; try rfl) (by decide) ?_
        exact w_law_name hn hS hr h2 kk
      rw [if_neg c5] at h2
      by_cases c6 : and32 (S i) 15 = 6
      · rw [if_pos c6] at h2
        refine v_tswI (tgt := 500) dL_law_40 (and32_rg _ _) (by rw [c6]; decide) (by rw [c6]; decide) (by rw [c6]; try rfl) (by decide) ?_
        exact w_law_defaultSize hn hS hr h2 kk
      rw [if_neg c6] at h2
      by_cases c7 : and32 (S i) 15 = 7
      · rw [if_pos c7] at h2
        refine v_tswI (tgt := 568) dL_law_40 (and32_rg _ _) (by rw [c7]; decide) (by rw [c7]; decide) (by rw [c7]; try rfl) (by decide) ?_
        exact w_law_limit hn hS hr h2 kk
      rw [if_neg c7] at h2
      by_cases c8 : and32 (S i) 15 = 8
      · rw [if_pos c8] at h2
        refine v_tswI (tgt := 624) dL_law_40 (and32_rg _ _) (by rw [c8]; decide) (by rw [c8]; decide) (by rw [c8]; try rfl) (by decide) ?_
        exact w_law_transcode hn hS hr h2 kk
      rw [if_neg c8] at h2
      by_cases c9 : and32 (S i) 15 = 9
      · rw [if_pos c9] at h2
        refine v_tswI (tgt := 680) dL_law_40 (and32_rg _ _) (by rw [c9]; decide) (by rw [c9]; decide) (by rw [c9]; try rfl) (by decide) ?_
        exact w_law_out hn hS hr h2 kk
      rw [if_neg c9] at h2
      by_cases c10 : and32 (S i) 15 = 10
      · rw [if_pos c10] at h2
        refine v_tswI (tgt := 736) dL_law_40 (and32_rg _ _) (by rw [c10]; decide) (by rw [c10]; decide) (by rw [c10]; try rfl) (by decide) ?_
        exact w_law_again hn hS hr h2 kk
      rw [if_neg c10] at h2
      by_cases c11 : and32 (S i) 15 = 11
      · rw [if_pos c11] at h2
        refine v_tswI (tgt := 780) dL_law_40 (and32_rg _ _) (by rw [c11]; decide) (by rw [c11]; decide) (by rw [c11]; try rfl) (by decide) ?_
        exact w_law_count hn hS hr h2 kk
      rw [if_neg c11] at h2
      cases h2
      have hge : 0 ≤ and32 (S i) 15 ∧ and32 (S i) 15 ≤ 15 := and15 (hr i)
      refine v_tswO (tgt := 805) dL_law_40 (and32_rg _ _) (by omega) (by decide) ?_
      exact kk
