set_option maxRecDepth 100000 set_option linter.unusedVariables false set_option linter.unusedSimpArgs false
/-! PURE 59m: the model's grammar: bases of types -/
section
variable {L : Lx} {X : List Int} {ln : Nat → Nat} {s s' : vS} {a : Int} {M M' : Mt} {P : List (Nat × Int)} {α : Type} {e : Ft} {t tn : Int} {o c0 nd : Int} {S : Int → Int × Int}
theorem v_simple (hH : LH L X) (hN : LN L ln) {Q : α → Prop} {w b : Int} {k : Int → vS → Option α} (h : VMd L X ln s a M []) (hs : SV L s o c0 nd S) (w0 : w ≠ 0) (w1 : w ≠ 1) (hb : rg b) (t0 : 0 ≤ t) (t1 : t < lnM M 0) (h1 : kz L a = w → a < L.length → ∀ s', VMd L X ln s' (a + 1) (stN (upM M 0 t 0 b) tn 0 b) [] → SV L s' o c0 nd S → wpo (k 1 s') Q) (h0 : kz L a ≠ w → wpo (k 0 s) Q) : wpo (bd (f_X14_simple t w b s) k) Q := by
  have key : wpo (f_X14_simple t w b s) (fun r => (kz L a = w ∧ a < L.length ∧ r.1 = 1 ∧ VMd L X ln r.2 (a + 1) (stN (upM M 0 t 0 b) tn 0 b) [] ∧ SV L r.2 o c0 nd S) ∨ (kz L a ≠ w ∧ r = (0, s))) := by
    unfold f_X14_simple
    refine v_eat hH h hs w0 w1 (fun k1 k2 s1 q1 v1 => wp_f ?_) (fun k1 => wp_t (wpo_some.mpr (Or.inr ⟨k1, rfl⟩)))
    refine m_gdo hN q1 (by decide) t0 t1 (v_upd q1 v1 (by decide) (okv_rg (by decide) hb) t0 t1 (by decide) (fun s2 q2 v2 => wpo_some.mpr (Or.inl ⟨k1, k2, rfl, ?_, v2⟩)))
    exact (show VMd L X ln s2 (a + 1) (upM M 0 t 0 b) [] from q2).sm (Sm.rfl.node _ _ _)
  refine wpo_bd.mpr (wpo.mono key ?_)
  rintro ⟨r, s2⟩ (⟨z1, z2, z3, z4, z5⟩ | ⟨z1, z2⟩)
  · simp only at z3 z4 z5; subst z3; exact h1 z1 z2 s2 z4 z5
  · cases z2; exact h0 z1
theorem mF_comp (hN : LN L ln) {last : Int} (h : FM L X ln e s) (hv : gI s 87 42 = lnM M 3) (hb : 2 * lnM M 3 ≤ L.length + 4) : wpo (f_X14_component t last s) (FM L X ln e) := by
  have l3 := lnM_nn M 3
  unfold f_X14_component
  rw [vl_eq, hv]
  refine mF_take h (mF_gde h h.bd (by decide) (mF_gd hN h (by decide) l3 (by show 2 * lnM M 3 ≤ (L.length : Int) + 2 * 2; omega) (mF_w h (by decide) (fun s2 q2 => ?_))))
  refine mF_gd hN q2 (by decide) l3 (by show 2 * lnM M 3 ≤ (L.length : Int) + 2 * 2; omega) (mF_w q2 (by decide) (fun s3 q3 => ?_))
  refine mF_gd hN q3 (by decide) l3 (by show 2 * lnM M 3 ≤ (L.length : Int) + 2 * 2; omega) (mF_w q3 (by decide) (fun s4 q4 => ?_))
  refine mF_gd hN q4 (by decide) l3 (by show 2 * lnM M 3 ≤ (L.length : Int) + 2 * 2; omega) (mF_w q4 (by decide) (fun s5 q5 => ?_))
  exact mF_ifl q5 (wpo_some.mpr q5)
theorem upM_idem {c : Nat} {i v : Int} {j : Nat} : upM (upM M c i j v) c i j v = upM M c i j v := by
  funext d
  unfold upM
  by_cases h : d = c
  · subst h
    simp only [if_true]
    refine List.ext_getElem (by simp) fun n h1 h2 => ?_
    simp only [List.getElem_modify]
    split <;> simp
  · rw [if_neg h, if_neg h]
theorem gMany_up {ty : Pg → Ft ⊕ Pg} {kind lk : Int} : gMany L X ty t tn kind lk (a, M) = gMany L X ty t tn kind lk (a, stN (upM M 0 t 0 kind) tn 0 kind) ∨ True := Or.inr trivial
theorem gMany_idem {ty : Pg → Ft ⊕ Pg} {kind lk : Int} : gMany L X ty t tn kind lk (a, upM M 0 t 0 kind) = gMany L X ty t tn kind lk (a, M) := by
  unfold gMany
  simp only [upM_idem]
  rfl
/-- a reference before a brace -/
theorem DM.mk' (hH : LH L X) (h : VMd L X ln s a M []) (k1 : kz L a = 1) (k12 : kz L (a + 1) = 12) : DM L X ln (3, stL' L X (a + 1)) (sI s 87 19 (w32 (gI s 87 19 + 1))) := by
  have hl := hH.2.1
  have al := (kz_in k1 (by decide)).2
  have a0 := h.a0
  have hf : Fr [87019] s (sI s 87 19 (w32 (gI s 87 19 + 1))) := Fr.wI Fr.rfl (by decide)
  have e19 : gI (sI s 87 19 (w32 (gI s 87 19 + 1))) 87 19 = a + 1 := by
    rw [gI_s87, if_pos rfl, h.at, w32_id (x := a + 1) ⟨by omega, by omega⟩]; exact w32_id ⟨by omega, by omega⟩
  have ec : ∀ d, d < 10 → gI (sI s 87 19 (w32 (gI s 87 19 + 1))) 87 (cnt d) = gI s 87 (cnt d) := fun d hd => hf.rI (by have := cnt_ne hd; simp only [List.mem_cons, List.not_mem_nil, or_false]; omega)
  unfold DM
  rw [e19]
  refine ⟨h.1.fr hf (by decide) (fun A hA => ?_) (h.1.2.2.2.2.2.2.congr (fun d hd => ec d hd)), by rw [hf.rI (by decide)]; exact h.2.1, by rw [hf.rI (by decide)]; exact h.2.2.1, by omega, by omega, k12, by rw [show a + 1 - 1 = a by omega]; exact k1, rfl⟩
  have := isT_rg hA; simp only [List.mem_cons, List.not_mem_nil, or_false]; omega
theorem M_base (hH : LH L X) (hN : LN L ln) {d N : Nat} {Q : vS → Prop} (hT : TM L X ln d) (h : VMd L X ln s a M []) (hs : SV L s o t 0 S) (o0 : 0 ≤ o) (ho : o + 1 = 100 - (d : Int)) (t0 : 0 ≤ t) (t1 : t < lnM M 0) (hC : CT M a) (c6 : clM M 0 t 6 = 0) (c8 : clM M 0 t 8 = 0) (hNN : 2 * ((L.length : Int) - a) + 109 ≤ N) (hkk : KB L X ln t o a S N Q (gBase L X (gType L X d) t tn (a, M))) :
    wpo (bdv (f_X14_base t s) fun s' => l_X14_parseType_17 N 0 s') Q := by
  have hl := hH.2.1
  have al := h.al
  have a0 := h.a0
  have hrl := h.tb.2.2
  have ct := hC
  unfold CT at ct
  have N1 : 1 ≤ N := by omega
  have e0 : ∀ b, clM (stN (upM M 0 t 0 b) tn 0 b) 0 t 0 = b := fun b => cl_self (A := 97) hrl (by decide) t0 t1
  have e6 : ∀ b, clM (stN (upM M 0 t 0 b) tn 0 b) 0 t 6 = 0 := fun b => by show clM (upM M 0 t 0 b) 0 t 6 = 0; rw [clM_upj (by decide)]; exact c6
  have e8 : ∀ b, clM (stN (upM M 0 t 0 b) tn 0 b) 0 t 8 = 0 := fun b => by show clM (upM M 0 t 0 b) 0 t 8 = 0; rw [clM_upj (by decide)]; exact c8
  have cN : ∀ b (x : Int), a ≤ x → CT (stN (upM M 0 t 0 b) tn 0 b) x := fun b x hx => ((hC.up (c := 0) (i := t) (v := b) (j := 0)).mono hx).sm (Sm.rfl.node _ _ _)
  have tN : ∀ b, t < lnM (stN (upM M 0 t 0 b) tn 0 b) 0 := fun b => by rw [lnM_st, lnM_up]; exact t1
  -- items
  have IT : ∀ (s1 : vS) (x : Int) (kind : Int) (g : Ft ⊕ Pg), (kind = 2 ∨ kind = 3 ∨ kind = 4) → a ≤ x → VMd L X ln s1 x (stN (upM M 0 t 0 kind) tn 0 kind) [] → SV L s1 o t 0 S → (bE (tkE L X 15 x) fun b => gItemsOf L X t tn kind (b, stN (upM M 0 t 0 kind) tn 0 kind)) = g → KB L X ln t o a S N Q g → wpo (bdv (bdv (f_X14_itemsOf t s1) fun s2 => some s2) fun s' => l_X14_parseType_17 N 0 s') Q := by
    intro s1 x kind g hk ax q1 v1 hg kq
    rw [bdv_bdv]
    refine wpo_bdv.mpr (wpo.mono (wpo.and (M_itemsOf (tn := tn) hH hN hk q1 t0 (tN kind) (e0 kind) (e6 kind) (cN kind x ax)) (fun r hr => fr_f_X14_itemsOf t s1 r hr)) ?_)
    rintro s2 ⟨og, fr2⟩
    have v2 := v1.fr fr2 (by decide) (by decide) (by decide) (by decide) (by decide)
    rw [hg] at og
    rw [bdv_eq]
    cases g with
    | inl e => exact kq.F rfl og N1
    | inr q => exact kq.R (M' := q.2) (b := q.1) rfl og.1 v2 (by have := og.2; omega)
  unfold f_X14_base
  rw [bdv_bd]
  refine v_simple (tn := tn) hH hN h hs (by decide) (by decide) (rgl rfl) t0 t1 (fun k1 k2 s1 q1 v1 => ?_) (fun k01 => ?_)
  · rw [bdv_ite, if_neg (by decide), bdv_eq]
    exact hkk.R (by unfold gBase; simp only [kd_0, kd_1, kd_2, kd_3, kd_4, kd_5, kd_10, kd_12, kd_15, kd_16, kd_17, kd_18, kd_19, kd_20, kd_21, kd_24, kd_25, kd_103, kd_105, kd_106, kd_108, kd_111, kd_116, kd_118, kd_120, kd_121, kd_123, kd_127, kd_130, kd_132, kd_133, kd_134, kd_139, kd_142, kd_143, kd_145, kd_147, kd_148, kd_149, kd_150, kd_155, kd_156, kd_159, kd_160, kd_161, kd_162, kd_165, kd_166, kd_170, kd_171, kd_172, k1, Int.reduceEq, if_true, if_false]) q1 v1 (by omega)
  rw [bdv_ite, if_pos rfl, bdv_bd]
  refine v_simple (tn := tn) hH hN h hs (by decide) (by decide) (rgl rfl) t0 t1 (fun k1 k2 s1 q1 v1 => ?_) (fun k02 => ?_)
  · rw [bdv_ite, if_neg (by decide), bdv_eq]
    exact hkk.R (by unfold gBase; simp only [kd_0, kd_1, kd_2, kd_3, kd_4, kd_5, kd_10, kd_12, kd_15, kd_16, kd_17, kd_18, kd_19, kd_20, kd_21, kd_24, kd_25, kd_103, kd_105, kd_106, kd_108, kd_111, kd_116, kd_118, kd_120, kd_121, kd_123, kd_127, kd_130, kd_132, kd_133, kd_134, kd_139, kd_142, kd_143, kd_145, kd_147, kd_148, kd_149, kd_150, kd_155, kd_156, kd_159, kd_160, kd_161, kd_162, kd_165, kd_166, kd_170, kd_171, kd_172, k1, Int.reduceEq, if_true, if_false]) q1 v1 (by omega)
  rw [bdv_ite, if_pos rfl, bdv_bd]
  refine v_simple (tn := tn) hH hN h hs (by decide) (by decide) (rgl rfl) t0 t1 (fun k1 k2 s1 q1 v1 => ?_) (fun k03 => ?_)
  · rw [bdv_ite, if_neg (by decide), bdv_eq]
    exact hkk.R (by unfold gBase; simp only [kd_0, kd_1, kd_2, kd_3, kd_4, kd_5, kd_10, kd_12, kd_15, kd_16, kd_17, kd_18, kd_19, kd_20, kd_21, kd_24, kd_25, kd_103, kd_105, kd_106, kd_108, kd_111, kd_116, kd_118, kd_120, kd_121, kd_123, kd_127, kd_130, kd_132, kd_133, kd_134, kd_139, kd_142, kd_143, kd_145, kd_147, kd_148, kd_149, kd_150, kd_155, kd_156, kd_159, kd_160, kd_161, kd_162, kd_165, kd_166, kd_170, kd_171, kd_172, k1, Int.reduceEq, if_true, if_false]) q1 v1 (by omega)
  rw [bdv_ite, if_pos rfl, bdv_bd]
  refine v_simple (tn := tn) hH hN h hs (by decide) (by decide) (rgl rfl) t0 t1 (fun k1 k2 s1 q1 v1 => ?_) (fun k04 => ?_)
  · rw [bdv_ite, if_neg (by decide), bdv_eq]
    exact hkk.R (by unfold gBase; simp only [kd_0, kd_1, kd_2, kd_3, kd_4, kd_5, kd_10, kd_12, kd_15, kd_16, kd_17, kd_18, kd_19, kd_20, kd_21, kd_24, kd_25, kd_103, kd_105, kd_106, kd_108, kd_111, kd_116, kd_118, kd_120, kd_121, kd_123, kd_127, kd_130, kd_132, kd_133, kd_134, kd_139, kd_142, kd_143, kd_145, kd_147, kd_148, kd_149, kd_150, kd_155, kd_156, kd_159, kd_160, kd_161, kd_162, kd_165, kd_166, kd_170, kd_171, kd_172, k1, Int.reduceEq, if_true, if_false]) q1 v1 (by omega)
  rw [bdv_ite, if_pos rfl, bdv_bd]
  refine v_simple (tn := tn) hH hN h hs (by decide) (by decide) (rgl rfl) t0 t1 (fun k1 k2 s1 q1 v1 => ?_) (fun k05 => ?_)
  · rw [bdv_ite, if_neg (by decide), bdv_eq]
    exact hkk.R (by unfold gBase; simp only [kd_0, kd_1, kd_2, kd_3, kd_4, kd_5, kd_10, kd_12, kd_15, kd_16, kd_17, kd_18, kd_19, kd_20, kd_21, kd_24, kd_25, kd_103, kd_105, kd_106, kd_108, kd_111, kd_116, kd_118, kd_120, kd_121, kd_123, kd_127, kd_130, kd_132, kd_133, kd_134, kd_139, kd_142, kd_143, kd_145, kd_147, kd_148, kd_149, kd_150, kd_155, kd_156, kd_159, kd_160, kd_161, kd_162, kd_165, kd_166, kd_170, kd_171, kd_172, k1, Int.reduceEq, if_true, if_false]) q1 v1 (by omega)
  rw [bdv_ite, if_pos rfl, bdv_bd]
  refine v_simple (tn := tn) hH hN h hs (by decide) (by decide) (rgl rfl) t0 t1 (fun k1 k2 s1 q1 v1 => ?_) (fun k06 => ?_)
  · rw [bdv_ite, if_neg (by decide), bdv_eq]
    exact hkk.R (by unfold gBase; simp only [kd_0, kd_1, kd_2, kd_3, kd_4, kd_5, kd_10, kd_12, kd_15, kd_16, kd_17, kd_18, kd_19, kd_20, kd_21, kd_24, kd_25, kd_103, kd_105, kd_106, kd_108, kd_111, kd_116, kd_118, kd_120, kd_121, kd_123, kd_127, kd_130, kd_132, kd_133, kd_134, kd_139, kd_142, kd_143, kd_145, kd_147, kd_148, kd_149, kd_150, kd_155, kd_156, kd_159, kd_160, kd_161, kd_162, kd_165, kd_166, kd_170, kd_171, kd_172, k1, Int.reduceEq, if_true, if_false]) q1 v1 (by omega)
  rw [bdv_ite, if_pos rfl, bdv_bd]
  refine v_simple (tn := tn) hH hN h hs (by decide) (by decide) (rgl rfl) t0 t1 (fun k1 k2 s1 q1 v1 => ?_) (fun k07 => ?_)
  · rw [bdv_ite, if_neg (by decide), bdv_eq]
    exact hkk.R (by unfold gBase; simp only [kd_0, kd_1, kd_2, kd_3, kd_4, kd_5, kd_10, kd_12, kd_15, kd_16, kd_17, kd_18, kd_19, kd_20, kd_21, kd_24, kd_25, kd_103, kd_105, kd_106, kd_108, kd_111, kd_116, kd_118, kd_120, kd_121, kd_123, kd_127, kd_130, kd_132, kd_133, kd_134, kd_139, kd_142, kd_143, kd_145, kd_147, kd_148, kd_149, kd_150, kd_155, kd_156, kd_159, kd_160, kd_161, kd_162, kd_165, kd_166, kd_170, kd_171, kd_172, k1, Int.reduceEq, if_true, if_false]) q1 v1 (by omega)
  rw [bdv_ite, if_pos rfl, bdv_bd]
  -- INTEGER
  refine v_simple (tn := tn) hH hN h hs (by decide) (by decide) (rgl rfl) t0 t1 (fun k1 k2 s1 q1 v1 => ?_) (fun k08 => ?_)
  · rw [bdv_ite, if_neg (by decide), bdv_bd]
    refine m_is q1 (fun k3 => ?_) (fun k3 => ?_)
    · rw [bdv_ite, if_neg (by decide)]
      exact IT s1 (a + 1) 2 _ (Or.inl rfl) (by omega) q1 v1 (by rw [tkE_y (show kdL L (a + 1) = 15 by rw [kd_15]; exact k3), bE_r]; unfold gBase; simp only [kd_0, kd_1, kd_2, kd_3, kd_4, kd_5, kd_10, kd_12, kd_15, kd_16, kd_17, kd_18, kd_19, kd_20, kd_21, kd_24, kd_25, kd_103, kd_105, kd_106, kd_108, kd_111, kd_116, kd_118, kd_120, kd_121, kd_123, kd_127, kd_130, kd_132, kd_133, kd_134, kd_139, kd_142, kd_143, kd_145, kd_147, kd_148, kd_149, kd_150, kd_155, kd_156, kd_159, kd_160, kd_161, kd_162, kd_165, kd_166, kd_170, kd_171, kd_172, k1, k3, Int.reduceEq, if_true, if_false]) hkk
    · rw [bdv_ite, if_pos rfl, bdv_eq]
      exact hkk.R (by unfold gBase; simp only [kd_0, kd_1, kd_2, kd_3, kd_4, kd_5, kd_10, kd_12, kd_15, kd_16, kd_17, kd_18, kd_19, kd_20, kd_21, kd_24, kd_25, kd_103, kd_105, kd_106, kd_108, kd_111, kd_116, kd_118, kd_120, kd_121, kd_123, kd_127, kd_130, kd_132, kd_133, kd_134, kd_139, kd_142, kd_143, kd_145, kd_147, kd_148, kd_149, kd_150, kd_155, kd_156, kd_159, kd_160, kd_161, kd_162, kd_165, kd_166, kd_170, kd_171, kd_172, k1, k3, Int.reduceEq, if_true, if_false]) q1 v1 (by omega)
  rw [bdv_ite, if_pos rfl, bdv_bd]
  -- ENUMERATED
  refine v_simple (tn := tn) hH hN h hs (by decide) (by decide) (rgl rfl) t0 t1 (fun k1 k2 s1 q1 v1 => ?_) (fun k09 => ?_)
  · rw [bdv_ite, if_neg (by decide)]
    exact IT s1 (a + 1) 3 _ (Or.inr (Or.inl rfl)) (by omega) q1 v1 (by unfold gBase; simp only [kd_0, kd_1, kd_2, kd_3, kd_4, kd_5, kd_10, kd_12, kd_15, kd_16, kd_17, kd_18, kd_19, kd_20, kd_21, kd_24, kd_25, kd_103, kd_105, kd_106, kd_108, kd_111, kd_116, kd_118, kd_120, kd_121, kd_123, kd_127, kd_130, kd_132, kd_133, kd_134, kd_139, kd_142, kd_143, kd_145, kd_147, kd_148, kd_149, kd_150, kd_155, kd_156, kd_159, kd_160, kd_161, kd_162, kd_165, kd_166, kd_170, kd_171, kd_172, k1, Int.reduceEq, if_true, if_false]) hkk
  rw [bdv_ite, if_pos rfl, bdv_bd]
  -- BIT STRING
  refine v_simple (tn := tn) hH hN h hs (by decide) (by decide) (rgl rfl) t0 t1 (fun k1 k2 s1 q1 v1 => ?_) (fun k10 => ?_)
  · rw [bdv_ite, if_neg (by decide), bdv_bd]
    have eg : gBase L X (gType L X d) t tn (a, M) = bE (tkE L X 162 (a + 1)) fun c => if kdL L c = 15 then gItemsOf L X t tn 4 (c + 1, stN (upM M 0 t 0 4) tn 0 4) else .inr (c, stN (upM M 0 t 0 4) tn 0 4) := by unfold gBase; simp only [kd_0, kd_1, kd_2, kd_3, kd_4, kd_5, kd_10, kd_12, kd_15, kd_16, kd_17, kd_18, kd_19, kd_20, kd_21, kd_24, kd_25, kd_103, kd_105, kd_106, kd_108, kd_111, kd_116, kd_118, kd_120, kd_121, kd_123, kd_127, kd_130, kd_132, kd_133, kd_134, kd_139, kd_142, kd_143, kd_145, kd_147, kd_148, kd_149, kd_150, kd_155, kd_156, kd_159, kd_160, kd_161, kd_162, kd_165, kd_166, kd_170, kd_171, kd_172, k1, Int.reduceEq, if_true, if_false]
    rw [eg] at hkk
    refine v_take hH q1 v1 (by decide) (by decide) (fun k3 k4 s2 q2 v2 => ?_) (fun k3 s2 q2 => ?_)
    · rw [tkE_y (show kdL L (a + 1) = 162 by rw [kd_162]; exact k3), bE_r] at hkk
      rw [bdv_ite, if_pos q2.f0, bdv_bd]
      refine m_is q2 (fun k5 => ?_) (fun k5 => ?_)
      · rw [bdv_ite, if_neg (by decide)]
        exact IT s2 (a + 1 + 1) 4 _ (Or.inr (Or.inr rfl)) (by omega) q2 v2 (by rw [tkE_y (show kdL L (a + 1 + 1) = 15 by rw [kd_15]; exact k5), bE_r, if_pos (show kdL L (a + 1 + 1) = 15 by rw [kd_15]; exact k5)]) hkk
      · rw [bdv_ite, if_pos rfl, bdv_eq]
        exact hkk.R (by rw [if_neg (show ¬kdL L (a + 1 + 1) = 15 by rw [kd_15]; exact k5)]) q2 v2 (by omega)
    · rw [tkE_n (show ¬kdL L (a + 1) = 162 by rw [kd_162]; exact k3), bE_l] at hkk
      rw [bdv_ite, if_neg (by have := q2.eq; omega), bdv_eq]
      exact hkk.F rfl q2 N1
  rw [bdv_ite, if_pos rfl, bdv_bd]
  -- OCTET STRING
  refine v_simple (tn := tn) hH hN h hs (by decide) (by decide) (rgl rfl) t0 t1 (fun k1 k2 s1 q1 v1 => ?_) (fun k11 => ?_)
  · rw [bdv_ite, if_neg (by decide), bdv_bd]
    have eg : gBase L X (gType L X d) t tn (a, M) = bE (tkE L X 162 (a + 1)) fun c => .inr (c, stN (upM M 0 t 0 5) tn 0 5) := by unfold gBase; simp only [kd_0, kd_1, kd_2, kd_3, kd_4, kd_5, kd_10, kd_12, kd_15, kd_16, kd_17, kd_18, kd_19, kd_20, kd_21, kd_24, kd_25, kd_103, kd_105, kd_106, kd_108, kd_111, kd_116, kd_118, kd_120, kd_121, kd_123, kd_127, kd_130, kd_132, kd_133, kd_134, kd_139, kd_142, kd_143, kd_145, kd_147, kd_148, kd_149, kd_150, kd_155, kd_156, kd_159, kd_160, kd_161, kd_162, kd_165, kd_166, kd_170, kd_171, kd_172, k1, Int.reduceEq, if_true, if_false]
    rw [eg] at hkk
    refine v_take hH q1 v1 (by decide) (by decide) (fun k3 k4 s2 q2 v2 => ?_) (fun k3 s2 q2 => ?_)
    · rw [tkE_y (show kdL L (a + 1) = 162 by rw [kd_162]; exact k3), bE_r] at hkk
      rw [bdv_eq]
      exact hkk.R rfl q2 v2 (by omega)
    · rw [tkE_n (show ¬kdL L (a + 1) = 162 by rw [kd_162]; exact k3), bE_l] at hkk
      rw [bdv_eq]
      exact hkk.F rfl q2 N1
  rw [bdv_ite, if_pos rfl, bdv_bd]
  -- OBJECT IDENTIFIER
  refine v_simple (tn := tn) hH hN h hs (by decide) (by decide) (rgl rfl) t0 t1 (fun k1 k2 s1 q1 v1 => ?_) (fun k12 => ?_)
  · rw [bdv_ite, if_neg (by decide), bdv_bd]
    have eg : gBase L X (gType L X d) t tn (a, M) = bE (tkE L X 133 (a + 1)) fun c => .inr (c, stN (upM M 0 t 0 6) tn 0 6) := by unfold gBase; simp only [kd_0, kd_1, kd_2, kd_3, kd_4, kd_5, kd_10, kd_12, kd_15, kd_16, kd_17, kd_18, kd_19, kd_20, kd_21, kd_24, kd_25, kd_103, kd_105, kd_106, kd_108, kd_111, kd_116, kd_118, kd_120, kd_121, kd_123, kd_127, kd_130, kd_132, kd_133, kd_134, kd_139, kd_142, kd_143, kd_145, kd_147, kd_148, kd_149, kd_150, kd_155, kd_156, kd_159, kd_160, kd_161, kd_162, kd_165, kd_166, kd_170, kd_171, kd_172, k1, Int.reduceEq, if_true, if_false]
    rw [eg] at hkk
    refine v_take hH q1 v1 (by decide) (by decide) (fun k3 k4 s2 q2 v2 => ?_) (fun k3 s2 q2 => ?_)
    · rw [tkE_y (show kdL L (a + 1) = 133 by rw [kd_133]; exact k3), bE_r] at hkk
      rw [bdv_eq]
      exact hkk.R rfl q2 v2 (by omega)
    · rw [tkE_n (show ¬kdL L (a + 1) = 133 by rw [kd_133]; exact k3), bE_l] at hkk
      rw [bdv_eq]
      exact hkk.F rfl q2 N1
  rw [bdv_ite, if_pos rfl, bdv_bd]
  -- SEQUENCE, SET
  have SQ : ∀ (s1 : vS) (kind lk : Int), ((kind = 12 ∧ lk = 14) ∨ (kind = 13 ∧ lk = 15)) → VMd L X ln s1 (a + 1) (stN (upM M 0 t 0 kind) tn 0 kind) [] → SV L s1 o t 0 S → gBase L X (gType L X d) t tn (a, M) = gMany L X (gType L X d) t tn kind lk (a + 1, M) → wpo (bdv (j_X14_base_239 t s1) fun s' => l_X14_parseType_17 N 0 s') Q := by
    intro s1 kind lk hk q1 v1 hg
    unfold j_X14_base_239
    rw [bdv_bdv]
    have q2 : VMd L X ln s1 (a + 1) (upM M 0 t 0 kind) [] := q1.sm (fun c hc => ((Sm.rfl (M := upM M 0 t 0 kind)).node tn 0 kind c hc).symm)
    rw [hg, ← gMany_idem, show a = a + 1 - 1 by omega, show a + 1 - 1 + 1 = a + 1 by omega] at hkk
    exact M_many hH hN hT q2 v1 o0 ho t0 (by rw [lnM_up]; exact t1) ((hC.up).mono (by omega)) (cl_self (A := 97) hrl (by decide) t0 t1) (by rw [clM_upj (by decide)]; exact c8) hk (by omega) upM_idem hkk
  refine v_simple (tn := tn) hH hN h hs (by decide) (by decide) (rgl rfl) t0 t1 (fun k1 k2 s1 q1 v1 => ?_) (fun k13 => ?_)
  · rw [bdv_ite, if_neg (by decide)]
    exact SQ s1 12 14 (Or.inl ⟨rfl, rfl⟩) q1 v1 (by unfold gBase; simp only [kd_0, kd_1, kd_2, kd_3, kd_4, kd_5, kd_10, kd_12, kd_15, kd_16, kd_17, kd_18, kd_19, kd_20, kd_21, kd_24, kd_25, kd_103, kd_105, kd_106, kd_108, kd_111, kd_116, kd_118, kd_120, kd_121, kd_123, kd_127, kd_130, kd_132, kd_133, kd_134, kd_139, kd_142, kd_143, kd_145, kd_147, kd_148, kd_149, kd_150, kd_155, kd_156, kd_159, kd_160, kd_161, kd_162, kd_165, kd_166, kd_170, kd_171, kd_172, k1, Int.reduceEq, if_true, if_false])
  rw [bdv_ite, if_pos rfl, bdv_bd]
  refine v_simple (tn := tn) hH hN h hs (by decide) (by decide) (rgl rfl) t0 t1 (fun k1 k2 s1 q1 v1 => ?_) (fun k14 => ?_)
  · rw [bdv_ite, if_neg (by decide)]
    exact SQ s1 13 15 (Or.inr ⟨rfl, rfl⟩) q1 v1 (by unfold gBase; simp only [kd_0, kd_1, kd_2, kd_3, kd_4, kd_5, kd_10, kd_12, kd_15, kd_16, kd_17, kd_18, kd_19, kd_20, kd_21, kd_24, kd_25, kd_103, kd_105, kd_106, kd_108, kd_111, kd_116, kd_118, kd_120, kd_121, kd_123, kd_127, kd_130, kd_132, kd_133, kd_134, kd_139, kd_142, kd_143, kd_145, kd_147, kd_148, kd_149, kd_150, kd_155, kd_156, kd_159, kd_160, kd_161, kd_162, kd_165, kd_166, kd_170, kd_171, kd_172, k1, Int.reduceEq, if_true, if_false])
  rw [bdv_ite, if_pos rfl, bdv_bd]
  -- CHOICE
  refine v_simple (tn := tn) hH hN h hs (by decide) (by decide) (rgl rfl) t0 t1 (fun k1 k2 s1 q1 v1 => ?_) (fun k15 => ?_)
  · rw [bdv_ite, if_neg (by decide), bdv_bd]
    have eg : gBase L X (gType L X d) t tn (a, M) = bE (tkE L X 15 (a + 1)) fun c => gComps L X (gType L X d) t tn 0 (L.length + 1) (-1) (-1) (c, stN (upM M 0 t 0 16) tn 0 16) := by unfold gBase; simp only [kd_0, kd_1, kd_2, kd_3, kd_4, kd_5, kd_10, kd_12, kd_15, kd_16, kd_17, kd_18, kd_19, kd_20, kd_21, kd_24, kd_25, kd_103, kd_105, kd_106, kd_108, kd_111, kd_116, kd_118, kd_120, kd_121, kd_123, kd_127, kd_130, kd_132, kd_133, kd_134, kd_139, kd_142, kd_143, kd_145, kd_147, kd_148, kd_149, kd_150, kd_155, kd_156, kd_159, kd_160, kd_161, kd_162, kd_165, kd_166, kd_170, kd_171, kd_172, k1, Int.reduceEq, if_true, if_false]
    rw [eg] at hkk
    by_cases k3 : kz L (a + 1) = 12
    · refine v_take hH q1 v1 (by decide) (by decide) (fun _ k4 s2 q2 v2 => ?_) (fun z => absurd k3 z)
      rw [tkE_y (show kdL L (a + 1) = 15 by rw [kd_15]; exact k3), bE_r] at hkk
      rw [bdv_bdv]
      have l3 := lnM_nn M 3
      exact M_comps hH hN hT (lack := 0) t0 o0 ho (L.length + 1) s2 (a + 1 + 1) (-1) (-1) _ S t 0 N Q q2 (by rw [if_pos (by decide)]; exact v2) (fun z => absurd z (by decide)) (tN 16) (cN 16 _ (by omega)) (by rw [lnM_st, lnM_up]; omega) (by rw [lnM_st, lnM_up]; omega) (Or.inl ⟨rfl, e0 16⟩) (by rw [e8]; decide) (by rw [e8]; omega) (by omega) (by omega) (fun e he s' hf => hkk.1 e he s' hf) (fun b M2 he s' N' S' w1 w2 w3 w4 => hkk.2 b M2 he s' N' S' w1 w2 w3 (by omega))
    · refine m_take hH q1 (by decide) (by decide) (fun z => absurd z k3) (fun _ s2 q2 T2 => ?_)
      rw [tkE_n (show ¬kdL L (a + 1) = 15 by rw [kd_15]; exact k3), bE_l] at hkk
      rw [bdv_bdv]
      refine wpo_bdv.mpr (wpo.mono (mF_comp hN q2 (T2.1 3 (by decide)) (by rw [lnM_st, lnM_up]; omega)) (fun s3 q3 => ?_))
      rw [bdv_eq]
      exact hkk.F rfl q3 N1
  rw [bdv_ite, if_pos rfl, bdv_bd]
  -- a reference, or nothing that fits
  refine m_is h (fun k1 => ?_) (fun k1 => ?_)
  · have eg : gBase L X (gType L X d) t tn (a, M) = if kz L (a + 1) = 12 then .inl (3, stL' L X (a + 1)) else .inr (a + 1, stN (upM (upM M 0 t 0 17) 0 t 4 a) tn 7 a) := by unfold gBase; simp only [kd_0, kd_1, kd_2, kd_3, kd_4, kd_5, kd_10, kd_12, kd_15, kd_16, kd_17, kd_18, kd_19, kd_20, kd_21, kd_24, kd_25, kd_103, kd_105, kd_106, kd_108, kd_111, kd_116, kd_118, kd_120, kd_121, kd_123, kd_127, kd_130, kd_132, kd_133, kd_134, kd_139, kd_142, kd_143, kd_145, kd_147, kd_148, kd_149, kd_150, kd_155, kd_156, kd_159, kd_160, kd_161, kd_162, kd_165, kd_166, kd_170, kd_171, kd_172, k1, if_true]
    rw [eg] at hkk
    have al1 := (kz_in k1 (by decide)).2
    rw [bdv_ite, if_neg (by decide), bdv_gd]
    refine m_gdo hN h (by decide) t0 t1 ?_
    rw [bdv_stp]
    refine v_upd h hs (by decide) (okv_rg (by decide) (rgl rfl)) t0 t1 (by decide) (fun s1 q1 v1 => ?_)
    have q1 : VMd L X ln s1 a (upM M 0 t 0 17) [] := q1
    rw [bdv_gd]
    refine m_gdo hN q1 (by decide) t0 (by show t < lnM _ 0; rw [lnM_up]; exact t1) ?_
    rw [bdv_stp, q1.at]
    refine v_upd q1 v1 (by decide) (okv_rg (by decide) ⟨by omega, by omega⟩) t0 (by show t < lnM _ 0; rw [lnM_up]; exact t1) (by decide) (fun s2 q2 v2 => ?_)
    have q2 : VMd L X ln s2 a (upM (upM M 0 t 0 17) 0 t 4 a) [] := q2
    rw [bdv_stp, stp_eq, bdv_eq]
    by_cases k2 : kz L (a + 1) = 12
    · rw [if_pos k2] at hkk
      have dm := q2.1
      have d1 := DM.mk' hH q2 k1 k2
      have v3 : SV L (sI s2 87 19 (w32 (gI s2 87 19 + 1))) o t 0 S := v2.w19
      generalize sI s2 87 19 (w32 (gI s2 87 19 + 1)) = s3 at d1 v3
      obtain ⟨N, rfl⟩ : ∃ m, N = m + 1 := ⟨N - 1, by omega⟩
      rw [LP_n d1.2.1 v3.2.2.1]
      have el : f_X14_limitsOf (gI s3 87 82) s3 = some s3 := by
        unfold f_X14_limitsOf
        have z : l_X14_limitsOf_0 FU (gI s3 87 82) s3 = some s3 := by
          obtain ⟨F, hF⟩ : ∃ F, FU = F + 1 := ⟨FU - 1, by unfold FU; omega⟩
          rw [hF]
          unfold l_X14_limitsOf_0
          rw [if_pos d1.2.1, d1.is (by decide), bd_eq, if_pos rfl]
        rw [z, lq_0_eq]
      rw [el, bdv_eq]
      have v4 : SV L s3 ((o.toNat : Nat) : Int) t 0 S := by rw [Int.toNat_of_nonneg o0]; exact v3
      exact wpo.mono (D_pop hH hN o.toNat N s3 t 0 S d1 v4 t0 (by omega) (by omega)) (fun s4 h4 => hkk.1 _ rfl s4 h4)
    · rw [if_neg k2] at hkk
      have q3 := q2.adv hH al1 (fun z => k2 z.1)
      exact hkk.R rfl (q3.sm (Sm.rfl.node _ _ _)) v2.w19 (by omega)
  · rw [bdv_ite, if_pos rfl, bdv_bdv]
    refine m_misfit hH h (fun s1 q1 _ => ?_)
    rw [bdv_eq]
    exact hkk.F (by unfold gBase; simp only [kd_0, kd_1, kd_2, kd_3, kd_4, kd_5, kd_10, kd_12, kd_15, kd_16, kd_17, kd_18, kd_19, kd_20, kd_21, kd_24, kd_25, kd_103, kd_105, kd_106, kd_108, kd_111, kd_116, kd_118, kd_120, kd_121, kd_123, kd_127, kd_130, kd_132, kd_133, kd_134, kd_139, kd_142, kd_143, kd_145, kd_147, kd_148, kd_149, kd_150, kd_155, kd_156, kd_159, kd_160, kd_161, kd_162, kd_165, kd_166, kd_170, kd_171, kd_172, k1, k01, k02, k03, k04, k05, k06, k07, k08, k09, k10, k11, k12, k13, k14, k15, if_false]) q1 N1
end
