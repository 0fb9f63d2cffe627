set_option maxRecDepth 100000 set_option linter.unusedVariables false set_option linter.unusedSimpArgs false
/-! PURE 59i: the model's grammar: components -/
section
variable {L : Lx} {X : List Int} {ln : Nat → Nat} {s s' : vS} {a : Int} {M M' : Mt} {P : List (Nat × Int)} {α : Type} {Q : α → Prop} {e : Ft} {t tn : Int}
theorem ite0 {c : Prop} [Decidable c] {A B M : Mt} (hA : A 0 = M 0) (hB : B 0 = M 0) : (if c then A else B) 0 = M 0 := by split <;> assumption
theorem cl_up0 {M1 : Mt} {r : List Int} {v : Int} (hr : RL M) (t0 : 0 ≤ t) (t1 : t < lnM M 0) (e : M1 0 = M 0) : clM (upM (apM M1 1 r) 0 t 3 v) 0 t 3 = v := by
  have j := hr.jlt (A := 100) (by decide) t0 t1
  have e5 : apM M1 1 r 0 = M 0 := e
  have l5 : lnM (apM M1 1 r) 0 = lnM M 0 := by unfold lnM; rw [e5]
  rw [clM_up t0 (by rw [l5]; exact t1) (by rw [e5]; exact j) t0, if_pos ⟨rfl, rfl, rfl⟩]
theorem cl_tag {p : Pg} (hr : RL p.2) (t0 : 0 ≤ t) (t1 : t < lnM p.2 0) : wE (gTag L X t p) (fun q => clM q.2 0 t 3 = clM p.2 0 t 3 + 1) := by
  unfold gTag
  simp only
  refine wE_ite (fun _ => trivial) (fun _ => wE_bE (wE_tk fun _ => ?_))
  refine wE_inr ?_
  exact cl_up0 hr t0 t1 (ite0 rfl rfl)
theorem mF_tags_l {N : Nat} (h : FM L X ln e s) (hN : 1 ≤ N) : l_X14_begin_132 N t s = some s := by
  obtain ⟨N, rfl⟩ : ∃ m, N = m + 1 := ⟨N - 1, by omega⟩
  unfold l_X14_begin_132
  rw [if_neg (by have := h.eq; omega)]
theorem M_tags_l (hH : LH L X) (hN : LN L ln) (t0 : 0 ≤ t) : ∀ (k N : Nat) (s : vS) (a last : Int) (M : Mt), VMd L X ln s a M [] → t < lnM M 0 → 0 ≤ clM M 0 t 3 → clM M 0 t 3 ≤ a → 3 * lnM M 1 ≤ a → L.length - a < k → k < N → wpo (l_X14_begin_132 N t s) (OM L X ln (a - 1) (gTags L X t tn k last (a, M))) := by
  have hl := hH.2.1
  intro k
  induction k with
  | zero => intro N s a last M h h1 h2 h3 h4 h5; have := h.al; omega
  | succ k ih =>
    intro N s a last M h h1 h2 h3 h4 h5 h6
    obtain ⟨N, rfl⟩ : ∃ m, N = m + 1 := ⟨N - 1, by omega⟩
    have a0 := h.a0
    have al := h.al
    have hG := gr_tag (L := L) (X := X) (t := t) (p := (a, M))
    have hC := cl_tag (L := L) (X := X) (t := t) (p := (a, M)) h.tb.2.2 t0 h1
    unfold l_X14_begin_132 gTags
    rw [if_pos h.f0]
    refine m_is h (fun k1 => wp_f ?_) (fun k1 => wp_t ?_)
    · rw [if_pos (show kdL L (a, M).1 = 17 by rw [kd_17]; exact k1)]
      refine wpo_bdv.mpr (wpo.mono (M_tag hH hN h k1 t0 h1 h2 h3 h4) (fun s1 og => ?_))
      generalize gTag L X t (a, M) = g at og hG hC ⊢
      cases g with
      | inl e =>
        have og : FM L X ln e s1 := og
        rw [bE_l, mF_tags_l og (by omega)]
        exact wpo_some.mpr og
      | inr q =>
        obtain ⟨b, M2⟩ := q
        obtain ⟨g1, g2⟩ := og
        simp only at g1 g2
        have gg : GR 3 0 0 0 0 0 (a, M) (b, M2) := hG
        have cc : clM M2 0 t 3 = clM M 0 t 3 + 1 := hC
        rw [bE_r]
        have q2 : VMd L X ln s1 b (chN M2 tn 2 last (nN M)) [] := g1.sm (Sm.rfl.nch _ _ _ _)
        have e3 : clM (chN M2 tn 2 last (nN M)) 0 t 3 = clM M2 0 t 3 := (Sm.rfl.nch _ _ _ _).cl (by decide) (by decide)
        have gr := gg
        unfold GR at gr
        simp only at gr
        refine wpo.mono (ih N s1 b (nN M) _ q2 (by rw [lnM_ch]; omega) (by omega) (by omega) (by rw [lnM_ch]; omega) (by omega) (by omega)) (fun s3 h3 => ?_)
        simp only
        generalize gTags L X t tn k (nN M) (b, chN M2 tn 2 last (nN M)) = w at h3 ⊢
        cases w with
        | inl e => exact h3
        | inr q => exact ⟨h3.1, by have := h3.2; omega⟩
    · rw [if_neg (show ¬kdL L (a, M).1 = 17 by rw [kd_17]; exact k1)]
      exact wpo_some.mpr ⟨h, by show a - 1 < a; omega⟩
def upS (S : Int → Int × Int) (i : Int) (v : Int × Int) : Int → Int × Int := fun j => if j = i then v else S j
/-- steps that keep what is open -/
theorem SV.wE {o c nd : Int} {S : Int → Int × Int} (h : SV L s o c nd S) {A : Nat} (hA : isT A = true) {i v : Int} : SV L (sE s A i v) o c nd S := by
  have := isT_rg hA
  refine h.fr (W := [1000 * A + 999]) (Fr.wE Fr.rfl (List.mem_singleton.mpr rfl)) ?_ ?_ ?_ ?_ ?_ <;> (simp only [List.mem_singleton]; omega)
theorem SV.wc {o c nd : Int} {S : Int → Int × Int} (h : SV L s o c nd S) {d : Nat} (hd : d < 10) {v : Int} : SV L (sI s 87 (cnt d) v) o c nd S := by
  have := cnt_ne hd
  refine h.fr (W := [87000 + cnt d]) (Fr.wI Fr.rfl (List.mem_singleton.mpr rfl)) ?_ ?_ ?_ ?_ ?_ <;> (simp only [List.mem_singleton]; omega)
theorem v_new {o c nd : Int} {S : Int → Int × Int} {A : Nat} {i v : Int} {k : vS → Option α} (P' : List (Nat × Int)) (h : VMd L X ln s a M P) (hs : SV L s o c nd S) (hA : isT A = true) (hi : i = lnM M (cOf A)) (hv : okv A v) (hP : ∀ x ∈ P', x = (A, v) ∨ (x ∈ P ∧ x.1 ≠ A)) (h1 : ∀ s', VMd L X ln s' a M P' → SV L s' o c nd S → wpo (k s') Q) : wpo (stp (sE s A i v) k) Q := by
  subst hi
  rw [stp_eq]
  refine h1 _ ((h.wn hA hv).weakP fun x hx => ?_) (hs.wE hA)
  rcases hP x hx with z | z
  · rw [z]; exact List.mem_cons_self
  · refine List.mem_cons_of_mem _ ?_
    unfold dropA
    exact List.mem_filter.mpr ⟨z.1, by simpa using z.2⟩
theorem v_upd {o c nd : Int} {S : Int → Int × Int} {A : Nat} {i v : Int} {k : vS → Option α} (h : VMd L X ln s a M P) (hs : SV L s o c nd S) (hA : isT A = true) (hv : okv A v) (i0 : 0 ≤ i) (i1 : i < lnM M (cOf A)) (hn : A ≠ 125 ∧ A ≠ 107) (h1 : ∀ s', VMd L X ln s' a (upM M (cOf A) i (jOf A) v) P → SV L s' o c nd S → wpo (k s') Q) : wpo (stp (sE s A i v) k) Q := by
  rw [stp_eq]
  exact h1 _ (h.wu hA hv i0 i1 ⟨fun z => absurd z hn.1, fun z => absurd z hn.2⟩) (hs.wE hA)
theorem v_inc {o c nd : Int} {S : Int → Int × Int} {A : Nat} {i : Int} {k : vS → Option α} (h : VMd L X ln s a M P) (hs : SV L s o c nd S) (hA : isT A = true) (hb : isBl A = false) (hn : A ≠ 125 ∧ A ≠ 107) (i0 : 0 ≤ i) (i1 : i < lnM M (cOf A)) (c0 : 0 ≤ clM M (cOf A) i (jOf A)) (c1 : clM M (cOf A) i (jOf A) ≤ 100000) (h1 : ∀ s', VMd L X ln s' a (upM M (cOf A) i (jOf A) (clM M (cOf A) i (jOf A) + 1)) P → SV L s' o c nd S → wpo (k s') Q) : wpo (stp (sE s A i (w32 (gE s A i + 1))) k) Q := by
  rw [h.rd hA hb i0 i1 (by omega), w32_id ⟨by omega, by omega⟩]
  exact v_upd h hs hA (okv_rg hb ⟨by omega, by omega⟩) i0 i1 hn h1
theorem v_wi (hH : LH L X) {o c nd : Int} {S : Int → Int × Int} {d k0 : Nat} {k : vS → Option α} (h : VMd L X ln s a M P) (hs : SV L s o c nd S) (hc : d < 10) (e : k0 = cnt d) (r : List Int) (hr : ∀ A, isT A = true → cOf A = d → r.getD (jOf A) 0 = -7 ∨ (A, r.getD (jOf A) 0) ∈ P) (hk : CB (lnM (apM M d r)) a 1) (hl : wd d ≤ r.length ∧ (d = 4 → r.getD 4 0 = -1) ∧ (d = 0 → r.getD 10 0 = -1)) (h1 : ∀ s', VMd L X ln s' a (apM M d r) [] → SV L s' o c nd S → wpo (k s') Q) : wpo (stp (sI s 87 k0 (w32 (gI s 87 k0 + 1))) k) Q := by
  subst e
  rw [stp_eq]
  have k1 := hk.ge hc
  have hL := hH.2.1
  have al := h.al
  rw [lnM_ap, if_pos rfl] at k1
  refine h1 _ ((h.wi hH hc hr hk hl ?_).weakP (fun x hx => absurd hx List.not_mem_nil)) (hs.wc hc)
  rw [h.ct hc]
  exact w32_id ⟨by rcases wt_pos hc with z | z | z <;> rw [z] at k1 <;> omega, by rcases wt_pos hc with z | z | z <;> rw [z] at k1 <;> omega⟩
/-- a component begins -/
theorem M_comp (hH : LH L X) (hN : LN L ln) {last o c0 nd : Int} {S : Int → Int × Int} (h : VMd L X ln s a M []) (hs : SV L s (if last < 0 then o else o + 1) c0 nd S) (o0 : 0 ≤ o) (o1 : o ≤ 100) (t0 : 0 ≤ t) (t1 : t < lnM M 0) (hl1 : last < lnM M 3) (hS : 0 ≤ last → (S o).1 = t) (c8 : 0 ≤ clM M 0 t 8) (c9 : clM M 0 t 8 ≤ a) (hk : 2 * lnM M 3 ≤ a) : wpo (f_X14_component t last s) (fun s' => (kz L a = 2 ∧ a < L.length ∧ VMd L X ln s' (a + 1) (gcM a t last M) [] ∧ SV L s' (o + 1) c0 1 (upS S o (t, lnM M 3))) ∨ (kz L a ≠ 2 ∧ FM L X ln (flt L X a) s')) := by
  have hl := hH.2.1
  have al := h.al
  have a0 := h.a0
  have l3 := lnM_nn M 3
  have kb := h.kb
  unfold CB at kb
  unfold f_X14_component
  refine m_ct (c := 3) h (by decide) rfl ?_
  by_cases k1 : kz L a = 2
  · have tk : ∃ s1, f_X14_take 2 s = some (a, s1) ∧ VMd L X ln s1 (a + 1) M [] := by
      have z : wpo (bd (f_X14_take 2 s) fun r s1 => some (r, s1)) (fun q => q.1 = a ∧ VMd L X ln q.2 (a + 1) M []) := m_take hH h (by decide) (by decide) (fun _ _ s1 q => wpo_some.mpr ⟨rfl, q⟩) (fun z => absurd k1 z)
      obtain ⟨r, e1, e2⟩ := wpo_bd.mp z
      obtain ⟨r2, e3, e4⟩ := e2
      cases e3
      exact ⟨r.2, by rw [e1]; rw [← e4.1], e4.2⟩
    obtain ⟨s1, et, q1⟩ := tk
    have ft := fr_f_X14_take 2 s _ et
    simp only at ft
    have hs1 := hs.fr ft (by decide) (by decide) (by decide) (by decide) (by decide)
    rw [et, bd_eq]
    refine m_gde q1 h (by decide) (m_gdn hN q1 (by decide) rfl (v_new [(116, a)] q1 hs1 (by decide) rfl (okv_rg (by decide) ⟨by omega, by omega⟩) (by simp) (fun s2 q2 v2 => ?_)))
    refine m_gdn hN q2 (by decide) rfl (v_new [(118, 0), (116, a)] q2 v2 (by decide) rfl (okv_rg (by decide) (rgl rfl)) (by simp) (fun s3 q3 v3 => ?_))
    refine m_gdn hN q3 (by decide) rfl (v_new [(119, -1), (118, 0), (116, a)] q3 v3 (by decide) rfl (okv_rg (by decide) (rgl rfl)) (by simp) (fun s4 q4 v4 => ?_))
    refine m_gdn hN q4 (by decide) rfl (v_new [(120, -1), (119, -1), (118, 0), (116, a)] q4 v4 (by decide) rfl (okv_rg (by decide) (rgl rfl)) (by simp) (fun s5 q5 v5 => ?_))
    rw [if_pos (by rw [q5.f0]; decide)]
    refine v_wi hH q5 v5 (d := 3) (by decide) rfl [a, -7, 0, -1, -1, nN M] ?_ ?_ ⟨by show 5 ≤ 6; decide, fun z => absurd z (by decide), fun z => absurd z (by decide)⟩ (fun s6 q6 v6 => ?_)
    · intro A hA hc
      rcases cOf_3 hA hc with rfl | rfl | rfl | rfl | rfl
      · right; simp [jOf, cOf, cid]
      · left; rfl
      · right; simp [jOf, cOf, cid]
      · right; simp [jOf, cOf, cid]
      · right; simp [jOf, cOf, cid]
    · unfold CB; simp only [lnM_ap, Nat.reduceEqDiff, Nat.reduceAdd, Nat.reduceLT, Nat.reduceLeDiff, Nat.reduceBEq, reduceIte, and_self, and_true, true_and, and_false, false_and, if_true, if_false, Nat.reduceMul, Int.reduceEq, Int.reduceLT, Int.reduceLE, Int.reduceNeg, Int.reduceAdd, Int.reduceMul, Int.reduceSub]; omega
    have e0 : lnM (apM M 3 [a, -7, 0, -1, -1, nN M]) 0 = lnM M 0 := by rw [lnM_ap, if_neg (by decide)]
    have e3 : lnM (apM M 3 [a, -7, 0, -1, -1, nN M]) 3 = lnM M 3 + 1 := by rw [lnM_ap, if_pos rfl]
    have ec : clM (apM M 3 [a, -7, 0, -1, -1, nN M]) 0 t 8 = clM M 0 t 8 := clM_apn t0 t1
    refine m_gdo hN q6 (by decide) t0 (by show t < lnM _ 0; omega) (m_gdo hN q6 (by decide) t0 (by show t < lnM _ 0; omega) ?_)
    refine v_inc q6 v6 (by decide) (by decide) (by decide) t0 (by show t < lnM _ 0; omega) (by show 0 ≤ clM _ 0 t 8; omega) (by show clM _ 0 t 8 ≤ _; omega) (fun s7 q7 v7 => ?_)
    have q7 : VMd L X ln s7 (a + 1) (upM (apM M 3 [a, -7, 0, -1, -1, nN M]) 0 t 8 (clM (apM M 3 [a, -7, 0, -1, -1, nN M]) 0 t 8 + 1)) [] := q7
    rw [ec] at q7
    have q7 : VMd L X ln s7 (a + 1) (upM (apM (stN (adN M 22 a) (nN M) 5 0) 3 [a, -7, 0, -1, -1, nN M]) 0 t 8 (clM M 0 t 8 + 1)) [] := q7.sm ((((Sm.rfl.nad _ _).node _ _ _).ap (fun _ => rfl)).up)
    have f0 : lnM (upM (apM (stN (adN M 22 a) (nN M) 5 0) 3 [a, -7, 0, -1, -1, nN M]) 0 t 8 (clM M 0 t 8 + 1)) 0 = lnM M 0 := by simp only [lnM_up, lnM_ap, lnM_st, lnM_ad, Nat.reduceEqDiff, Nat.reduceAdd, Nat.reduceLT, Nat.reduceLeDiff, Nat.reduceBEq, reduceIte, and_self, and_true, true_and, and_false, false_and, if_true, if_false, Nat.reduceMul, Int.reduceEq, Int.reduceLT, Int.reduceLE, Int.reduceNeg, Int.reduceAdd, Int.reduceMul, Int.reduceSub]
    have f3 : lnM (upM (apM (stN (adN M 22 a) (nN M) 5 0) 3 [a, -7, 0, -1, -1, nN M]) 0 t 8 (clM M 0 t 8 + 1)) 3 = lnM M 3 + 1 := by simp only [lnM_up, lnM_ap, lnM_st, lnM_ad, Nat.reduceEqDiff, Nat.reduceAdd, Nat.reduceLT, Nat.reduceLeDiff, Nat.reduceBEq, reduceIte, and_self, and_true, true_and, and_false, false_and, if_true, if_false, Nat.reduceMul, Int.reduceEq, Int.reduceLT, Int.reduceLE, Int.reduceNeg, Int.reduceAdd, Int.reduceMul, Int.reduceSub]
    -- the last steps
    have E : ∀ (s8 : vS), VMd L X ln s8 (a + 1) (gcM a t last M) [] → gI s8 87 79 = o + 1 → gI s8 87 82 = c0 → (∀ i : Int, 0 ≤ i → i < o → gE s8 145 i = (S i).1 ∧ gE s8 146 i = (S i).2 ∧ 0 ≤ (S i).1 ∧ (S i).1 ≤ L.length + 1 ∧ -1 ≤ (S i).2 ∧ 2 * (S i).2 ≤ L.length + 2) → gE s8 145 o = t → wpo (j_X14_component_106 (lnM M 3) s8) (fun s' => (kz L a = 2 ∧ a < L.length ∧ VMd L X ln s' (a + 1) (gcM a t last M) [] ∧ SV L s' (o + 1) c0 1 (upS S o (t, lnM M 3))) ∨ (kz L a ≠ 2 ∧ FM L X ln (flt L X a) s')) := by
      intro s8 q8 w1 w2 w6 w7
      unfold j_X14_component_106
      rw [w1, show o + 1 - 1 = o by omega, w32_id ⟨by omega, by omega⟩, gd_pos ⟨o0, by rw [q8.1.2.2.2.2.2.1]; omega⟩]
      simp only [stp_eq]
      have hf : Fr [146999, 87083] s8 (sI (sE s8 146 o (lnM M 3)) 87 83 1) := Fr.wI (Fr.wE Fr.rfl (by decide)) (by decide)
      refine wpo_some.mpr (Or.inl ⟨k1, (kz_in k1 (by decide)).2, q8.oth hf (by decide), ?_⟩)
      refine ⟨by rw [gI_s87, if_neg (by decide), gI_sE]; exact w1, by rw [gI_s87, if_neg (by decide), gI_sE]; exact w2, by rw [gI_s87, if_pos rfl]; decide, by omega, by omega, fun i i0 i1 => ?_⟩
      rw [gE_sI, gE_sI]
      have e5 : gE (sE s8 146 o (lnM M 3)) 145 i = gE s8 145 i := by rw [gE_sE, if_neg (fun z => absurd z.1 (by decide))]
      rw [e5, gE_sE]
      unfold upS
      by_cases e : i = o
      · rw [if_pos (show (146 : Nat) = 146 ∧ i = o from ⟨rfl, e⟩), if_pos e, w32_id ⟨by omega, by omega⟩, e, w7]
        exact ⟨rfl, rfl, t0, by show t ≤ (L.length : Int) + 1; omega, by show -1 ≤ lnM M 3; omega, by show 2 * lnM M 3 ≤ (L.length : Int) + 2; omega⟩
      · rw [if_neg (show ¬((146 : Nat) = 146 ∧ i = o) from fun z => e z.2), if_neg e]
        exact w6 i i0 (by omega)
    by_cases cl : 0 ≤ last
    · rw [if_pos cl]
      rw [if_neg (by omega)] at v7
      refine m_gdo hN q7 (by decide) cl (by show last < lnM _ 3; omega) (v_upd q7 v7 (by decide) (okv_rg (by decide) ⟨by omega, by omega⟩) cl (by show last < lnM _ 3; omega) (by decide) (fun s8 q8 v8 => ?_))
      have q9 : VMd L X ln s8 (a + 1) (gcM a t last M) [] := by unfold gcM; rw [if_neg (by omega)]; exact q8
      obtain ⟨w1, w2, w3, w4, w5, w6⟩ := v8
      refine E s8 q9 w1 w2 (fun i i0 i1 => w6 i i0 (by omega)) ?_
      rw [(w6 o o0 (by omega)).1, hS cl]
    · rw [if_neg cl]
      rw [if_pos (by omega)] at v7
      refine m_gdo hN q7 (by decide) t0 (by show t < lnM _ 0; omega) (v_upd q7 v7 (by decide) (okv_rg (by decide) ⟨by omega, by omega⟩) t0 (by show t < lnM _ 0; omega) (by decide) (fun s8 q8 v8 => ?_))
      have q9 : VMd L X ln s8 (a + 1) (gcM a t last M) [] := by unfold gcM; rw [if_pos (by omega)]; exact q8
      obtain ⟨w1, w2, w3, w4, w5, w6⟩ := v8
      rw [w1]
      refine wpo_gd.mpr ⟨⟨o0, by rw [q9.1.2.2.2.2.1]; omega⟩, ?_⟩
      rw [stp_eq, stp_eq]
      have hf : Fr [145999, 87079] s8 (sI (sE s8 145 o t) 87 79 (w32 (gI (sE s8 145 o t) 87 79 + 1))) := Fr.wI (Fr.wE Fr.rfl (by decide)) (by decide)
      refine E _ (q9.oth hf (by decide)) ?_ ?_ (fun i i0 i1 => ?_) ?_
      · rw [gI_s87, if_pos rfl, gI_sE, w1, w32_id (x := o + 1) ⟨by omega, by omega⟩]; exact w32_id ⟨by omega, by omega⟩
      · rw [gI_s87, if_neg (by decide), gI_sE]; exact w2
      · rw [gE_sI, gE_sI, gE_sE, if_neg (show ¬((145 : Nat) = 145 ∧ i = o) from fun z => by omega)]
        have e6 : gE (sE s8 145 o t) 146 i = gE s8 146 i := by rw [gE_sE, if_neg (fun z => absurd z.1 (by decide))]
        rw [e6]
        exact w6 i i0 i1
      · rw [gE_sI, gE_sE, if_pos ⟨rfl, rfl⟩]; exact w32_id ⟨by omega, by omega⟩
  · refine m_take hH h (by decide) (by decide) (fun z => absurd z k1) (fun _ s1 q1 T1 => ?_)
    have i3 : 2 * lnM M 3 ≤ (L.length : Int) + 2 * 2 := by omega
    refine mF_gde q1 h.bd (by decide) (mF_gd hN q1 (by decide) l3 i3 (mF_w q1 (by decide) (fun s2 q2 => ?_)))
    refine mF_gd hN q2 (by decide) l3 i3 (mF_w q2 (by decide) (fun s3 q3 => ?_))
    refine mF_gd hN q3 (by decide) l3 i3 (mF_w q3 (by decide) (fun s4 q4 => ?_))
    refine mF_gd hN q4 (by decide) l3 i3 (mF_w q4 (by decide) (fun s5 q5 => ?_))
    exact mF_ifl q5 (wpo_some.mpr (Or.inr ⟨k1, q5⟩))
end
