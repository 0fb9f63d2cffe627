set_option maxRecDepth 100000 set_option linter.unusedVariables false set_option linter.unusedSimpArgs false
/-! PURE 52: the class's grammar: faults; steps by what comes behind them -/
/-- lexemes: not too many; what numbers are made of -/
def LG (L : Lx) (X : List Int) (BT : Nat) : Prop := L.length ≤ 32768 ∧ 18 * (3 * L.length + 40) ≤ BT ∧ ∀ k : Int, kdL L k = 2 → 0 ≤ (L.getD k.toNat (0, 0, 0)).2.1 ∧ (L.getD k.toNat (0, 0, 0)).2.1 ≤ enL L k ∧ enL L k ≤ X.length ∧ ∀ i : Int, (L.getD k.toNat (0, 0, 0)).2.1 ≤ i → i < enL L k → cDg (cha X i)
theorem kd_in {L : Lx} {a K : Int} (h : kdL L a = K) (hK : K ≠ -1) : 0 ≤ a ∧ a < L.length := by
  unfold kdL at h
  by_cases c : 0 ≤ a ∧ a < L.length
  · exact c
  · rw [if_neg c] at h; exact absurd h.symm hK
/-- each next node lies behind, limits are nodes -/
def NX (T : Int → Int → Int) (n : Int) : Prop := ∀ k : Int, 0 ≤ k → k < n → (T k 8 = -1 ∨ (k < T k 8 ∧ T k 8 < n)) ∧ (T k 4 = -1 ∨ (0 ≤ T k 4 ∧ T k 4 < n))
theorem NX.upd {T : Int → Int → Int} {n k c v : Int} (h : NX T n) (h8 : c = 8 → v = -1 ∨ (k < v ∧ v < n)) (h4 : c = 4 → v = -1 ∨ (0 ≤ v ∧ v < n)) : NX (updT T k c v) n := by
  intro k' a b
  obtain ⟨q1, q2⟩ := h k' a b
  unfold updT
  refine ⟨?_, ?_⟩
  · by_cases z : k' = k ∧ (8 : Int) = c
    · rw [if_pos z, z.1]; exact h8 z.2.symm
    · rw [if_neg z]; exact q1
  · by_cases z : k' = k ∧ (4 : Int) = c
    · rw [if_pos z]; exact h4 z.2.symm
    · rw [if_neg z]; exact q2
/-- a fault was told: what is left -/
def FC (L : Lx) (X : List Int) (B BT : Nat) (e : Ft) (m : Int) (s : vS) : Prop := ∃ a n T, CV L X B BT s a e.1 e.2 n T ∧ e.1 ≠ 0 ∧ m ≤ n ∧ n ≤ 3 * L.length + 10 ∧ a ≤ L.length + 10 ∧ NX T n
def nodeT (T : Int → Int → Int) (n : Int) (l : List Int) : Int → Int → Int := fun k c => if k = n then l.getD c.toNat 0 else T k c
theorem CV.congr {L : Lx} {X : List Int} {B BT : Nat} {s : vS} {a f p n : Int} {T T' : Int → Int → Int} (h : CV L X B BT s a f p n T) (hT : ∀ k c : Int, 0 ≤ k → k < n → 0 ≤ c → c < 9 → T k c = T' k c) : CV L X B BT s a f p n T' := by
  obtain ⟨h1, h2, h3, h4, h5, h6, h7, h8, h9, h10, h11, h12, h13, h14, h15, h16⟩ := h
  exact ⟨h1, h2, h3, h4, h5, h6, h7, h8, h9, h10, h11, h12, h13, h14, h15, fun k c a b c' d => (h16 k c a b c' d).trans (hT k c a b c' d)⟩
theorem addT_node (T : Int → Int → Int) (n kind lex : Int) : ∀ k c : Int, 0 ≤ c → c < 9 → addT T n kind lex k c = nodeT T n [kind, lex, -1, -1, -1, -1, 0, 0, -1] k c := by
  intro k c c0 c1
  unfold addT nodeT
  by_cases d : k = n
  · rw [if_pos d, if_pos d]
    have : c = 0 ∨ c = 1 ∨ c = 2 ∨ c = 3 ∨ c = 4 ∨ c = 5 ∨ c = 6 ∨ c = 7 ∨ c = 8 := by omega
    rcases this with rfl | rfl | rfl | rfl | rfl | rfl | rfl | rfl | rfl <;> rfl
  · rw [if_neg d, if_neg d]
theorem updT_node (T : Int → Int → Int) (n : Int) (l : List Int) (hl : l.length = 9) (j : Nat) (hj : j < 9) (v : Int) : ∀ k c : Int, 0 ≤ c → c < 9 → updT (nodeT T n l) n j v k c = nodeT T n (l.set j v) k c := by
  intro k c c0 c1
  unfold updT nodeT
  by_cases d : k = n
  · rw [if_pos d, if_pos d]
    by_cases e : c = (j : Int)
    · rw [if_pos ⟨d, e⟩, e, Int.toNat_natCast]; simp [List.getD, List.getElem?_set, hl, hj]
    · rw [if_neg (fun z => e z.2)]
      simp only [List.getD, List.getElem?_set]
      rw [if_neg (by omega)]
  · rw [if_neg (fun z => d z.1), if_neg d, if_neg d]
section
variable {L : Lx} {X : List Int} {B BT : Nat} {s : vS} {a f p n : Int} {T : Int → Int → Int}
theorem CV.addN (h : CV L X B BT s a f p n T) {kind lex : Int} (hk : rg kind) (hl : rg lex) (hB : 18 * n ≤ BT) : ∃ s', f_X4_add kind lex s = some (n, s') ∧ CV L X B BT s' a f p (n + 1) (nodeT T n [kind, lex, -1, -1, -1, -1, 0, 0, -1]) ∧ Fr W_f_X4_add s s' := by
  obtain ⟨s', e, q, fr⟩ := h.add hk hl hB
  exact ⟨s', e, q.congr (fun k c _ _ c0 c1 => addT_node T n kind lex k c c0 c1), fr⟩
theorem CV.setN {k : Int} {l : List Int} (h : CV L X B BT s a f p n (nodeT T k l)) (hl : l.length = 9) (k0 : 0 ≤ k) (k1 : k < n) (j : Nat) (hj : j < 9) {v : Int} (hv : rg v) : ∃ s', f_X4_set k j v s = some s' ∧ CV L X B BT s' a f p n (nodeT T k (l.set j v)) := by
  obtain ⟨s', e, q⟩ := h.set k0 k1 (c := (j : Int)) (by omega) (by omega) hv
  exact ⟨s', e, q.congr (fun k' c _ _ c0 c1 => updT_node T k l hl j hj v k' c c0 c1)⟩
theorem CV.a0 (h : CV L X B BT s a f p n T) : 0 ≤ a := h.2.2.2.2.2.2.2.1
theorem CV.n0 (h : CV L X B BT s a f p n T) : 0 ≤ n := h.2.2.2.2.2.2.2.2.2.1
/-- in a fault nothing is taken -/
theorem FC.take {e : Ft} {m : Int} (h : FC L X B BT e m s) (hL : L.length ≤ 32768) (K : Int) : f_X5_take K s = some (0, s) := by
  obtain ⟨a, n, T, q1, q2, q3, q4, q5, q6⟩ := h
  obtain ⟨r, s', w1, _, _, w4⟩ := q1.take K (by omega)
  obtain ⟨w5, w6⟩ := w4 q2
  rw [w1, w5, w6]
theorem FC.may {e : Ft} {m : Int} (h : FC L X B BT e m s) (hL : L.length ≤ 32768) (K : Int) : f_X5_may K s = some (0, s) := by
  obtain ⟨a, n, T, q1, q2, q3, q4, q5, q6⟩ := h
  obtain ⟨r, s', w1, _, _, w4⟩ := q1.may K (by omega)
  obtain ⟨w5, w6⟩ := w4 q2
  rw [w1, w5, w6]
theorem FC.unfit {e : Ft} {m : Int} (h : FC L X B BT e m s) : f_X5_unfit s = some (0, s) := by
  obtain ⟨a, n, T, q1, q2, q3, q4, q5, q6⟩ := h
  obtain ⟨s', w1, _, w3⟩ := q1.unfit
  rw [w1, w3 q2]
theorem FC.set {e : Ft} {m : Int} (h : FC L X B BT e m s) {k c v : Int} (k0 : 0 ≤ k) (k1 : k < m) (c0 : 0 ≤ c) (c1 : c < 9) (hv : rg v) (hx : (c = 8 → v = -1 ∨ (k < v ∧ v < m)) ∧ (c = 4 → v = -1 ∨ (0 ≤ v ∧ v < m))) : ∃ s', f_X4_set k c v s = some s' ∧ FC L X B BT e m s' := by
  obtain ⟨a, n, T, q1, q2, q3, q4, q5, q6⟩ := h
  obtain ⟨s', w1, w2⟩ := q1.set k0 (by omega) c0 c1 hv
  exact ⟨s', w1, a, n, _, w2, q2, q3, q4, q5, q6.upd (fun z => by have := hx.1 z; omega) (fun z => by have := hx.2 z; omega)⟩
theorem FC.chain {e : Ft} {m : Int} (h : FC L X B BT e m s) {o c l k : Int} (o0 : 0 ≤ o) (o1 : o < m) (c0 : 0 ≤ c) (c1 : c < 8) (l0 : l = -1 ∨ (0 ≤ l ∧ l < k)) (k0 : 0 ≤ k) (k1 : k < m) : ∃ s', f_X4_chain o c l k s = some (k, s') ∧ FC L X B BT e m s' := by
  obtain ⟨a, n, T, q1, q2, q3, q4, q5, q6⟩ := h
  obtain ⟨s', w1, w2⟩ := q1.chain (o := o) (c := c) (l := l) (k := k) o0 (by omega) c0 (by omega) (by omega) k0 (by omega)
  refine ⟨s', w1, a, n, _, w2, q2, q3, q4, q5, ?_⟩
  by_cases d : l = -1
  · rw [if_pos d]; exact q6.upd (fun z => by omega) (fun z => by omega)
  · rw [if_neg d]; exact q6.upd (fun z => by omega) (fun z => by omega)
theorem FC.fault {e : Ft} {m : Int} (h : FC L X B BT e m s) : gI s 12 3 = e.1 ∧ gI s 12 4 = e.2 ∧ e.1 ≠ 0 := by
  obtain ⟨a, n, T, q1, q2, _⟩ := h
  exact ⟨q1.2.2.2.2.1, q1.2.2.2.2.2.1, q2⟩
theorem FC.mono {e : Ft} {m m' : Int} (h : FC L X B BT e m s) (hm : m' ≤ m) : FC L X B BT e m' s := by
  obtain ⟨a, n, T, q1, q2, q3, q4, q5, q6⟩ := h
  exact ⟨a, n, T, q1, q2, by omega, q4, q5, q6⟩
theorem flt_ne (L : Lx) (X : List Int) (a : Int) : (flt L X a).1 ≠ 0 := by unfold flt; simp only; split <;> decide
end
/-! nodes as rows -/
def upR (R : List (List Int)) (k : Int) (c : Nat) (v : Int) : List (List Int) := R.modify k.toNat (fun r => r.set c v)
def chR (R : List (List Int)) (o : Int) (c : Nat) (l k : Int) : List (List Int) := if l = -1 then upR R o c k else upR R l 8 k
def CG (L : Lx) (X : List Int) (B BT : Nat) (s : vS) (a : Int) (R : List (List Int)) : Prop := CV L X B BT s a 0 0 R.length (rwT R) ∧ (∀ r ∈ R, r.length = 9) ∧ NX (rwT R) R.length
theorem upR_len (R : List (List Int)) (k : Int) (c : Nat) (v : Int) : (upR R k c v).length = R.length := by unfold upR; exact List.length_modify ..
theorem chR_len (R : List (List Int)) (o : Int) (c : Nat) (l k : Int) : (chR R o c l k).length = R.length := by unfold chR; split <;> exact upR_len ..
theorem stN_11 (M : Mt) (k : Int) (c : Nat) (v : Int) : stN M k c v 11 = upR (M 11) k c v := rfl
theorem adN_11 (M : Mt) (k x : Int) : adN M k x 11 = M 11 ++ [[k, x, -1, -1, -1, -1, 0, 0, -1]] := rfl
theorem chN_11 (M : Mt) (o : Int) (c : Nat) (l k : Int) : chN M o c l k 11 = chR (M 11) o c l k := by unfold chN chR; split <;> rfl
theorem nN_eq (M : Mt) : nN M = (M 11).length := rfl
theorem upM_0 (M : Mt) (i : Int) (col : Nat) (v : Int) : upM M 0 i col v 11 = M 11 := rfl
theorem upM_3 (M : Mt) (i : Int) (col : Nat) (v : Int) : upM M 3 i col v 11 = M 11 := rfl
theorem upM_4 (M : Mt) (i : Int) (col : Nat) (v : Int) : upM M 4 i col v 11 = M 11 := rfl
theorem apM_0 (M : Mt) (r : List Int) : apM M 0 r 11 = M 11 := rfl
theorem apM_1 (M : Mt) (r : List Int) : apM M 1 r 11 = M 11 := rfl
theorem apM_2 (M : Mt) (r : List Int) : apM M 2 r 11 = M 11 := rfl
theorem apM_3 (M : Mt) (r : List Int) : apM M 3 r 11 = M 11 := rfl
theorem apM_4 (M : Mt) (r : List Int) : apM M 4 r 11 = M 11 := rfl
theorem apM_5 (M : Mt) (r : List Int) : apM M 5 r 11 = M 11 := rfl
theorem apM_6 (M : Mt) (r : List Int) : apM M 6 r 11 = M 11 := rfl
theorem apM_7 (M : Mt) (r : List Int) : apM M 7 r 11 = M 11 := rfl
theorem apM_8 (M : Mt) (r : List Int) : apM M 8 r 11 = M 11 := rfl
theorem apM_9 (M : Mt) (r : List Int) : apM M 9 r 11 = M 11 := rfl
theorem addL_11 (M : Mt) (t b z node : Int) : addL M t b z node 11 = M 11 := by unfold addL; split <;> rfl
section
variable {L : Lx} {X : List Int} {B BT : Nat} {s : vS} {a : Int} {R : List (List Int)} {α : Type} {Q : α → Prop} {e : Ft} {m : Int}
theorem CG.at (h : CG L X B BT s a R) : gI s 12 2 = a := h.1.2.2.2.1
theorem CG.fl (h : CG L X B BT s a R) : gI s 12 3 = 0 := h.1.2.2.2.2.1
theorem CG.a0 (h : CG L X B BT s a R) : 0 ≤ a := h.1.a0
theorem rwT_up {k : Int} {c : Nat} {v : Int} (h : ∀ r ∈ R, r.length = 9) (hc : c < 9) (k0 : 0 ≤ k) (k1 : k < R.length) : ∀ k' c' : Int, 0 ≤ k' → k' < R.length → 0 ≤ c' → c' < 9 → updT (rwT R) k c v k' c' = rwT (upR R k c v) k' c' := by
  intro k' c' a1 a2 a3 a4
  unfold updT rwT upR
  have hk : R[k.toNat]? = some (R[k.toNat]'(by omega)) := List.getElem?_eq_getElem _
  have hl := h (R[k.toNat]'(by omega)) (List.getElem_mem _)
  simp only [List.getD_eq_getElem?_getD, List.getElem?_modify]
  by_cases d : k' = k
  · subst d
    rw [hk]
    simp only [true_and, if_true, Option.map_eq_map, Option.map_some, Option.getD_some, List.getElem?_set]
    by_cases e : c' = (c : Int)
    · subst e; rw [if_pos rfl, if_pos (by omega), if_pos (by omega)]; rfl
    · rw [if_neg e, if_neg (by omega)]
  · have d2 : ¬(k.toNat = k'.toNat) := by omega
    simp only [d, d2, false_and, if_false, Option.map_eq_map, Option.map_id']
theorem up9 {k : Int} {c : Nat} {v : Int} (h : ∀ r ∈ R, r.length = 9) : ∀ r ∈ upR R k c v, r.length = 9 := by
  intro r hr
  unfold upR at hr
  obtain ⟨i, hi, rfl⟩ := List.mem_iff_getElem.mp hr
  rw [List.getElem_modify]
  split
  · rw [List.length_set]; exact h _ (List.getElem_mem _)
  · exact h _ (List.getElem_mem _)
theorem CG.up (h : CG L X B BT s a R) {s' : vS} {k : Int} {c : Nat} {v : Int} (hc : c < 9) (k0 : 0 ≤ k) (k1 : k < R.length) (h8 : c = 8 → v = -1 ∨ (k < v ∧ v < R.length)) (h4 : c = 4 → v = -1 ∨ (0 ≤ v ∧ v < R.length)) (q : CV L X B BT s' a 0 0 R.length (updT (rwT R) k c v)) : CG L X B BT s' a (upR R k c v) := by
  have e := rwT_up (v := v) h.2.1 hc k0 k1
  refine ⟨?_, up9 h.2.1, ?_⟩
  · rw [upR_len]
    exact q.congr e
  · rw [upR_len]
    intro k' a b
    have u := (h.2.2.upd (c := c) (fun z => h8 (by omega)) (fun z => h4 (by omega))) k' a b
    rw [e k' 8 a b (by decide) (by decide), e k' 4 a b (by decide) (by decide)] at u
    exact u
theorem wp_may {K : Int} {k : Int → vS → Option α} (h : CG L X B BT s a R) (ha : a ≤ 40000) (hK : K ≠ -1) (h1 : kdL L a = K → a < L.length → ∀ s', CG L X B BT s' (a + 1) R → wpo (k 1 s') Q) (h0 : kdL L a ≠ K → wpo (k 0 s) Q) : wpo (bd (f_X5_may K s) k) Q := by
  obtain ⟨r, s', w1, w2, w3, _⟩ := h.1.may K (by omega)
  rw [w1, bd_eq]
  by_cases c : kdL L a = K
  · obtain ⟨z1, z2⟩ := w2 rfl c
    rw [z1]; exact h1 c (kd_in c hK).2 s' ⟨z2, h.2⟩
  · obtain ⟨z1, z2⟩ := w3 rfl c
    rw [z1, z2]; exact h0 c
theorem wp_take {K : Int} {k : Int → vS → Option α} (h : CG L X B BT s a R) (hG : LG L X BT) (ha : a ≤ L.length + 10) (hn : (R.length : Int) ≤ 3 * L.length + 10) (hK : K ≠ -1) (h1 : kdL L a = K → a < L.length → ∀ s', CG L X B BT s' (a + 1) R → wpo (k 1 s') Q) (h0 : kdL L a ≠ K → ∀ s', FC L X B BT (flt L X a) R.length s' → wpo (k 0 s') Q) : wpo (bd (f_X5_take K s) k) Q := by
  have := hG.1
  obtain ⟨r, s', w1, w2, w3, _⟩ := h.1.take K (by omega)
  rw [w1, bd_eq]
  by_cases c : kdL L a = K
  · obtain ⟨z1, z2⟩ := w2 rfl c
    rw [z1]; exact h1 c (kd_in c hK).2 s' ⟨z2, h.2⟩
  · obtain ⟨z1, z2⟩ := w3 rfl c
    rw [z1]; exact h0 c s' ⟨a, _, _, z2, flt_ne L X a, Int.le_refl _, hn, ha, h.2.2⟩
theorem wp_is {K : Int} {k : Int → vS → Option α} (h : CG L X B BT s a R) (hK : K ≠ -1) (h1 : kdL L a = K → a < L.length → wpo (k 1 s) Q) (h0 : kdL L a ≠ K → wpo (k 0 s) Q) : wpo (bd (f_X5_is K s) k) Q := by
  rw [h.1.is, bd_eq]
  unfold b2i
  by_cases c : kdL L a = K
  · rw [if_pos c]; exact h1 c (kd_in c hK).2
  · rw [if_neg c]; exact h0 c
theorem wp_kind {k : Int → vS → Option α} (h : CG L X B BT s a R) (h1 : wpo (k (kdL L a) s) Q) : wpo (bd (f_X5_kind s) k) Q := by
  rw [h.1.kind, bd_eq]; exact h1
theorem wp_add {kind : Int} {k : Int → vS → Option α} (h : CG L X B BT s a R) (hG : LG L X BT) (ha : a ≤ L.length + 10) (hn : (R.length : Int) ≤ 3 * L.length + 10) (hk : rg kind) (h1 : ∀ s', CG L X B BT s' a (R ++ [[kind, a, -1, -1, -1, -1, 0, 0, -1]]) → wpo (k R.length s') Q) : wpo (bd (f_X4_add kind (gI s 12 2) s) k) Q := by
  have a0 := h.a0
  obtain ⟨g1, g2, _⟩ := hG
  obtain ⟨s', e, q, _⟩ := h.1.addN (kind := kind) (lex := a) hk ⟨by omega, by omega⟩ (by omega)
  rw [h.at, e, bd_eq]
  refine h1 s' ⟨?_, ?_, ?_⟩
  · rw [List.length_append, List.length_singleton]
    refine CV.congr (n := (R.length : Int) + 1) q fun k' c' b1 b2 b3 b4 => ?_
    unfold nodeT rwT
    by_cases d : k' = R.length
    · subst d; rw [if_pos rfl]
      simp [List.getD_eq_getElem?_getD]
    · rw [if_neg d]
      simp only [List.getD_eq_getElem?_getD]
      rw [List.getElem?_append_left (by omega)]
  · intro r hr
    rcases List.mem_append.mp hr with z | z
    · exact h.2.1 r z
    · rw [List.mem_singleton.mp z]; rfl
  · intro k' b1 b2
    have g := h.2.2 k'
    rw [List.length_append, List.length_singleton] at b2 ⊢
    unfold rwT at g ⊢
    by_cases d : k' = R.length
    · subst d; simp [List.getD_eq_getElem?_getD]
    · simp only [List.getD_eq_getElem?_getD] at g ⊢
      rw [List.getElem?_append_left (by omega)]
      have g := g b1 (by omega)
      refine ⟨?_, ?_⟩
      · rcases g.1 with z | z
        · exact Or.inl z
        · exact Or.inr ⟨z.1, by have := z.2; omega⟩
      · rcases g.2 with z | z
        · exact Or.inl z
        · exact Or.inr ⟨z.1, by have := z.2; omega⟩
theorem wp_set {i c v : Int} {k : vS → Option α} (h : CG L X B BT s a R) (i0 : 0 ≤ i) (i1 : i < R.length) (c0 : 0 ≤ c) (c1 : c < 9) (hv : rg v) (hx : (c = 8 → v = -1 ∨ (i < v ∧ v < R.length)) ∧ (c = 4 → v = -1 ∨ (0 ≤ v ∧ v < R.length))) (h1 : ∀ s', CG L X B BT s' a (upR R i c.toNat v) → wpo (k s') Q) : wpo (bdv (f_X4_set i c v s) k) Q := by
  obtain ⟨s', e, q⟩ := h.1.set i0 i1 c0 c1 hv
  rw [e, bdv_eq]
  refine h1 s' (h.up (by omega) i0 i1 (fun z => hx.1 (by omega)) (fun z => hx.2 (by omega)) ?_)
  rw [Int.toNat_of_nonneg c0]; exact q
theorem wp_setA {i c : Int} {k : vS → Option α} (h : CG L X B BT s a R) (ha : a ≤ 40000) (i0 : 0 ≤ i) (i1 : i < R.length) (c0 : 0 ≤ c) (c1 : c < 8) (c4 : c ≠ 4) (h1 : ∀ s', CG L X B BT s' a (upR R i c.toNat a) → wpo (k s') Q) : wpo (bdv (f_X4_set i c (gI s 12 2) s) k) Q := by
  have := h.a0
  rw [h.at]; exact wp_set h i0 i1 c0 (by omega) ⟨by omega, by omega⟩ ⟨fun z => by omega, fun z => by omega⟩ h1
theorem wp_chain {o c l i : Int} {k : Int → vS → Option α} (h : CG L X B BT s a R) (o0 : 0 ≤ o) (o1 : o < R.length) (c0 : 0 ≤ c) (c1 : c < 8) (l0 : l = -1 ∨ (0 ≤ l ∧ l < i)) (i0 : 0 ≤ i) (i1 : i < R.length) (h1 : ∀ s', CG L X B BT s' a (chR R o c.toNat l i) → wpo (k i s') Q) : wpo (bd (f_X4_chain o c l i s) k) Q := by
  obtain ⟨s', e, q⟩ := h.1.chain (c := c) (l := l) o0 o1 c0 (by omega) (by omega) i0 i1
  rw [e, bd_eq]
  refine h1 s' ?_
  unfold chR
  by_cases d : l = -1
  · rw [if_pos d] at q ⊢
    refine h.up (by omega) o0 o1 (fun z => by omega) (fun z => by omega) ?_
    rw [Int.toNat_of_nonneg c0]; exact q
  · rw [if_neg d] at q ⊢
    exact h.up (c := 8) (by omega) (by omega) (by omega) (fun z => by omega) (fun z => by omega) q
theorem wp_adv {k : vS → Option α} (h : CG L X B BT s a R) (ha : a ≤ 40000) (h1 : ∀ s', CG L X B BT s' (a + 1) R → wpo (k s') Q) : wpo (stp (sI s 12 2 (w32 (gI s 12 2 + 1))) k) Q := by
  rw [stp_eq]; exact h1 _ ⟨h.1.next (by omega), h.2⟩
theorem wp_bk {k : vS → Option α} (h : CG L X B BT s a R) (ha : 1 ≤ a) (h1 : ∀ s', CG L X B BT s' (a - 1) R → wpo (k s') Q) : wpo (stp (sI s 12 2 (w32 (gI s 12 2 - 1))) k) Q := by
  have h9 := h.1.2.2.2.2.2.2.2.2.1
  rw [stp_eq, h.at, w32_id ⟨by omega, by omega⟩]; exact h1 _ ⟨h.1.go (by omega) (by omega), h.2⟩
theorem dvL_nn (hG : LG L X BT) {a : Int} (hk : kdL L a = 2) : 0 ≤ dvL L X a := by
  obtain ⟨d1, d2, d3, d4⟩ := hG.2.2 a hk
  unfold dvL
  generalize (L.getD a.toNat (0, 0, 0)).2.1 = i at *
  generalize enL L a = e at *
  exact (dvA_nn (slc X i e) 0 (by decide) (fun ch hc => by
    unfold slc at hc
    obtain ⟨j, hj, rfl⟩ := List.mem_iff_getElem.mp hc
    rw [List.length_take, List.length_drop] at hj
    have q := d4 (i + j) (by omega) (by omega)
    rw [cha_in (by omega) (by omega)] at q
    simp only [List.getElem_take, List.getElem_drop]
    have e2 : X.getD (i + (j : Int)).toNat 0 = X[i.toNat + j]'(by omega) := by
      rw [show (i + (j : Int)).toNat = i.toNat + j by omega]; exact (List.getElem_eq_getD 0).symm
    rw [e2] at q; exact q)).1
theorem wp_small {k : Int → vS → Option α} (h : CG L X B BT s a R) (hG : LG L X BT) (hk : kdL L a = 2) (h1 : ∀ r, 0 ≤ r → ((r = dvL L X a) ∨ (10000000000 ≤ r ∧ 10000000000 ≤ dvL L X a)) → wpo (k r s) Q) : wpo (bd (f_X5_small (gI s 12 2) s) k) Q := by
  have i := kd_in hk (by decide)
  obtain ⟨d1, d2, d3, d4⟩ := hG.2.2 a hk
  obtain ⟨r, r1, r2⟩ := h.1.small i.1 i.2 d1 d2 d3 d4
  have nn := dvL_nn hG hk
  rw [h.at, r1, bd_eq]; exact h1 r (by omega) r2
theorem wp_setV {i c v v' : Int} {k : vS → Option α} (h : CG L X B BT s a R) (hv : v = v') (i0 : 0 ≤ i) (i1 : i < R.length) (c0 : 0 ≤ c) (c1 : c < 8) (c4 : c ≠ 4) (hv : rg v') (h1 : ∀ s', CG L X B BT s' a (upR R i c.toNat v') → wpo (k s') Q) : wpo (bdv (f_X4_set i c v s) k) Q := by
  subst v; exact wp_set h i0 i1 c0 (by omega) hv ⟨fun z => by omega, fun z => by omega⟩ h1
theorem wp_cmp {r c : Int} {x y : Option α} (h1 : r ≤ c → wpo x Q) (h0 : ¬ r ≤ c → wpo y Q) : wpo (if cmp64 r c ≤ 0 then x else y) Q := by
  by_cases d : r ≤ c
  · rw [if_pos (cmp64_le.mpr d)]; exact h1 d
  · rw [if_neg (fun z => d (cmp64_le.mp z))]; exact h0 d
theorem wp_unfit {k : Int → vS → Option α} (h : CG L X B BT s a R) (ha : a ≤ L.length + 10) (hn : (R.length : Int) ≤ 3 * L.length + 10) (h1 : ∀ s', FC L X B BT (flt L X a) R.length s' → wpo (k 0 s') Q) : wpo (bd (f_X5_unfit s) k) Q := by
  obtain ⟨s', w1, w2, _⟩ := h.1.unfit
  rw [w1, bd_eq]; exact h1 s' ⟨a, _, _, w2 rfl, flt_ne L X a, Int.le_refl _, hn, ha, h.2.2⟩
theorem wp_wrong {c : Int} {k : Int → vS → Option α} (h : CG L X B BT s a R) (ha : a ≤ L.length + 10) (hn : (R.length : Int) ≤ 3 * L.length + 10) (hc : rg c) (c0 : c ≠ 0) (h1 : ∀ s', FC L X B BT (c, stL' L X a) R.length s' → wpo (k 0 s') Q) : wpo (bd (f_X5_wrong c (gI s 12 2) s) k) Q := by
  obtain ⟨s', w1, w2, _⟩ := h.1.wrong (c := c) (k := a) h.a0 hc
  rw [h.at, w1, bd_eq]; exact h1 s' ⟨a, _, _, w2 rfl, c0, Int.le_refl _, hn, ha, h.2.2⟩
theorem wp_if0 {x y : Option α} (h : CG L X B BT s a R) (h1 : wpo x Q) : wpo (if gI s 12 3 = 0 then x else y) Q := by rw [if_pos h.fl]; exact h1
theorem wpF_if0 {x y : Option α} (h : FC L X B BT e m s) (h1 : wpo y Q) : wpo (if gI s 12 3 = 0 then x else y) Q := by rw [if_neg (by rw [h.fault.1]; exact h.fault.2.2)]; exact h1
theorem wpF_may {K : Int} {k : Int → vS → Option α} (h : FC L X B BT e m s) (hG : LG L X BT) (h1 : wpo (k 0 s) Q) : wpo (bd (f_X5_may K s) k) Q := by rw [h.may hG.1, bd_eq]; exact h1
theorem wpF_take {K : Int} {k : Int → vS → Option α} (h : FC L X B BT e m s) (hG : LG L X BT) (h1 : wpo (k 0 s) Q) : wpo (bd (f_X5_take K s) k) Q := by rw [h.take hG.1, bd_eq]; exact h1
theorem wpF_unfit {k : Int → vS → Option α} (h : FC L X B BT e m s) (h1 : wpo (k 0 s) Q) : wpo (bd (f_X5_unfit s) k) Q := by rw [h.unfit, bd_eq]; exact h1
theorem wpF_set {i c v : Int} {k : vS → Option α} (h : FC L X B BT e m s) (i0 : 0 ≤ i) (i1 : i < m) (c0 : 0 ≤ c) (c1 : c < 9) (hv : rg v) (hx : (c = 8 → v = -1 ∨ (i < v ∧ v < m)) ∧ (c = 4 → v = -1 ∨ (0 ≤ v ∧ v < m))) (h1 : ∀ s', FC L X B BT e m s' → wpo (k s') Q) : wpo (bdv (f_X4_set i c v s) k) Q := by
  obtain ⟨s', e, q⟩ := h.set i0 i1 c0 c1 hv hx
  rw [e, bdv_eq]; exact h1 s' q
theorem wpF_chain {o c l i : Int} {k : Int → vS → Option α} (h : FC L X B BT e m s) (o0 : 0 ≤ o) (o1 : o < m) (c0 : 0 ≤ c) (c1 : c < 8) (l0 : l = -1 ∨ (0 ≤ l ∧ l < i)) (i0 : 0 ≤ i) (i1 : i < m) (h1 : ∀ s', FC L X B BT e m s' → wpo (k i s') Q) : wpo (bd (f_X4_chain o c l i s) k) Q := by
  obtain ⟨s', e, q⟩ := h.chain o0 o1 c0 c1 l0 i0 i1
  rw [e, bd_eq]; exact h1 s' q
end
/-- what a step of the grammar leaves: a fault, or the plain one's tables -/
def OG (L : Lx) (X : List Int) (B BT : Nat) (a : Int) (c : Int) (m : Int) (s' : vS) (g : Ft ⊕ Pg) : Prop := match g with
  | .inl e => FC L X B BT e m s'
  | .inr q => CG L X B BT s' q.1 (q.2 11) ∧ a < q.1 ∧ q.1 ≤ L.length ∧ ((q.2 11).length : Int) + 3 * a ≤ c + 3 * q.1 ∧ m ≤ (q.2 11).length
theorem OG.inl {L : Lx} {X : List Int} {B BT : Nat} {a : Int} {c : Int} {m m' : Int} {s' : vS} {e : Ft} (h : FC L X B BT e m' s') (hm : m ≤ m') : OG L X B BT a c m s' (.inl e) := h.mono hm
theorem OG.inr {L : Lx} {X : List Int} {B BT : Nat} {a b : Int} {R' : List (List Int)} {c m : Int} {s' : vS} {M' : Mt} (h : CG L X B BT s' b R') (e : M' 11 = R') (h1 : a < b) (h2 : b ≤ L.length) (h3 : (R'.length : Int) + 3 * a ≤ c + 3 * b) (h4 : m ≤ R'.length) : OG L X B BT a c m s' (.inr (b, M')) := by
  subst e; exact ⟨h, h1, h2, h3, h4⟩
theorem OG.weak {L : Lx} {X : List Int} {B BT : Nat} {a a' : Int} {c c' : Int} {m m' : Int} {s' : vS} {g : Ft ⊕ Pg} (h : OG L X B BT a' c' m' s' g) (h1 : a ≤ a') (h2 : c' + 3 * a ≤ c + 3 * a') (hm : m ≤ m') : OG L X B BT a c m s' g := by
  cases g with
  | inl e => exact FC.mono h hm
  | inr q => exact ⟨h.1, by have := h.2.1; omega, h.2.2.1, by have := h.2.2.2.1; omega, by have := h.2.2.2.2; omega⟩
theorem OG.bl {L : Lx} {X : List Int} {B BT : Nat} {a : Int} {c : Int} {m : Int} {s' : vS} {e : Ft} (h : OG L X B BT a c m s' (.inl e)) : FC L X B BT e m s' := h
theorem OG.br {L : Lx} {X : List Int} {B BT : Nat} {a b : Int} {c : Int} {m : Int} {s' : vS} {M' : Mt} (h : OG L X B BT a c m s' (.inr (b, M'))) : CG L X B BT s' b (M' 11) ∧ a < b ∧ b ≤ L.length ∧ ((M' 11).length : Int) + 3 * a ≤ c + 3 * b ∧ m ≤ (M' 11).length := h
