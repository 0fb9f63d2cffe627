set_option maxRecDepth 100000
/-! V-LAYER 7: calls -/
/-- a cell that a call leaves where it is -/
def kp (σ τ : vS) (k : Nat) : Prop := (kpK k ∧ ((τ.2.1 k).1 = (σ.2.1 k).1 ∨ kd k < 14)) ∨ 1000 ≤ k
theorem kp_at {σ τ : vS} {a a1 : Nat → Nat} (hJ : vJ (lz σ) a τ a1) {k : Nat} (h : kp σ τ k) : a1 k = a k := by
  rcases h with h | h
  · rcases hJ.1 k h.1 with z | z | z
    · exact absurd z (Nat.succ_ne_zero _)
    · exact z.2
    · refine z.2.2 ?_
      rcases h.2 with q | q
      · show (τ.2.1 k).1 + 1 = (σ.2.1 k).1 + 1
        rw [q]
      · omega
  · exact hJ.2 k h
def KP (σ τ : vS) : List vA → Prop
  | [] => True
  | .inr (.inr (.inl k)) :: r => kp σ τ k ∧ KP σ τ r
  | _ :: r => KP σ τ r
theorem KP_dv {σ τ : vS} {a a1 : Nat → Nat} (hJ : vJ (lz σ) a τ a1) : ∀ (l : List vA), KP σ τ l → l.map (dv a1) = l.map (dv a)
  | [], _ => rfl
  | .inl x :: r, h => by rw [List.map_cons, List.map_cons, KP_dv hJ r h]; rfl
  | .inr (.inl x) :: r, h => by rw [List.map_cons, List.map_cons, KP_dv hJ r h]; rfl
  | .inr (.inr (.inl k)) :: r, h => by
    rw [List.map_cons, List.map_cons, KP_dv hJ r h.2]
    have := kp_at hJ h.1
    simp only [dv, this]
  | .inr (.inr (.inr v)) :: r, h => by rw [List.map_cons, List.map_cons, KP_dv hJ r h]; rfl
theorem KP_dvl {σ τ : vS} {a a1 : Nat → Nat} (hJ : vJ (lz σ) a τ a1) : ∀ (L : List (Nat × vA)), KP σ τ (L.map (fun q => q.2)) → dvl a1 L = dvl a L
  | [], _ => rfl
  | (i, v) :: L, h => by
    have e : ∀ b : Nat → Nat, dvl b ((i, v) :: L) = (i, dv b v) :: dvl b L := fun _ => rfl
    rw [e, e]
    match v, h with
    | .inl x, h => rw [KP_dvl hJ L h]; rfl
    | .inr (.inl x), h => rw [KP_dvl hJ L h]; rfl
    | .inr (.inr (.inl k)), h =>
      rw [KP_dvl hJ L h.2]
      have := kp_at hJ h.1
      simp only [dv, this]
    | .inr (.inr (.inr v)), h => rw [KP_dvl hJ L h]; rfl
theorem vJ_trans {l0 a0 : Nat → Nat} {σ τ : vS} {a a1 : Nat → Nat} (h : vJ l0 a0 σ a) (h1 : vJ (lz σ) a τ a1) : vJ l0 a0 τ a1 := by
  refine ⟨fun k hk => ?_, fun k hk => (h1.2 k hk).trans (h.2 k hk)⟩
  have p1 := h.1 k hk
  have q1 := h1.1 k hk
  unfold lz at q1
  rcases p1 with z | ⟨z1, z2⟩ | ⟨z1, z2, z3⟩
  · exact Or.inl z
  · rcases q1 with y | ⟨-, y2⟩ | ⟨y1, -⟩
    · omega
    · exact Or.inr (Or.inl ⟨z1, y2.trans z2⟩)
    · omega
  · rcases q1 with y | ⟨y1, -⟩ | ⟨-, y2, y3⟩
    · omega
    · omega
    · refine Or.inr (Or.inr ⟨z1, by omega, fun w => ?_⟩)
      rw [y3 (by omega), z3 (by omega)]
theorem nest_case {w : Cond} (h : w ∈ vnest) : (∃ a i x c, w = .methodLinkNest a i x c) ∨ (∃ a i b n d c, w = .fieldLinkNest a i b n d c) ∨ (∃ C T, w = .castable C T) ∨ (∃ x, w = .declares x) := by
  have h := (List.mem_filter.mp h).2
  cases w <;> simp at h
  all_goals first
    | exact Or.inl ⟨_, _, _, _, rfl⟩
    | exact Or.inr (Or.inl ⟨_, _, _, _, _, _, rfl⟩)
    | exact Or.inr (Or.inr (Or.inl ⟨_, _, rfl⟩))
    | exact Or.inr (Or.inr (Or.inr ⟨_, rfl⟩))
theorem nest_warm {s U : State} (hW : s.WarmedH U.vm) (h : ∀ w ∈ vnest, va_Nw w s) : ∀ w ∈ vnest, va_Nw w U := by
  intro w hw
  have h1 := h w hw
  rcases nest_case hw with ⟨a, i, x, c, rfl⟩ | ⟨a, i, b, n, d, c, rfl⟩ | ⟨C, T, rfl⟩ | ⟨x, rfl⟩
  · exact va_Nw.warmM hW h1
  · exact va_Nw.warmF hW h1
  · exact va_Nw.warmC hW h1
  · exact va_Nw.warmD hW h1
theorem nest_same {s U : State} (hv : s.vm = U.vm) (h : ∀ w ∈ vnest, va_Nw w s) : ∀ w ∈ vnest, va_Nw w U := by
  intro w hw
  have h1 := h w hw
  rcases nest_case hw with ⟨a, i, x, c, rfl⟩ | ⟨a, i, b, n, d, c, rfl⟩ | ⟨C, T, rfl⟩ | ⟨x, rfl⟩
  · exact va_Nw.same rfl hv h1
  · exact va_Nw.same rfl hv h1
  · exact va_Nw.same rfl hv h1
  · exact va_Nw.same rfl hv h1
theorem vstr.moved {a : Nat → Nat} {A : Nat → Prop} {u U : State} {H : Heap} (hW : u.WarmedH U.vm) (h : vstr a A u H) : vstr a A U H :=
  ⟨fun i hi => ⟨va_O.moved hW.alike (h.1 i hi).1, va_OF.moved hW.alike (h.1 i hi).2.1, va_OF.moved hW.alike (h.1 i hi).2.2.1, va_T.moved hW.alike (h.1 i hi).2.2.2.1, vk_R.warm hW (h.1 i hi).2.2.2.2⟩, va_Z.moved hW.alike h.2.1, va_Zq.moved hW.alike h.2.2⟩
theorem vstr.kept {a : Nat → Nat} {A : Nat → Prop} {U : State} {H H1 : Heap} (h : vstr a A U H) (hq : ∀ a : Nat, a < H.size → ¬ A a → H1[a]? = H[a]?) : vstr a A U H1 :=
  ⟨fun i hi => ⟨(h.1 i hi).1.kept hq, (h.1 i hi).2.1.kept hq, (h.1 i hi).2.2.1.kept hq, (h.1 i hi).2.2.2.1.kept hq, (h.1 i hi).2.2.2.2⟩, h.2.1.kept hq, va_Zq.kept h.2.2 hq⟩
theorem va_O.lt9 {E : String} {t : Nat} {A : Nat → Prop} {U : State} {H : Heap} (h : va_O E t A U H) {B : Nat → Prop} (hB : ∀ q, q < H.size → B q → A q) : va_O E t B U H := by
  obtain ⟨cell, h1, h2, h3, h4⟩ := h
  exact ⟨cell, h1, h2, h3, fun z => h4 (hB t (Array.getElem?_eq_some_iff.mp h1).1 z)⟩
theorem va_OF.lt9 {o n d : String} {v : Value} {t : Nat} {A : Nat → Prop} {U : State} {H : Heap} (h : va_OF o n d v t A U H) {B : Nat → Prop} (hB : ∀ q, q < H.size → B q → A q) : va_OF o n d v t B U H := by
  obtain ⟨cf, k, i, f, cell, h1, h2, h3, h4, h5, h6⟩ := h
  exact ⟨cf, k, i, f, cell, h1, h2, h3, h4, h5, fun z => h6 (hB t (Array.getElem?_eq_some_iff.mp h3).1 z)⟩
theorem va_T.lt9 {ty : FieldType} {t N : Nat} {f : Nat → Value} {A : Nat → Prop} {U : State} {H : Heap} (h : va_T ty t N f A U H) {B : Nat → Prop} (hB : ∀ q, q < H.size → B q → A q) : va_T ty t N f B U H := by
  obtain ⟨cell, h1, h2, h3, h4, h5, h6, h7⟩ := h
  exact ⟨cell, h1, h2, h3, h4, h5, h6, fun z => h7 (hB t (Array.getElem?_eq_some_iff.mp h1).1 z)⟩
theorem va_Z.lt9 {C n d : String} {v : Value} {A : Nat → Prop} {U : State} {H : Heap} (h : va_Z C n d v A U H) {B : Nat → Prop} (hB : ∀ q, q < H.size → B q → A q) : va_Z C n d v B U H := by
  obtain ⟨cf, kf, fi, f, a, cell, h1, h2, h3, h4, h5, h6, h7, h8⟩ := h
  exact ⟨cf, kf, fi, f, a, cell, h1, h2, h3, h4, h5, h6, h7, fun z => h8 (hB a (Array.getElem?_eq_some_iff.mp h5).1 z)⟩
theorem va_Zq.lt9 {C n d : String} {A : Nat → Prop} {U : State} {H : Heap} (h : va_Zq C n d A U H) {B : Nat → Prop} (hB : ∀ q, q < H.size → B q → A q) : va_Zq C n d B U H := by
  rcases h with h | ⟨t, h⟩
  · exact Or.inl (va_Z.lt9 h hB)
  · exact Or.inr ⟨t, va_Z.lt9 h hB⟩
theorem vx_Zq.lt9 {C n d : String} {A : Nat → Prop} {U : State} {H : Heap} (h : vx_Zq C n d A U H) {B : Nat → Prop} (hB : ∀ q, q < H.size → B q → A q) : vx_Zq C n d B U H := by
  obtain ⟨h1, c, k, i, f, a, cell, g1, g2, g3, g4, g5, g6, g7, g8, g9, g10⟩ := h
  exact ⟨va_Zq.lt9 h1 hB, c, k, i, f, a, cell, g1, g2, g3, g4, g5, g6, g7, g8, g9, fun z => g10 (hB a (Array.getElem?_eq_some_iff.mp g5).1 z)⟩
theorem vstr.lt9 {a : Nat → Nat} {A B : Nat → Prop} {U : State} {H : Heap} (h : vstr a A U H) (hB : ∀ q, q < H.size → B q → A q) : vstr a B U H :=
  ⟨fun i hi => ⟨(h.1 i hi).1.lt9 hB, (h.1 i hi).2.1.lt9 hB, (h.1 i hi).2.2.1.lt9 hB, (h.1 i hi).2.2.2.1.lt9 hB, (h.1 i hi).2.2.2.2⟩, h.2.1.lt9 hB, h.2.2.lt9 hB⟩
theorem vstr.addr {a b : Nat → Nat} {A : Nat → Prop} {U : State} {H : Heap} (hab : ∀ k : Nat, 1000 ≤ k → b k = a k) (h : vstr a A U H) : vstr b A U H := by
  refine ⟨fun i hi => ?_, h.2⟩
  rw [hab (1000 + i) (by omega), hab (1100 + i) (by omega)]
  exact h.1 i hi
theorem vlnk.addr {G : vG} {a b : Nat → Nat} (hab : ∀ k : Nat, 1000 ≤ k → b k = a k) (h : vlnk G a) : vlnk G b :=
  ⟨fun i hi => (h.1 i hi).trans (hab _ (by omega)).symm, by rw [hab 1077 (by omega)]; exact h.2⟩
/-- what a callee is told -/
theorem VN.call {G : vG} {a a0 : Nat → Nat} {A B : Nat → Prop} {l : Launch} {s : State} {H : Heap} {locs : List Loc} (hab : ∀ k : Nat, 1000 ≤ k → a k = a0 k) (hS : va_S A s.heap H locs) (hB : ∀ q, q < H.size → B q → A q) (h : VN G a0 A l s s.heap) : VN G a B l s H :=
  ⟨h.1, ((h.2.1.addr hab).kept hS.2.1).lt9 hB, h.2.2.1.addr hab, h.2.2.2.1, (h.2.2.2.2.1.kept hS.2.1).lt9 hB, (h.2.2.2.2.2.1.kept hS.2.1).lt9 hB, h.2.2.2.2.2.2⟩
theorem VN.warm {G : vG} {a : Nat → Nat} {A : Nat → Prop} {l : Launch} {s U : State} {H : Heap} (hW : s.WarmedH U.vm) (h : VN G a A l s H) : VN G a A l U H :=
  ⟨nest_warm hW h.1, h.2.1.moved hW, h.2.2.1, h.2.2.2.1, vx_Zq.moved hW.alike h.2.2.2.2.1, vx_Zq.moved hW.alike h.2.2.2.2.2.1, va_Nc.moved hW.alike h.2.2.2.2.2.2.1, va_Nc.moved hW.alike h.2.2.2.2.2.2.2.1, va_AO.moved hW.alike h.2.2.2.2.2.2.2.2⟩
theorem VN.same {G : vG} {a : Nat → Nat} {A : Nat → Prop} {l : Launch} {s U : State} {H : Heap} (hv : s.vm = U.vm) (h : VN G a A l s H) : VN G a A l U H := by
  have hal : s.vm.Alike U.vm := by rw [hv]; exact Vm.Alike.refl _
  refine ⟨nest_same hv h.1, ⟨fun i hi => ?_, va_Z.moved hal h.2.1.2.1, va_Zq.moved hal h.2.1.2.2⟩, h.2.2.1, h.2.2.2.1, vx_Zq.moved hal h.2.2.2.2.1, vx_Zq.moved hal h.2.2.2.2.2.1, va_Nc.moved hal h.2.2.2.2.2.2.1, va_Nc.moved hal h.2.2.2.2.2.2.2.1, va_AO.moved hal h.2.2.2.2.2.2.2.2⟩
  have q := h.2.1.1 i hi
  exact ⟨va_O.moved hal q.1, va_OF.moved hal q.2.1, va_OF.moved hal q.2.2.1, va_T.moved hal q.2.2.2.1, vk_R.same hv.symm q.2.2.2.2⟩
theorem vblind (l : Launch) (G : vG) (σ : vS) (a : Nat → Nat) (sz : Nat) (av : List Value) : FrameBlind (va_Pc av (vpre l G σ a sz)) := by
  intro x U g mk q
  obtain ⟨q0, q1, qP, qK, qN, qD⟩ := q
  exact ⟨q0, q1, qP, va_K.moved (u := U) (U := U.calling g mk x) (Vm.Alike.refl _) qK, VN.same (s := U) (U := U.calling g mk x) rfl qN, qD⟩
section
variable {p : Program} {l : Launch} {e : Env} {R : Room} {s : State} {m : MethodId} {args : Array Value} {below : List Frame} {meth : Method} {c : Code} {H : Heap} {locs : List Loc} {cells slots mc ms pc : Nat} {Q : State → Prop} {ls : Array Slot} {st0 rest : List Value} {G : vG} {σ σ1 : vS} {a : Nat → Nat} {rv : Option vA} {A : Nat → Prop} {av : Array Value} {tk1 : List (Nat × Nat)}
theorem v_run (hr : va_Run p l e R s m args below meth c H locs cells slots mc ms (F0 m pc ls st0) rest (vpost G σ a H.size rv σ1 tk1 av) (va_A (vws G (P0 []) σ a) H.size)) (hD : va_D A (vws G (P0 []) σ a)) (hS : va_S A s.heap H locs) (hA : ∀ q : Nat, s.heap.size ≤ q → A q)
    (kk : ∀ (H1 : Heap) (locs1 : List Loc) (a1 : Nat → Nat), va_P G.1 vcl (vws G (P0 tk1) σ1 a1) H1 → va_D A (vws G (P0 tk1) σ1 a1) → va_S A s.heap H1 locs1 → vJ (lz σ) a σ1 a1 → W p l e R s m args below meth c H1 locs1 (cells + mc) (slots + ms) Q (F0 m (pc + 3) ls ((rv.map (dv a1)).toList ++ rest))) : W p l e R s m args below meth c H locs cells slots Q (F0 m pc ls st0) := by
  have hsub : ∀ q : Nat, va_A (vws G (P0 []) σ a) H.size q → A q := by
    rintro q (⟨k, x, h⟩ | h)
    · exact hD.2 k _ h
    · exact hA q (Nat.le_trans hS.1 h)
  intro T hT X
  obtain ⟨v, s0, t, T', L, h0, X', hL, e1, e2, ⟨⟨a1, hv, hP1, hD1, hJ1⟩, hz, hk⟩, hst⟩ := hr T hT X
  cases hv
  rw [h0] at hz hk
  obtain ⟨t2, q1, q2⟩ := kk T'.heap (locs ++ L) a1 (by rw [e1]; exact hP1) (hD1.weaken (fun _ _ _ h => hsub _ h))
    ⟨Nat.le_trans hS.1 (by rw [e1]; exact hz), fun q h1 h2 => by rw [e1, hk q (Nat.lt_of_lt_of_le h1 hS.1) (fun z => h2 (hsub q z))]; exact hS.2.1 q h1 h2, fun q hq => by
      rcases List.mem_append.mp hq with h | h
      · exact hS.2.2 q h
      · exact hsub _ (hL q h)⟩ hJ1 T' rfl X'
  exact ⟨t2, hst t2 q1, q2⟩
end
/-- what is to be said of a method's name: no handle's class, how many parameters -/
def yOk (y : MethodName) (n : Nat) : Prop := y.cls ≠ "java/lang/invoke/MethodHandle" ∧ y.cls ≠ "java/lang/invoke/VarHandle" ∧ (parseMethodDescriptor y.desc).map (fun d => d.parameters.length) = some n
def vc8 (st : List vA) : Nat := (st.map fun v => if v2 v then 2 else 1).sum
theorem vc8_dv (a : Nat → Nat) (st : List vA) : ((st.map (dv a)).map fun v => v.category).sum = vc8 st := by
  induction st with
  | nil => rfl
  | cons v st ih =>
    simp only [List.map_cons, List.sum_cons, vc8]
    rw [ih]
    have h := v2_dv a v
    rcases lv_cat (dv a v) with q | q
    · rw [q] at h ⊢
      have : v2 v = false := by rw [← h]; rfl
      simp [this, vc8]
    · rw [q] at h ⊢
      have : v2 v = true := by rw [← h]; rfl
      simp [this, vc8]
section
variable {cc bytes : ByteArray} {own : String} {rv rv1 : Option vA} {σo : vS} {ret ret1 : Option FieldType} {F Lc nL rf rl maxL i : Nat} {tko tk1 : List (Nat × Nat)} {σ σ1 : vS} {pc : Nat} {L : List (Nat × vA)} {st stk av : List vA} {y : MethodName}
/-- the frame of the four rows -/
theorem v_callw (hC : VC y bytes maxL ret1 rf rl av σ rv1 σ1 tk1) (hk : KP σ σ1 st) (hkL : KP σ σ1 (L.map (fun q => q.2))) (hs : stk = av.reverse ++ st)
    (hrun : ∀ (p : Program) (l : Launch) (e : Env) (R : Room) (s : State) (m : MethodId) (args : Array Value) (below : List Frame) (meth : Method) (c : Code) (G : vG) (H : Heap) (locs : List Loc) (a : Nat → Nat) (ls : Array Slot) (cells slots : Nat),
      p.tables.exec = Jvm.exec → c.code = cc → c.maxLocals = nL → s.vm.findClass own = some m.cls → (∀ w ∈ lw_all, w.before args s = true) → va_K G.1 vcl (vtys G) s → VN G a (va_A (vws G (P0 []) σ a) H.size) l s H → R.frames = F → R.locals = Lc → ls.size = nL → va_P G.1 vcl (vws G (P0 []) σ a) H → va_D (fun _ => True) (vws G (P0 []) σ a) →
      cells + (Pc (P0 tk1) σ1 - Pc (P0 []) σ) ≤ R.cells ∧ slots + (Ps (P0 tk1) σ1 - Ps (P0 []) σ) ≤ R.slots →
      va_Run p l e R s m args below meth c H locs cells slots (Pc (P0 tk1) σ1 - Pc (P0 []) σ) (Ps (P0 tk1) σ1 - Ps (P0 []) σ) (F0 m pc ls ((av.map (dv a)).reverse ++ st.map (dv a))) (st.map (dv a)) (vpost G σ a H.size rv1 σ1 tk1 (av.map (dv a)).toArray) (va_A (vws G (P0 []) σ a) H.size))
    (k : VW cc (own, rv, σo, ret, F, Lc, nL, tko) (P0 tk1) σ1 (pc + 3) L (rv1.toList ++ st)) : VW cc (own, rv, σo, ret, F, Lc, nL, tko) (P0 []) σ pc L stk := by
  subst hs
  obtain ⟨k0, k⟩ := k
  obtain ⟨hle, hC⟩ := hC
  refine And.intro ⟨Nat.le_trans hle.1 k0.1, Nat.le_trans hle.2.1 k0.2.1, k0.2.2⟩ (fun M hX hR hM hN => ?_)
  have k := k M hX hR hM hN
  have hR2 := hR
  obtain ⟨⟨p, l, e, R, s, m, args, below, meth, c⟩, G, A, Q, b, o, nL0, l0, a0⟩ := M
  intro H locs a ls hP hD hS hl hj b1 b2
  obtain ⟨hx, hb, hml, hown, hts, hK, hlk, hA, hRc, hRs, hNw⟩ := hX
  obtain ⟨σ0, hq1, hq2, ho, hq3, hq4⟩ := hR2
  have ho1 : o.1 = Pc (P0 tko) σo := by rw [ho]
  have ho2 : o.2 = Ps (P0 tko) σo := by rw [ho]
  have hN : nL0 = nL := hN
  have hf : (Pc (P0 []) σ - b.1) + (Pc (P0 tk1) σ1 - Pc (P0 []) σ) ≤ R.cells ∧ (Ps (P0 []) σ - b.2) + (Ps (P0 tk1) σ1 - Ps (P0 []) σ) ≤ R.slots := by
    rw [ho1] at hRc
    rw [ho2] at hRs
    omega
  have r := hrun p l e R s m args below meth c G H locs a ls (Pc (P0 []) σ - b.1) (Ps (P0 []) σ - b.2) hx hb (hml.trans hN) hown hts hK (VN.call hj.2 hS (fun q h1 h2 => h2.elim (fun ⟨k, x, h⟩ => hD.2 k _ h) (fun h => absurd h1 (by omega))) hNw) hM.1 hM.2 (hl.1.trans hN) hP (hD.weaken (fun _ _ _ _ => trivial)) hf
  rw [List.map_append, List.map_reverse]
  refine v_run r hD hS hA (fun H1 locs1 a1 hP1 hD1 hS1 hJ1 => ?_)
  have k := k H1 locs1 a1 ls hP1 hD1 hS1 (by rw [KP_dvl hJ1 L hkL]; exact hl) (vJ_trans hj hJ1) (Nat.le_trans b1 hle.1) (Nat.le_trans b2 hle.2.1)
  have e1 : Pc (P0 []) σ - b.1 + (Pc (P0 tk1) σ1 - Pc (P0 []) σ) = Pc (P0 tk1) σ1 - b.1 := by omega
  have e2 : Ps (P0 []) σ - b.2 + (Ps (P0 tk1) σ1 - Ps (P0 []) σ) = Ps (P0 tk1) σ1 - b.2 := by omega
  rw [e1, e2, ← KP_dv hJ1 st hk]
  rw [List.map_append] at k
  have e3 : (rv1.map (dv a1)).toList = rv1.toList.map (dv a1) := by cases rv1 <;> rfl
  rw [e3]
  exact k
theorem v_callS (hC : VC y bytes maxL ret1 rf rl av σ rv1 σ1 tk1) (hw : GoodIn lw_all (va_wsS own i y (ws_ y bytes maxL ret1))) (hy : yOk y av.length) (hrm : rf + 1 ≤ F ∧ 8 + (maxL + 11) + rl ≤ Lc) (hk : KP σ σ1 st) (hkL : KP σ σ1 (L.map (fun q => q.2))) (h8 : vc8 st ≤ 8) (hs : stk = av.reverse ++ st) (hd : decode cc pc = .ok (.invokestatic i, 3))
    (k : VW cc (own, rv, σo, ret, F, Lc, nL, tko) (P0 tk1) σ1 (pc + 3) L (rv1.toList ++ st)) : VW cc (own, rv, σo, ret, F, Lc, nL, tko) (P0 []) σ pc L stk := by
  refine v_callw hC hk hkL hs (fun p l e R s m args below meth c G H locs a ls cells slots hx hb hml hown hts hK hNw hF hLc hls hP hD hf => ?_) k
  refine va_runS ⟨hx, hb, hml, hown, hts⟩ (hC.2 l G a H.size) (va_cwS av.length hts hw rfl rfl rfl hy (by rw [hF, hLc]; exact hrm)) ⟨vblind l G σ a H.size _, fun U hU hW => ⟨rfl, by rw [hU], by rw [hU]; exact hP, va_K.moved hW.alike hK, by rw [hU]; exact VN.warm hW hNw, hD⟩⟩ rfl (by simp) hls rfl (lv_room (by rw [vc8_dv]; exact h8)) hd hf
variable {ci o N : Nat} {C : String} {T : u_T} {ty : Nat → FieldType} {As : List vA}
theorem v_callV (cf : CF ci C T N ty) (ho : ok (P0 []) o ci) (hC : VC y bytes maxL ret1 rf rl (vO o :: As) σ rv1 σ1 tk1) (hw : GoodIn lw_all (wsV own i C y (ws_ y bytes maxL ret1))) (hyC : y.cls = C) (hy : yOk y As.length) (hrm : rf + 1 ≤ F ∧ 8 + (maxL + 11) + rl ≤ Lc) (hk : KP σ σ1 st) (hkL : KP σ σ1 (L.map (fun q => q.2))) (h8 : vc8 st ≤ 8) (hs : stk = (vO o :: As).reverse ++ st) (hd : decode cc pc = .ok (.invokevirtual i, 3))
    (k : VW cc (own, rv, σo, ret, F, Lc, nL, tko) (P0 tk1) σ1 (pc + 3) L (rv1.toList ++ st)) : VW cc (own, rv, σo, ret, F, Lc, nL, tko) (P0 []) σ pc L stk := by
  refine v_callw hC hk hkL hs (fun p l e R s m args below meth c G H locs a ls cells slots hx hb hml hown hts hK hNw hF hLc hls hP hD hf => ?_) k
  refine va_runV (As := As.map (dv a)) (b := a o) ⟨hx, hb, hml, hown, hts⟩ (hC.2 l G a H.size) (cwV As.length hts hw rfl rfl rfl ⟨hyC, hy⟩ (by rw [hF, hLc]; exact hrm)) ⟨vblind l G σ a H.size _, va_recv hK hP cf.1 (vws_obj cf ho), fun U hU hW => ⟨rfl, by rw [hU], by rw [hU]; exact hP, va_K.moved hW.alike hK, by rw [hU]; exact VN.warm hW hNw, hD⟩⟩ rfl (by simp) hls (by simp [dv]) (lv_room (by rw [vc8_dv]; exact h8)) hd hf
theorem v_callVN {host : String} (cf : CF ci C T N ty) (ho : ok (P0 []) o ci) (hC : VC y bytes maxL ret1 rf rl (vO o :: As) σ rv1 σ1 tk1) (hG : Cond.code y bytes maxL ret1 ∈ lw_all) (hl : Cond.methodLinkNest own i y host ∈ lw_tbl) (hin : Cond.instanceMethod y ∈ lw_all) (hsel : Cond.selects C y y ∈ lw_all) (hini : Cond.initialized y.cls ∈ lw_all) (hy : yOk y As.length) (hrm : rf + 1 ≤ F ∧ 8 + (maxL + 11) + rl ≤ Lc) (hk : KP σ σ1 st) (hkL : KP σ σ1 (L.map (fun q => q.2))) (h8 : vc8 st ≤ 8) (hs : stk = (vO o :: As).reverse ++ st) (hd : decode cc pc = .ok (.invokevirtual i, 3))
    (k : VW cc (own, rv, σo, ret, F, Lc, nL, tko) (P0 tk1) σ1 (pc + 3) L (rv1.toList ++ st)) : VW cc (own, rv, σo, ret, F, Lc, nL, tko) (P0 []) σ pc L stk := by
  refine v_callw hC hk hkL hs (fun p l e R s m args below meth c G H locs a ls cells slots hx hb hml hown hts hK hNw hF hLc hls hP hD hf => ?_) k
  refine va_runVN (As := As.map (dv a)) (b := a o) (C := C) ⟨hx, hb, hml, hown, hts⟩ (hC.2 l G a H.size) ⟨va_cnB As.length hts (lw_meth hG) rfl rfl rfl (hNw.1 _ (List.mem_filter.mpr ⟨hl, rfl⟩)) (hts _ hini) hy (by rw [hF, hLc]; exact hrm), hts _ hin, hts _ hsel⟩ ⟨vblind l G σ a H.size _, va_recv hK hP cf.1 (vws_obj cf ho), fun U hU hW => ⟨rfl, by rw [hU], by rw [hU]; exact hP, va_K.moved hW.alike hK, by rw [hU]; exact VN.warm hW hNw, hD⟩⟩ rfl (by simp) hls (by simp [dv]) (lv_room (by rw [vc8_dv]; exact h8)) hd hf
end
