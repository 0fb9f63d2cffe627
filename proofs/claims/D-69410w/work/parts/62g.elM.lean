set_option maxRecDepth 100000 set_option linter.unusedVariables false set_option linter.unusedSimpArgs false
/-! PURE 62g: the model's elements: one is read -/
section
variable {D : List Int} {s s' t : vS} {a b st n ca lim p cls con num body e op i : Int} {els : List (List Int)} {stk stk' : List (Int × Int × Int)}
theorem c181 (hn : 0 ≤ n ∧ n ≤ 100000) (pn : ¬p = n) : gE (lk (w11 s n a cls con num body e op p) n p) 181 i = if 0 ≤ p ∧ i = p then n else if i = n then -1 else gE s 181 i := by
  have e0 : ∀ i, gE (w11 s n a cls con num body e op p) 181 i = if i = n then -1 else gE s 181 i := fun i => by
    unfold w11
    simp only [gE_sE, Nat.reduceEqDiff, false_and, true_and, if_false]
    rfl
  rw [← e0 i]
  generalize w11 s n a cls con num body e op p = t
  unfold lk
  by_cases c : p < 0
  · rw [if_pos c, if_neg (by omega)]
  · rw [if_neg c]
    have e1 : gE (if gE t 181 p < 0 then t else sE t 182 (gE t 181 p) n) 181 i = gE t 181 i := gE_ite rfl (by rw [gE_sE, if_neg (fun z => absurd z.1 (by decide))])
    simp only
    rw [gE_sE]
    by_cases d : i = p
    · rw [if_pos ⟨rfl, d⟩, if_pos ⟨by omega, d⟩, w32_id ⟨by omega, by omega⟩]
    · rw [if_neg (show ¬((181 : Nat) = 181 ∧ i = p) from fun z => d z.2), if_neg (show ¬(0 ≤ p ∧ i = p) from fun z => d z.2)]
      exact gE_ite e1 (by rw [gE_sE, if_neg (fun z => absurd z.1 (by decide))]; exact e1)
/-- the model reads elements of D -/
def EMv (D : List Int) (lim : Int) (s : vS) (e : Es3) : Prop := DD D s ∧ EZ D s ∧ gI s 87 127 = D.length ∧ gI s 87 6 = lim ∧ gI s 87 8 = 0 ∧ gI s 87 143 = e.1 ∧ 0 ≤ e.1 ∧ SIk D e.1 e.2.2 ∧ gI s 87 129 = e.2.1.length ∧ gI s 87 142 = e.2.2.length ∧ 2 * (e.2.1.length : Int) ≤ e.1 ∧ SPk D s e.2.1.length e.2.2 (gI s 87 141) ∧ ERm s e.2.1 e.2.2 ∧ (∀ i : Int, 0 ≤ i → i < e.2.1.length → gE s 181 i < e.2.1.length)
theorem SPk.top {l : List (Int × Int × Int)} (h : SPk D s n l p) : p = -1 ∨ 0 ≤ p ∧ p < n := by
  match l, h with
  | [], h => exact Or.inl h
  | x :: r, h => exact Or.inr ⟨h.2.1, h.2.2.1⟩
theorem M_elm (h : EMv D lim s (a, els, stk)) (ab : a < bndS D stk) (hlim : (stk.length : Int) ≤ lim) :
    (∀ f, elm D lim (a, els, stk) = .inl f → 0 < f.1 ∧ f.1 ≤ 6 ∧ f_X14_element (bndS D stk) s = some (tellS s f.1 f.2)) ∧
    (∀ e', elm D lim (a, els, stk) = .inr e' → ∃ t, f_X14_element (bndS D stk) s = some t ∧ EMv D lim t e') := by
  obtain ⟨hd, hz, h127, h6, h8, h143, a0, hs, h129, h142, h2, hp, hr, h181⟩ := h
  simp only at h143 a0 hs h129 h142 h2 hp hr h181
  have sl := hs.le
  have hD := hd.1
  have al : a < D.length := by omega
  have HH := M_head hd h8 sl.2 a0 ab h143
  obtain ⟨d1, d2, d3⟩ := hd.2.2 a a0 al
  have tp := hp.top
  unfold elm
  rw [eBnd_bnd]
  simp only
  rw [if_neg (show ¬bndS D stk ≤ a by omega), if_neg (show ¬lim < stk.length by omega)]
  unfold HE at HH
  have le := fun r => @eHead_le D (bndS D stk) a (fun i i0 i1 => (hd.2.2 i i0 i1).2) sl.2 a0 ab r
  generalize eHead D (bndS D stk) a = R at HH le
  match R, HH, le with
  | .inl c, HH, _ =>
    obtain ⟨g1, g2, g3⟩ := HH.1 c rfl
    exact ⟨fun f z => by (cases z); exact ⟨g1, g2, g3⟩, fun e' z => by (cases z)⟩
  | .inr (tag, con, len, body), HH, le =>
    obtain ⟨num, x8, x11, e1, m0, m1, ex, ef⟩ := HH.2 _ rfl
    obtain ⟨l1, l2, l3, l4, l5, l6, l7⟩ := le _ rfl
    simp only at e1 ex ef l1 l2 l3 l4 l5 l6 l7 ⊢
    have nD : 2 * (els.length : Int) ≤ D.length := by omega
    rw [h129, M_436 (p := gI s 87 141) h8 hz ⟨by omega, by omega⟩ rfl tp (fun q => h181 _ q (by omega))] at ef
    have pn : ¬gI s 87 141 = (els.length : Int) := by omega
    have oldP : ∀ {cls con num body e op : Int}, (∀ i : Int, 0 ≤ i → i < els.length → gZ (lk (w11 s els.length a cls con num body e op (gI s 87 141)) els.length (gI s 87 141)) 178 i = gZ s 178 i ∧ gE (lk (w11 s els.length a cls con num body e op (gI s 87 141)) els.length (gI s 87 141)) 179 i = gE s 179 i) := fun i i0 i1 => by
      rw [c178, c179, if_neg (by omega), if_neg (by omega)]; exact ⟨rfl, rfl⟩
    have old7 : ∀ {cls con num body e op : Int}, ∀ x ∈ stk, gE (lk (w11 s els.length a cls con num body e op (gI s 87 141)) els.length (gI s 87 141)) 177 x.1 = gE s 177 x.1 := fun x hx => by
      have := hp.lt x hx
      rw [c177, if_neg (by omega)]
    have dd : ∀ {cls con num body e op : Int}, DD D (lk (w11 s els.length a cls con num body e op (gI s 87 141)) els.length (gI s 87 141)) := ⟨hD, by rw [cN]; exact hd.2.1, fun i i0 i1 => by rw [c171]; exact hd.2.2 i i0 i1⟩
    have zz : ∀ {cls con num body e op : Int}, EZ D (lk (w11 s els.length a cls con num body e op (gI s 87 141)) els.length (gI s 87 141)) := fun A h1 h2 => by rw [cN]; exact hz A h1 h2
    have l181 : ∀ {cls con num body e op : Int}, ∀ i : Int, 0 ≤ i → i < els.length + 1 → gE (lk (w11 s els.length a cls con num body e op (gI s 87 141)) els.length (gI s 87 141)) 181 i < els.length + 1 := fun i i0 i1 => by
      rw [c181 ⟨by omega, by omega⟩ pn]
      by_cases z : 0 ≤ gI s 87 141 ∧ i = gI s 87 141
      · rw [if_pos z]; omega
      · rw [if_neg z]
        by_cases y : i = els.length
        · rw [if_pos y]; omega
        · rw [if_neg y]; have := h181 i i0 (by omega); omega
    have lenE : ∀ r : List Int, ((els ++ [r]).length : Int) = els.length + 1 := fun r => by simp
    unfold j_X14_element_626 at ef
    by_cases cc : con = 0
    · subst cc
      have ln1 := l5 rfl
      have l3' := l3.resolve_left ln1
      have x0 : x11 = 0 ∧ len = x8 := by
        rcases ex with z | z
        · exact absurd z.2 ln1
        · exact ⟨z.1, z.2.1⟩
      obtain ⟨x0, rfl⟩ := x0
      subst x0
      refine ⟨fun f z => by (simp only [if_true] at z; cases z), fun e' z => ?_⟩
      simp only [if_true] at z
      cases z
      have w8 : w32 (body + w32 len) = body + len := by
        rw [w32_id (x := len) ⟨by omega, by omega⟩, w32_id ⟨by omega, by omega⟩]
      rw [if_pos rfl, stp_eq, if_pos rfl, gd_pos (by rw [gN_sI]; exact EZ.ix zz (by decide) (by decide) (by omega) (by omega)), stp_eq, gE_sI, c177, if_pos rfl, w8, cI, h129] at ef
      rw [e1]
      refine ⟨_, ef, dd, zz, ?_, ?_, ?_, ?_, ?_, ?_, ?_, ?_, ?_, ?_, ?_, ?_⟩
      · simp only [gI_sI, cI]; exact h127
      · simp only [gI_sI, cI]; exact h6
      · simp only [gI_sI, cI]; exact h8
      · rw [gI_sI, if_pos ⟨rfl, rfl⟩, w32_id (x := body + len) ⟨by omega, by omega⟩]; exact w32_id ⟨by omega, by omega⟩
      · show 0 ≤ body + len; omega
      · exact hs.mono (by omega)
      · show _ = _
        rw [lenE, gI_sI, if_neg (by decide), gI_sI, if_pos ⟨rfl, rfl⟩, w32_id (x := (els.length : Int) + 1) ⟨by omega, by omega⟩]; exact w32_id ⟨by omega, by omega⟩
      · simp only [gI_sI, cI]; exact h142
      · show 2 * _ ≤ body + len
        rw [lenE]; omega
      · show SPk D _ (((els ++ [_]).length : Nat) : Int) stk _
        rw [lenE, gI_sI, if_neg (by decide), gI_sI, if_neg (by decide), cI]
        refine SPk.cong (s := s) (n := els.length) (m := (els.length : Int) + 1) (by omega) (fun i i0 i1 => ?_) (fun x hx => ?_) hp
        · exact oldP i i0 i1
        · exact old7 x hx
      · exact hr.app rfl ⟨a0, by omega⟩ ⟨d2, d3⟩ (Or.inl rfl) ⟨m0, m1⟩ ⟨by omega, by omega⟩ (fun i hi w => w) (fun _ => w32_id ⟨by omega, by omega⟩)
      · intro i i0 i1
        simp only at i1 ⊢
        rw [lenE] at i1 ⊢
        exact l181 i i0 i1
    · have c1 : con = 1 := l4.resolve_left cc
      subst c1
      refine ⟨fun f z => by (simp only [cc, if_false] at z; cases z), fun e' z => ?_⟩
      simp only [cc, if_false] at z
      cases z
      rw [stp_eq, if_neg cc, stp_eq, stp_eq, stp_eq] at ef
      obtain ⟨T, hT, ef⟩ : ∃ T, T = _ ∧ f_X14_element (bndS D stk) s = some T := ⟨_, rfl, ef⟩
      have et : gI T 87 141 = els.length := by
        rw [hT]
        simp only [gI_sI, cI, Nat.reduceEqDiff, and_false, true_and, and_true, and_self, if_false, if_true, reduceIte]
        exact w32_id ⟨by omega, by omega⟩
      have hpl := hp.len
      have et2 : gI T 87 142 = stk.length + 1 := by
        rw [hT]
        simp only [gI_sI, cI, Nat.reduceEqDiff, and_false, true_and, and_true, and_self, if_false, if_true, reduceIte, h142]
        rw [w32_id (x := (stk.length : Int) + 1) ⟨by omega, by omega⟩]
        exact w32_id ⟨by omega, by omega⟩
      have g8 : ∀ i, gZ T 178 i = gZ (lk (w11 s els.length a (shr32 (cha D a) 6) 1 num body (if x11 = 0 then w32 (body + w32 x8) else -1) x11 (gI s 87 141)) els.length (gI s 87 141)) 178 i := fun i => by rw [hT]; rfl
      have gA : ∀ A i, gE T A i = gE (lk (w11 s els.length a (shr32 (cha D a) 6) 1 num body (if x11 = 0 then w32 (body + w32 x8) else -1) x11 (gI s 87 141)) els.length (gI s 87 141)) A i := fun A i => by rw [hT]; rfl
      rw [e1]
      refine ⟨T, ef, by rw [hT]; exact dd, by rw [hT]; exact zz, ?_, ?_, ?_, ?_, ?_, ?_, ?_, ?_, ?_, ?_, ?_, ?_⟩
      · rw [hT]; simp only [gI_sI, cI]; exact h127
      · rw [hT]; simp only [gI_sI, cI]; exact h6
      · rw [hT]; simp only [gI_sI, cI]; exact h8
      · rw [hT, gI_sI, if_pos ⟨rfl, rfl⟩]; exact w32_id ⟨by omega, by omega⟩
      · show 0 ≤ body; omega
      · show SIk D body (_ :: stk)
        rcases l3 with z | z
        · rw [if_pos z, if_pos z]; exact ⟨l2, Int.le_refl _, Or.inl rfl, hs.mono (by omega)⟩
        · have nz : ¬len = -1 := by omega
          rw [if_neg nz, if_neg nz]; exact ⟨by show body ≤ body + len; omega, z.2, Or.inr rfl, hs.mono (by omega)⟩
      · show gI T 87 129 = (((els ++ [_]).length : Nat) : Int)
        rw [lenE, hT]
        simp only [gI_sI, cI, h129]
        simp
        rw [w32_id (x := (els.length : Int) + 1) ⟨by omega, by omega⟩]
        exact w32_id ⟨by omega, by omega⟩
      · show gI T 87 142 = ((_ :: stk).length : Int)
        rw [et2, List.length_cons]; push_cast; rfl
      · show 2 * _ ≤ body
        rw [lenE]; omega
      · show SPk D T (((els ++ [_]).length : Nat) : Int) (_ :: stk) (gI T 87 141)
        rw [lenE, et]
        have wp : w32 (gI s 87 141) = gI s 87 141 := w32_id ⟨by omega, by omega⟩
        refine ⟨rfl, by omega, by omega, ?_, ?_, ?_⟩
        · rcases ex with ⟨z1, z2⟩ | ⟨z1, z2, z3, z4⟩
          · left
            refine ⟨if_pos z2, ?_, if_pos z2⟩
            rw [g8, c178, if_pos rfl, z1]; decide
          · right
            have nz : ¬len = -1 := by omega
            have l3' := l3.resolve_left nz
            refine ⟨by show (if len = -1 then (-1 : Int) else body + len) = (if len = -1 then bndS D stk else body + len); rw [if_neg nz, if_neg nz], by show 0 ≤ (if len = -1 then (-1 : Int) else body + len); rw [if_neg nz]; omega, ?_, ?_⟩
            · rw [g8, c178, if_pos rfl, z1]; decide
            · show gE T 177 _ = (if len = -1 then bndS D stk else body + len)
              rw [gA, c177, if_pos rfl, if_neg nz, if_pos z1, ← z2, w32_id (x := len) ⟨by omega, by omega⟩, w32_id (x := body + len) ⟨by omega, by omega⟩, w32_id (x := body + len) ⟨by omega, by omega⟩]
        · rw [gA, c179, if_pos rfl, wp]; omega
        · rw [gA, c179, if_pos rfl, wp]
          refine SPk.cong (s := s) (n := els.length) (by omega) (fun i i0 i1 => ?_) (fun x hx => ?_) hp
          · rw [g8, gA]; exact oldP i i0 i1
          · rw [gA]; exact old7 x hx
      · rw [hT]; exact hr.app rfl ⟨a0, by omega⟩ ⟨d2, d3⟩ (Or.inr rfl) ⟨m0, m1⟩ ⟨by omega, by omega⟩ (fun i hi w x hx => w x (List.mem_cons_of_mem _ hx)) (fun w => absurd rfl (w _ List.mem_cons_self))
      · intro i i0 i1
        simp only at i1 ⊢
        rw [lenE] at i1 ⊢
        rw [hT]
        exact l181 i i0 i1
end
