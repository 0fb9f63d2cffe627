set_option maxRecDepth 100000 set_option linter.unusedVariables false set_option linter.unusedSimpArgs false
/-! PURE 61: elements as the class reads them: heads -/
def ETp (s : vS) (D : List Int) : Prop := gR s 44 0 = 1 ∧ BW s 1 ∧ bts s 1 = D ∧ D.length ≤ 32768
theorem ETp.size {s : vS} {D : List Int} (h : ETp s D) : gI s 1 1 = D.length := by
  obtain ⟨h1, h2, h3, h4⟩ := h; rw [← h3, h2.len]
theorem gd_ok1 {α : Type} {k : Option α} : gd (okB 1 1) k = k := gd_pos ⟨by decide, by decide⟩
theorem ETp.at {s : vS} {D : List Int} (h : ETp s D) {x : Int} (h0 : 0 ≤ x) (h1 : x < D.length) : f_X2_at 1 x s = some (cha D x, s) := by
  rw [X2_at' h.2.1 h0 (by rw [h.size]; exact h1), cha_in h0 h1, h.2.2.1]
theorem ETp.rg {s : vS} {D : List Int} (h : ETp s D) : ∀ i : Int, 0 ≤ i → i < D.length → 0 ≤ cha D i ∧ cha D i < 256 := by
  intro i h0 h1
  rw [cha_in h0 h1, ← h.2.2.1, bts, rowL_getD _ _ (by rw [h.size]; omega)]; omega
theorem ETp.fld {s : vS} {D : List Int} (h : ETp s D) (f : Nat) (v : Int) : ETp (sI s 44 f v) D := by
  obtain ⟨h1, h2, h3, h4⟩ := h
  refine ⟨h1, ?_, ?_, h4⟩
  · unfold BW at *; simp only [gI_sI, gI_sR, gI_sA, gI_sE, gI_sw2, gI_rs, gI_cpA, gI_gh1, gL_sI, gL_sR, gL_sA, gL_sE, gL_sw2, gL_rs, gL_cpA, gR_sI, gR_sR, gR_sA, gR_sE, gR_sw2, gR_rs, gR_cpA, gN_sI, gN_sR, gN_gh1, gN_sA, gN_sE, gN_cpA, gN_sw2, gN_rs, gE_gC, gB_gC, gZ_gC, gEL_gC, gC_sI, gC_sR, gC_gh1, gC_sA, gC_sE, gC_cpA, gC_sw2, gC_rs, Nat.reduceEqDiff, Nat.reduceAdd, Nat.reduceLT, Nat.reduceLeDiff, Nat.reduceBEq, reduceIte, and_self, and_true, true_and, and_false, false_and, if_true, if_false, Nat.reduceMul, Int.reduceEq, Int.reduceLT, Int.reduceLE, Int.reduceNeg, Int.reduceAdd, Int.reduceMul, Int.reduceSub]; exact h2
  · rw [← h3]; unfold bts; simp only [gI_sI, gI_sR, gI_sA, gI_sE, gI_sw2, gI_rs, gI_cpA, gI_gh1, gL_sI, gL_sR, gL_sA, gL_sE, gL_sw2, gL_rs, gL_cpA, gR_sI, gR_sR, gR_sA, gR_sE, gR_sw2, gR_rs, gR_cpA, gN_sI, gN_sR, gN_gh1, gN_sA, gN_sE, gN_cpA, gN_sw2, gN_rs, gE_gC, gB_gC, gZ_gC, gEL_gC, gC_sI, gC_sR, gC_gh1, gC_sA, gC_sE, gC_cpA, gC_sw2, gC_rs, Nat.reduceEqDiff, Nat.reduceAdd, Nat.reduceLT, Nat.reduceLeDiff, Nat.reduceBEq, reduceIte, and_self, and_true, true_and, and_false, false_and, if_true, if_false, Nat.reduceMul, Int.reduceEq, Int.reduceLT, Int.reduceLE, Int.reduceNeg, Int.reduceAdd, Int.reduceMul, Int.reduceSub]
theorem at44 {s : vS} {a : Int} (h : rg a) : gI (sI s 44 1 a) 44 1 = a := by simp only [gI_sI, gI_sR, gI_sA, gI_sE, gI_sw2, gI_rs, gI_cpA, gI_gh1, gL_sI, gL_sR, gL_sA, gL_sE, gL_sw2, gL_rs, gL_cpA, gR_sI, gR_sR, gR_sA, gR_sE, gR_sw2, gR_rs, gR_cpA, gN_sI, gN_sR, gN_gh1, gN_sA, gN_sE, gN_cpA, gN_sw2, gN_rs, gE_gC, gB_gC, gZ_gC, gEL_gC, gC_sI, gC_sR, gC_gh1, gC_sA, gC_sE, gC_cpA, gC_sw2, gC_rs, Nat.reduceEqDiff, Nat.reduceAdd, Nat.reduceLT, Nat.reduceLeDiff, Nat.reduceBEq, reduceIte, and_self, and_true, true_and, and_false, false_and, if_true, if_false, Nat.reduceMul, Int.reduceEq, Int.reduceLT, Int.reduceLE, Int.reduceNeg, Int.reduceAdd, Int.reduceMul, Int.reduceSub]; exact w32_id h
theorem X12_wrong (c : Int) (s : vS) : f_X12_wrong c s = some (0, sI s 44 2 c) := by unfold f_X12_wrong; rw [stp_eq]
theorem orshl7 {x b : Int} (h0 : 0 ≤ x) (h1 : x ≤ 2097151) (b0 : 0 ≤ b) (b1 : b < 128) : or32 (shl32 x 7) b = x * 128 + b := by
  have e : (2 : Int) ^ 7 = 128 := by decide
  rw [shl32_mul 7 (by decide) (by decide), show (7 : Int).toNat = 7 from rfl, w32_id ⟨by omega, by omega⟩, or32_add 7 h0 b0 (by omega) (by omega), e]
/-- what reading a tag's number leaves -/
def numR (s : vS) (R : Int ⊕ (Int × Int)) (r : Option (Int × vS)) : Prop := match R with
  | .inl c => ∃ a', rg a' ∧ r = some (-1, sI (sI s 44 1 a') 44 2 c)
  | .inr q => r = some (q.1, sI s 44 1 q.2)
theorem tagNumber_l {s : vS} {D : List Int} (h : ETp s D) {b : Int} (hb : b ≤ D.length) : ∀ (k n : Nat) (v : Int) (fst : Bool) (j a : Int), 0 ≤ a → a ≤ D.length → D.length + 1 - a ≤ k → k + 1 < n → 0 ≤ v → v ≤ 268435455 → (j = 0 ↔ fst = true) → 0 ≤ j → j ≤ a → numR s (match tagN D b k v fst a with | .inl c => .inl c | .inr q => if q.1 < 31 then .inl 2 else .inr q) (lqs_1 (l_X12_tagNumber_7 n b v 1 j (sI s 44 1 a)) (fun y1 s2 => if 31 ≤ y1 then some (y1, s2) else bd (f_X12_wrong 2 s2) fun r9 s6 => some ((-1), s6)) (fun q => some q)) := by
  intro k
  induction k with
  | zero => intro n v fst j a a0 a1 hk; omega
  | succ k ih =>
    intro n v fst j a a0 a1 hk hn v0 v1 hj j0 j1
    obtain ⟨n, rfl⟩ : ∃ m, n = m + 1 := ⟨n - 1, by omega⟩
    have hD := h.2.2.2
    have ra : rg a := ⟨by omega, by omega⟩
    unfold l_X12_tagNumber_7 tagN
    rw [if_neg (show ¬(1 : Int) = 0 by decide), at44 ra]
    by_cases c1 : b ≤ a
    · rw [if_neg (show ¬a < b by omega), if_pos c1, X12_wrong, bd_eq]
      exact ⟨a, ra, rfl⟩
    rw [if_pos (show a < b by omega), if_neg c1, gd_pos (by rw [(h.fld 1 a).1]; exact ⟨by decide, by decide⟩), (h.fld 1 a).1, (h.fld 1 a).at a0 (by omega), bd_eq, stp_eq, at44 ra, sI_sI, w32_id (x := a + 1) ⟨by omega, by omega⟩]
    have ca := h.rg a a0 (by omega)
    have rest : ¬((fst = true ∧ cha D a = 128) ∨ 2097151 < v) → numR s (match (if (fst = true ∧ cha D a = 128) ∨ 2097151 < v then (.inl 2 : Int ⊕ (Int × Int)) else if cha D a ≤ 127 then .inr (v * 128 + cha D a % 128, a + 1) else tagN D b k (v * 128 + cha D a % 128) false (a + 1)) with | .inl c => .inl c | .inr q => if q.1 < 31 then .inl 2 else .inr q) (lqs_1 (j_X12_tagNumber_63 (l_X12_tagNumber_7 n) b v j (cha D a) (sI s 44 1 (a + 1))) (fun y1 s2 => if 31 ≤ y1 then some (y1, s2) else bd (f_X12_wrong 2 s2) fun r9 s6 => some ((-1), s6)) (fun q => some q)) := by
      intro nc
      rw [if_neg nc]
      unfold j_X12_tagNumber_63
      rw [if_pos (show v ≤ 2097151 by omega), vl_eq, and32_127, orshl7 v0 (by omega) (by omega) (by omega), vl_eq, vl_eq, w32_id (x := j + 1) ⟨by omega, by omega⟩]
      by_cases c3 : cha D a ≤ 127
      · rw [if_pos c3, if_pos c3]
        have e1 : l_X12_tagNumber_7 n b (v * 128 + cha D a % 128) 0 (j + 1) (sI s 44 1 (a + 1)) = some (.inl (v * 128 + cha D a % 128, sI s 44 1 (a + 1))) := by
          obtain ⟨n, rfl⟩ : ∃ m, n = m + 1 := ⟨n - 1, by omega⟩
          unfold l_X12_tagNumber_7; rw [if_pos rfl]
        rw [e1]
        show numR s (if v * 128 + cha D a % 128 < 31 then _ else _) (if 31 ≤ v * 128 + cha D a % 128 then _ else _)
        by_cases c4 : v * 128 + cha D a % 128 < 31
        · rw [if_pos c4, if_neg (show ¬31 ≤ v * 128 + cha D a % 128 by omega), X12_wrong, bd_eq]
          exact ⟨a + 1, ⟨by omega, by omega⟩, rfl⟩
        · rw [if_neg c4, if_pos (show 31 ≤ v * 128 + cha D a % 128 by omega)]; rfl
      · rw [if_neg c3, if_neg c3]
        exact ih n (v * 128 + cha D a % 128) false (j + 1) (a + 1) (by omega) (by omega) (by omega) (by omega) (by omega) (by omega) (by simp; omega) (by omega) (by omega)
    have badv : 2097151 < v → numR s (match (if (fst = true ∧ cha D a = 128) ∨ 2097151 < v then (.inl 2 : Int ⊕ (Int × Int)) else if cha D a ≤ 127 then .inr (v * 128 + cha D a % 128, a + 1) else tagN D b k (v * 128 + cha D a % 128) false (a + 1)) with | .inl c => .inl c | .inr q => if q.1 < 31 then .inl 2 else .inr q) (lqs_1 (j_X12_tagNumber_63 (l_X12_tagNumber_7 n) b v j (cha D a) (sI s 44 1 (a + 1))) (fun y1 s2 => if 31 ≤ y1 then some (y1, s2) else bd (f_X12_wrong 2 s2) fun r9 s6 => some ((-1), s6)) (fun q => some q)) := by
      intro nv
      rw [if_pos (Or.inr nv)]
      unfold j_X12_tagNumber_63
      rw [if_neg (show ¬v ≤ 2097151 by omega), X12_wrong, bd_eq]
      exact ⟨a + 1, ⟨by omega, by omega⟩, rfl⟩
    by_cases c0 : j = 0
    · rw [if_pos c0]
      by_cases c2 : cha D a = 128
      · rw [if_pos c2, if_pos (Or.inl ⟨hj.mp c0, c2⟩), X12_wrong, bd_eq]
        exact ⟨a + 1, ⟨by omega, by omega⟩, rfl⟩
      · rw [if_neg c2]
        by_cases c4 : 2097151 < v
        · exact badv c4
        · exact rest (fun z => by rcases z with z | z; exact c2 z.2; exact c4 z)
    · rw [if_neg c0]
      by_cases c4 : 2097151 < v
      · exact badv c4
      · exact rest (fun z => by rcases z with z | z; exact c0 (hj.mpr z.1); exact c4 z)
theorem orshl64 {x b : Int} (h0 : 0 ≤ x) (h1 : x ≤ 2147483647) (b0 : 0 ≤ b) (b1 : b < 256) : or64 (shl64 x 8) b = x * 256 + b := by
  have e : (2 : Int) ^ 8 = 256 := by decide
  rw [shl64_mul 8 (by decide) (by decide), show (8 : Int).toNat = 8 from rfl, w64_id ⟨by omega, by omega⟩, or64_add 8 h0 b0 (by omega) (by omega), e]
theorem length_l {s : vS} {D : List Int} (h : ETp s D) {b : Int} (hb : b ≤ D.length) {x3 : Int} (hx : 128 ≤ x3 ∧ x3 < 256) : ∀ (k n : Nat) (v j a : Int), 0 ≤ a → a ≤ D.length → x3 - 128 - j = k → 0 ≤ j → k < n → 0 ≤ v → v ≤ 2147483647 → numR s (lenN D b k v a) (lqs_1 (l_X12_length_88 n b x3 v j (sI s 44 1 a)) (fun y2 s3 => some (w32 y2, s3)) (fun q => some q)) := by
  intro k
  induction k with
  | zero =>
    intro n v j a a0 a1 hk j0 hn v0 v1
    obtain ⟨n, rfl⟩ : ∃ m, n = m + 1 := ⟨n - 1, by omega⟩
    unfold l_X12_length_88 lenN
    rw [w32_id (x := x3 - 128) ⟨by omega, by omega⟩, if_pos (show x3 - 128 ≤ j by omega)]
    show some (w32 v, _) = some (v, _)
    rw [w32_id ⟨by omega, by omega⟩]
  | succ k ih =>
    intro n v j a a0 a1 hk j0 hn v0 v1
    obtain ⟨n, rfl⟩ : ∃ m, n = m + 1 := ⟨n - 1, by omega⟩
    have hD := h.2.2.2
    have ra : rg a := ⟨by omega, by omega⟩
    unfold l_X12_length_88 lenN
    rw [w32_id (x := x3 - 128) ⟨by omega, by omega⟩, if_neg (show ¬x3 - 128 ≤ j by push_cast at hk; omega), at44 ra]
    by_cases c1 : b ≤ a
    · rw [if_neg (show ¬a < b by omega), if_pos c1, X12_wrong, bd_eq]
      exact ⟨a, ra, rfl⟩
    have ca := h.rg a a0 (by omega)
    rw [if_pos (show a < b by omega), if_neg c1, gd_pos (by rw [(h.fld 1 a).1]; exact ⟨by decide, by decide⟩), (h.fld 1 a).1, (h.fld 1 a).at a0 (by omega), bd_eq, vl_eq, stp_eq, at44 ra, sI_sI, w32_id (x := a + 1) ⟨by omega, by omega⟩, orshl64 v0 v1 ca.1 ca.2, vl_eq, w32_id (x := j + 1) ⟨by omega, by omega⟩]
    by_cases c2 : 2147483647 < v * 256 + cha D a
    · rw [if_neg (show ¬cmp64 (v * 256 + cha D a) 2147483647 ≤ 0 from fun z => by have := cmp64_le.mp z; omega), if_pos c2, X12_wrong, bd_eq]
      exact ⟨a + 1, ⟨by omega, by omega⟩, rfl⟩
    · rw [if_pos (cmp64_le.mpr (by omega)), if_neg c2]
      exact ih n (v * 256 + cha D a) (j + 1) (a + 1) (by omega) (by omega) (by push_cast at hk; omega) (by omega) (by omega) (by omega) (by omega)
theorem X12_length {s : vS} {D : List Int} (h : ETp s D) {b : Int} (hb : b ≤ D.length) {con a : Int} (a0 : 0 ≤ a) (a1 : a ≤ D.length) : numR s (eLen D b con a) (f_X12_length b con (sI s 44 1 a)) := by
  have hD := h.2.2.2
  have ra : rg a := ⟨by omega, by omega⟩
  unfold f_X12_length eLen
  rw [at44 ra]
  by_cases c1 : b ≤ a
  · rw [if_neg (show ¬a < b by omega), if_pos c1, X12_wrong, bd_eq]
    exact ⟨a, ra, rfl⟩
  have ca := h.rg a a0 (by omega)
  rw [if_pos (show a < b by omega), if_neg c1, gd_pos (by rw [(h.fld 1 a).1]; exact ⟨by decide, by decide⟩), (h.fld 1 a).1, (h.fld 1 a).at a0 (by omega), bd_eq, stp_eq, at44 ra, sI_sI, w32_id (x := a + 1) ⟨by omega, by omega⟩]
  have ln := length_l h hb (x3 := cha D a)
  have b65 : j_X12_length_65 (sI s 44 1 (a + 1)) = some (-1, sI (sI s 44 1 (a + 1)) 44 2 3) := by unfold j_X12_length_65; rw [X12_wrong, bd_eq]
  by_cases c2 : cha D a < 128
  · rw [if_neg (show ¬128 ≤ cha D a by omega), if_pos c2]; rfl
  rw [if_pos (show 128 ≤ cha D a by omega), if_neg c2]
  have e73 : cha D a ≠ 128 → numR s (lenN D b (cha D a - 128).toNat 0 (a + 1)) (j_X12_length_73 b (cha D a) (sI s 44 1 (a + 1))) := by
    intro ne
    unfold j_X12_length_73
    rw [if_neg ne]
    exact ln ⟨by omega, by omega⟩ (cha D a - 128).toNat FU 0 0 (a + 1) (by omega) (by omega) (by omega) (by decide) (by unfold FU; omega) (by decide) (by decide)
  by_cases c3 : cha D a = 255
  · rw [if_pos c3, if_pos (Or.inl c3), b65]; exact ⟨a + 1, ⟨by omega, by omega⟩, rfl⟩
  rw [if_neg c3]
  by_cases c4 : cha D a = 128
  · by_cases c5 : con = 0
    · rw [if_pos (Or.inr ⟨c4, c5⟩), if_pos c4, if_pos c5, b65]; exact ⟨a + 1, ⟨by omega, by omega⟩, rfl⟩
    · rw [if_neg (show ¬(cha D a = 255 ∨ (cha D a = 128 ∧ con = 0)) from fun z => by rcases z with z | z; exact c3 z; exact c5 z.2), if_pos c4, if_pos c4, if_neg c5]
      unfold j_X12_length_73
      rw [if_pos c4]; rfl
  · rw [if_neg (show ¬(cha D a = 255 ∨ (cha D a = 128 ∧ con = 0)) from fun z => by rcases z with z | z; exact c3 z; exact c4 z.1), if_neg c4, if_neg c4]
    exact e73 c4
