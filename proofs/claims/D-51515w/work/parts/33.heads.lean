/-! VARARGS: rows of heaps' numbers laid and checked -/
def va1 (a : Hp) (v : Int32) : Hp := hwI (hNew a 41 1 1 (fun _ => nv 0) (fun _ => none)) (hSz a) (up1 (hI (hNew a 41 1 1 (fun _ => nv 0) (fun _ => none)) (hSz a)) 0 v)
def va2 (a : Hp) (v w : Int32) : Hp := hwI (hwI (hNew a 41 2 2 (fun _ => nv 0) (fun _ => none)) (hSz a) (up1 (hI (hNew a 41 2 2 (fun _ => nv 0) (fun _ => none)) (hSz a)) 0 v)) (hSz a) (up1 (hI (hwI (hNew a 41 2 2 (fun _ => nv 0) (fun _ => none)) (hSz a) (up1 (hI (hNew a 41 2 2 (fun _ => nv 0) (fun _ => none)) (hSz a)) 0 v)) (hSz a)) 1 w)
theorem va1_e (a : Hp) (v : Int32) : E0 a (va1 a v) := ((E0.rf a).new _ _ _ _ _).wI (Nat.le_refl _) _
theorem va2_e (a : Hp) (v w : Int32) : E0 a (va2 a v w) := (((E0.rf a).new _ _ _ _ _).wI (Nat.le_refl _) _).wI (Nat.le_refl _) _
theorem va1_z (a : Hp) (v : Int32) : hSz (va1 a v) = hSz a + 1 := rfl
theorem va2_z (a : Hp) (v w : Int32) : hSz (va2 a v w) = hSz a + 1 := rfl
theorem va1_l (a : Hp) (v : Int32) : hSl (va1 a v) = hSl a + 1 := rfl
theorem va2_l (a : Hp) (v w : Int32) : hSl (va2 a v w) = hSl a + 2 := rfl
theorem nr41 (x : Int32) : nrA 41 x = x := rfl
theorem va1_f (a : Hp) (v : Int32) : hwI (hNew a 41 1 1 (fun _ => nv 0) (fun _ => none)) (hSz a) (up1 (hI (hNew a 41 1 1 (fun _ => nv 0) (fun _ => none)) (hSz a)) 0 (nrA 41 v)) = va1 a v := rfl
theorem va2_f (a : Hp) (v w : Int32) : hwI (hwI (hNew a 41 2 2 (fun _ => nv 0) (fun _ => none)) (hSz a) (up1 (hI (hNew a 41 2 2 (fun _ => nv 0) (fun _ => none)) (hSz a)) 0 (nrA 41 v))) (hSz a) (up1 (hI (hwI (hNew a 41 2 2 (fun _ => nv 0) (fun _ => none)) (hSz a) (up1 (hI (hNew a 41 2 2 (fun _ => nv 0) (fun _ => none)) (hSz a)) 0 (nrA 41 v))) (hSz a)) 1 (nrA 41 w)) = va2 a v w := rfl
theorem va1_q (a : Hp) (v : Int32) : hK (va1 a v) (hSz a) = 41 ∧ hN (va1 a v) (hSz a) = 1 ∧ hI (va1 a v) (hSz a) 0 = v := by
  refine ⟨?_, ?_, ?_⟩
  · show hK (hNew a 41 1 1 (fun _ => nv 0) (fun _ => none)) (hSz a) = 41
    rw [hK_new, up1_s]
  · show hN (hNew a 41 1 1 (fun _ => nv 0) (fun _ => none)) (hSz a) = 1
    rw [hN_new, up1_s]
  · unfold va1
    rw [hI_wI, up1_s, up1_s]
theorem va2_q (a : Hp) (v w : Int32) : hK (va2 a v w) (hSz a) = 41 ∧ hN (va2 a v w) (hSz a) = 2 ∧ hI (va2 a v w) (hSz a) 0 = v ∧ hI (va2 a v w) (hSz a) 1 = w := by
  refine ⟨?_, ?_, ?_, ?_⟩
  · show hK (hNew a 41 2 2 (fun _ => nv 0) (fun _ => none)) (hSz a) = 41
    rw [hK_new, up1_s]
  · show hN (hNew a 41 2 2 (fun _ => nv 0) (fun _ => none)) (hSz a) = 2
    rw [hN_new, up1_s]
  · unfold va2
    rw [hI_wI, up1_s, up1_n _ _ (by omega), hI_wI, up1_s, up1_s]
  · unfold va2
    rw [hI_wI, up1_s, up1_s]
theorem X1_requireHeaps_11 {B : Nat → Nat × Nat} {a : Hp} {L : Nat → Nat} {R : Nat → Int32} (hM : Mk B a L R) {G : Nat → Nat} (hX : FX G a L) {v w : Int32} (hv : inr v (nH R)) (hw : inr w (nH R)) {q : Nat} (hq : hK a q = 41 ∧ hN a q = 2 ∧ hI a q 0 = v ∧ hI a q 1 = w) (Q : Ex ⊕ Unit → Hp → Prop) : Wp (X1_requireHeaps (G 0) (some q)) a Q ↔ Q (.inr ()) a := by
  have key : ∀ f, Wp (X1_requireHeaps_8 (f + 1 + 1 + 1) (G 0) (some q) (nv 2) (nv 0)) a Q ↔ Q (.inr ()) a := by
    intro f
    simp (disch := omega) only [X1_requireHeaps_8, ↓w_bd, ↓w_rt, ↓w_bh, sm_l, sm_r, ↓w_okr, ↓w_nm, ↓w_ite, ↓reduceIte, not_true_eq_false, not_false_eq_true, and_true, true_and, and_self, Option.some.injEq, reduceCtorEq, eq_self, ↓w_rc, ↓w_gI, ↓w_gR, ↓w_aN, ↓w_aI, ↓w_aR, ↓w_aL, ↓w_pI, ↓w_pR, ↓w_sI, ↓w_sR, ↓w_sL, ↓w_nO, ↓w_nA, ↓w_nL, ↓w_ca, ↓w_ca0, ↓w_gS, ↓w_gK, ↓w_dv, ↓w_tw, ↓w_rz, ↓w_no, nv_lit, nv_f, nv_add, nv_mul, nv_sub, nv_le, nv_lt, nv_eq, nv_cl, Nat.reduceMod, Nat.reduceMul, Nat.reduceAdd, Nat.zero_add, Nat.add_zero, Nat.mul_zero, decide_eq_true_eq, nv_inT, mk_k hM, mk_n hM, mk_r hM, mk_i hM, hX, hq, X3_has_1 hM hv, X3_has_1 hM hw, X1_requireIndex_1 n10, Nat.reduceLeDiff]
  rw [← key 99997]
  simp (disch := omega) only [X1_requireHeaps, ↓w_bd, ↓w_rt, ↓w_bh, sm_l, sm_r, ↓w_okr, ↓w_nm, ↓w_ite, ↓reduceIte, not_true_eq_false, not_false_eq_true, and_true, true_and, and_self, Option.some.injEq, reduceCtorEq, eq_self, ↓w_rc, ↓w_gI, ↓w_gR, ↓w_aN, ↓w_aI, ↓w_aR, ↓w_aL, ↓w_pI, ↓w_pR, ↓w_sI, ↓w_sR, ↓w_sL, ↓w_nO, ↓w_nA, ↓w_nL, ↓w_ca, ↓w_ca0, ↓w_gS, ↓w_gK, ↓w_dv, ↓w_tw, ↓w_rz, ↓w_no, nv_lit, nv_f, nv_add, nv_mul, nv_sub, nv_le, nv_lt, nv_eq, nv_cl, Nat.reduceMod, Nat.reduceMul, Nat.reduceAdd, Nat.zero_add, Nat.add_zero, Nat.mul_zero, decide_eq_true_eq, nv_inT, hq]
  rfl
theorem X1_requireHeaps_0 {B : Nat → Nat × Nat} {a : Hp} {L : Nat → Nat} {R : Nat → Int32} (hM : Mk B a L R) {G : Nat → Nat} (hX : FX G a L) (hp : 1 ≤ nH R) {v w : Int32} (hv : ¬ (inr v (nH R) ∧ inr w (nH R))) {q : Nat} (hq : hK a q = 41 ∧ hN a q = 2 ∧ hI a q 0 = v ∧ hI a q 1 = w) (Q : Ex ⊕ Unit → Hp → Prop) : Wp (X1_requireHeaps (G 0) (some q)) a Q ↔ Q (.inl (2, hSz a)) (tw_ a) := by
  have key : ∀ f, Wp (X1_requireHeaps_8 (f + 1 + 1 + 1) (G 0) (some q) (nv 2) (nv 0)) a Q ↔ Q (.inl (2, hSz a)) (tw_ a) := by
    intro f
    by_cases h1 : inr v (nH R)
    · have h2 : ¬ inr w (nH R) := fun h => hv ⟨h1, h⟩
      simp (disch := omega) only [X1_requireHeaps_8, ↓w_bd, ↓w_rt, ↓w_bh, sm_l, sm_r, ↓w_okr, ↓w_nm, ↓w_ite, ↓reduceIte, not_true_eq_false, not_false_eq_true, and_true, true_and, and_self, Option.some.injEq, reduceCtorEq, eq_self, ↓w_rc, ↓w_gI, ↓w_gR, ↓w_aN, ↓w_aI, ↓w_aR, ↓w_aL, ↓w_pI, ↓w_pR, ↓w_sI, ↓w_sR, ↓w_sL, ↓w_nO, ↓w_nA, ↓w_nL, ↓w_ca, ↓w_ca0, ↓w_gS, ↓w_gK, ↓w_dv, ↓w_tw, ↓w_rz, ↓w_no, nv_lit, nv_f, nv_add, nv_mul, nv_sub, nv_le, nv_lt, nv_eq, nv_cl, Nat.reduceMod, Nat.reduceMul, Nat.reduceAdd, Nat.zero_add, Nat.add_zero, Nat.mul_zero, decide_eq_true_eq, nv_inT, mk_k hM, mk_n hM, mk_r hM, mk_i hM, hX, hq, X3_has_1 hM h1, X3_has_0 hM hp h2, X1_requireIndex_1 n10, X1_requireIndex_0, Nat.reduceLeDiff]
    · simp (disch := omega) only [X1_requireHeaps_8, ↓w_bd, ↓w_rt, ↓w_bh, sm_l, sm_r, ↓w_okr, ↓w_nm, ↓w_ite, ↓reduceIte, not_true_eq_false, not_false_eq_true, and_true, true_and, and_self, Option.some.injEq, reduceCtorEq, eq_self, ↓w_rc, ↓w_gI, ↓w_gR, ↓w_aN, ↓w_aI, ↓w_aR, ↓w_aL, ↓w_pI, ↓w_pR, ↓w_sI, ↓w_sR, ↓w_sL, ↓w_nO, ↓w_nA, ↓w_nL, ↓w_ca, ↓w_ca0, ↓w_gS, ↓w_gK, ↓w_dv, ↓w_tw, ↓w_rz, ↓w_no, nv_lit, nv_f, nv_add, nv_mul, nv_sub, nv_le, nv_lt, nv_eq, nv_cl, Nat.reduceMod, Nat.reduceMul, Nat.reduceAdd, Nat.zero_add, Nat.add_zero, Nat.mul_zero, decide_eq_true_eq, nv_inT, mk_k hM, mk_n hM, mk_r hM, mk_i hM, hX, hq, X3_has_0 hM hp h1, X1_requireIndex_0, Nat.reduceLeDiff]
  rw [← key 99997]
  simp (disch := omega) only [X1_requireHeaps, ↓w_bd, ↓w_rt, ↓w_bh, sm_l, sm_r, ↓w_okr, ↓w_nm, ↓w_ite, ↓reduceIte, not_true_eq_false, not_false_eq_true, and_true, true_and, and_self, Option.some.injEq, reduceCtorEq, eq_self, ↓w_rc, ↓w_gI, ↓w_gR, ↓w_aN, ↓w_aI, ↓w_aR, ↓w_aL, ↓w_pI, ↓w_pR, ↓w_sI, ↓w_sR, ↓w_sL, ↓w_nO, ↓w_nA, ↓w_nL, ↓w_ca, ↓w_ca0, ↓w_gS, ↓w_gK, ↓w_dv, ↓w_tw, ↓w_rz, ↓w_no, nv_lit, nv_f, nv_add, nv_mul, nv_sub, nv_le, nv_lt, nv_eq, nv_cl, Nat.reduceMod, Nat.reduceMul, Nat.reduceAdd, Nat.zero_add, Nat.add_zero, Nat.mul_zero, decide_eq_true_eq, nv_inT, hq]
  rfl
theorem X1_requireHeaps_1 {B : Nat → Nat × Nat} {a : Hp} {L : Nat → Nat} {R : Nat → Int32} (hM : Mk B a L R) {G : Nat → Nat} (hX : FX G a L) {v : Int32} (hv : inr v (nH R)) {q : Nat} (hq : hK a q = 41 ∧ hN a q = 1 ∧ hI a q 0 = v) (Q : Ex ⊕ Unit → Hp → Prop) : Wp (X1_requireHeaps (G 0) (some q)) a Q ↔ Q (.inr ()) a := by
  have key : ∀ f, Wp (X1_requireHeaps_8 (f + 1 + 1) (G 0) (some q) (nv 1) (nv 0)) a Q ↔ Q (.inr ()) a := by
    intro f
    simp (disch := omega) only [X1_requireHeaps_8, ↓w_bd, ↓w_rt, ↓w_bh, sm_l, sm_r, ↓w_okr, ↓w_nm, ↓w_ite, ↓reduceIte, not_true_eq_false, not_false_eq_true, and_true, true_and, and_self, Option.some.injEq, reduceCtorEq, eq_self, ↓w_rc, ↓w_gI, ↓w_gR, ↓w_aN, ↓w_aI, ↓w_aR, ↓w_aL, ↓w_pI, ↓w_pR, ↓w_sI, ↓w_sR, ↓w_sL, ↓w_nO, ↓w_nA, ↓w_nL, ↓w_ca, ↓w_ca0, ↓w_gS, ↓w_gK, ↓w_dv, ↓w_tw, ↓w_rz, ↓w_no, nv_lit, nv_f, nv_add, nv_mul, nv_sub, nv_le, nv_lt, nv_eq, nv_cl, Nat.reduceMod, Nat.reduceMul, Nat.reduceAdd, Nat.zero_add, Nat.add_zero, Nat.mul_zero, decide_eq_true_eq, nv_inT, mk_k hM, mk_n hM, mk_r hM, mk_i hM, hX, hq, X3_has_1 hM hv, X1_requireIndex_1 n10, Nat.reduceLeDiff]
  rw [← key 99998]
  simp (disch := omega) only [X1_requireHeaps, ↓w_bd, ↓w_rt, ↓w_bh, sm_l, sm_r, ↓w_okr, ↓w_nm, ↓w_ite, ↓reduceIte, not_true_eq_false, not_false_eq_true, and_true, true_and, and_self, Option.some.injEq, reduceCtorEq, eq_self, ↓w_rc, ↓w_gI, ↓w_gR, ↓w_aN, ↓w_aI, ↓w_aR, ↓w_aL, ↓w_pI, ↓w_pR, ↓w_sI, ↓w_sR, ↓w_sL, ↓w_nO, ↓w_nA, ↓w_nL, ↓w_ca, ↓w_ca0, ↓w_gS, ↓w_gK, ↓w_dv, ↓w_tw, ↓w_rz, ↓w_no, nv_lit, nv_f, nv_add, nv_mul, nv_sub, nv_le, nv_lt, nv_eq, nv_cl, Nat.reduceMod, Nat.reduceMul, Nat.reduceAdd, Nat.zero_add, Nat.add_zero, Nat.mul_zero, decide_eq_true_eq, nv_inT, hq]
  rfl
theorem X1_requireHeaps_x {B : Nat → Nat × Nat} {a : Hp} {L : Nat → Nat} {R : Nat → Int32} (hM : Mk B a L R) {G : Nat → Nat} (hX : FX G a L) (hp : 1 ≤ nH R) {v : Int32} (hv : ¬ inr v (nH R)) {q : Nat} (hq : hK a q = 41 ∧ hN a q = 1 ∧ hI a q 0 = v) (Q : Ex ⊕ Unit → Hp → Prop) : Wp (X1_requireHeaps (G 0) (some q)) a Q ↔ Q (.inl (2, hSz a)) (tw_ a) := by
  have key : ∀ f, Wp (X1_requireHeaps_8 (f + 1 + 1) (G 0) (some q) (nv 1) (nv 0)) a Q ↔ Q (.inl (2, hSz a)) (tw_ a) := by
    intro f
    simp (disch := omega) only [X1_requireHeaps_8, ↓w_bd, ↓w_rt, ↓w_bh, sm_l, sm_r, ↓w_okr, ↓w_nm, ↓w_ite, ↓reduceIte, not_true_eq_false, not_false_eq_true, and_true, true_and, and_self, Option.some.injEq, reduceCtorEq, eq_self, ↓w_rc, ↓w_gI, ↓w_gR, ↓w_aN, ↓w_aI, ↓w_aR, ↓w_aL, ↓w_pI, ↓w_pR, ↓w_sI, ↓w_sR, ↓w_sL, ↓w_nO, ↓w_nA, ↓w_nL, ↓w_ca, ↓w_ca0, ↓w_gS, ↓w_gK, ↓w_dv, ↓w_tw, ↓w_rz, ↓w_no, nv_lit, nv_f, nv_add, nv_mul, nv_sub, nv_le, nv_lt, nv_eq, nv_cl, Nat.reduceMod, Nat.reduceMul, Nat.reduceAdd, Nat.zero_add, Nat.add_zero, Nat.mul_zero, decide_eq_true_eq, nv_inT, mk_k hM, mk_n hM, mk_r hM, mk_i hM, hX, hq, X3_has_0 hM hp hv, X1_requireIndex_0, Nat.reduceLeDiff]
  rw [← key 99998]
  simp (disch := omega) only [X1_requireHeaps, ↓w_bd, ↓w_rt, ↓w_bh, sm_l, sm_r, ↓w_okr, ↓w_nm, ↓w_ite, ↓reduceIte, not_true_eq_false, not_false_eq_true, and_true, true_and, and_self, Option.some.injEq, reduceCtorEq, eq_self, ↓w_rc, ↓w_gI, ↓w_gR, ↓w_aN, ↓w_aI, ↓w_aR, ↓w_aL, ↓w_pI, ↓w_pR, ↓w_sI, ↓w_sR, ↓w_sL, ↓w_nO, ↓w_nA, ↓w_nL, ↓w_ca, ↓w_ca0, ↓w_gS, ↓w_gK, ↓w_dv, ↓w_tw, ↓w_rz, ↓w_no, nv_lit, nv_f, nv_add, nv_mul, nv_sub, nv_le, nv_lt, nv_eq, nv_cl, Nat.reduceMod, Nat.reduceMul, Nat.reduceAdd, Nat.zero_add, Nat.add_zero, Nat.mul_zero, decide_eq_true_eq, nv_inT, hq]
  rfl
/-- between two numbers -/
theorem bw_ab {v : Int32} {x y : Nat} (hx : x < 1000000) (hy : y < 1000000) : bw v (nv x) (nv y) = if (x : Int) ≤ v.toInt ∧ v.toInt ≤ y then nv 1 else nv 0 := by
  unfold bw
  simp only [Int32.lt_iff_toInt_lt, nv_int (show x < 2147483648 by omega), nv_int (show y < 2147483648 by omega)]
  (repeat' split) <;> first | rfl | omega
/-- the two heaps of a call, or not -/
theorem tw2 {G : Nat → Nat} {a : Hp} {o : Nat} {R : Nat → Int32} (hF : FO G a o R) (hS : Sh R) {v w : Int32} (h : ¬ (inr v (nH R) ∧ inr w (nH R))) : (inr v (nH R) ∧ ¬ inr w (nH R)) ∨ ¬ inr v (nH R) := by
  by_cases h1 : inr v (nH R)
  · exact .inl ⟨h1, fun h2 => h ⟨h1, h2⟩⟩
  · exact .inr h1
/-! fact, by eye: of two heaps -/
theorem X5_fact_1 {G : Nat → Nat} {a : Hp} {o : Nat} {R : Nat → Int32} (hF : FO G a o R) (hG : GD G) (hS : Sh R) {x y : Nat} (hx : x < nH R) (hy : y < nH R) (Q : Int32 → Hp → Prop) : Wp (X5_fact (G 10) (nv x) (nv y)) a Q ↔ Q (fc R x y) (th G a (nv 0)) := by
  have hF0 := hF.th hG (nv 0)
  have t5 := th_5 G a (nv 0)
  have h10 := sh_H10 hS
  simp (disch := omega) only [X5_fact, X5_fact_26, X5_fact_27, X5_fact_44, ↓w_bd, ↓w_rt, ↓w_bh, sm_l, sm_r, ↓w_okr, ↓w_nm, ↓w_ite, ↓reduceIte, not_true_eq_false, not_false_eq_true, and_true, true_and, and_self, Option.some.injEq, reduceCtorEq, eq_self, ↓w_rc, ↓w_gI, ↓w_gR, ↓w_aN, ↓w_aI, ↓w_aR, ↓w_aL, ↓w_pI, ↓w_pR, ↓w_sI, ↓w_sR, ↓w_sL, ↓w_nO, ↓w_nA, ↓w_nL, ↓w_ca, ↓w_ca0, ↓w_gS, ↓w_gK, ↓w_dv, ↓w_tw, ↓w_rz, ↓w_no, nv_lit, nv_f, nv_add, nv_mul, nv_sub, nv_le, nv_lt, nv_eq, nv_cl, Nat.reduceMod, Nat.reduceMul, Nat.reduceAdd, Nat.zero_add, Nat.add_zero, Nat.mul_zero, decide_eq_true_eq, nv_inT, th_f, th_K, th_N, th_R, th_5, th_2, okn0, Nat.reduceEqDiff, hF.1, hF0.1, X5_in_w, X5_holds_1 hF0.1.1.1 t5 n10, X5_holds_0 hF0.1.1.1 t5, X5_isHeap_1 hF0 hS (inr_nv hx (by omega)), X5_isHeap_1 hF0 hS (inr_nv hy (by omega)), X5_factOf_w hF0]
theorem X5_fact_0 {G : Nat → Nat} {a : Hp} {o : Nat} {R : Nat → Int32} (hF : FO G a o R) (hG : GD G) (hS : Sh R) {v w : Int32} (h : ¬ (inr v (nH R) ∧ inr w (nH R))) (Q : Int32 → Hp → Prop) : Wp (X5_fact (G 10) v w) a Q ↔ Q (nv 0) (th G a (nv 1)) := by
  have hF0 := hF.th hG (nv 0)
  have t5 := th_5 G a (nv 0)
  rcases tw2 hF hS h with ⟨h1, h2⟩ | h1
  · simp (disch := omega) only [X5_fact, X5_fact_26, X5_fact_27, X5_fact_44, ↓w_bd, ↓w_rt, ↓w_bh, sm_l, sm_r, ↓w_okr, ↓w_nm, ↓w_ite, ↓reduceIte, not_true_eq_false, not_false_eq_true, and_true, true_and, and_self, Option.some.injEq, reduceCtorEq, eq_self, ↓w_rc, ↓w_gI, ↓w_gR, ↓w_aN, ↓w_aI, ↓w_aR, ↓w_aL, ↓w_pI, ↓w_pR, ↓w_sI, ↓w_sR, ↓w_sL, ↓w_nO, ↓w_nA, ↓w_nL, ↓w_ca, ↓w_ca0, ↓w_gS, ↓w_gK, ↓w_dv, ↓w_tw, ↓w_rz, ↓w_no, nv_lit, nv_f, nv_add, nv_mul, nv_sub, nv_le, nv_lt, nv_eq, nv_cl, Nat.reduceMod, Nat.reduceMul, Nat.reduceAdd, Nat.zero_add, Nat.add_zero, Nat.mul_zero, decide_eq_true_eq, nv_inT, th_f, th_K, th_N, th_R, th_5, th_2, okn0, Nat.reduceEqDiff, hF.1, hF0.1, X5_in_w, X5_holds_1 hF0.1.1.1 t5 n10, X5_holds_0 hF0.1.1.1 t5, X5_isHeap_1 hF0 hS h1, X5_isHeap_0 hF0 hS h2]
  · simp (disch := omega) only [X5_fact, X5_fact_26, X5_fact_27, X5_fact_44, ↓w_bd, ↓w_rt, ↓w_bh, sm_l, sm_r, ↓w_okr, ↓w_nm, ↓w_ite, ↓reduceIte, not_true_eq_false, not_false_eq_true, and_true, true_and, and_self, Option.some.injEq, reduceCtorEq, eq_self, ↓w_rc, ↓w_gI, ↓w_gR, ↓w_aN, ↓w_aI, ↓w_aR, ↓w_aL, ↓w_pI, ↓w_pR, ↓w_sI, ↓w_sR, ↓w_sL, ↓w_nO, ↓w_nA, ↓w_nL, ↓w_ca, ↓w_ca0, ↓w_gS, ↓w_gK, ↓w_dv, ↓w_tw, ↓w_rz, ↓w_no, nv_lit, nv_f, nv_add, nv_mul, nv_sub, nv_le, nv_lt, nv_eq, nv_cl, Nat.reduceMod, Nat.reduceMul, Nat.reduceAdd, Nat.zero_add, Nat.add_zero, Nat.mul_zero, decide_eq_true_eq, nv_inT, th_f, th_K, th_N, th_R, th_5, th_2, okn0, Nat.reduceEqDiff, hF.1, hF0.1, X5_in_w, X5_holds_1 hF0.1.1.1 t5 n10, X5_holds_0 hF0.1.1.1 t5, X5_isHeap_0 hF0 hS h1]
theorem X5_byEye_1 {G : Nat → Nat} {a : Hp} {o : Nat} {R : Nat → Int32} (hF : FO G a o R) (hG : GD G) (hS : Sh R) {x y : Nat} (hx : x < nH R) (hy : y < nH R) (Q : Int32 → Hp → Prop) : Wp (X5_byEye (G 10) (nv x) (nv y)) a Q ↔ Q (we R (R 2) x y) (th G a (nv 0)) := by
  have hF0 := hF.th hG (nv 0)
  have t5 := th_5 G a (nv 0)
  have h10 := sh_H10 hS
  simp (disch := omega) only [X5_byEye, X5_byEye_26, X5_byEye_27, X5_byEye_44, ↓w_bd, ↓w_rt, ↓w_bh, sm_l, sm_r, ↓w_okr, ↓w_nm, ↓w_ite, ↓reduceIte, not_true_eq_false, not_false_eq_true, and_true, true_and, and_self, Option.some.injEq, reduceCtorEq, eq_self, ↓w_rc, ↓w_gI, ↓w_gR, ↓w_aN, ↓w_aI, ↓w_aR, ↓w_aL, ↓w_pI, ↓w_pR, ↓w_sI, ↓w_sR, ↓w_sL, ↓w_nO, ↓w_nA, ↓w_nL, ↓w_ca, ↓w_ca0, ↓w_gS, ↓w_gK, ↓w_dv, ↓w_tw, ↓w_rz, ↓w_no, nv_lit, nv_f, nv_add, nv_mul, nv_sub, nv_le, nv_lt, nv_eq, nv_cl, Nat.reduceMod, Nat.reduceMul, Nat.reduceAdd, Nat.zero_add, Nat.add_zero, Nat.mul_zero, decide_eq_true_eq, nv_inT, th_f, th_K, th_N, th_R, th_5, th_2, okn0, Nat.reduceEqDiff, hF.1, hF0.1, X5_in_w, X5_holds_1 hF0.1.1.1 t5 n10, X5_holds_0 hF0.1.1.1 t5, X5_isHeap_1 hF0 hS (inr_nv hx (by omega)), X5_isHeap_1 hF0 hS (inr_nv hy (by omega)), X5_wordByEye_w hF0 hS]
theorem X5_byEye_0 {G : Nat → Nat} {a : Hp} {o : Nat} {R : Nat → Int32} (hF : FO G a o R) (hG : GD G) (hS : Sh R) {v w : Int32} (h : ¬ (inr v (nH R) ∧ inr w (nH R))) (Q : Int32 → Hp → Prop) : Wp (X5_byEye (G 10) v w) a Q ↔ Q (nv 0) (th G a (nv 1)) := by
  have hF0 := hF.th hG (nv 0)
  have t5 := th_5 G a (nv 0)
  rcases tw2 hF hS h with ⟨h1, h2⟩ | h1
  · simp (disch := omega) only [X5_byEye, X5_byEye_26, X5_byEye_27, X5_byEye_44, ↓w_bd, ↓w_rt, ↓w_bh, sm_l, sm_r, ↓w_okr, ↓w_nm, ↓w_ite, ↓reduceIte, not_true_eq_false, not_false_eq_true, and_true, true_and, and_self, Option.some.injEq, reduceCtorEq, eq_self, ↓w_rc, ↓w_gI, ↓w_gR, ↓w_aN, ↓w_aI, ↓w_aR, ↓w_aL, ↓w_pI, ↓w_pR, ↓w_sI, ↓w_sR, ↓w_sL, ↓w_nO, ↓w_nA, ↓w_nL, ↓w_ca, ↓w_ca0, ↓w_gS, ↓w_gK, ↓w_dv, ↓w_tw, ↓w_rz, ↓w_no, nv_lit, nv_f, nv_add, nv_mul, nv_sub, nv_le, nv_lt, nv_eq, nv_cl, Nat.reduceMod, Nat.reduceMul, Nat.reduceAdd, Nat.zero_add, Nat.add_zero, Nat.mul_zero, decide_eq_true_eq, nv_inT, th_f, th_K, th_N, th_R, th_5, th_2, okn0, Nat.reduceEqDiff, hF.1, hF0.1, X5_in_w, X5_holds_1 hF0.1.1.1 t5 n10, X5_holds_0 hF0.1.1.1 t5, X5_isHeap_1 hF0 hS h1, X5_isHeap_0 hF0 hS h2]
  · simp (disch := omega) only [X5_byEye, X5_byEye_26, X5_byEye_27, X5_byEye_44, ↓w_bd, ↓w_rt, ↓w_bh, sm_l, sm_r, ↓w_okr, ↓w_nm, ↓w_ite, ↓reduceIte, not_true_eq_false, not_false_eq_true, and_true, true_and, and_self, Option.some.injEq, reduceCtorEq, eq_self, ↓w_rc, ↓w_gI, ↓w_gR, ↓w_aN, ↓w_aI, ↓w_aR, ↓w_aL, ↓w_pI, ↓w_pR, ↓w_sI, ↓w_sR, ↓w_sL, ↓w_nO, ↓w_nA, ↓w_nL, ↓w_ca, ↓w_ca0, ↓w_gS, ↓w_gK, ↓w_dv, ↓w_tw, ↓w_rz, ↓w_no, nv_lit, nv_f, nv_add, nv_mul, nv_sub, nv_le, nv_lt, nv_eq, nv_cl, Nat.reduceMod, Nat.reduceMul, Nat.reduceAdd, Nat.zero_add, Nat.add_zero, Nat.mul_zero, decide_eq_true_eq, nv_inT, th_f, th_K, th_N, th_R, th_5, th_2, okn0, Nat.reduceEqDiff, hF.1, hF0.1, X5_in_w, X5_holds_1 hF0.1.1.1 t5 n10, X5_holds_0 hF0.1.1.1 t5, X5_isHeap_0 hF0 hS h1]
theorem op_fact {G : Nat → Nat} {B : Nat → Nat × Nat} {S : Gst} {a : Hp} (hC : JC G B S a) (hT : JT G S a) (v w : Int32) : OpL G a (X0_fact (some (G 0)) v w (some (G 20))) (X5_fact (G 10) v w) := by
  obtain ⟨L, R, hM0, hR, hX0, hF, -⟩ := start hC hT
  have hG := hC.1.gd
  have hS := hR.1
  have hs : ∀ i, i < 22 → G i < hSz a := fun i hi => (hC.1 i hi).1
  have h10 := sh_H10 hS
  have h2 := sh_H2 hS
  have hX := hX0.ext (va2_e a v w)
  have hM := hM0.ext (va2_e a v w) (fun _ _ => rfl)
  have hJ := (hC.e0 (va2_e a v w)).2.1
  by_cases h : inr v (nH R) ∧ inr w (nH R)
  · obtain ⟨x, rfl, hx⟩ := inr_k h.1
    obtain ⟨y, rfl, hy⟩ := inr_k h.2
    simp (disch := omega) only [X0_fact, X1_fact, OpL, ↓w_bd, ↓w_rt, ↓w_bh, sm_l, sm_r, ↓w_okr, ↓w_nm, ↓w_ite, ↓reduceIte, not_true_eq_false, not_false_eq_true, and_true, true_and, and_self, Option.some.injEq, reduceCtorEq, eq_self, ↓w_rc, ↓w_gI, ↓w_gR, ↓w_aN, ↓w_aI, ↓w_aR, ↓w_aL, ↓w_pI, ↓w_pR, ↓w_sI, ↓w_sR, ↓w_sL, ↓w_nO, ↓w_nA, ↓w_nL, ↓w_ca, ↓w_ca0, ↓w_gS, ↓w_gK, ↓w_dv, ↓w_tw, ↓w_rz, ↓w_no, nv_lit, nv_f, nv_add, nv_mul, nv_sub, nv_le, nv_lt, nv_eq, nv_cl, Nat.reduceMod, Nat.reduceMul, Nat.reduceAdd, Nat.zero_add, Nat.add_zero, Nat.mul_zero, decide_eq_true_eq, nv_inT, mk_k hM, mk_n hM, mk_r hM, mk_i hM, hX, hJ, ol_f, X1_isBetween_w, X1_requireArgument_1 n10, X1_requireArgument_0, X1_requireIndex_1 n10, X1_requireIndex_0, Nat.reduceEqDiff, hX0, va1_f, va2_f, hK_new, hN_new, hK_wI, hN_wI, up1_s, Nat.reduceLeDiff, Nat.not_lt_zero, X1_requireHeaps_11 hM hX h.1 h.2 (va2_q a _ _), X2_factWord_w hM, X5_fact_1 ((hF.e0 (va2_e a _ _) hs).ol _) hG hS]
    exact post_0 hC hT (va2_e a (nv x) (nv y)) (by rw [va2_z]; omega) (by rw [va2_l]; omega) _
  · simp (disch := omega) only [X0_fact, X1_fact, OpL, ↓w_bd, ↓w_rt, ↓w_bh, sm_l, sm_r, ↓w_okr, ↓w_nm, ↓w_ite, ↓reduceIte, not_true_eq_false, not_false_eq_true, and_true, true_and, and_self, Option.some.injEq, reduceCtorEq, eq_self, ↓w_rc, ↓w_gI, ↓w_gR, ↓w_aN, ↓w_aI, ↓w_aR, ↓w_aL, ↓w_pI, ↓w_pR, ↓w_sI, ↓w_sR, ↓w_sL, ↓w_nO, ↓w_nA, ↓w_nL, ↓w_ca, ↓w_ca0, ↓w_gS, ↓w_gK, ↓w_dv, ↓w_tw, ↓w_rz, ↓w_no, nv_lit, nv_f, nv_add, nv_mul, nv_sub, nv_le, nv_lt, nv_eq, nv_cl, Nat.reduceMod, Nat.reduceMul, Nat.reduceAdd, Nat.zero_add, Nat.add_zero, Nat.mul_zero, decide_eq_true_eq, nv_inT, mk_k hM, mk_n hM, mk_r hM, mk_i hM, hX, hJ, ol_f, X1_isBetween_w, X1_requireArgument_1 n10, X1_requireArgument_0, X1_requireIndex_1 n10, X1_requireIndex_0, Nat.reduceEqDiff, hX0, va1_f, va2_f, hK_new, hN_new, hK_wI, hN_wI, up1_s, Nat.reduceLeDiff, Nat.not_lt_zero, X1_requireHeaps_0 hM hX (by omega) h (va2_q a _ _), X5_fact_0 (hF.e0 ((va2_e a v w).tr (tw_e _)) hs) hG hS h]
    exact post_x hC hT ((va2_e a v w).tr (tw_e (va2 a v w))) (by rw [tw_z, va2_z]; omega) (by rw [tw_l, va2_l]; omega) (by omega) (by omega) _
theorem op_byEye {G : Nat → Nat} {B : Nat → Nat × Nat} {S : Gst} {a : Hp} (hC : JC G B S a) (hT : JT G S a) (v w : Int32) : OpL G a (X0_byEye (some (G 0)) v w (some (G 20))) (X5_byEye (G 10) v w) := by
  obtain ⟨L, R, hM0, hR, hX0, hF, -⟩ := start hC hT
  have hG := hC.1.gd
  have hS := hR.1
  have hs : ∀ i, i < 22 → G i < hSz a := fun i hi => (hC.1 i hi).1
  have h10 := sh_H10 hS
  have h2 := sh_H2 hS
  have hX := hX0.ext (va2_e a v w)
  have hM := hM0.ext (va2_e a v w) (fun _ _ => rfl)
  have hJ := (hC.e0 (va2_e a v w)).2.1
  by_cases h : inr v (nH R) ∧ inr w (nH R)
  · obtain ⟨x, rfl, hx⟩ := inr_k h.1
    obtain ⟨y, rfl, hy⟩ := inr_k h.2
    simp (disch := omega) only [X0_byEye, X1_byEye, OpL, ↓w_bd, ↓w_rt, ↓w_bh, sm_l, sm_r, ↓w_okr, ↓w_nm, ↓w_ite, ↓reduceIte, not_true_eq_false, not_false_eq_true, and_true, true_and, and_self, Option.some.injEq, reduceCtorEq, eq_self, ↓w_rc, ↓w_gI, ↓w_gR, ↓w_aN, ↓w_aI, ↓w_aR, ↓w_aL, ↓w_pI, ↓w_pR, ↓w_sI, ↓w_sR, ↓w_sL, ↓w_nO, ↓w_nA, ↓w_nL, ↓w_ca, ↓w_ca0, ↓w_gS, ↓w_gK, ↓w_dv, ↓w_tw, ↓w_rz, ↓w_no, nv_lit, nv_f, nv_add, nv_mul, nv_sub, nv_le, nv_lt, nv_eq, nv_cl, Nat.reduceMod, Nat.reduceMul, Nat.reduceAdd, Nat.zero_add, Nat.add_zero, Nat.mul_zero, decide_eq_true_eq, nv_inT, mk_k hM, mk_n hM, mk_r hM, mk_i hM, hX, hJ, ol_f, X1_isBetween_w, X1_requireArgument_1 n10, X1_requireArgument_0, X1_requireIndex_1 n10, X1_requireIndex_0, Nat.reduceEqDiff, hX0, va1_f, va2_f, hK_new, hN_new, hK_wI, hN_wI, up1_s, Nat.reduceLeDiff, Nat.not_lt_zero, X1_requireHeaps_11 hM hX h.1 h.2 (va2_q a _ _), X2_eyeWord_w hM, X5_byEye_1 ((hF.e0 (va2_e a _ _) hs).ol _) hG hS]
    exact post_0 hC hT (va2_e a (nv x) (nv y)) (by rw [va2_z]; omega) (by rw [va2_l]; omega) _
  · simp (disch := omega) only [X0_byEye, X1_byEye, OpL, ↓w_bd, ↓w_rt, ↓w_bh, sm_l, sm_r, ↓w_okr, ↓w_nm, ↓w_ite, ↓reduceIte, not_true_eq_false, not_false_eq_true, and_true, true_and, and_self, Option.some.injEq, reduceCtorEq, eq_self, ↓w_rc, ↓w_gI, ↓w_gR, ↓w_aN, ↓w_aI, ↓w_aR, ↓w_aL, ↓w_pI, ↓w_pR, ↓w_sI, ↓w_sR, ↓w_sL, ↓w_nO, ↓w_nA, ↓w_nL, ↓w_ca, ↓w_ca0, ↓w_gS, ↓w_gK, ↓w_dv, ↓w_tw, ↓w_rz, ↓w_no, nv_lit, nv_f, nv_add, nv_mul, nv_sub, nv_le, nv_lt, nv_eq, nv_cl, Nat.reduceMod, Nat.reduceMul, Nat.reduceAdd, Nat.zero_add, Nat.add_zero, Nat.mul_zero, decide_eq_true_eq, nv_inT, mk_k hM, mk_n hM, mk_r hM, mk_i hM, hX, hJ, ol_f, X1_isBetween_w, X1_requireArgument_1 n10, X1_requireArgument_0, X1_requireIndex_1 n10, X1_requireIndex_0, Nat.reduceEqDiff, hX0, va1_f, va2_f, hK_new, hN_new, hK_wI, hN_wI, up1_s, Nat.reduceLeDiff, Nat.not_lt_zero, X1_requireHeaps_0 hM hX (by omega) h (va2_q a _ _), X5_byEye_0 (hF.e0 ((va2_e a v w).tr (tw_e _)) hs) hG hS h]
    exact post_x hC hT ((va2_e a v w).tr (tw_e (va2 a v w))) (by rw [tw_z, va2_z]; omega) (by rw [tw_l, va2_l]; omega) (by omega) (by omega) _
