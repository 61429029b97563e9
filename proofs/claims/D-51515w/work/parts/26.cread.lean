/-! THE COMPONENT: facts, ranks, lambdas -/
theorem X10_isOf_w {a : Hp} {f x y : Nat} {w : Int32} (hf : Fw_ a f x y w) (hx : x < 100) (hy : y < 100) (Q : Int32 → Hp → Prop) : Wp (X10_isOf f (nv x)) a Q ↔ Q (nv 1) a := by
  obtain ⟨-, hk, ⟨h0, h1, -⟩ | ⟨h0, h1, -⟩⟩ := hf
  · simp (disch := omega) only [X10_isOf, X10_isOf_16, X10_isOf_21, ↓w_bd, ↓w_rt, ↓w_bh, sm_l, sm_r, ↓w_okr, ↓w_nm, ↓w_ite, ↓reduceIte, not_true_eq_false, not_false_eq_true, and_true, true_and, and_self, Option.some.injEq, reduceCtorEq, eq_self, ↓w_rc, ↓w_gI, ↓w_gR, ↓w_aN, ↓w_aI, ↓w_aR, ↓w_aL, ↓w_pI, ↓w_pR, ↓w_sI, ↓w_sR, ↓w_sL, ↓w_nO, ↓w_nA, ↓w_nL, ↓w_ca, ↓w_ca0, ↓w_gS, ↓w_gK, ↓w_dv, ↓w_tw, ↓w_rz, ↓w_no, nv_lit, nv_f, nv_add, nv_mul, nv_sub, nv_le, nv_lt, nv_eq, nv_cl, Nat.reduceMod, Nat.reduceMul, Nat.reduceAdd, Nat.zero_add, Nat.add_zero, Nat.mul_zero, decide_eq_true_eq, nv_inT, hk, h0, show nrk 2 (nv 1) = true by decide]
  · by_cases c : x = y
    · simp (disch := omega) only [X10_isOf, X10_isOf_16, X10_isOf_21, ↓w_bd, ↓w_rt, ↓w_bh, sm_l, sm_r, ↓w_okr, ↓w_nm, ↓w_ite, ↓reduceIte, not_true_eq_false, not_false_eq_true, and_true, true_and, and_self, Option.some.injEq, reduceCtorEq, eq_self, ↓w_rc, ↓w_gI, ↓w_gR, ↓w_aN, ↓w_aI, ↓w_aR, ↓w_aL, ↓w_pI, ↓w_pR, ↓w_sI, ↓w_sR, ↓w_sL, ↓w_nO, ↓w_nA, ↓w_nL, ↓w_ca, ↓w_ca0, ↓w_gS, ↓w_gK, ↓w_dv, ↓w_tw, ↓w_rz, ↓w_no, nv_lit, nv_f, nv_add, nv_mul, nv_sub, nv_le, nv_lt, nv_eq, nv_cl, Nat.reduceMod, Nat.reduceMul, Nat.reduceAdd, Nat.zero_add, Nat.add_zero, Nat.mul_zero, decide_eq_true_eq, nv_inT, hk, h0, c, show nrk 2 (nv 1) = true by decide]
    · simp (disch := omega) only [X10_isOf, X10_isOf_16, X10_isOf_21, ↓w_bd, ↓w_rt, ↓w_bh, sm_l, sm_r, ↓w_okr, ↓w_nm, ↓w_ite, ↓reduceIte, not_true_eq_false, not_false_eq_true, and_true, true_and, and_self, Option.some.injEq, reduceCtorEq, eq_self, ↓w_rc, ↓w_gI, ↓w_gR, ↓w_aN, ↓w_aI, ↓w_aR, ↓w_aL, ↓w_pI, ↓w_pR, ↓w_sI, ↓w_sR, ↓w_sL, ↓w_nO, ↓w_nA, ↓w_nL, ↓w_ca, ↓w_ca0, ↓w_gS, ↓w_gK, ↓w_dv, ↓w_tw, ↓w_rz, ↓w_no, nv_lit, nv_f, nv_add, nv_mul, nv_sub, nv_le, nv_lt, nv_eq, nv_cl, Nat.reduceMod, Nat.reduceMul, Nat.reduceAdd, Nat.zero_add, Nat.add_zero, Nat.mul_zero, decide_eq_true_eq, nv_inT, hk, h0, h1, c, show nrk 2 (nv 1) = true by decide]
def tn2 (w : Int32) : Int32 := if w = 2 then w else if w = -1 then w else 1 - w
theorem X1_turned_w (x : Int32) (a : Hp) (Q : Int32 → Hp → Prop) : Wp (X1_turned x) a Q ↔ Q (tn2 x) a := by
  simp only [X1_turned, X1_turned_10, X1_turned_17, ↓w_bd, ↓w_rt, ↓w_bh, sm_l, sm_r, ↓w_okr, ↓w_nm, ↓w_ite, ↓reduceIte, not_true_eq_false, not_false_eq_true, and_true, true_and, and_self, Option.some.injEq, reduceCtorEq, eq_self, tn2, ite_not]; split <;> (try split) <;> rfl
theorem X10_wordOf_w {a : Hp} {f x y : Nat} {w : Int32} (hf : Fw_ a f x y w) (hw : W3 w) (hxy : x ≠ y) (hx : x < 100) (hy : y < 100) (Q : Int32 → Hp → Prop) : Wp (X10_wordOf f (nv x)) a Q ↔ Q w a := by
  obtain ⟨-, hk, ⟨h0, h1, h2⟩ | ⟨h0, h1, h2⟩⟩ := hf
  · simp (disch := omega) only [X10_wordOf, X10_wordOf_22, ↓w_bd, ↓w_rt, ↓w_bh, sm_l, sm_r, ↓w_okr, ↓w_nm, ↓w_ite, ↓reduceIte, not_true_eq_false, not_false_eq_true, and_true, true_and, and_self, Option.some.injEq, reduceCtorEq, eq_self, ↓w_rc, ↓w_gI, ↓w_gR, ↓w_aN, ↓w_aI, ↓w_aR, ↓w_aL, ↓w_pI, ↓w_pR, ↓w_sI, ↓w_sR, ↓w_sL, ↓w_nO, ↓w_nA, ↓w_nL, ↓w_ca, ↓w_ca0, ↓w_gS, ↓w_gK, ↓w_dv, ↓w_tw, ↓w_rz, ↓w_no, nv_lit, nv_f, nv_add, nv_mul, nv_sub, nv_le, nv_lt, nv_eq, nv_cl, Nat.reduceMod, Nat.reduceMul, Nat.reduceAdd, Nat.zero_add, Nat.add_zero, Nat.mul_zero, decide_eq_true_eq, nv_inT, hk, h0, h2]
  · have e : tn2 (tn w) = w := by rcases hw with rfl | rfl | rfl <;> rfl
    simp (disch := omega) only [X10_wordOf, X10_wordOf_22, ↓w_bd, ↓w_rt, ↓w_bh, sm_l, sm_r, ↓w_okr, ↓w_nm, ↓w_ite, ↓reduceIte, not_true_eq_false, not_false_eq_true, and_true, true_and, and_self, Option.some.injEq, reduceCtorEq, eq_self, ↓w_rc, ↓w_gI, ↓w_gR, ↓w_aN, ↓w_aI, ↓w_aR, ↓w_aL, ↓w_pI, ↓w_pR, ↓w_sI, ↓w_sR, ↓w_sL, ↓w_nO, ↓w_nA, ↓w_nL, ↓w_ca, ↓w_ca0, ↓w_gS, ↓w_gK, ↓w_dv, ↓w_tw, ↓w_rz, ↓w_no, nv_lit, nv_f, nv_add, nv_mul, nv_sub, nv_le, nv_lt, nv_eq, nv_cl, Nat.reduceMod, Nat.reduceMul, Nat.reduceAdd, Nat.zero_add, Nat.add_zero, Nat.mul_zero, decide_eq_true_eq, nv_inT, hk, h0, h2, hxy, X1_turned_w, e]
theorem w3_m1 {w : Int32} (h : W3 w) : ¬ w = -1 := by
  rintro rfl
  rcases h with w | w | w <;> exact absurd w (by decide)
theorem X2_factWord_w {B : Nat → Nat × Nat} {a : Hp} {L : Nat → Nat} {R : Nat → Int32} (hM : Mk B a L R) {x y : Nat} (hx : x < 10) (hy : y < 10) (Q : Int32 → Hp → Prop) : Wp (X2_factWord (L 0) (nv x) (nv y)) a Q ↔ Q (fc R x y) a := by
  rcases mk_f hM x y hx hy with ⟨f1, f2⟩ | ⟨f, f1, f2, f3, f4⟩
  · rw [f1]
    simp (disch := omega) only [X2_factWord, X2_factWord_27, ↓w_bd, ↓w_rt, ↓w_bh, sm_l, sm_r, ↓w_okr, ↓w_nm, ↓w_ite, ↓reduceIte, not_true_eq_false, not_false_eq_true, and_true, true_and, and_self, Option.some.injEq, reduceCtorEq, eq_self, ↓w_rc, ↓w_gI, ↓w_gR, ↓w_aN, ↓w_aI, ↓w_aR, ↓w_aL, ↓w_pI, ↓w_pR, ↓w_sI, ↓w_sR, ↓w_sL, ↓w_nO, ↓w_nA, ↓w_nL, ↓w_ca, ↓w_ca0, ↓w_gS, ↓w_gK, ↓w_dv, ↓w_tw, ↓w_rz, ↓w_no, nv_lit, nv_f, nv_add, nv_mul, nv_sub, nv_le, nv_lt, nv_eq, nv_cl, Nat.reduceMod, Nat.reduceMul, Nat.reduceAdd, Nat.zero_add, Nat.add_zero, Nat.mul_zero, decide_eq_true_eq, nv_inT, mk_k hM, mk_n hM, mk_r hM, mk_i hM, f2]
  · simp (disch := omega) only [X2_factWord, X2_factWord_27, ↓w_bd, ↓w_rt, ↓w_bh, sm_l, sm_r, ↓w_okr, ↓w_nm, ↓w_ite, ↓reduceIte, not_true_eq_false, not_false_eq_true, and_true, true_and, and_self, Option.some.injEq, reduceCtorEq, eq_self, ↓w_rc, ↓w_gI, ↓w_gR, ↓w_aN, ↓w_aI, ↓w_aR, ↓w_aL, ↓w_pI, ↓w_pR, ↓w_sI, ↓w_sR, ↓w_sL, ↓w_nO, ↓w_nA, ↓w_nL, ↓w_ca, ↓w_ca0, ↓w_gS, ↓w_gK, ↓w_dv, ↓w_tw, ↓w_rz, ↓w_no, nv_lit, nv_f, nv_add, nv_mul, nv_sub, nv_le, nv_lt, nv_eq, nv_cl, Nat.reduceMod, Nat.reduceMul, Nat.reduceAdd, Nat.zero_add, Nat.add_zero, Nat.mul_zero, decide_eq_true_eq, nv_inT, mk_k hM, mk_n hM, mk_r hM, mk_i hM, f1, f4.2.1, X10_wordOf_w f4 f3 f2]
def ld (R : Nat → Int32) (x y : Nat) (v : Int32) : Int32 := if fc R x y = -1 then 0 else if fc R x y = 2 then 1 else if fc R x y = v then 1 else 0
theorem X2_leads_w {B : Nat → Nat × Nat} {a : Hp} {L : Nat → Nat} {R : Nat → Int32} (hM : Mk B a L R) {x y : Nat} (hx : x < 10) (hy : y < 10) (v : Int32) (Q : Int32 → Hp → Prop) : Wp (X2_leads (L 0) (nv x) (nv y) v) a Q ↔ Q (ld R x y v) a := by
  unfold ld
  by_cases c1 : fc R x y = -nv 1
  · simp (disch := omega) only [X2_leads, X2_leads_30, X2_leads_26, X2_leads_31, ↓w_bd, ↓w_rt, ↓w_bh, sm_l, sm_r, ↓w_okr, ↓w_nm, ↓w_ite, ↓reduceIte, not_true_eq_false, not_false_eq_true, and_true, true_and, and_self, Option.some.injEq, reduceCtorEq, eq_self, ↓w_rc, ↓w_gI, ↓w_gR, ↓w_aN, ↓w_aI, ↓w_aR, ↓w_aL, ↓w_pI, ↓w_pR, ↓w_sI, ↓w_sR, ↓w_sL, ↓w_nO, ↓w_nA, ↓w_nL, ↓w_ca, ↓w_ca0, ↓w_gS, ↓w_gK, ↓w_dv, ↓w_tw, ↓w_rz, ↓w_no, nv_lit, nv_f, nv_add, nv_mul, nv_sub, nv_le, nv_lt, nv_eq, nv_cl, Nat.reduceMod, Nat.reduceMul, Nat.reduceAdd, Nat.zero_add, Nat.add_zero, Nat.mul_zero, decide_eq_true_eq, nv_inT, mk_k hM, mk_n hM, mk_r hM, mk_i hM, X2_factWord_w hM, c1, show nrk 2 (nv 0) = true by decide, show nrk 2 (nv 1) = true by decide]
  · by_cases c2 : fc R x y = nv 2
    · simp (disch := omega) only [X2_leads, X2_leads_30, X2_leads_26, X2_leads_31, ↓w_bd, ↓w_rt, ↓w_bh, sm_l, sm_r, ↓w_okr, ↓w_nm, ↓w_ite, ↓reduceIte, not_true_eq_false, not_false_eq_true, and_true, true_and, and_self, Option.some.injEq, reduceCtorEq, eq_self, ↓w_rc, ↓w_gI, ↓w_gR, ↓w_aN, ↓w_aI, ↓w_aR, ↓w_aL, ↓w_pI, ↓w_pR, ↓w_sI, ↓w_sR, ↓w_sL, ↓w_nO, ↓w_nA, ↓w_nL, ↓w_ca, ↓w_ca0, ↓w_gS, ↓w_gK, ↓w_dv, ↓w_tw, ↓w_rz, ↓w_no, nv_lit, nv_f, nv_add, nv_mul, nv_sub, nv_le, nv_lt, nv_eq, nv_cl, Nat.reduceMod, Nat.reduceMul, Nat.reduceAdd, Nat.zero_add, Nat.add_zero, Nat.mul_zero, decide_eq_true_eq, nv_inT, mk_k hM, mk_n hM, mk_r hM, mk_i hM, X2_factWord_w hM, c2, show ¬ nv 2 = -nv 1 by decide, show nrk 2 (nv 0) = true by decide, show nrk 2 (nv 1) = true by decide]
    · by_cases c3 : fc R x y = v
      · simp (disch := omega) only [X2_leads, X2_leads_30, X2_leads_26, X2_leads_31, ↓w_bd, ↓w_rt, ↓w_bh, sm_l, sm_r, ↓w_okr, ↓w_nm, ↓w_ite, ↓reduceIte, not_true_eq_false, not_false_eq_true, and_true, true_and, and_self, Option.some.injEq, reduceCtorEq, eq_self, ↓w_rc, ↓w_gI, ↓w_gR, ↓w_aN, ↓w_aI, ↓w_aR, ↓w_aL, ↓w_pI, ↓w_pR, ↓w_sI, ↓w_sR, ↓w_sL, ↓w_nO, ↓w_nA, ↓w_nL, ↓w_ca, ↓w_ca0, ↓w_gS, ↓w_gK, ↓w_dv, ↓w_tw, ↓w_rz, ↓w_no, nv_lit, nv_f, nv_add, nv_mul, nv_sub, nv_le, nv_lt, nv_eq, nv_cl, Nat.reduceMod, Nat.reduceMul, Nat.reduceAdd, Nat.zero_add, Nat.add_zero, Nat.mul_zero, decide_eq_true_eq, nv_inT, mk_k hM, mk_n hM, mk_r hM, mk_i hM, X2_factWord_w hM, c1, c2, show nrk 2 (nv 0) = true by decide, show nrk 2 (nv 1) = true by decide]
        simp only [c3, not_true_eq_false, ↓reduceIte]
      · simp (disch := omega) only [X2_leads, X2_leads_30, X2_leads_26, X2_leads_31, ↓w_bd, ↓w_rt, ↓w_bh, sm_l, sm_r, ↓w_okr, ↓w_nm, ↓w_ite, ↓reduceIte, not_true_eq_false, not_false_eq_true, and_true, true_and, and_self, Option.some.injEq, reduceCtorEq, eq_self, ↓w_rc, ↓w_gI, ↓w_gR, ↓w_aN, ↓w_aI, ↓w_aR, ↓w_aL, ↓w_pI, ↓w_pR, ↓w_sI, ↓w_sR, ↓w_sL, ↓w_nO, ↓w_nA, ↓w_nL, ↓w_ca, ↓w_ca0, ↓w_gS, ↓w_gK, ↓w_dv, ↓w_tw, ↓w_rz, ↓w_no, nv_lit, nv_f, nv_add, nv_mul, nv_sub, nv_le, nv_lt, nv_eq, nv_cl, Nat.reduceMod, Nat.reduceMul, Nat.reduceAdd, Nat.zero_add, Nat.add_zero, Nat.mul_zero, decide_eq_true_eq, nv_inT, mk_k hM, mk_n hM, mk_r hM, mk_i hM, X2_factWord_w hM, c1, c2, c3, show nrk 2 (nv 0) = true by decide, show nrk 2 (nv 1) = true by decide]
theorem X2_factsOf_w {B : Nat → Nat × Nat} {a : Hp} {L : Nat → Nat} {R : Nat → Int32} (hM : Mk B a L R) (hF : Fs R) {h : Nat} (hh : h < 10) (Q : Int32 → Hp → Prop) : Wp (X2_factsOf (L 0) (nv h)) a Q ↔ Q (fw R h) a := by
  have h10 := (mk_w hM).2.1.2
  have e : fw R h = su (fun k => if fc R h k = -1 then 0 else 1) 10 := by
    have := su_z (fun k => if fc R h k = -1 then (0 : Int32) else 1) (n := nH R) (10 - nH R) (fun r h1 h2 => by
      rcases hF h r hh (by omega) with e | e
      · rw [if_pos e]
      · omega)
    rw [show nH R + (10 - nH R) = 10 by omega] at this
    rw [this]
    rfl
  rw [e]
  have l : ∀ (f k : Nat), k ≤ 10 → 10 - k < f → (Wp (X2_factsOf_16 f (nv h) (su (fun k => if fc R h k = -1 then 0 else 1) k) (some (L (10 + h))) (nv 10) (nv k)) a Q ↔ Q (su (fun k => if fc R h k = -1 then 0 else 1) 10) a) := by
    refine loopUp _ 10 ?_ ?_
    · intro f
      simp (disch := omega) only [X2_factsOf_16, ↓w_bd, ↓w_rt, ↓w_bh, sm_l, sm_r, ↓w_okr, ↓w_nm, ↓w_ite, ↓reduceIte, not_true_eq_false, not_false_eq_true, and_true, true_and, and_self, Option.some.injEq, reduceCtorEq, eq_self, ↓w_rc, ↓w_gI, ↓w_gR, ↓w_aN, ↓w_aI, ↓w_aR, ↓w_aL, ↓w_pI, ↓w_pR, ↓w_sI, ↓w_sR, ↓w_sL, ↓w_nO, ↓w_nA, ↓w_nL, ↓w_ca, ↓w_ca0, ↓w_gS, ↓w_gK, ↓w_dv, ↓w_tw, ↓w_rz, ↓w_no, nv_lit, nv_f, nv_add, nv_mul, nv_sub, nv_le, nv_lt, nv_eq, nv_cl, Nat.reduceMod, Nat.reduceMul, Nat.reduceAdd, Nat.zero_add, Nat.add_zero, Nat.mul_zero, decide_eq_true_eq, nv_inT, Nat.le_refl]
    · intro f k hk2 ih
      rw [su] at ih
      rcases mk_f hM h k hh hk2 with ⟨f1, f2⟩ | ⟨f0, f1, f2, f3, f4⟩
      · rw [if_pos f1] at ih
        simp (disch := omega) only [X2_factsOf_16, X2_factsOf_48, X2_factsOf_49, ↓w_bd, ↓w_rt, ↓w_bh, sm_l, sm_r, ↓w_okr, ↓w_nm, ↓w_ite, ↓reduceIte, not_true_eq_false, not_false_eq_true, and_true, true_and, and_self, Option.some.injEq, reduceCtorEq, eq_self, ↓w_rc, ↓w_gI, ↓w_gR, ↓w_aN, ↓w_aI, ↓w_aR, ↓w_aL, ↓w_pI, ↓w_pR, ↓w_sI, ↓w_sR, ↓w_sL, ↓w_nO, ↓w_nA, ↓w_nL, ↓w_ca, ↓w_ca0, ↓w_gS, ↓w_gK, ↓w_dv, ↓w_tw, ↓w_rz, ↓w_no, nv_lit, nv_f, nv_add, nv_mul, nv_sub, nv_le, nv_lt, nv_eq, nv_cl, Nat.reduceMod, Nat.reduceMul, Nat.reduceAdd, Nat.zero_add, Nat.add_zero, Nat.mul_zero, decide_eq_true_eq, nv_inT, mk_k hM, mk_n hM, mk_r hM, mk_i hM, Nat.not_le.mpr hk2, f2, X5_one_0, X5_one_1, X1_bit_0, X1_bit_1, ite_not]
        exact ih
      · rw [if_neg (w3_m1 f3)] at ih
        simp (disch := omega) only [X2_factsOf_16, X2_factsOf_48, X2_factsOf_49, ↓w_bd, ↓w_rt, ↓w_bh, sm_l, sm_r, ↓w_okr, ↓w_nm, ↓w_ite, ↓reduceIte, not_true_eq_false, not_false_eq_true, and_true, true_and, and_self, Option.some.injEq, reduceCtorEq, eq_self, ↓w_rc, ↓w_gI, ↓w_gR, ↓w_aN, ↓w_aI, ↓w_aR, ↓w_aL, ↓w_pI, ↓w_pR, ↓w_sI, ↓w_sR, ↓w_sL, ↓w_nO, ↓w_nA, ↓w_nL, ↓w_ca, ↓w_ca0, ↓w_gS, ↓w_gK, ↓w_dv, ↓w_tw, ↓w_rz, ↓w_no, nv_lit, nv_f, nv_add, nv_mul, nv_sub, nv_le, nv_lt, nv_eq, nv_cl, Nat.reduceMod, Nat.reduceMul, Nat.reduceAdd, Nat.zero_add, Nat.add_zero, Nat.mul_zero, decide_eq_true_eq, nv_inT, mk_k hM, mk_n hM, mk_r hM, mk_i hM, Nat.not_le.mpr hk2, f1, f4.2.1, X10_isOf_w f4, X5_one_0, X5_one_1, X1_bit_0, X1_bit_1, ite_not, show ¬ nv 1 = nv 0 by decide]
        exact ih
  rw [← l FU 0 (by omega) (by unfold FU; omega)]
  simp (disch := omega) only [X2_factsOf, ↓w_bd, ↓w_rt, ↓w_bh, sm_l, sm_r, ↓w_okr, ↓w_nm, ↓w_ite, ↓reduceIte, not_true_eq_false, not_false_eq_true, and_true, true_and, and_self, Option.some.injEq, reduceCtorEq, eq_self, ↓w_rc, ↓w_gI, ↓w_gR, ↓w_aN, ↓w_aI, ↓w_aR, ↓w_aL, ↓w_pI, ↓w_pR, ↓w_sI, ↓w_sR, ↓w_sL, ↓w_nO, ↓w_nA, ↓w_nL, ↓w_ca, ↓w_ca0, ↓w_gS, ↓w_gK, ↓w_dv, ↓w_tw, ↓w_rz, ↓w_no, nv_lit, nv_f, nv_add, nv_mul, nv_sub, nv_le, nv_lt, nv_eq, nv_cl, Nat.reduceMod, Nat.reduceMul, Nat.reduceAdd, Nat.zero_add, Nat.add_zero, Nat.mul_zero, decide_eq_true_eq, nv_inT, mk_k hM, mk_n hM, mk_r hM, mk_i hM, su_0]
theorem X2_factsAll_w {B : Nat → Nat × Nat} {a : Hp} {L : Nat → Nat} {R : Nat → Int32} (hM : Mk B a L R) (hF : Fs R) (Q : Int32 → Hp → Prop) : Wp (X2_factsAll (L 0)) a Q ↔ Q (fa R) a := by
  have h10 := (mk_w hM).2.1.2
  have i2 : ¬ nv 2 = 0 := by decide
  have l : ∀ (f k : Nat), k ≤ nH R → nH R - k < f → (Wp (X2_factsAll_4 f (L 0) (su (fun k => fw R k) k) (nv k)) a Q ↔ Q (fa R) a) := by
    refine loopUp _ (nH R) ?_ ?_
    · intro f
      simp (disch := omega) only [X2_factsAll_4, ↓w_bd, ↓w_rt, ↓w_bh, sm_l, sm_r, ↓w_okr, ↓w_nm, ↓w_ite, ↓reduceIte, not_true_eq_false, not_false_eq_true, and_true, true_and, and_self, Option.some.injEq, reduceCtorEq, eq_self, ↓w_rc, ↓w_gI, ↓w_gR, ↓w_aN, ↓w_aI, ↓w_aR, ↓w_aL, ↓w_pI, ↓w_pR, ↓w_sI, ↓w_sR, ↓w_sL, ↓w_nO, ↓w_nA, ↓w_nL, ↓w_ca, ↓w_ca0, ↓w_gS, ↓w_gK, ↓w_dv, ↓w_tw, ↓w_rz, ↓w_no, nv_lit, nv_f, nv_add, nv_mul, nv_sub, nv_le, nv_lt, nv_eq, nv_cl, Nat.reduceMod, Nat.reduceMul, Nat.reduceAdd, Nat.zero_add, Nat.add_zero, Nat.mul_zero, decide_eq_true_eq, nv_inT, mk_k hM, mk_n hM, mk_r hM, mk_i hM, X2_factsOf_w hM hF, i2, fa, Nat.le_refl]
      all_goals rfl
    · intro f k hk2 ih
      simp (disch := omega) only [su, nv_lit, nv_f, nv_add, nv_mul, nv_sub, nv_le, nv_lt, nv_eq, nv_cl, Nat.reduceMod, Nat.reduceMul, Nat.reduceAdd, Nat.zero_add, Nat.add_zero, Nat.mul_zero, decide_eq_true_eq, nv_in, fa] at ih
      simp (disch := omega) only [X2_factsAll_4, ↓w_bd, ↓w_rt, ↓w_bh, sm_l, sm_r, ↓w_okr, ↓w_nm, ↓w_ite, ↓reduceIte, not_true_eq_false, not_false_eq_true, and_true, true_and, and_self, Option.some.injEq, reduceCtorEq, eq_self, ↓w_rc, ↓w_gI, ↓w_gR, ↓w_aN, ↓w_aI, ↓w_aR, ↓w_aL, ↓w_pI, ↓w_pR, ↓w_sI, ↓w_sR, ↓w_sL, ↓w_nO, ↓w_nA, ↓w_nL, ↓w_ca, ↓w_ca0, ↓w_gS, ↓w_gK, ↓w_dv, ↓w_tw, ↓w_rz, ↓w_no, nv_lit, nv_f, nv_add, nv_mul, nv_sub, nv_le, nv_lt, nv_eq, nv_cl, Nat.reduceMod, Nat.reduceMul, Nat.reduceAdd, Nat.zero_add, Nat.add_zero, Nat.mul_zero, decide_eq_true_eq, nv_inT, mk_k hM, mk_n hM, mk_r hM, mk_i hM, X2_factsOf_w hM hF, i2, fa, Nat.not_le.mpr hk2]
      first
        | exact ih
        | ((repeat' split) <;> simp only [↓reduceIte, not_true_eq_false, not_false_eq_true, Int32.lt_irrefl, *] at ih <;> exact ih)
        | ((repeat' split) <;> simp only [↓reduceIte, not_true_eq_false, not_false_eq_true, Int32.lt_irrefl, *] at ih ⊢ <;> exact ih)
  exact l FU 0 (by omega) (by unfold FU; omega)
/-! ranks -/
def cm (x y : Int32) : Int32 := if y ≤ x then (if x = y then 0 else 1) else -1
theorem J16_compare_w (x y : Int32) (a : Hp) (Q : Int32 → Hp → Prop) : Wp (J16_compare x y) a Q ↔ Q (cm x y) a := by
  simp only [J16_compare, J16_compare_19, ↓w_bd, ↓w_rt, ↓w_bh, sm_l, sm_r, ↓w_okr, ↓w_nm, ↓w_ite, ↓reduceIte, not_true_eq_false, not_false_eq_true, and_true, true_and, and_self, Option.some.injEq, reduceCtorEq, eq_self, cm, ite_not]; split <;> (try split) <;> rfl
theorem cm_0 (x y : Int32) : (0 ≤ cm x y) = (y ≤ x) := by
  unfold cm
  apply propext
  split
  · rename_i c
    split <;> exact ⟨fun _ => c, fun _ => by decide⟩
  · rename_i c
    exact ⟨fun h => absurd h (by decide), fun h => absurd h c⟩
theorem IF_cmp_w {B : Nat → Nat × Nat} {a : Hp} {L : Nat → Nat} {R : Nat → Int32} (hM : Mk B a L R) {b m : Nat} (hb : b < nH R) (hm : m < nH R) (Q : Int32 → Hp → Prop) : Wp (IF_cmp (some (L (20 + b))) (some (L (20 + m)))) a Q ↔ Q (if sz R b = sz R m then cm (nv b) (nv m) else cm (sz R m) (sz R b)) a := by
  simp (disch := omega) only [IF_cmp, X4_compareTo, X4_compareTo_2, X4_compareTo_2_36, ↓w_bd, ↓w_rt, ↓w_bh, sm_l, sm_r, ↓w_okr, ↓w_nm, ↓w_ite, ↓reduceIte, not_true_eq_false, not_false_eq_true, and_true, true_and, and_self, Option.some.injEq, reduceCtorEq, eq_self, ↓w_rc, ↓w_gI, ↓w_gR, ↓w_aN, ↓w_aI, ↓w_aR, ↓w_aL, ↓w_pI, ↓w_pR, ↓w_sI, ↓w_sR, ↓w_sL, ↓w_nO, ↓w_nA, ↓w_nL, ↓w_ca, ↓w_ca0, ↓w_gS, ↓w_gK, ↓w_dv, ↓w_tw, ↓w_rz, ↓w_no, nv_lit, nv_f, nv_add, nv_mul, nv_sub, nv_le, nv_lt, nv_eq, nv_cl, Nat.reduceMod, Nat.reduceMul, Nat.reduceAdd, Nat.zero_add, Nat.add_zero, Nat.mul_zero, decide_eq_true_eq, nv_inT, mk_k hM, mk_n hM, mk_r hM, mk_i hM, ct_44, X4_size_w hM, J16_compare_w]
  split <;> rfl
theorem X3_rankOf_w {B : Nat → Nat × Nat} {a : Hp} {L : Nat → Nat} {R : Nat → Int32} (hM : Mk B a L R) {m : Nat} (hm : m < nH R) (Q : Int32 → Hp → Prop) : Wp (X3_rankOf (L 1) (some (L (20 + m)))) a Q ↔ Q (rnk R m) a := by
  have h10 := (mk_w hM).2.1.2
  have e : rnk R m = su (fun b => if sz R b = sz R m then (if m ≤ b then 0 else 1) else if sz R b ≤ sz R m then 0 else 1) (nH R) := by
    refine su_cg fun b _ => ?_
    simp only [Int32.le_iff_toInt_le, Int32.lt_iff_toInt_lt, ← Int32.toInt_inj]
    (repeat' split) <;> first | rfl | omega
  rw [e]
  have l : ∀ (f k : Nat), k ≤ nH R → nH R - k < f → (Wp (X3_rankOf_4 f (L 1) (some (L (20 + m))) (su (fun b => if sz R b = sz R m then (if m ≤ b then 0 else 1) else if sz R b ≤ sz R m then 0 else 1) k) (nv k)) a Q ↔ Q (su (fun b => if sz R b = sz R m then (if m ≤ b then 0 else 1) else if sz R b ≤ sz R m then 0 else 1) (nH R)) a) := by
    refine loopUp _ (nH R) ?_ ?_
    · intro f
      simp (disch := omega) only [X3_rankOf_4, ↓w_bd, ↓w_rt, ↓w_bh, sm_l, sm_r, ↓w_okr, ↓w_nm, ↓w_ite, ↓reduceIte, not_true_eq_false, not_false_eq_true, and_true, true_and, and_self, Option.some.injEq, reduceCtorEq, eq_self, ↓w_rc, ↓w_gI, ↓w_gR, ↓w_aN, ↓w_aI, ↓w_aR, ↓w_aL, ↓w_pI, ↓w_pR, ↓w_sI, ↓w_sR, ↓w_sL, ↓w_nO, ↓w_nA, ↓w_nL, ↓w_ca, ↓w_ca0, ↓w_gS, ↓w_gK, ↓w_dv, ↓w_tw, ↓w_rz, ↓w_no, nv_lit, nv_f, nv_add, nv_mul, nv_sub, nv_le, nv_lt, nv_eq, nv_cl, Nat.reduceMod, Nat.reduceMul, Nat.reduceAdd, Nat.zero_add, Nat.add_zero, Nat.mul_zero, decide_eq_true_eq, nv_inT, mk_k hM, mk_n hM, mk_r hM, mk_i hM, Nat.le_refl]
    · intro f k hk2 ih
      rw [su] at ih
      have c0 := cm_0 (nv k) (nv m)
      have c1 := cm_0 (sz R m) (sz R k)
      rw [nv_le (by omega) (by omega)] at c0
      simp (disch := omega) only [X3_rankOf_4, X3_rankOf_32, ↓w_bd, ↓w_rt, ↓w_bh, sm_l, sm_r, ↓w_okr, ↓w_nm, ↓w_ite, ↓reduceIte, not_true_eq_false, not_false_eq_true, and_true, true_and, and_self, Option.some.injEq, reduceCtorEq, eq_self, ↓w_rc, ↓w_gI, ↓w_gR, ↓w_aN, ↓w_aI, ↓w_aR, ↓w_aL, ↓w_pI, ↓w_pR, ↓w_sI, ↓w_sR, ↓w_sL, ↓w_nO, ↓w_nA, ↓w_nL, ↓w_ca, ↓w_ca0, ↓w_gS, ↓w_gK, ↓w_dv, ↓w_tw, ↓w_rz, ↓w_no, nv_lit, nv_f, nv_add, nv_mul, nv_sub, nv_le, nv_lt, nv_eq, nv_cl, Nat.reduceMod, Nat.reduceMul, Nat.reduceAdd, Nat.zero_add, Nat.add_zero, Nat.mul_zero, decide_eq_true_eq, nv_inT, mk_k hM, mk_n hM, mk_r hM, mk_i hM, X3_at_h hM, IF_cmp_w hM, Nat.not_le.mpr hk2, X5_one_0, X5_one_1, X1_bit_0, X1_bit_1, ite_not]
      by_cases g1 : sz R k = sz R m
      · rw [if_pos g1] at ih ⊢
        by_cases g2 : m ≤ k
        · rw [if_pos g2] at ih
          rw [if_pos (show nv 0 ≤ cm (nv k) (nv m) from by rw [show nv 0 = 0 from rfl, c0]; exact g2)]
          exact ih
        · rw [if_neg g2] at ih
          rw [if_neg (show ¬ nv 0 ≤ cm (nv k) (nv m) from by rw [show nv 0 = 0 from rfl, c0]; exact g2)]
          exact ih
      · rw [if_neg g1] at ih ⊢
        by_cases g2 : sz R k ≤ sz R m
        · rw [if_pos g2] at ih
          rw [if_pos (show nv 0 ≤ cm (sz R m) (sz R k) from by rw [show nv 0 = 0 from rfl, c1]; exact g2)]
          exact ih
        · rw [if_neg g2] at ih
          rw [if_neg (show ¬ nv 0 ≤ cm (sz R m) (sz R k) from by rw [show nv 0 = 0 from rfl, c1]; exact g2)]
          exact ih
  exact l FU 0 (by omega) (by unfold FU; omega)
theorem X3_ranked_w {B : Nat → Nat × Nat} {a : Hp} {L : Nat → Nat} {R : Nat → Int32} (hM : Mk B a L R) (v : Int32) (Q : Option Nat → Hp → Prop) : Wp (X3_ranked (L 1) v) a Q ↔ Q ((rkd R v).map (fun k => L (20 + k))) a := by
  have h10 := (mk_w hM).2.1.2
  have l : ∀ (f k : Nat), k ≤ nH R → nH R - k < f → (Wp (X3_ranked_2 f (L 1) v (nv k)) a Q ↔ Q ((ff (fun a => decide (rnk R a = v)) k (nH R - k)).map (fun k => L (20 + k))) a) := by
    refine loopUp _ (nH R) ?_ ?_
    · intro f
      simp (disch := omega) only [X3_ranked_2, ↓w_bd, ↓w_rt, ↓w_bh, sm_l, sm_r, ↓w_okr, ↓w_nm, ↓w_ite, ↓reduceIte, not_true_eq_false, not_false_eq_true, and_true, true_and, and_self, Option.some.injEq, reduceCtorEq, eq_self, ↓w_rc, ↓w_gI, ↓w_gR, ↓w_aN, ↓w_aI, ↓w_aR, ↓w_aL, ↓w_pI, ↓w_pR, ↓w_sI, ↓w_sR, ↓w_sL, ↓w_nO, ↓w_nA, ↓w_nL, ↓w_ca, ↓w_ca0, ↓w_gS, ↓w_gK, ↓w_dv, ↓w_tw, ↓w_rz, ↓w_no, nv_lit, nv_f, nv_add, nv_mul, nv_sub, nv_le, nv_lt, nv_eq, nv_cl, Nat.reduceMod, Nat.reduceMul, Nat.reduceAdd, Nat.zero_add, Nat.add_zero, Nat.mul_zero, decide_eq_true_eq, nv_inT, mk_k hM, mk_n hM, mk_r hM, mk_i hM, Nat.le_refl, Nat.sub_self, ff, Option.map_none]
    · intro f k hk2 ih
      simp (disch := omega) only [X3_ranked_2, ↓w_bd, ↓w_rt, ↓w_bh, sm_l, sm_r, ↓w_okr, ↓w_nm, ↓w_ite, ↓reduceIte, not_true_eq_false, not_false_eq_true, and_true, true_and, and_self, Option.some.injEq, reduceCtorEq, eq_self, ↓w_rc, ↓w_gI, ↓w_gR, ↓w_aN, ↓w_aI, ↓w_aR, ↓w_aL, ↓w_pI, ↓w_pR, ↓w_sI, ↓w_sR, ↓w_sL, ↓w_nO, ↓w_nA, ↓w_nL, ↓w_ca, ↓w_ca0, ↓w_gS, ↓w_gK, ↓w_dv, ↓w_tw, ↓w_rz, ↓w_no, nv_lit, nv_f, nv_add, nv_mul, nv_sub, nv_le, nv_lt, nv_eq, nv_cl, Nat.reduceMod, Nat.reduceMul, Nat.reduceAdd, Nat.zero_add, Nat.add_zero, Nat.mul_zero, decide_eq_true_eq, nv_inT, mk_k hM, mk_n hM, mk_r hM, mk_i hM, Nat.not_le.mpr hk2, X3_at_h hM, X3_rankOf_w hM, ih]
      rw [show nH R - k = (nH R - (k + 1)) + 1 by omega]
      by_cases c : rnk R k = v
      · simp only [ff, c, decide_true, ↓reduceIte, not_true_eq_false, Option.map_some]
      · simp only [ff, c, decide_false, ↓reduceIte, not_false_eq_true, Bool.false_eq_true]
  exact l FU 0 (by omega) (by unfold FU; omega)
/-! lambdas over shelves: what a lambda tells of each -/
theorem X1_countOf_c {B : Nat → Nat × Nat} {a : Hp} {L : Nat → Nat} {R : Nat → Int32} (hM : Mk B a L R) {q : Nat} {g : Nat → Int32} (hq : ∀ c, c < nC R → ∀ Q : Int32 → Hp → Prop, Wp (IF_fits (some q) (some (L (40 + c)))) a Q ↔ Q (g c) a) (hg : ∀ c, c < nC R → g c = nv 0 ∨ g c = nv 1) (Q : Int32 → Hp → Prop) : Wp (X1_countOf (some (L 2)) (some q)) a Q ↔ Q (su g (nC R)) a := by
  have h20 := (mk_w hM).2.2.1.2
  have l : ∀ (f k : Nat), k ≤ nC R → nC R - k < f → (Wp (X1_countOf_4 f (some (L 2)) (some q) (su g k) (nv k)) a Q ↔ Q (su g (nC R)) a) := by
    refine loopUp _ (nC R) ?_ ?_
    · intro f
      simp (disch := omega) only [X1_countOf_4, ↓w_bd, ↓w_rt, ↓w_bh, sm_l, sm_r, ↓w_okr, ↓w_nm, ↓w_ite, ↓reduceIte, not_true_eq_false, not_false_eq_true, and_true, true_and, and_self, Option.some.injEq, reduceCtorEq, eq_self, ↓w_rc, ↓w_gI, ↓w_gR, ↓w_aN, ↓w_aI, ↓w_aR, ↓w_aL, ↓w_pI, ↓w_pR, ↓w_sI, ↓w_sR, ↓w_sL, ↓w_nO, ↓w_nA, ↓w_nL, ↓w_ca, ↓w_ca0, ↓w_gS, ↓w_gK, ↓w_dv, ↓w_tw, ↓w_rz, ↓w_no, nv_lit, nv_f, nv_add, nv_mul, nv_sub, nv_le, nv_lt, nv_eq, nv_cl, Nat.reduceMod, Nat.reduceMul, Nat.reduceAdd, Nat.zero_add, Nat.add_zero, Nat.mul_zero, decide_eq_true_eq, nv_inT, mk_k hM, mk_n hM, mk_r hM, mk_i hM, Nat.le_refl]
    · intro f k hk2 ih
      rw [su] at ih
      rcases hg k hk2 with e | e
      · rw [e] at ih
        simp (disch := omega) only [X1_countOf_4, ↓w_bd, ↓w_rt, ↓w_bh, sm_l, sm_r, ↓w_okr, ↓w_nm, ↓w_ite, ↓reduceIte, not_true_eq_false, not_false_eq_true, and_true, true_and, and_self, Option.some.injEq, reduceCtorEq, eq_self, ↓w_rc, ↓w_gI, ↓w_gR, ↓w_aN, ↓w_aI, ↓w_aR, ↓w_aL, ↓w_pI, ↓w_pR, ↓w_sI, ↓w_sR, ↓w_sL, ↓w_nO, ↓w_nA, ↓w_nL, ↓w_ca, ↓w_ca0, ↓w_gS, ↓w_gK, ↓w_dv, ↓w_tw, ↓w_rz, ↓w_no, nv_lit, nv_f, nv_add, nv_mul, nv_sub, nv_le, nv_lt, nv_eq, nv_cl, Nat.reduceMod, Nat.reduceMul, Nat.reduceAdd, Nat.zero_add, Nat.add_zero, Nat.mul_zero, decide_eq_true_eq, nv_inT, mk_k hM, mk_n hM, mk_r hM, mk_i hM, Nat.not_le.mpr hk2, X3_at_c hM, hq, e, X5_one_0, X5_one_1, X1_bit_0, X1_bit_1, ite_not, ih]
      · rw [e] at ih
        simp (disch := omega) only [X1_countOf_4, ↓w_bd, ↓w_rt, ↓w_bh, sm_l, sm_r, ↓w_okr, ↓w_nm, ↓w_ite, ↓reduceIte, not_true_eq_false, not_false_eq_true, and_true, true_and, and_self, Option.some.injEq, reduceCtorEq, eq_self, ↓w_rc, ↓w_gI, ↓w_gR, ↓w_aN, ↓w_aI, ↓w_aR, ↓w_aL, ↓w_pI, ↓w_pR, ↓w_sI, ↓w_sR, ↓w_sL, ↓w_nO, ↓w_nA, ↓w_nL, ↓w_ca, ↓w_ca0, ↓w_gS, ↓w_gK, ↓w_dv, ↓w_tw, ↓w_rz, ↓w_no, nv_lit, nv_f, nv_add, nv_mul, nv_sub, nv_le, nv_lt, nv_eq, nv_cl, Nat.reduceMod, Nat.reduceMul, Nat.reduceAdd, Nat.zero_add, Nat.add_zero, Nat.mul_zero, decide_eq_true_eq, nv_inT, mk_k hM, mk_n hM, mk_r hM, mk_i hM, Nat.not_le.mpr hk2, X3_at_c hM, hq, e, X5_one_0, X5_one_1, X1_bit_0, X1_bit_1, ite_not, ih]
  exact l FU 0 (by omega) (by unfold FU; omega)
theorem X1_countOf_h {B : Nat → Nat × Nat} {a : Hp} {L : Nat → Nat} {R : Nat → Int32} (hM : Mk B a L R) {q : Nat} {g : Nat → Int32} (hq : ∀ c, c < nH R → ∀ Q : Int32 → Hp → Prop, Wp (IF_fits (some q) (some (L (20 + c)))) a Q ↔ Q (g c) a) (hg : ∀ c, c < nH R → g c = nv 0 ∨ g c = nv 1) (Q : Int32 → Hp → Prop) : Wp (X1_countOf (some (L 1)) (some q)) a Q ↔ Q (su g (nH R)) a := by
  have h20 := (mk_w hM).2.1.2
  have l : ∀ (f k : Nat), k ≤ nH R → nH R - k < f → (Wp (X1_countOf_4 f (some (L 1)) (some q) (su g k) (nv k)) a Q ↔ Q (su g (nH R)) a) := by
    refine loopUp _ (nH R) ?_ ?_
    · intro f
      simp (disch := omega) only [X1_countOf_4, ↓w_bd, ↓w_rt, ↓w_bh, sm_l, sm_r, ↓w_okr, ↓w_nm, ↓w_ite, ↓reduceIte, not_true_eq_false, not_false_eq_true, and_true, true_and, and_self, Option.some.injEq, reduceCtorEq, eq_self, ↓w_rc, ↓w_gI, ↓w_gR, ↓w_aN, ↓w_aI, ↓w_aR, ↓w_aL, ↓w_pI, ↓w_pR, ↓w_sI, ↓w_sR, ↓w_sL, ↓w_nO, ↓w_nA, ↓w_nL, ↓w_ca, ↓w_ca0, ↓w_gS, ↓w_gK, ↓w_dv, ↓w_tw, ↓w_rz, ↓w_no, nv_lit, nv_f, nv_add, nv_mul, nv_sub, nv_le, nv_lt, nv_eq, nv_cl, Nat.reduceMod, Nat.reduceMul, Nat.reduceAdd, Nat.zero_add, Nat.add_zero, Nat.mul_zero, decide_eq_true_eq, nv_inT, mk_k hM, mk_n hM, mk_r hM, mk_i hM, Nat.le_refl]
    · intro f k hk2 ih
      rw [su] at ih
      rcases hg k hk2 with e | e
      · rw [e] at ih
        simp (disch := omega) only [X1_countOf_4, ↓w_bd, ↓w_rt, ↓w_bh, sm_l, sm_r, ↓w_okr, ↓w_nm, ↓w_ite, ↓reduceIte, not_true_eq_false, not_false_eq_true, and_true, true_and, and_self, Option.some.injEq, reduceCtorEq, eq_self, ↓w_rc, ↓w_gI, ↓w_gR, ↓w_aN, ↓w_aI, ↓w_aR, ↓w_aL, ↓w_pI, ↓w_pR, ↓w_sI, ↓w_sR, ↓w_sL, ↓w_nO, ↓w_nA, ↓w_nL, ↓w_ca, ↓w_ca0, ↓w_gS, ↓w_gK, ↓w_dv, ↓w_tw, ↓w_rz, ↓w_no, nv_lit, nv_f, nv_add, nv_mul, nv_sub, nv_le, nv_lt, nv_eq, nv_cl, Nat.reduceMod, Nat.reduceMul, Nat.reduceAdd, Nat.zero_add, Nat.add_zero, Nat.mul_zero, decide_eq_true_eq, nv_inT, mk_k hM, mk_n hM, mk_r hM, mk_i hM, Nat.not_le.mpr hk2, X3_at_h hM, hq, e, X5_one_0, X5_one_1, X1_bit_0, X1_bit_1, ite_not, ih]
      · rw [e] at ih
        simp (disch := omega) only [X1_countOf_4, ↓w_bd, ↓w_rt, ↓w_bh, sm_l, sm_r, ↓w_okr, ↓w_nm, ↓w_ite, ↓reduceIte, not_true_eq_false, not_false_eq_true, and_true, true_and, and_self, Option.some.injEq, reduceCtorEq, eq_self, ↓w_rc, ↓w_gI, ↓w_gR, ↓w_aN, ↓w_aI, ↓w_aR, ↓w_aL, ↓w_pI, ↓w_pR, ↓w_sI, ↓w_sR, ↓w_sL, ↓w_nO, ↓w_nA, ↓w_nL, ↓w_ca, ↓w_ca0, ↓w_gS, ↓w_gK, ↓w_dv, ↓w_tw, ↓w_rz, ↓w_no, nv_lit, nv_f, nv_add, nv_mul, nv_sub, nv_le, nv_lt, nv_eq, nv_cl, Nat.reduceMod, Nat.reduceMul, Nat.reduceAdd, Nat.zero_add, Nat.add_zero, Nat.mul_zero, decide_eq_true_eq, nv_inT, mk_k hM, mk_n hM, mk_r hM, mk_i hM, Nat.not_le.mpr hk2, X3_at_h hM, hq, e, X5_one_0, X5_one_1, X1_bit_0, X1_bit_1, ite_not, ih]
  exact l FU 0 (by omega) (by unfold FU; omega)
theorem X1_sumOf_c {B : Nat → Nat × Nat} {a : Hp} {L : Nat → Nat} {R : Nat → Int32} (hM : Mk B a L R) {q : Nat} {g : Nat → Int32} (hq : ∀ c, c < nC R → ∀ Q : Int32 → Hp → Prop, Wp (IF_of (some q) (some (L (40 + c)))) a Q ↔ Q (g c) a) (Q : Int32 → Hp → Prop) : Wp (X1_sumOf (some (L 2)) (some q)) a Q ↔ Q (su g (nC R)) a := by
  have h20 := (mk_w hM).2.2.1.2
  have l : ∀ (f k : Nat), k ≤ nC R → nC R - k < f → (Wp (X1_sumOf_4 f (some (L 2)) (some q) (su g k) (nv k)) a Q ↔ Q (su g (nC R)) a) := by
    refine loopUp _ (nC R) ?_ ?_
    · intro f
      simp (disch := omega) only [X1_sumOf_4, ↓w_bd, ↓w_rt, ↓w_bh, sm_l, sm_r, ↓w_okr, ↓w_nm, ↓w_ite, ↓reduceIte, not_true_eq_false, not_false_eq_true, and_true, true_and, and_self, Option.some.injEq, reduceCtorEq, eq_self, ↓w_rc, ↓w_gI, ↓w_gR, ↓w_aN, ↓w_aI, ↓w_aR, ↓w_aL, ↓w_pI, ↓w_pR, ↓w_sI, ↓w_sR, ↓w_sL, ↓w_nO, ↓w_nA, ↓w_nL, ↓w_ca, ↓w_ca0, ↓w_gS, ↓w_gK, ↓w_dv, ↓w_tw, ↓w_rz, ↓w_no, nv_lit, nv_f, nv_add, nv_mul, nv_sub, nv_le, nv_lt, nv_eq, nv_cl, Nat.reduceMod, Nat.reduceMul, Nat.reduceAdd, Nat.zero_add, Nat.add_zero, Nat.mul_zero, decide_eq_true_eq, nv_inT, mk_k hM, mk_n hM, mk_r hM, mk_i hM, Nat.le_refl]
    · intro f k hk2 ih
      rw [su] at ih
      simp (disch := omega) only [X1_sumOf_4, ↓w_bd, ↓w_rt, ↓w_bh, sm_l, sm_r, ↓w_okr, ↓w_nm, ↓w_ite, ↓reduceIte, not_true_eq_false, not_false_eq_true, and_true, true_and, and_self, Option.some.injEq, reduceCtorEq, eq_self, ↓w_rc, ↓w_gI, ↓w_gR, ↓w_aN, ↓w_aI, ↓w_aR, ↓w_aL, ↓w_pI, ↓w_pR, ↓w_sI, ↓w_sR, ↓w_sL, ↓w_nO, ↓w_nA, ↓w_nL, ↓w_ca, ↓w_ca0, ↓w_gS, ↓w_gK, ↓w_dv, ↓w_tw, ↓w_rz, ↓w_no, nv_lit, nv_f, nv_add, nv_mul, nv_sub, nv_le, nv_lt, nv_eq, nv_cl, Nat.reduceMod, Nat.reduceMul, Nat.reduceAdd, Nat.zero_add, Nat.add_zero, Nat.mul_zero, decide_eq_true_eq, nv_inT, mk_k hM, mk_n hM, mk_r hM, mk_i hM, Nat.not_le.mpr hk2, X3_at_c hM, hq, ih]
  exact l FU 0 (by omega) (by unfold FU; omega)
theorem X1_sumOf_h {B : Nat → Nat × Nat} {a : Hp} {L : Nat → Nat} {R : Nat → Int32} (hM : Mk B a L R) {q : Nat} {g : Nat → Int32} (hq : ∀ c, c < nH R → ∀ Q : Int32 → Hp → Prop, Wp (IF_of (some q) (some (L (20 + c)))) a Q ↔ Q (g c) a) (Q : Int32 → Hp → Prop) : Wp (X1_sumOf (some (L 1)) (some q)) a Q ↔ Q (su g (nH R)) a := by
  have h20 := (mk_w hM).2.1.2
  have l : ∀ (f k : Nat), k ≤ nH R → nH R - k < f → (Wp (X1_sumOf_4 f (some (L 1)) (some q) (su g k) (nv k)) a Q ↔ Q (su g (nH R)) a) := by
    refine loopUp _ (nH R) ?_ ?_
    · intro f
      simp (disch := omega) only [X1_sumOf_4, ↓w_bd, ↓w_rt, ↓w_bh, sm_l, sm_r, ↓w_okr, ↓w_nm, ↓w_ite, ↓reduceIte, not_true_eq_false, not_false_eq_true, and_true, true_and, and_self, Option.some.injEq, reduceCtorEq, eq_self, ↓w_rc, ↓w_gI, ↓w_gR, ↓w_aN, ↓w_aI, ↓w_aR, ↓w_aL, ↓w_pI, ↓w_pR, ↓w_sI, ↓w_sR, ↓w_sL, ↓w_nO, ↓w_nA, ↓w_nL, ↓w_ca, ↓w_ca0, ↓w_gS, ↓w_gK, ↓w_dv, ↓w_tw, ↓w_rz, ↓w_no, nv_lit, nv_f, nv_add, nv_mul, nv_sub, nv_le, nv_lt, nv_eq, nv_cl, Nat.reduceMod, Nat.reduceMul, Nat.reduceAdd, Nat.zero_add, Nat.add_zero, Nat.mul_zero, decide_eq_true_eq, nv_inT, mk_k hM, mk_n hM, mk_r hM, mk_i hM, Nat.le_refl]
    · intro f k hk2 ih
      rw [su] at ih
      simp (disch := omega) only [X1_sumOf_4, ↓w_bd, ↓w_rt, ↓w_bh, sm_l, sm_r, ↓w_okr, ↓w_nm, ↓w_ite, ↓reduceIte, not_true_eq_false, not_false_eq_true, and_true, true_and, and_self, Option.some.injEq, reduceCtorEq, eq_self, ↓w_rc, ↓w_gI, ↓w_gR, ↓w_aN, ↓w_aI, ↓w_aR, ↓w_aL, ↓w_pI, ↓w_pR, ↓w_sI, ↓w_sR, ↓w_sL, ↓w_nO, ↓w_nA, ↓w_nL, ↓w_ca, ↓w_ca0, ↓w_gS, ↓w_gK, ↓w_dv, ↓w_tw, ↓w_rz, ↓w_no, nv_lit, nv_f, nv_add, nv_mul, nv_sub, nv_le, nv_lt, nv_eq, nv_cl, Nat.reduceMod, Nat.reduceMul, Nat.reduceAdd, Nat.zero_add, Nat.add_zero, Nat.mul_zero, decide_eq_true_eq, nv_inT, mk_k hM, mk_n hM, mk_r hM, mk_i hM, Nat.not_le.mpr hk2, X3_at_h hM, hq, ih]
  exact l FU 0 (by omega) (by unfold FU; omega)
