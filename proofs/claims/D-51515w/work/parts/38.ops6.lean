theorem post_e {G : Nat → Nat} {B : Nat → Nat × Nat} {S : Gst} {a b1 c : Hp} {x : Int32} (hC : JC G B S a) (hT : JT G S a) (hE : E0 a b1) (hz : hSz b1 ≤ hSz a + 50000) (hl : hSl b1 ≤ hSl a + 228000) (hc : Sx G (th G b1 x) c) : After G a c := after hC hT hE hz hl (.inl rfl) hc
theorem WS.tr {a0 a : Hp} {s n z w : Nat} {b : Hp} {D : Nat → Nat → Int32} (h : E0 a0 a) (g : WS a s n z w b D) : E0 a0 b := h.tr g.1
theorem X5_known_1 {G : Nat → Nat} {a : Hp} {o : Nat} {R : Nat → Int32} (hF : FO G a o R) (hG : GD G) (hS : Sh R) (hFs : Fs R) {x y : Nat} (hx : x < nH R) (hy : y < nH R) (Q : Int32 → Hp → Prop) (h : ∀ b, Sx G (th G a (nv 0)) b → Q (kn R x y) b) : Wp (X5_known (G 10) (nv x) (nv y)) a Q := by
  have hF0 := hF.th hG (nv 0)
  have t5 := th_5 G a (nv 0)
  have h10 := sh_H10 hS
  have h20 := sh_C20 hS
  have h4 := sh_T4 hS
  simp (disch := omega) only [X5_known, X5_known_26, X5_known_27, X5_known_44, ↓w_bd, ↓w_rt, ↓w_bh, sm_l, sm_r, ↓w_okr, ↓w_nm, ↓w_ite, ↓reduceIte, not_true_eq_false, not_false_eq_true, and_true, true_and, and_self, Option.some.injEq, reduceCtorEq, eq_self, ↓w_rc, ↓w_gI, ↓w_gR, ↓w_aN, ↓w_aI, ↓w_aR, ↓w_aL, ↓w_pI, ↓w_pR, ↓w_sI, ↓w_sR, ↓w_sL, ↓w_nO, ↓w_nA, ↓w_nL, ↓w_ca, ↓w_ca0, ↓w_gS, ↓w_gK, ↓w_dv, ↓w_tw, ↓w_rz, ↓w_no, nv_lit, nv_f, nv_add, nv_mul, nv_sub, nv_le, nv_lt, nv_eq, nv_cl, Nat.reduceMod, Nat.reduceMul, Nat.reduceAdd, Nat.zero_add, Nat.add_zero, Nat.mul_zero, decide_eq_true_eq, nv_inT, th_f, th_K, th_N, th_R, th_5, th_2, okn0, Nat.reduceEqDiff, hF.1, hF0.1, X5_in_w, X5_holds_1 hF0.1.1.1 t5 n10, X5_holds_0 hF0.1.1.1 t5, X5_isHeap_1 hF0 hS (inr_nv hx (by omega)), X5_isHeap_1 hF0 hS (inr_nv hy (by omega)), n10]
  exact X5_knownOf_w hF0 hG hS hFs hx hy _ h
theorem X5_known_0 {G : Nat → Nat} {a : Hp} {o : Nat} {R : Nat → Int32} (hF : FO G a o R) (hG : GD G) (hS : Sh R) {v w : Int32} (h : ¬ (inr v (nH R) ∧ inr w (nH R))) (Q : Int32 → Hp → Prop) : Wp (X5_known (G 10) v w) a Q ↔ Q (nv 0) (th G a (nv 1)) := by
  have hF0 := hF.th hG (nv 0)
  have t5 := th_5 G a (nv 0)
  rcases tw2 hF hS h with ⟨h1, h2⟩ | h1
  · simp (disch := omega) only [X5_known, X5_known_26, X5_known_27, X5_known_44, ↓w_bd, ↓w_rt, ↓w_bh, sm_l, sm_r, ↓w_okr, ↓w_nm, ↓w_ite, ↓reduceIte, not_true_eq_false, not_false_eq_true, and_true, true_and, and_self, Option.some.injEq, reduceCtorEq, eq_self, ↓w_rc, ↓w_gI, ↓w_gR, ↓w_aN, ↓w_aI, ↓w_aR, ↓w_aL, ↓w_pI, ↓w_pR, ↓w_sI, ↓w_sR, ↓w_sL, ↓w_nO, ↓w_nA, ↓w_nL, ↓w_ca, ↓w_ca0, ↓w_gS, ↓w_gK, ↓w_dv, ↓w_tw, ↓w_rz, ↓w_no, nv_lit, nv_f, nv_add, nv_mul, nv_sub, nv_le, nv_lt, nv_eq, nv_cl, Nat.reduceMod, Nat.reduceMul, Nat.reduceAdd, Nat.zero_add, Nat.add_zero, Nat.mul_zero, decide_eq_true_eq, nv_inT, th_f, th_K, th_N, th_R, th_5, th_2, okn0, Nat.reduceEqDiff, hF.1, hF0.1, X5_in_w, X5_holds_1 hF0.1.1.1 t5 n10, X5_holds_0 hF0.1.1.1 t5, X5_isHeap_1 hF0 hS h1, X5_isHeap_0 hF0 hS h2]
  · simp (disch := omega) only [X5_known, X5_known_26, X5_known_27, X5_known_44, ↓w_bd, ↓w_rt, ↓w_bh, sm_l, sm_r, ↓w_okr, ↓w_nm, ↓w_ite, ↓reduceIte, not_true_eq_false, not_false_eq_true, and_true, true_and, and_self, Option.some.injEq, reduceCtorEq, eq_self, ↓w_rc, ↓w_gI, ↓w_gR, ↓w_aN, ↓w_aI, ↓w_aR, ↓w_aL, ↓w_pI, ↓w_pR, ↓w_sI, ↓w_sR, ↓w_sL, ↓w_nO, ↓w_nA, ↓w_nL, ↓w_ca, ↓w_ca0, ↓w_gS, ↓w_gK, ↓w_dv, ↓w_tw, ↓w_rz, ↓w_no, nv_lit, nv_f, nv_add, nv_mul, nv_sub, nv_le, nv_lt, nv_eq, nv_cl, Nat.reduceMod, Nat.reduceMul, Nat.reduceAdd, Nat.zero_add, Nat.add_zero, Nat.mul_zero, decide_eq_true_eq, nv_inT, th_f, th_K, th_N, th_R, th_5, th_2, okn0, Nat.reduceEqDiff, hF.1, hF0.1, X5_in_w, X5_holds_1 hF0.1.1.1 t5 n10, X5_holds_0 hF0.1.1.1 t5, X5_isHeap_0 hF0 hS h1]
theorem op_known {G : Nat → Nat} {B : Nat → Nat × Nat} {S : Gst} {a : Hp} (hC : JC G B S a) (hT : JT G S a) (v w : Int32) : OpL G a (X0_known (some (G 0)) v w (some (G 20))) (X5_known (G 10) v w) := by
  obtain ⟨L, R, hM0, hR, hX0, hF, -⟩ := start hC hT
  have hG := hC.1.gd
  have hS := hR.1
  have hFs := hR.2.1
  have hs : ∀ i, i < 22 → G i < hSz a := fun i hi => (hC.1 i hi).1
  have h10 := sh_H10 hS
  have h2 := sh_H2 hS
  have hX := hX0.ext (va2_e a v w)
  have hM := hM0.ext (va2_e a v w) (fun _ _ => rfl)
  have hJ := (hC.e0 (va2_e a v w)).2.1
  by_cases h : inr v (nH R) ∧ inr w (nH R)
  · obtain ⟨x, rfl, hx⟩ := inr_k h.1
    obtain ⟨y, rfl, hy⟩ := inr_k h.2
    simp (disch := omega) only [X0_known, X1_known, OpL, ↓w_bd, ↓w_rt, ↓w_bh, sm_l, sm_r, ↓w_okr, ↓w_nm, ↓w_ite, ↓reduceIte, not_true_eq_false, not_false_eq_true, and_true, true_and, and_self, Option.some.injEq, reduceCtorEq, eq_self, ↓w_rc, ↓w_gI, ↓w_gR, ↓w_aN, ↓w_aI, ↓w_aR, ↓w_aL, ↓w_pI, ↓w_pR, ↓w_sI, ↓w_sR, ↓w_sL, ↓w_nO, ↓w_nA, ↓w_nL, ↓w_ca, ↓w_ca0, ↓w_gS, ↓w_gK, ↓w_dv, ↓w_tw, ↓w_rz, ↓w_no, nv_lit, nv_f, nv_add, nv_mul, nv_sub, nv_le, nv_lt, nv_eq, nv_cl, Nat.reduceMod, Nat.reduceMul, Nat.reduceAdd, Nat.zero_add, Nat.add_zero, Nat.mul_zero, decide_eq_true_eq, nv_inT, mk_k hM, mk_n hM, mk_r hM, mk_i hM, hX, hJ, ol_f, X1_isBetween_w, X1_requireArgument_1 n10, X1_requireArgument_0, X1_requireIndex_1 n10, X1_requireIndex_0, Nat.reduceEqDiff, hX0, va1_f, va2_f, hK_new, hN_new, hK_wI, hN_wI, up1_s, Nat.reduceLeDiff, Nat.not_lt_zero, X1_requireHeaps_11 hM hX h.1 h.2 (va2_q a _ _)]
    refine X2_ways_w hM hFs _ fun b D hD hW => ?_
    have hE := (va2_e a (nv x) (nv y)).tr hW.1
    have hJb := (hC.e0 hE).2.1
    have hmul := Nat.mul_le_mul h10 h10
    simp (disch := omega) only [↓w_bd, ↓w_rt, ↓w_bh, sm_l, sm_r, ↓w_okr, ↓w_nm, ↓w_ite, ↓reduceIte, not_true_eq_false, not_false_eq_true, and_true, true_and, and_self, Option.some.injEq, reduceCtorEq, eq_self, ↓w_rc, ↓w_gI, ↓w_gR, ↓w_aN, ↓w_aI, ↓w_aR, ↓w_aL, ↓w_pI, ↓w_pR, ↓w_sI, ↓w_sR, ↓w_sL, ↓w_nO, ↓w_nA, ↓w_nL, ↓w_ca, ↓w_ca0, ↓w_gS, ↓w_gK, ↓w_dv, ↓w_tw, ↓w_rz, ↓w_no, nv_lit, nv_f, nv_add, nv_mul, nv_sub, nv_le, nv_lt, nv_eq, nv_cl, Nat.reduceMod, Nat.reduceMul, Nat.reduceAdd, Nat.zero_add, Nat.add_zero, Nat.mul_zero, decide_eq_true_eq, nv_inT, hW.2.2.2.r, X9_known_w hFs h10 hD hW.2.2.2, hJb, ol_f]
    refine X5_known_1 ((hF.e0 hE hs).ol _) hG hS hFs hx hy _ fun c hc => ?_
    exact post_s hC hT hE (by rw [hW.2.1, va2_z]; omega) (by rw [hW.2.2.1, va2_l]; omega) hc
  · simp (disch := omega) only [X0_known, X1_known, OpL, ↓w_bd, ↓w_rt, ↓w_bh, sm_l, sm_r, ↓w_okr, ↓w_nm, ↓w_ite, ↓reduceIte, not_true_eq_false, not_false_eq_true, and_true, true_and, and_self, Option.some.injEq, reduceCtorEq, eq_self, ↓w_rc, ↓w_gI, ↓w_gR, ↓w_aN, ↓w_aI, ↓w_aR, ↓w_aL, ↓w_pI, ↓w_pR, ↓w_sI, ↓w_sR, ↓w_sL, ↓w_nO, ↓w_nA, ↓w_nL, ↓w_ca, ↓w_ca0, ↓w_gS, ↓w_gK, ↓w_dv, ↓w_tw, ↓w_rz, ↓w_no, nv_lit, nv_f, nv_add, nv_mul, nv_sub, nv_le, nv_lt, nv_eq, nv_cl, Nat.reduceMod, Nat.reduceMul, Nat.reduceAdd, Nat.zero_add, Nat.add_zero, Nat.mul_zero, decide_eq_true_eq, nv_inT, mk_k hM, mk_n hM, mk_r hM, mk_i hM, hX, hJ, ol_f, X1_isBetween_w, X1_requireArgument_1 n10, X1_requireArgument_0, X1_requireIndex_1 n10, X1_requireIndex_0, Nat.reduceEqDiff, hX0, va1_f, va2_f, hK_new, hN_new, hK_wI, hN_wI, up1_s, Nat.reduceLeDiff, Nat.not_lt_zero, X1_requireHeaps_0 hM hX (by omega) h (va2_q a _ _), X5_known_0 (hF.e0 ((va2_e a v w).tr (tw_e _)) hs) hG hS h]
    exact post_x hC hT ((va2_e a v w).tr (tw_e (va2 a v w))) (by rw [tw_z, va2_z]; omega) (by rw [tw_l, va2_l]; omega) (by omega) (by omega) _
theorem X5_group_1 {G : Nat → Nat} {a : Hp} {o : Nat} {R : Nat → Int32} (hF : FO G a o R) (hG : GD G) (hS : Sh R) (hFs : Fs R) {x : Nat} (hx : x < nH R) (Q : Int32 → Hp → Prop) (h : ∀ b, Sx G (th G a (nv 0)) b → Q (nv (gp R x)) b) : Wp (X5_group (G 10) (nv x)) a Q := by
  have hF0 := hF.th hG (nv 0)
  have t5 := th_5 G a (nv 0)
  have h10 := sh_H10 hS
  have h20 := sh_C20 hS
  have h4 := sh_T4 hS
  simp (disch := omega) only [X5_group, X5_group_27, ↓w_bd, ↓w_rt, ↓w_bh, sm_l, sm_r, ↓w_okr, ↓w_nm, ↓w_ite, ↓reduceIte, not_true_eq_false, not_false_eq_true, and_true, true_and, and_self, Option.some.injEq, reduceCtorEq, eq_self, ↓w_rc, ↓w_gI, ↓w_gR, ↓w_aN, ↓w_aI, ↓w_aR, ↓w_aL, ↓w_pI, ↓w_pR, ↓w_sI, ↓w_sR, ↓w_sL, ↓w_nO, ↓w_nA, ↓w_nL, ↓w_ca, ↓w_ca0, ↓w_gS, ↓w_gK, ↓w_dv, ↓w_tw, ↓w_rz, ↓w_no, nv_lit, nv_f, nv_add, nv_mul, nv_sub, nv_le, nv_lt, nv_eq, nv_cl, Nat.reduceMod, Nat.reduceMul, Nat.reduceAdd, Nat.zero_add, Nat.add_zero, Nat.mul_zero, decide_eq_true_eq, nv_inT, th_f, th_K, th_N, th_R, th_5, th_2, okn0, Nat.reduceEqDiff, hF.1, hF0.1, X5_in_w, X5_holds_1 hF0.1.1.1 t5 n10, X5_holds_0 hF0.1.1.1 t5, X5_isHeap_1 hF0 hS (inr_nv hx (by omega)), n10]
  exact X5_groupOf_w hF0 hG hS hFs hx _ h
theorem X5_group_0 {G : Nat → Nat} {a : Hp} {o : Nat} {R : Nat → Int32} (hF : FO G a o R) (hG : GD G) (hS : Sh R) {v : Int32} (h : ¬ inr v (nH R)) (Q : Int32 → Hp → Prop) : Wp (X5_group (G 10) v) a Q ↔ Q (nv 0) (th G a (nv 1)) := by
  have hF0 := hF.th hG (nv 0)
  have t5 := th_5 G a (nv 0)
  have h10 := sh_H10 hS
  have h20 := sh_C20 hS
  have h4 := sh_T4 hS
  simp (disch := omega) only [X5_group, X5_group_27, ↓w_bd, ↓w_rt, ↓w_bh, sm_l, sm_r, ↓w_okr, ↓w_nm, ↓w_ite, ↓reduceIte, not_true_eq_false, not_false_eq_true, and_true, true_and, and_self, Option.some.injEq, reduceCtorEq, eq_self, ↓w_rc, ↓w_gI, ↓w_gR, ↓w_aN, ↓w_aI, ↓w_aR, ↓w_aL, ↓w_pI, ↓w_pR, ↓w_sI, ↓w_sR, ↓w_sL, ↓w_nO, ↓w_nA, ↓w_nL, ↓w_ca, ↓w_ca0, ↓w_gS, ↓w_gK, ↓w_dv, ↓w_tw, ↓w_rz, ↓w_no, nv_lit, nv_f, nv_add, nv_mul, nv_sub, nv_le, nv_lt, nv_eq, nv_cl, Nat.reduceMod, Nat.reduceMul, Nat.reduceAdd, Nat.zero_add, Nat.add_zero, Nat.mul_zero, decide_eq_true_eq, nv_inT, th_f, th_K, th_N, th_R, th_5, th_2, okn0, Nat.reduceEqDiff, hF.1, hF0.1, X5_in_w, X5_holds_1 hF0.1.1.1 t5 n10, X5_holds_0 hF0.1.1.1 t5, X5_isHeap_0 hF0 hS h]
theorem op_group {G : Nat → Nat} {B : Nat → Nat × Nat} {S : Gst} {a : Hp} (hC : JC G B S a) (hT : JT G S a) (v : Int32) : OpL G a (X0_group (some (G 0)) v (some (G 20))) (X5_group (G 10) v) := by
  obtain ⟨L, R, hM0, hR, hX0, hF, -⟩ := start hC hT
  have hG := hC.1.gd
  have hS := hR.1
  have hFs := hR.2.1
  have hs : ∀ i, i < 22 → G i < hSz a := fun i hi => (hC.1 i hi).1
  have h10 := sh_H10 hS
  have h2 := sh_H2 hS
  have hX := hX0.ext (va1_e a v)
  have hM := hM0.ext (va1_e a v) (fun _ _ => rfl)
  have hJ := (hC.e0 (va1_e a v)).2.1
  by_cases h : inr v (nH R)
  · obtain ⟨x, rfl, hx⟩ := inr_k h
    simp (disch := omega) only [X0_group, X1_group, OpL, ↓w_bd, ↓w_rt, ↓w_bh, sm_l, sm_r, ↓w_okr, ↓w_nm, ↓w_ite, ↓reduceIte, not_true_eq_false, not_false_eq_true, and_true, true_and, and_self, Option.some.injEq, reduceCtorEq, eq_self, ↓w_rc, ↓w_gI, ↓w_gR, ↓w_aN, ↓w_aI, ↓w_aR, ↓w_aL, ↓w_pI, ↓w_pR, ↓w_sI, ↓w_sR, ↓w_sL, ↓w_nO, ↓w_nA, ↓w_nL, ↓w_ca, ↓w_ca0, ↓w_gS, ↓w_gK, ↓w_dv, ↓w_tw, ↓w_rz, ↓w_no, nv_lit, nv_f, nv_add, nv_mul, nv_sub, nv_le, nv_lt, nv_eq, nv_cl, Nat.reduceMod, Nat.reduceMul, Nat.reduceAdd, Nat.zero_add, Nat.add_zero, Nat.mul_zero, decide_eq_true_eq, nv_inT, mk_k hM, mk_n hM, mk_r hM, mk_i hM, hX, hJ, ol_f, X1_isBetween_w, X1_requireArgument_1 n10, X1_requireArgument_0, X1_requireIndex_1 n10, X1_requireIndex_0, Nat.reduceEqDiff, hX0, va1_f, va2_f, hK_new, hN_new, hK_wI, hN_wI, up1_s, Nat.reduceLeDiff, Nat.not_lt_zero, X1_requireHeaps_1 hM hX h (va1_q a _)]
    refine X2_ways_w hM hFs _ fun b D hD hW => ?_
    have hE := (va1_e a (nv x)).tr hW.1
    have hJb := (hC.e0 hE).2.1
    have hmul := Nat.mul_le_mul h10 h10
    simp (disch := omega) only [↓w_bd, ↓w_rt, ↓w_bh, sm_l, sm_r, ↓w_okr, ↓w_nm, ↓w_ite, ↓reduceIte, not_true_eq_false, not_false_eq_true, and_true, true_and, and_self, Option.some.injEq, reduceCtorEq, eq_self, ↓w_rc, ↓w_gI, ↓w_gR, ↓w_aN, ↓w_aI, ↓w_aR, ↓w_aL, ↓w_pI, ↓w_pR, ↓w_sI, ↓w_sR, ↓w_sL, ↓w_nO, ↓w_nA, ↓w_nL, ↓w_ca, ↓w_ca0, ↓w_gS, ↓w_gK, ↓w_dv, ↓w_tw, ↓w_rz, ↓w_no, nv_lit, nv_f, nv_add, nv_mul, nv_sub, nv_le, nv_lt, nv_eq, nv_cl, Nat.reduceMod, Nat.reduceMul, Nat.reduceAdd, Nat.zero_add, Nat.add_zero, Nat.mul_zero, decide_eq_true_eq, nv_inT, X1_groupIn_w (hM.ext hW.1 (fun _ _ => rfl)) (hX.ext hW.1) hS hFs hD hW.2.2.2, hJb, ol_f]
    refine X5_group_1 ((hF.e0 hE hs).ol _) hG hS hFs hx _ fun c hc => ?_
    exact post_s hC hT hE (by rw [hW.2.1, va1_z]; omega) (by rw [hW.2.2.1, va1_l]; omega) hc
  · simp (disch := omega) only [X0_group, X1_group, OpL, ↓w_bd, ↓w_rt, ↓w_bh, sm_l, sm_r, ↓w_okr, ↓w_nm, ↓w_ite, ↓reduceIte, not_true_eq_false, not_false_eq_true, and_true, true_and, and_self, Option.some.injEq, reduceCtorEq, eq_self, ↓w_rc, ↓w_gI, ↓w_gR, ↓w_aN, ↓w_aI, ↓w_aR, ↓w_aL, ↓w_pI, ↓w_pR, ↓w_sI, ↓w_sR, ↓w_sL, ↓w_nO, ↓w_nA, ↓w_nL, ↓w_ca, ↓w_ca0, ↓w_gS, ↓w_gK, ↓w_dv, ↓w_tw, ↓w_rz, ↓w_no, nv_lit, nv_f, nv_add, nv_mul, nv_sub, nv_le, nv_lt, nv_eq, nv_cl, Nat.reduceMod, Nat.reduceMul, Nat.reduceAdd, Nat.zero_add, Nat.add_zero, Nat.mul_zero, decide_eq_true_eq, nv_inT, mk_k hM, mk_n hM, mk_r hM, mk_i hM, hX, hJ, ol_f, X1_isBetween_w, X1_requireArgument_1 n10, X1_requireArgument_0, X1_requireIndex_1 n10, X1_requireIndex_0, Nat.reduceEqDiff, hX0, va1_f, va2_f, hK_new, hN_new, hK_wI, hN_wI, up1_s, Nat.reduceLeDiff, Nat.not_lt_zero, X1_requireHeaps_x hM hX (by omega) h (va1_q a _), X5_group_0 (hF.e0 ((va1_e a v).tr (tw_e _)) hs) hG hS h]
    exact post_x hC hT ((va1_e a v).tr (tw_e (va1 a v))) (by rw [tw_z, va1_z]; omega) (by rw [tw_l, va1_l]; omega) (by omega) (by omega) _
theorem X5_unproved_1 {G : Nat → Nat} {a : Hp} {o : Nat} {R : Nat → Int32} (hF : FO G a o R) (hG : GD G) (hS : Sh R) (hFs : Fs R) {v : Int32} (h : inr v (nT R)) (Q : Int32 → Hp → Prop) (hq : ∀ b, Sx G (th G a (nv 0)) b → Q (up R v) b) : Wp (X5_unproved (G 10) v) a Q := by
  have hF0 := hF.th hG (nv 0)
  have t5 := th_5 G a (nv 0)
  have h10 := sh_H10 hS
  have h20 := sh_C20 hS
  have h4 := sh_T4 hS
  simp (disch := omega) only [X5_unproved, ↓w_bd, ↓w_rt, ↓w_bh, sm_l, sm_r, ↓w_okr, ↓w_nm, ↓w_ite, ↓reduceIte, not_true_eq_false, not_false_eq_true, and_true, true_and, and_self, Option.some.injEq, reduceCtorEq, eq_self, ↓w_rc, ↓w_gI, ↓w_gR, ↓w_aN, ↓w_aI, ↓w_aR, ↓w_aL, ↓w_pI, ↓w_pR, ↓w_sI, ↓w_sR, ↓w_sL, ↓w_nO, ↓w_nA, ↓w_nL, ↓w_ca, ↓w_ca0, ↓w_gS, ↓w_gK, ↓w_dv, ↓w_tw, ↓w_rz, ↓w_no, nv_lit, nv_f, nv_add, nv_mul, nv_sub, nv_le, nv_lt, nv_eq, nv_cl, Nat.reduceMod, Nat.reduceMul, Nat.reduceAdd, Nat.zero_add, Nat.add_zero, Nat.mul_zero, decide_eq_true_eq, nv_inT, th_f, th_K, th_N, th_R, th_5, th_2, okn0, Nat.reduceEqDiff, hF.1, hF0.1, X5_in_w, X5_holds_1 hF0.1.1.1 t5 n10, X5_holds_0 hF0.1.1.1 t5, X5_isTrader_1 hF0 hS h, n10]
  exact X5_unproved_24_w hF0 hG hS hFs v _ hq
theorem X5_unproved_0 {G : Nat → Nat} {a : Hp} {o : Nat} {R : Nat → Int32} (hF : FO G a o R) (hG : GD G) (hS : Sh R) {v : Int32} (h : ¬ inr v (nT R)) (Q : Int32 → Hp → Prop) : Wp (X5_unproved (G 10) v) a Q ↔ Q (nv 0) (th G a (nv 1)) := by
  have hF0 := hF.th hG (nv 0)
  have t5 := th_5 G a (nv 0)
  have h10 := sh_H10 hS
  have h20 := sh_C20 hS
  have h4 := sh_T4 hS
  simp (disch := omega) only [X5_unproved, ↓w_bd, ↓w_rt, ↓w_bh, sm_l, sm_r, ↓w_okr, ↓w_nm, ↓w_ite, ↓reduceIte, not_true_eq_false, not_false_eq_true, and_true, true_and, and_self, Option.some.injEq, reduceCtorEq, eq_self, ↓w_rc, ↓w_gI, ↓w_gR, ↓w_aN, ↓w_aI, ↓w_aR, ↓w_aL, ↓w_pI, ↓w_pR, ↓w_sI, ↓w_sR, ↓w_sL, ↓w_nO, ↓w_nA, ↓w_nL, ↓w_ca, ↓w_ca0, ↓w_gS, ↓w_gK, ↓w_dv, ↓w_tw, ↓w_rz, ↓w_no, nv_lit, nv_f, nv_add, nv_mul, nv_sub, nv_le, nv_lt, nv_eq, nv_cl, Nat.reduceMod, Nat.reduceMul, Nat.reduceAdd, Nat.zero_add, Nat.add_zero, Nat.mul_zero, decide_eq_true_eq, nv_inT, th_f, th_K, th_N, th_R, th_5, th_2, okn0, Nat.reduceEqDiff, hF.1, hF0.1, X5_in_w, X5_holds_1 hF0.1.1.1 t5 n10, X5_holds_0 hF0.1.1.1 t5, X5_isTrader_0 hF0 hS h]
theorem op_unproved {G : Nat → Nat} {B : Nat → Nat × Nat} {S : Gst} {a : Hp} (hC : JC G B S a) (hT : JT G S a) (v : Int32) : OpL G a (X0_unproved (some (G 0)) v (some (G 20))) (X5_unproved (G 10) v) := by
  obtain ⟨L, R, hM, hR, hX, hF, -⟩ := start hC hT
  have hG := hC.1.gd
  have hJ := hC.2.1
  have hS := hR.1
  have hP := hR.2.2.1
  have hFs := hR.2.1
  have hs : ∀ i, i < 22 → G i < hSz a := fun i hi => (hC.1 i hi).1
  have h10 := sh_H10 hS
  have h2 := sh_H2 hS
  have h20 := sh_C20 hS
  have h4 := sh_T4 hS
  have h1 := sh_T1 hS
  have hmul := Nat.mul_le_mul h10 h10
  by_cases h : inr v (nT R)
  · simp (disch := omega) only [X0_unproved, X1_unproved, OpL, ↓w_bd, ↓w_rt, ↓w_bh, sm_l, sm_r, ↓w_okr, ↓w_nm, ↓w_ite, ↓reduceIte, not_true_eq_false, not_false_eq_true, and_true, true_and, and_self, Option.some.injEq, reduceCtorEq, eq_self, ↓w_rc, ↓w_gI, ↓w_gR, ↓w_aN, ↓w_aI, ↓w_aR, ↓w_aL, ↓w_pI, ↓w_pR, ↓w_sI, ↓w_sR, ↓w_sL, ↓w_nO, ↓w_nA, ↓w_nL, ↓w_ca, ↓w_ca0, ↓w_gS, ↓w_gK, ↓w_dv, ↓w_tw, ↓w_rz, ↓w_no, nv_lit, nv_f, nv_add, nv_mul, nv_sub, nv_le, nv_lt, nv_eq, nv_cl, Nat.reduceMod, Nat.reduceMul, Nat.reduceAdd, Nat.zero_add, Nat.add_zero, Nat.mul_zero, decide_eq_true_eq, nv_inT, mk_k hM, mk_n hM, mk_r hM, mk_i hM, hX, hJ, ol_f, X1_isBetween_w, X1_requireArgument_1 n10, X1_requireArgument_0, X1_requireIndex_1 n10, X1_requireIndex_0, Nat.reduceEqDiff, X1_requireTrader_1 hM hX h]
    refine X2_ways_w hM hFs _ fun b D hD hW => ?_
    have hJb := (hC.e0 hW.1).2.1
    simp (disch := omega) only [↓w_bd, ↓w_rt, ↓w_bh, sm_l, sm_r, ↓w_okr, ↓w_nm, ↓w_ite, ↓reduceIte, not_true_eq_false, not_false_eq_true, and_true, true_and, and_self, Option.some.injEq, reduceCtorEq, eq_self, ↓w_rc, ↓w_gI, ↓w_gR, ↓w_aN, ↓w_aI, ↓w_aR, ↓w_aL, ↓w_pI, ↓w_pR, ↓w_sI, ↓w_sR, ↓w_sL, ↓w_nO, ↓w_nA, ↓w_nL, ↓w_ca, ↓w_ca0, ↓w_gS, ↓w_gK, ↓w_dv, ↓w_tw, ↓w_rz, ↓w_no, nv_lit, nv_f, nv_add, nv_mul, nv_sub, nv_le, nv_lt, nv_eq, nv_cl, Nat.reduceMod, Nat.reduceMul, Nat.reduceAdd, Nat.zero_add, Nat.add_zero, Nat.mul_zero, decide_eq_true_eq, nv_inT, X1_unproved_w (hM.ext hW.1 (fun _ _ => rfl)) (hX.ext hW.1) hS hFs hD hW.2.2.2, hJb, ol_f]
    refine X5_unproved_1 ((hF.e0 hW.1 hs).ol _) hG hS hFs h _ fun c hc => ?_
    exact post_s hC hT hW.1 (by rw [hW.2.1]; omega) (by rw [hW.2.2.1]; omega) hc
  · simp (disch := omega) only [X0_unproved, X1_unproved, OpL, ↓w_bd, ↓w_rt, ↓w_bh, sm_l, sm_r, ↓w_okr, ↓w_nm, ↓w_ite, ↓reduceIte, not_true_eq_false, not_false_eq_true, and_true, true_and, and_self, Option.some.injEq, reduceCtorEq, eq_self, ↓w_rc, ↓w_gI, ↓w_gR, ↓w_aN, ↓w_aI, ↓w_aR, ↓w_aL, ↓w_pI, ↓w_pR, ↓w_sI, ↓w_sR, ↓w_sL, ↓w_nO, ↓w_nA, ↓w_nL, ↓w_ca, ↓w_ca0, ↓w_gS, ↓w_gK, ↓w_dv, ↓w_tw, ↓w_rz, ↓w_no, nv_lit, nv_f, nv_add, nv_mul, nv_sub, nv_le, nv_lt, nv_eq, nv_cl, Nat.reduceMod, Nat.reduceMul, Nat.reduceAdd, Nat.zero_add, Nat.add_zero, Nat.mul_zero, decide_eq_true_eq, nv_inT, mk_k hM, mk_n hM, mk_r hM, mk_i hM, hX, hJ, ol_f, X1_isBetween_w, X1_requireArgument_1 n10, X1_requireArgument_0, X1_requireIndex_1 n10, X1_requireIndex_0, Nat.reduceEqDiff, X1_requireTrader_0 hM hX h1 h, X5_unproved_0 (hF.tw hs) hG hS h]
    exact post_x hC hT (tw_e a) (by rw [tw_z]; omega) (by rw [tw_l]; omega) (by omega) (by omega) _
theorem op_knownPairs {G : Nat → Nat} {B : Nat → Nat × Nat} {S : Gst} {a : Hp} (hC : JC G B S a) (hT : JT G S a) : OpE G a (X1_knownPairs (G 0)) (X5_knownPairs (G 10)) := by
  obtain ⟨L, R, hM, hR, hX, hF, -⟩ := start hC hT
  have hG := hC.1.gd
  have hJ := hC.2.1
  have hS := hR.1
  have hP := hR.2.2.1
  have hFs := hR.2.1
  have hs : ∀ i, i < 22 → G i < hSz a := fun i hi => (hC.1 i hi).1
  have h10 := sh_H10 hS
  have h2 := sh_H2 hS
  have h20 := sh_C20 hS
  have h4 := sh_T4 hS
  have h1 := sh_T1 hS
  have hmul := Nat.mul_le_mul h10 h10
  simp (disch := omega) only [OpE, X1_knownPairs, ↓w_bd, ↓w_rt, ↓w_bh, sm_l, sm_r, ↓w_okr, ↓w_nm, ↓w_ite, ↓reduceIte, not_true_eq_false, not_false_eq_true, and_true, true_and, and_self, Option.some.injEq, reduceCtorEq, eq_self, ↓w_rc, ↓w_gI, ↓w_gR, ↓w_aN, ↓w_aI, ↓w_aR, ↓w_aL, ↓w_pI, ↓w_pR, ↓w_sI, ↓w_sR, ↓w_sL, ↓w_nO, ↓w_nA, ↓w_nL, ↓w_ca, ↓w_ca0, ↓w_gS, ↓w_gK, ↓w_dv, ↓w_tw, ↓w_rz, ↓w_no, nv_lit, nv_f, nv_add, nv_mul, nv_sub, nv_le, nv_lt, nv_eq, nv_cl, Nat.reduceMod, Nat.reduceMul, Nat.reduceAdd, Nat.zero_add, Nat.add_zero, Nat.mul_zero, decide_eq_true_eq, nv_inT, mk_k hM, mk_n hM, mk_r hM, mk_i hM, hX]
  refine X2_ways_w hM hFs _ fun b D hD hW => ?_
  have hFb := hF.e0 hW.1 hs
  have hF0 := hFb.th hG (nv 0)
  have hMb := hM.ext hW.1 (B' := B) (fun _ _ => rfl)
  have hXb := hX.ext hW.1
  simp (disch := omega) only [↓w_bd, ↓w_rt, ↓w_bh, sm_l, sm_r, ↓w_okr, ↓w_nm, ↓w_ite, ↓reduceIte, not_true_eq_false, not_false_eq_true, and_true, true_and, and_self, Option.some.injEq, reduceCtorEq, eq_self, ↓w_rc, ↓w_gI, ↓w_gR, ↓w_aN, ↓w_aI, ↓w_aR, ↓w_aL, ↓w_pI, ↓w_pR, ↓w_sI, ↓w_sR, ↓w_sL, ↓w_nO, ↓w_nA, ↓w_nL, ↓w_ca, ↓w_ca0, ↓w_gS, ↓w_gK, ↓w_dv, ↓w_tw, ↓w_rz, ↓w_no, nv_lit, nv_f, nv_add, nv_mul, nv_sub, nv_le, nv_lt, nv_eq, nv_cl, Nat.reduceMod, Nat.reduceMul, Nat.reduceAdd, Nat.zero_add, Nat.add_zero, Nat.mul_zero, decide_eq_true_eq, nv_inT, hW.2.2.2.r, X9_knownPairs_w hFs h10 hD hW.2.2.2, X5_knownPairs, th_f, okn0, hFb.1, hF0.1]
  refine X5_allKnown_w hF0 hG hS hFs _ fun c hc => ?_
  exact ⟨rfl, post_e hC hT hW.1 (by rw [hW.2.1]; omega) (by rw [hW.2.2.1]; omega) hc⟩
theorem op_groups {G : Nat → Nat} {B : Nat → Nat × Nat} {S : Gst} {a : Hp} (hC : JC G B S a) (hT : JT G S a) : OpE G a (X1_groups (G 0)) (X5_groups (G 10)) := by
  obtain ⟨L, R, hM, hR, hX, hF, -⟩ := start hC hT
  have hG := hC.1.gd
  have hJ := hC.2.1
  have hS := hR.1
  have hP := hR.2.2.1
  have hFs := hR.2.1
  have hs : ∀ i, i < 22 → G i < hSz a := fun i hi => (hC.1 i hi).1
  have h10 := sh_H10 hS
  have h2 := sh_H2 hS
  have h20 := sh_C20 hS
  have h4 := sh_T4 hS
  have h1 := sh_T1 hS
  have hmul := Nat.mul_le_mul h10 h10
  simp (disch := omega) only [OpE, X1_groups, ↓w_bd, ↓w_rt, ↓w_bh, sm_l, sm_r, ↓w_okr, ↓w_nm, ↓w_ite, ↓reduceIte, not_true_eq_false, not_false_eq_true, and_true, true_and, and_self, Option.some.injEq, reduceCtorEq, eq_self, ↓w_rc, ↓w_gI, ↓w_gR, ↓w_aN, ↓w_aI, ↓w_aR, ↓w_aL, ↓w_pI, ↓w_pR, ↓w_sI, ↓w_sR, ↓w_sL, ↓w_nO, ↓w_nA, ↓w_nL, ↓w_ca, ↓w_ca0, ↓w_gS, ↓w_gK, ↓w_dv, ↓w_tw, ↓w_rz, ↓w_no, nv_lit, nv_f, nv_add, nv_mul, nv_sub, nv_le, nv_lt, nv_eq, nv_cl, Nat.reduceMod, Nat.reduceMul, Nat.reduceAdd, Nat.zero_add, Nat.add_zero, Nat.mul_zero, decide_eq_true_eq, nv_inT, mk_k hM, mk_n hM, mk_r hM, mk_i hM, hX]
  refine X2_ways_w hM hFs _ fun b D hD hW => ?_
  have hFb := hF.e0 hW.1 hs
  have hF0 := hFb.th hG (nv 0)
  have hMb := hM.ext hW.1 (B' := B) (fun _ _ => rfl)
  have hXb := hX.ext hW.1
  simp (disch := omega) only [↓w_bd, ↓w_rt, ↓w_bh, sm_l, sm_r, ↓w_okr, ↓w_nm, ↓w_ite, ↓reduceIte, not_true_eq_false, not_false_eq_true, and_true, true_and, and_self, Option.some.injEq, reduceCtorEq, eq_self, ↓w_rc, ↓w_gI, ↓w_gR, ↓w_aN, ↓w_aI, ↓w_aR, ↓w_aL, ↓w_pI, ↓w_pR, ↓w_sI, ↓w_sR, ↓w_sL, ↓w_nO, ↓w_nA, ↓w_nL, ↓w_ca, ↓w_ca0, ↓w_gS, ↓w_gK, ↓w_dv, ↓w_tw, ↓w_rz, ↓w_no, nv_lit, nv_f, nv_add, nv_mul, nv_sub, nv_le, nv_lt, nv_eq, nv_cl, Nat.reduceMod, Nat.reduceMul, Nat.reduceAdd, Nat.zero_add, Nat.add_zero, Nat.mul_zero, decide_eq_true_eq, nv_inT, hW.2.2.2.r, X1_groups_w hMb hXb hS hFs hD hW.2.2.2, X5_groups, th_f, okn0, hFb.1, hF0.1]
  refine X5_groups_w hF0 hG hS hFs _ fun c hc => ?_
  exact ⟨rfl, post_e hC hT hW.1 (by rw [hW.2.1]; omega) (by rw [hW.2.2.1]; omega) hc⟩
theorem op_swappable {G : Nat → Nat} {B : Nat → Nat × Nat} {S : Gst} {a : Hp} (hC : JC G B S a) (hT : JT G S a) : OpE G a (X1_swappable (G 0)) (X5_swappable (G 10)) := by
  obtain ⟨L, R, hM, hR, hX, hF, -⟩ := start hC hT
  have hG := hC.1.gd
  have hJ := hC.2.1
  have hS := hR.1
  have hP := hR.2.2.1
  have hFs := hR.2.1
  have hs : ∀ i, i < 22 → G i < hSz a := fun i hi => (hC.1 i hi).1
  have h10 := sh_H10 hS
  have h2 := sh_H2 hS
  have h20 := sh_C20 hS
  have h4 := sh_T4 hS
  have h1 := sh_T1 hS
  have hmul := Nat.mul_le_mul h10 h10
  simp (disch := omega) only [OpE, X1_swappable, ↓w_bd, ↓w_rt, ↓w_bh, sm_l, sm_r, ↓w_okr, ↓w_nm, ↓w_ite, ↓reduceIte, not_true_eq_false, not_false_eq_true, and_true, true_and, and_self, Option.some.injEq, reduceCtorEq, eq_self, ↓w_rc, ↓w_gI, ↓w_gR, ↓w_aN, ↓w_aI, ↓w_aR, ↓w_aL, ↓w_pI, ↓w_pR, ↓w_sI, ↓w_sR, ↓w_sL, ↓w_nO, ↓w_nA, ↓w_nL, ↓w_ca, ↓w_ca0, ↓w_gS, ↓w_gK, ↓w_dv, ↓w_tw, ↓w_rz, ↓w_no, nv_lit, nv_f, nv_add, nv_mul, nv_sub, nv_le, nv_lt, nv_eq, nv_cl, Nat.reduceMod, Nat.reduceMul, Nat.reduceAdd, Nat.zero_add, Nat.add_zero, Nat.mul_zero, decide_eq_true_eq, nv_inT, mk_k hM, mk_n hM, mk_r hM, mk_i hM, hX]
  refine X2_ways_w hM hFs _ fun b D hD hW => ?_
  have hFb := hF.e0 hW.1 hs
  have hF0 := hFb.th hG (nv 0)
  have hMb := hM.ext hW.1 (B' := B) (fun _ _ => rfl)
  have hXb := hX.ext hW.1
  simp (disch := omega) only [↓w_bd, ↓w_rt, ↓w_bh, sm_l, sm_r, ↓w_okr, ↓w_nm, ↓w_ite, ↓reduceIte, not_true_eq_false, not_false_eq_true, and_true, true_and, and_self, Option.some.injEq, reduceCtorEq, eq_self, ↓w_rc, ↓w_gI, ↓w_gR, ↓w_aN, ↓w_aI, ↓w_aR, ↓w_aL, ↓w_pI, ↓w_pR, ↓w_sI, ↓w_sR, ↓w_sL, ↓w_nO, ↓w_nA, ↓w_nL, ↓w_ca, ↓w_ca0, ↓w_gS, ↓w_gK, ↓w_dv, ↓w_tw, ↓w_rz, ↓w_no, nv_lit, nv_f, nv_add, nv_mul, nv_sub, nv_le, nv_lt, nv_eq, nv_cl, Nat.reduceMod, Nat.reduceMul, Nat.reduceAdd, Nat.zero_add, Nat.add_zero, Nat.mul_zero, decide_eq_true_eq, nv_inT, hW.2.2.2.r, X1_swappable_w hMb hXb hS hFs hD hW.2.2.2, X5_swappable, th_f, okn0, hFb.1, hF0.1]
  refine X5_swappable_w hF0 hG hS hFs _ fun c hc => ?_
  exact ⟨rfl, post_e hC hT hW.1 (by rw [hW.2.1]; omega) (by rw [hW.2.2.1]; omega) hc⟩
theorem op_gap {G : Nat → Nat} {B : Nat → Nat × Nat} {S : Gst} {a : Hp} (hC : JC G B S a) (hT : JT G S a) : OpE G a (X1_gap (G 0)) (X5_gap (G 10)) := by
  obtain ⟨L, R, hM, hRo, hX, hF, -⟩ := start hC hT
  have hG := hC.1.gd
  have hJ := hC.2.1
  have hS := hRo.1
  have hP := hRo.2.2.1
  have hFs := hRo.2.1
  have hs : ∀ i, i < 22 → G i < hSz a := fun i hi => (hC.1 i hi).1
  have h10 := sh_H10 hS
  have h2 := sh_H2 hS
  have h20 := sh_C20 hS
  have h4 := sh_T4 hS
  have h1 := sh_T1 hS
  have hmul := Nat.mul_le_mul h10 h10
  simp (disch := omega) only [OpE, X1_gap, ↓w_bd, ↓w_rt, ↓w_bh, sm_l, sm_r, ↓w_okr, ↓w_nm, ↓w_ite, ↓reduceIte, not_true_eq_false, not_false_eq_true, and_true, true_and, and_self, Option.some.injEq, reduceCtorEq, eq_self, ↓w_rc, ↓w_gI, ↓w_gR, ↓w_aN, ↓w_aI, ↓w_aR, ↓w_aL, ↓w_pI, ↓w_pR, ↓w_sI, ↓w_sR, ↓w_sL, ↓w_nO, ↓w_nA, ↓w_nL, ↓w_ca, ↓w_ca0, ↓w_gS, ↓w_gK, ↓w_dv, ↓w_tw, ↓w_rz, ↓w_no, nv_lit, nv_f, nv_add, nv_mul, nv_sub, nv_le, nv_lt, nv_eq, nv_cl, Nat.reduceMod, Nat.reduceMul, Nat.reduceAdd, Nat.zero_add, Nat.add_zero, Nat.mul_zero, decide_eq_true_eq, nv_inT, mk_k hM, mk_n hM, mk_r hM, mk_i hM, hX]
  refine X2_ways_w hM hFs _ fun b D hD hW => ?_
  have hFb := hF.e0 hW.1 hs
  have hMb := hM.ext hW.1 (B' := B) (fun _ _ => rfl)
  have hXb := hX.ext hW.1
  have e1 := (E0.rf b).new 68 0 1 (fun _ => nv 0) (fun j => if j = 0 then some (G 0) else none)
  have hMc := hMb.ext e1 (B' := B) (fun _ _ => rfl)
  have hXc := hXb.ext e1
  have hFc := hFb.e0 e1 (fun i hi => Nat.lt_of_lt_of_le (hs i hi) hW.1.1)
  have hF0 := hFc.th hG (nv 0)
  have hq : hK (hNew b 68 0 1 (fun _ => nv 0) (fun j => if j = 0 then some (G 0) else none)) (hSz b) = 68 := by rw [hK_new, up1_s]
  have hv : hR (hNew b 68 0 1 (fun _ => nv 0) (fun j => if j = 0 then some (G 0) else none)) (hSz b) 0 = some (G 0) := by rw [hR_new, up1_s, if_pos rfl]
  have hWc : Wm (hSz a) (nH R) (hNew b 68 0 1 (fun _ => nv 0) (fun j => if j = 0 then some (G 0) else none)) D := by
    have hr := hW.2.2.2
    have hz := hW.2.1
    have o := fun q (hq : q < hSz b) => e1.2.2 q hq
    refine ⟨⟨?_, ?_, ?_, ?_, ?_⟩, fun x hx => ?_, fun x hx => ?_, fun x hx => ?_, fun x y hx hy => ?_⟩
    · rw [(o _ (by omega)).1]; exact hr.1.1
    · rw [(o _ (by omega)).2.2.2.1]; exact hr.1.2.1
    · rw [(o _ (by omega)).2.2.1]; exact hr.1.2.2.1
    · rw [(o _ (by omega)).1]; exact hr.1.2.2.2.1
    · rw [(o _ (by omega)).2.1]; exact hr.1.2.2.2.2
    · rw [(o _ (by omega)).2.2.1]; exact hr.2.1 x hx
    · rw [(o _ (by omega)).1]; exact hr.2.2.1 x hx
    · rw [(o _ (by omega)).2.1]; exact hr.2.2.2.1 x hx
    · rw [(o _ (by omega)).2.2.2.1]; exact hr.2.2.2.2 x y hx hy
  have sm := X1_sumOf_c hMc (q := hSz b) (g := fun c => if cs R c 4 = 0 then op R c else 0) (fun c hc Q => lm68 hMc hXc hS hq hv hc Q)
  simp (disch := omega) only [↓w_bd, ↓w_rt, ↓w_bh, sm_l, sm_r, ↓w_okr, ↓w_nm, ↓w_ite, ↓reduceIte, not_true_eq_false, not_false_eq_true, and_true, true_and, and_self, Option.some.injEq, reduceCtorEq, eq_self, ↓w_rc, ↓w_gI, ↓w_gR, ↓w_aN, ↓w_aI, ↓w_aR, ↓w_aL, ↓w_pI, ↓w_pR, ↓w_sI, ↓w_sR, ↓w_sL, ↓w_nO, ↓w_nA, ↓w_nL, ↓w_ca, ↓w_ca0, ↓w_gS, ↓w_gK, ↓w_dv, ↓w_tw, ↓w_rz, ↓w_no, nv_lit, nv_f, nv_add, nv_mul, nv_sub, nv_le, nv_lt, nv_eq, nv_cl, Nat.reduceMod, Nat.reduceMul, Nat.reduceAdd, Nat.zero_add, Nat.add_zero, Nat.mul_zero, decide_eq_true_eq, nv_inT, mk_k hMb, mk_r hMb, hXb, sm, X1_gap_w hMc hXc hS hFs hD hWc, X5_gap, th_f, okn0, hFc.1, hF0.1]
  refine X5_gap_9_w hF0 hG hS hFs _ fun c hc => ?_
  exact ⟨rfl, post_e hC hT (hW.1.tr e1) (by rw [hSz_new, hW.2.1]; omega) (by rw [hSl_new, hW.2.2.1]; omega) hc⟩
theorem op_errors {G : Nat → Nat} {B : Nat → Nat × Nat} {S : Gst} {a : Hp} (hC : JC G B S a) (hT : JT G S a) : OpE G a (X1_errors (G 0)) (X5_errors (G 10)) := by
  obtain ⟨L, R, hM, hR, hX, hF, -⟩ := start hC hT
  have hG := hC.1.gd
  have hJ := hC.2.1
  have hS := hR.1
  have hP := hR.2.2.1
  have hFs := hR.2.1
  have hs : ∀ i, i < 22 → G i < hSz a := fun i hi => (hC.1 i hi).1
  have h10 := sh_H10 hS
  have h2 := sh_H2 hS
  have h20 := sh_C20 hS
  have h4 := sh_T4 hS
  have h1 := sh_T1 hS
  have hF0 := hF.th hG (nv 0)
  simp (disch := omega) only [OpE, X1_errors, ↓w_bd, ↓w_rt, ↓w_bh, sm_l, sm_r, ↓w_okr, ↓w_nm, ↓w_ite, ↓reduceIte, not_true_eq_false, not_false_eq_true, and_true, true_and, and_self, Option.some.injEq, reduceCtorEq, eq_self, ↓w_rc, ↓w_gI, ↓w_gR, ↓w_aN, ↓w_aI, ↓w_aR, ↓w_aL, ↓w_pI, ↓w_pR, ↓w_sI, ↓w_sR, ↓w_sL, ↓w_nO, ↓w_nA, ↓w_nL, ↓w_ca, ↓w_ca0, ↓w_gS, ↓w_gK, ↓w_dv, ↓w_tw, ↓w_rz, ↓w_no, nv_lit, nv_f, nv_add, nv_mul, nv_sub, nv_le, nv_lt, nv_eq, nv_cl, Nat.reduceMod, Nat.reduceMul, Nat.reduceAdd, Nat.zero_add, Nat.add_zero, Nat.mul_zero, decide_eq_true_eq, nv_inT, mk_k hM, mk_n hM, mk_r hM, mk_i hM, hX, X2_errors_w hM, X5_errors, th_f, okn0, hF.1, hF0.1, X5_allErrors_w hF0 hS]
  exact post_e hC hT (E0.rf a) (by omega) (by omega) (Sx.rf _ _)
theorem op_ranked {G : Nat → Nat} {B : Nat → Nat × Nat} {S : Gst} {a : Hp} (hC : JC G B S a) (hT : JT G S a) (v : Int32) : OpE G a (X1_ranked (G 0) v) (X5_ranked (G 10) v) := by
  obtain ⟨L, R, hM, hR, hX, hF, -⟩ := start hC hT
  have hG := hC.1.gd
  have hJ := hC.2.1
  have hS := hR.1
  have hP := hR.2.2.1
  have hFs := hR.2.1
  have hs : ∀ i, i < 22 → G i < hSz a := fun i hi => (hC.1 i hi).1
  have h10 := sh_H10 hS
  have h2 := sh_H2 hS
  have h20 := sh_C20 hS
  have h4 := sh_T4 hS
  have h1 := sh_T1 hS
  have hF0 := hF.th hG (nv 0)
  have tr : ∀ Q, Wp (X5_ranked_7 FU (G 10) v (nv 0)) (th G a (nv 0)) Q ↔ Q (on (rkd R v)) (th G a (nv 0)) := fun Q => X5_ranked_7_w hF0 hS v Q
  cases q : rkd R v with
  | none =>
    rw [q] at tr
    simp (disch := omega) only [OpE, X1_ranked, X1_ranked_27, ↓w_bd, ↓w_rt, ↓w_bh, sm_l, sm_r, ↓w_okr, ↓w_nm, ↓w_ite, ↓reduceIte, not_true_eq_false, not_false_eq_true, and_true, true_and, and_self, Option.some.injEq, reduceCtorEq, eq_self, ↓w_rc, ↓w_gI, ↓w_gR, ↓w_aN, ↓w_aI, ↓w_aR, ↓w_aL, ↓w_pI, ↓w_pR, ↓w_sI, ↓w_sR, ↓w_sL, ↓w_nO, ↓w_nA, ↓w_nL, ↓w_ca, ↓w_ca0, ↓w_gS, ↓w_gK, ↓w_dv, ↓w_tw, ↓w_rz, ↓w_no, nv_lit, nv_f, nv_add, nv_mul, nv_sub, nv_le, nv_lt, nv_eq, nv_cl, Nat.reduceMod, Nat.reduceMul, Nat.reduceAdd, Nat.zero_add, Nat.add_zero, Nat.mul_zero, decide_eq_true_eq, nv_inT, mk_k hM, mk_n hM, mk_r hM, mk_i hM, hX, X3_ranked_w hM, q, Option.map_none, X5_ranked, th_f, okn0, hF.1, hF0.1, tr]
    exact ⟨rfl, post_e hC hT (E0.rf a) (by omega) (by omega) (Sx.rf _ _)⟩
  | some k =>
    rw [q] at tr
    have hk : k < nH R := by
      unfold rkd at q
      have key : ∀ (p : Nat → Bool) (j i r : Nat), ff p i j = some r → r < i + j := by
        intro p j
        induction j with
        | zero => intro i r h; cases h
        | succ j ih =>
          intro i r h
          unfold ff at h
          split at h
          · cases h; omega
          · have := ih _ _ h; omega
      have := key _ _ _ _ q
      omega
    simp (disch := omega) only [OpE, X1_ranked, X1_ranked_27, ↓w_bd, ↓w_rt, ↓w_bh, sm_l, sm_r, ↓w_okr, ↓w_nm, ↓w_ite, ↓reduceIte, not_true_eq_false, not_false_eq_true, and_true, true_and, and_self, Option.some.injEq, reduceCtorEq, eq_self, ↓w_rc, ↓w_gI, ↓w_gR, ↓w_aN, ↓w_aI, ↓w_aR, ↓w_aL, ↓w_pI, ↓w_pR, ↓w_sI, ↓w_sR, ↓w_sL, ↓w_nO, ↓w_nA, ↓w_nL, ↓w_ca, ↓w_ca0, ↓w_gS, ↓w_gK, ↓w_dv, ↓w_tw, ↓w_rz, ↓w_no, nv_lit, nv_f, nv_add, nv_mul, nv_sub, nv_le, nv_lt, nv_eq, nv_cl, Nat.reduceMod, Nat.reduceMul, Nat.reduceAdd, Nat.zero_add, Nat.add_zero, Nat.mul_zero, decide_eq_true_eq, nv_inT, mk_k hM, mk_n hM, mk_r hM, mk_i hM, hX, X3_ranked_w hM, q, Option.map_some, ct_44, X5_ranked, th_f, okn0, hF.1, hF0.1, tr]
    exact ⟨rfl, post_e hC hT (E0.rf a) (by omega) (by omega) (Sx.rf _ _)⟩
theorem op_errorCode {G : Nat → Nat} {B : Nat → Nat × Nat} {S : Gst} {a : Hp} (hC : JC G B S a) (hT : JT G S a) : OpE G a (X1_errorCode (G 0)) (X5_errorCode (G 10)) := by
  obtain ⟨L, R, hM, hR, hX, hF, -⟩ := start hC hT
  have hG := hC.1.gd
  have hJ := hC.2.1
  have hS := hR.1
  have hP := hR.2.2.1
  have hFs := hR.2.1
  have hs : ∀ i, i < 22 → G i < hSz a := fun i hi => (hC.1 i hi).1
  have h10 := sh_H10 hS
  have h2 := sh_H2 hS
  have h20 := sh_C20 hS
  have h4 := sh_T4 hS
  have h1 := sh_T1 hS
  have hF0 := hF.th hG (nv 0)
  have e1 := hC.2.2.2.2.2.2.2.1.1
  have e2 := hT.2.2.2.2.2.2.2.1.1
  have e3 : hI (th G a (nv 0)) (G 10) 10 = (ge S).1 := by rw [th_n _ _ _ (by omega)]; exact e2
  simp (disch := omega) only [OpE, X1_errorCode, X5_errorCode, ↓w_bd, ↓w_rt, ↓w_bh, sm_l, sm_r, ↓w_okr, ↓w_nm, ↓w_ite, ↓reduceIte, not_true_eq_false, not_false_eq_true, and_true, true_and, and_self, Option.some.injEq, reduceCtorEq, eq_self, ↓w_rc, ↓w_gI, ↓w_gR, ↓w_aN, ↓w_aI, ↓w_aR, ↓w_aL, ↓w_pI, ↓w_pR, ↓w_sI, ↓w_sR, ↓w_sL, ↓w_nO, ↓w_nA, ↓w_nL, ↓w_ca, ↓w_ca0, ↓w_gS, ↓w_gK, ↓w_dv, ↓w_tw, ↓w_rz, ↓w_no, nv_lit, nv_f, nv_add, nv_mul, nv_sub, nv_le, nv_lt, nv_eq, nv_cl, Nat.reduceMod, Nat.reduceMul, Nat.reduceAdd, Nat.zero_add, Nat.add_zero, Nat.mul_zero, decide_eq_true_eq, nv_inT, hX, e1, th_f, okn0, hF.1, hF0.1, e3]
  exact post_e hC hT (E0.rf a) (by omega) (by omega) (Sx.rf _ _)
theorem op_errorPosition {G : Nat → Nat} {B : Nat → Nat × Nat} {S : Gst} {a : Hp} (hC : JC G B S a) (hT : JT G S a) : OpE G a (X1_errorPosition (G 0)) (X5_errorPosition (G 10)) := by
  obtain ⟨L, R, hM, hR, hX, hF, -⟩ := start hC hT
  have hG := hC.1.gd
  have hJ := hC.2.1
  have hS := hR.1
  have hP := hR.2.2.1
  have hFs := hR.2.1
  have hs : ∀ i, i < 22 → G i < hSz a := fun i hi => (hC.1 i hi).1
  have h10 := sh_H10 hS
  have h2 := sh_H2 hS
  have h20 := sh_C20 hS
  have h4 := sh_T4 hS
  have h1 := sh_T1 hS
  have hF0 := hF.th hG (nv 0)
  have e1 := hC.2.2.2.2.2.2.2.1.2
  have e2 := hT.2.2.2.2.2.2.2.1.2
  have e3 : hI (th G a (nv 0)) (G 10) 11 = (ge S).2 := by rw [th_n _ _ _ (by omega)]; exact e2
  simp (disch := omega) only [OpE, X1_errorPosition, X5_errorPosition, ↓w_bd, ↓w_rt, ↓w_bh, sm_l, sm_r, ↓w_okr, ↓w_nm, ↓w_ite, ↓reduceIte, not_true_eq_false, not_false_eq_true, and_true, true_and, and_self, Option.some.injEq, reduceCtorEq, eq_self, ↓w_rc, ↓w_gI, ↓w_gR, ↓w_aN, ↓w_aI, ↓w_aR, ↓w_aL, ↓w_pI, ↓w_pR, ↓w_sI, ↓w_sR, ↓w_sL, ↓w_nO, ↓w_nA, ↓w_nL, ↓w_ca, ↓w_ca0, ↓w_gS, ↓w_gK, ↓w_dv, ↓w_tw, ↓w_rz, ↓w_no, nv_lit, nv_f, nv_add, nv_mul, nv_sub, nv_le, nv_lt, nv_eq, nv_cl, Nat.reduceMod, Nat.reduceMul, Nat.reduceAdd, Nat.zero_add, Nat.add_zero, Nat.mul_zero, decide_eq_true_eq, nv_inT, hX, e1, th_f, okn0, hF.1, hF0.1, e3]
  exact post_e hC hT (E0.rf a) (by omega) (by omega) (Sx.rf _ _)
