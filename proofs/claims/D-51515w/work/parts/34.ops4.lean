theorem X5_heap_0 {G : Nat → Nat} {a : Hp} {o : Nat} {R : Nat → Int32} (hF : FO G a o R) (hG : GD G) (hS : Sh R) {k : Nat} (hk : k < nH R) (Q : Int32 → Hp → Prop) : Wp (X5_heap (G 10) (nv k) (nv 0)) a Q ↔ Q (R (15 + 7 * k)) (th G a (nv 0)) := by
  have hF0 := hF.th hG (nv 0)
  have t5 := th_5 G a (nv 0)
  have h10 := sh_H10 hS
  have h20 := sh_C20 hS
  have h4 := sh_T4 hS
  have hb := bw_1' (v := nv 0) (n := 8) (inr_nv (by omega) (by omega)) (by omega) (show 8 = 7 + 1 from rfl)
  have hr : ((nv 0).toInt < 0 ∨ 6 < (nv 0).toInt) = False := by apply propext; decide
  simp (disch := omega) only [X5_heap, X5_heap_33, ↓w_bd, ↓w_rt, ↓w_bh, sm_l, sm_r, ↓w_okr, ↓w_nm, ↓w_ite, ↓reduceIte, not_true_eq_false, not_false_eq_true, and_true, true_and, and_self, Option.some.injEq, reduceCtorEq, eq_self, ↓w_rc, ↓w_gI, ↓w_gR, ↓w_aN, ↓w_aI, ↓w_aR, ↓w_aL, ↓w_pI, ↓w_pR, ↓w_sI, ↓w_sR, ↓w_sL, ↓w_nO, ↓w_nA, ↓w_nL, ↓w_ca, ↓w_ca0, ↓w_gS, ↓w_gK, ↓w_dv, ↓w_tw, ↓w_rz, ↓w_no, nv_lit, nv_f, nv_add, nv_mul, nv_sub, nv_le, nv_lt, nv_eq, nv_cl, Nat.reduceMod, Nat.reduceMul, Nat.reduceAdd, Nat.zero_add, Nat.add_zero, Nat.mul_zero, decide_eq_true_eq, nv_inT, th_f, th_K, th_N, th_R, th_5, th_2, okn0, Nat.reduceEqDiff, hF.1, hF0.1, X5_in_w, X5_holds_1 hF0.1.1.1 t5 n10, X5_holds_0 hF0.1.1.1 t5, X5_isHeap_1 hF0 hS (inr_nv hk (by omega)), hb, hr, X5_hp_w hF0]
theorem X5_heap_1 {G : Nat → Nat} {a : Hp} {o : Nat} {R : Nat → Int32} (hF : FO G a o R) (hG : GD G) (hS : Sh R) {k : Nat} (hk : k < nH R) (Q : Int32 → Hp → Prop) : Wp (X5_heap (G 10) (nv k) (nv 1)) a Q ↔ Q (nv (nR R k)) (th G a (nv 0)) := by
  have hF0 := hF.th hG (nv 0)
  have t5 := th_5 G a (nv 0)
  have h10 := sh_H10 hS
  have h20 := sh_C20 hS
  have h4 := sh_T4 hS
  have hb := bw_1' (v := nv 1) (n := 8) (inr_nv (by omega) (by omega)) (by omega) (show 8 = 7 + 1 from rfl)
  have hr : ((nv 1).toInt < 0 ∨ 6 < (nv 1).toInt) = False := by apply propext; decide
  simp (disch := omega) only [X5_heap, X5_heap_33, ↓w_bd, ↓w_rt, ↓w_bh, sm_l, sm_r, ↓w_okr, ↓w_nm, ↓w_ite, ↓reduceIte, not_true_eq_false, not_false_eq_true, and_true, true_and, and_self, Option.some.injEq, reduceCtorEq, eq_self, ↓w_rc, ↓w_gI, ↓w_gR, ↓w_aN, ↓w_aI, ↓w_aR, ↓w_aL, ↓w_pI, ↓w_pR, ↓w_sI, ↓w_sR, ↓w_sL, ↓w_nO, ↓w_nA, ↓w_nL, ↓w_ca, ↓w_ca0, ↓w_gS, ↓w_gK, ↓w_dv, ↓w_tw, ↓w_rz, ↓w_no, nv_lit, nv_f, nv_add, nv_mul, nv_sub, nv_le, nv_lt, nv_eq, nv_cl, Nat.reduceMod, Nat.reduceMul, Nat.reduceAdd, Nat.zero_add, Nat.add_zero, Nat.mul_zero, decide_eq_true_eq, nv_inT, th_f, th_K, th_N, th_R, th_5, th_2, okn0, Nat.reduceEqDiff, hF.1, hF0.1, X5_in_w, X5_holds_1 hF0.1.1.1 t5 n10, X5_holds_0 hF0.1.1.1 t5, X5_isHeap_1 hF0 hS (inr_nv hk (by omega)), hb, hr, X5_hp_w hF0, sh_R hS]
theorem X5_heap_2 {G : Nat → Nat} {a : Hp} {o : Nat} {R : Nat → Int32} (hF : FO G a o R) (hG : GD G) (hS : Sh R) {k : Nat} (hk : k < nH R) (Q : Int32 → Hp → Prop) : Wp (X5_heap (G 10) (nv k) (nv 2)) a Q ↔ Q (sz R k) (th G a (nv 0)) := by
  have hF0 := hF.th hG (nv 0)
  have t5 := th_5 G a (nv 0)
  have h10 := sh_H10 hS
  have h20 := sh_C20 hS
  have h4 := sh_T4 hS
  have hb := bw_1' (v := nv 2) (n := 8) (inr_nv (by omega) (by omega)) (by omega) (show 8 = 7 + 1 from rfl)
  have hr : ((nv 2).toInt < 0 ∨ 6 < (nv 2).toInt) = False := by apply propext; decide
  simp (disch := omega) only [X5_heap, X5_heap_33, ↓w_bd, ↓w_rt, ↓w_bh, sm_l, sm_r, ↓w_okr, ↓w_nm, ↓w_ite, ↓reduceIte, not_true_eq_false, not_false_eq_true, and_true, true_and, and_self, Option.some.injEq, reduceCtorEq, eq_self, ↓w_rc, ↓w_gI, ↓w_gR, ↓w_aN, ↓w_aI, ↓w_aR, ↓w_aL, ↓w_pI, ↓w_pR, ↓w_sI, ↓w_sR, ↓w_sL, ↓w_nO, ↓w_nA, ↓w_nL, ↓w_ca, ↓w_ca0, ↓w_gS, ↓w_gK, ↓w_dv, ↓w_tw, ↓w_rz, ↓w_no, nv_lit, nv_f, nv_add, nv_mul, nv_sub, nv_le, nv_lt, nv_eq, nv_cl, Nat.reduceMod, Nat.reduceMul, Nat.reduceAdd, Nat.zero_add, Nat.add_zero, Nat.mul_zero, decide_eq_true_eq, nv_inT, th_f, th_K, th_N, th_R, th_5, th_2, okn0, Nat.reduceEqDiff, hF.1, hF0.1, X5_in_w, X5_holds_1 hF0.1.1.1 t5 n10, X5_holds_0 hF0.1.1.1 t5, X5_isHeap_1 hF0 hS (inr_nv hk (by omega)), hb, hr, X5_sizeOf_w hF0 hS]
theorem X5_heap_3 {G : Nat → Nat} {a : Hp} {o : Nat} {R : Nat → Int32} (hF : FO G a o R) (hG : GD G) (hS : Sh R) {k : Nat} (hk : k < nH R) (Q : Int32 → Hp → Prop) : Wp (X5_heap (G 10) (nv k) (nv 3)) a Q ↔ Q (lk R (R 2) k) (th G a (nv 0)) := by
  have hF0 := hF.th hG (nv 0)
  have t5 := th_5 G a (nv 0)
  have h10 := sh_H10 hS
  have h20 := sh_C20 hS
  have h4 := sh_T4 hS
  have hb := bw_1' (v := nv 3) (n := 8) (inr_nv (by omega) (by omega)) (by omega) (show 8 = 7 + 1 from rfl)
  have hr : ((nv 3).toInt < 0 ∨ 6 < (nv 3).toInt) = False := by apply propext; decide
  simp (disch := omega) only [X5_heap, X5_heap_33, ↓w_bd, ↓w_rt, ↓w_bh, sm_l, sm_r, ↓w_okr, ↓w_nm, ↓w_ite, ↓reduceIte, not_true_eq_false, not_false_eq_true, and_true, true_and, and_self, Option.some.injEq, reduceCtorEq, eq_self, ↓w_rc, ↓w_gI, ↓w_gR, ↓w_aN, ↓w_aI, ↓w_aR, ↓w_aL, ↓w_pI, ↓w_pR, ↓w_sI, ↓w_sR, ↓w_sL, ↓w_nO, ↓w_nA, ↓w_nL, ↓w_ca, ↓w_ca0, ↓w_gS, ↓w_gK, ↓w_dv, ↓w_tw, ↓w_rz, ↓w_no, nv_lit, nv_f, nv_add, nv_mul, nv_sub, nv_le, nv_lt, nv_eq, nv_cl, Nat.reduceMod, Nat.reduceMul, Nat.reduceAdd, Nat.zero_add, Nat.add_zero, Nat.mul_zero, decide_eq_true_eq, nv_inT, th_f, th_K, th_N, th_R, th_5, th_2, okn0, Nat.reduceEqDiff, hF.1, hF0.1, X5_in_w, X5_holds_1 hF0.1.1.1 t5 n10, X5_holds_0 hF0.1.1.1 t5, X5_isHeap_1 hF0 hS (inr_nv hk (by omega)), hb, hr, X5_lookOf_w hF0 hS]
theorem X5_heap_4 {G : Nat → Nat} {a : Hp} {o : Nat} {R : Nat → Int32} (hF : FO G a o R) (hG : GD G) (hS : Sh R) {k : Nat} (hk : k < nH R) (Q : Int32 → Hp → Prop) : Wp (X5_heap (G 10) (nv k) (nv 4)) a Q ↔ Q (fw R k) (th G a (nv 0)) := by
  have hF0 := hF.th hG (nv 0)
  have t5 := th_5 G a (nv 0)
  have h10 := sh_H10 hS
  have h20 := sh_C20 hS
  have h4 := sh_T4 hS
  have hb := bw_1' (v := nv 4) (n := 8) (inr_nv (by omega) (by omega)) (by omega) (show 8 = 7 + 1 from rfl)
  have hr : ((nv 4).toInt < 0 ∨ 6 < (nv 4).toInt) = False := by apply propext; decide
  simp (disch := omega) only [X5_heap, X5_heap_33, ↓w_bd, ↓w_rt, ↓w_bh, sm_l, sm_r, ↓w_okr, ↓w_nm, ↓w_ite, ↓reduceIte, not_true_eq_false, not_false_eq_true, and_true, true_and, and_self, Option.some.injEq, reduceCtorEq, eq_self, ↓w_rc, ↓w_gI, ↓w_gR, ↓w_aN, ↓w_aI, ↓w_aR, ↓w_aL, ↓w_pI, ↓w_pR, ↓w_sI, ↓w_sR, ↓w_sL, ↓w_nO, ↓w_nA, ↓w_nL, ↓w_ca, ↓w_ca0, ↓w_gS, ↓w_gK, ↓w_dv, ↓w_tw, ↓w_rz, ↓w_no, nv_lit, nv_f, nv_add, nv_mul, nv_sub, nv_le, nv_lt, nv_eq, nv_cl, Nat.reduceMod, Nat.reduceMul, Nat.reduceAdd, Nat.zero_add, Nat.add_zero, Nat.mul_zero, decide_eq_true_eq, nv_inT, th_f, th_K, th_N, th_R, th_5, th_2, okn0, Nat.reduceEqDiff, hF.1, hF0.1, X5_in_w, X5_holds_1 hF0.1.1.1 t5 n10, X5_holds_0 hF0.1.1.1 t5, X5_isHeap_1 hF0 hS (inr_nv hk (by omega)), hb, hr, X5_factsWith_w hF0 hS]
theorem X5_heap_5 {G : Nat → Nat} {a : Hp} {o : Nat} {R : Nat → Int32} (hF : FO G a o R) (hG : GD G) (hS : Sh R) {k : Nat} (hk : k < nH R) (Q : Int32 → Hp → Prop) : Wp (X5_heap (G 10) (nv k) (nv 5)) a Q ↔ Q (opw R (nv k)) (th G a (nv 0)) := by
  have hF0 := hF.th hG (nv 0)
  have t5 := th_5 G a (nv 0)
  have h10 := sh_H10 hS
  have h20 := sh_C20 hS
  have h4 := sh_T4 hS
  have hb := bw_1' (v := nv 5) (n := 8) (inr_nv (by omega) (by omega)) (by omega) (show 8 = 7 + 1 from rfl)
  have hr : ((nv 5).toInt < 0 ∨ 6 < (nv 5).toInt) = False := by apply propext; decide
  simp (disch := omega) only [X5_heap, X5_heap_33, ↓w_bd, ↓w_rt, ↓w_bh, sm_l, sm_r, ↓w_okr, ↓w_nm, ↓w_ite, ↓reduceIte, not_true_eq_false, not_false_eq_true, and_true, true_and, and_self, Option.some.injEq, reduceCtorEq, eq_self, ↓w_rc, ↓w_gI, ↓w_gR, ↓w_aN, ↓w_aI, ↓w_aR, ↓w_aL, ↓w_pI, ↓w_pR, ↓w_sI, ↓w_sR, ↓w_sL, ↓w_nO, ↓w_nA, ↓w_nL, ↓w_ca, ↓w_ca0, ↓w_gS, ↓w_gK, ↓w_dv, ↓w_tw, ↓w_rz, ↓w_no, nv_lit, nv_f, nv_add, nv_mul, nv_sub, nv_le, nv_lt, nv_eq, nv_cl, Nat.reduceMod, Nat.reduceMul, Nat.reduceAdd, Nat.zero_add, Nat.add_zero, Nat.mul_zero, decide_eq_true_eq, nv_inT, th_f, th_K, th_N, th_R, th_5, th_2, okn0, Nat.reduceEqDiff, hF.1, hF0.1, X5_in_w, X5_holds_1 hF0.1.1.1 t5 n10, X5_holds_0 hF0.1.1.1 t5, X5_isHeap_1 hF0 hS (inr_nv hk (by omega)), hb, hr, X5_openWith_w hF0 hS]
theorem X5_heap_7 {G : Nat → Nat} {a : Hp} {o : Nat} {R : Nat → Int32} (hF : FO G a o R) (hG : GD G) (hS : Sh R) {k : Nat} (hk : k < nH R) (Q : Int32 → Hp → Prop) : Wp (X5_heap (G 10) (nv k) (nv 7)) a Q ↔ Q (gr_ R k) (th G a (nv 0)) := by
  have hF0 := hF.th hG (nv 0)
  have t5 := th_5 G a (nv 0)
  have h10 := sh_H10 hS
  have h20 := sh_C20 hS
  have h4 := sh_T4 hS
  have hb := bw_1' (v := nv 7) (n := 8) (inr_nv (by omega) (by omega)) (by omega) (show 8 = 7 + 1 from rfl)
  have hr : ((nv 7).toInt < 0 ∨ 6 < (nv 7).toInt) = True := by apply propext; decide
  simp (disch := omega) only [X5_heap, X5_heap_33, ↓w_bd, ↓w_rt, ↓w_bh, sm_l, sm_r, ↓w_okr, ↓w_nm, ↓w_ite, ↓reduceIte, not_true_eq_false, not_false_eq_true, and_true, true_and, and_self, Option.some.injEq, reduceCtorEq, eq_self, ↓w_rc, ↓w_gI, ↓w_gR, ↓w_aN, ↓w_aI, ↓w_aR, ↓w_aL, ↓w_pI, ↓w_pR, ↓w_sI, ↓w_sR, ↓w_sL, ↓w_nO, ↓w_nA, ↓w_nL, ↓w_ca, ↓w_ca0, ↓w_gS, ↓w_gK, ↓w_dv, ↓w_tw, ↓w_rz, ↓w_no, nv_lit, nv_f, nv_add, nv_mul, nv_sub, nv_le, nv_lt, nv_eq, nv_cl, Nat.reduceMod, Nat.reduceMul, Nat.reduceAdd, Nat.zero_add, Nat.add_zero, Nat.mul_zero, decide_eq_true_eq, nv_inT, th_f, th_K, th_N, th_R, th_5, th_2, okn0, Nat.reduceEqDiff, hF.1, hF0.1, X5_in_w, X5_holds_1 hF0.1.1.1 t5 n10, X5_holds_0 hF0.1.1.1 t5, X5_isHeap_1 hF0 hS (inr_nv hk (by omega)), hb, hr, X5_greatestRow_w hF0 hS]
theorem X5_heap_6 {G : Nat → Nat} {a : Hp} {o : Nat} {R : Nat → Int32} (hF : FO G a o R) (hG : GD G) (hS : Sh R) (hFs : Fs R) {k : Nat} (hk : k < nH R) (Q : Int32 → Hp → Prop) (h : ∀ b, Sx G (th G a (nv 0)) b → Q (kt R k) b) : Wp (X5_heap (G 10) (nv k) (nv 6)) a Q := by
  have hF0 := hF.th hG (nv 0)
  have t5 := th_5 G a (nv 0)
  have h10 := sh_H10 hS
  have h20 := sh_C20 hS
  have h4 := sh_T4 hS
  have hb := bw_1' (v := nv 6) (n := 8) (inr_nv (by omega) (by omega)) (by omega) (show 8 = 7 + 1 from rfl)
  have hr : ((nv 6).toInt < 0 ∨ 6 < (nv 6).toInt) = False := by apply propext; decide
  simp (disch := omega) only [X5_heap, X5_heap_33, ↓w_bd, ↓w_rt, ↓w_bh, sm_l, sm_r, ↓w_okr, ↓w_nm, ↓w_ite, ↓reduceIte, not_true_eq_false, not_false_eq_true, and_true, true_and, and_self, Option.some.injEq, reduceCtorEq, eq_self, ↓w_rc, ↓w_gI, ↓w_gR, ↓w_aN, ↓w_aI, ↓w_aR, ↓w_aL, ↓w_pI, ↓w_pR, ↓w_sI, ↓w_sR, ↓w_sL, ↓w_nO, ↓w_nA, ↓w_nL, ↓w_ca, ↓w_ca0, ↓w_gS, ↓w_gK, ↓w_dv, ↓w_tw, ↓w_rz, ↓w_no, nv_lit, nv_f, nv_add, nv_mul, nv_sub, nv_le, nv_lt, nv_eq, nv_cl, Nat.reduceMod, Nat.reduceMul, Nat.reduceAdd, Nat.zero_add, Nat.add_zero, Nat.mul_zero, decide_eq_true_eq, nv_inT, th_f, th_K, th_N, th_R, th_5, th_2, okn0, Nat.reduceEqDiff, hF.1, hF0.1, X5_in_w, X5_holds_1 hF0.1.1.1 t5 n10, X5_holds_0 hF0.1.1.1 t5, X5_isHeap_1 hF0 hS (inr_nv hk (by omega)), hb, hr]
  exact X5_knownTo_w hF0 hG hS hFs hk _ h
theorem X5_heap_x {G : Nat → Nat} {a : Hp} {o : Nat} {R : Nat → Int32} (hF : FO G a o R) (hG : GD G) (hS : Sh R) {v w : Int32} (h : ¬ inr v (nH R)) (Q : Int32 → Hp → Prop) : Wp (X5_heap (G 10) v w) a Q ↔ Q (nv 0) (th G a (nv 1)) := by
  have hF0 := hF.th hG (nv 0)
  have t5 := th_5 G a (nv 0)
  have h10 := sh_H10 hS
  have h20 := sh_C20 hS
  have h4 := sh_T4 hS
  simp (disch := omega) only [X5_heap, X5_heap_33, ↓w_bd, ↓w_rt, ↓w_bh, sm_l, sm_r, ↓w_okr, ↓w_nm, ↓w_ite, ↓reduceIte, not_true_eq_false, not_false_eq_true, and_true, true_and, and_self, Option.some.injEq, reduceCtorEq, eq_self, ↓w_rc, ↓w_gI, ↓w_gR, ↓w_aN, ↓w_aI, ↓w_aR, ↓w_aL, ↓w_pI, ↓w_pR, ↓w_sI, ↓w_sR, ↓w_sL, ↓w_nO, ↓w_nA, ↓w_nL, ↓w_ca, ↓w_ca0, ↓w_gS, ↓w_gK, ↓w_dv, ↓w_tw, ↓w_rz, ↓w_no, nv_lit, nv_f, nv_add, nv_mul, nv_sub, nv_le, nv_lt, nv_eq, nv_cl, Nat.reduceMod, Nat.reduceMul, Nat.reduceAdd, Nat.zero_add, Nat.add_zero, Nat.mul_zero, decide_eq_true_eq, nv_inT, th_f, th_K, th_N, th_R, th_5, th_2, okn0, Nat.reduceEqDiff, hF.1, hF0.1, X5_in_w, X5_holds_1 hF0.1.1.1 t5 n10, X5_holds_0 hF0.1.1.1 t5, X5_isHeap_0 hF0 hS h]
theorem X5_heap_y {G : Nat → Nat} {a : Hp} {o : Nat} {R : Nat → Int32} (hF : FO G a o R) (hG : GD G) (hS : Sh R) {v w : Int32} (h : inr v (nH R)) (g : ¬ inr w 8) (Q : Int32 → Hp → Prop) : Wp (X5_heap (G 10) v w) a Q ↔ Q (nv 0) (th G a (nv 2)) := by
  have hF0 := hF.th hG (nv 0)
  have t5 := th_5 G a (nv 0)
  have h10 := sh_H10 hS
  have h20 := sh_C20 hS
  have h4 := sh_T4 hS
  have hb := bw_0' g (by omega) (show 8 = 7 + 1 from rfl)
  simp (disch := omega) only [X5_heap, X5_heap_33, ↓w_bd, ↓w_rt, ↓w_bh, sm_l, sm_r, ↓w_okr, ↓w_nm, ↓w_ite, ↓reduceIte, not_true_eq_false, not_false_eq_true, and_true, true_and, and_self, Option.some.injEq, reduceCtorEq, eq_self, ↓w_rc, ↓w_gI, ↓w_gR, ↓w_aN, ↓w_aI, ↓w_aR, ↓w_aL, ↓w_pI, ↓w_pR, ↓w_sI, ↓w_sR, ↓w_sL, ↓w_nO, ↓w_nA, ↓w_nL, ↓w_ca, ↓w_ca0, ↓w_gS, ↓w_gK, ↓w_dv, ↓w_tw, ↓w_rz, ↓w_no, nv_lit, nv_f, nv_add, nv_mul, nv_sub, nv_le, nv_lt, nv_eq, nv_cl, Nat.reduceMod, Nat.reduceMul, Nat.reduceAdd, Nat.zero_add, Nat.add_zero, Nat.mul_zero, decide_eq_true_eq, nv_inT, th_f, th_K, th_N, th_R, th_5, th_2, okn0, Nat.reduceEqDiff, hF.1, hF0.1, X5_in_w, X5_holds_1 hF0.1.1.1 t5 n10, X5_holds_0 hF0.1.1.1 t5, X5_isHeap_1 hF0 hS h, hb]
theorem op_heap {G : Nat → Nat} {B : Nat → Nat × Nat} {S : Gst} {a : Hp} (hC : JC G B S a) (hT : JT G S a) (v w : Int32) : OpL G a (X0_heap (some (G 0)) v w (some (G 20))) (X5_heap (G 10) v w) := by
  obtain ⟨L, R, hM, hR, hX, hF, -⟩ := start hC hT
  have hG := hC.1.gd
  have hJ := hC.2.1
  have hS := hR.1
  have hP := hR.2.2.1
  have hFs := hR.2.1
  have hs : ∀ i, i < 22 → G i < hSz a := fun i hi => (hC.1 i hi).1
  have h10 := sh_H10 hS
  have h2 := sh_H2 hS
  have h20 := sh_C20 hS
  have h4 := sh_T4 hS
  have h1 := sh_T1 hS
  by_cases h : inr v (nH R)
  · obtain ⟨k, rfl, hk⟩ := inr_k h
    by_cases g : inr w 8
    · obtain ⟨w, rfl, hw⟩ := inr_k g
      have hr := toI_lt hw (by omega) (show (7 : Int) = (8 : Nat) - 1 by decide)
      have : w = 0 ∨ w = 1 ∨ w = 2 ∨ w = 3 ∨ w = 4 ∨ w = 5 ∨ w = 6 ∨ w = 7 := by omega
      rcases this with rfl | rfl | rfl | rfl | rfl | rfl | rfl | rfl
      · simp (disch := omega) only [X0_heap, X1_heap, OpL, ↓w_bd, ↓w_rt, ↓w_bh, sm_l, sm_r, ↓w_okr, ↓w_nm, ↓w_ite, ↓reduceIte, not_true_eq_false, not_false_eq_true, and_true, true_and, and_self, Option.some.injEq, reduceCtorEq, eq_self, ↓w_rc, ↓w_gI, ↓w_gR, ↓w_aN, ↓w_aI, ↓w_aR, ↓w_aL, ↓w_pI, ↓w_pR, ↓w_sI, ↓w_sR, ↓w_sL, ↓w_nO, ↓w_nA, ↓w_nL, ↓w_ca, ↓w_ca0, ↓w_gS, ↓w_gK, ↓w_dv, ↓w_tw, ↓w_rz, ↓w_no, nv_lit, nv_f, nv_add, nv_mul, nv_sub, nv_le, nv_lt, nv_eq, nv_cl, Nat.reduceMod, Nat.reduceMul, Nat.reduceAdd, Nat.zero_add, Nat.add_zero, Nat.mul_zero, decide_eq_true_eq, nv_inT, mk_k hM, mk_n hM, mk_r hM, mk_i hM, hX, hJ, ol_f, X1_isBetween_w, X1_requireArgument_1 n10, X1_requireArgument_0, X1_requireIndex_1 n10, X1_requireIndex_0, Nat.reduceEqDiff, X1_heapOf_1 hM hX, hr, ct_44, X5_heap_0 (hF.ol _) hG hS hk]
        exact post_0 hC hT (E0.rf a) (by omega) (by omega) _
      · simp (disch := omega) only [X0_heap, X1_heap, OpL, ↓w_bd, ↓w_rt, ↓w_bh, sm_l, sm_r, ↓w_okr, ↓w_nm, ↓w_ite, ↓reduceIte, not_true_eq_false, not_false_eq_true, and_true, true_and, and_self, Option.some.injEq, reduceCtorEq, eq_self, ↓w_rc, ↓w_gI, ↓w_gR, ↓w_aN, ↓w_aI, ↓w_aR, ↓w_aL, ↓w_pI, ↓w_pR, ↓w_sI, ↓w_sR, ↓w_sL, ↓w_nO, ↓w_nA, ↓w_nL, ↓w_ca, ↓w_ca0, ↓w_gS, ↓w_gK, ↓w_dv, ↓w_tw, ↓w_rz, ↓w_no, nv_lit, nv_f, nv_add, nv_mul, nv_sub, nv_le, nv_lt, nv_eq, nv_cl, Nat.reduceMod, Nat.reduceMul, Nat.reduceAdd, Nat.zero_add, Nat.add_zero, Nat.mul_zero, decide_eq_true_eq, nv_inT, mk_k hM, mk_n hM, mk_r hM, mk_i hM, hX, hJ, ol_f, X1_isBetween_w, X1_requireArgument_1 n10, X1_requireArgument_0, X1_requireIndex_1 n10, X1_requireIndex_0, Nat.reduceEqDiff, X1_heapOf_1 hM hX, hr, ct_44, X5_heap_1 (hF.ol _) hG hS hk]
        exact post_0 hC hT (E0.rf a) (by omega) (by omega) _
      · simp (disch := omega) only [X0_heap, X1_heap, OpL, ↓w_bd, ↓w_rt, ↓w_bh, sm_l, sm_r, ↓w_okr, ↓w_nm, ↓w_ite, ↓reduceIte, not_true_eq_false, not_false_eq_true, and_true, true_and, and_self, Option.some.injEq, reduceCtorEq, eq_self, ↓w_rc, ↓w_gI, ↓w_gR, ↓w_aN, ↓w_aI, ↓w_aR, ↓w_aL, ↓w_pI, ↓w_pR, ↓w_sI, ↓w_sR, ↓w_sL, ↓w_nO, ↓w_nA, ↓w_nL, ↓w_ca, ↓w_ca0, ↓w_gS, ↓w_gK, ↓w_dv, ↓w_tw, ↓w_rz, ↓w_no, nv_lit, nv_f, nv_add, nv_mul, nv_sub, nv_le, nv_lt, nv_eq, nv_cl, Nat.reduceMod, Nat.reduceMul, Nat.reduceAdd, Nat.zero_add, Nat.add_zero, Nat.mul_zero, decide_eq_true_eq, nv_inT, mk_k hM, mk_n hM, mk_r hM, mk_i hM, hX, hJ, ol_f, X1_isBetween_w, X1_requireArgument_1 n10, X1_requireArgument_0, X1_requireIndex_1 n10, X1_requireIndex_0, Nat.reduceEqDiff, X1_heapOf_1 hM hX, hr, ct_44, X4_size_w hM, X5_heap_2 (hF.ol _) hG hS hk]
        exact post_0 hC hT (E0.rf a) (by omega) (by omega) _
      · simp (disch := omega) only [X0_heap, X1_heap, OpL, ↓w_bd, ↓w_rt, ↓w_bh, sm_l, sm_r, ↓w_okr, ↓w_nm, ↓w_ite, ↓reduceIte, not_true_eq_false, not_false_eq_true, and_true, true_and, and_self, Option.some.injEq, reduceCtorEq, eq_self, ↓w_rc, ↓w_gI, ↓w_gR, ↓w_aN, ↓w_aI, ↓w_aR, ↓w_aL, ↓w_pI, ↓w_pR, ↓w_sI, ↓w_sR, ↓w_sL, ↓w_nO, ↓w_nA, ↓w_nL, ↓w_ca, ↓w_ca0, ↓w_gS, ↓w_gK, ↓w_dv, ↓w_tw, ↓w_rz, ↓w_no, nv_lit, nv_f, nv_add, nv_mul, nv_sub, nv_le, nv_lt, nv_eq, nv_cl, Nat.reduceMod, Nat.reduceMul, Nat.reduceAdd, Nat.zero_add, Nat.add_zero, Nat.mul_zero, decide_eq_true_eq, nv_inT, mk_k hM, mk_n hM, mk_r hM, mk_i hM, hX, hJ, ol_f, X1_isBetween_w, X1_requireArgument_1 n10, X1_requireArgument_0, X1_requireIndex_1 n10, X1_requireIndex_0, Nat.reduceEqDiff, X1_heapOf_1 hM hX, hr, ct_44, X4_look_w hM, X5_heap_3 (hF.ol _) hG hS hk]
        exact post_0 hC hT (E0.rf a) (by omega) (by omega) _
      · simp (disch := omega) only [X0_heap, X1_heap, OpL, ↓w_bd, ↓w_rt, ↓w_bh, sm_l, sm_r, ↓w_okr, ↓w_nm, ↓w_ite, ↓reduceIte, not_true_eq_false, not_false_eq_true, and_true, true_and, and_self, Option.some.injEq, reduceCtorEq, eq_self, ↓w_rc, ↓w_gI, ↓w_gR, ↓w_aN, ↓w_aI, ↓w_aR, ↓w_aL, ↓w_pI, ↓w_pR, ↓w_sI, ↓w_sR, ↓w_sL, ↓w_nO, ↓w_nA, ↓w_nL, ↓w_ca, ↓w_ca0, ↓w_gS, ↓w_gK, ↓w_dv, ↓w_tw, ↓w_rz, ↓w_no, nv_lit, nv_f, nv_add, nv_mul, nv_sub, nv_le, nv_lt, nv_eq, nv_cl, Nat.reduceMod, Nat.reduceMul, Nat.reduceAdd, Nat.zero_add, Nat.add_zero, Nat.mul_zero, decide_eq_true_eq, nv_inT, mk_k hM, mk_n hM, mk_r hM, mk_i hM, hX, hJ, ol_f, X1_isBetween_w, X1_requireArgument_1 n10, X1_requireArgument_0, X1_requireIndex_1 n10, X1_requireIndex_0, Nat.reduceEqDiff, X1_heapOf_1 hM hX, hr, ct_44, X2_factsOf_w hM hFs, X5_heap_4 (hF.ol _) hG hS hk]
        exact post_0 hC hT (E0.rf a) (by omega) (by omega) _
      · simp (disch := omega) only [X0_heap, X1_heap, OpL, ↓w_bd, ↓w_rt, ↓w_bh, sm_l, sm_r, ↓w_okr, ↓w_nm, ↓w_ite, ↓reduceIte, not_true_eq_false, not_false_eq_true, and_true, true_and, and_self, Option.some.injEq, reduceCtorEq, eq_self, ↓w_rc, ↓w_gI, ↓w_gR, ↓w_aN, ↓w_aI, ↓w_aR, ↓w_aL, ↓w_pI, ↓w_pR, ↓w_sI, ↓w_sR, ↓w_sL, ↓w_nO, ↓w_nA, ↓w_nL, ↓w_ca, ↓w_ca0, ↓w_gS, ↓w_gK, ↓w_dv, ↓w_tw, ↓w_rz, ↓w_no, nv_lit, nv_f, nv_add, nv_mul, nv_sub, nv_le, nv_lt, nv_eq, nv_cl, Nat.reduceMod, Nat.reduceMul, Nat.reduceAdd, Nat.zero_add, Nat.add_zero, Nat.mul_zero, decide_eq_true_eq, nv_inT, mk_k hM, mk_n hM, mk_r hM, mk_i hM, hX, hJ, ol_f, X1_isBetween_w, X1_requireArgument_1 n10, X1_requireArgument_0, X1_requireIndex_1 n10, X1_requireIndex_0, Nat.reduceEqDiff, X1_heapOf_1 hM hX, hr, cnt_67 hM, (hC.e0 ((E0.rf a).new 67 0 1 (fun j => if j = 0 then nv k else nv 0) (fun _ => none))).2.1, X5_heap_5 ((hF.e0 ((E0.rf a).new 67 0 1 (fun j => if j = 0 then nv k else nv 0) (fun _ => none)) hs).ol _) hG hS hk]
        exact post_0 hC hT ((E0.rf a).new 67 0 1 (fun j => if j = 0 then nv k else nv 0) (fun _ => none)) (by rw [new_z]; omega) (by rw [hSl_new]; omega) _
      · simp (disch := omega) only [X0_heap, X1_heap, OpL, ↓w_bd, ↓w_rt, ↓w_bh, sm_l, sm_r, ↓w_okr, ↓w_nm, ↓w_ite, ↓reduceIte, not_true_eq_false, not_false_eq_true, and_true, true_and, and_self, Option.some.injEq, reduceCtorEq, eq_self, ↓w_rc, ↓w_gI, ↓w_gR, ↓w_aN, ↓w_aI, ↓w_aR, ↓w_aL, ↓w_pI, ↓w_pR, ↓w_sI, ↓w_sR, ↓w_sL, ↓w_nO, ↓w_nA, ↓w_nL, ↓w_ca, ↓w_ca0, ↓w_gS, ↓w_gK, ↓w_dv, ↓w_tw, ↓w_rz, ↓w_no, nv_lit, nv_f, nv_add, nv_mul, nv_sub, nv_le, nv_lt, nv_eq, nv_cl, Nat.reduceMod, Nat.reduceMul, Nat.reduceAdd, Nat.zero_add, Nat.add_zero, Nat.mul_zero, decide_eq_true_eq, nv_inT, mk_k hM, mk_n hM, mk_r hM, mk_i hM, hX, hJ, ol_f, X1_isBetween_w, X1_requireArgument_1 n10, X1_requireArgument_0, X1_requireIndex_1 n10, X1_requireIndex_0, Nat.reduceEqDiff, X1_heapOf_1 hM hX, hr]
        refine X2_ways_w hM hFs _ fun b D hD hW => ?_
        have hJb := (hC.e0 hW.1).2.1
        simp (disch := omega) only [↓w_bd, ↓w_rt, ↓w_bh, sm_l, sm_r, ↓w_okr, ↓w_nm, ↓w_ite, ↓reduceIte, not_true_eq_false, not_false_eq_true, and_true, true_and, and_self, Option.some.injEq, reduceCtorEq, eq_self, ↓w_rc, ↓w_gI, ↓w_gR, ↓w_aN, ↓w_aI, ↓w_aR, ↓w_aL, ↓w_pI, ↓w_pR, ↓w_sI, ↓w_sR, ↓w_sL, ↓w_nO, ↓w_nA, ↓w_nL, ↓w_ca, ↓w_ca0, ↓w_gS, ↓w_gK, ↓w_dv, ↓w_tw, ↓w_rz, ↓w_no, nv_lit, nv_f, nv_add, nv_mul, nv_sub, nv_le, nv_lt, nv_eq, nv_cl, Nat.reduceMod, Nat.reduceMul, Nat.reduceAdd, Nat.zero_add, Nat.add_zero, Nat.mul_zero, decide_eq_true_eq, nv_inT, hW.2.2.2.r, X9_knownOf_w hFs h10 hD hW.2.2.2, hJb, ol_f]
        refine X5_heap_6 ((hF.e0 hW.1 hs).ol _) hG hS hFs hk _ fun c hc => ?_
        have := Nat.mul_le_mul h10 h10
        exact post_s hC hT hW.1 (by rw [hW.2.1]; omega) (by rw [hW.2.2.1]; omega) hc
      · simp (disch := omega) only [X0_heap, X1_heap, OpL, ↓w_bd, ↓w_rt, ↓w_bh, sm_l, sm_r, ↓w_okr, ↓w_nm, ↓w_ite, ↓reduceIte, not_true_eq_false, not_false_eq_true, and_true, true_and, and_self, Option.some.injEq, reduceCtorEq, eq_self, ↓w_rc, ↓w_gI, ↓w_gR, ↓w_aN, ↓w_aI, ↓w_aR, ↓w_aL, ↓w_pI, ↓w_pR, ↓w_sI, ↓w_sR, ↓w_sL, ↓w_nO, ↓w_nA, ↓w_nL, ↓w_ca, ↓w_ca0, ↓w_gS, ↓w_gK, ↓w_dv, ↓w_tw, ↓w_rz, ↓w_no, nv_lit, nv_f, nv_add, nv_mul, nv_sub, nv_le, nv_lt, nv_eq, nv_cl, Nat.reduceMod, Nat.reduceMul, Nat.reduceAdd, Nat.zero_add, Nat.add_zero, Nat.mul_zero, decide_eq_true_eq, nv_inT, mk_k hM, mk_n hM, mk_r hM, mk_i hM, hX, hJ, ol_f, X1_isBetween_w, X1_requireArgument_1 n10, X1_requireArgument_0, X1_requireIndex_1 n10, X1_requireIndex_0, Nat.reduceEqDiff, X1_heapOf_1 hM hX, hr, ct_44, X4_greatestRow_w hM, X5_heap_7 (hF.ol _) hG hS hk]
        exact post_0 hC hT (E0.rf a) (by omega) (by omega) _
    · simp (disch := omega) only [X0_heap, X1_heap, OpL, ↓w_bd, ↓w_rt, ↓w_bh, sm_l, sm_r, ↓w_okr, ↓w_nm, ↓w_ite, ↓reduceIte, not_true_eq_false, not_false_eq_true, and_true, true_and, and_self, Option.some.injEq, reduceCtorEq, eq_self, ↓w_rc, ↓w_gI, ↓w_gR, ↓w_aN, ↓w_aI, ↓w_aR, ↓w_aL, ↓w_pI, ↓w_pR, ↓w_sI, ↓w_sR, ↓w_sL, ↓w_nO, ↓w_nA, ↓w_nL, ↓w_ca, ↓w_ca0, ↓w_gS, ↓w_gK, ↓w_dv, ↓w_tw, ↓w_rz, ↓w_no, nv_lit, nv_f, nv_add, nv_mul, nv_sub, nv_le, nv_lt, nv_eq, nv_cl, Nat.reduceMod, Nat.reduceMul, Nat.reduceAdd, Nat.zero_add, Nat.add_zero, Nat.mul_zero, decide_eq_true_eq, nv_inT, mk_k hM, mk_n hM, mk_r hM, mk_i hM, hX, hJ, ol_f, X1_isBetween_w, X1_requireArgument_1 n10, X1_requireArgument_0, X1_requireIndex_1 n10, X1_requireIndex_0, Nat.reduceEqDiff, X1_heapOf_1 hM hX, toI_out g (show (7 : Int) = (8 : Nat) - 1 by decide)]
      rw [show hNew a 0 0 6 (fun _ => nv 0) (fun _ => none) = tw_ a from rfl, X5_heap_y (hF.tw hs) hG hS h g]
      exact post_x hC hT (tw_e a) (by rw [tw_z]; omega) (by rw [tw_l]; omega) (by omega) (by omega) _
  · simp (disch := omega) only [X0_heap, X1_heap, OpL, ↓w_bd, ↓w_rt, ↓w_bh, sm_l, sm_r, ↓w_okr, ↓w_nm, ↓w_ite, ↓reduceIte, not_true_eq_false, not_false_eq_true, and_true, true_and, and_self, Option.some.injEq, reduceCtorEq, eq_self, ↓w_rc, ↓w_gI, ↓w_gR, ↓w_aN, ↓w_aI, ↓w_aR, ↓w_aL, ↓w_pI, ↓w_pR, ↓w_sI, ↓w_sR, ↓w_sL, ↓w_nO, ↓w_nA, ↓w_nL, ↓w_ca, ↓w_ca0, ↓w_gS, ↓w_gK, ↓w_dv, ↓w_tw, ↓w_rz, ↓w_no, nv_lit, nv_f, nv_add, nv_mul, nv_sub, nv_le, nv_lt, nv_eq, nv_cl, Nat.reduceMod, Nat.reduceMul, Nat.reduceAdd, Nat.zero_add, Nat.add_zero, Nat.mul_zero, decide_eq_true_eq, nv_inT, mk_k hM, mk_n hM, mk_r hM, mk_i hM, hX, hJ, ol_f, X1_isBetween_w, X1_requireArgument_1 n10, X1_requireArgument_0, X1_requireIndex_1 n10, X1_requireIndex_0, Nat.reduceEqDiff, X1_heapOf_0 hM hX (by omega) h, X5_heap_x (hF.tw hs) hG hS h]
    exact post_x hC hT (tw_e a) (by rw [tw_z]; omega) (by rw [tw_l]; omega) (by omega) (by omega) _
theorem X5_row_0 {G : Nat → Nat} {a : Hp} {o : Nat} {R : Nat → Int32} (hF : FO G a o R) (hG : GD G) (hS : Sh R) {k r : Nat} (hk : k < nH R) (hr : r < nR R k) (Q : Int32 → Hp → Prop) : Wp (X5_row (G 10) (nv k) (nv r) (nv 0)) a Q ↔ Q (st R k r) (th G a (nv 0)) := by
  have hF0 := hF.th hG (nv 0)
  have t5 := th_5 G a (nv 0)
  have h10 := sh_H10 hS
  have h20 := sh_C20 hS
  have h4 := sh_T4 hS
  have h5 := sh_R5 hS hk
  have hb := bw_1' (v := nv 0) (n := 2) (inr_nv (by omega) (by omega)) (by omega) (show 2 = 1 + 1 from rfl)
  simp (disch := omega) only [X5_row, X5_row_33, X5_row_62, ↓w_bd, ↓w_rt, ↓w_bh, sm_l, sm_r, ↓w_okr, ↓w_nm, ↓w_ite, ↓reduceIte, not_true_eq_false, not_false_eq_true, and_true, true_and, and_self, Option.some.injEq, reduceCtorEq, eq_self, ↓w_rc, ↓w_gI, ↓w_gR, ↓w_aN, ↓w_aI, ↓w_aR, ↓w_aL, ↓w_pI, ↓w_pR, ↓w_sI, ↓w_sR, ↓w_sL, ↓w_nO, ↓w_nA, ↓w_nL, ↓w_ca, ↓w_ca0, ↓w_gS, ↓w_gK, ↓w_dv, ↓w_tw, ↓w_rz, ↓w_no, nv_lit, nv_f, nv_add, nv_mul, nv_sub, nv_le, nv_lt, nv_eq, nv_cl, Nat.reduceMod, Nat.reduceMul, Nat.reduceAdd, Nat.zero_add, Nat.add_zero, Nat.mul_zero, decide_eq_true_eq, nv_inT, th_f, th_K, th_N, th_R, th_5, th_2, okn0, Nat.reduceEqDiff, hF.1, hF0.1, X5_in_w, X5_holds_1 hF0.1.1.1 t5 n10, X5_holds_0 hF0.1.1.1 t5, X5_isRow_1 hF0 hS hk (inr_nv hr (by omega)), hb, X5_stones_w hF0]
theorem X5_row_1 {G : Nat → Nat} {a : Hp} {o : Nat} {R : Nat → Int32} (hF : FO G a o R) (hG : GD G) (hS : Sh R) {k r : Nat} (hk : k < nH R) (hr : r < nR R k) (Q : Int32 → Hp → Prop) : Wp (X5_row (G 10) (nv k) (nv r) (nv 1)) a Q ↔ Q (sg (st R k r) (R 2)) (th G a (nv 0)) := by
  have hF0 := hF.th hG (nv 0)
  have t5 := th_5 G a (nv 0)
  have h10 := sh_H10 hS
  have h20 := sh_C20 hS
  have h4 := sh_T4 hS
  have h5 := sh_R5 hS hk
  have hb := bw_1' (v := nv 1) (n := 2) (inr_nv (by omega) (by omega)) (by omega) (show 2 = 1 + 1 from rfl)
  simp (disch := omega) only [X5_row, X5_row_33, X5_row_62, ↓w_bd, ↓w_rt, ↓w_bh, sm_l, sm_r, ↓w_okr, ↓w_nm, ↓w_ite, ↓reduceIte, not_true_eq_false, not_false_eq_true, and_true, true_and, and_self, Option.some.injEq, reduceCtorEq, eq_self, ↓w_rc, ↓w_gI, ↓w_gR, ↓w_aN, ↓w_aI, ↓w_aR, ↓w_aL, ↓w_pI, ↓w_pR, ↓w_sI, ↓w_sR, ↓w_sL, ↓w_nO, ↓w_nA, ↓w_nL, ↓w_ca, ↓w_ca0, ↓w_gS, ↓w_gK, ↓w_dv, ↓w_tw, ↓w_rz, ↓w_no, nv_lit, nv_f, nv_add, nv_mul, nv_sub, nv_le, nv_lt, nv_eq, nv_cl, Nat.reduceMod, Nat.reduceMul, Nat.reduceAdd, Nat.zero_add, Nat.add_zero, Nat.mul_zero, decide_eq_true_eq, nv_inT, th_f, th_K, th_N, th_R, th_5, th_2, okn0, Nat.reduceEqDiff, hF.1, hF0.1, X5_in_w, X5_holds_1 hF0.1.1.1 t5 n10, X5_holds_0 hF0.1.1.1 t5, X5_isRow_1 hF0 hS hk (inr_nv hr (by omega)), hb, X5_stones_w hF0, X5_get_w hF0, X5_sightOf_w, n10]
theorem X5_row_x {G : Nat → Nat} {a : Hp} {o : Nat} {R : Nat → Int32} (hF : FO G a o R) (hG : GD G) (hS : Sh R) {v r w : Int32} (h : ¬ inr v (nH R)) (Q : Int32 → Hp → Prop) : Wp (X5_row (G 10) v r w) a Q ↔ Q (nv 0) (th G a (nv 1)) := by
  have hF0 := hF.th hG (nv 0)
  have t5 := th_5 G a (nv 0)
  have h10 := sh_H10 hS
  have h20 := sh_C20 hS
  have h4 := sh_T4 hS
  simp (disch := omega) only [X5_row, X5_row_33, X5_row_62, ↓w_bd, ↓w_rt, ↓w_bh, sm_l, sm_r, ↓w_okr, ↓w_nm, ↓w_ite, ↓reduceIte, not_true_eq_false, not_false_eq_true, and_true, true_and, and_self, Option.some.injEq, reduceCtorEq, eq_self, ↓w_rc, ↓w_gI, ↓w_gR, ↓w_aN, ↓w_aI, ↓w_aR, ↓w_aL, ↓w_pI, ↓w_pR, ↓w_sI, ↓w_sR, ↓w_sL, ↓w_nO, ↓w_nA, ↓w_nL, ↓w_ca, ↓w_ca0, ↓w_gS, ↓w_gK, ↓w_dv, ↓w_tw, ↓w_rz, ↓w_no, nv_lit, nv_f, nv_add, nv_mul, nv_sub, nv_le, nv_lt, nv_eq, nv_cl, Nat.reduceMod, Nat.reduceMul, Nat.reduceAdd, Nat.zero_add, Nat.add_zero, Nat.mul_zero, decide_eq_true_eq, nv_inT, th_f, th_K, th_N, th_R, th_5, th_2, okn0, Nat.reduceEqDiff, hF.1, hF0.1, X5_in_w, X5_holds_1 hF0.1.1.1 t5 n10, X5_holds_0 hF0.1.1.1 t5, X5_isRow_h hF0 hS h]
theorem X5_row_z {G : Nat → Nat} {a : Hp} {o : Nat} {R : Nat → Int32} (hF : FO G a o R) (hG : GD G) (hS : Sh R) {k : Nat} {r w : Int32} (hk : k < nH R) (h : ¬ inr r (nR R k)) (Q : Int32 → Hp → Prop) : Wp (X5_row (G 10) (nv k) r w) a Q ↔ Q (nv 0) (th G a (nv 1)) := by
  have hF0 := hF.th hG (nv 0)
  have t5 := th_5 G a (nv 0)
  have h10 := sh_H10 hS
  have h20 := sh_C20 hS
  have h4 := sh_T4 hS
  simp (disch := omega) only [X5_row, X5_row_33, X5_row_62, ↓w_bd, ↓w_rt, ↓w_bh, sm_l, sm_r, ↓w_okr, ↓w_nm, ↓w_ite, ↓reduceIte, not_true_eq_false, not_false_eq_true, and_true, true_and, and_self, Option.some.injEq, reduceCtorEq, eq_self, ↓w_rc, ↓w_gI, ↓w_gR, ↓w_aN, ↓w_aI, ↓w_aR, ↓w_aL, ↓w_pI, ↓w_pR, ↓w_sI, ↓w_sR, ↓w_sL, ↓w_nO, ↓w_nA, ↓w_nL, ↓w_ca, ↓w_ca0, ↓w_gS, ↓w_gK, ↓w_dv, ↓w_tw, ↓w_rz, ↓w_no, nv_lit, nv_f, nv_add, nv_mul, nv_sub, nv_le, nv_lt, nv_eq, nv_cl, Nat.reduceMod, Nat.reduceMul, Nat.reduceAdd, Nat.zero_add, Nat.add_zero, Nat.mul_zero, decide_eq_true_eq, nv_inT, th_f, th_K, th_N, th_R, th_5, th_2, okn0, Nat.reduceEqDiff, hF.1, hF0.1, X5_in_w, X5_holds_1 hF0.1.1.1 t5 n10, X5_holds_0 hF0.1.1.1 t5, X5_isRow_0 hF0 hS hk h]
theorem X5_row_y {G : Nat → Nat} {a : Hp} {o : Nat} {R : Nat → Int32} (hF : FO G a o R) (hG : GD G) (hS : Sh R) {k : Nat} {r w : Int32} (hk : k < nH R) (h : inr r (nR R k)) (g : ¬ inr w 2) (Q : Int32 → Hp → Prop) : Wp (X5_row (G 10) (nv k) r w) a Q ↔ Q (nv 0) (th G a (nv 2)) := by
  have hF0 := hF.th hG (nv 0)
  have t5 := th_5 G a (nv 0)
  have h10 := sh_H10 hS
  have h20 := sh_C20 hS
  have h4 := sh_T4 hS
  have hb := bw_0' g (by omega) (show 2 = 1 + 1 from rfl)
  simp (disch := omega) only [X5_row, X5_row_33, X5_row_62, ↓w_bd, ↓w_rt, ↓w_bh, sm_l, sm_r, ↓w_okr, ↓w_nm, ↓w_ite, ↓reduceIte, not_true_eq_false, not_false_eq_true, and_true, true_and, and_self, Option.some.injEq, reduceCtorEq, eq_self, ↓w_rc, ↓w_gI, ↓w_gR, ↓w_aN, ↓w_aI, ↓w_aR, ↓w_aL, ↓w_pI, ↓w_pR, ↓w_sI, ↓w_sR, ↓w_sL, ↓w_nO, ↓w_nA, ↓w_nL, ↓w_ca, ↓w_ca0, ↓w_gS, ↓w_gK, ↓w_dv, ↓w_tw, ↓w_rz, ↓w_no, nv_lit, nv_f, nv_add, nv_mul, nv_sub, nv_le, nv_lt, nv_eq, nv_cl, Nat.reduceMod, Nat.reduceMul, Nat.reduceAdd, Nat.zero_add, Nat.add_zero, Nat.mul_zero, decide_eq_true_eq, nv_inT, th_f, th_K, th_N, th_R, th_5, th_2, okn0, Nat.reduceEqDiff, hF.1, hF0.1, X5_in_w, X5_holds_1 hF0.1.1.1 t5 n10, X5_holds_0 hF0.1.1.1 t5, X5_isRow_1 hF0 hS hk h, hb]
theorem op_row {G : Nat → Nat} {B : Nat → Nat × Nat} {S : Gst} {a : Hp} (hC : JC G B S a) (hT : JT G S a) (v r w : Int32) : OpL G a (X0_row (some (G 0)) v r w (some (G 20))) (X5_row (G 10) v r w) := by
  obtain ⟨L, R, hM, hR, hX, hF, -⟩ := start hC hT
  have hG := hC.1.gd
  have hJ := hC.2.1
  have hS := hR.1
  have hP := hR.2.2.1
  have hFs := hR.2.1
  have hs : ∀ i, i < 22 → G i < hSz a := fun i hi => (hC.1 i hi).1
  have h10 := sh_H10 hS
  have h2 := sh_H2 hS
  have h20 := sh_C20 hS
  have h4 := sh_T4 hS
  have h1 := sh_T1 hS
  by_cases h : inr v (nH R)
  · obtain ⟨k, rfl, hk⟩ := inr_k h
    have h5 := sh_R5 hS hk
    have h51 := sh_R1 hS hk
    by_cases hr : inr r (nR R k)
    · by_cases g : inr w 2
      · obtain ⟨r, rfl, hrr⟩ := inr_k hr
        have hb := bw_1' g (by omega) (show 2 = 1 + 1 from rfl)
        obtain ⟨w, rfl, hw⟩ := inr_k g
        have : w = 0 ∨ w = 1 := by omega
        rcases this with rfl | rfl
        · simp (disch := omega) only [X0_row, X1_row, X1_row_53, OpL, ↓w_bd, ↓w_rt, ↓w_bh, sm_l, sm_r, ↓w_okr, ↓w_nm, ↓w_ite, ↓reduceIte, not_true_eq_false, not_false_eq_true, and_true, true_and, and_self, Option.some.injEq, reduceCtorEq, eq_self, ↓w_rc, ↓w_gI, ↓w_gR, ↓w_aN, ↓w_aI, ↓w_aR, ↓w_aL, ↓w_pI, ↓w_pR, ↓w_sI, ↓w_sR, ↓w_sL, ↓w_nO, ↓w_nA, ↓w_nL, ↓w_ca, ↓w_ca0, ↓w_gS, ↓w_gK, ↓w_dv, ↓w_tw, ↓w_rz, ↓w_no, nv_lit, nv_f, nv_add, nv_mul, nv_sub, nv_le, nv_lt, nv_eq, nv_cl, Nat.reduceMod, Nat.reduceMul, Nat.reduceAdd, Nat.zero_add, Nat.add_zero, Nat.mul_zero, decide_eq_true_eq, nv_inT, mk_k hM, mk_n hM, mk_r hM, mk_i hM, hX, hJ, ol_f, X1_isBetween_w, X1_requireArgument_1 n10, X1_requireArgument_0, X1_requireIndex_1 n10, X1_requireIndex_0, Nat.reduceEqDiff, hb, X1_heapOf_1 hM hX, X1_requireRow_1 hM hk hr, X5_row_0 (hF.ol _) hG hS hk hrr]
          exact post_0 hC hT (E0.rf a) (by omega) (by omega) _
        · simp (disch := omega) only [X0_row, X1_row, X1_row_53, OpL, ↓w_bd, ↓w_rt, ↓w_bh, sm_l, sm_r, ↓w_okr, ↓w_nm, ↓w_ite, ↓reduceIte, not_true_eq_false, not_false_eq_true, and_true, true_and, and_self, Option.some.injEq, reduceCtorEq, eq_self, ↓w_rc, ↓w_gI, ↓w_gR, ↓w_aN, ↓w_aI, ↓w_aR, ↓w_aL, ↓w_pI, ↓w_pR, ↓w_sI, ↓w_sR, ↓w_sL, ↓w_nO, ↓w_nA, ↓w_nL, ↓w_ca, ↓w_ca0, ↓w_gS, ↓w_gK, ↓w_dv, ↓w_tw, ↓w_rz, ↓w_no, nv_lit, nv_f, nv_add, nv_mul, nv_sub, nv_le, nv_lt, nv_eq, nv_cl, Nat.reduceMod, Nat.reduceMul, Nat.reduceAdd, Nat.zero_add, Nat.add_zero, Nat.mul_zero, decide_eq_true_eq, nv_inT, mk_k hM, mk_n hM, mk_r hM, mk_i hM, hX, hJ, ol_f, X1_isBetween_w, X1_requireArgument_1 n10, X1_requireArgument_0, X1_requireIndex_1 n10, X1_requireIndex_0, Nat.reduceEqDiff, hb, n10, X1_heapOf_1 hM hX, X1_requireRow_1 hM hk hr, X1_sight_w, X5_row_1 (hF.ol _) hG hS hk hrr]
          exact post_0 hC hT (E0.rf a) (by omega) (by omega) _
      · have hb := bw_0' g (by omega) (show 2 = 1 + 1 from rfl)
        simp (disch := omega) only [X0_row, X1_row, X1_row_53, OpL, ↓w_bd, ↓w_rt, ↓w_bh, sm_l, sm_r, ↓w_okr, ↓w_nm, ↓w_ite, ↓reduceIte, not_true_eq_false, not_false_eq_true, and_true, true_and, and_self, Option.some.injEq, reduceCtorEq, eq_self, ↓w_rc, ↓w_gI, ↓w_gR, ↓w_aN, ↓w_aI, ↓w_aR, ↓w_aL, ↓w_pI, ↓w_pR, ↓w_sI, ↓w_sR, ↓w_sL, ↓w_nO, ↓w_nA, ↓w_nL, ↓w_ca, ↓w_ca0, ↓w_gS, ↓w_gK, ↓w_dv, ↓w_tw, ↓w_rz, ↓w_no, nv_lit, nv_f, nv_add, nv_mul, nv_sub, nv_le, nv_lt, nv_eq, nv_cl, Nat.reduceMod, Nat.reduceMul, Nat.reduceAdd, Nat.zero_add, Nat.add_zero, Nat.mul_zero, decide_eq_true_eq, nv_inT, mk_k hM, mk_n hM, mk_r hM, mk_i hM, hX, hJ, ol_f, X1_isBetween_w, X1_requireArgument_1 n10, X1_requireArgument_0, X1_requireIndex_1 n10, X1_requireIndex_0, Nat.reduceEqDiff, hb, X1_heapOf_1 hM hX, X1_requireRow_1 hM hk hr, X5_row_y (hF.tw hs) hG hS hk hr g]
        exact post_x hC hT (tw_e a) (by rw [tw_z]; omega) (by rw [tw_l]; omega) (by omega) (by omega) _
    · simp (disch := omega) only [X0_row, X1_row, X1_row_53, OpL, ↓w_bd, ↓w_rt, ↓w_bh, sm_l, sm_r, ↓w_okr, ↓w_nm, ↓w_ite, ↓reduceIte, not_true_eq_false, not_false_eq_true, and_true, true_and, and_self, Option.some.injEq, reduceCtorEq, eq_self, ↓w_rc, ↓w_gI, ↓w_gR, ↓w_aN, ↓w_aI, ↓w_aR, ↓w_aL, ↓w_pI, ↓w_pR, ↓w_sI, ↓w_sR, ↓w_sL, ↓w_nO, ↓w_nA, ↓w_nL, ↓w_ca, ↓w_ca0, ↓w_gS, ↓w_gK, ↓w_dv, ↓w_tw, ↓w_rz, ↓w_no, nv_lit, nv_f, nv_add, nv_mul, nv_sub, nv_le, nv_lt, nv_eq, nv_cl, Nat.reduceMod, Nat.reduceMul, Nat.reduceAdd, Nat.zero_add, Nat.add_zero, Nat.mul_zero, decide_eq_true_eq, nv_inT, mk_k hM, mk_n hM, mk_r hM, mk_i hM, hX, hJ, ol_f, X1_isBetween_w, X1_requireArgument_1 n10, X1_requireArgument_0, X1_requireIndex_1 n10, X1_requireIndex_0, Nat.reduceEqDiff, X1_heapOf_1 hM hX, X1_requireRow_0 hM hk h51 hr, X5_row_z (hF.tw hs) hG hS hk hr]
      exact post_x hC hT (tw_e a) (by rw [tw_z]; omega) (by rw [tw_l]; omega) (by omega) (by omega) _
  · simp (disch := omega) only [X0_row, X1_row, X1_row_53, OpL, ↓w_bd, ↓w_rt, ↓w_bh, sm_l, sm_r, ↓w_okr, ↓w_nm, ↓w_ite, ↓reduceIte, not_true_eq_false, not_false_eq_true, and_true, true_and, and_self, Option.some.injEq, reduceCtorEq, eq_self, ↓w_rc, ↓w_gI, ↓w_gR, ↓w_aN, ↓w_aI, ↓w_aR, ↓w_aL, ↓w_pI, ↓w_pR, ↓w_sI, ↓w_sR, ↓w_sL, ↓w_nO, ↓w_nA, ↓w_nL, ↓w_ca, ↓w_ca0, ↓w_gS, ↓w_gK, ↓w_dv, ↓w_tw, ↓w_rz, ↓w_no, nv_lit, nv_f, nv_add, nv_mul, nv_sub, nv_le, nv_lt, nv_eq, nv_cl, Nat.reduceMod, Nat.reduceMul, Nat.reduceAdd, Nat.zero_add, Nat.add_zero, Nat.mul_zero, decide_eq_true_eq, nv_inT, mk_k hM, mk_n hM, mk_r hM, mk_i hM, hX, hJ, ol_f, X1_isBetween_w, X1_requireArgument_1 n10, X1_requireArgument_0, X1_requireIndex_1 n10, X1_requireIndex_0, Nat.reduceEqDiff, X1_heapOf_0 hM hX (by omega) h, X5_row_x (hF.tw hs) hG hS h]
    exact post_x hC hT (tw_e a) (by rw [tw_z]; omega) (by rw [tw_l]; omega) (by omega) (by omega) _
theorem X5_paired_1 {G : Nat → Nat} {a : Hp} {o : Nat} {R : Nat → Int32} (hF : FO G a o R) (hG : GD G) (hS : Sh R) {c x r : Nat} (hc : c < nC R) (hx : x < 2) (hr : r < nR R (sd R c x)) (Q : Int32 → Hp → Prop) : Wp (X5_paired (G 10) (nv c) (nv x) (nv r)) a Q ↔ Q (cs R c (8 + 5 * x + r)) (th G a (nv 0)) := by
  have hF0 := hF.th hG (nv 0)
  have t5 := th_5 G a (nv 0)
  have h10 := sh_H10 hS
  have h20 := sh_C20 hS
  have h4 := sh_T4 hS
  have hh := sh_SH hS hc hx
  have h5 := sh_R5 hS hh
  have hb := bw_1' (v := nv x) (n := 2) (inr_nv (by omega) (by omega)) (by omega) (show 2 = 1 + 1 from rfl)
  simp (disch := omega) only [X5_paired, X5_paired_45, X5_paired_41, X5_paired_46, X5_paired_63, ↓w_bd, ↓w_rt, ↓w_bh, sm_l, sm_r, ↓w_okr, ↓w_nm, ↓w_ite, ↓reduceIte, not_true_eq_false, not_false_eq_true, and_true, true_and, and_self, Option.some.injEq, reduceCtorEq, eq_self, ↓w_rc, ↓w_gI, ↓w_gR, ↓w_aN, ↓w_aI, ↓w_aR, ↓w_aL, ↓w_pI, ↓w_pR, ↓w_sI, ↓w_sR, ↓w_sL, ↓w_nO, ↓w_nA, ↓w_nL, ↓w_ca, ↓w_ca0, ↓w_gS, ↓w_gK, ↓w_dv, ↓w_tw, ↓w_rz, ↓w_no, nv_lit, nv_f, nv_add, nv_mul, nv_sub, nv_le, nv_lt, nv_eq, nv_cl, Nat.reduceMod, Nat.reduceMul, Nat.reduceAdd, Nat.zero_add, Nat.add_zero, Nat.mul_zero, decide_eq_true_eq, nv_inT, th_f, th_K, th_N, th_R, th_5, th_2, okn0, Nat.reduceEqDiff, hF.1, hF0.1, X5_in_w, X5_holds_1 hF0.1.1.1 t5 n10, X5_holds_0 hF0.1.1.1 t5, X5_isClaim_1 hF0 hS (inr_nv hc (by omega)), hb, n10, X5_sideOf_w hF0 hS, X5_isRow_1 hF0 hS hh (inr_nv hr (by omega)), X5_pairedOf_w hF0]
theorem X5_paired_x {G : Nat → Nat} {a : Hp} {o : Nat} {R : Nat → Int32} (hF : FO G a o R) (hG : GD G) (hS : Sh R) {v x r : Int32} (h : ¬ inr v (nC R)) (Q : Int32 → Hp → Prop) : Wp (X5_paired (G 10) v x r) a Q ↔ Q (nv 0) (th G a (nv 1)) := by
  have hF0 := hF.th hG (nv 0)
  have t5 := th_5 G a (nv 0)
  have h10 := sh_H10 hS
  have h20 := sh_C20 hS
  have h4 := sh_T4 hS
  simp (disch := omega) only [X5_paired, X5_paired_45, X5_paired_41, X5_paired_46, X5_paired_63, ↓w_bd, ↓w_rt, ↓w_bh, sm_l, sm_r, ↓w_okr, ↓w_nm, ↓w_ite, ↓reduceIte, not_true_eq_false, not_false_eq_true, and_true, true_and, and_self, Option.some.injEq, reduceCtorEq, eq_self, ↓w_rc, ↓w_gI, ↓w_gR, ↓w_aN, ↓w_aI, ↓w_aR, ↓w_aL, ↓w_pI, ↓w_pR, ↓w_sI, ↓w_sR, ↓w_sL, ↓w_nO, ↓w_nA, ↓w_nL, ↓w_ca, ↓w_ca0, ↓w_gS, ↓w_gK, ↓w_dv, ↓w_tw, ↓w_rz, ↓w_no, nv_lit, nv_f, nv_add, nv_mul, nv_sub, nv_le, nv_lt, nv_eq, nv_cl, Nat.reduceMod, Nat.reduceMul, Nat.reduceAdd, Nat.zero_add, Nat.add_zero, Nat.mul_zero, decide_eq_true_eq, nv_inT, th_f, th_K, th_N, th_R, th_5, th_2, okn0, Nat.reduceEqDiff, hF.1, hF0.1, X5_in_w, X5_holds_1 hF0.1.1.1 t5 n10, X5_holds_0 hF0.1.1.1 t5, X5_isClaim_0 hF0 hS h]
theorem X5_paired_y {G : Nat → Nat} {a : Hp} {o : Nat} {R : Nat → Int32} (hF : FO G a o R) (hG : GD G) (hS : Sh R) {v x r : Int32} (h : inr v (nC R)) (g : ¬ inr x 2) (Q : Int32 → Hp → Prop) : Wp (X5_paired (G 10) v x r) a Q ↔ Q (nv 0) (th G a (nv 2)) := by
  have hF0 := hF.th hG (nv 0)
  have t5 := th_5 G a (nv 0)
  have h10 := sh_H10 hS
  have h20 := sh_C20 hS
  have h4 := sh_T4 hS
  have hb := bw_0' g (by omega) (show 2 = 1 + 1 from rfl)
  simp (disch := omega) only [X5_paired, X5_paired_45, X5_paired_41, X5_paired_46, X5_paired_63, ↓w_bd, ↓w_rt, ↓w_bh, sm_l, sm_r, ↓w_okr, ↓w_nm, ↓w_ite, ↓reduceIte, not_true_eq_false, not_false_eq_true, and_true, true_and, and_self, Option.some.injEq, reduceCtorEq, eq_self, ↓w_rc, ↓w_gI, ↓w_gR, ↓w_aN, ↓w_aI, ↓w_aR, ↓w_aL, ↓w_pI, ↓w_pR, ↓w_sI, ↓w_sR, ↓w_sL, ↓w_nO, ↓w_nA, ↓w_nL, ↓w_ca, ↓w_ca0, ↓w_gS, ↓w_gK, ↓w_dv, ↓w_tw, ↓w_rz, ↓w_no, nv_lit, nv_f, nv_add, nv_mul, nv_sub, nv_le, nv_lt, nv_eq, nv_cl, Nat.reduceMod, Nat.reduceMul, Nat.reduceAdd, Nat.zero_add, Nat.add_zero, Nat.mul_zero, decide_eq_true_eq, nv_inT, th_f, th_K, th_N, th_R, th_5, th_2, okn0, Nat.reduceEqDiff, hF.1, hF0.1, X5_in_w, X5_holds_1 hF0.1.1.1 t5 n10, X5_holds_0 hF0.1.1.1 t5, X5_isClaim_1 hF0 hS h, hb]
theorem X5_paired_z {G : Nat → Nat} {a : Hp} {o : Nat} {R : Nat → Int32} (hF : FO G a o R) (hG : GD G) (hS : Sh R) {c x : Nat} {r : Int32} (hc : c < nC R) (hx : x < 2) (h : ¬ inr r (nR R (sd R c x))) (Q : Int32 → Hp → Prop) : Wp (X5_paired (G 10) (nv c) (nv x) r) a Q ↔ Q (nv 0) (th G a (nv 1)) := by
  have hF0 := hF.th hG (nv 0)
  have t5 := th_5 G a (nv 0)
  have h10 := sh_H10 hS
  have h20 := sh_C20 hS
  have h4 := sh_T4 hS
  have hh := sh_SH hS hc hx
  have hb := bw_1' (v := nv x) (n := 2) (inr_nv (by omega) (by omega)) (by omega) (show 2 = 1 + 1 from rfl)
  simp (disch := omega) only [X5_paired, X5_paired_45, X5_paired_41, X5_paired_46, X5_paired_63, ↓w_bd, ↓w_rt, ↓w_bh, sm_l, sm_r, ↓w_okr, ↓w_nm, ↓w_ite, ↓reduceIte, not_true_eq_false, not_false_eq_true, and_true, true_and, and_self, Option.some.injEq, reduceCtorEq, eq_self, ↓w_rc, ↓w_gI, ↓w_gR, ↓w_aN, ↓w_aI, ↓w_aR, ↓w_aL, ↓w_pI, ↓w_pR, ↓w_sI, ↓w_sR, ↓w_sL, ↓w_nO, ↓w_nA, ↓w_nL, ↓w_ca, ↓w_ca0, ↓w_gS, ↓w_gK, ↓w_dv, ↓w_tw, ↓w_rz, ↓w_no, nv_lit, nv_f, nv_add, nv_mul, nv_sub, nv_le, nv_lt, nv_eq, nv_cl, Nat.reduceMod, Nat.reduceMul, Nat.reduceAdd, Nat.zero_add, Nat.add_zero, Nat.mul_zero, decide_eq_true_eq, nv_inT, th_f, th_K, th_N, th_R, th_5, th_2, okn0, Nat.reduceEqDiff, hF.1, hF0.1, X5_in_w, X5_holds_1 hF0.1.1.1 t5 n10, X5_holds_0 hF0.1.1.1 t5, X5_isClaim_1 hF0 hS (inr_nv hc (by omega)), hb, n10, X5_sideOf_w hF0 hS, X5_isRow_0 hF0 hS hh h]
theorem op_paired {G : Nat → Nat} {B : Nat → Nat × Nat} {S : Gst} {a : Hp} (hC : JC G B S a) (hT : JT G S a) (v x r : Int32) : OpL G a (X0_paired (some (G 0)) v x r (some (G 20))) (X5_paired (G 10) v x r) := by
  obtain ⟨L, R, hM, hR, hX, hF, -⟩ := start hC hT
  have hG := hC.1.gd
  have hJ := hC.2.1
  have hS := hR.1
  have hP := hR.2.2.1
  have hFs := hR.2.1
  have hs : ∀ i, i < 22 → G i < hSz a := fun i hi => (hC.1 i hi).1
  have h10 := sh_H10 hS
  have h2 := sh_H2 hS
  have h20 := sh_C20 hS
  have h4 := sh_T4 hS
  have h1 := sh_T1 hS
  by_cases h : inr v (nC R)
  · obtain ⟨c, rfl, hc⟩ := inr_k h
    by_cases g : inr x 2
    · have hb := bw_1' g (by omega) (show 2 = 1 + 1 from rfl)
      obtain ⟨x, rfl, hx⟩ := inr_k g
      have hh := sh_SH hS hc hx
      have h5 := sh_R5 hS hh
      have h51 := sh_R1 hS hh
      by_cases hr : inr r (nR R (sd R c x))
      · obtain ⟨r, rfl, hrr⟩ := inr_k hr
        simp (disch := omega) only [X0_paired, X1_paired, X1_paired_43, OpL, ↓w_bd, ↓w_rt, ↓w_bh, sm_l, sm_r, ↓w_okr, ↓w_nm, ↓w_ite, ↓reduceIte, not_true_eq_false, not_false_eq_true, and_true, true_and, and_self, Option.some.injEq, reduceCtorEq, eq_self, ↓w_rc, ↓w_gI, ↓w_gR, ↓w_aN, ↓w_aI, ↓w_aR, ↓w_aL, ↓w_pI, ↓w_pR, ↓w_sI, ↓w_sR, ↓w_sL, ↓w_nO, ↓w_nA, ↓w_nL, ↓w_ca, ↓w_ca0, ↓w_gS, ↓w_gK, ↓w_dv, ↓w_tw, ↓w_rz, ↓w_no, nv_lit, nv_f, nv_add, nv_mul, nv_sub, nv_le, nv_lt, nv_eq, nv_cl, Nat.reduceMod, Nat.reduceMul, Nat.reduceAdd, Nat.zero_add, Nat.add_zero, Nat.mul_zero, decide_eq_true_eq, nv_inT, mk_k hM, mk_n hM, mk_r hM, mk_i hM, hX, hJ, ol_f, X1_isBetween_w, X1_requireArgument_1 n10, X1_requireArgument_0, X1_requireIndex_1 n10, X1_requireIndex_0, Nat.reduceEqDiff, hb, n10, X1_claimOf_1 hM hX, X8_heapOf_w hM hS, X3_at_h hM, ct_44, X1_requireRow_1 hM hh hr, X5_paired_1 (hF.ol _) hG hS hc hx hrr]
        exact post_0 hC hT (E0.rf a) (by omega) (by omega) _
      · simp (disch := omega) only [X0_paired, X1_paired, X1_paired_43, OpL, ↓w_bd, ↓w_rt, ↓w_bh, sm_l, sm_r, ↓w_okr, ↓w_nm, ↓w_ite, ↓reduceIte, not_true_eq_false, not_false_eq_true, and_true, true_and, and_self, Option.some.injEq, reduceCtorEq, eq_self, ↓w_rc, ↓w_gI, ↓w_gR, ↓w_aN, ↓w_aI, ↓w_aR, ↓w_aL, ↓w_pI, ↓w_pR, ↓w_sI, ↓w_sR, ↓w_sL, ↓w_nO, ↓w_nA, ↓w_nL, ↓w_ca, ↓w_ca0, ↓w_gS, ↓w_gK, ↓w_dv, ↓w_tw, ↓w_rz, ↓w_no, nv_lit, nv_f, nv_add, nv_mul, nv_sub, nv_le, nv_lt, nv_eq, nv_cl, Nat.reduceMod, Nat.reduceMul, Nat.reduceAdd, Nat.zero_add, Nat.add_zero, Nat.mul_zero, decide_eq_true_eq, nv_inT, mk_k hM, mk_n hM, mk_r hM, mk_i hM, hX, hJ, ol_f, X1_isBetween_w, X1_requireArgument_1 n10, X1_requireArgument_0, X1_requireIndex_1 n10, X1_requireIndex_0, Nat.reduceEqDiff, hb, n10, X1_claimOf_1 hM hX, X8_heapOf_w hM hS, X3_at_h hM, ct_44, X1_requireRow_0 hM hh h51 hr, X5_paired_z (hF.tw hs) hG hS hc hx hr]
        exact post_x hC hT (tw_e a) (by rw [tw_z]; omega) (by rw [tw_l]; omega) (by omega) (by omega) _
    · have hb := bw_0' g (by omega) (show 2 = 1 + 1 from rfl)
      simp (disch := omega) only [X0_paired, X1_paired, X1_paired_43, OpL, ↓w_bd, ↓w_rt, ↓w_bh, sm_l, sm_r, ↓w_okr, ↓w_nm, ↓w_ite, ↓reduceIte, not_true_eq_false, not_false_eq_true, and_true, true_and, and_self, Option.some.injEq, reduceCtorEq, eq_self, ↓w_rc, ↓w_gI, ↓w_gR, ↓w_aN, ↓w_aI, ↓w_aR, ↓w_aL, ↓w_pI, ↓w_pR, ↓w_sI, ↓w_sR, ↓w_sL, ↓w_nO, ↓w_nA, ↓w_nL, ↓w_ca, ↓w_ca0, ↓w_gS, ↓w_gK, ↓w_dv, ↓w_tw, ↓w_rz, ↓w_no, nv_lit, nv_f, nv_add, nv_mul, nv_sub, nv_le, nv_lt, nv_eq, nv_cl, Nat.reduceMod, Nat.reduceMul, Nat.reduceAdd, Nat.zero_add, Nat.add_zero, Nat.mul_zero, decide_eq_true_eq, nv_inT, mk_k hM, mk_n hM, mk_r hM, mk_i hM, hX, hJ, ol_f, X1_isBetween_w, X1_requireArgument_1 n10, X1_requireArgument_0, X1_requireIndex_1 n10, X1_requireIndex_0, Nat.reduceEqDiff, hb, X1_claimOf_1 hM hX, X5_paired_y (hF.tw hs) hG hS h g]
      exact post_x hC hT (tw_e a) (by rw [tw_z]; omega) (by rw [tw_l]; omega) (by omega) (by omega) _
  · simp (disch := omega) only [X0_paired, X1_paired, X1_paired_43, OpL, ↓w_bd, ↓w_rt, ↓w_bh, sm_l, sm_r, ↓w_okr, ↓w_nm, ↓w_ite, ↓reduceIte, not_true_eq_false, not_false_eq_true, and_true, true_and, and_self, Option.some.injEq, reduceCtorEq, eq_self, ↓w_rc, ↓w_gI, ↓w_gR, ↓w_aN, ↓w_aI, ↓w_aR, ↓w_aL, ↓w_pI, ↓w_pR, ↓w_sI, ↓w_sR, ↓w_sL, ↓w_nO, ↓w_nA, ↓w_nL, ↓w_ca, ↓w_ca0, ↓w_gS, ↓w_gK, ↓w_dv, ↓w_tw, ↓w_rz, ↓w_no, nv_lit, nv_f, nv_add, nv_mul, nv_sub, nv_le, nv_lt, nv_eq, nv_cl, Nat.reduceMod, Nat.reduceMul, Nat.reduceAdd, Nat.zero_add, Nat.add_zero, Nat.mul_zero, decide_eq_true_eq, nv_inT, mk_k hM, mk_n hM, mk_r hM, mk_i hM, hX, hJ, ol_f, X1_isBetween_w, X1_requireArgument_1 n10, X1_requireArgument_0, X1_requireIndex_1 n10, X1_requireIndex_0, Nat.reduceEqDiff, X1_claimOf_0 hM hX h, X5_paired_x (hF.tw hs) hG hS h]
    exact post_x hC hT (tw_e a) (by rw [tw_z]; omega) (by rw [tw_l]; omega) (by omega) (by omega) _
theorem X5_turnsLeft_1 {G : Nat → Nat} {a : Hp} {o : Nat} {R : Nat → Int32} (hF : FO G a o R) (hG : GD G) (hS : Sh R) {c : Nat} (hc : c < nC R) (ho : cs R c 4 = nv 0) (Q : Int32 → Hp → Prop) : Wp (X5_turnsLeft (G 10) (nv c)) a Q ↔ Q (mn (lf R c 0) (lf R c 1)) (th G a (nv 0)) := by
  have hF0 := hF.th hG (nv 0)
  have t5 := th_5 G a (nv 0)
  have h10 := sh_H10 hS
  have h20 := sh_C20 hS
  have h4 := sh_T4 hS
  simp (disch := omega) only [X5_turnsLeft, X5_turnsLeft_44, X5_turnsLeft_45, ↓w_bd, ↓w_rt, ↓w_bh, sm_l, sm_r, ↓w_okr, ↓w_nm, ↓w_ite, ↓reduceIte, not_true_eq_false, not_false_eq_true, and_true, true_and, and_self, Option.some.injEq, reduceCtorEq, eq_self, ↓w_rc, ↓w_gI, ↓w_gR, ↓w_aN, ↓w_aI, ↓w_aR, ↓w_aL, ↓w_pI, ↓w_pR, ↓w_sI, ↓w_sR, ↓w_sL, ↓w_nO, ↓w_nA, ↓w_nL, ↓w_ca, ↓w_ca0, ↓w_gS, ↓w_gK, ↓w_dv, ↓w_tw, ↓w_rz, ↓w_no, nv_lit, nv_f, nv_add, nv_mul, nv_sub, nv_le, nv_lt, nv_eq, nv_cl, Nat.reduceMod, Nat.reduceMul, Nat.reduceAdd, Nat.zero_add, Nat.add_zero, Nat.mul_zero, decide_eq_true_eq, nv_inT, th_f, th_K, th_N, th_R, th_5, th_2, okn0, Nat.reduceEqDiff, hF.1, hF0.1, X5_in_w, X5_holds_1 hF0.1.1.1 t5 n10, X5_holds_0 hF0.1.1.1 t5, X5_isClaim_1 hF0 hS (inr_nv hc (by omega)), X5_isOpen_1 hF0 (c := c) (by omega) ho, i1z, n10, X5_leftOf_w hF0 hS, J12_min_w, show ¬ (1 : Int32) = nv 0 by decide]
theorem X5_turnsLeft_0 {G : Nat → Nat} {a : Hp} {o : Nat} {R : Nat → Int32} (hF : FO G a o R) (hG : GD G) (hS : Sh R) {c : Nat} (hc : c < nC R) (ho : ¬ cs R c 4 = nv 0) (Q : Int32 → Hp → Prop) : Wp (X5_turnsLeft (G 10) (nv c)) a Q ↔ Q (nv 0) (th G a (nv 0)) := by
  have hF0 := hF.th hG (nv 0)
  have t5 := th_5 G a (nv 0)
  have h10 := sh_H10 hS
  have h20 := sh_C20 hS
  have h4 := sh_T4 hS
  simp (disch := omega) only [X5_turnsLeft, X5_turnsLeft_44, X5_turnsLeft_45, ↓w_bd, ↓w_rt, ↓w_bh, sm_l, sm_r, ↓w_okr, ↓w_nm, ↓w_ite, ↓reduceIte, not_true_eq_false, not_false_eq_true, and_true, true_and, and_self, Option.some.injEq, reduceCtorEq, eq_self, ↓w_rc, ↓w_gI, ↓w_gR, ↓w_aN, ↓w_aI, ↓w_aR, ↓w_aL, ↓w_pI, ↓w_pR, ↓w_sI, ↓w_sR, ↓w_sL, ↓w_nO, ↓w_nA, ↓w_nL, ↓w_ca, ↓w_ca0, ↓w_gS, ↓w_gK, ↓w_dv, ↓w_tw, ↓w_rz, ↓w_no, nv_lit, nv_f, nv_add, nv_mul, nv_sub, nv_le, nv_lt, nv_eq, nv_cl, Nat.reduceMod, Nat.reduceMul, Nat.reduceAdd, Nat.zero_add, Nat.add_zero, Nat.mul_zero, decide_eq_true_eq, nv_inT, th_f, th_K, th_N, th_R, th_5, th_2, okn0, Nat.reduceEqDiff, hF.1, hF0.1, X5_in_w, X5_holds_1 hF0.1.1.1 t5 n10, X5_holds_0 hF0.1.1.1 t5, X5_isClaim_1 hF0 hS (inr_nv hc (by omega)), X5_isOpen_0 hF0 (c := c) (by omega) ho, n10]
theorem X5_turnsLeft_x {G : Nat → Nat} {a : Hp} {o : Nat} {R : Nat → Int32} (hF : FO G a o R) (hG : GD G) (hS : Sh R) {v : Int32} (h : ¬ inr v (nC R)) (Q : Int32 → Hp → Prop) : Wp (X5_turnsLeft (G 10) v) a Q ↔ Q (nv 0) (th G a (nv 1)) := by
  have hF0 := hF.th hG (nv 0)
  have t5 := th_5 G a (nv 0)
  have h10 := sh_H10 hS
  have h20 := sh_C20 hS
  have h4 := sh_T4 hS
  simp (disch := omega) only [X5_turnsLeft, X5_turnsLeft_44, X5_turnsLeft_45, ↓w_bd, ↓w_rt, ↓w_bh, sm_l, sm_r, ↓w_okr, ↓w_nm, ↓w_ite, ↓reduceIte, not_true_eq_false, not_false_eq_true, and_true, true_and, and_self, Option.some.injEq, reduceCtorEq, eq_self, ↓w_rc, ↓w_gI, ↓w_gR, ↓w_aN, ↓w_aI, ↓w_aR, ↓w_aL, ↓w_pI, ↓w_pR, ↓w_sI, ↓w_sR, ↓w_sL, ↓w_nO, ↓w_nA, ↓w_nL, ↓w_ca, ↓w_ca0, ↓w_gS, ↓w_gK, ↓w_dv, ↓w_tw, ↓w_rz, ↓w_no, nv_lit, nv_f, nv_add, nv_mul, nv_sub, nv_le, nv_lt, nv_eq, nv_cl, Nat.reduceMod, Nat.reduceMul, Nat.reduceAdd, Nat.zero_add, Nat.add_zero, Nat.mul_zero, decide_eq_true_eq, nv_inT, th_f, th_K, th_N, th_R, th_5, th_2, okn0, Nat.reduceEqDiff, hF.1, hF0.1, X5_in_w, X5_holds_1 hF0.1.1.1 t5 n10, X5_holds_0 hF0.1.1.1 t5, X5_isClaim_0 hF0 hS h]
theorem op_turnsLeft {G : Nat → Nat} {B : Nat → Nat × Nat} {S : Gst} {a : Hp} (hC : JC G B S a) (hT : JT G S a) (v : Int32) : OpL G a (X0_turnsLeft (some (G 0)) v (some (G 20))) (X5_turnsLeft (G 10) v) := by
  obtain ⟨L, R, hM, hR, hX, hF, -⟩ := start hC hT
  have hG := hC.1.gd
  have hJ := hC.2.1
  have hS := hR.1
  have hP := hR.2.2.1
  have hFs := hR.2.1
  have hs : ∀ i, i < 22 → G i < hSz a := fun i hi => (hC.1 i hi).1
  have h10 := sh_H10 hS
  have h2 := sh_H2 hS
  have h20 := sh_C20 hS
  have h4 := sh_T4 hS
  have h1 := sh_T1 hS
  by_cases h : inr v (nC R)
  · obtain ⟨c, rfl, hc⟩ := inr_k h
    by_cases ho : cs R c 4 = nv 0
    · simp (disch := omega) only [X0_turnsLeft, X1_turnsLeft, X1_turnsLeft_38, OpL, ↓w_bd, ↓w_rt, ↓w_bh, sm_l, sm_r, ↓w_okr, ↓w_nm, ↓w_ite, ↓reduceIte, not_true_eq_false, not_false_eq_true, and_true, true_and, and_self, Option.some.injEq, reduceCtorEq, eq_self, ↓w_rc, ↓w_gI, ↓w_gR, ↓w_aN, ↓w_aI, ↓w_aR, ↓w_aL, ↓w_pI, ↓w_pR, ↓w_sI, ↓w_sR, ↓w_sL, ↓w_nO, ↓w_nA, ↓w_nL, ↓w_ca, ↓w_ca0, ↓w_gS, ↓w_gK, ↓w_dv, ↓w_tw, ↓w_rz, ↓w_no, nv_lit, nv_f, nv_add, nv_mul, nv_sub, nv_le, nv_lt, nv_eq, nv_cl, Nat.reduceMod, Nat.reduceMul, Nat.reduceAdd, Nat.zero_add, Nat.add_zero, Nat.mul_zero, decide_eq_true_eq, nv_inT, mk_k hM, mk_n hM, mk_r hM, mk_i hM, hX, hJ, ol_f, X1_isBetween_w, X1_requireArgument_1 n10, X1_requireArgument_0, X1_requireIndex_1 n10, X1_requireIndex_0, Nat.reduceEqDiff, n10, X1_claimOf_1 hM hX, X8_isOpen_c1 hM hc ho, X2_left_2_w hM hS hP, J12_min_w, X5_turnsLeft_1 (hF.ol _) hG hS hc ho]
      exact post_0 hC hT (E0.rf a) (by omega) (by omega) _
    · simp (disch := omega) only [X0_turnsLeft, X1_turnsLeft, X1_turnsLeft_38, OpL, ↓w_bd, ↓w_rt, ↓w_bh, sm_l, sm_r, ↓w_okr, ↓w_nm, ↓w_ite, ↓reduceIte, not_true_eq_false, not_false_eq_true, and_true, true_and, and_self, Option.some.injEq, reduceCtorEq, eq_self, ↓w_rc, ↓w_gI, ↓w_gR, ↓w_aN, ↓w_aI, ↓w_aR, ↓w_aL, ↓w_pI, ↓w_pR, ↓w_sI, ↓w_sR, ↓w_sL, ↓w_nO, ↓w_nA, ↓w_nL, ↓w_ca, ↓w_ca0, ↓w_gS, ↓w_gK, ↓w_dv, ↓w_tw, ↓w_rz, ↓w_no, nv_lit, nv_f, nv_add, nv_mul, nv_sub, nv_le, nv_lt, nv_eq, nv_cl, Nat.reduceMod, Nat.reduceMul, Nat.reduceAdd, Nat.zero_add, Nat.add_zero, Nat.mul_zero, decide_eq_true_eq, nv_inT, mk_k hM, mk_n hM, mk_r hM, mk_i hM, hX, hJ, ol_f, X1_isBetween_w, X1_requireArgument_1 n10, X1_requireArgument_0, X1_requireIndex_1 n10, X1_requireIndex_0, Nat.reduceEqDiff, X1_claimOf_1 hM hX, X8_isOpen_c0 hM hc ho, X5_turnsLeft_0 (hF.ol _) hG hS hc ho]
      exact post_0 hC hT (E0.rf a) (by omega) (by omega) _
  · simp (disch := omega) only [X0_turnsLeft, X1_turnsLeft, X1_turnsLeft_38, OpL, ↓w_bd, ↓w_rt, ↓w_bh, sm_l, sm_r, ↓w_okr, ↓w_nm, ↓w_ite, ↓reduceIte, not_true_eq_false, not_false_eq_true, and_true, true_and, and_self, Option.some.injEq, reduceCtorEq, eq_self, ↓w_rc, ↓w_gI, ↓w_gR, ↓w_aN, ↓w_aI, ↓w_aR, ↓w_aL, ↓w_pI, ↓w_pR, ↓w_sI, ↓w_sR, ↓w_sL, ↓w_nO, ↓w_nA, ↓w_nL, ↓w_ca, ↓w_ca0, ↓w_gS, ↓w_gK, ↓w_dv, ↓w_tw, ↓w_rz, ↓w_no, nv_lit, nv_f, nv_add, nv_mul, nv_sub, nv_le, nv_lt, nv_eq, nv_cl, Nat.reduceMod, Nat.reduceMul, Nat.reduceAdd, Nat.zero_add, Nat.add_zero, Nat.mul_zero, decide_eq_true_eq, nv_inT, mk_k hM, mk_n hM, mk_r hM, mk_i hM, hX, hJ, ol_f, X1_isBetween_w, X1_requireArgument_1 n10, X1_requireArgument_0, X1_requireIndex_1 n10, X1_requireIndex_0, Nat.reduceEqDiff, X1_claimOf_0 hM hX h, X5_turnsLeft_x (hF.tw hs) hG hS h]
    exact post_x hC hT (tw_e a) (by rw [tw_z]; omega) (by rw [tw_l]; omega) (by omega) (by omega) _
theorem op_refusals {G : Nat → Nat} {B : Nat → Nat × Nat} {S : Gst} {a : Hp} (hC : JC G B S a) (hT : JT G S a) (v : Int32) : OpL G a (X0_refusals (some (G 0)) v (some (G 20))) (X5_refusals (G 10) v) := by
  obtain ⟨L, R, hM, hR, hX, hF, -⟩ := start hC hT
  have hG := hC.1.gd
  have hJ := hC.2.1
  have hS := hR.1
  have hP := hR.2.2.1
  have hFs := hR.2.1
  have hs : ∀ i, i < 22 → G i < hSz a := fun i hi => (hC.1 i hi).1
  have h10 := sh_H10 hS
  have h2 := sh_H2 hS
  have h20 := sh_C20 hS
  have h4 := sh_T4 hS
  have h1 := sh_T1 hS
  have hb := bw_ab (v := v) (x := 1) (y := 9) (by omega) (by omega)
  by_cases h : ((1 : Nat) : Int) ≤ v.toInt ∧ v.toInt ≤ (9 : Nat)
  · rw [if_pos h] at hb
    obtain ⟨k, rfl, hk⟩ := inr_k (v := v) (n := 10) ⟨by omega, by omega⟩
    have e1 := hC.2.2.2.2.2.1 k hk
    have e2 := hT.2.2.2.2.2.1 k hk
    have hF0 := (hF.ol (gf S k)).th hG (nv 0)
    have t5 := th_5 G (ol G a (gf S k)) (nv 0)
    have e3 : hI (th G (ol G a (gf S k)) (nv 0)) (G 13) k = gf S k := by
      rw [th_o _ _ _ (hG.ne (by omega) (by omega) (by omega))]
      exact e2
    simp (disch := omega) only [X0_refusals, X1_refusals, OpL, ↓w_bd, ↓w_rt, ↓w_bh, sm_l, sm_r, ↓w_okr, ↓w_nm, ↓w_ite, ↓reduceIte, not_true_eq_false, not_false_eq_true, and_true, true_and, and_self, Option.some.injEq, reduceCtorEq, eq_self, ↓w_rc, ↓w_gI, ↓w_gR, ↓w_aN, ↓w_aI, ↓w_aR, ↓w_aL, ↓w_pI, ↓w_pR, ↓w_sI, ↓w_sR, ↓w_sL, ↓w_nO, ↓w_nA, ↓w_nL, ↓w_ca, ↓w_ca0, ↓w_gS, ↓w_gK, ↓w_dv, ↓w_tw, ↓w_rz, ↓w_no, nv_lit, nv_f, nv_add, nv_mul, nv_sub, nv_le, nv_lt, nv_eq, nv_cl, Nat.reduceMod, Nat.reduceMul, Nat.reduceAdd, Nat.zero_add, Nat.add_zero, Nat.mul_zero, decide_eq_true_eq, nv_inT, mk_k hM, mk_n hM, mk_r hM, mk_i hM, hX, hJ, ol_f, X1_isBetween_w, X1_requireArgument_1 n10, X1_requireArgument_0, X1_requireIndex_1 n10, X1_requireIndex_0, Nat.reduceEqDiff, hb, e1]
    simp (disch := omega) only [X5_refusals, X5_refusals_30, ↓w_bd, ↓w_rt, ↓w_bh, sm_l, sm_r, ↓w_okr, ↓w_nm, ↓w_ite, ↓reduceIte, not_true_eq_false, not_false_eq_true, and_true, true_and, and_self, Option.some.injEq, reduceCtorEq, eq_self, ↓w_rc, ↓w_gI, ↓w_gR, ↓w_aN, ↓w_aI, ↓w_aR, ↓w_aL, ↓w_pI, ↓w_pR, ↓w_sI, ↓w_sR, ↓w_sL, ↓w_nO, ↓w_nA, ↓w_nL, ↓w_ca, ↓w_ca0, ↓w_gS, ↓w_gK, ↓w_dv, ↓w_tw, ↓w_rz, ↓w_no, nv_lit, nv_f, nv_add, nv_mul, nv_sub, nv_le, nv_lt, nv_eq, nv_cl, Nat.reduceMod, Nat.reduceMul, Nat.reduceAdd, Nat.zero_add, Nat.add_zero, Nat.mul_zero, decide_eq_true_eq, nv_inT, th_f, th_K, th_N, th_R, th_5, th_2, okn0, Nat.reduceEqDiff, hF.1, hF0.1, X5_in_w, X5_holds_1 hF0.1.1.1 t5 n10, hb, e3, (hF.ol (gf S k)).1, n10]
    exact post_0 hC hT (E0.rf a) (by omega) (by omega) _
  · rw [if_neg h] at hb
    have hF0 := (hF.tw hs).th hG (nv 0)
    have t5 := th_5 G (tw_ a) (nv 0)
    simp (disch := omega) only [X0_refusals, X1_refusals, OpL, ↓w_bd, ↓w_rt, ↓w_bh, sm_l, sm_r, ↓w_okr, ↓w_nm, ↓w_ite, ↓reduceIte, not_true_eq_false, not_false_eq_true, and_true, true_and, and_self, Option.some.injEq, reduceCtorEq, eq_self, ↓w_rc, ↓w_gI, ↓w_gR, ↓w_aN, ↓w_aI, ↓w_aR, ↓w_aL, ↓w_pI, ↓w_pR, ↓w_sI, ↓w_sR, ↓w_sL, ↓w_nO, ↓w_nA, ↓w_nL, ↓w_ca, ↓w_ca0, ↓w_gS, ↓w_gK, ↓w_dv, ↓w_tw, ↓w_rz, ↓w_no, nv_lit, nv_f, nv_add, nv_mul, nv_sub, nv_le, nv_lt, nv_eq, nv_cl, Nat.reduceMod, Nat.reduceMul, Nat.reduceAdd, Nat.zero_add, Nat.add_zero, Nat.mul_zero, decide_eq_true_eq, nv_inT, mk_k hM, mk_n hM, mk_r hM, mk_i hM, hX, hJ, ol_f, X1_isBetween_w, X1_requireArgument_1 n10, X1_requireArgument_0, X1_requireIndex_1 n10, X1_requireIndex_0, Nat.reduceEqDiff, hb]
    simp (disch := omega) only [X5_refusals, X5_refusals_30, ↓w_bd, ↓w_rt, ↓w_bh, sm_l, sm_r, ↓w_okr, ↓w_nm, ↓w_ite, ↓reduceIte, not_true_eq_false, not_false_eq_true, and_true, true_and, and_self, Option.some.injEq, reduceCtorEq, eq_self, ↓w_rc, ↓w_gI, ↓w_gR, ↓w_aN, ↓w_aI, ↓w_aR, ↓w_aL, ↓w_pI, ↓w_pR, ↓w_sI, ↓w_sR, ↓w_sL, ↓w_nO, ↓w_nA, ↓w_nL, ↓w_ca, ↓w_ca0, ↓w_gS, ↓w_gK, ↓w_dv, ↓w_tw, ↓w_rz, ↓w_no, nv_lit, nv_f, nv_add, nv_mul, nv_sub, nv_le, nv_lt, nv_eq, nv_cl, Nat.reduceMod, Nat.reduceMul, Nat.reduceAdd, Nat.zero_add, Nat.add_zero, Nat.mul_zero, decide_eq_true_eq, nv_inT, th_f, th_K, th_N, th_R, th_5, th_2, okn0, Nat.reduceEqDiff, (hF.tw hs).1, hF0.1, X5_in_w, X5_holds_0 hF0.1.1.1 t5, hb]
    exact post_x hC hT (tw_e a) (by rw [tw_z]; omega) (by rw [tw_l]; omega) (by omega) (by omega) _
