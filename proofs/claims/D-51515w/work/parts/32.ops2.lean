theorem X5_ownedBy_n0 {G : Nat → Nat} {a : Hp} {o : Nat} {R : Nat → Int32} (hF : FO G a o R) (hS : Sh R) (t : Int32) (Q : Int32 → Hp → Prop) : Wp (X5_ownedBy (G 10) t (nv 0)) a Q ↔ Q (ob R t) a := X5_ownedBy_w0 hF hS t Q
theorem X5_ownedBy_n1 {G : Nat → Nat} {a : Hp} {o : Nat} {R : Nat → Int32} (hF : FO G a o R) (hS : Sh R) (t : Int32) (Q : Int32 → Hp → Prop) : Wp (X5_ownedBy (G 10) t (nv 1)) a Q ↔ Q (os R t) a := X5_ownedBy_w1 hF hS t Q
theorem X5_claimsOf_n1 {G : Nat → Nat} {a : Hp} {o : Nat} {R : Nat → Int32} (hF : FO G a o R) (hS : Sh R) (t : Int32) (Q : Int32 → Hp → Prop) : Wp (X5_claimsOf (G 10) t (-nv 1)) a Q ↔ Q (co R t) a := X5_claimsOf_w1 hF hS t Q
/-! lambdas laid and counted -/
theorem cnt_63 {B : Nat → Nat × Nat} {a : Hp} {L : Nat → Nat} {R : Nat → Int32} (hM : Mk B a L R) (v : Int32) (Q : Int32 → Hp → Prop) : Wp (X1_countOf (some (L 1)) (some (hSz a))) (hNew a 63 0 1 (fun j => if j = 0 then v else nv 0) (fun _ => none)) Q ↔ Q (ob R v) (hNew a 63 0 1 (fun j => if j = 0 then v else nv 0) (fun _ => none)) := by
  have hM2 := hM.ext (B' := B) ((E0.rf a).new 63 0 1 (fun j => if j = 0 then v else nv 0) (fun _ => none)) (fun _ _ => rfl)
  have hq : hK (hNew a 63 0 1 (fun j => if j = 0 then v else nv 0) (fun _ => none)) (hSz a) = 63 := by rw [hK_new, up1_s]
  have hv : hI (hNew a 63 0 1 (fun j => if j = 0 then v else nv 0) (fun _ => none)) (hSz a) 0 = v := by rw [hI_new, up1_s]; rfl
  exact X1_countOf_h hM2 (g := fun c => if R (15 + 7 * c) = v then nv 1 else nv 0) (q := hSz a) (fun c hc Q => lm63 hM2 hq hv hc Q) (fun c _ => by (repeat' split) <;> simp []) Q
theorem sum_64 {B : Nat → Nat × Nat} {a : Hp} {L : Nat → Nat} {R : Nat → Int32} (hM : Mk B a L R) (v : Int32) (Q : Int32 → Hp → Prop) : Wp (X1_sumOf (some (L 1)) (some (hSz a))) (hNew a 64 0 1 (fun j => if j = 0 then v else nv 0) (fun _ => none)) Q ↔ Q (os R v) (hNew a 64 0 1 (fun j => if j = 0 then v else nv 0) (fun _ => none)) := by
  have hM2 := hM.ext (B' := B) ((E0.rf a).new 64 0 1 (fun j => if j = 0 then v else nv 0) (fun _ => none)) (fun _ _ => rfl)
  have hq : hK (hNew a 64 0 1 (fun j => if j = 0 then v else nv 0) (fun _ => none)) (hSz a) = 64 := by rw [hK_new, up1_s]
  have hv : hI (hNew a 64 0 1 (fun j => if j = 0 then v else nv 0) (fun _ => none)) (hSz a) 0 = v := by rw [hI_new, up1_s]; rfl
  exact X1_sumOf_h hM2 (g := fun c => if R (15 + 7 * c) = v then sz R c else nv 0) (q := hSz a) (fun c hc Q => lm64 hM2 hq hv hc Q) Q
theorem cnt_65 {B : Nat → Nat × Nat} {a : Hp} {L : Nat → Nat} {R : Nat → Int32} (hM : Mk B a L R) (v : Int32) (Q : Int32 → Hp → Prop) : Wp (X1_countOf (some (L 2)) (some (hSz a))) (hNew a 65 0 1 (fun j => if j = 0 then v else nv 0) (fun _ => none)) Q ↔ Q (co R v) (hNew a 65 0 1 (fun j => if j = 0 then v else nv 0) (fun _ => none)) := by
  have hM2 := hM.ext (B' := B) ((E0.rf a).new 65 0 1 (fun j => if j = 0 then v else nv 0) (fun _ => none)) (fun _ _ => rfl)
  have hq : hK (hNew a 65 0 1 (fun j => if j = 0 then v else nv 0) (fun _ => none)) (hSz a) = 65 := by rw [hK_new, up1_s]
  have hv : hI (hNew a 65 0 1 (fun j => if j = 0 then v else nv 0) (fun _ => none)) (hSz a) 0 = v := by rw [hI_new, up1_s]; rfl
  exact X1_countOf_c hM2 (g := fun c => if cs R c 0 = v then nv 1 else nv 0) (q := hSz a) (fun c hc Q => lm65 hM2 hq hv hc Q) (fun c _ => by (repeat' split) <;> simp []) Q
theorem cnt_66 {B : Nat → Nat × Nat} {a : Hp} {L : Nat → Nat} {R : Nat → Int32} (hM : Mk B a L R) (v w : Int32) (Q : Int32 → Hp → Prop) : Wp (X1_countOf (some (L 2)) (some (hSz a))) (hNew a 66 0 2 (fun j => if j = 0 then v else if j = 1 then w else nv 0) (fun _ => none)) Q ↔ Q (cos R v (w - nv 3)) (hNew a 66 0 2 (fun j => if j = 0 then v else if j = 1 then w else nv 0) (fun _ => none)) := by
  have hM2 := hM.ext (B' := B) ((E0.rf a).new 66 0 2 (fun j => if j = 0 then v else if j = 1 then w else nv 0) (fun _ => none)) (fun _ _ => rfl)
  have hq : hK (hNew a 66 0 2 (fun j => if j = 0 then v else if j = 1 then w else nv 0) (fun _ => none)) (hSz a) = 66 := by rw [hK_new, up1_s]
  have hv : hI (hNew a 66 0 2 (fun j => if j = 0 then v else if j = 1 then w else nv 0) (fun _ => none)) (hSz a) 0 = v := by rw [hI_new, up1_s]; rfl
  have hw : hI (hNew a 66 0 2 (fun j => if j = 0 then v else if j = 1 then w else nv 0) (fun _ => none)) (hSz a) 1 = w := by rw [hI_new, up1_s]; rfl
  exact X1_countOf_c hM2 (g := fun c => if cs R c 0 = v then (if cs R c 4 = w - nv 3 then nv 1 else nv 0) else nv 0) (q := hSz a) (fun c hc Q => lm66 hM2 hq hv hw hc Q) (fun c _ => by (repeat' split) <;> simp []) Q
theorem cnt_67 {B : Nat → Nat × Nat} {a : Hp} {L : Nat → Nat} {R : Nat → Int32} (hM : Mk B a L R) (v : Int32) (Q : Int32 → Hp → Prop) : Wp (X1_countOf (some (L 2)) (some (hSz a))) (hNew a 67 0 1 (fun j => if j = 0 then v else nv 0) (fun _ => none)) Q ↔ Q (opw R v) (hNew a 67 0 1 (fun j => if j = 0 then v else nv 0) (fun _ => none)) := by
  have hM2 := hM.ext (B' := B) ((E0.rf a).new 67 0 1 (fun j => if j = 0 then v else nv 0) (fun _ => none)) (fun _ _ => rfl)
  have hq : hK (hNew a 67 0 1 (fun j => if j = 0 then v else nv 0) (fun _ => none)) (hSz a) = 67 := by rw [hK_new, up1_s]
  have hv : hI (hNew a 67 0 1 (fun j => if j = 0 then v else nv 0) (fun _ => none)) (hSz a) 0 = v := by rw [hI_new, up1_s]; rfl
  exact X1_countOf_c hM2 (g := fun c => if cs R c 4 = 0 then (if cs R c 1 = v then nv 1 else if cs R c 2 = v then nv 1 else nv 0) else nv 0) (q := hSz a) (fun c hc Q => lm67 hM2 hq hv hc Q) (fun c _ => by (repeat' split) <;> simp []) Q
theorem new_z (a : Hp) (k n sl : Nat) (fI : Nat → Int32) (fR : Nat → Option Nat) : hSz (hNew a k n sl fI fR) = hSz a + 1 := rfl
/-- a lambda laid: growth -/
def lz (a : Hp) (k n : Nat) (fI : Nat → Int32) : Hp := hNew a k 0 n fI (fun _ => none)
theorem X5_trader_0 {G : Nat → Nat} {a : Hp} {o : Nat} {R : Nat → Int32} (hF : FO G a o R) (hG : GD G) (hS : Sh R) {k : Nat} (hk : k < nT R) (Q : Int32 → Hp → Prop) : Wp (X5_trader (G 10) (nv k) (nv 0)) a Q ↔ Q (R (11 + k)) (th G a (nv 0)) := by
  have hF0 := hF.th hG (nv 0)
  have t5 := th_5 G a (nv 0)
  have h10 := sh_H10 hS
  have h20 := sh_C20 hS
  have h4 := sh_T4 hS
  have hb := bw_1' (v := nv 0) (n := 6) (inr_nv (by omega) (by omega)) (by omega) (show 6 = 5 + 1 from rfl)
  have hr : ((nv 0).toInt < 0 ∨ 3 < (nv 0).toInt) = False := by apply propext; decide
  simp (disch := omega) only [X5_trader, X5_trader_32, ↓w_bd, ↓w_rt, ↓w_bh, sm_l, sm_r, ↓w_okr, ↓w_nm, ↓w_ite, ↓reduceIte, not_true_eq_false, not_false_eq_true, and_true, true_and, and_self, Option.some.injEq, reduceCtorEq, eq_self, ↓w_rc, ↓w_gI, ↓w_gR, ↓w_aN, ↓w_aI, ↓w_aR, ↓w_aL, ↓w_pI, ↓w_pR, ↓w_sI, ↓w_sR, ↓w_sL, ↓w_nO, ↓w_nA, ↓w_nL, ↓w_ca, ↓w_ca0, ↓w_gS, ↓w_gK, ↓w_dv, ↓w_tw, ↓w_rz, ↓w_no, nv_lit, nv_f, nv_add, nv_mul, nv_sub, nv_le, nv_lt, nv_eq, nv_cl, Nat.reduceMod, Nat.reduceMul, Nat.reduceAdd, Nat.zero_add, Nat.add_zero, Nat.mul_zero, decide_eq_true_eq, nv_inT, th_f, th_K, th_N, th_R, th_5, th_2, okn0, Nat.reduceEqDiff, hF.1, hF0.1, X5_in_w, X5_holds_1 hF0.1.1.1 t5 n10, X5_holds_0 hF0.1.1.1 t5, X5_isTrader_1 hF0 hS (inr_nv hk (by omega)), hb, hr, X5_get_w hF0]
theorem X5_trader_1 {G : Nat → Nat} {a : Hp} {o : Nat} {R : Nat → Int32} (hF : FO G a o R) (hG : GD G) (hS : Sh R) {k : Nat} (hk : k < nT R) (Q : Int32 → Hp → Prop) : Wp (X5_trader (G 10) (nv k) (nv 1)) a Q ↔ Q (ob R (nv k)) (th G a (nv 0)) := by
  have hF0 := hF.th hG (nv 0)
  have t5 := th_5 G a (nv 0)
  have h10 := sh_H10 hS
  have h20 := sh_C20 hS
  have h4 := sh_T4 hS
  have hb := bw_1' (v := nv 1) (n := 6) (inr_nv (by omega) (by omega)) (by omega) (show 6 = 5 + 1 from rfl)
  have hr : ((nv 1).toInt < 0 ∨ 3 < (nv 1).toInt) = False := by apply propext; decide
  simp (disch := omega) only [X5_trader, X5_trader_32, ↓w_bd, ↓w_rt, ↓w_bh, sm_l, sm_r, ↓w_okr, ↓w_nm, ↓w_ite, ↓reduceIte, not_true_eq_false, not_false_eq_true, and_true, true_and, and_self, Option.some.injEq, reduceCtorEq, eq_self, ↓w_rc, ↓w_gI, ↓w_gR, ↓w_aN, ↓w_aI, ↓w_aR, ↓w_aL, ↓w_pI, ↓w_pR, ↓w_sI, ↓w_sR, ↓w_sL, ↓w_nO, ↓w_nA, ↓w_nL, ↓w_ca, ↓w_ca0, ↓w_gS, ↓w_gK, ↓w_dv, ↓w_tw, ↓w_rz, ↓w_no, nv_lit, nv_f, nv_add, nv_mul, nv_sub, nv_le, nv_lt, nv_eq, nv_cl, Nat.reduceMod, Nat.reduceMul, Nat.reduceAdd, Nat.zero_add, Nat.add_zero, Nat.mul_zero, decide_eq_true_eq, nv_inT, th_f, th_K, th_N, th_R, th_5, th_2, okn0, Nat.reduceEqDiff, hF.1, hF0.1, X5_in_w, X5_holds_1 hF0.1.1.1 t5 n10, X5_holds_0 hF0.1.1.1 t5, X5_isTrader_1 hF0 hS (inr_nv hk (by omega)), hb, hr, X5_ownedBy_n0 hF0 hS]
theorem X5_trader_2 {G : Nat → Nat} {a : Hp} {o : Nat} {R : Nat → Int32} (hF : FO G a o R) (hG : GD G) (hS : Sh R) {k : Nat} (hk : k < nT R) (Q : Int32 → Hp → Prop) : Wp (X5_trader (G 10) (nv k) (nv 2)) a Q ↔ Q (os R (nv k)) (th G a (nv 0)) := by
  have hF0 := hF.th hG (nv 0)
  have t5 := th_5 G a (nv 0)
  have h10 := sh_H10 hS
  have h20 := sh_C20 hS
  have h4 := sh_T4 hS
  have hb := bw_1' (v := nv 2) (n := 6) (inr_nv (by omega) (by omega)) (by omega) (show 6 = 5 + 1 from rfl)
  have hr : ((nv 2).toInt < 0 ∨ 3 < (nv 2).toInt) = False := by apply propext; decide
  simp (disch := omega) only [X5_trader, X5_trader_32, ↓w_bd, ↓w_rt, ↓w_bh, sm_l, sm_r, ↓w_okr, ↓w_nm, ↓w_ite, ↓reduceIte, not_true_eq_false, not_false_eq_true, and_true, true_and, and_self, Option.some.injEq, reduceCtorEq, eq_self, ↓w_rc, ↓w_gI, ↓w_gR, ↓w_aN, ↓w_aI, ↓w_aR, ↓w_aL, ↓w_pI, ↓w_pR, ↓w_sI, ↓w_sR, ↓w_sL, ↓w_nO, ↓w_nA, ↓w_nL, ↓w_ca, ↓w_ca0, ↓w_gS, ↓w_gK, ↓w_dv, ↓w_tw, ↓w_rz, ↓w_no, nv_lit, nv_f, nv_add, nv_mul, nv_sub, nv_le, nv_lt, nv_eq, nv_cl, Nat.reduceMod, Nat.reduceMul, Nat.reduceAdd, Nat.zero_add, Nat.add_zero, Nat.mul_zero, decide_eq_true_eq, nv_inT, th_f, th_K, th_N, th_R, th_5, th_2, okn0, Nat.reduceEqDiff, hF.1, hF0.1, X5_in_w, X5_holds_1 hF0.1.1.1 t5 n10, X5_holds_0 hF0.1.1.1 t5, X5_isTrader_1 hF0 hS (inr_nv hk (by omega)), hb, hr, X5_ownedBy_n1 hF0 hS]
theorem X5_trader_3 {G : Nat → Nat} {a : Hp} {o : Nat} {R : Nat → Int32} (hF : FO G a o R) (hG : GD G) (hS : Sh R) {k : Nat} (hk : k < nT R) (Q : Int32 → Hp → Prop) : Wp (X5_trader (G 10) (nv k) (nv 3)) a Q ↔ Q (co R (nv k)) (th G a (nv 0)) := by
  have hF0 := hF.th hG (nv 0)
  have t5 := th_5 G a (nv 0)
  have h10 := sh_H10 hS
  have h20 := sh_C20 hS
  have h4 := sh_T4 hS
  have hb := bw_1' (v := nv 3) (n := 6) (inr_nv (by omega) (by omega)) (by omega) (show 6 = 5 + 1 from rfl)
  have hr : ((nv 3).toInt < 0 ∨ 3 < (nv 3).toInt) = False := by apply propext; decide
  simp (disch := omega) only [X5_trader, X5_trader_32, ↓w_bd, ↓w_rt, ↓w_bh, sm_l, sm_r, ↓w_okr, ↓w_nm, ↓w_ite, ↓reduceIte, not_true_eq_false, not_false_eq_true, and_true, true_and, and_self, Option.some.injEq, reduceCtorEq, eq_self, ↓w_rc, ↓w_gI, ↓w_gR, ↓w_aN, ↓w_aI, ↓w_aR, ↓w_aL, ↓w_pI, ↓w_pR, ↓w_sI, ↓w_sR, ↓w_sL, ↓w_nO, ↓w_nA, ↓w_nL, ↓w_ca, ↓w_ca0, ↓w_gS, ↓w_gK, ↓w_dv, ↓w_tw, ↓w_rz, ↓w_no, nv_lit, nv_f, nv_add, nv_mul, nv_sub, nv_le, nv_lt, nv_eq, nv_cl, Nat.reduceMod, Nat.reduceMul, Nat.reduceAdd, Nat.zero_add, Nat.add_zero, Nat.mul_zero, decide_eq_true_eq, nv_inT, th_f, th_K, th_N, th_R, th_5, th_2, okn0, Nat.reduceEqDiff, hF.1, hF0.1, X5_in_w, X5_holds_1 hF0.1.1.1 t5 n10, X5_holds_0 hF0.1.1.1 t5, X5_isTrader_1 hF0 hS (inr_nv hk (by omega)), hb, hr, X5_claimsOf_n1 hF0 hS]
theorem X5_trader_4 {G : Nat → Nat} {a : Hp} {o : Nat} {R : Nat → Int32} (hF : FO G a o R) (hG : GD G) (hS : Sh R) {k : Nat} (hk : k < nT R) (Q : Int32 → Hp → Prop) : Wp (X5_trader (G 10) (nv k) (nv 4)) a Q ↔ Q (cos R (nv k) (nv 1)) (th G a (nv 0)) := by
  have hF0 := hF.th hG (nv 0)
  have t5 := th_5 G a (nv 0)
  have h10 := sh_H10 hS
  have h20 := sh_C20 hS
  have h4 := sh_T4 hS
  have hb := bw_1' (v := nv 4) (n := 6) (inr_nv (by omega) (by omega)) (by omega) (show 6 = 5 + 1 from rfl)
  have hr : ((nv 4).toInt < 0 ∨ 3 < (nv 4).toInt) = True := by apply propext; decide
  simp (disch := omega) only [X5_trader, X5_trader_32, ↓w_bd, ↓w_rt, ↓w_bh, sm_l, sm_r, ↓w_okr, ↓w_nm, ↓w_ite, ↓reduceIte, not_true_eq_false, not_false_eq_true, and_true, true_and, and_self, Option.some.injEq, reduceCtorEq, eq_self, ↓w_rc, ↓w_gI, ↓w_gR, ↓w_aN, ↓w_aI, ↓w_aR, ↓w_aL, ↓w_pI, ↓w_pR, ↓w_sI, ↓w_sR, ↓w_sL, ↓w_nO, ↓w_nA, ↓w_nL, ↓w_ca, ↓w_ca0, ↓w_gS, ↓w_gK, ↓w_dv, ↓w_tw, ↓w_rz, ↓w_no, nv_lit, nv_f, nv_add, nv_mul, nv_sub, nv_le, nv_lt, nv_eq, nv_cl, Nat.reduceMod, Nat.reduceMul, Nat.reduceAdd, Nat.zero_add, Nat.add_zero, Nat.mul_zero, decide_eq_true_eq, nv_inT, th_f, th_K, th_N, th_R, th_5, th_2, okn0, Nat.reduceEqDiff, hF.1, hF0.1, X5_in_w, X5_holds_1 hF0.1.1.1 t5 n10, X5_holds_0 hF0.1.1.1 t5, X5_isTrader_1 hF0 hS (inr_nv hk (by omega)), hb, hr, X5_claimsOf_w2 hF0 hS _ (nv 1) (by decide)]
theorem X5_trader_5 {G : Nat → Nat} {a : Hp} {o : Nat} {R : Nat → Int32} (hF : FO G a o R) (hG : GD G) (hS : Sh R) {k : Nat} (hk : k < nT R) (Q : Int32 → Hp → Prop) : Wp (X5_trader (G 10) (nv k) (nv 5)) a Q ↔ Q (cos R (nv k) (nv 2)) (th G a (nv 0)) := by
  have hF0 := hF.th hG (nv 0)
  have t5 := th_5 G a (nv 0)
  have h10 := sh_H10 hS
  have h20 := sh_C20 hS
  have h4 := sh_T4 hS
  have hb := bw_1' (v := nv 5) (n := 6) (inr_nv (by omega) (by omega)) (by omega) (show 6 = 5 + 1 from rfl)
  have hr : ((nv 5).toInt < 0 ∨ 3 < (nv 5).toInt) = True := by apply propext; decide
  simp (disch := omega) only [X5_trader, X5_trader_32, ↓w_bd, ↓w_rt, ↓w_bh, sm_l, sm_r, ↓w_okr, ↓w_nm, ↓w_ite, ↓reduceIte, not_true_eq_false, not_false_eq_true, and_true, true_and, and_self, Option.some.injEq, reduceCtorEq, eq_self, ↓w_rc, ↓w_gI, ↓w_gR, ↓w_aN, ↓w_aI, ↓w_aR, ↓w_aL, ↓w_pI, ↓w_pR, ↓w_sI, ↓w_sR, ↓w_sL, ↓w_nO, ↓w_nA, ↓w_nL, ↓w_ca, ↓w_ca0, ↓w_gS, ↓w_gK, ↓w_dv, ↓w_tw, ↓w_rz, ↓w_no, nv_lit, nv_f, nv_add, nv_mul, nv_sub, nv_le, nv_lt, nv_eq, nv_cl, Nat.reduceMod, Nat.reduceMul, Nat.reduceAdd, Nat.zero_add, Nat.add_zero, Nat.mul_zero, decide_eq_true_eq, nv_inT, th_f, th_K, th_N, th_R, th_5, th_2, okn0, Nat.reduceEqDiff, hF.1, hF0.1, X5_in_w, X5_holds_1 hF0.1.1.1 t5 n10, X5_holds_0 hF0.1.1.1 t5, X5_isTrader_1 hF0 hS (inr_nv hk (by omega)), hb, hr, X5_claimsOf_w2 hF0 hS _ (nv 2) (by decide)]
theorem X5_trader_x {G : Nat → Nat} {a : Hp} {o : Nat} {R : Nat → Int32} (hF : FO G a o R) (hG : GD G) (hS : Sh R) {v w : Int32} (h : ¬ inr v (nT R)) (Q : Int32 → Hp → Prop) : Wp (X5_trader (G 10) v w) a Q ↔ Q (nv 0) (th G a (nv 1)) := by
  have hF0 := hF.th hG (nv 0)
  have t5 := th_5 G a (nv 0)
  have h10 := sh_H10 hS
  have h20 := sh_C20 hS
  have h4 := sh_T4 hS
  simp (disch := omega) only [X5_trader, X5_trader_32, ↓w_bd, ↓w_rt, ↓w_bh, sm_l, sm_r, ↓w_okr, ↓w_nm, ↓w_ite, ↓reduceIte, not_true_eq_false, not_false_eq_true, and_true, true_and, and_self, Option.some.injEq, reduceCtorEq, eq_self, ↓w_rc, ↓w_gI, ↓w_gR, ↓w_aN, ↓w_aI, ↓w_aR, ↓w_aL, ↓w_pI, ↓w_pR, ↓w_sI, ↓w_sR, ↓w_sL, ↓w_nO, ↓w_nA, ↓w_nL, ↓w_ca, ↓w_ca0, ↓w_gS, ↓w_gK, ↓w_dv, ↓w_tw, ↓w_rz, ↓w_no, nv_lit, nv_f, nv_add, nv_mul, nv_sub, nv_le, nv_lt, nv_eq, nv_cl, Nat.reduceMod, Nat.reduceMul, Nat.reduceAdd, Nat.zero_add, Nat.add_zero, Nat.mul_zero, decide_eq_true_eq, nv_inT, th_f, th_K, th_N, th_R, th_5, th_2, okn0, Nat.reduceEqDiff, hF.1, hF0.1, X5_in_w, X5_holds_1 hF0.1.1.1 t5 n10, X5_holds_0 hF0.1.1.1 t5, X5_isTrader_0 hF0 hS h]
theorem X5_trader_y {G : Nat → Nat} {a : Hp} {o : Nat} {R : Nat → Int32} (hF : FO G a o R) (hG : GD G) (hS : Sh R) {v w : Int32} (h : inr v (nT R)) (g : ¬ inr w 6) (Q : Int32 → Hp → Prop) : Wp (X5_trader (G 10) v w) a Q ↔ Q (nv 0) (th G a (nv 2)) := by
  have hF0 := hF.th hG (nv 0)
  have t5 := th_5 G a (nv 0)
  have h10 := sh_H10 hS
  have h20 := sh_C20 hS
  have h4 := sh_T4 hS
  have hb := bw_0' g (by omega) (show 6 = 5 + 1 from rfl)
  simp (disch := omega) only [X5_trader, X5_trader_32, ↓w_bd, ↓w_rt, ↓w_bh, sm_l, sm_r, ↓w_okr, ↓w_nm, ↓w_ite, ↓reduceIte, not_true_eq_false, not_false_eq_true, and_true, true_and, and_self, Option.some.injEq, reduceCtorEq, eq_self, ↓w_rc, ↓w_gI, ↓w_gR, ↓w_aN, ↓w_aI, ↓w_aR, ↓w_aL, ↓w_pI, ↓w_pR, ↓w_sI, ↓w_sR, ↓w_sL, ↓w_nO, ↓w_nA, ↓w_nL, ↓w_ca, ↓w_ca0, ↓w_gS, ↓w_gK, ↓w_dv, ↓w_tw, ↓w_rz, ↓w_no, nv_lit, nv_f, nv_add, nv_mul, nv_sub, nv_le, nv_lt, nv_eq, nv_cl, Nat.reduceMod, Nat.reduceMul, Nat.reduceAdd, Nat.zero_add, Nat.add_zero, Nat.mul_zero, decide_eq_true_eq, nv_inT, th_f, th_K, th_N, th_R, th_5, th_2, okn0, Nat.reduceEqDiff, hF.1, hF0.1, X5_in_w, X5_holds_1 hF0.1.1.1 t5 n10, X5_holds_0 hF0.1.1.1 t5, X5_isTrader_1 hF0 hS h, hb]
theorem op_trader {G : Nat → Nat} {B : Nat → Nat × Nat} {S : Gst} {a : Hp} (hC : JC G B S a) (hT : JT G S a) (v w : Int32) : OpL G a (X0_trader (some (G 0)) v w (some (G 20))) (X5_trader (G 10) v w) := by
  obtain ⟨L, R, hM, hR, hX, hF, -⟩ := start hC hT
  have hG := hC.1.gd
  have hJ := hC.2.1
  have hS := hR.1
  have hs : ∀ i, i < 22 → G i < hSz a := fun i hi => (hC.1 i hi).1
  have h10 := sh_H10 hS
  have h2 := sh_H2 hS
  have h20 := sh_C20 hS
  have h4 := sh_T4 hS
  have h1 := sh_T1 hS
  by_cases h : inr v (nT R)
  · by_cases g : inr w 6
    · obtain ⟨k, rfl, hk⟩ := inr_k h
      obtain ⟨w, rfl, hw⟩ := inr_k g
      have hr := toI_lt hw (by omega) (show (5 : Int) = (6 : Nat) - 1 by decide)
      have : w = 0 ∨ w = 1 ∨ w = 2 ∨ w = 3 ∨ w = 4 ∨ w = 5 := by omega
      rcases this with rfl | rfl | rfl | rfl | rfl | rfl
      · simp (disch := omega) only [X0_trader, X1_trader, OpL, ↓w_bd, ↓w_rt, ↓w_bh, sm_l, sm_r, ↓w_okr, ↓w_nm, ↓w_ite, ↓reduceIte, not_true_eq_false, not_false_eq_true, and_true, true_and, and_self, Option.some.injEq, reduceCtorEq, eq_self, ↓w_rc, ↓w_gI, ↓w_gR, ↓w_aN, ↓w_aI, ↓w_aR, ↓w_aL, ↓w_pI, ↓w_pR, ↓w_sI, ↓w_sR, ↓w_sL, ↓w_nO, ↓w_nA, ↓w_nL, ↓w_ca, ↓w_ca0, ↓w_gS, ↓w_gK, ↓w_dv, ↓w_tw, ↓w_rz, ↓w_no, nv_lit, nv_f, nv_add, nv_mul, nv_sub, nv_le, nv_lt, nv_eq, nv_cl, Nat.reduceMod, Nat.reduceMul, Nat.reduceAdd, Nat.zero_add, Nat.add_zero, Nat.mul_zero, decide_eq_true_eq, nv_inT, mk_k hM, mk_n hM, mk_r hM, mk_i hM, hX, hJ, ol_f, X1_isBetween_w, X1_requireArgument_1 n10, X1_requireArgument_0, X1_requireIndex_1 n10, X1_requireIndex_0, Nat.reduceEqDiff, X1_requireTrader_1 hM hX h, hr, X5_trader_0 (hF.ol _) hG hS hk]
        exact post_0 hC hT (E0.rf a) (by omega) (by omega) _
      · simp (disch := omega) only [X0_trader, X1_trader, OpL, ↓w_bd, ↓w_rt, ↓w_bh, sm_l, sm_r, ↓w_okr, ↓w_nm, ↓w_ite, ↓reduceIte, not_true_eq_false, not_false_eq_true, and_true, true_and, and_self, Option.some.injEq, reduceCtorEq, eq_self, ↓w_rc, ↓w_gI, ↓w_gR, ↓w_aN, ↓w_aI, ↓w_aR, ↓w_aL, ↓w_pI, ↓w_pR, ↓w_sI, ↓w_sR, ↓w_sL, ↓w_nO, ↓w_nA, ↓w_nL, ↓w_ca, ↓w_ca0, ↓w_gS, ↓w_gK, ↓w_dv, ↓w_tw, ↓w_rz, ↓w_no, nv_lit, nv_f, nv_add, nv_mul, nv_sub, nv_le, nv_lt, nv_eq, nv_cl, Nat.reduceMod, Nat.reduceMul, Nat.reduceAdd, Nat.zero_add, Nat.add_zero, Nat.mul_zero, decide_eq_true_eq, nv_inT, mk_k hM, mk_n hM, mk_r hM, mk_i hM, hX, hJ, ol_f, X1_isBetween_w, X1_requireArgument_1 n10, X1_requireArgument_0, X1_requireIndex_1 n10, X1_requireIndex_0, Nat.reduceEqDiff, X1_requireTrader_1 hM hX h, hr, cnt_63 hM, (hC.e0 ((E0.rf a).new 63 0 1 (fun j => if j = 0 then nv k else nv 0) (fun _ => none))).2.1, X5_trader_1 ((hF.e0 ((E0.rf a).new 63 0 1 (fun j => if j = 0 then nv k else nv 0) (fun _ => none)) hs).ol _) hG hS hk]
        exact post_0 hC hT ((E0.rf a).new 63 0 1 (fun j => if j = 0 then nv k else nv 0) (fun _ => none)) (by rw [new_z]; omega) (by rw [hSl_new]; omega) _
      · simp (disch := omega) only [X0_trader, X1_trader, OpL, ↓w_bd, ↓w_rt, ↓w_bh, sm_l, sm_r, ↓w_okr, ↓w_nm, ↓w_ite, ↓reduceIte, not_true_eq_false, not_false_eq_true, and_true, true_and, and_self, Option.some.injEq, reduceCtorEq, eq_self, ↓w_rc, ↓w_gI, ↓w_gR, ↓w_aN, ↓w_aI, ↓w_aR, ↓w_aL, ↓w_pI, ↓w_pR, ↓w_sI, ↓w_sR, ↓w_sL, ↓w_nO, ↓w_nA, ↓w_nL, ↓w_ca, ↓w_ca0, ↓w_gS, ↓w_gK, ↓w_dv, ↓w_tw, ↓w_rz, ↓w_no, nv_lit, nv_f, nv_add, nv_mul, nv_sub, nv_le, nv_lt, nv_eq, nv_cl, Nat.reduceMod, Nat.reduceMul, Nat.reduceAdd, Nat.zero_add, Nat.add_zero, Nat.mul_zero, decide_eq_true_eq, nv_inT, mk_k hM, mk_n hM, mk_r hM, mk_i hM, hX, hJ, ol_f, X1_isBetween_w, X1_requireArgument_1 n10, X1_requireArgument_0, X1_requireIndex_1 n10, X1_requireIndex_0, Nat.reduceEqDiff, X1_requireTrader_1 hM hX h, hr, sum_64 hM, (hC.e0 ((E0.rf a).new 64 0 1 (fun j => if j = 0 then nv k else nv 0) (fun _ => none))).2.1, X5_trader_2 ((hF.e0 ((E0.rf a).new 64 0 1 (fun j => if j = 0 then nv k else nv 0) (fun _ => none)) hs).ol _) hG hS hk]
        exact post_0 hC hT ((E0.rf a).new 64 0 1 (fun j => if j = 0 then nv k else nv 0) (fun _ => none)) (by rw [new_z]; omega) (by rw [hSl_new]; omega) _
      · simp (disch := omega) only [X0_trader, X1_trader, OpL, ↓w_bd, ↓w_rt, ↓w_bh, sm_l, sm_r, ↓w_okr, ↓w_nm, ↓w_ite, ↓reduceIte, not_true_eq_false, not_false_eq_true, and_true, true_and, and_self, Option.some.injEq, reduceCtorEq, eq_self, ↓w_rc, ↓w_gI, ↓w_gR, ↓w_aN, ↓w_aI, ↓w_aR, ↓w_aL, ↓w_pI, ↓w_pR, ↓w_sI, ↓w_sR, ↓w_sL, ↓w_nO, ↓w_nA, ↓w_nL, ↓w_ca, ↓w_ca0, ↓w_gS, ↓w_gK, ↓w_dv, ↓w_tw, ↓w_rz, ↓w_no, nv_lit, nv_f, nv_add, nv_mul, nv_sub, nv_le, nv_lt, nv_eq, nv_cl, Nat.reduceMod, Nat.reduceMul, Nat.reduceAdd, Nat.zero_add, Nat.add_zero, Nat.mul_zero, decide_eq_true_eq, nv_inT, mk_k hM, mk_n hM, mk_r hM, mk_i hM, hX, hJ, ol_f, X1_isBetween_w, X1_requireArgument_1 n10, X1_requireArgument_0, X1_requireIndex_1 n10, X1_requireIndex_0, Nat.reduceEqDiff, X1_requireTrader_1 hM hX h, hr, cnt_65 hM, (hC.e0 ((E0.rf a).new 65 0 1 (fun j => if j = 0 then nv k else nv 0) (fun _ => none))).2.1, X5_trader_3 ((hF.e0 ((E0.rf a).new 65 0 1 (fun j => if j = 0 then nv k else nv 0) (fun _ => none)) hs).ol _) hG hS hk]
        exact post_0 hC hT ((E0.rf a).new 65 0 1 (fun j => if j = 0 then nv k else nv 0) (fun _ => none)) (by rw [new_z]; omega) (by rw [hSl_new]; omega) _
      · simp (disch := omega) only [X0_trader, X1_trader, OpL, ↓w_bd, ↓w_rt, ↓w_bh, sm_l, sm_r, ↓w_okr, ↓w_nm, ↓w_ite, ↓reduceIte, not_true_eq_false, not_false_eq_true, and_true, true_and, and_self, Option.some.injEq, reduceCtorEq, eq_self, ↓w_rc, ↓w_gI, ↓w_gR, ↓w_aN, ↓w_aI, ↓w_aR, ↓w_aL, ↓w_pI, ↓w_pR, ↓w_sI, ↓w_sR, ↓w_sL, ↓w_nO, ↓w_nA, ↓w_nL, ↓w_ca, ↓w_ca0, ↓w_gS, ↓w_gK, ↓w_dv, ↓w_tw, ↓w_rz, ↓w_no, nv_lit, nv_f, nv_add, nv_mul, nv_sub, nv_le, nv_lt, nv_eq, nv_cl, Nat.reduceMod, Nat.reduceMul, Nat.reduceAdd, Nat.zero_add, Nat.add_zero, Nat.mul_zero, decide_eq_true_eq, nv_inT, mk_k hM, mk_n hM, mk_r hM, mk_i hM, hX, hJ, ol_f, X1_isBetween_w, X1_requireArgument_1 n10, X1_requireArgument_0, X1_requireIndex_1 n10, X1_requireIndex_0, Nat.reduceEqDiff, X1_requireTrader_1 hM hX h, hr, cnt_66 hM, (hC.e0 ((E0.rf a).new 66 0 2 (fun j => if j = 0 then nv k else if j = 1 then nv 4 else nv 0) (fun _ => none))).2.1, X5_trader_4 ((hF.e0 ((E0.rf a).new 66 0 2 (fun j => if j = 0 then nv k else if j = 1 then nv 4 else nv 0) (fun _ => none)) hs).ol _) hG hS hk]
        exact post_0 hC hT ((E0.rf a).new 66 0 2 (fun j => if j = 0 then nv k else if j = 1 then nv 4 else nv 0) (fun _ => none)) (by rw [new_z]; omega) (by rw [hSl_new]; omega) _
      · simp (disch := omega) only [X0_trader, X1_trader, OpL, ↓w_bd, ↓w_rt, ↓w_bh, sm_l, sm_r, ↓w_okr, ↓w_nm, ↓w_ite, ↓reduceIte, not_true_eq_false, not_false_eq_true, and_true, true_and, and_self, Option.some.injEq, reduceCtorEq, eq_self, ↓w_rc, ↓w_gI, ↓w_gR, ↓w_aN, ↓w_aI, ↓w_aR, ↓w_aL, ↓w_pI, ↓w_pR, ↓w_sI, ↓w_sR, ↓w_sL, ↓w_nO, ↓w_nA, ↓w_nL, ↓w_ca, ↓w_ca0, ↓w_gS, ↓w_gK, ↓w_dv, ↓w_tw, ↓w_rz, ↓w_no, nv_lit, nv_f, nv_add, nv_mul, nv_sub, nv_le, nv_lt, nv_eq, nv_cl, Nat.reduceMod, Nat.reduceMul, Nat.reduceAdd, Nat.zero_add, Nat.add_zero, Nat.mul_zero, decide_eq_true_eq, nv_inT, mk_k hM, mk_n hM, mk_r hM, mk_i hM, hX, hJ, ol_f, X1_isBetween_w, X1_requireArgument_1 n10, X1_requireArgument_0, X1_requireIndex_1 n10, X1_requireIndex_0, Nat.reduceEqDiff, X1_requireTrader_1 hM hX h, hr, cnt_66 hM, (hC.e0 ((E0.rf a).new 66 0 2 (fun j => if j = 0 then nv k else if j = 1 then nv 5 else nv 0) (fun _ => none))).2.1, X5_trader_5 ((hF.e0 ((E0.rf a).new 66 0 2 (fun j => if j = 0 then nv k else if j = 1 then nv 5 else nv 0) (fun _ => none)) hs).ol _) hG hS hk]
        exact post_0 hC hT ((E0.rf a).new 66 0 2 (fun j => if j = 0 then nv k else if j = 1 then nv 5 else nv 0) (fun _ => none)) (by rw [new_z]; omega) (by rw [hSl_new]; omega) _
    · simp (disch := omega) only [X0_trader, X1_trader, OpL, ↓w_bd, ↓w_rt, ↓w_bh, sm_l, sm_r, ↓w_okr, ↓w_nm, ↓w_ite, ↓reduceIte, not_true_eq_false, not_false_eq_true, and_true, true_and, and_self, Option.some.injEq, reduceCtorEq, eq_self, ↓w_rc, ↓w_gI, ↓w_gR, ↓w_aN, ↓w_aI, ↓w_aR, ↓w_aL, ↓w_pI, ↓w_pR, ↓w_sI, ↓w_sR, ↓w_sL, ↓w_nO, ↓w_nA, ↓w_nL, ↓w_ca, ↓w_ca0, ↓w_gS, ↓w_gK, ↓w_dv, ↓w_tw, ↓w_rz, ↓w_no, nv_lit, nv_f, nv_add, nv_mul, nv_sub, nv_le, nv_lt, nv_eq, nv_cl, Nat.reduceMod, Nat.reduceMul, Nat.reduceAdd, Nat.zero_add, Nat.add_zero, Nat.mul_zero, decide_eq_true_eq, nv_inT, mk_k hM, mk_n hM, mk_r hM, mk_i hM, hX, hJ, ol_f, X1_isBetween_w, X1_requireArgument_1 n10, X1_requireArgument_0, X1_requireIndex_1 n10, X1_requireIndex_0, Nat.reduceEqDiff, X1_requireTrader_1 hM hX h, toI_out g (show (5 : Int) = (6 : Nat) - 1 by decide)]
      rw [show hNew a 0 0 6 (fun _ => nv 0) (fun _ => none) = tw_ a from rfl, X5_trader_y (hF.tw hs) hG hS h g]
      exact post_x hC hT (tw_e a) (by rw [tw_z]; omega) (by rw [tw_l]; omega) (by omega) (by omega) _
  · simp (disch := omega) only [X0_trader, X1_trader, OpL, ↓w_bd, ↓w_rt, ↓w_bh, sm_l, sm_r, ↓w_okr, ↓w_nm, ↓w_ite, ↓reduceIte, not_true_eq_false, not_false_eq_true, and_true, true_and, and_self, Option.some.injEq, reduceCtorEq, eq_self, ↓w_rc, ↓w_gI, ↓w_gR, ↓w_aN, ↓w_aI, ↓w_aR, ↓w_aL, ↓w_pI, ↓w_pR, ↓w_sI, ↓w_sR, ↓w_sL, ↓w_nO, ↓w_nA, ↓w_nL, ↓w_ca, ↓w_ca0, ↓w_gS, ↓w_gK, ↓w_dv, ↓w_tw, ↓w_rz, ↓w_no, nv_lit, nv_f, nv_add, nv_mul, nv_sub, nv_le, nv_lt, nv_eq, nv_cl, Nat.reduceMod, Nat.reduceMul, Nat.reduceAdd, Nat.zero_add, Nat.add_zero, Nat.mul_zero, decide_eq_true_eq, nv_inT, mk_k hM, mk_n hM, mk_r hM, mk_i hM, hX, hJ, ol_f, X1_isBetween_w, X1_requireArgument_1 n10, X1_requireArgument_0, X1_requireIndex_1 n10, X1_requireIndex_0, Nat.reduceEqDiff, X1_requireTrader_0 hM hX h1 h, X5_trader_x (hF.tw hs) hG hS h]
    exact post_x hC hT (tw_e a) (by rw [tw_z]; omega) (by rw [tw_l]; omega) (by omega) (by omega) _
