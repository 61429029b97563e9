theorem X5_why_g {G : Nat → Nat} {a : Hp} {R : Nat → Int32} (hF : FO G a 0 R) (hG : GD G) (hS : Sh R) (hFs : Fs R) {x y k : Nat} (hx : x < nH R) (hy : y < nH R) (hk : k < 3) (Q : Int32 → Hp → Prop) (kk : ∀ b, Sx G (th G a (nv 0)) b → Wp (X5_why_92 (G 10) (nv x) (nv y) (nv k) (kn R x y) (nv (rs R x y))) b Q) : Wp (X5_why (G 10) (nv x) (nv y) (nv k)) a Q := by
  have hF0 := hF.th hG (nv 0)
  have t5 := th_5 G a (nv 0)
  have h10 := sh_H10 hS
  have hb := bw_1' (inr_nv hk (by omega)) (by omega) (show 3 = 2 + 1 from rfl)
  simp (disch := omega) only [X5_why, ↓w_bd, ↓w_rt, ↓w_bh, sm_l, sm_r, ↓w_okr, ↓w_nm, ↓w_ite, ↓reduceIte, not_true_eq_false, not_false_eq_true, and_true, true_and, and_self, Option.some.injEq, reduceCtorEq, eq_self, ↓w_rc, ↓w_gI, ↓w_gR, ↓w_aN, ↓w_aI, ↓w_aR, ↓w_aL, ↓w_pI, ↓w_pR, ↓w_sI, ↓w_sR, ↓w_sL, ↓w_nO, ↓w_nA, ↓w_nL, ↓w_ca, ↓w_ca0, ↓w_gS, ↓w_gK, ↓w_dv, ↓w_tw, ↓w_rz, ↓w_no, nv_lit, nv_f, nv_add, nv_mul, nv_sub, nv_le, nv_lt, nv_eq, nv_cl, Nat.reduceMod, Nat.reduceMul, Nat.reduceAdd, Nat.zero_add, Nat.add_zero, Nat.mul_zero, decide_eq_true_eq, nv_inT, th_f, th_K, th_N, th_R, th_5, th_2, okn0, Nat.reduceEqDiff, hF.1, hF0.1, X5_in_w, X5_holds_1 hF0.1.1.1 t5 n10, X5_holds_0 hF0.1.1.1 t5, n10, X5_isHeap_1 hF0 hS (inr_nv hx (by omega)), X5_isHeap_1 hF0 hS (inr_nv hy (by omega))]
  simp (disch := omega) only [X5_why_27, ↓w_bd, ↓w_rt, ↓w_bh, sm_l, sm_r, ↓w_okr, ↓w_nm, ↓w_ite, ↓reduceIte, not_true_eq_false, not_false_eq_true, and_true, true_and, and_self, Option.some.injEq, reduceCtorEq, eq_self, ↓w_rc, ↓w_gI, ↓w_gR, ↓w_aN, ↓w_aI, ↓w_aR, ↓w_aL, ↓w_pI, ↓w_pR, ↓w_sI, ↓w_sR, ↓w_sL, ↓w_nO, ↓w_nA, ↓w_nL, ↓w_ca, ↓w_ca0, ↓w_gS, ↓w_gK, ↓w_dv, ↓w_tw, ↓w_rz, ↓w_no, nv_lit, nv_f, nv_add, nv_mul, nv_sub, nv_le, nv_lt, nv_eq, nv_cl, Nat.reduceMod, Nat.reduceMul, Nat.reduceAdd, Nat.zero_add, Nat.add_zero, Nat.mul_zero, decide_eq_true_eq, nv_inT, th_f, th_K, th_N, th_R, th_5, th_2, okn0, Nat.reduceEqDiff, hF.1, hF0.1, X5_in_w, X5_holds_1 hF0.1.1.1 t5 n10, X5_holds_0 hF0.1.1.1 t5, n10, hb]
  refine X5_knownOf_w hF0 hG hS hFs hx hy _ fun b hb2 => ?_
  have hFb := hF0.sx hG hb2
  have go := kk b hb2
  unfold rs at go
  by_cases e1 : x = y
  · rw [if_pos e1] at go
    simp (disch := omega) only [↓w_bd, ↓w_rt, ↓w_bh, sm_l, sm_r, ↓w_okr, ↓w_nm, ↓w_ite, ↓reduceIte, not_true_eq_false, not_false_eq_true, and_true, true_and, and_self, Option.some.injEq, reduceCtorEq, eq_self, ↓w_rc, ↓w_gI, ↓w_gR, ↓w_aN, ↓w_aI, ↓w_aR, ↓w_aL, ↓w_pI, ↓w_pR, ↓w_sI, ↓w_sR, ↓w_sL, ↓w_nO, ↓w_nA, ↓w_nL, ↓w_ca, ↓w_ca0, ↓w_gS, ↓w_gK, ↓w_dv, ↓w_tw, ↓w_rz, ↓w_no, nv_lit, nv_f, nv_add, nv_mul, nv_sub, nv_le, nv_lt, nv_eq, nv_cl, Nat.reduceMod, Nat.reduceMul, Nat.reduceAdd, Nat.zero_add, Nat.add_zero, Nat.mul_zero, decide_eq_true_eq, nv_inT, e1]
    rw [e1] at go
    exact go
  · rw [if_neg e1] at go
    by_cases e2 : fc R x y = -nv 1
    · rw [if_pos e2] at go
      by_cases e3 : kn R x y = -nv 1
      · rw [if_pos e3, e3] at go
        simp (disch := omega) only [↓w_bd, ↓w_rt, ↓w_bh, sm_l, sm_r, ↓w_okr, ↓w_nm, ↓w_ite, ↓reduceIte, not_true_eq_false, not_false_eq_true, and_true, true_and, and_self, Option.some.injEq, reduceCtorEq, eq_self, ↓w_rc, ↓w_gI, ↓w_gR, ↓w_aN, ↓w_aI, ↓w_aR, ↓w_aL, ↓w_pI, ↓w_pR, ↓w_sI, ↓w_sR, ↓w_sL, ↓w_nO, ↓w_nA, ↓w_nL, ↓w_ca, ↓w_ca0, ↓w_gS, ↓w_gK, ↓w_dv, ↓w_tw, ↓w_rz, ↓w_no, nv_lit, nv_f, nv_add, nv_mul, nv_sub, nv_le, nv_lt, nv_eq, nv_cl, Nat.reduceMod, Nat.reduceMul, Nat.reduceAdd, Nat.zero_add, Nat.add_zero, Nat.mul_zero, decide_eq_true_eq, nv_inT, e1, hFb.1, X5_factOf_w hFb, e2, e3]
        exact go
      · rw [if_neg e3] at go
        simp (disch := omega) only [↓w_bd, ↓w_rt, ↓w_bh, sm_l, sm_r, ↓w_okr, ↓w_nm, ↓w_ite, ↓reduceIte, not_true_eq_false, not_false_eq_true, and_true, true_and, and_self, Option.some.injEq, reduceCtorEq, eq_self, ↓w_rc, ↓w_gI, ↓w_gR, ↓w_aN, ↓w_aI, ↓w_aR, ↓w_aL, ↓w_pI, ↓w_pR, ↓w_sI, ↓w_sR, ↓w_sL, ↓w_nO, ↓w_nA, ↓w_nL, ↓w_ca, ↓w_ca0, ↓w_gS, ↓w_gK, ↓w_dv, ↓w_tw, ↓w_rz, ↓w_no, nv_lit, nv_f, nv_add, nv_mul, nv_sub, nv_le, nv_lt, nv_eq, nv_cl, Nat.reduceMod, Nat.reduceMul, Nat.reduceAdd, Nat.zero_add, Nat.add_zero, Nat.mul_zero, decide_eq_true_eq, nv_inT, e1, hFb.1, X5_factOf_w hFb, e2, e3]
        exact go
    · rw [if_neg e2] at go
      simp (disch := omega) only [↓w_bd, ↓w_rt, ↓w_bh, sm_l, sm_r, ↓w_okr, ↓w_nm, ↓w_ite, ↓reduceIte, not_true_eq_false, not_false_eq_true, and_true, true_and, and_self, Option.some.injEq, reduceCtorEq, eq_self, ↓w_rc, ↓w_gI, ↓w_gR, ↓w_aN, ↓w_aI, ↓w_aR, ↓w_aL, ↓w_pI, ↓w_pR, ↓w_sI, ↓w_sR, ↓w_sL, ↓w_nO, ↓w_nA, ↓w_nL, ↓w_ca, ↓w_ca0, ↓w_gS, ↓w_gK, ↓w_dv, ↓w_tw, ↓w_rz, ↓w_no, nv_lit, nv_f, nv_add, nv_mul, nv_sub, nv_le, nv_lt, nv_eq, nv_cl, Nat.reduceMod, Nat.reduceMul, Nat.reduceAdd, Nat.zero_add, Nat.add_zero, Nat.mul_zero, decide_eq_true_eq, nv_inT, e1, hFb.1, X5_factOf_w hFb, e2]
      exact go
theorem rs_1 {R : Nat → Int32} {x y : Nat} (h : x = y) : rs R x y = 1 := if_pos h
theorem rs_2 {R : Nat → Int32} {x y : Nat} (h : x ≠ y) (g : fc R x y ≠ -nv 1) : rs R x y = 2 := by unfold rs; rw [if_neg h, if_neg g]
theorem rs_3 {R : Nat → Int32} {x y : Nat} (h : x ≠ y) (g : fc R x y = -nv 1) (k : kn R x y ≠ -nv 1) : rs R x y = 3 := by unfold rs; rw [if_neg h, if_pos g, if_neg k]
theorem rs_4 {R : Nat → Int32} {x y : Nat} (h : x ≠ y) (g : fc R x y = -nv 1) (k : kn R x y = -nv 1) : rs R x y = 4 := by unfold rs; rw [if_neg h, if_pos g, if_pos k]
theorem sw_1 : ((nv 1).toInt < 2 ∨ 4 < (nv 1).toInt) = True := eq_true (by decide)
theorem sw_2 : ((nv 2).toInt < 2 ∨ 4 < (nv 2).toInt) = False := eq_false (by decide)
theorem sw_3 : ((nv 3).toInt < 2 ∨ 4 < (nv 3).toInt) = False := eq_false (by decide)
theorem sw_4 : ((nv 4).toInt < 2 ∨ 4 < (nv 4).toInt) = False := eq_false (by decide)
/-- the component's answer, behind what it asks first -/
def whU (h : Nat) (v1 v2 v3 x5 x8 : Int32) : Mr (Ex ⊕ Int32) :=
  if ¬ v3 = 0 then (
    if ¬ v3 = 2 then (
      if x5.toInt < 2 ∨ 4 < x5.toInt then (
        okr (rt 0))
      else
        if x5 = 2 then (
          okr (rt (100 + x8)))
        else
          if x5 = 3 then (
            bd (gR 1 4 (some h)) fun x9 =>
            bd (rc 2 x9) fun h' =>
            bd (X2_waysTo h' v2 x8) fun x10 =>
            bd (aI 41 x10 v1) fun x11 =>
            okr (rt (200 + x11)))
          else
            if x5 = 4 then (
              bd (gR 1 4 (some h)) fun x12 =>
              bd (gR 1 4 (some h)) fun x13 =>
              bd (gI 2 5 x13) fun x14 =>
              bd (rc 2 x12) fun h' =>
              bd (X2_eyeWord h' v1 v2 x14) fun x15 =>
              okr (rt (300 + x15)))
            else
              no)
    else
      if ¬ x5 = 3 then (
        X1_why_80 0)
      else
        bd (rc 1 (some h)) fun h' =>
        bd (X1_secondOf h' v1 v2 x8) fun x16 =>
        X1_why_80 (400 + x16))
  else
    okr (rt x5)
def whT (h : Nat) (v1 v2 v3 x5 : Int32) : Mr (Ex ⊕ Int32) :=
  bd (gR 1 4 (some h)) fun x6 =>
  bd (rc 2 x6) fun h' =>
  bd (X2_ways h') fun x7 =>
  bd (rc 9 x7) fun h' =>
  bd (X9_known h' v1 v2) fun x8 =>
  whU h v1 v2 v3 x5 x8
theorem X1_why_eq (h : Nat) (v1 v2 v3 : Int32) : X1_why h v1 v2 v3 =
    bd (nA 41 2) fun q1 =>
    bd (sI 41 (some q1) 0 v1) fun _ =>
    bd (sI 41 (some q1) 1 v2) fun _ =>
    bd (rc 1 (some h)) fun h' =>
    bh (X1_requireHeaps h' (some q1)) (fun e => rt (.inl e)) fun _ =>
    bd (X1_isBetween v3 0 2) fun x3 =>
    bh (X1_requireArgument x3) (fun e => rt (.inl e)) fun _ =>
    bd (rc 1 (some h)) fun h' =>
    bd (X1_reasonOf h' v1 v2) fun x5 =>
    whT h v1 v2 v3 x5 := rfl
theorem op_why {G : Nat → Nat} {B : Nat → Nat × Nat} {S : Gst} {a : Hp} (hC : JC G B S a) (hT : JT G S a) (v w u : Int32) : OpL G a (X0_why (some (G 0)) v w u (some (G 20))) (X5_why (G 10) v w u) := by
  obtain ⟨L, R, hM0, hRo, hX0, hF, h0⟩ := start hC hT
  have hG := hC.1.gd
  have hS := hRo.1
  have hFs := hRo.2.1
  have hs : ∀ i, i < 22 → G i < hSz a := fun i hi => (hC.1 i hi).1
  have h10 := sh_H10 hS
  have h2 := sh_H2 hS
  have hmul := Nat.mul_le_mul h10 h10
  have hE := va2_e a v w
  have hX := hX0.ext hE
  have hM := hM0.ext hE (fun _ _ => rfl)
  have hJ := (hC.e0 hE).2.1
  by_cases h : inr v (nH R) ∧ inr w (nH R)
  · by_cases hu : inr u 3
    · obtain ⟨x, rfl, hx⟩ := inr_k h.1
      obtain ⟨y, rfl, hy⟩ := inr_k h.2
      obtain ⟨k, rfl, hk⟩ := inr_k hu
      have hb := bw_1' hu (by omega) (show 3 = 2 + 1 from rfl)
      simp (disch := omega) only [X0_why, X1_why_eq, OpL, ↓w_bd, ↓w_rt, ↓w_bh, sm_l, sm_r, ↓w_okr, ↓w_nm, ↓w_ite, ↓reduceIte, not_true_eq_false, not_false_eq_true, and_true, true_and, and_self, Option.some.injEq, reduceCtorEq, eq_self, ↓w_rc, ↓w_gI, ↓w_gR, ↓w_aN, ↓w_aI, ↓w_aR, ↓w_aL, ↓w_pI, ↓w_pR, ↓w_sI, ↓w_sR, ↓w_sL, ↓w_nO, ↓w_nA, ↓w_nL, ↓w_ca, ↓w_ca0, ↓w_gS, ↓w_gK, ↓w_dv, ↓w_tw, ↓w_rz, ↓w_no, nv_lit, nv_f, nv_add, nv_mul, nv_sub, nv_le, nv_lt, nv_eq, nv_cl, Nat.reduceMod, Nat.reduceMul, Nat.reduceAdd, Nat.zero_add, Nat.add_zero, Nat.mul_zero, decide_eq_true_eq, nv_inT, mk_k hM, mk_n hM, mk_r hM, mk_i hM, hX, hJ, ol_f, X1_isBetween_w, X1_requireArgument_1 n10, X1_requireArgument_0, X1_requireIndex_1 n10, X1_requireIndex_0, Nat.reduceEqDiff, hX0, va1_f, va2_f, hK_new, hN_new, hK_wI, hN_wI, up1_s, Nat.reduceLeDiff, Nat.not_lt_zero, X1_requireHeaps_11 hM hX h.1 h.2 (va2_q a _ _), hb]
      refine X1_reasonOf_w hM hX hFs hx hy _ fun b1 e1 z1 l1 => ?_
      have hM1 := hM.ext e1 (B' := B) (fun _ _ => rfl)
      have hX1 := hX.ext e1
      simp (disch := omega) only [whT, ↓w_bd, ↓w_rt, ↓w_bh, sm_l, sm_r, ↓w_okr, ↓w_nm, ↓w_ite, ↓reduceIte, not_true_eq_false, not_false_eq_true, and_true, true_and, and_self, Option.some.injEq, reduceCtorEq, eq_self, ↓w_rc, ↓w_gI, ↓w_gR, ↓w_aN, ↓w_aI, ↓w_aR, ↓w_aL, ↓w_pI, ↓w_pR, ↓w_sI, ↓w_sR, ↓w_sL, ↓w_nO, ↓w_nA, ↓w_nL, ↓w_ca, ↓w_ca0, ↓w_gS, ↓w_gK, ↓w_dv, ↓w_tw, ↓w_rz, ↓w_no, nv_lit, nv_f, nv_add, nv_mul, nv_sub, nv_le, nv_lt, nv_eq, nv_cl, Nat.reduceMod, Nat.reduceMul, Nat.reduceAdd, Nat.zero_add, Nat.add_zero, Nat.mul_zero, decide_eq_true_eq, nv_inT, mk_k hM1, hX1]
      refine X2_ways_w hM1 hFs _ fun b2 D hD hW => ?_
      have hE2 := (hE.tr e1).tr hW.1
      have hM2 := hM1.ext hW.1 (B' := B) (fun _ _ => rfl)
      have hX2 := hX1.ext hW.1
      have hJ2 := (hC.e0 hE2).2.1
      have zz : hSz b2 ≤ hSz a + 40 := by rw [hW.2.1]; rw [va2_z] at z1; omega
      have ll : hSl b2 ≤ hSl a + 400 := by rw [hW.2.2.1]; rw [va2_l] at l1; omega
      have hF2 := hF.e0 hE2 hs
      simp (disch := omega) only [↓w_bd, ↓w_rt, ↓w_bh, sm_l, sm_r, ↓w_okr, ↓w_nm, ↓w_ite, ↓reduceIte, not_true_eq_false, not_false_eq_true, and_true, true_and, and_self, Option.some.injEq, reduceCtorEq, eq_self, ↓w_rc, ↓w_gI, ↓w_gR, ↓w_aN, ↓w_aI, ↓w_aR, ↓w_aL, ↓w_pI, ↓w_pR, ↓w_sI, ↓w_sR, ↓w_sL, ↓w_nO, ↓w_nA, ↓w_nL, ↓w_ca, ↓w_ca0, ↓w_gS, ↓w_gK, ↓w_dv, ↓w_tw, ↓w_rz, ↓w_no, nv_lit, nv_f, nv_add, nv_mul, nv_sub, nv_le, nv_lt, nv_eq, nv_cl, Nat.reduceMod, Nat.reduceMul, Nat.reduceAdd, Nat.zero_add, Nat.add_zero, Nat.mul_zero, decide_eq_true_eq, nv_inT, hW.2.2.2.r, X9_known_w hFs h10 hD hW.2.2.2]
      have kc : k = 0 ∨ k = 1 ∨ k = 2 := by omega
      by_cases c1 : x = y
      · rw [rs_1 c1]
        have tw := fun (a' : Hp) (hF' : FO G a' 0 R) (Q : Int32 → Hp → Prop) => X5_why_g hF' hG hS hFs hx hy hk Q
        rw [rs_1 c1] at tw
        rcases kc with rfl | rfl | rfl
        · simp (disch := omega) only [whU, ↓w_bd, ↓w_rt, ↓w_bh, sm_l, sm_r, ↓w_okr, ↓w_nm, ↓w_ite, ↓reduceIte, not_true_eq_false, not_false_eq_true, and_true, true_and, and_self, Option.some.injEq, reduceCtorEq, eq_self, ↓w_rc, ↓w_gI, ↓w_gR, ↓w_aN, ↓w_aI, ↓w_aR, ↓w_aL, ↓w_pI, ↓w_pR, ↓w_sI, ↓w_sR, ↓w_sL, ↓w_nO, ↓w_nA, ↓w_nL, ↓w_ca, ↓w_ca0, ↓w_gS, ↓w_gK, ↓w_dv, ↓w_tw, ↓w_rz, ↓w_no, nv_lit, nv_f, nv_add, nv_mul, nv_sub, nv_le, nv_lt, nv_eq, nv_cl, Nat.reduceMod, Nat.reduceMul, Nat.reduceAdd, Nat.zero_add, Nat.add_zero, Nat.mul_zero, decide_eq_true_eq, nv_inT, hJ2, ol_f]
          refine tw _ (hF2.ol _) _ fun c hc => ?_
          simp (disch := omega) only [X5_why_92, ↓w_bd, ↓w_rt, ↓w_bh, sm_l, sm_r, ↓w_okr, ↓w_nm, ↓w_ite, ↓reduceIte, not_true_eq_false, not_false_eq_true, and_true, true_and, and_self, Option.some.injEq, reduceCtorEq, eq_self, ↓w_rc, ↓w_gI, ↓w_gR, ↓w_aN, ↓w_aI, ↓w_aR, ↓w_aL, ↓w_pI, ↓w_pR, ↓w_sI, ↓w_sR, ↓w_sL, ↓w_nO, ↓w_nA, ↓w_nL, ↓w_ca, ↓w_ca0, ↓w_gS, ↓w_gK, ↓w_dv, ↓w_tw, ↓w_rz, ↓w_no, nv_lit, nv_f, nv_add, nv_mul, nv_sub, nv_le, nv_lt, nv_eq, nv_cl, Nat.reduceMod, Nat.reduceMul, Nat.reduceAdd, Nat.zero_add, Nat.add_zero, Nat.mul_zero, decide_eq_true_eq, nv_inT]
          exact post_s hC hT hE2 (by omega) (by omega) hc
        · simp (disch := omega) only [whU, ↓w_bd, ↓w_rt, ↓w_bh, sm_l, sm_r, ↓w_okr, ↓w_nm, ↓w_ite, ↓reduceIte, not_true_eq_false, not_false_eq_true, and_true, true_and, and_self, Option.some.injEq, reduceCtorEq, eq_self, ↓w_rc, ↓w_gI, ↓w_gR, ↓w_aN, ↓w_aI, ↓w_aR, ↓w_aL, ↓w_pI, ↓w_pR, ↓w_sI, ↓w_sR, ↓w_sL, ↓w_nO, ↓w_nA, ↓w_nL, ↓w_ca, ↓w_ca0, ↓w_gS, ↓w_gK, ↓w_dv, ↓w_tw, ↓w_rz, ↓w_no, nv_lit, nv_f, nv_add, nv_mul, nv_sub, nv_le, nv_lt, nv_eq, nv_cl, Nat.reduceMod, Nat.reduceMul, Nat.reduceAdd, Nat.zero_add, Nat.add_zero, Nat.mul_zero, decide_eq_true_eq, nv_inT, n10, show ¬ nv 1 = nv 2 by decide, sw_1, hJ2, ol_f]
          refine tw _ (hF2.ol _) _ fun c hc => ?_
          by_cases k1 : kn R x y = nv 1
          · simp (disch := omega) only [X5_why_92, X5_why_112, X5_why_127, X5_why_211, X5_why_153, ↓w_bd, ↓w_rt, ↓w_bh, sm_l, sm_r, ↓w_okr, ↓w_nm, ↓w_ite, ↓reduceIte, not_true_eq_false, not_false_eq_true, and_true, true_and, and_self, Option.some.injEq, reduceCtorEq, eq_self, ↓w_rc, ↓w_gI, ↓w_gR, ↓w_aN, ↓w_aI, ↓w_aR, ↓w_aL, ↓w_pI, ↓w_pR, ↓w_sI, ↓w_sR, ↓w_sL, ↓w_nO, ↓w_nA, ↓w_nL, ↓w_ca, ↓w_ca0, ↓w_gS, ↓w_gK, ↓w_dv, ↓w_tw, ↓w_rz, ↓w_no, nv_lit, nv_f, nv_add, nv_mul, nv_sub, nv_le, nv_lt, nv_eq, nv_cl, Nat.reduceMod, Nat.reduceMul, Nat.reduceAdd, Nat.zero_add, Nat.add_zero, Nat.mul_zero, decide_eq_true_eq, nv_inT, n10, k1, show ¬ nv 1 = nv 2 by decide, show ¬ nv 1 = nv 3 by decide]
            exact post_s hC hT hE2 (by omega) (by omega) hc
          · simp (disch := omega) only [X5_why_92, X5_why_112, X5_why_127, X5_why_211, X5_why_153, ↓w_bd, ↓w_rt, ↓w_bh, sm_l, sm_r, ↓w_okr, ↓w_nm, ↓w_ite, ↓reduceIte, not_true_eq_false, not_false_eq_true, and_true, true_and, and_self, Option.some.injEq, reduceCtorEq, eq_self, ↓w_rc, ↓w_gI, ↓w_gR, ↓w_aN, ↓w_aI, ↓w_aR, ↓w_aL, ↓w_pI, ↓w_pR, ↓w_sI, ↓w_sR, ↓w_sL, ↓w_nO, ↓w_nA, ↓w_nL, ↓w_ca, ↓w_ca0, ↓w_gS, ↓w_gK, ↓w_dv, ↓w_tw, ↓w_rz, ↓w_no, nv_lit, nv_f, nv_add, nv_mul, nv_sub, nv_le, nv_lt, nv_eq, nv_cl, Nat.reduceMod, Nat.reduceMul, Nat.reduceAdd, Nat.zero_add, Nat.add_zero, Nat.mul_zero, decide_eq_true_eq, nv_inT, n10, k1, show ¬ nv 1 = nv 2 by decide, show ¬ nv 1 = nv 3 by decide]
            exact post_s hC hT hE2 (by omega) (by omega) hc
        · simp (disch := omega) only [whU, ↓w_bd, ↓w_rt, ↓w_bh, sm_l, sm_r, ↓w_okr, ↓w_nm, ↓w_ite, ↓reduceIte, not_true_eq_false, not_false_eq_true, and_true, true_and, and_self, Option.some.injEq, reduceCtorEq, eq_self, ↓w_rc, ↓w_gI, ↓w_gR, ↓w_aN, ↓w_aI, ↓w_aR, ↓w_aL, ↓w_pI, ↓w_pR, ↓w_sI, ↓w_sR, ↓w_sL, ↓w_nO, ↓w_nA, ↓w_nL, ↓w_ca, ↓w_ca0, ↓w_gS, ↓w_gK, ↓w_dv, ↓w_tw, ↓w_rz, ↓w_no, nv_lit, nv_f, nv_add, nv_mul, nv_sub, nv_le, nv_lt, nv_eq, nv_cl, Nat.reduceMod, Nat.reduceMul, Nat.reduceAdd, Nat.zero_add, Nat.add_zero, Nat.mul_zero, decide_eq_true_eq, nv_inT, show ¬ nv 2 = nv 0 by decide, show ¬ nv 1 = nv 3 by decide, X1_why_80, hJ2, ol_f]
          refine tw _ (hF2.ol _) _ fun c hc => ?_
          by_cases k1 : kn R x y = nv 1
          · simp (disch := omega) only [X5_why_92, X5_why_112, X5_why_127, X5_why_211, X5_why_153, ↓w_bd, ↓w_rt, ↓w_bh, sm_l, sm_r, ↓w_okr, ↓w_nm, ↓w_ite, ↓reduceIte, not_true_eq_false, not_false_eq_true, and_true, true_and, and_self, Option.some.injEq, reduceCtorEq, eq_self, ↓w_rc, ↓w_gI, ↓w_gR, ↓w_aN, ↓w_aI, ↓w_aR, ↓w_aL, ↓w_pI, ↓w_pR, ↓w_sI, ↓w_sR, ↓w_sL, ↓w_nO, ↓w_nA, ↓w_nL, ↓w_ca, ↓w_ca0, ↓w_gS, ↓w_gK, ↓w_dv, ↓w_tw, ↓w_rz, ↓w_no, nv_lit, nv_f, nv_add, nv_mul, nv_sub, nv_le, nv_lt, nv_eq, nv_cl, Nat.reduceMod, Nat.reduceMul, Nat.reduceAdd, Nat.zero_add, Nat.add_zero, Nat.mul_zero, decide_eq_true_eq, nv_inT, n10, k1, show ¬ nv 2 = nv 0 by decide, show ¬ nv 1 = nv 3 by decide]
            exact post_s hC hT hE2 (by omega) (by omega) hc
          · simp (disch := omega) only [X5_why_92, X5_why_112, X5_why_127, X5_why_211, X5_why_153, ↓w_bd, ↓w_rt, ↓w_bh, sm_l, sm_r, ↓w_okr, ↓w_nm, ↓w_ite, ↓reduceIte, not_true_eq_false, not_false_eq_true, and_true, true_and, and_self, Option.some.injEq, reduceCtorEq, eq_self, ↓w_rc, ↓w_gI, ↓w_gR, ↓w_aN, ↓w_aI, ↓w_aR, ↓w_aL, ↓w_pI, ↓w_pR, ↓w_sI, ↓w_sR, ↓w_sL, ↓w_nO, ↓w_nA, ↓w_nL, ↓w_ca, ↓w_ca0, ↓w_gS, ↓w_gK, ↓w_dv, ↓w_tw, ↓w_rz, ↓w_no, nv_lit, nv_f, nv_add, nv_mul, nv_sub, nv_le, nv_lt, nv_eq, nv_cl, Nat.reduceMod, Nat.reduceMul, Nat.reduceAdd, Nat.zero_add, Nat.add_zero, Nat.mul_zero, decide_eq_true_eq, nv_inT, n10, k1, show ¬ nv 2 = nv 0 by decide, show ¬ nv 1 = nv 3 by decide]
            exact post_s hC hT hE2 (by omega) (by omega) hc
      · by_cases c2 : fc R x y = -nv 1
        · by_cases c3 : kn R x y = -nv 1
          · rw [rs_4 c1 c2 c3]
            have tw := fun (a' : Hp) (hF' : FO G a' 0 R) (Q : Int32 → Hp → Prop) => X5_why_g hF' hG hS hFs hx hy hk Q
            rw [rs_4 c1 c2 c3] at tw
            rcases kc with rfl | rfl | rfl
            · simp (disch := omega) only [whU, ↓w_bd, ↓w_rt, ↓w_bh, sm_l, sm_r, ↓w_okr, ↓w_nm, ↓w_ite, ↓reduceIte, not_true_eq_false, not_false_eq_true, and_true, true_and, and_self, Option.some.injEq, reduceCtorEq, eq_self, ↓w_rc, ↓w_gI, ↓w_gR, ↓w_aN, ↓w_aI, ↓w_aR, ↓w_aL, ↓w_pI, ↓w_pR, ↓w_sI, ↓w_sR, ↓w_sL, ↓w_nO, ↓w_nA, ↓w_nL, ↓w_ca, ↓w_ca0, ↓w_gS, ↓w_gK, ↓w_dv, ↓w_tw, ↓w_rz, ↓w_no, nv_lit, nv_f, nv_add, nv_mul, nv_sub, nv_le, nv_lt, nv_eq, nv_cl, Nat.reduceMod, Nat.reduceMul, Nat.reduceAdd, Nat.zero_add, Nat.add_zero, Nat.mul_zero, decide_eq_true_eq, nv_inT, hJ2, ol_f]
              refine tw _ (hF2.ol _) _ fun c hc => ?_
              simp (disch := omega) only [X5_why_92, ↓w_bd, ↓w_rt, ↓w_bh, sm_l, sm_r, ↓w_okr, ↓w_nm, ↓w_ite, ↓reduceIte, not_true_eq_false, not_false_eq_true, and_true, true_and, and_self, Option.some.injEq, reduceCtorEq, eq_self, ↓w_rc, ↓w_gI, ↓w_gR, ↓w_aN, ↓w_aI, ↓w_aR, ↓w_aL, ↓w_pI, ↓w_pR, ↓w_sI, ↓w_sR, ↓w_sL, ↓w_nO, ↓w_nA, ↓w_nL, ↓w_ca, ↓w_ca0, ↓w_gS, ↓w_gK, ↓w_dv, ↓w_tw, ↓w_rz, ↓w_no, nv_lit, nv_f, nv_add, nv_mul, nv_sub, nv_le, nv_lt, nv_eq, nv_cl, Nat.reduceMod, Nat.reduceMul, Nat.reduceAdd, Nat.zero_add, Nat.add_zero, Nat.mul_zero, decide_eq_true_eq, nv_inT]
              exact post_s hC hT hE2 (by omega) (by omega) hc
            · simp (disch := omega) only [whU, ↓w_bd, ↓w_rt, ↓w_bh, sm_l, sm_r, ↓w_okr, ↓w_nm, ↓w_ite, ↓reduceIte, not_true_eq_false, not_false_eq_true, and_true, true_and, and_self, Option.some.injEq, reduceCtorEq, eq_self, ↓w_rc, ↓w_gI, ↓w_gR, ↓w_aN, ↓w_aI, ↓w_aR, ↓w_aL, ↓w_pI, ↓w_pR, ↓w_sI, ↓w_sR, ↓w_sL, ↓w_nO, ↓w_nA, ↓w_nL, ↓w_ca, ↓w_ca0, ↓w_gS, ↓w_gK, ↓w_dv, ↓w_tw, ↓w_rz, ↓w_no, nv_lit, nv_f, nv_add, nv_mul, nv_sub, nv_le, nv_lt, nv_eq, nv_cl, Nat.reduceMod, Nat.reduceMul, Nat.reduceAdd, Nat.zero_add, Nat.add_zero, Nat.mul_zero, decide_eq_true_eq, nv_inT, n10, show ¬ nv 1 = nv 2 by decide, sw_4, show ¬ nv 4 = nv 2 by decide, show ¬ nv 4 = nv 3 by decide, hX2, mk_k hM2, mk_i hM2, X2_eyeWord_w hM2, hJ2, ol_f]
              refine tw _ (hF2.ol _) _ fun c hc => ?_
              have fcc := ((hF2.ol (nv 300 + we R (R 2) x y)).th hG (nv 0)).sx hG hc
              simp (disch := omega) only [X5_why_92, X5_why_112, X5_why_127, X5_why_211, X5_why_153, ↓w_bd, ↓w_rt, ↓w_bh, sm_l, sm_r, ↓w_okr, ↓w_nm, ↓w_ite, ↓reduceIte, not_true_eq_false, not_false_eq_true, and_true, true_and, and_self, Option.some.injEq, reduceCtorEq, eq_self, ↓w_rc, ↓w_gI, ↓w_gR, ↓w_aN, ↓w_aI, ↓w_aR, ↓w_aL, ↓w_pI, ↓w_pR, ↓w_sI, ↓w_sR, ↓w_sL, ↓w_nO, ↓w_nA, ↓w_nL, ↓w_ca, ↓w_ca0, ↓w_gS, ↓w_gK, ↓w_dv, ↓w_tw, ↓w_rz, ↓w_no, nv_lit, nv_f, nv_add, nv_mul, nv_sub, nv_le, nv_lt, nv_eq, nv_cl, Nat.reduceMod, Nat.reduceMul, Nat.reduceAdd, Nat.zero_add, Nat.add_zero, Nat.mul_zero, decide_eq_true_eq, nv_inT, n10, c3, show ¬ -nv 1 = nv 1 by decide, show ¬ nv 4 = nv 1 by decide, show ¬ nv 1 = nv 2 by decide, show ¬ nv 4 = nv 2 by decide, show ¬ nv 4 = nv 3 by decide, fcc.1, X5_wordByEye_w fcc hS]
              exact post_s hC hT hE2 (by omega) (by omega) hc
            · simp (disch := omega) only [whU, ↓w_bd, ↓w_rt, ↓w_bh, sm_l, sm_r, ↓w_okr, ↓w_nm, ↓w_ite, ↓reduceIte, not_true_eq_false, not_false_eq_true, and_true, true_and, and_self, Option.some.injEq, reduceCtorEq, eq_self, ↓w_rc, ↓w_gI, ↓w_gR, ↓w_aN, ↓w_aI, ↓w_aR, ↓w_aL, ↓w_pI, ↓w_pR, ↓w_sI, ↓w_sR, ↓w_sL, ↓w_nO, ↓w_nA, ↓w_nL, ↓w_ca, ↓w_ca0, ↓w_gS, ↓w_gK, ↓w_dv, ↓w_tw, ↓w_rz, ↓w_no, nv_lit, nv_f, nv_add, nv_mul, nv_sub, nv_le, nv_lt, nv_eq, nv_cl, Nat.reduceMod, Nat.reduceMul, Nat.reduceAdd, Nat.zero_add, Nat.add_zero, Nat.mul_zero, decide_eq_true_eq, nv_inT, show ¬ nv 2 = nv 0 by decide, show ¬ nv 4 = nv 3 by decide, X1_why_80, hJ2, ol_f]
              refine tw _ (hF2.ol _) _ fun c hc => ?_
              simp (disch := omega) only [X5_why_92, X5_why_112, X5_why_127, X5_why_211, X5_why_153, ↓w_bd, ↓w_rt, ↓w_bh, sm_l, sm_r, ↓w_okr, ↓w_nm, ↓w_ite, ↓reduceIte, not_true_eq_false, not_false_eq_true, and_true, true_and, and_self, Option.some.injEq, reduceCtorEq, eq_self, ↓w_rc, ↓w_gI, ↓w_gR, ↓w_aN, ↓w_aI, ↓w_aR, ↓w_aL, ↓w_pI, ↓w_pR, ↓w_sI, ↓w_sR, ↓w_sL, ↓w_nO, ↓w_nA, ↓w_nL, ↓w_ca, ↓w_ca0, ↓w_gS, ↓w_gK, ↓w_dv, ↓w_tw, ↓w_rz, ↓w_no, nv_lit, nv_f, nv_add, nv_mul, nv_sub, nv_le, nv_lt, nv_eq, nv_cl, Nat.reduceMod, Nat.reduceMul, Nat.reduceAdd, Nat.zero_add, Nat.add_zero, Nat.mul_zero, decide_eq_true_eq, nv_inT, n10, c3, show ¬ -nv 1 = nv 1 by decide, show ¬ nv 2 = nv 0 by decide, show ¬ nv 4 = nv 3 by decide]
              exact post_s hC hT hE2 (by omega) (by omega) hc
          · rw [rs_3 c1 c2 c3]
            have tw := fun (a' : Hp) (hF' : FO G a' 0 R) (Q : Int32 → Hp → Prop) => X5_why_g hF' hG hS hFs hx hy hk Q
            rw [rs_3 c1 c2 c3] at tw
            obtain ⟨d, b, hb2, eb, hdn, q1, q2, hd0, hy2⟩ := why_dd hFs h10 hx hy c1 c3
            rcases kc with rfl | rfl | rfl
            · simp (disch := omega) only [whU, ↓w_bd, ↓w_rt, ↓w_bh, sm_l, sm_r, ↓w_okr, ↓w_nm, ↓w_ite, ↓reduceIte, not_true_eq_false, not_false_eq_true, and_true, true_and, and_self, Option.some.injEq, reduceCtorEq, eq_self, ↓w_rc, ↓w_gI, ↓w_gR, ↓w_aN, ↓w_aI, ↓w_aR, ↓w_aL, ↓w_pI, ↓w_pR, ↓w_sI, ↓w_sR, ↓w_sL, ↓w_nO, ↓w_nA, ↓w_nL, ↓w_ca, ↓w_ca0, ↓w_gS, ↓w_gK, ↓w_dv, ↓w_tw, ↓w_rz, ↓w_no, nv_lit, nv_f, nv_add, nv_mul, nv_sub, nv_le, nv_lt, nv_eq, nv_cl, Nat.reduceMod, Nat.reduceMul, Nat.reduceAdd, Nat.zero_add, Nat.add_zero, Nat.mul_zero, decide_eq_true_eq, nv_inT, hJ2, ol_f]
              refine tw _ (hF2.ol _) _ fun c hc => ?_
              simp (disch := omega) only [X5_why_92, ↓w_bd, ↓w_rt, ↓w_bh, sm_l, sm_r, ↓w_okr, ↓w_nm, ↓w_ite, ↓reduceIte, not_true_eq_false, not_false_eq_true, and_true, true_and, and_self, Option.some.injEq, reduceCtorEq, eq_self, ↓w_rc, ↓w_gI, ↓w_gR, ↓w_aN, ↓w_aI, ↓w_aR, ↓w_aL, ↓w_pI, ↓w_pR, ↓w_sI, ↓w_sR, ↓w_sL, ↓w_nO, ↓w_nA, ↓w_nL, ↓w_ca, ↓w_ca0, ↓w_gS, ↓w_gK, ↓w_dv, ↓w_tw, ↓w_rz, ↓w_no, nv_lit, nv_f, nv_add, nv_mul, nv_sub, nv_le, nv_lt, nv_eq, nv_cl, Nat.reduceMod, Nat.reduceMul, Nat.reduceAdd, Nat.zero_add, Nat.add_zero, Nat.mul_zero, decide_eq_true_eq, nv_inT]
              exact post_s hC hT hE2 (by omega) (by omega) hc
            · simp (disch := omega) only [whU, ↓w_bd, ↓w_rt, ↓w_bh, sm_l, sm_r, ↓w_okr, ↓w_nm, ↓w_ite, ↓reduceIte, not_true_eq_false, not_false_eq_true, and_true, true_and, and_self, Option.some.injEq, reduceCtorEq, eq_self, ↓w_rc, ↓w_gI, ↓w_gR, ↓w_aN, ↓w_aI, ↓w_aR, ↓w_aL, ↓w_pI, ↓w_pR, ↓w_sI, ↓w_sR, ↓w_sL, ↓w_nO, ↓w_nA, ↓w_nL, ↓w_ca, ↓w_ca0, ↓w_gS, ↓w_gK, ↓w_dv, ↓w_tw, ↓w_rz, ↓w_no, nv_lit, nv_f, nv_add, nv_mul, nv_sub, nv_le, nv_lt, nv_eq, nv_cl, Nat.reduceMod, Nat.reduceMul, Nat.reduceAdd, Nat.zero_add, Nat.add_zero, Nat.mul_zero, decide_eq_true_eq, nv_inT, n10, show ¬ nv 1 = nv 2 by decide, sw_3, show ¬ nv 3 = nv 2 by decide, hX2, mk_k hM2]
              refine X2_waysTo_w hM2 hy _ fun b3 q e3 z3 l3 kq nq hq => ?_
              have hE3 := hE2.tr e3
              have hF3 := hF.e0 hE3 hs
              have hJ3 := (hC.e0 hE3).2.1
              have ed : dw R (kn R x y) y x = d := by unfold dw; rw [q2]
              simp (disch := omega) only [↓w_bd, ↓w_rt, ↓w_bh, sm_l, sm_r, ↓w_okr, ↓w_nm, ↓w_ite, ↓reduceIte, not_true_eq_false, not_false_eq_true, and_true, true_and, and_self, Option.some.injEq, reduceCtorEq, eq_self, ↓w_rc, ↓w_gI, ↓w_gR, ↓w_aN, ↓w_aI, ↓w_aR, ↓w_aL, ↓w_pI, ↓w_pR, ↓w_sI, ↓w_sR, ↓w_sL, ↓w_nO, ↓w_nA, ↓w_nL, ↓w_ca, ↓w_ca0, ↓w_gS, ↓w_gK, ↓w_dv, ↓w_tw, ↓w_rz, ↓w_no, nv_lit, nv_f, nv_add, nv_mul, nv_sub, nv_le, nv_lt, nv_eq, nv_cl, Nat.reduceMod, Nat.reduceMul, Nat.reduceAdd, Nat.zero_add, Nat.add_zero, Nat.mul_zero, decide_eq_true_eq, nv_inT, kq, nq, hq, ed, hJ3, ol_f]
              refine tw _ (hF3.ol _) _ fun c hc => ?_
              have fcc := ((hF3.ol (nv (200 + d))).th hG (nv 0)).sx hG hc
              have walk : Wp (X5_why_112 (G 10) (nv x) (nv y) (nv 1) (nv 3) (nv b)) c (fun w c => Post G a (nv 0) (nv (200 + d)) c ∧ w = nv (200 + d)) := by
                simp (disch := omega) only [X5_why_112, ↓w_bd, ↓w_rt, ↓w_bh, sm_l, sm_r, ↓w_okr, ↓w_nm, ↓w_ite, ↓reduceIte, not_true_eq_false, not_false_eq_true, and_true, true_and, and_self, Option.some.injEq, reduceCtorEq, eq_self, ↓w_rc, ↓w_gI, ↓w_gR, ↓w_aN, ↓w_aI, ↓w_aR, ↓w_aL, ↓w_pI, ↓w_pR, ↓w_sI, ↓w_sR, ↓w_sL, ↓w_nO, ↓w_nA, ↓w_nL, ↓w_ca, ↓w_ca0, ↓w_gS, ↓w_gK, ↓w_dv, ↓w_tw, ↓w_rz, ↓w_no, nv_lit, nv_f, nv_add, nv_mul, nv_sub, nv_le, nv_lt, nv_eq, nv_cl, Nat.reduceMod, Nat.reduceMul, Nat.reduceAdd, Nat.zero_add, Nat.add_zero, Nat.mul_zero, decide_eq_true_eq, nv_inT, fcc.1]
                refine X5_walks_w fcc hG hS hFs hb2 hy _ fun e he => ?_
                have fe := fcc.sx hG he.1
                have ex : hI e (G 14) x = nv d := by rw [he.2.1 x hx]; exact fl_s q1 (show d ≤ nH R by omega)
                simp (disch := omega) only [X5_why_127, X5_why_211, X5_why_153, ↓w_bd, ↓w_rt, ↓w_bh, sm_l, sm_r, ↓w_okr, ↓w_nm, ↓w_ite, ↓reduceIte, not_true_eq_false, not_false_eq_true, and_true, true_and, and_self, Option.some.injEq, reduceCtorEq, eq_self, ↓w_rc, ↓w_gI, ↓w_gR, ↓w_aN, ↓w_aI, ↓w_aR, ↓w_aL, ↓w_pI, ↓w_pR, ↓w_sI, ↓w_sR, ↓w_sL, ↓w_nO, ↓w_nA, ↓w_nL, ↓w_ca, ↓w_ca0, ↓w_gS, ↓w_gK, ↓w_dv, ↓w_tw, ↓w_rz, ↓w_no, nv_lit, nv_f, nv_add, nv_mul, nv_sub, nv_le, nv_lt, nv_eq, nv_cl, Nat.reduceMod, Nat.reduceMul, Nat.reduceAdd, Nat.zero_add, Nat.add_zero, Nat.mul_zero, decide_eq_true_eq, nv_inT, show ¬ nv 1 = nv 2 by decide, show ¬ nv 3 = nv 1 by decide, show ¬ nv 3 = nv 2 by decide, fe.1, ex]
                exact post_s hC hT hE3 (by omega) (by omega) (hc.tr he.1)
              by_cases k1 : kn R x y = nv 1
              · rw [if_pos k1, nv_eq (by omega) (by omega)] at eb
                simp (disch := omega) only [X5_why_92, ↓w_bd, ↓w_rt, ↓w_bh, sm_l, sm_r, ↓w_okr, ↓w_nm, ↓w_ite, ↓reduceIte, not_true_eq_false, not_false_eq_true, and_true, true_and, and_self, Option.some.injEq, reduceCtorEq, eq_self, ↓w_rc, ↓w_gI, ↓w_gR, ↓w_aN, ↓w_aI, ↓w_aR, ↓w_aL, ↓w_pI, ↓w_pR, ↓w_sI, ↓w_sR, ↓w_sL, ↓w_nO, ↓w_nA, ↓w_nL, ↓w_ca, ↓w_ca0, ↓w_gS, ↓w_gK, ↓w_dv, ↓w_tw, ↓w_rz, ↓w_no, nv_lit, nv_f, nv_add, nv_mul, nv_sub, nv_le, nv_lt, nv_eq, nv_cl, Nat.reduceMod, Nat.reduceMul, Nat.reduceAdd, Nat.zero_add, Nat.add_zero, Nat.mul_zero, decide_eq_true_eq, nv_inT, n10, k1]
                subst eb
                exact w_mono walk fun w c' g => by rw [g.2]; exact g.1
              · rw [if_neg k1, nv_eq (by omega) (by omega)] at eb
                simp (disch := omega) only [X5_why_92, ↓w_bd, ↓w_rt, ↓w_bh, sm_l, sm_r, ↓w_okr, ↓w_nm, ↓w_ite, ↓reduceIte, not_true_eq_false, not_false_eq_true, and_true, true_and, and_self, Option.some.injEq, reduceCtorEq, eq_self, ↓w_rc, ↓w_gI, ↓w_gR, ↓w_aN, ↓w_aI, ↓w_aR, ↓w_aL, ↓w_pI, ↓w_pR, ↓w_sI, ↓w_sR, ↓w_sL, ↓w_nO, ↓w_nA, ↓w_nL, ↓w_ca, ↓w_ca0, ↓w_gS, ↓w_gK, ↓w_dv, ↓w_tw, ↓w_rz, ↓w_no, nv_lit, nv_f, nv_add, nv_mul, nv_sub, nv_le, nv_lt, nv_eq, nv_cl, Nat.reduceMod, Nat.reduceMul, Nat.reduceAdd, Nat.zero_add, Nat.add_zero, Nat.mul_zero, decide_eq_true_eq, nv_inT, n10, k1]
                subst eb
                exact w_mono walk fun w c' g => by rw [g.2]; exact g.1
            · obtain ⟨z0, hz0, hP0, hN0⟩ : ∃ z, z < nH R ∧ (Ed R (nv b) x z ∧ dd (Ed R (nv b)) (nH R) z y = some (d - 1)) ∧ ∀ u, u < z → ¬ (Ed R (nv b) x u ∧ dd (Ed R (nv b)) (nH R) u y = some (d - 1)) := by
                refine least ?_
                obtain ⟨d', rfl⟩ : ∃ d', d = d' + 1 := ⟨d - 1, by omega⟩
                obtain ⟨i, i1, i2, i3⟩ := (dd_step (m := d') (fun k hk => by rw [q1] at hk; cases hk; omega)).mp q1
                exact ⟨i, i1, i3, i2⟩
              have hPe := (hy2 z0 hz0).mpr hP0
              have hNe : ∀ u, u < z0 → ¬ (El R (kn R x y) x u ∧ dd (El R (kn R x y)) (nH R) u y = some (d - 1)) := fun u hu g => hN0 u hu ((hy2 u (by omega)).mp g)
              simp (disch := omega) only [whU, ↓w_bd, ↓w_rt, ↓w_bh, sm_l, sm_r, ↓w_okr, ↓w_nm, ↓w_ite, ↓reduceIte, not_true_eq_false, not_false_eq_true, and_true, true_and, and_self, Option.some.injEq, reduceCtorEq, eq_self, ↓w_rc, ↓w_gI, ↓w_gR, ↓w_aN, ↓w_aI, ↓w_aR, ↓w_aL, ↓w_pI, ↓w_pR, ↓w_sI, ↓w_sR, ↓w_sL, ↓w_nO, ↓w_nA, ↓w_nL, ↓w_ca, ↓w_ca0, ↓w_gS, ↓w_gK, ↓w_dv, ↓w_tw, ↓w_rz, ↓w_no, nv_lit, nv_f, nv_add, nv_mul, nv_sub, nv_le, nv_lt, nv_eq, nv_cl, Nat.reduceMod, Nat.reduceMul, Nat.reduceAdd, Nat.zero_add, Nat.add_zero, Nat.mul_zero, decide_eq_true_eq, nv_inT, show ¬ nv 2 = nv 0 by decide, hX2]
              refine X1_secondOf_w hM2 hX2 hx hy hdn hd0 q2 hz0 hPe hNe _ fun b3 e3 z3 l3 => ?_
              have hE3 := hE2.tr e3
              have hF3 := hF.e0 hE3 hs
              have hJ3 := (hC.e0 hE3).2.1
              simp (disch := omega) only [↓w_bd, ↓w_rt, ↓w_bh, sm_l, sm_r, ↓w_okr, ↓w_nm, ↓w_ite, ↓reduceIte, not_true_eq_false, not_false_eq_true, and_true, true_and, and_self, Option.some.injEq, reduceCtorEq, eq_self, ↓w_rc, ↓w_gI, ↓w_gR, ↓w_aN, ↓w_aI, ↓w_aR, ↓w_aL, ↓w_pI, ↓w_pR, ↓w_sI, ↓w_sR, ↓w_sL, ↓w_nO, ↓w_nA, ↓w_nL, ↓w_ca, ↓w_ca0, ↓w_gS, ↓w_gK, ↓w_dv, ↓w_tw, ↓w_rz, ↓w_no, nv_lit, nv_f, nv_add, nv_mul, nv_sub, nv_le, nv_lt, nv_eq, nv_cl, Nat.reduceMod, Nat.reduceMul, Nat.reduceAdd, Nat.zero_add, Nat.add_zero, Nat.mul_zero, decide_eq_true_eq, nv_inT, X1_why_80, hJ3, ol_f]
              refine tw _ (hF3.ol _) _ fun c hc => ?_
              have fcc := ((hF3.ol (nv (400 + z0))).th hG (nv 0)).sx hG hc
              have walk : Wp (X5_why_112 (G 10) (nv x) (nv y) (nv 2) (nv 3) (nv b)) c (fun w c => Post G a (nv 0) (nv (400 + z0)) c ∧ w = nv (400 + z0)) := by
                simp (disch := omega) only [X5_why_112, ↓w_bd, ↓w_rt, ↓w_bh, sm_l, sm_r, ↓w_okr, ↓w_nm, ↓w_ite, ↓reduceIte, not_true_eq_false, not_false_eq_true, and_true, true_and, and_self, Option.some.injEq, reduceCtorEq, eq_self, ↓w_rc, ↓w_gI, ↓w_gR, ↓w_aN, ↓w_aI, ↓w_aR, ↓w_aL, ↓w_pI, ↓w_pR, ↓w_sI, ↓w_sR, ↓w_sL, ↓w_nO, ↓w_nA, ↓w_nL, ↓w_ca, ↓w_ca0, ↓w_gS, ↓w_gK, ↓w_dv, ↓w_tw, ↓w_rz, ↓w_no, nv_lit, nv_f, nv_add, nv_mul, nv_sub, nv_le, nv_lt, nv_eq, nv_cl, Nat.reduceMod, Nat.reduceMul, Nat.reduceAdd, Nat.zero_add, Nat.add_zero, Nat.mul_zero, decide_eq_true_eq, nv_inT, fcc.1]
                refine X5_walks_w fcc hG hS hFs hb2 hy _ fun e he => ?_
                have fe := fcc.sx hG he.1
                simp (disch := omega) only [X5_why_127, X5_why_211, X5_why_153, ↓w_bd, ↓w_rt, ↓w_bh, sm_l, sm_r, ↓w_okr, ↓w_nm, ↓w_ite, ↓reduceIte, not_true_eq_false, not_false_eq_true, and_true, true_and, and_self, Option.some.injEq, reduceCtorEq, eq_self, ↓w_rc, ↓w_gI, ↓w_gR, ↓w_aN, ↓w_aI, ↓w_aR, ↓w_aL, ↓w_pI, ↓w_pR, ↓w_sI, ↓w_sR, ↓w_sL, ↓w_nO, ↓w_nA, ↓w_nL, ↓w_ca, ↓w_ca0, ↓w_gS, ↓w_gK, ↓w_dv, ↓w_tw, ↓w_rz, ↓w_no, nv_lit, nv_f, nv_add, nv_mul, nv_sub, nv_le, nv_lt, nv_eq, nv_cl, Nat.reduceMod, Nat.reduceMul, Nat.reduceAdd, Nat.zero_add, Nat.add_zero, Nat.mul_zero, decide_eq_true_eq, nv_inT, fe.1, X5_secondOn_w fe hG h10 hx hdn hd0 he.2.1 q1 hz0 hP0 hN0]
                exact post_s hC hT hE3 (by omega) (by omega) (hc.tr he.1)
              by_cases k1 : kn R x y = nv 1
              · rw [if_pos k1, nv_eq (by omega) (by omega)] at eb
                simp (disch := omega) only [X5_why_92, ↓w_bd, ↓w_rt, ↓w_bh, sm_l, sm_r, ↓w_okr, ↓w_nm, ↓w_ite, ↓reduceIte, not_true_eq_false, not_false_eq_true, and_true, true_and, and_self, Option.some.injEq, reduceCtorEq, eq_self, ↓w_rc, ↓w_gI, ↓w_gR, ↓w_aN, ↓w_aI, ↓w_aR, ↓w_aL, ↓w_pI, ↓w_pR, ↓w_sI, ↓w_sR, ↓w_sL, ↓w_nO, ↓w_nA, ↓w_nL, ↓w_ca, ↓w_ca0, ↓w_gS, ↓w_gK, ↓w_dv, ↓w_tw, ↓w_rz, ↓w_no, nv_lit, nv_f, nv_add, nv_mul, nv_sub, nv_le, nv_lt, nv_eq, nv_cl, Nat.reduceMod, Nat.reduceMul, Nat.reduceAdd, Nat.zero_add, Nat.add_zero, Nat.mul_zero, decide_eq_true_eq, nv_inT, n10, k1, show ¬ nv 2 = nv 0 by decide]
                subst eb
                exact w_mono walk fun w c' g => by rw [g.2]; exact g.1
              · rw [if_neg k1, nv_eq (by omega) (by omega)] at eb
                simp (disch := omega) only [X5_why_92, ↓w_bd, ↓w_rt, ↓w_bh, sm_l, sm_r, ↓w_okr, ↓w_nm, ↓w_ite, ↓reduceIte, not_true_eq_false, not_false_eq_true, and_true, true_and, and_self, Option.some.injEq, reduceCtorEq, eq_self, ↓w_rc, ↓w_gI, ↓w_gR, ↓w_aN, ↓w_aI, ↓w_aR, ↓w_aL, ↓w_pI, ↓w_pR, ↓w_sI, ↓w_sR, ↓w_sL, ↓w_nO, ↓w_nA, ↓w_nL, ↓w_ca, ↓w_ca0, ↓w_gS, ↓w_gK, ↓w_dv, ↓w_tw, ↓w_rz, ↓w_no, nv_lit, nv_f, nv_add, nv_mul, nv_sub, nv_le, nv_lt, nv_eq, nv_cl, Nat.reduceMod, Nat.reduceMul, Nat.reduceAdd, Nat.zero_add, Nat.add_zero, Nat.mul_zero, decide_eq_true_eq, nv_inT, n10, k1, show ¬ nv 2 = nv 0 by decide]
                subst eb
                exact w_mono walk fun w c' g => by rw [g.2]; exact g.1
        · rw [rs_2 c1 c2]
          have tw := fun (a' : Hp) (hF' : FO G a' 0 R) (Q : Int32 → Hp → Prop) => X5_why_g hF' hG hS hFs hx hy hk Q
          rw [rs_2 c1 c2] at tw
          have ekf := kn_fc hFs h10 hx hy c2
          rcases kc with rfl | rfl | rfl
          · simp (disch := omega) only [whU, ↓w_bd, ↓w_rt, ↓w_bh, sm_l, sm_r, ↓w_okr, ↓w_nm, ↓w_ite, ↓reduceIte, not_true_eq_false, not_false_eq_true, and_true, true_and, and_self, Option.some.injEq, reduceCtorEq, eq_self, ↓w_rc, ↓w_gI, ↓w_gR, ↓w_aN, ↓w_aI, ↓w_aR, ↓w_aL, ↓w_pI, ↓w_pR, ↓w_sI, ↓w_sR, ↓w_sL, ↓w_nO, ↓w_nA, ↓w_nL, ↓w_ca, ↓w_ca0, ↓w_gS, ↓w_gK, ↓w_dv, ↓w_tw, ↓w_rz, ↓w_no, nv_lit, nv_f, nv_add, nv_mul, nv_sub, nv_le, nv_lt, nv_eq, nv_cl, Nat.reduceMod, Nat.reduceMul, Nat.reduceAdd, Nat.zero_add, Nat.add_zero, Nat.mul_zero, decide_eq_true_eq, nv_inT, hJ2, ol_f]
            refine tw _ (hF2.ol _) _ fun c hc => ?_
            simp (disch := omega) only [X5_why_92, ↓w_bd, ↓w_rt, ↓w_bh, sm_l, sm_r, ↓w_okr, ↓w_nm, ↓w_ite, ↓reduceIte, not_true_eq_false, not_false_eq_true, and_true, true_and, and_self, Option.some.injEq, reduceCtorEq, eq_self, ↓w_rc, ↓w_gI, ↓w_gR, ↓w_aN, ↓w_aI, ↓w_aR, ↓w_aL, ↓w_pI, ↓w_pR, ↓w_sI, ↓w_sR, ↓w_sL, ↓w_nO, ↓w_nA, ↓w_nL, ↓w_ca, ↓w_ca0, ↓w_gS, ↓w_gK, ↓w_dv, ↓w_tw, ↓w_rz, ↓w_no, nv_lit, nv_f, nv_add, nv_mul, nv_sub, nv_le, nv_lt, nv_eq, nv_cl, Nat.reduceMod, Nat.reduceMul, Nat.reduceAdd, Nat.zero_add, Nat.add_zero, Nat.mul_zero, decide_eq_true_eq, nv_inT]
            exact post_s hC hT hE2 (by omega) (by omega) hc
          · simp (disch := omega) only [whU, ↓w_bd, ↓w_rt, ↓w_bh, sm_l, sm_r, ↓w_okr, ↓w_nm, ↓w_ite, ↓reduceIte, not_true_eq_false, not_false_eq_true, and_true, true_and, and_self, Option.some.injEq, reduceCtorEq, eq_self, ↓w_rc, ↓w_gI, ↓w_gR, ↓w_aN, ↓w_aI, ↓w_aR, ↓w_aL, ↓w_pI, ↓w_pR, ↓w_sI, ↓w_sR, ↓w_sL, ↓w_nO, ↓w_nA, ↓w_nL, ↓w_ca, ↓w_ca0, ↓w_gS, ↓w_gK, ↓w_dv, ↓w_tw, ↓w_rz, ↓w_no, nv_lit, nv_f, nv_add, nv_mul, nv_sub, nv_le, nv_lt, nv_eq, nv_cl, Nat.reduceMod, Nat.reduceMul, Nat.reduceAdd, Nat.zero_add, Nat.add_zero, Nat.mul_zero, decide_eq_true_eq, nv_inT, n10, show ¬ nv 1 = nv 2 by decide, sw_2, hJ2, ol_f]
            refine tw _ (hF2.ol _) _ fun c hc => ?_
            have fcc := ((hF2.ol (nv 100 + kn R x y)).th hG (nv 0)).sx hG hc
            by_cases k1 : kn R x y = nv 1
            · have f1 : fc R x y = nv 1 := ekf.symm.trans k1
              rw [k1] at hc ⊢
              simp (disch := omega) only [X5_why_92, X5_why_112, X5_why_127, X5_why_211, X5_why_153, ↓w_bd, ↓w_rt, ↓w_bh, sm_l, sm_r, ↓w_okr, ↓w_nm, ↓w_ite, ↓reduceIte, not_true_eq_false, not_false_eq_true, and_true, true_and, and_self, Option.some.injEq, reduceCtorEq, eq_self, ↓w_rc, ↓w_gI, ↓w_gR, ↓w_aN, ↓w_aI, ↓w_aR, ↓w_aL, ↓w_pI, ↓w_pR, ↓w_sI, ↓w_sR, ↓w_sL, ↓w_nO, ↓w_nA, ↓w_nL, ↓w_ca, ↓w_ca0, ↓w_gS, ↓w_gK, ↓w_dv, ↓w_tw, ↓w_rz, ↓w_no, nv_lit, nv_f, nv_add, nv_mul, nv_sub, nv_le, nv_lt, nv_eq, nv_cl, Nat.reduceMod, Nat.reduceMul, Nat.reduceAdd, Nat.zero_add, Nat.add_zero, Nat.mul_zero, decide_eq_true_eq, nv_inT, n10, show ¬ nv 1 = nv 2 by decide, show ¬ nv 2 = nv 1 by decide, show ¬ nv 2 = nv 3 by decide, fcc.1, X5_factOf_w fcc, f1]
              exact post_s hC hT hE2 (by omega) (by omega) hc
            · have k1' : ¬ fc R x y = nv 1 := fun e => k1 (ekf.trans e)
              rw [ekf] at hc ⊢
              simp (disch := omega) only [X5_why_92, X5_why_112, X5_why_127, X5_why_211, X5_why_153, ↓w_bd, ↓w_rt, ↓w_bh, sm_l, sm_r, ↓w_okr, ↓w_nm, ↓w_ite, ↓reduceIte, not_true_eq_false, not_false_eq_true, and_true, true_and, and_self, Option.some.injEq, reduceCtorEq, eq_self, ↓w_rc, ↓w_gI, ↓w_gR, ↓w_aN, ↓w_aI, ↓w_aR, ↓w_aL, ↓w_pI, ↓w_pR, ↓w_sI, ↓w_sR, ↓w_sL, ↓w_nO, ↓w_nA, ↓w_nL, ↓w_ca, ↓w_ca0, ↓w_gS, ↓w_gK, ↓w_dv, ↓w_tw, ↓w_rz, ↓w_no, nv_lit, nv_f, nv_add, nv_mul, nv_sub, nv_le, nv_lt, nv_eq, nv_cl, Nat.reduceMod, Nat.reduceMul, Nat.reduceAdd, Nat.zero_add, Nat.add_zero, Nat.mul_zero, decide_eq_true_eq, nv_inT, n10, k1', show ¬ nv 1 = nv 2 by decide, show ¬ nv 2 = nv 1 by decide, show ¬ nv 2 = nv 3 by decide, fcc.1, X5_factOf_w fcc]
              exact post_s hC hT hE2 (by omega) (by omega) hc
          · simp (disch := omega) only [whU, ↓w_bd, ↓w_rt, ↓w_bh, sm_l, sm_r, ↓w_okr, ↓w_nm, ↓w_ite, ↓reduceIte, not_true_eq_false, not_false_eq_true, and_true, true_and, and_self, Option.some.injEq, reduceCtorEq, eq_self, ↓w_rc, ↓w_gI, ↓w_gR, ↓w_aN, ↓w_aI, ↓w_aR, ↓w_aL, ↓w_pI, ↓w_pR, ↓w_sI, ↓w_sR, ↓w_sL, ↓w_nO, ↓w_nA, ↓w_nL, ↓w_ca, ↓w_ca0, ↓w_gS, ↓w_gK, ↓w_dv, ↓w_tw, ↓w_rz, ↓w_no, nv_lit, nv_f, nv_add, nv_mul, nv_sub, nv_le, nv_lt, nv_eq, nv_cl, Nat.reduceMod, Nat.reduceMul, Nat.reduceAdd, Nat.zero_add, Nat.add_zero, Nat.mul_zero, decide_eq_true_eq, nv_inT, show ¬ nv 2 = nv 0 by decide, show ¬ nv 2 = nv 3 by decide, X1_why_80, hJ2, ol_f]
            refine tw _ (hF2.ol _) _ fun c hc => ?_
            by_cases k1 : kn R x y = nv 1
            · simp (disch := omega) only [X5_why_92, X5_why_112, X5_why_127, X5_why_211, X5_why_153, ↓w_bd, ↓w_rt, ↓w_bh, sm_l, sm_r, ↓w_okr, ↓w_nm, ↓w_ite, ↓reduceIte, not_true_eq_false, not_false_eq_true, and_true, true_and, and_self, Option.some.injEq, reduceCtorEq, eq_self, ↓w_rc, ↓w_gI, ↓w_gR, ↓w_aN, ↓w_aI, ↓w_aR, ↓w_aL, ↓w_pI, ↓w_pR, ↓w_sI, ↓w_sR, ↓w_sL, ↓w_nO, ↓w_nA, ↓w_nL, ↓w_ca, ↓w_ca0, ↓w_gS, ↓w_gK, ↓w_dv, ↓w_tw, ↓w_rz, ↓w_no, nv_lit, nv_f, nv_add, nv_mul, nv_sub, nv_le, nv_lt, nv_eq, nv_cl, Nat.reduceMod, Nat.reduceMul, Nat.reduceAdd, Nat.zero_add, Nat.add_zero, Nat.mul_zero, decide_eq_true_eq, nv_inT, n10, k1, show ¬ nv 2 = nv 0 by decide, show ¬ nv 2 = nv 3 by decide]
              exact post_s hC hT hE2 (by omega) (by omega) hc
            · simp (disch := omega) only [X5_why_92, X5_why_112, X5_why_127, X5_why_211, X5_why_153, ↓w_bd, ↓w_rt, ↓w_bh, sm_l, sm_r, ↓w_okr, ↓w_nm, ↓w_ite, ↓reduceIte, not_true_eq_false, not_false_eq_true, and_true, true_and, and_self, Option.some.injEq, reduceCtorEq, eq_self, ↓w_rc, ↓w_gI, ↓w_gR, ↓w_aN, ↓w_aI, ↓w_aR, ↓w_aL, ↓w_pI, ↓w_pR, ↓w_sI, ↓w_sR, ↓w_sL, ↓w_nO, ↓w_nA, ↓w_nL, ↓w_ca, ↓w_ca0, ↓w_gS, ↓w_gK, ↓w_dv, ↓w_tw, ↓w_rz, ↓w_no, nv_lit, nv_f, nv_add, nv_mul, nv_sub, nv_le, nv_lt, nv_eq, nv_cl, Nat.reduceMod, Nat.reduceMul, Nat.reduceAdd, Nat.zero_add, Nat.add_zero, Nat.mul_zero, decide_eq_true_eq, nv_inT, n10, k1, show ¬ nv 2 = nv 0 by decide, show ¬ nv 2 = nv 3 by decide]
              exact post_s hC hT hE2 (by omega) (by omega) hc
    · have hb := bw_0' hu (by omega) (show 3 = 2 + 1 from rfl)
      have hE2 := hE.tr (tw_e (va2 a v w))
      have hF2 := hF.e0 hE2 hs
      have hF0 := hF2.th hG (nv 0)
      have t5 := th_5 G (tw_ (va2 a v w)) (nv 0)
      simp (disch := omega) only [X0_why, X1_why_eq, OpL, ↓w_bd, ↓w_rt, ↓w_bh, sm_l, sm_r, ↓w_okr, ↓w_nm, ↓w_ite, ↓reduceIte, not_true_eq_false, not_false_eq_true, and_true, true_and, and_self, Option.some.injEq, reduceCtorEq, eq_self, ↓w_rc, ↓w_gI, ↓w_gR, ↓w_aN, ↓w_aI, ↓w_aR, ↓w_aL, ↓w_pI, ↓w_pR, ↓w_sI, ↓w_sR, ↓w_sL, ↓w_nO, ↓w_nA, ↓w_nL, ↓w_ca, ↓w_ca0, ↓w_gS, ↓w_gK, ↓w_dv, ↓w_tw, ↓w_rz, ↓w_no, nv_lit, nv_f, nv_add, nv_mul, nv_sub, nv_le, nv_lt, nv_eq, nv_cl, Nat.reduceMod, Nat.reduceMul, Nat.reduceAdd, Nat.zero_add, Nat.add_zero, Nat.mul_zero, decide_eq_true_eq, nv_inT, mk_k hM, mk_n hM, mk_r hM, mk_i hM, hX, hJ, ol_f, X1_isBetween_w, X1_requireArgument_1 n10, X1_requireArgument_0, X1_requireIndex_1 n10, X1_requireIndex_0, Nat.reduceEqDiff, hX0, va1_f, va2_f, hK_new, hN_new, hK_wI, hN_wI, up1_s, Nat.reduceLeDiff, Nat.not_lt_zero, X1_requireHeaps_11 hM hX h.1 h.2 (va2_q a _ _), hb]
      simp (disch := omega) only [X5_why, ↓w_bd, ↓w_rt, ↓w_bh, sm_l, sm_r, ↓w_okr, ↓w_nm, ↓w_ite, ↓reduceIte, not_true_eq_false, not_false_eq_true, and_true, true_and, and_self, Option.some.injEq, reduceCtorEq, eq_self, ↓w_rc, ↓w_gI, ↓w_gR, ↓w_aN, ↓w_aI, ↓w_aR, ↓w_aL, ↓w_pI, ↓w_pR, ↓w_sI, ↓w_sR, ↓w_sL, ↓w_nO, ↓w_nA, ↓w_nL, ↓w_ca, ↓w_ca0, ↓w_gS, ↓w_gK, ↓w_dv, ↓w_tw, ↓w_rz, ↓w_no, nv_lit, nv_f, nv_add, nv_mul, nv_sub, nv_le, nv_lt, nv_eq, nv_cl, Nat.reduceMod, Nat.reduceMul, Nat.reduceAdd, Nat.zero_add, Nat.add_zero, Nat.mul_zero, decide_eq_true_eq, nv_inT, th_f, th_K, th_N, th_R, th_5, th_2, okn0, Nat.reduceEqDiff, hF2.1, hF0.1, n10, X5_isHeap_1 hF0 hS h.1, X5_isHeap_1 hF0 hS h.2]
      simp (disch := omega) only [X5_why_27, X5_why_48, ↓w_bd, ↓w_rt, ↓w_bh, sm_l, sm_r, ↓w_okr, ↓w_nm, ↓w_ite, ↓reduceIte, not_true_eq_false, not_false_eq_true, and_true, true_and, and_self, Option.some.injEq, reduceCtorEq, eq_self, ↓w_rc, ↓w_gI, ↓w_gR, ↓w_aN, ↓w_aI, ↓w_aR, ↓w_aL, ↓w_pI, ↓w_pR, ↓w_sI, ↓w_sR, ↓w_sL, ↓w_nO, ↓w_nA, ↓w_nL, ↓w_ca, ↓w_ca0, ↓w_gS, ↓w_gK, ↓w_dv, ↓w_tw, ↓w_rz, ↓w_no, nv_lit, nv_f, nv_add, nv_mul, nv_sub, nv_le, nv_lt, nv_eq, nv_cl, Nat.reduceMod, Nat.reduceMul, Nat.reduceAdd, Nat.zero_add, Nat.add_zero, Nat.mul_zero, decide_eq_true_eq, nv_inT, th_f, th_K, th_N, th_R, th_5, th_2, okn0, Nat.reduceEqDiff, hF0.1, X5_in_w, X5_holds_1 hF0.1.1.1 t5 n10, X5_holds_0 hF0.1.1.1 t5, n10, hb]
      exact post_x hC hT hE2 (by rw [tw_z, va2_z]; omega) (by rw [tw_l, va2_l]; omega) (by omega) (by omega) _
  · have hE2 := hE.tr (tw_e (va2 a v w))
    have hF2 := hF.e0 hE2 hs
    have hF0 := hF2.th hG (nv 0)
    have t5 := th_5 G (tw_ (va2 a v w)) (nv 0)
    simp (disch := omega) only [X0_why, X1_why_eq, OpL, ↓w_bd, ↓w_rt, ↓w_bh, sm_l, sm_r, ↓w_okr, ↓w_nm, ↓w_ite, ↓reduceIte, not_true_eq_false, not_false_eq_true, and_true, true_and, and_self, Option.some.injEq, reduceCtorEq, eq_self, ↓w_rc, ↓w_gI, ↓w_gR, ↓w_aN, ↓w_aI, ↓w_aR, ↓w_aL, ↓w_pI, ↓w_pR, ↓w_sI, ↓w_sR, ↓w_sL, ↓w_nO, ↓w_nA, ↓w_nL, ↓w_ca, ↓w_ca0, ↓w_gS, ↓w_gK, ↓w_dv, ↓w_tw, ↓w_rz, ↓w_no, nv_lit, nv_f, nv_add, nv_mul, nv_sub, nv_le, nv_lt, nv_eq, nv_cl, Nat.reduceMod, Nat.reduceMul, Nat.reduceAdd, Nat.zero_add, Nat.add_zero, Nat.mul_zero, decide_eq_true_eq, nv_inT, mk_k hM, mk_n hM, mk_r hM, mk_i hM, hX, hJ, ol_f, X1_isBetween_w, X1_requireArgument_1 n10, X1_requireArgument_0, X1_requireIndex_1 n10, X1_requireIndex_0, Nat.reduceEqDiff, hX0, va1_f, va2_f, hK_new, hN_new, hK_wI, hN_wI, up1_s, Nat.reduceLeDiff, Nat.not_lt_zero, X1_requireHeaps_0 hM hX (by omega) h (va2_q a _ _)]
    by_cases h1 : inr v (nH R)
    · have h1' : ¬ inr w (nH R) := fun e => h ⟨h1, e⟩
      simp (disch := omega) only [X5_why, ↓w_bd, ↓w_rt, ↓w_bh, sm_l, sm_r, ↓w_okr, ↓w_nm, ↓w_ite, ↓reduceIte, not_true_eq_false, not_false_eq_true, and_true, true_and, and_self, Option.some.injEq, reduceCtorEq, eq_self, ↓w_rc, ↓w_gI, ↓w_gR, ↓w_aN, ↓w_aI, ↓w_aR, ↓w_aL, ↓w_pI, ↓w_pR, ↓w_sI, ↓w_sR, ↓w_sL, ↓w_nO, ↓w_nA, ↓w_nL, ↓w_ca, ↓w_ca0, ↓w_gS, ↓w_gK, ↓w_dv, ↓w_tw, ↓w_rz, ↓w_no, nv_lit, nv_f, nv_add, nv_mul, nv_sub, nv_le, nv_lt, nv_eq, nv_cl, Nat.reduceMod, Nat.reduceMul, Nat.reduceAdd, Nat.zero_add, Nat.add_zero, Nat.mul_zero, decide_eq_true_eq, nv_inT, th_f, th_K, th_N, th_R, th_5, th_2, okn0, Nat.reduceEqDiff, hF2.1, hF0.1, n10, X5_isHeap_1 hF0 hS h1, X5_isHeap_0 hF0 hS h1']
      simp (disch := omega) only [X5_why_26, X5_why_27, X5_why_48, ↓w_bd, ↓w_rt, ↓w_bh, sm_l, sm_r, ↓w_okr, ↓w_nm, ↓w_ite, ↓reduceIte, not_true_eq_false, not_false_eq_true, and_true, true_and, and_self, Option.some.injEq, reduceCtorEq, eq_self, ↓w_rc, ↓w_gI, ↓w_gR, ↓w_aN, ↓w_aI, ↓w_aR, ↓w_aL, ↓w_pI, ↓w_pR, ↓w_sI, ↓w_sR, ↓w_sL, ↓w_nO, ↓w_nA, ↓w_nL, ↓w_ca, ↓w_ca0, ↓w_gS, ↓w_gK, ↓w_dv, ↓w_tw, ↓w_rz, ↓w_no, nv_lit, nv_f, nv_add, nv_mul, nv_sub, nv_le, nv_lt, nv_eq, nv_cl, Nat.reduceMod, Nat.reduceMul, Nat.reduceAdd, Nat.zero_add, Nat.add_zero, Nat.mul_zero, decide_eq_true_eq, nv_inT, th_f, th_K, th_N, th_R, th_5, th_2, okn0, Nat.reduceEqDiff, hF0.1, X5_holds_0 hF0.1.1.1 t5]
      exact post_x hC hT hE2 (by rw [tw_z, va2_z]; omega) (by rw [tw_l, va2_l]; omega) (by omega) (by omega) _
    · simp (disch := omega) only [X5_why, ↓w_bd, ↓w_rt, ↓w_bh, sm_l, sm_r, ↓w_okr, ↓w_nm, ↓w_ite, ↓reduceIte, not_true_eq_false, not_false_eq_true, and_true, true_and, and_self, Option.some.injEq, reduceCtorEq, eq_self, ↓w_rc, ↓w_gI, ↓w_gR, ↓w_aN, ↓w_aI, ↓w_aR, ↓w_aL, ↓w_pI, ↓w_pR, ↓w_sI, ↓w_sR, ↓w_sL, ↓w_nO, ↓w_nA, ↓w_nL, ↓w_ca, ↓w_ca0, ↓w_gS, ↓w_gK, ↓w_dv, ↓w_tw, ↓w_rz, ↓w_no, nv_lit, nv_f, nv_add, nv_mul, nv_sub, nv_le, nv_lt, nv_eq, nv_cl, Nat.reduceMod, Nat.reduceMul, Nat.reduceAdd, Nat.zero_add, Nat.add_zero, Nat.mul_zero, decide_eq_true_eq, nv_inT, th_f, th_K, th_N, th_R, th_5, th_2, okn0, Nat.reduceEqDiff, hF2.1, hF0.1, n10, X5_isHeap_0 hF0 hS h1]
      simp (disch := omega) only [X5_why_26, X5_why_27, X5_why_48, ↓w_bd, ↓w_rt, ↓w_bh, sm_l, sm_r, ↓w_okr, ↓w_nm, ↓w_ite, ↓reduceIte, not_true_eq_false, not_false_eq_true, and_true, true_and, and_self, Option.some.injEq, reduceCtorEq, eq_self, ↓w_rc, ↓w_gI, ↓w_gR, ↓w_aN, ↓w_aI, ↓w_aR, ↓w_aL, ↓w_pI, ↓w_pR, ↓w_sI, ↓w_sR, ↓w_sL, ↓w_nO, ↓w_nA, ↓w_nL, ↓w_ca, ↓w_ca0, ↓w_gS, ↓w_gK, ↓w_dv, ↓w_tw, ↓w_rz, ↓w_no, nv_lit, nv_f, nv_add, nv_mul, nv_sub, nv_le, nv_lt, nv_eq, nv_cl, Nat.reduceMod, Nat.reduceMul, Nat.reduceAdd, Nat.zero_add, Nat.add_zero, Nat.mul_zero, decide_eq_true_eq, nv_inT, th_f, th_K, th_N, th_R, th_5, th_2, okn0, Nat.reduceEqDiff, hF0.1, X5_holds_0 hF0.1.1.1 t5]
      exact post_x hC hT hE2 (by rw [tw_z, va2_z]; omega) (by rw [tw_l, va2_l]; omega) (by omega) (by omega) _
