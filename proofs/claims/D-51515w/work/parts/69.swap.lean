theorem act_swap {G : Nat → Nat} {B : Nat → Nat × Nat} {S : Gst} {a : Hp} (hC : JC G B S a) (v w : Int32) : Act κi G B S a (X1_swap (G 0) v w) (X5_swap (G 10) v w) := by
  obtain ⟨L, R, hM, hR, hX, h0⟩ := startC hC
  have hG := hC.1.gd
  have hJ := hC.2.1
  have hS := hR.1
  have hFs := hR.2.1
  have h10 := sh_H10 hS
  have h2 := sh_H2 hS
  by_cases hv : inr v (nH R)
  · obtain ⟨x, rfl, hx⟩ := inr_k hv
    by_cases hw : inr w (nH R)
    · obtain ⟨y, rfl, hy⟩ := inr_k hw
      by_cases e1 : x = y
      · simp (disch := omega) only [X1_swap, ↓w_bd, ↓w_rt, ↓w_bh, sm_l, sm_r, ↓w_okr, ↓w_nm, ↓w_ite, ↓reduceIte, not_true_eq_false, not_false_eq_true, and_true, true_and, and_self, Option.some.injEq, reduceCtorEq, eq_self, ↓w_rc, ↓w_gI, ↓w_gR, ↓w_aN, ↓w_aI, ↓w_aR, ↓w_aL, ↓w_pI, ↓w_pR, ↓w_sI, ↓w_sR, ↓w_sL, ↓w_nO, ↓w_nA, ↓w_nL, ↓w_ca, ↓w_ca0, ↓w_gS, ↓w_gK, ↓w_dv, ↓w_tw, ↓w_rz, ↓w_no, nv_lit, nv_f, nv_add, nv_mul, nv_sub, nv_le, nv_lt, nv_eq, nv_cl, Nat.reduceMod, Nat.reduceMul, Nat.reduceAdd, Nat.zero_add, Nat.add_zero, Nat.mul_zero, decide_eq_true_eq, nv_inT, mk_k hM, mk_n hM, mk_r hM, mk_i hM, hX, hJ, X1_isBetween_w, X1_requireArgument_1 n10, X1_requireArgument_0, X1_requireIndex_1 n10, X1_requireIndex_0, Nat.reduceEqDiff, okn, X1_heapOf_1 hM hX, e1, X1_refuse_w hC]
        refine ap_ref hC (E0.rf a) (by omega) (by omega) (by omega) fun c hc Q hq => ?_
        obtain ⟨hF, hF0⟩ := jt_f0 hG hc h0
        have t5 := th_5 G c (nv 0)
        simp (disch := omega) only [X5_swap, X5_swap_27, ↓w_bd, ↓w_rt, ↓w_bh, sm_l, sm_r, ↓w_okr, ↓w_nm, ↓w_ite, ↓reduceIte, not_true_eq_false, not_false_eq_true, and_true, true_and, and_self, Option.some.injEq, reduceCtorEq, eq_self, ↓w_rc, ↓w_gI, ↓w_gR, ↓w_aN, ↓w_aI, ↓w_aR, ↓w_aL, ↓w_pI, ↓w_pR, ↓w_sI, ↓w_sR, ↓w_sL, ↓w_nO, ↓w_nA, ↓w_nL, ↓w_ca, ↓w_ca0, ↓w_gS, ↓w_gK, ↓w_dv, ↓w_tw, ↓w_rz, ↓w_no, nv_lit, nv_f, nv_add, nv_mul, nv_sub, nv_le, nv_lt, nv_eq, nv_cl, Nat.reduceMod, Nat.reduceMul, Nat.reduceAdd, Nat.zero_add, Nat.add_zero, Nat.mul_zero, decide_eq_true_eq, nv_inT, th_f, th_K, th_N, th_R, th_5, th_2, okn0, Nat.reduceEqDiff, hF.1, hF0.1, X5_in_w, X5_holds_1 hF0.1.1.1 t5 n10, X5_holds_0 hF0.1.1.1 t5, n10, X5_isHeap_1 hF0 hS hv, X5_isHeap_1 hF0 hS hw, e1]
        exact hq _ (Sx.rf _ _)
      · by_cases e2 : R (15 + 7 * x) = R (15 + 7 * y)
        · simp (disch := omega) only [X1_swap, ↓w_bd, ↓w_rt, ↓w_bh, sm_l, sm_r, ↓w_okr, ↓w_nm, ↓w_ite, ↓reduceIte, not_true_eq_false, not_false_eq_true, and_true, true_and, and_self, Option.some.injEq, reduceCtorEq, eq_self, ↓w_rc, ↓w_gI, ↓w_gR, ↓w_aN, ↓w_aI, ↓w_aR, ↓w_aL, ↓w_pI, ↓w_pR, ↓w_sI, ↓w_sR, ↓w_sL, ↓w_nO, ↓w_nA, ↓w_nL, ↓w_ca, ↓w_ca0, ↓w_gS, ↓w_gK, ↓w_dv, ↓w_tw, ↓w_rz, ↓w_no, nv_lit, nv_f, nv_add, nv_mul, nv_sub, nv_le, nv_lt, nv_eq, nv_cl, Nat.reduceMod, Nat.reduceMul, Nat.reduceAdd, Nat.zero_add, Nat.add_zero, Nat.mul_zero, decide_eq_true_eq, nv_inT, mk_k hM, mk_n hM, mk_r hM, mk_i hM, hX, hJ, X1_isBetween_w, X1_requireArgument_1 n10, X1_requireArgument_0, X1_requireIndex_1 n10, X1_requireIndex_0, Nat.reduceEqDiff, okn, X1_heapOf_1 hM hX, e1, e2, X1_refuse_w hC]
          refine ap_ref hC (E0.rf a) (by omega) (by omega) (by omega) fun c hc Q hq => ?_
          obtain ⟨hF, hF0⟩ := jt_f0 hG hc h0
          have t5 := th_5 G c (nv 0)
          simp (disch := omega) only [X5_swap, X5_swap_27, ↓w_bd, ↓w_rt, ↓w_bh, sm_l, sm_r, ↓w_okr, ↓w_nm, ↓w_ite, ↓reduceIte, not_true_eq_false, not_false_eq_true, and_true, true_and, and_self, Option.some.injEq, reduceCtorEq, eq_self, ↓w_rc, ↓w_gI, ↓w_gR, ↓w_aN, ↓w_aI, ↓w_aR, ↓w_aL, ↓w_pI, ↓w_pR, ↓w_sI, ↓w_sR, ↓w_sL, ↓w_nO, ↓w_nA, ↓w_nL, ↓w_ca, ↓w_ca0, ↓w_gS, ↓w_gK, ↓w_dv, ↓w_tw, ↓w_rz, ↓w_no, nv_lit, nv_f, nv_add, nv_mul, nv_sub, nv_le, nv_lt, nv_eq, nv_cl, Nat.reduceMod, Nat.reduceMul, Nat.reduceAdd, Nat.zero_add, Nat.add_zero, Nat.mul_zero, decide_eq_true_eq, nv_inT, th_f, th_K, th_N, th_R, th_5, th_2, okn0, Nat.reduceEqDiff, hF.1, hF0.1, X5_in_w, X5_holds_1 hF0.1.1.1 t5 n10, X5_holds_0 hF0.1.1.1 t5, n10, X5_isHeap_1 hF0 hS hv, X5_isHeap_1 hF0 hS hw, e1, X5_hp_w hF0, e2]
          exact hq _ (Sx.rf _ _)
        · simp (disch := omega) only [X1_swap, ↓w_bd, ↓w_rt, ↓w_bh, sm_l, sm_r, ↓w_okr, ↓w_nm, ↓w_ite, ↓reduceIte, not_true_eq_false, not_false_eq_true, and_true, true_and, and_self, Option.some.injEq, reduceCtorEq, eq_self, ↓w_rc, ↓w_gI, ↓w_gR, ↓w_aN, ↓w_aI, ↓w_aR, ↓w_aL, ↓w_pI, ↓w_pR, ↓w_sI, ↓w_sR, ↓w_sL, ↓w_nO, ↓w_nA, ↓w_nL, ↓w_ca, ↓w_ca0, ↓w_gS, ↓w_gK, ↓w_dv, ↓w_tw, ↓w_rz, ↓w_no, nv_lit, nv_f, nv_add, nv_mul, nv_sub, nv_le, nv_lt, nv_eq, nv_cl, Nat.reduceMod, Nat.reduceMul, Nat.reduceAdd, Nat.zero_add, Nat.add_zero, Nat.mul_zero, decide_eq_true_eq, nv_inT, mk_k hM, mk_n hM, mk_r hM, mk_i hM, hX, hJ, X1_isBetween_w, X1_requireArgument_1 n10, X1_requireArgument_0, X1_requireIndex_1 n10, X1_requireIndex_0, Nat.reduceEqDiff, okn, X1_heapOf_1 hM hX, e1, e2]
          refine X2_ways_w hM hFs _ fun b D hD hW => ?_
          have hE := hW.1
          have hCb := hC.e0 hE
          have hJb := hCb.2.1
          have hmul := Nat.mul_le_mul h10 h10
          have hzb : hSz b ≤ hSz a + 12 := by rw [hW.2.1]; omega
          have hlb : hSl b ≤ hSl a + 112 := by rw [hW.2.2.1]; omega
          by_cases e3 : kn R x y = nv 2
          · simp (disch := omega) only [↓w_bd, ↓w_rt, ↓w_bh, sm_l, sm_r, ↓w_okr, ↓w_nm, ↓w_ite, ↓reduceIte, not_true_eq_false, not_false_eq_true, and_true, true_and, and_self, Option.some.injEq, reduceCtorEq, eq_self, ↓w_rc, ↓w_gI, ↓w_gR, ↓w_aN, ↓w_aI, ↓w_aR, ↓w_aL, ↓w_pI, ↓w_pR, ↓w_sI, ↓w_sR, ↓w_sL, ↓w_nO, ↓w_nA, ↓w_nL, ↓w_ca, ↓w_ca0, ↓w_gS, ↓w_gK, ↓w_dv, ↓w_tw, ↓w_rz, ↓w_no, nv_lit, nv_f, nv_add, nv_mul, nv_sub, nv_le, nv_lt, nv_eq, nv_cl, Nat.reduceMod, Nat.reduceMul, Nat.reduceAdd, Nat.zero_add, Nat.add_zero, Nat.mul_zero, decide_eq_true_eq, nv_inT, hW.2.2.2.r, X9_known_w hFs h10 hD hW.2.2.2, hJb, e3]
            refine keep_c hC hE h0 _ fun d B' L' q1 q2 q3 hMd hXd hCd z l => ?_
            have hJd := q1.2.1
            obtain ⟨R1, r1⟩ : ∃ R1, R1 = up1 R (15 + 7 * x) (R (15 + 7 * y)) := ⟨_, rfl⟩
            have s1 : Ss R R1 := by rw [r1]; exact Ss.up hS _ (by omega) (by omega) (by omega) (fun z _ => by omega) (fun z _ => ⟨by omega, by omega, by omega⟩)
            have hC1 := hCd.wI (R (15 + 7 * y)) (ci_ow R hx) (by omega) (by omega) (by omega) (fun z _ => by omega) (by omega)
            rw [← r1] at hC1
            have hy1 : y < nH R1 := by rw [s1.H]; exact hy
            obtain ⟨R2, r2⟩ : ∃ R2, R2 = up1 R1 (15 + 7 * y) (R (15 + 7 * x)) := ⟨_, rfl⟩
            have hC2 := hC1.wI (R (15 + 7 * x)) (ci_ow R1 hy1) (by omega) (by omega) (by omega) (fun z _ => by omega) (by omega)
            rw [← r2] at hC2
            have n2 : nH R2 = nH R := by rw [r2]; unfold nH; rw [up1_o _ _ _ (by omega)]; exact s1.H
            obtain ⟨R3, r3⟩ : ∃ R3, R3 = up1 R2 (4 + 4) (R 8 + nv 2) := ⟨_, rfl⟩
            have hC3 := hC2.wI (R 8 + nv 2) (ci_ta R2 (j := 4) (by omega)) (by omega) (by omega) (by omega) (fun z _ => by omega) (by omega)
            rw [← r3] at hC3
            have v2 : R2 8 = R 8 := by rw [r2, r1, up1_o _ _ _ (by omega), up1_o _ _ _ (by omega)]
            have v3 : R3 (15 + 7 * x) = R (15 + 7 * y) := by rw [r3, r2, r1, up1_o _ _ _ (by omega), up1_o _ _ _ (by omega), up1_s]
            have hx3 : x < nH R3 := by
              rw [r3]
              unfold nH
              rw [up1_o _ _ _ (by omega)]
              exact Nat.lt_of_lt_of_eq hx n2.symm
            have hM1 := hC1.1
            have hM2 := hC2.1
            have hM3 := hC3.1
            have hX1 := hC1.2.2.2.1 hXd
            have hX2 := hC2.2.2.2.1 hXd
            have hX3 := hC3.2.2.2.1 hXd
            simp (disch := omega) only [↓w_bd, ↓w_rt, ↓w_bh, sm_l, sm_r, ↓w_okr, ↓w_nm, ↓w_ite, ↓reduceIte, not_true_eq_false, not_false_eq_true, and_true, true_and, and_self, Option.some.injEq, reduceCtorEq, eq_self, ↓w_rc, ↓w_gI, ↓w_gR, ↓w_aN, ↓w_aI, ↓w_aR, ↓w_aL, ↓w_pI, ↓w_pR, ↓w_sI, ↓w_sR, ↓w_sL, ↓w_nO, ↓w_nA, ↓w_nL, ↓w_ca, ↓w_ca0, ↓w_gS, ↓w_gK, ↓w_dv, ↓w_tw, ↓w_rz, ↓w_no, nv_lit, nv_f, nv_add, nv_mul, nv_sub, nv_le, nv_lt, nv_eq, nv_cl, Nat.reduceMod, Nat.reduceMul, Nat.reduceAdd, Nat.zero_add, Nat.add_zero, Nat.mul_zero, decide_eq_true_eq, nv_inT, mk_k hMd, mk_r hMd, mk_n hMd, mk_i hMd, hXd, hJd, okn, nr41, mk_k hM1, mk_r hM1, mk_n hM1, hX1, mk_k hM2, mk_r hM2, mk_n hM2, mk_i hM2, hX2, v2, mk_k hM3, mk_r hM3, mk_n hM3, mk_i hM3, hX3, v3]
            refine ap_now hC h0 q2 q3 q1 hC3 (fun _ _ => rfl) ?_ ?_ ?_ fun c hc Q hq => ?_
            · have o : ∀ i, i ≠ 15 + 7 * x → i ≠ 15 + 7 * y → i ≠ 8 → R3 i = R i := fun i h1 h2 h3 => by rw [r3, r2, r1, up1_o _ _ _ h3, up1_o _ _ _ h2, up1_o _ _ _ h1]
              refine ro_lo hR (o _ (by omega) (by omega) (by omega)) (o _ (by omega) (by omega) (by omega)) (o _ (by omega) (by omega) (by omega)) (fun u hu => ?_) (fun k hk => ?_) (fun u j _ _ _ => o _ (by omega) (by omega) (by omega)) (fun i hi => o _ (by omega) (by omega) (by omega))
              · by_cases c1 : u = x
                · rw [c1, v3]; exact ro_own hR y hy
                · by_cases c2 : u = y
                  · rw [c2, r3, r2, up1_o _ _ _ (by omega), up1_s]; exact ro_own hR x hx
                  · rw [o _ (by omega) (by omega) (by omega)]; exact ro_own hR u hu
              · have := sh_T4 hS
                rw [o _ (by omega) (by omega) (by omega)]; exact hR.2.2.2.2.1 k hk
            · show hSz d ≤ _
              omega
            · show hSl d ≤ _
              omega
            · obtain ⟨hF, hF0⟩ := jt_f0 hG hc h0
              have t5 := th_5 G c (nv 0)
              simp (disch := omega) only [X5_swap, X5_swap_27, ↓w_bd, ↓w_rt, ↓w_bh, sm_l, sm_r, ↓w_okr, ↓w_nm, ↓w_ite, ↓reduceIte, not_true_eq_false, not_false_eq_true, and_true, true_and, and_self, Option.some.injEq, reduceCtorEq, eq_self, ↓w_rc, ↓w_gI, ↓w_gR, ↓w_aN, ↓w_aI, ↓w_aR, ↓w_aL, ↓w_pI, ↓w_pR, ↓w_sI, ↓w_sR, ↓w_sL, ↓w_nO, ↓w_nA, ↓w_nL, ↓w_ca, ↓w_ca0, ↓w_gS, ↓w_gK, ↓w_dv, ↓w_tw, ↓w_rz, ↓w_no, nv_lit, nv_f, nv_add, nv_mul, nv_sub, nv_le, nv_lt, nv_eq, nv_cl, Nat.reduceMod, Nat.reduceMul, Nat.reduceAdd, Nat.zero_add, Nat.add_zero, Nat.mul_zero, decide_eq_true_eq, nv_inT, th_f, th_K, th_N, th_R, th_5, th_2, okn0, Nat.reduceEqDiff, hF.1, hF0.1, X5_in_w, X5_holds_1 hF0.1.1.1 t5 n10, X5_holds_0 hF0.1.1.1 t5, n10, X5_isHeap_1 hF0 hS hv, X5_isHeap_1 hF0 hS hw, e1, X5_hp_w hF0, e2]
              refine X5_knownOf_w hF0 hG hS hFs hx hy _ fun b2 hb2 => ?_
              have hF2 := hF0.sx hG hb2
              simp (disch := omega) only [↓w_bd, ↓w_rt, ↓w_bh, sm_l, sm_r, ↓w_okr, ↓w_nm, ↓w_ite, ↓reduceIte, not_true_eq_false, not_false_eq_true, and_true, true_and, and_self, Option.some.injEq, reduceCtorEq, eq_self, ↓w_rc, ↓w_gI, ↓w_gR, ↓w_aN, ↓w_aI, ↓w_aR, ↓w_aL, ↓w_pI, ↓w_pR, ↓w_sI, ↓w_sR, ↓w_sL, ↓w_nO, ↓w_nA, ↓w_nL, ↓w_ca, ↓w_ca0, ↓w_gS, ↓w_gK, ↓w_dv, ↓w_tw, ↓w_rz, ↓w_no, nv_lit, nv_f, nv_add, nv_mul, nv_sub, nv_le, nv_lt, nv_eq, nv_cl, Nat.reduceMod, Nat.reduceMul, Nat.reduceAdd, Nat.zero_add, Nat.add_zero, Nat.mul_zero, decide_eq_true_eq, nv_inT, e3, hF2.1]
              refine keeps_t hC hc hb2 h0 L' _ fun d2 k1 k3 k2 hF3 => ?_
              have f1 := hF3.ly hG (k := 15 + 7 * x) (by omega) (R (15 + 7 * y))
              rw [← r1] at f1
              have f2 := f1.ly hG (k := 15 + 7 * y) (by omega) (R (15 + 7 * x))
              rw [← r2] at f2
              simp (disch := omega) only [↓w_bd, ↓w_rt, ↓w_bh, sm_l, sm_r, ↓w_okr, ↓w_nm, ↓w_ite, ↓reduceIte, not_true_eq_false, not_false_eq_true, and_true, true_and, and_self, Option.some.injEq, reduceCtorEq, eq_self, ↓w_rc, ↓w_gI, ↓w_gR, ↓w_aN, ↓w_aI, ↓w_aR, ↓w_aL, ↓w_pI, ↓w_pR, ↓w_sI, ↓w_sR, ↓w_sL, ↓w_nO, ↓w_nA, ↓w_nL, ↓w_ca, ↓w_ca0, ↓w_gS, ↓w_gK, ↓w_dv, ↓w_tw, ↓w_rz, ↓w_no, nv_lit, nv_f, nv_add, nv_mul, nv_sub, nv_le, nv_lt, nv_eq, nv_cl, Nat.reduceMod, Nat.reduceMul, Nat.reduceAdd, Nat.zero_add, Nat.add_zero, Nat.mul_zero, decide_eq_true_eq, nv_inT, hF3.1, X5_layHeap_w hF3, ly_K, X5_layHeap_w f1, X5_tallies_w f2, v2]
              have t1 := (Tn.rf hF3).lay hG (k := 15 + 7 * x) (by omega) (R (15 + 7 * y))
              rw [← r1] at t1
              have t2 := t1.lay hG (k := 15 + 7 * y) (by omega) (R (15 + 7 * x))
              rw [← r2] at t2
              have t3 := t2.lay hG (k := 8) (by omega) (R 8 + nv 2)
              have r3' : R3 = up1 R2 8 (R 8 + nv 2) := r3
              rw [← r3'] at t3
              exact hq _ _ k1 k3 k2 t3
          · simp (disch := omega) only [↓w_bd, ↓w_rt, ↓w_bh, sm_l, sm_r, ↓w_okr, ↓w_nm, ↓w_ite, ↓reduceIte, not_true_eq_false, not_false_eq_true, and_true, true_and, and_self, Option.some.injEq, reduceCtorEq, eq_self, ↓w_rc, ↓w_gI, ↓w_gR, ↓w_aN, ↓w_aI, ↓w_aR, ↓w_aL, ↓w_pI, ↓w_pR, ↓w_sI, ↓w_sR, ↓w_sL, ↓w_nO, ↓w_nA, ↓w_nL, ↓w_ca, ↓w_ca0, ↓w_gS, ↓w_gK, ↓w_dv, ↓w_tw, ↓w_rz, ↓w_no, nv_lit, nv_f, nv_add, nv_mul, nv_sub, nv_le, nv_lt, nv_eq, nv_cl, Nat.reduceMod, Nat.reduceMul, Nat.reduceAdd, Nat.zero_add, Nat.add_zero, Nat.mul_zero, decide_eq_true_eq, nv_inT, hW.2.2.2.r, X9_known_w hFs h10 hD hW.2.2.2, hJb, e3, X1_refuse_w hCb]
            refine ap_ref hC hE (by omega) (by omega) (by omega) fun c hc Q hq => ?_
            obtain ⟨hF, hF0⟩ := jt_f0 hG hc h0
            have t5 := th_5 G c (nv 0)
            simp (disch := omega) only [X5_swap, X5_swap_27, ↓w_bd, ↓w_rt, ↓w_bh, sm_l, sm_r, ↓w_okr, ↓w_nm, ↓w_ite, ↓reduceIte, not_true_eq_false, not_false_eq_true, and_true, true_and, and_self, Option.some.injEq, reduceCtorEq, eq_self, ↓w_rc, ↓w_gI, ↓w_gR, ↓w_aN, ↓w_aI, ↓w_aR, ↓w_aL, ↓w_pI, ↓w_pR, ↓w_sI, ↓w_sR, ↓w_sL, ↓w_nO, ↓w_nA, ↓w_nL, ↓w_ca, ↓w_ca0, ↓w_gS, ↓w_gK, ↓w_dv, ↓w_tw, ↓w_rz, ↓w_no, nv_lit, nv_f, nv_add, nv_mul, nv_sub, nv_le, nv_lt, nv_eq, nv_cl, Nat.reduceMod, Nat.reduceMul, Nat.reduceAdd, Nat.zero_add, Nat.add_zero, Nat.mul_zero, decide_eq_true_eq, nv_inT, th_f, th_K, th_N, th_R, th_5, th_2, okn0, Nat.reduceEqDiff, hF.1, hF0.1, X5_in_w, X5_holds_1 hF0.1.1.1 t5 n10, X5_holds_0 hF0.1.1.1 t5, n10, X5_isHeap_1 hF0 hS hv, X5_isHeap_1 hF0 hS hw, e1, X5_hp_w hF0, e2]
            refine X5_knownOf_w hF0 hG hS hFs hx hy _ fun b2 hb2 => ?_
            have hF2 := hF0.sx hG hb2
            simp (disch := omega) only [↓w_bd, ↓w_rt, ↓w_bh, sm_l, sm_r, ↓w_okr, ↓w_nm, ↓w_ite, ↓reduceIte, not_true_eq_false, not_false_eq_true, and_true, true_and, and_self, Option.some.injEq, reduceCtorEq, eq_self, ↓w_rc, ↓w_gI, ↓w_gR, ↓w_aN, ↓w_aI, ↓w_aR, ↓w_aL, ↓w_pI, ↓w_pR, ↓w_sI, ↓w_sR, ↓w_sL, ↓w_nO, ↓w_nA, ↓w_nL, ↓w_ca, ↓w_ca0, ↓w_gS, ↓w_gK, ↓w_dv, ↓w_tw, ↓w_rz, ↓w_no, nv_lit, nv_f, nv_add, nv_mul, nv_sub, nv_le, nv_lt, nv_eq, nv_cl, Nat.reduceMod, Nat.reduceMul, Nat.reduceAdd, Nat.zero_add, Nat.add_zero, Nat.mul_zero, decide_eq_true_eq, nv_inT, e3, hF2.1]
            exact hq _ hb2
    · simp (disch := omega) only [X1_swap, ↓w_bd, ↓w_rt, ↓w_bh, sm_l, sm_r, ↓w_okr, ↓w_nm, ↓w_ite, ↓reduceIte, not_true_eq_false, not_false_eq_true, and_true, true_and, and_self, Option.some.injEq, reduceCtorEq, eq_self, ↓w_rc, ↓w_gI, ↓w_gR, ↓w_aN, ↓w_aI, ↓w_aR, ↓w_aL, ↓w_pI, ↓w_pR, ↓w_sI, ↓w_sR, ↓w_sL, ↓w_nO, ↓w_nA, ↓w_nL, ↓w_ca, ↓w_ca0, ↓w_gS, ↓w_gK, ↓w_dv, ↓w_tw, ↓w_rz, ↓w_no, nv_lit, nv_f, nv_add, nv_mul, nv_sub, nv_le, nv_lt, nv_eq, nv_cl, Nat.reduceMod, Nat.reduceMul, Nat.reduceAdd, Nat.zero_add, Nat.add_zero, Nat.mul_zero, decide_eq_true_eq, nv_inT, mk_k hM, mk_n hM, mk_r hM, mk_i hM, hX, hJ, X1_isBetween_w, X1_requireArgument_1 n10, X1_requireArgument_0, X1_requireIndex_1 n10, X1_requireIndex_0, Nat.reduceEqDiff, okn, X1_heapOf_1 hM hX, X1_heapOf_0 hM hX (by omega) hw]
      refine ap_x hC (tw_e a) (by rw [tw_z]; omega) (by rw [tw_l]; omega) (k := 1) rfl (by omega) (by omega) fun c hc Q hq => ?_
      obtain ⟨hF, hF0⟩ := jt_f0 hG hc h0
      have t5 := th_5 G c (nv 0)
      simp (disch := omega) only [X5_swap, X5_swap_26, X5_swap_27, ↓w_bd, ↓w_rt, ↓w_bh, sm_l, sm_r, ↓w_okr, ↓w_nm, ↓w_ite, ↓reduceIte, not_true_eq_false, not_false_eq_true, and_true, true_and, and_self, Option.some.injEq, reduceCtorEq, eq_self, ↓w_rc, ↓w_gI, ↓w_gR, ↓w_aN, ↓w_aI, ↓w_aR, ↓w_aL, ↓w_pI, ↓w_pR, ↓w_sI, ↓w_sR, ↓w_sL, ↓w_nO, ↓w_nA, ↓w_nL, ↓w_ca, ↓w_ca0, ↓w_gS, ↓w_gK, ↓w_dv, ↓w_tw, ↓w_rz, ↓w_no, nv_lit, nv_f, nv_add, nv_mul, nv_sub, nv_le, nv_lt, nv_eq, nv_cl, Nat.reduceMod, Nat.reduceMul, Nat.reduceAdd, Nat.zero_add, Nat.add_zero, Nat.mul_zero, decide_eq_true_eq, nv_inT, th_f, th_K, th_N, th_R, th_5, th_2, okn0, Nat.reduceEqDiff, hF.1, hF0.1, X5_in_w, X5_holds_1 hF0.1.1.1 t5 n10, X5_holds_0 hF0.1.1.1 t5, n10, X5_isHeap_1 hF0 hS hv, X5_isHeap_0 hF0 hS hw]
      exact hq _
  · simp (disch := omega) only [X1_swap, ↓w_bd, ↓w_rt, ↓w_bh, sm_l, sm_r, ↓w_okr, ↓w_nm, ↓w_ite, ↓reduceIte, not_true_eq_false, not_false_eq_true, and_true, true_and, and_self, Option.some.injEq, reduceCtorEq, eq_self, ↓w_rc, ↓w_gI, ↓w_gR, ↓w_aN, ↓w_aI, ↓w_aR, ↓w_aL, ↓w_pI, ↓w_pR, ↓w_sI, ↓w_sR, ↓w_sL, ↓w_nO, ↓w_nA, ↓w_nL, ↓w_ca, ↓w_ca0, ↓w_gS, ↓w_gK, ↓w_dv, ↓w_tw, ↓w_rz, ↓w_no, nv_lit, nv_f, nv_add, nv_mul, nv_sub, nv_le, nv_lt, nv_eq, nv_cl, Nat.reduceMod, Nat.reduceMul, Nat.reduceAdd, Nat.zero_add, Nat.add_zero, Nat.mul_zero, decide_eq_true_eq, nv_inT, mk_k hM, mk_n hM, mk_r hM, mk_i hM, hX, hJ, X1_isBetween_w, X1_requireArgument_1 n10, X1_requireArgument_0, X1_requireIndex_1 n10, X1_requireIndex_0, Nat.reduceEqDiff, okn, X1_heapOf_0 hM hX (by omega) hv]
    refine ap_x hC (tw_e a) (by rw [tw_z]; omega) (by rw [tw_l]; omega) (k := 1) rfl (by omega) (by omega) fun c hc Q hq => ?_
    obtain ⟨hF, hF0⟩ := jt_f0 hG hc h0
    have t5 := th_5 G c (nv 0)
    simp (disch := omega) only [X5_swap, X5_swap_26, X5_swap_27, ↓w_bd, ↓w_rt, ↓w_bh, sm_l, sm_r, ↓w_okr, ↓w_nm, ↓w_ite, ↓reduceIte, not_true_eq_false, not_false_eq_true, and_true, true_and, and_self, Option.some.injEq, reduceCtorEq, eq_self, ↓w_rc, ↓w_gI, ↓w_gR, ↓w_aN, ↓w_aI, ↓w_aR, ↓w_aL, ↓w_pI, ↓w_pR, ↓w_sI, ↓w_sR, ↓w_sL, ↓w_nO, ↓w_nA, ↓w_nL, ↓w_ca, ↓w_ca0, ↓w_gS, ↓w_gK, ↓w_dv, ↓w_tw, ↓w_rz, ↓w_no, nv_lit, nv_f, nv_add, nv_mul, nv_sub, nv_le, nv_lt, nv_eq, nv_cl, Nat.reduceMod, Nat.reduceMul, Nat.reduceAdd, Nat.zero_add, Nat.add_zero, Nat.mul_zero, decide_eq_true_eq, nv_inT, th_f, th_K, th_N, th_R, th_5, th_2, okn0, Nat.reduceEqDiff, hF.1, hF0.1, X5_in_w, X5_holds_1 hF0.1.1.1 t5 n10, X5_holds_0 hF0.1.1.1 t5, X5_isHeap_0 hF0 hS hv]
    exact hq _
theorem hd_i {e : Ex} {b : Hp} (h : κi e.1 ≠ 0) (Q : Int32 → Hp → Prop) : Wp (if e.1 = 2 then rt 1 else no) b Q ↔ Q (nv (κi e.1)) b := by
  have : e.1 = 2 := Decidable.byContradiction fun c => h (if_neg c)
  rw [if_pos this, w_rt, this]
  rfl
theorem hd_b {e : Ex} {b : Hp} (h : κb e.1 ≠ 0) (Q : Int32 → Hp → Prop) : Wp (if e.1 = 1 then rt 2 else if e.1 = 2 then rt 1 else no) b Q ↔ Q (nv (κb e.1)) b := by
  by_cases c : e.1 = 1
  · rw [if_pos c, w_rt, c]
    rfl
  · have c2 : e.1 = 2 := Decidable.byContradiction fun d => h (by unfold κb; rw [if_neg c, if_neg d])
    rw [if_neg c, if_pos c2, w_rt, c2]
    rfl
theorem op_swap {G : Nat → Nat} {B : Nat → Nat × Nat} {S : Gst} {a : Hp} (hC : JC G B S a) (hT : JT G S a) (v w : Int32) : OpL G a (X0_swap (some (G 0)) v w (some (G 20))) (X5_swap (G 10) v w) :=
  Act.op (m := fun h => X1_swap h v w) hC hT (act_swap hC v w) fun _ _ h Q => hd_i h Q
