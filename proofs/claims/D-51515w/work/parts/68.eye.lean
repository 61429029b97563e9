theorem startC {G : Nat → Nat} {B : Nat → Nat × Nat} {S : Gst} {a : Hp} (hC : JC G B S a) : ∃ L R, Mk B a L R ∧ Ro R ∧ FX G a L ∧ gm S 0 = some (L, R) := by
  obtain ⟨p, h1, h2⟩ := hC.2.2.1.1
  obtain ⟨-, h3, h4⟩ := hC.2.2.1.2.1 0 p h1
  exact ⟨p.1, p.2, h3, h4, ⟨hC.2.1.1.1, h2, (hC.1 0 (by omega)).1⟩, h1⟩
theorem jt_f0 {G : Nat → Nat} {S : Gst} {c : Hp} {L : Nat → Nat} {R : Nat → Int32} (hG : GD G) (hT : JT G S c) (h0 : gm S 0 = some (L, R)) : FO G c 0 R ∧ FO G (th G c (nv 0)) 0 R := ⟨hT.fo (p := (L, R)) h0, (hT.fo (p := (L, R)) h0).th hG (nv 0)⟩
/-- what is thrown, as the twin tells it -/
def κe (e : Nat) : Nat := if e = 1 then 1 else 0
def κi (e : Nat) : Nat := if e = 2 then 1 else 0
def κb (e : Nat) : Nat := if e = 1 then 2 else if e = 2 then 1 else 0
theorem act_setEye {G : Nat → Nat} {B : Nat → Nat × Nat} {S : Gst} {a : Hp} (hC : JC G B S a) (v : Int32) : Act κe G B S a (X1_setEye (G 0) v) (X5_setEye (G 10) v) := by
  obtain ⟨L, R, hM, hR, hX, h0⟩ := startC hC
  have hG := hC.1.gd
  have hJ := hC.2.1
  by_cases h : inr v 10
  · have hb := bw_1' h (by omega) (show 10 = 9 + 1 from rfl)
    by_cases e : R 2 = v
    · have e' : (R 2 = v) = True := by simp [e]
      simp (disch := omega) only [X1_setEye, ↓w_bd, ↓w_rt, ↓w_bh, sm_l, sm_r, ↓w_okr, ↓w_nm, ↓w_ite, ↓reduceIte, not_true_eq_false, not_false_eq_true, and_true, true_and, and_self, Option.some.injEq, reduceCtorEq, eq_self, ↓w_rc, ↓w_gI, ↓w_gR, ↓w_aN, ↓w_aI, ↓w_aR, ↓w_aL, ↓w_pI, ↓w_pR, ↓w_sI, ↓w_sR, ↓w_sL, ↓w_nO, ↓w_nA, ↓w_nL, ↓w_ca, ↓w_ca0, ↓w_gS, ↓w_gK, ↓w_dv, ↓w_tw, ↓w_rz, ↓w_no, nv_lit, nv_f, nv_add, nv_mul, nv_sub, nv_le, nv_lt, nv_eq, nv_cl, Nat.reduceMod, Nat.reduceMul, Nat.reduceAdd, Nat.zero_add, Nat.add_zero, Nat.mul_zero, decide_eq_true_eq, nv_inT, mk_k hM, mk_n hM, mk_r hM, mk_i hM, hX, hJ, X1_isBetween_w, X1_requireArgument_1 n10, X1_requireArgument_0, X1_requireIndex_1 n10, X1_requireIndex_0, Nat.reduceEqDiff, okn, hb, e', X1_refuse_w hC]
      refine ap_ref hC (E0.rf a) (by omega) (by omega) (by omega) fun c hc Q hq => ?_
      obtain ⟨hF, hF0⟩ := jt_f0 hG hc h0
      have t5 := th_5 G c (nv 0)
      simp (disch := omega) only [X5_setEye, ↓w_bd, ↓w_rt, ↓w_bh, sm_l, sm_r, ↓w_okr, ↓w_nm, ↓w_ite, ↓reduceIte, not_true_eq_false, not_false_eq_true, and_true, true_and, and_self, Option.some.injEq, reduceCtorEq, eq_self, ↓w_rc, ↓w_gI, ↓w_gR, ↓w_aN, ↓w_aI, ↓w_aR, ↓w_aL, ↓w_pI, ↓w_pR, ↓w_sI, ↓w_sR, ↓w_sL, ↓w_nO, ↓w_nA, ↓w_nL, ↓w_ca, ↓w_ca0, ↓w_gS, ↓w_gK, ↓w_dv, ↓w_tw, ↓w_rz, ↓w_no, nv_lit, nv_f, nv_add, nv_mul, nv_sub, nv_le, nv_lt, nv_eq, nv_cl, Nat.reduceMod, Nat.reduceMul, Nat.reduceAdd, Nat.zero_add, Nat.add_zero, Nat.mul_zero, decide_eq_true_eq, nv_inT, th_f, th_K, th_N, th_R, th_5, th_2, okn0, Nat.reduceEqDiff, hF.1, hF0.1, X5_in_w, X5_holds_1 hF0.1.1.1 t5 n10, X5_holds_0 hF0.1.1.1 t5, hb, n10, X5_get_w hF0, e']
      exact hq _ (Sx.rf _ _)
    · simp (disch := omega) only [X1_setEye, ↓w_bd, ↓w_rt, ↓w_bh, sm_l, sm_r, ↓w_okr, ↓w_nm, ↓w_ite, ↓reduceIte, not_true_eq_false, not_false_eq_true, and_true, true_and, and_self, Option.some.injEq, reduceCtorEq, eq_self, ↓w_rc, ↓w_gI, ↓w_gR, ↓w_aN, ↓w_aI, ↓w_aR, ↓w_aL, ↓w_pI, ↓w_pR, ↓w_sI, ↓w_sR, ↓w_sL, ↓w_nO, ↓w_nA, ↓w_nL, ↓w_ca, ↓w_ca0, ↓w_gS, ↓w_gK, ↓w_dv, ↓w_tw, ↓w_rz, ↓w_no, nv_lit, nv_f, nv_add, nv_mul, nv_sub, nv_le, nv_lt, nv_eq, nv_cl, Nat.reduceMod, Nat.reduceMul, Nat.reduceAdd, Nat.zero_add, Nat.add_zero, Nat.mul_zero, decide_eq_true_eq, nv_inT, mk_k hM, mk_n hM, mk_r hM, mk_i hM, hX, hJ, X1_isBetween_w, X1_requireArgument_1 n10, X1_requireArgument_0, X1_requireIndex_1 n10, X1_requireIndex_0, Nat.reduceEqDiff, okn, hb, e]
      refine keep_c hC (E0.rf a) h0 _ fun d B' L' q1 q2 q3 hMd hXd hCd z l => ?_
      have hJd := q1.2.1
      simp (disch := omega) only [↓w_bd, ↓w_rt, ↓w_bh, sm_l, sm_r, ↓w_okr, ↓w_nm, ↓w_ite, ↓reduceIte, not_true_eq_false, not_false_eq_true, and_true, true_and, and_self, Option.some.injEq, reduceCtorEq, eq_self, ↓w_rc, ↓w_gI, ↓w_gR, ↓w_aN, ↓w_aI, ↓w_aR, ↓w_aL, ↓w_pI, ↓w_pR, ↓w_sI, ↓w_sR, ↓w_sL, ↓w_nO, ↓w_nA, ↓w_nL, ↓w_ca, ↓w_ca0, ↓w_gS, ↓w_gK, ↓w_dv, ↓w_tw, ↓w_rz, ↓w_no, nv_lit, nv_f, nv_add, nv_mul, nv_sub, nv_le, nv_lt, nv_eq, nv_cl, Nat.reduceMod, Nat.reduceMul, Nat.reduceAdd, Nat.zero_add, Nat.add_zero, Nat.mul_zero, decide_eq_true_eq, nv_inT, mk_k hMd, mk_r hMd, mk_n hMd, mk_i hMd, hXd, hJd, okn]
      refine ap_now hC h0 q2 q3 q1 (hCd.wI v (ci_eye R) (by omega) (by omega) (by omega) (fun x _ => by omega) (by omega)) (fun _ _ => rfl) ?_ ?_ ?_ fun c hc Q hq => ?_
      · refine ro_lo hR (up1_o _ _ _ (by omega)) (up1_o _ _ _ (by omega)) (up1_o _ _ _ (by omega)) (fun x hx => ?_) (fun k hk => ?_) (fun x j _ _ _ => up1_o _ _ _ (by omega)) (fun i hi => up1_o _ _ _ (by omega))
        · rw [up1_o _ _ _ (by omega)]; exact ro_own hR x hx
        · rw [up1_o _ _ _ (by omega)]; exact hR.2.2.2.2.1 k hk
      · show hSz d ≤ _
        omega
      · show hSl d ≤ _
        omega
      · obtain ⟨hF, hF0⟩ := jt_f0 hG hc h0
        have t5 := th_5 G c (nv 0)
        simp (disch := omega) only [X5_setEye, ↓w_bd, ↓w_rt, ↓w_bh, sm_l, sm_r, ↓w_okr, ↓w_nm, ↓w_ite, ↓reduceIte, not_true_eq_false, not_false_eq_true, and_true, true_and, and_self, Option.some.injEq, reduceCtorEq, eq_self, ↓w_rc, ↓w_gI, ↓w_gR, ↓w_aN, ↓w_aI, ↓w_aR, ↓w_aL, ↓w_pI, ↓w_pR, ↓w_sI, ↓w_sR, ↓w_sL, ↓w_nO, ↓w_nA, ↓w_nL, ↓w_ca, ↓w_ca0, ↓w_gS, ↓w_gK, ↓w_dv, ↓w_tw, ↓w_rz, ↓w_no, nv_lit, nv_f, nv_add, nv_mul, nv_sub, nv_le, nv_lt, nv_eq, nv_cl, Nat.reduceMod, Nat.reduceMul, Nat.reduceAdd, Nat.zero_add, Nat.add_zero, Nat.mul_zero, decide_eq_true_eq, nv_inT, th_f, th_K, th_N, th_R, th_5, th_2, okn0, Nat.reduceEqDiff, hF.1, hF0.1, X5_in_w, X5_holds_1 hF0.1.1.1 t5 n10, X5_holds_0 hF0.1.1.1 t5, hb, n10, X5_get_w hF0, e]
        refine keeps_t hC hc (Sx.rf _ _) h0 L' _ fun d2 k1 k3 k2 hF2 => ?_
        simp (disch := omega) only [↓w_bd, ↓w_rt, ↓w_bh, sm_l, sm_r, ↓w_okr, ↓w_nm, ↓w_ite, ↓reduceIte, not_true_eq_false, not_false_eq_true, and_true, true_and, and_self, Option.some.injEq, reduceCtorEq, eq_self, ↓w_rc, ↓w_gI, ↓w_gR, ↓w_aN, ↓w_aI, ↓w_aR, ↓w_aL, ↓w_pI, ↓w_pR, ↓w_sI, ↓w_sR, ↓w_sL, ↓w_nO, ↓w_nA, ↓w_nL, ↓w_ca, ↓w_ca0, ↓w_gS, ↓w_gK, ↓w_dv, ↓w_tw, ↓w_rz, ↓w_no, nv_lit, nv_f, nv_add, nv_mul, nv_sub, nv_le, nv_lt, nv_eq, nv_cl, Nat.reduceMod, Nat.reduceMul, Nat.reduceAdd, Nat.zero_add, Nat.add_zero, Nat.mul_zero, decide_eq_true_eq, nv_inT, hF2.1, X5_lay_w hF2]
        exact hq _ _ k1 k3 k2 ((Tn.rf hF2).lay hG (by omega) v)
  · have hb := bw_0' h (by omega) (show 10 = 9 + 1 from rfl)
    simp (disch := omega) only [X1_setEye, ↓w_bd, ↓w_rt, ↓w_bh, sm_l, sm_r, ↓w_okr, ↓w_nm, ↓w_ite, ↓reduceIte, not_true_eq_false, not_false_eq_true, and_true, true_and, and_self, Option.some.injEq, reduceCtorEq, eq_self, ↓w_rc, ↓w_gI, ↓w_gR, ↓w_aN, ↓w_aI, ↓w_aR, ↓w_aL, ↓w_pI, ↓w_pR, ↓w_sI, ↓w_sR, ↓w_sL, ↓w_nO, ↓w_nA, ↓w_nL, ↓w_ca, ↓w_ca0, ↓w_gS, ↓w_gK, ↓w_dv, ↓w_tw, ↓w_rz, ↓w_no, nv_lit, nv_f, nv_add, nv_mul, nv_sub, nv_le, nv_lt, nv_eq, nv_cl, Nat.reduceMod, Nat.reduceMul, Nat.reduceAdd, Nat.zero_add, Nat.add_zero, Nat.mul_zero, decide_eq_true_eq, nv_inT, mk_k hM, mk_n hM, mk_r hM, mk_i hM, hX, hJ, X1_isBetween_w, X1_requireArgument_1 n10, X1_requireArgument_0, X1_requireIndex_1 n10, X1_requireIndex_0, Nat.reduceEqDiff, okn, hb]
    refine ap_x hC (tw_e a) (by rw [tw_z]; omega) (by rw [tw_l]; omega) (k := 1) rfl (by omega) (by omega) fun c hc Q hq => ?_
    obtain ⟨hF, hF0⟩ := jt_f0 hG hc h0
    have t5 := th_5 G c (nv 0)
    simp (disch := omega) only [X5_setEye, ↓w_bd, ↓w_rt, ↓w_bh, sm_l, sm_r, ↓w_okr, ↓w_nm, ↓w_ite, ↓reduceIte, not_true_eq_false, not_false_eq_true, and_true, true_and, and_self, Option.some.injEq, reduceCtorEq, eq_self, ↓w_rc, ↓w_gI, ↓w_gR, ↓w_aN, ↓w_aI, ↓w_aR, ↓w_aL, ↓w_pI, ↓w_pR, ↓w_sI, ↓w_sR, ↓w_sL, ↓w_nO, ↓w_nA, ↓w_nL, ↓w_ca, ↓w_ca0, ↓w_gS, ↓w_gK, ↓w_dv, ↓w_tw, ↓w_rz, ↓w_no, nv_lit, nv_f, nv_add, nv_mul, nv_sub, nv_le, nv_lt, nv_eq, nv_cl, Nat.reduceMod, Nat.reduceMul, Nat.reduceAdd, Nat.zero_add, Nat.add_zero, Nat.mul_zero, decide_eq_true_eq, nv_inT, th_f, th_K, th_N, th_R, th_5, th_2, okn0, Nat.reduceEqDiff, hF.1, hF0.1, X5_in_w, X5_holds_1 hF0.1.1.1 t5 n10, X5_holds_0 hF0.1.1.1 t5, hb]
    exact hq _
theorem op_setEye {G : Nat → Nat} {B : Nat → Nat × Nat} {S : Gst} {a : Hp} (hC : JC G B S a) (hT : JT G S a) (v : Int32) : OpL G a (X0_setEye (some (G 0)) v (some (G 20))) (X5_setEye (G 10) v) := by
  refine Act.op (m := fun h => X1_setEye h v) hC hT (act_setEye hC v) fun e b h Q => ?_
  have : e.1 = 1 := Decidable.byContradiction fun c => h (if_neg c)
  rw [if_pos this, w_rt, this]
  rfl
