/-! MEANS -/
theorem cmp_s (x : Int) : compare x x = .eq := by
  rw [Int.compare_eq_eq]
theorem dself_s {d : FP.Core.Datum} (h : Sdt d) : FP.Core.dcmp (UInt64.ofNat (FP.Core.encode FP.Core.b64 d)) (UInt64.ofNat (FP.Core.encode FP.Core.b64 d)) = some .eq := by
  obtain ⟨s, e, t, h1, h2, h3, h4⟩ := sdt_enc h
  have key : FP.Core.decode FP.Core.b64 (UInt64.ofNat (FP.Core.encode FP.Core.b64 d)).toNat ≠ .nan := by
    rw [h1]
    by_cases c : e < 2047
    · obtain ⟨s', c', q, g, -⟩ := dec_a (s := s) h2 c
      rw [g]
      exact fun x => by cases x
    · have e7 : e = 2047 := by omega
      have t0 := h4 e7
      have hs := bool_n s
      subst e7
      subst t0
      rw [UInt64.toNat_ofNat', Nat.mod_eq_of_lt (by omega)]
      have fT : FP.Core.fieldT FP.Core.b64 ((s.toNat * 2048 + 2047) * 4503599627370496 + 0) = 0 := by
        unfold FP.Core.fieldT
        rw [b64_t]
        omega
      have fE : FP.Core.fieldE FP.Core.b64 ((s.toNat * 2048 + 2047) * 4503599627370496 + 0) = 2047 := by
        unfold FP.Core.fieldE
        rw [b64_t, b64_e]
        omega
      unfold FP.Core.decode
      rw [fE, fT, b64_e, if_pos (by omega), if_pos rfl]
      exact fun x => by cases x
  unfold FP.Core.dcmp FP.Core.cmp
  cases q : FP.Core.decode FP.Core.b64 (UInt64.ofNat (FP.Core.encode FP.Core.b64 d)).toNat with
  | nan => exact absurd q key
  | inf s => exact congrArg some (cmp_s _)
  | fin s c q => exact congrArg some (cmp_s _)
theorem ddiv_self (x : Int32) {y : Int32} (h : y ≠ 0) : FP.dcmp (FP.ddiv (FP.i2d x) (FP.i2d y)) (FP.ddiv (FP.i2d x) (FP.i2d y)) = some .eq := by
  have e : FP.ddiv (FP.i2d x) (FP.i2d y) = UInt64.ofNat (FP.Core.encode FP.Core.b64 (FP.Core.quotient FP.Core.b64 (FP.Core.decode FP.Core.b64 (FP.Core.i2d x).toNat) (FP.Core.decode FP.Core.b64 (FP.Core.i2d y).toNat))) := rfl
  rw [e]
  refine dself_s ?_
  obtain ⟨s, c, q, h1, -⟩ := i2d_fin x
  obtain ⟨t, d, r, h2, h3⟩ := i2d_fin y
  rw [h1, h2]
  unfold FP.Core.quotient
  dsimp only
  rw [if_neg (h3 h)]
  exact sdt_ratio _ _ _ _
theorem dzero_self : FP.dcmp FP.dconst0 FP.dconst0 = some .eq := by decide +kernel
/-- the mean that both tell -/
def mt (R : Nat → Int32) : UInt64 := if su (fun c => icl R c) (nC R) = 0 then FP.dconst0 else FP.ddiv (FP.i2d (su (fun c => if icl R c = 0 then 0 else cs R c 5) (nC R))) (FP.i2d (su (fun c => icl R c) (nC R)))
theorem mt_self (R : Nat → Int32) : FP.dcmp (mt R) (mt R) = some .eq := by
  unfold mt
  by_cases c : su (fun c => icl R c) (nC R) = 0
  · rw [if_pos c]; exact dzero_self
  · rw [if_neg c]; exact ddiv_self _ c
theorem X5_meanTurns_w {G : Nat → Nat} {a : Hp} {o : Nat} {R : Nat → Int32} (hF : FO G a o R) (hG : GD G) (hS : Sh R) (Q : UInt64 → Hp → Prop) : Wp (X5_meanTurns (G 10)) a Q ↔ Q (mt R) (th G a (nv 0)) := by
  have hF0 := hF.th hG (nv 0)
  have h20 := sh_C20 hS
  have l : ∀ (f k : Nat), k ≤ nC R → nC R - k < f → (Wp (X5_meanTurns_11 f (G 10) (su (fun c => if icl R c = 0 then 0 else cs R c 5) k) (su (fun c => icl R c) k) (nv k)) (th G a (nv 0)) Q ↔ Q (mt R) (th G a (nv 0))) := by
    refine loopUp _ (nC R) ?_ ?_
    · intro f
      by_cases c : su (fun c => icl R c) (nC R) = nv 0
      · have e : mt R = FP.dconst0 := if_pos c
        rw [e]
        simp (disch := omega) only [X5_meanTurns_11, X5_meanTurns_74, ↓w_bd, ↓w_rt, ↓w_bh, sm_l, sm_r, ↓w_okr, ↓w_nm, ↓w_ite, ↓reduceIte, not_true_eq_false, not_false_eq_true, and_true, true_and, and_self, Option.some.injEq, reduceCtorEq, eq_self, ↓w_rc, ↓w_gI, ↓w_gR, ↓w_aN, ↓w_aI, ↓w_aR, ↓w_aL, ↓w_pI, ↓w_pR, ↓w_sI, ↓w_sR, ↓w_sL, ↓w_nO, ↓w_nA, ↓w_nL, ↓w_ca, ↓w_ca0, ↓w_gS, ↓w_gK, ↓w_dv, ↓w_tw, ↓w_rz, ↓w_no, nv_lit, nv_f, nv_add, nv_mul, nv_sub, nv_le, nv_lt, nv_eq, nv_cl, Nat.reduceMod, Nat.reduceMul, Nat.reduceAdd, Nat.zero_add, Nat.add_zero, Nat.mul_zero, decide_eq_true_eq, nv_inT, hF0.1, X5_get_w hF0, sh_C hS, Nat.le_refl]
        simp only [c, ↓w_bd, ↓w_rt, ↓w_bh, sm_l, sm_r, ↓w_okr, ↓w_nm, ↓w_ite, ↓reduceIte, not_true_eq_false, not_false_eq_true, and_true, true_and, and_self, Option.some.injEq, reduceCtorEq, eq_self, ↓w_rc, ↓w_gI, ↓w_gR, ↓w_aN, ↓w_aI, ↓w_aR, ↓w_aL, ↓w_pI, ↓w_pR, ↓w_sI, ↓w_sR, ↓w_sL, ↓w_nO, ↓w_nA, ↓w_nL, ↓w_ca, ↓w_ca0, ↓w_gS, ↓w_gK, ↓w_dv, ↓w_tw, ↓w_rz, ↓w_no, nv_lit, nv_f, nv_add, nv_mul, nv_sub, nv_le, nv_lt, nv_eq, nv_cl, Nat.reduceMod, Nat.reduceMul, Nat.reduceAdd, Nat.zero_add, Nat.add_zero, Nat.mul_zero, decide_eq_true_eq, nv_inT]
      · have e : mt R = FP.ddiv (FP.i2d (su (fun c => if icl R c = 0 then 0 else cs R c 5) (nC R))) (FP.i2d (su (fun c => icl R c) (nC R))) := if_neg c
        rw [e]
        have m := (ddiv_ok (su (fun c => if icl R c = 0 then 0 else cs R c 5) (nC R)) (show ¬ su (fun c => icl R c) (nC R) = 0 from c))
        rw [X5_meanTurns_11]
        simp (disch := omega) only [w_bd, w_rc, hF0.1, Nat.reduceMod, true_and, X5_get_w hF0, nv_lit, sh_C hS, Int32.le_refl, if_true, w_ite, c, not_false_eq_true, w_ddv, X5_meanTurns_74, w_rt]
        exact ⟨fun h => h.2, fun h => ⟨m, h⟩⟩
    · intro f k hk2 ih
      rw [su, su] at ih
      unfold icl at ih
      by_cases c1 : cs R k 4 = nv 1
      · rw [if_pos (show cs R k 4 = 1 from c1), if_neg (show ¬ (1 : Int32) = 0 by decide)] at ih
        simp (disch := omega) only [X5_meanTurns_11, X5_meanTurns_43, X5_meanTurns_55, ↓w_bd, ↓w_rt, ↓w_bh, sm_l, sm_r, ↓w_okr, ↓w_nm, ↓w_ite, ↓reduceIte, not_true_eq_false, not_false_eq_true, and_true, true_and, and_self, Option.some.injEq, reduceCtorEq, eq_self, ↓w_rc, ↓w_gI, ↓w_gR, ↓w_aN, ↓w_aI, ↓w_aR, ↓w_aL, ↓w_pI, ↓w_pR, ↓w_sI, ↓w_sR, ↓w_sL, ↓w_nO, ↓w_nA, ↓w_nL, ↓w_ca, ↓w_ca0, ↓w_gS, ↓w_gK, ↓w_dv, ↓w_tw, ↓w_rz, ↓w_no, nv_lit, nv_f, nv_add, nv_mul, nv_sub, nv_le, nv_lt, nv_eq, nv_cl, Nat.reduceMod, Nat.reduceMul, Nat.reduceAdd, Nat.zero_add, Nat.add_zero, Nat.mul_zero, decide_eq_true_eq, nv_inT, hF0.1, X5_get_w hF0, X5_cl_w hF0, sh_C hS, Nat.not_le.mpr hk2, c1]
        exact ih
      · rw [if_neg (show ¬ cs R k 4 = 1 from c1)] at ih
        by_cases c2 : cs R k 4 = nv 2
        · rw [if_pos (show cs R k 4 = 2 from c2), if_neg (show ¬ (1 : Int32) = 0 by decide)] at ih
          simp (disch := omega) only [X5_meanTurns_11, X5_meanTurns_43, X5_meanTurns_55, ↓w_bd, ↓w_rt, ↓w_bh, sm_l, sm_r, ↓w_okr, ↓w_nm, ↓w_ite, ↓reduceIte, not_true_eq_false, not_false_eq_true, and_true, true_and, and_self, Option.some.injEq, reduceCtorEq, eq_self, ↓w_rc, ↓w_gI, ↓w_gR, ↓w_aN, ↓w_aI, ↓w_aR, ↓w_aL, ↓w_pI, ↓w_pR, ↓w_sI, ↓w_sR, ↓w_sL, ↓w_nO, ↓w_nA, ↓w_nL, ↓w_ca, ↓w_ca0, ↓w_gS, ↓w_gK, ↓w_dv, ↓w_tw, ↓w_rz, ↓w_no, nv_lit, nv_f, nv_add, nv_mul, nv_sub, nv_le, nv_lt, nv_eq, nv_cl, Nat.reduceMod, Nat.reduceMul, Nat.reduceAdd, Nat.zero_add, Nat.add_zero, Nat.mul_zero, decide_eq_true_eq, nv_inT, hF0.1, X5_get_w hF0, X5_cl_w hF0, sh_C hS, Nat.not_le.mpr hk2, c2, show ¬ nv 2 = nv 1 by decide]
          exact ih
        · rw [if_neg (show ¬ cs R k 4 = 2 from c2), if_pos (show (0 : Int32) = 0 from rfl), Int32.add_zero, Int32.add_zero] at ih
          simp (disch := omega) only [X5_meanTurns_11, X5_meanTurns_43, X5_meanTurns_55, ↓w_bd, ↓w_rt, ↓w_bh, sm_l, sm_r, ↓w_okr, ↓w_nm, ↓w_ite, ↓reduceIte, not_true_eq_false, not_false_eq_true, and_true, true_and, and_self, Option.some.injEq, reduceCtorEq, eq_self, ↓w_rc, ↓w_gI, ↓w_gR, ↓w_aN, ↓w_aI, ↓w_aR, ↓w_aL, ↓w_pI, ↓w_pR, ↓w_sI, ↓w_sR, ↓w_sL, ↓w_nO, ↓w_nA, ↓w_nL, ↓w_ca, ↓w_ca0, ↓w_gS, ↓w_gK, ↓w_dv, ↓w_tw, ↓w_rz, ↓w_no, nv_lit, nv_f, nv_add, nv_mul, nv_sub, nv_le, nv_lt, nv_eq, nv_cl, Nat.reduceMod, Nat.reduceMul, Nat.reduceAdd, Nat.zero_add, Nat.add_zero, Nat.mul_zero, decide_eq_true_eq, nv_inT, hF0.1, X5_get_w hF0, X5_cl_w hF0, sh_C hS, Nat.not_le.mpr hk2, c1, c2]
          exact ih
  have := l FU 0 (by omega) (by unfold FU; omega)
  rw [← this]
  simp (disch := omega) only [X5_meanTurns, ↓w_bd, ↓w_rt, ↓w_bh, sm_l, sm_r, ↓w_okr, ↓w_nm, ↓w_ite, ↓reduceIte, not_true_eq_false, not_false_eq_true, and_true, true_and, and_self, Option.some.injEq, reduceCtorEq, eq_self, ↓w_rc, ↓w_gI, ↓w_gR, ↓w_aN, ↓w_aI, ↓w_aR, ↓w_aL, ↓w_pI, ↓w_pR, ↓w_sI, ↓w_sR, ↓w_sL, ↓w_nO, ↓w_nA, ↓w_nL, ↓w_ca, ↓w_ca0, ↓w_gS, ↓w_gK, ↓w_dv, ↓w_tw, ↓w_rz, ↓w_no, nv_lit, nv_f, nv_add, nv_mul, nv_sub, nv_le, nv_lt, nv_eq, nv_cl, Nat.reduceMod, Nat.reduceMul, Nat.reduceAdd, Nat.zero_add, Nat.add_zero, Nat.mul_zero, decide_eq_true_eq, nv_inT, th_f, okn0, hF.1, su_0]
theorem op_meanTurns {G : Nat → Nat} {B : Nat → Nat × Nat} {S : Gst} {a : Hp} (hC : JC G B S a) (hT : JT G S a) : Wp (X1_meanTurns (G 0)) a (fun z b => Wp (X5_meanTurns (G 10)) b (fun w c => z = w ∧ FP.dcmp z z = some .eq ∧ After G a c)) := by
  obtain ⟨L, R, hM, hRo, hX, hF, -⟩ := start hC hT
  have hS := hRo.1
  have hCo : Co a := hC.2.2.2.2.2.2.2.2.2
  obtain ⟨q1, s1, s2, s3⟩ := hCo.1 71 (by omega)
  obtain ⟨q2, t1, t2, t3⟩ := hCo.1 72 (by omega)
  have cn := fun (Q : Int32 → Hp → Prop) => X1_countOf_c hM (q := q1) (g := fun c => icl R c) (fun c hc Q => lm71 hM (by rw [s3]) hc Q) (fun c _ => icl_01 R c) Q
  have sm' := fun (Q : Int32 → Hp → Prop) => X1_sumOf_c hM (q := q2) (g := fun c => if icl R c = 0 then 0 else cs R c 5) (fun c hc Q => lm72 hM (by rw [t3]) hc Q) Q
  have tw : Wp (X5_meanTurns (G 10)) a (fun w c => mt R = w ∧ FP.dcmp (mt R) (mt R) = some .eq ∧ After G a c) := by
    rw [X5_meanTurns_w hF hC.1.gd hS]
    exact ⟨rfl, mt_self R, post_e hC hT (E0.rf a) (by omega) (by omega) (Sx.rf _ _)⟩
  unfold X1_meanTurns
  simp (disch := omega) only [↓w_bd, ↓w_rt, ↓w_bh, sm_l, sm_r, ↓w_okr, ↓w_nm, ↓w_ite, ↓reduceIte, not_true_eq_false, not_false_eq_true, and_true, true_and, and_self, Option.some.injEq, reduceCtorEq, eq_self, ↓w_rc, ↓w_gI, ↓w_gR, ↓w_aN, ↓w_aI, ↓w_aR, ↓w_aL, ↓w_pI, ↓w_pR, ↓w_sI, ↓w_sR, ↓w_sL, ↓w_nO, ↓w_nA, ↓w_nL, ↓w_ca, ↓w_ca0, ↓w_gS, ↓w_gK, ↓w_dv, ↓w_tw, ↓w_rz, ↓w_no, nv_lit, nv_f, nv_add, nv_mul, nv_sub, nv_le, nv_lt, nv_eq, nv_cl, Nat.reduceMod, Nat.reduceMul, Nat.reduceAdd, Nat.zero_add, Nat.add_zero, Nat.mul_zero, decide_eq_true_eq, nv_inT, mk_k hM, mk_n hM, mk_r hM, mk_i hM, hX, w_gC]
  refine ⟨q1, s1, ?_⟩
  rw [cn]
  simp (disch := omega) only [↓w_bd, ↓w_rt, ↓w_bh, sm_l, sm_r, ↓w_okr, ↓w_nm, ↓w_ite, ↓reduceIte, not_true_eq_false, not_false_eq_true, and_true, true_and, and_self, Option.some.injEq, reduceCtorEq, eq_self, ↓w_rc, ↓w_gI, ↓w_gR, ↓w_aN, ↓w_aI, ↓w_aR, ↓w_aL, ↓w_pI, ↓w_pR, ↓w_sI, ↓w_sR, ↓w_sL, ↓w_nO, ↓w_nA, ↓w_nL, ↓w_ca, ↓w_ca0, ↓w_gS, ↓w_gK, ↓w_dv, ↓w_tw, ↓w_rz, ↓w_no, nv_lit, nv_f, nv_add, nv_mul, nv_sub, nv_le, nv_lt, nv_eq, nv_cl, Nat.reduceMod, Nat.reduceMul, Nat.reduceAdd, Nat.zero_add, Nat.add_zero, Nat.mul_zero, decide_eq_true_eq, nv_inT, mk_k hM, mk_n hM, mk_r hM, mk_i hM, hX, w_gC]
  refine ⟨q2, t1, ?_⟩
  rw [sm']
  by_cases c : su (fun c => icl R c) (nC R) = nv 0
  · have e : mt R = FP.dconst0 := if_pos c
    rw [e] at tw
    simp (disch := omega) only [↓w_bd, ↓w_rt, ↓w_bh, sm_l, sm_r, ↓w_okr, ↓w_nm, ↓w_ite, ↓reduceIte, not_true_eq_false, not_false_eq_true, and_true, true_and, and_self, Option.some.injEq, reduceCtorEq, eq_self, ↓w_rc, ↓w_gI, ↓w_gR, ↓w_aN, ↓w_aI, ↓w_aR, ↓w_aL, ↓w_pI, ↓w_pR, ↓w_sI, ↓w_sR, ↓w_sL, ↓w_nO, ↓w_nA, ↓w_nL, ↓w_ca, ↓w_ca0, ↓w_gS, ↓w_gK, ↓w_dv, ↓w_tw, ↓w_rz, ↓w_no, nv_lit, nv_f, nv_add, nv_mul, nv_sub, nv_le, nv_lt, nv_eq, nv_cl, Nat.reduceMod, Nat.reduceMul, Nat.reduceAdd, Nat.zero_add, Nat.add_zero, Nat.mul_zero, decide_eq_true_eq, nv_inT, c, X1_meanTurns_45]
    exact tw
  · have e : mt R = FP.ddiv (FP.i2d (su (fun c => if icl R c = 0 then 0 else cs R c 5) (nC R))) (FP.i2d (su (fun c => icl R c) (nC R))) := if_neg c
    have m := ddiv_ok (su (fun c => if icl R c = 0 then 0 else cs R c 5) (nC R)) (show ¬ su (fun c => icl R c) (nC R) = 0 from c)
    rw [e] at tw
    rw [if_pos c, w_ddv]
    refine ⟨m, ?_⟩
    unfold X1_meanTurns_45
    rw [w_rt]
    exact tw
