/-! OUTPUT -/
theorem ch_ok : ∀ k : Fin 64, 60 ≤ k.val → ((nv k.val &&& nv 255).toUInt32 % 65536).toInt32 = nv k.val ∧ nrk 3 (nv k.val) = true := by decide +kernel
theorem sh16 : nv 16 >>> (nv 0 &&& nv 31) = nv 16 := by decide
theorem op_output {G : Nat → Nat} {B : Nat → Nat × Nat} {S : Gst} {a : Hp} (hC : JC G B S a) (hT : JT G S a) (v : Int32) : OpE G a (X1_output (G 0) v) (X5_output (G 10) v) := by
  obtain ⟨L, R, hM, hRo, hX, hF, h0⟩ := start hC hT
  have hG := hC.1.gd
  have hJ := hC.2.1
  have hF0 := hF.th hG (nv 0)
  obtain ⟨o1, o2, o3⟩ := hC.2.2.2.2.2.2.2.2.1
  have hT2 := hT
  obtain ⟨-, -, -, -, -, -, -, -, t1, t2⟩ := hT2
  have t1' : hI (th G a (nv 0)) (G 10) 20 = nv (go S).1 := by rw [th_n _ _ _ (by omega)]; exact t1
  have hc0 : hI a (G 5) 1 = nv 0 := hJ.2.2.2.2.2
  by_cases h : inr v (go S).1
  · obtain ⟨k, rfl, hk⟩ := inr_k h
    have hp : 1 ≤ (go S).1 := by omega
    have hb := bw_1' h (m := (go S).1 - 1) (by omega) (by omega)
    obtain ⟨e1, c, c1, c2, e2⟩ := o3 k hk
    have e3 : hI (th G a (nv 0)) (G 19) k = (go S).2 k := by rw [th_o _ _ _ (hG.ne (by omega) (by omega) (by omega))]; exact t2 k hk
    obtain ⟨q1, q2⟩ := ch_ok ⟨c, by omega⟩ c1
    have m16 : mn (nv (go S).1) (nv 16) = nv (go S).1 := by
      unfold mn
      rw [if_neg (by rw [nv_lt (by omega) (by omega)]; omega)]
    rw [e2] at e1 e3
    simp (disch := omega) only [OpE, X1_output, X1_output_29, J3_length, J2_length, J3_charAt, J2_charAt, J4_checkIndex, J15_checkIndex, ↓w_bd, ↓w_rt, ↓w_bh, sm_l, sm_r, ↓w_okr, ↓w_nm, ↓w_ite, ↓reduceIte, not_true_eq_false, not_false_eq_true, and_true, true_and, and_self, Option.some.injEq, reduceCtorEq, eq_self, ↓w_rc, ↓w_gI, ↓w_gR, ↓w_aN, ↓w_aI, ↓w_aR, ↓w_aL, ↓w_pI, ↓w_pR, ↓w_sI, ↓w_sR, ↓w_sL, ↓w_nO, ↓w_nA, ↓w_nL, ↓w_ca, ↓w_ca0, ↓w_gS, ↓w_gK, ↓w_dv, ↓w_tw, ↓w_rz, ↓w_no, nv_lit, nv_f, nv_add, nv_mul, nv_sub, nv_le, nv_lt, nv_eq, nv_cl, Nat.reduceMod, Nat.reduceMul, Nat.reduceAdd, Nat.zero_add, Nat.add_zero, Nat.mul_zero, decide_eq_true_eq, nv_inT, hX, hJ, o2, X1_isBetween_w, hb, n10, hc0, sh16, J12_min_w, m16, Nat.not_lt_zero, e1, q1, q2, X5_output, X5_output_29, th_f, th_K, th_R, th_N, okn0, hF.1, hF0.1, t1', X5_in_w, e3]
    rw [if_pos hk]
    exact post_e hC hT (E0.rf a) (by omega) (by omega) (Sx.rf _ _)
  · have hb : bw v (nv 0) (nv (go S).1 - nv 1) = nv 0 := bw_0 h (by omega)
    have fin : OpE G a (X1_output (G 0) v) (X5_output (G 10) v) := by
      by_cases hz : (go S).1 = 0
      · rw [hz] at hb o2 t1'
        simp (disch := omega) only [OpE, X1_output, X1_output_29, J3_length, J2_length, ↓w_bd, ↓w_rt, ↓w_bh, sm_l, sm_r, ↓w_okr, ↓w_nm, ↓w_ite, ↓reduceIte, not_true_eq_false, not_false_eq_true, and_true, true_and, and_self, Option.some.injEq, reduceCtorEq, eq_self, ↓w_rc, ↓w_gI, ↓w_gR, ↓w_aN, ↓w_aI, ↓w_aR, ↓w_aL, ↓w_pI, ↓w_pR, ↓w_sI, ↓w_sR, ↓w_sL, ↓w_nO, ↓w_nA, ↓w_nL, ↓w_ca, ↓w_ca0, ↓w_gS, ↓w_gK, ↓w_dv, ↓w_tw, ↓w_rz, ↓w_no, nv_lit, nv_f, nv_add, nv_mul, nv_sub, nv_le, nv_lt, nv_eq, nv_cl, Nat.reduceMod, Nat.reduceMul, Nat.reduceAdd, Nat.zero_add, Nat.add_zero, Nat.mul_zero, decide_eq_true_eq, nv_inT, hX, hJ, o2, X1_isBetween_w, hb, X5_output, X5_output_29, th_f, th_K, th_R, th_N, okn0, hF.1, hF0.1, t1', X5_in_w]
        exact post_e hC hT (E0.rf a) (by omega) (by omega) (Sx.rf _ _)
      · rw [nv_sub (by omega)] at hb
        simp (disch := omega) only [OpE, X1_output, X1_output_29, J3_length, J2_length, ↓w_bd, ↓w_rt, ↓w_bh, sm_l, sm_r, ↓w_okr, ↓w_nm, ↓w_ite, ↓reduceIte, not_true_eq_false, not_false_eq_true, and_true, true_and, and_self, Option.some.injEq, reduceCtorEq, eq_self, ↓w_rc, ↓w_gI, ↓w_gR, ↓w_aN, ↓w_aI, ↓w_aR, ↓w_aL, ↓w_pI, ↓w_pR, ↓w_sI, ↓w_sR, ↓w_sL, ↓w_nO, ↓w_nA, ↓w_nL, ↓w_ca, ↓w_ca0, ↓w_gS, ↓w_gK, ↓w_dv, ↓w_tw, ↓w_rz, ↓w_no, nv_lit, nv_f, nv_add, nv_mul, nv_sub, nv_le, nv_lt, nv_eq, nv_cl, Nat.reduceMod, Nat.reduceMul, Nat.reduceAdd, Nat.zero_add, Nat.add_zero, Nat.mul_zero, decide_eq_true_eq, nv_inT, hX, hJ, o2, X1_isBetween_w, hb, X5_output, X5_output_29, th_f, th_K, th_R, th_N, okn0, hF.1, hF0.1, t1', X5_in_w]
        exact post_e hC hT (E0.rf a) (by omega) (by omega) (Sx.rf _ _)
    exact fin
