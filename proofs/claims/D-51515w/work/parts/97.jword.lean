/-! WORDS, the twin's -/
theorem Co.tw {G : Nat → Nat} {a c : Hp} (h : Co a) (g : Tw G a c) (hF : FT G a) : Co c := by
  have eK : hK c = hK a := congrArg (fun x => x.1.2.1) g.1
  have eN : hN c = hN a := congrArg (fun x => x.1.2.2) g.1
  have eR : hR c = hR a := congrArg (fun x => x.1) g.2.1
  have eS : hS c = hS a := congrArg (fun x => x.2) g.1
  have eZ : hSz c = hSz a := congrArg (fun x => x.1.1.1) g.1
  refine h.ep (P := fun q => q = G 10) ⟨by omega, eS, fun q _ hn => ⟨by rw [eK], by rw [eN], by rw [eR], g.2.2.1 q hn⟩⟩ (fun q hq => by rw [hq, hF.1.1]; omega)
theorem ch_ok2 : ∀ k : Fin 128, ((nv k.val &&& nv 255).toUInt32 % 65536).toInt32 = nv k.val ∧ nrk 3 (nv k.val) = true := by decide +kernel
theorem J4_len_w {d : Hp} {u l : Nat} {f : Nat → Nat} (h : Sg d u l f) (hl : l ≤ 1000) (Q : Int32 → Hp → Prop) : Wp (J4_length u) d Q ↔ Q (nv l) d := by
  obtain ⟨a1, a2, v, a3, a4, a5, a6, -⟩ := h
  simp (disch := omega) only [J4_length, J4_coder, J4_coder_14, ↓w_bd, ↓w_rt, ↓w_bh, sm_l, sm_r, ↓w_okr, ↓w_nm, ↓w_ite, ↓reduceIte, not_true_eq_false, not_false_eq_true, and_true, true_and, and_self, Option.some.injEq, reduceCtorEq, eq_self, ↓w_rc, ↓w_gI, ↓w_gR, ↓w_aN, ↓w_aI, ↓w_aR, ↓w_aL, ↓w_pI, ↓w_pR, ↓w_sI, ↓w_sR, ↓w_sL, ↓w_nO, ↓w_nA, ↓w_nL, ↓w_ca, ↓w_ca0, ↓w_gS, ↓w_gK, ↓w_dv, ↓w_tw, ↓w_rz, ↓w_no, nv_lit, nv_f, nv_add, nv_mul, nv_sub, nv_le, nv_lt, nv_eq, nv_cl, Nat.reduceMod, Nat.reduceMul, Nat.reduceAdd, Nat.zero_add, Nat.add_zero, Nat.mul_zero, decide_eq_true_eq, nv_inT, a1, a2, a3, a4, a5, n10, shr0, show nrk 1 (nv 0) = true by decide]
theorem J4_charAt_w {d : Hp} {u l j : Nat} {f : Nat → Nat} (h : Sg d u l f) (hl : l ≤ 1000) (hj : j < l) (hf : f j ≤ 127) (Q : Int32 → Hp → Prop) : Wp (J4_charAt u (nv j)) d Q ↔ Q (nv (f j)) d := by
  obtain ⟨a1, a2, v, a3, a4, a5, a6, -⟩ := h
  have e := a6 j hj
  obtain ⟨q1, q2⟩ := ch_ok2 ⟨f j, by omega⟩
  simp (disch := omega) only [J4_charAt, J4_isLatin1, J4_isLatin1_18, J14_charAt, J4_checkIndex, J15_checkIndex, ↓w_bd, ↓w_rt, ↓w_bh, sm_l, sm_r, ↓w_okr, ↓w_nm, ↓w_ite, ↓reduceIte, not_true_eq_false, not_false_eq_true, and_true, true_and, and_self, Option.some.injEq, reduceCtorEq, eq_self, ↓w_rc, ↓w_gI, ↓w_gR, ↓w_aN, ↓w_aI, ↓w_aR, ↓w_aL, ↓w_pI, ↓w_pR, ↓w_sI, ↓w_sR, ↓w_sL, ↓w_nO, ↓w_nA, ↓w_nL, ↓w_ca, ↓w_ca0, ↓w_gS, ↓w_gK, ↓w_dv, ↓w_tw, ↓w_rz, ↓w_no, nv_lit, nv_f, nv_add, nv_mul, nv_sub, nv_le, nv_lt, nv_eq, nv_cl, Nat.reduceMod, Nat.reduceMul, Nat.reduceAdd, Nat.zero_add, Nat.add_zero, Nat.mul_zero, decide_eq_true_eq, nv_inT, a1, a2, a3, a4, a5, n10, nrk21, e, q1, q2, Nat.not_lt_zero, hj]
theorem X5_isWord_z {G : Nat → Nat} {c : Hp} {cd ps : Nat} (h : Tz G c cd ps) (u : Option Nat) (Q : Int32 → Hp → Prop) : Wp (X5_isWord (G 10) u) c Q ↔ Q (nv 0) c := by
  obtain ⟨hF, h10, h11, h1, h2⟩ := h
  simp (disch := omega) only [X5_isWord, X5_isWord_31, ↓w_bd, ↓w_rt, ↓w_bh, sm_l, sm_r, ↓w_okr, ↓w_nm, ↓w_ite, ↓reduceIte, not_true_eq_false, not_false_eq_true, and_true, true_and, and_self, Option.some.injEq, reduceCtorEq, eq_self, ↓w_rc, ↓w_gI, ↓w_gR, ↓w_aN, ↓w_aI, ↓w_aR, ↓w_aL, ↓w_pI, ↓w_pR, ↓w_sI, ↓w_sR, ↓w_sL, ↓w_nO, ↓w_nA, ↓w_nL, ↓w_ca, ↓w_ca0, ↓w_gS, ↓w_gK, ↓w_dv, ↓w_tw, ↓w_rz, ↓w_no, nv_lit, nv_f, nv_add, nv_mul, nv_sub, nv_le, nv_lt, nv_eq, nv_cl, Nat.reduceMod, Nat.reduceMul, Nat.reduceAdd, Nat.zero_add, Nat.add_zero, Nat.mul_zero, decide_eq_true_eq, nv_inT, hF, h10, show ¬ cd = 0 by omega, nrk20]
theorem X5_isWord_1 {G : Nat → Nat} {S : Gst} {c : Hp} {s e k i u : Nat} (h : Ts G S c s e k) (hi : i < 28) (hu : Sg c u (wn i) (wl i)) (hw : IsW S s e k i) (Q : Int32 → Hp → Prop) : Wp (X5_isWord (G 10) (some u)) c Q ↔ Q (nv 1) c := by
  obtain ⟨hF, hT, ⟨h10, h11⟩, ⟨h12, h13, h14⟩, -, he, hse, -⟩ := h
  obtain ⟨hk, hn, hl⟩ := hw
  have w6 := wn_b hi
  have n5 := hT.1
  rw [hk] at h14
  have hu1 := hu.1
  have esub : nv e - nv s = nv (wn i) := by rw [nv_sub hse, hn]
  have lp : ∀ (Q' : Int32 → Hp → Prop) (fu j : Nat), j ≤ wn i → wn i - j < fu → (Wp (X5_isWord_35 fu (G 10) (some u) (nv j)) c Q' ↔ Q' (nv 1) c) := by
    intro Q'
    refine loopUp _ (wn i) ?_ ?_
    · intro fu
      simp (disch := omega) only [X5_isWord_35, ↓w_bd, ↓w_rt, ↓w_bh, sm_l, sm_r, ↓w_okr, ↓w_nm, ↓w_ite, ↓reduceIte, not_true_eq_false, not_false_eq_true, and_true, true_and, and_self, Option.some.injEq, reduceCtorEq, eq_self, ↓w_rc, ↓w_gI, ↓w_gR, ↓w_aN, ↓w_aI, ↓w_aR, ↓w_aL, ↓w_pI, ↓w_pR, ↓w_sI, ↓w_sR, ↓w_sL, ↓w_nO, ↓w_nA, ↓w_nL, ↓w_ca, ↓w_ca0, ↓w_gS, ↓w_gK, ↓w_dv, ↓w_tw, ↓w_rz, ↓w_no, nv_lit, nv_f, nv_add, nv_mul, nv_sub, nv_le, nv_lt, nv_eq, nv_cl, Nat.reduceMod, Nat.reduceMul, Nat.reduceAdd, Nat.zero_add, Nat.add_zero, Nat.mul_zero, decide_eq_true_eq, nv_inT, hu1, J4_len_w hu (by omega), Nat.le_refl, nrk21]
    · intro fu j hj ih
      have et := hT.2.2.1 (s + j) (by omega)
      rw [hl j (by omega)] at et
      have b1 := (wl_v hi hj).2
      simp (disch := omega) only [X5_isWord_35, ↓w_bd, ↓w_rt, ↓w_bh, sm_l, sm_r, ↓w_okr, ↓w_nm, ↓w_ite, ↓reduceIte, not_true_eq_false, not_false_eq_true, and_true, true_and, and_self, Option.some.injEq, reduceCtorEq, eq_self, ↓w_rc, ↓w_gI, ↓w_gR, ↓w_aN, ↓w_aI, ↓w_aR, ↓w_aL, ↓w_pI, ↓w_pR, ↓w_sI, ↓w_sR, ↓w_sL, ↓w_nO, ↓w_nA, ↓w_nL, ↓w_ca, ↓w_ca0, ↓w_gS, ↓w_gK, ↓w_dv, ↓w_tw, ↓w_rz, ↓w_no, nv_lit, nv_f, nv_add, nv_mul, nv_sub, nv_le, nv_lt, nv_eq, nv_cl, Nat.reduceMod, Nat.reduceMul, Nat.reduceAdd, Nat.zero_add, Nat.add_zero, Nat.mul_zero, decide_eq_true_eq, nv_inT, hu1, hF, h13, J4_len_w hu (by omega), J4_charAt_w hu (by omega) hj b1, Nat.not_le.mpr hj, et]
      exact ih
  simp (disch := omega) only [X5_isWord, X5_isWord_31, ↓w_bd, ↓w_rt, ↓w_bh, sm_l, sm_r, ↓w_okr, ↓w_nm, ↓w_ite, ↓reduceIte, not_true_eq_false, not_false_eq_true, and_true, true_and, and_self, Option.some.injEq, reduceCtorEq, eq_self, ↓w_rc, ↓w_gI, ↓w_gR, ↓w_aN, ↓w_aI, ↓w_aR, ↓w_aL, ↓w_pI, ↓w_pR, ↓w_sI, ↓w_sR, ↓w_sL, ↓w_nO, ↓w_nA, ↓w_nL, ↓w_ca, ↓w_ca0, ↓w_gS, ↓w_gK, ↓w_dv, ↓w_tw, ↓w_rz, ↓w_no, nv_lit, nv_f, nv_add, nv_mul, nv_sub, nv_le, nv_lt, nv_eq, nv_cl, Nat.reduceMod, Nat.reduceMul, Nat.reduceAdd, Nat.zero_add, Nat.add_zero, Nat.mul_zero, decide_eq_true_eq, nv_inT, hF, h10, h12, h13, h14, hu1, J4_len_w hu (by omega), esub]
  exact lp Q FU 0 (by omega) (by unfold FU; omega)
theorem X5_isWord_0 {G : Nat → Nat} {S : Gst} {c : Hp} {s e k i u : Nat} (h : Ts G S c s e k) (hi : i < 28) (hu : Sg c u (wn i) (wl i)) (hw : ¬ IsW S s e k i) (Q : Int32 → Hp → Prop) : Wp (X5_isWord (G 10) (some u)) c Q ↔ Q (nv 0) c := by
  obtain ⟨hF, hT, ⟨h10, h11⟩, ⟨h12, h13, h14⟩, -, he, hse, hk4⟩ := h
  have w6 := wn_b hi
  have n5 := hT.1
  have hu1 := hu.1
  by_cases hk : k = 1
  · rw [hk] at h14
    have esub : nv e - nv s = nv (e - s) := nv_sub hse
    by_cases hn : e - s = wn i
    · have esub2 : nv e - nv s = nv (wn i) := by rw [esub, hn]
      obtain ⟨z, hz, hzn, hzb⟩ : ∃ z, z < wn i ∧ tb S (s + z) ≠ wl i z ∧ ∀ u, u < z → ¬ tb S (s + u) ≠ wl i u := least (P := fun z => tb S (s + z) ≠ wl i z) (by
        apply Decidable.byContradiction
        intro q
        exact hw ⟨hk, hn, fun j hj => Decidable.byContradiction fun w => q ⟨j, by omega, w⟩⟩)
      have lp : ∀ (Q' : Int32 → Hp → Prop) (fu j : Nat), j ≤ z → z - j < fu → (Wp (X5_isWord_35 fu (G 10) (some u) (nv j)) c Q' ↔ Q' (nv 0) c) := by
        intro Q'
        refine loopUp _ z ?_ ?_
        · intro fu
          have et := hT.2.2.1 (s + z) (by omega)
          have b1 := (wl_v hi hz).2
          have b2 := tb_b S (s + z)
          simp (disch := omega) only [X5_isWord_35, ↓w_bd, ↓w_rt, ↓w_bh, sm_l, sm_r, ↓w_okr, ↓w_nm, ↓w_ite, ↓reduceIte, not_true_eq_false, not_false_eq_true, and_true, true_and, and_self, Option.some.injEq, reduceCtorEq, eq_self, ↓w_rc, ↓w_gI, ↓w_gR, ↓w_aN, ↓w_aI, ↓w_aR, ↓w_aL, ↓w_pI, ↓w_pR, ↓w_sI, ↓w_sR, ↓w_sL, ↓w_nO, ↓w_nA, ↓w_nL, ↓w_ca, ↓w_ca0, ↓w_gS, ↓w_gK, ↓w_dv, ↓w_tw, ↓w_rz, ↓w_no, nv_lit, nv_f, nv_add, nv_mul, nv_sub, nv_le, nv_lt, nv_eq, nv_cl, Nat.reduceMod, Nat.reduceMul, Nat.reduceAdd, Nat.zero_add, Nat.add_zero, Nat.mul_zero, decide_eq_true_eq, nv_inT, hu1, hF, h13, J4_len_w hu (by omega), J4_charAt_w hu (by omega) hz b1, Nat.not_le.mpr hz, et, hzn, nrk20]
        · intro fu j hj ih
          have et := hT.2.2.1 (s + j) (by omega)
          rw [Decidable.byContradiction (hzb j hj)] at et
          have b1 := (wl_v hi (show j < wn i by omega)).2
          simp (disch := omega) only [X5_isWord_35, ↓w_bd, ↓w_rt, ↓w_bh, sm_l, sm_r, ↓w_okr, ↓w_nm, ↓w_ite, ↓reduceIte, not_true_eq_false, not_false_eq_true, and_true, true_and, and_self, Option.some.injEq, reduceCtorEq, eq_self, ↓w_rc, ↓w_gI, ↓w_gR, ↓w_aN, ↓w_aI, ↓w_aR, ↓w_aL, ↓w_pI, ↓w_pR, ↓w_sI, ↓w_sR, ↓w_sL, ↓w_nO, ↓w_nA, ↓w_nL, ↓w_ca, ↓w_ca0, ↓w_gS, ↓w_gK, ↓w_dv, ↓w_tw, ↓w_rz, ↓w_no, nv_lit, nv_f, nv_add, nv_mul, nv_sub, nv_le, nv_lt, nv_eq, nv_cl, Nat.reduceMod, Nat.reduceMul, Nat.reduceAdd, Nat.zero_add, Nat.add_zero, Nat.mul_zero, decide_eq_true_eq, nv_inT, hu1, hF, h13, J4_len_w hu (by omega), J4_charAt_w hu (by omega) (show j < wn i by omega) b1, show ¬ wn i ≤ j by omega, et]
          exact ih
      simp (disch := omega) only [X5_isWord, X5_isWord_31, ↓w_bd, ↓w_rt, ↓w_bh, sm_l, sm_r, ↓w_okr, ↓w_nm, ↓w_ite, ↓reduceIte, not_true_eq_false, not_false_eq_true, and_true, true_and, and_self, Option.some.injEq, reduceCtorEq, eq_self, ↓w_rc, ↓w_gI, ↓w_gR, ↓w_aN, ↓w_aI, ↓w_aR, ↓w_aL, ↓w_pI, ↓w_pR, ↓w_sI, ↓w_sR, ↓w_sL, ↓w_nO, ↓w_nA, ↓w_nL, ↓w_ca, ↓w_ca0, ↓w_gS, ↓w_gK, ↓w_dv, ↓w_tw, ↓w_rz, ↓w_no, nv_lit, nv_f, nv_add, nv_mul, nv_sub, nv_le, nv_lt, nv_eq, nv_cl, Nat.reduceMod, Nat.reduceMul, Nat.reduceAdd, Nat.zero_add, Nat.add_zero, Nat.mul_zero, decide_eq_true_eq, nv_inT, hF, h10, h12, h13, h14, hu1, J4_len_w hu (by omega), esub2]
      exact lp Q FU 0 (by omega) (by unfold FU; omega)
    · simp (disch := omega) only [X5_isWord, X5_isWord_31, ↓w_bd, ↓w_rt, ↓w_bh, sm_l, sm_r, ↓w_okr, ↓w_nm, ↓w_ite, ↓reduceIte, not_true_eq_false, not_false_eq_true, and_true, true_and, and_self, Option.some.injEq, reduceCtorEq, eq_self, ↓w_rc, ↓w_gI, ↓w_gR, ↓w_aN, ↓w_aI, ↓w_aR, ↓w_aL, ↓w_pI, ↓w_pR, ↓w_sI, ↓w_sR, ↓w_sL, ↓w_nO, ↓w_nA, ↓w_nL, ↓w_ca, ↓w_ca0, ↓w_gS, ↓w_gK, ↓w_dv, ↓w_tw, ↓w_rz, ↓w_no, nv_lit, nv_f, nv_add, nv_mul, nv_sub, nv_le, nv_lt, nv_eq, nv_cl, Nat.reduceMod, Nat.reduceMul, Nat.reduceAdd, Nat.zero_add, Nat.add_zero, Nat.mul_zero, decide_eq_true_eq, nv_inT, hF, h10, h12, h13, h14, hu1, J4_len_w hu (by omega), esub, hn, nrk20]
  · simp (disch := omega) only [X5_isWord, X5_isWord_31, ↓w_bd, ↓w_rt, ↓w_bh, sm_l, sm_r, ↓w_okr, ↓w_nm, ↓w_ite, ↓reduceIte, not_true_eq_false, not_false_eq_true, and_true, true_and, and_self, Option.some.injEq, reduceCtorEq, eq_self, ↓w_rc, ↓w_gI, ↓w_gR, ↓w_aN, ↓w_aI, ↓w_aR, ↓w_aL, ↓w_pI, ↓w_pR, ↓w_sI, ↓w_sR, ↓w_sL, ↓w_nO, ↓w_nA, ↓w_nL, ↓w_ca, ↓w_ca0, ↓w_gS, ↓w_gK, ↓w_dv, ↓w_tw, ↓w_rz, ↓w_no, nv_lit, nv_f, nv_add, nv_mul, nv_sub, nv_le, nv_lt, nv_eq, nv_cl, Nat.reduceMod, Nat.reduceMul, Nat.reduceAdd, Nat.zero_add, Nat.add_zero, Nat.mul_zero, decide_eq_true_eq, nv_inT, hF, h10, h14, hk, nrk20]
theorem X5_mustWord_z {G : Nat → Nat} {c : Hp} {cd ps : Nat} (h : Tz G c cd ps) (u : Option Nat) (Q : Unit → Hp → Prop) : Wp (X5_mustWord (G 10) u) c Q ↔ Q () c := by
  simp (disch := omega) only [X5_mustWord, ↓w_bd, ↓w_rt, ↓w_bh, sm_l, sm_r, ↓w_okr, ↓w_nm, ↓w_ite, ↓reduceIte, not_true_eq_false, not_false_eq_true, and_true, true_and, and_self, Option.some.injEq, reduceCtorEq, eq_self, ↓w_rc, ↓w_gI, ↓w_gR, ↓w_aN, ↓w_aI, ↓w_aR, ↓w_aL, ↓w_pI, ↓w_pR, ↓w_sI, ↓w_sR, ↓w_sL, ↓w_nO, ↓w_nA, ↓w_nL, ↓w_ca, ↓w_ca0, ↓w_gS, ↓w_gK, ↓w_dv, ↓w_tw, ↓w_rz, ↓w_no, nv_lit, nv_f, nv_add, nv_mul, nv_sub, nv_le, nv_lt, nv_eq, nv_cl, Nat.reduceMod, Nat.reduceMul, Nat.reduceAdd, Nat.zero_add, Nat.add_zero, Nat.mul_zero, decide_eq_true_eq, nv_inT, h.1, X5_isWord_z h, X5_must_z h, X5_goesOn_z h]
theorem X5_mustWord_0 {G : Nat → Nat} {S : Gst} {c : Hp} {s e k i u : Nat} (h : Ts G S c s e k) (hi : i < 28) (hu : Sg c u (wn i) (wl i)) (hw : ¬ IsW S s e k i) (Q : Unit → Hp → Prop) : Wp (X5_mustWord (G 10) (some u)) c Q ↔ Q () (erq G c 1 s) := by
  have hz := (erq_z (cd := 1) (s := s) h.1 (by omega) (by omega)).1
  simp (disch := omega) only [X5_mustWord, ↓w_bd, ↓w_rt, ↓w_bh, sm_l, sm_r, ↓w_okr, ↓w_nm, ↓w_ite, ↓reduceIte, not_true_eq_false, not_false_eq_true, and_true, true_and, and_self, Option.some.injEq, reduceCtorEq, eq_self, ↓w_rc, ↓w_gI, ↓w_gR, ↓w_aN, ↓w_aI, ↓w_aR, ↓w_aL, ↓w_pI, ↓w_pR, ↓w_sI, ↓w_sR, ↓w_sL, ↓w_nO, ↓w_nA, ↓w_nL, ↓w_ca, ↓w_ca0, ↓w_gS, ↓w_gK, ↓w_dv, ↓w_tw, ↓w_rz, ↓w_no, nv_lit, nv_f, nv_add, nv_mul, nv_sub, nv_le, nv_lt, nv_eq, nv_cl, Nat.reduceMod, Nat.reduceMul, Nat.reduceAdd, Nat.zero_add, Nat.add_zero, Nat.mul_zero, decide_eq_true_eq, nv_inT, h.1, X5_isWord_0 h hi hu hw, X5_must_0 h, hz.1, X5_goesOn_z hz]
theorem X5_mustWord_1 {G : Nat → Nat} {S : Gst} {c : Hp} {s e k i u s' e' k' : Nat} (hG : GD G) (h : Ts G S c s e k) (hi : i < 28) (hu : Sg c u (wn i) (wl i)) (hw : IsW S s e k i) (hx : Nx S e s' e' k') (Q : Unit → Hp → Prop) (kk : ∀ c', Tw G c c' → Ts G S c' s' e' k' → Q () c') : Wp (X5_mustWord (G 10) (some u)) c Q := by
  simp (disch := omega) only [X5_mustWord, ↓w_bd, ↓w_rt, ↓w_bh, sm_l, sm_r, ↓w_okr, ↓w_nm, ↓w_ite, ↓reduceIte, not_true_eq_false, not_false_eq_true, and_true, true_and, and_self, Option.some.injEq, reduceCtorEq, eq_self, ↓w_rc, ↓w_gI, ↓w_gR, ↓w_aN, ↓w_aI, ↓w_aR, ↓w_aL, ↓w_pI, ↓w_pR, ↓w_sI, ↓w_sR, ↓w_sL, ↓w_nO, ↓w_nA, ↓w_nL, ↓w_ca, ↓w_ca0, ↓w_gS, ↓w_gK, ↓w_dv, ↓w_tw, ↓w_rz, ↓w_no, nv_lit, nv_f, nv_add, nv_mul, nv_sub, nv_le, nv_lt, nv_eq, nv_cl, Nat.reduceMod, Nat.reduceMul, Nat.reduceAdd, Nat.zero_add, Nat.add_zero, Nat.mul_zero, decide_eq_true_eq, nv_inT, h.1, X5_isWord_1 h hi hu hw, X5_must_1 h n10]
  exact X5_gon hG h hx _ kk
