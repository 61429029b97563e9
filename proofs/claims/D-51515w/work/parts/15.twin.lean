/-! THE TWIN: what its methods compute -/
/-- the twin's object and arrays at addresses G 10 .. G 19 -/
abbrev FT (G : Nat → Nat) (a : Hp) : Prop :=
  (hK a (G 10) = 5 ∧ hR a (G 10) 0 = some (G 11) ∧ hR a (G 10) 1 = some (G 12) ∧ hR a (G 10) 2 = some (G 13) ∧ hR a (G 10) 6 = some (G 14) ∧ hR a (G 10) 7 = some (G 15) ∧ hR a (G 10) 8 = some (G 16) ∧ hR a (G 10) 16 = some (G 17) ∧ hR a (G 10) 18 = some (G 18) ∧ hR a (G 10) 19 = some (G 19)) ∧
  (hK a (G 11) = 41 ∧ hK a (G 12) = 43 ∧ hK a (G 13) = 41 ∧ hK a (G 14) = 41 ∧ hK a (G 15) = 43 ∧ hK a (G 16) = 41 ∧ hK a (G 17) = 41 ∧ hK a (G 18) = 41 ∧ hK a (G 19) = 41) ∧
  (hN a (G 11) = 5995 ∧ hN a (G 12) = 2 ∧ hN a (G 13) = 10 ∧ hN a (G 14) = 10 ∧ hN a (G 15) = 10 ∧ hN a (G 16) = 500 ∧ hN a (G 17) = 125 ∧ hN a (G 18) = 10 ∧ hN a (G 19) = 10)
/-- the twin works on row o, which is R -/
abbrev FO (G : Nat → Nat) (a : Hp) (o : Nat) (R : Nat → Int32) : Prop := FT G a ∧ hI a (G 10) 3 = nv o ∧ o < 11 ∧ ∀ k, k < 545 → hI a (G 11) (545 * o + k) = R k
theorem X5_get_w {G : Nat → Nat} {a : Hp} {o : Nat} {R : Nat → Int32} (hF : FO G a o R) {k : Nat} (hk : k < 545) (Q : Int32 → Hp → Prop) : Wp (X5_get (G 10) (nv k)) a Q ↔ Q (R k) a := by
  obtain ⟨hF, ho, ho2, hR⟩ := hF
  simp (disch := omega) only [X5_get, ↓w_bd, ↓w_rt, ↓w_bh, sm_l, sm_r, ↓w_okr, ↓w_nm, ↓w_ite, ↓reduceIte, not_true_eq_false, not_false_eq_true, and_true, true_and, and_self, Option.some.injEq, reduceCtorEq, eq_self, ↓w_rc, ↓w_gI, ↓w_gR, ↓w_aN, ↓w_aI, ↓w_aR, ↓w_aL, ↓w_pI, ↓w_pR, ↓w_sI, ↓w_sR, ↓w_sL, ↓w_nO, ↓w_nA, ↓w_nL, ↓w_ca, ↓w_ca0, ↓w_gS, ↓w_gK, ↓w_dv, ↓w_tw, ↓w_rz, ↓w_no, nv_lit, nv_f, nv_add, nv_mul, nv_sub, nv_le, nv_lt, nv_eq, nv_cl, Nat.reduceMod, Nat.reduceMul, Nat.reduceAdd, Nat.zero_add, Nat.add_zero, Nat.mul_zero, decide_eq_true_eq, nv_in, hF, ho, hR]
  have : 545 * o + k < 5995 := by omega
  simp only [this, decide_true, true_and]
theorem X5_hp_w {G : Nat → Nat} {a : Hp} {o : Nat} {R : Nat → Int32} (hF : FO G a o R) {h j : Nat} (hk : h < 10) (hj : j < 7) (Q : Int32 → Hp → Prop) : Wp (X5_hp (G 10) (nv h) (nv j)) a Q ↔ Q (R (15 + 7 * h + j)) a := by
  simp (disch := omega) only [X5_hp, ↓w_bd, ↓w_rt, ↓w_bh, sm_l, sm_r, ↓w_okr, ↓w_nm, ↓w_ite, ↓reduceIte, not_true_eq_false, not_false_eq_true, and_true, true_and, and_self, Option.some.injEq, reduceCtorEq, eq_self, ↓w_rc, ↓w_gI, ↓w_gR, ↓w_aN, ↓w_aI, ↓w_aR, ↓w_aL, ↓w_pI, ↓w_pR, ↓w_sI, ↓w_sR, ↓w_sL, ↓w_nO, ↓w_nA, ↓w_nL, ↓w_ca, ↓w_ca0, ↓w_gS, ↓w_gK, ↓w_dv, ↓w_tw, ↓w_rz, ↓w_no, nv_lit, nv_f, nv_add, nv_mul, nv_sub, nv_le, nv_lt, nv_eq, nv_cl, Nat.reduceMod, Nat.reduceMul, Nat.reduceAdd, Nat.zero_add, Nat.add_zero, Nat.mul_zero, decide_eq_true_eq, nv_in, hF.1, X5_get_w hF]
theorem X5_stones_w {G : Nat → Nat} {a : Hp} {o : Nat} {R : Nat → Int32} (hF : FO G a o R) {h r : Nat} (hk : h < 10) (hj : r < 5) (Q : Int32 → Hp → Prop) : Wp (X5_stones (G 10) (nv h) (nv r)) a Q ↔ Q (st R h r) a := by
  simp (disch := omega) only [X5_stones, ↓w_bd, ↓w_rt, ↓w_bh, sm_l, sm_r, ↓w_okr, ↓w_nm, ↓w_ite, ↓reduceIte, not_true_eq_false, not_false_eq_true, and_true, true_and, and_self, Option.some.injEq, reduceCtorEq, eq_self, ↓w_rc, ↓w_gI, ↓w_gR, ↓w_aN, ↓w_aI, ↓w_aR, ↓w_aL, ↓w_pI, ↓w_pR, ↓w_sI, ↓w_sR, ↓w_sL, ↓w_nO, ↓w_nA, ↓w_nL, ↓w_ca, ↓w_ca0, ↓w_gS, ↓w_gK, ↓w_dv, ↓w_tw, ↓w_rz, ↓w_no, nv_lit, nv_f, nv_add, nv_mul, nv_sub, nv_le, nv_lt, nv_eq, nv_cl, Nat.reduceMod, Nat.reduceMul, Nat.reduceAdd, Nat.zero_add, Nat.add_zero, Nat.mul_zero, decide_eq_true_eq, nv_in, hF.1, X5_hp_w hF, st]
theorem X5_cl_w {G : Nat → Nat} {a : Hp} {o : Nat} {R : Nat → Int32} (hF : FO G a o R) {c j : Nat} (hk : c < 20) (hj : j < 18) (Q : Int32 → Hp → Prop) : Wp (X5_cl (G 10) (nv c) (nv j)) a Q ↔ Q (cs R c j) a := by
  simp (disch := omega) only [X5_cl, ↓w_bd, ↓w_rt, ↓w_bh, sm_l, sm_r, ↓w_okr, ↓w_nm, ↓w_ite, ↓reduceIte, not_true_eq_false, not_false_eq_true, and_true, true_and, and_self, Option.some.injEq, reduceCtorEq, eq_self, ↓w_rc, ↓w_gI, ↓w_gR, ↓w_aN, ↓w_aI, ↓w_aR, ↓w_aL, ↓w_pI, ↓w_pR, ↓w_sI, ↓w_sR, ↓w_sL, ↓w_nO, ↓w_nA, ↓w_nL, ↓w_ca, ↓w_ca0, ↓w_gS, ↓w_gK, ↓w_dv, ↓w_tw, ↓w_rz, ↓w_no, nv_lit, nv_f, nv_add, nv_mul, nv_sub, nv_le, nv_lt, nv_eq, nv_cl, Nat.reduceMod, Nat.reduceMul, Nat.reduceAdd, Nat.zero_add, Nat.add_zero, Nat.mul_zero, decide_eq_true_eq, nv_in, hF.1, X5_get_w hF, cs]
theorem X5_factOf_w {G : Nat → Nat} {a : Hp} {o : Nat} {R : Nat → Int32} (hF : FO G a o R) {h k : Nat} (hh : h < 10) (hk : k < 10) (Q : Int32 → Hp → Prop) : Wp (X5_factOf (G 10) (nv h) (nv k)) a Q ↔ Q (fc R h k) a := by
  simp (disch := omega) only [X5_factOf, ↓w_bd, ↓w_rt, ↓w_bh, sm_l, sm_r, ↓w_okr, ↓w_nm, ↓w_ite, ↓reduceIte, not_true_eq_false, not_false_eq_true, and_true, true_and, and_self, Option.some.injEq, reduceCtorEq, eq_self, ↓w_rc, ↓w_gI, ↓w_gR, ↓w_aN, ↓w_aI, ↓w_aR, ↓w_aL, ↓w_pI, ↓w_pR, ↓w_sI, ↓w_sR, ↓w_sL, ↓w_nO, ↓w_nA, ↓w_nL, ↓w_ca, ↓w_ca0, ↓w_gS, ↓w_gK, ↓w_dv, ↓w_tw, ↓w_rz, ↓w_no, nv_lit, nv_f, nv_add, nv_mul, nv_sub, nv_le, nv_lt, nv_eq, nv_cl, Nat.reduceMod, Nat.reduceMul, Nat.reduceAdd, Nat.zero_add, Nat.add_zero, Nat.mul_zero, decide_eq_true_eq, nv_in, hF.1, X5_get_w hF, fc]
theorem X5_sideOf_w {G : Nat → Nat} {a : Hp} {o : Nat} {R : Nat → Int32} (hF : FO G a o R) (hS : Sh R) {c s : Nat} (hc : c < nC R) (hs : s < 2) (Q : Int32 → Hp → Prop) : Wp (X5_sideOf (G 10) (nv c) (nv s)) a Q ↔ Q (nv (sd R c s)) a := by
  have h20 := sh_C20 hS
  simp (disch := omega) only [X5_sideOf, ↓w_bd, ↓w_rt, ↓w_bh, sm_l, sm_r, ↓w_okr, ↓w_nm, ↓w_ite, ↓reduceIte, not_true_eq_false, not_false_eq_true, and_true, true_and, and_self, Option.some.injEq, reduceCtorEq, eq_self, ↓w_rc, ↓w_gI, ↓w_gR, ↓w_aN, ↓w_aI, ↓w_aR, ↓w_aL, ↓w_pI, ↓w_pR, ↓w_sI, ↓w_sR, ↓w_sL, ↓w_nO, ↓w_nA, ↓w_nL, ↓w_ca, ↓w_ca0, ↓w_gS, ↓w_gK, ↓w_dv, ↓w_tw, ↓w_rz, ↓w_no, nv_lit, nv_f, nv_add, nv_mul, nv_sub, nv_le, nv_lt, nv_eq, nv_cl, Nat.reduceMod, Nat.reduceMul, Nat.reduceAdd, Nat.zero_add, Nat.add_zero, Nat.mul_zero, decide_eq_true_eq, nv_in, hF.1, X5_cl_w hF, cs, sh_S hS]
theorem X5_isOpen_1 {G : Nat → Nat} {a : Hp} {o : Nat} {R : Nat → Int32} (hF : FO G a o R) {c : Nat} (hc : c < 20) (ho : cs R c 4 = nv 0) (Q : Int32 → Hp → Prop) : Wp (X5_isOpen (G 10) (nv c)) a Q ↔ Q 1 a := by
  simp (disch := omega) only [X5_isOpen, X5_isOpen_14, ↓w_bd, ↓w_rt, ↓w_bh, sm_l, sm_r, ↓w_okr, ↓w_nm, ↓w_ite, ↓reduceIte, not_true_eq_false, not_false_eq_true, and_true, true_and, and_self, Option.some.injEq, reduceCtorEq, eq_self, ↓w_rc, nv_lit, hF.1, X5_cl_w hF, ho, ↓w_rz, Nat.reduceMod]
  simp only [show nrk 2 (nv 1) = true by decide, true_and]
theorem X5_isOpen_0 {G : Nat → Nat} {a : Hp} {o : Nat} {R : Nat → Int32} (hF : FO G a o R) {c : Nat} (hc : c < 20) (ho : ¬ cs R c 4 = nv 0) (Q : Int32 → Hp → Prop) : Wp (X5_isOpen (G 10) (nv c)) a Q ↔ Q 0 a := by
  simp (disch := omega) only [X5_isOpen, X5_isOpen_14, ↓w_bd, ↓w_rt, ↓w_bh, sm_l, sm_r, ↓w_okr, ↓w_nm, ↓w_ite, ↓reduceIte, not_true_eq_false, not_false_eq_true, and_true, true_and, and_self, Option.some.injEq, reduceCtorEq, eq_self, ↓w_rc, nv_lit, hF.1, X5_cl_w hF, ho, ↓w_rz, Nat.reduceMod]
  simp only [show nrk 2 (nv 0) = true by decide, true_and]
theorem X5_pairedOf_w {G : Nat → Nat} {a : Hp} {o : Nat} {R : Nat → Int32} (hF : FO G a o R) {c s r : Nat} (hk : c < 20) (hs : s < 2) (hr : r < 5) (Q : Int32 → Hp → Prop) : Wp (X5_pairedOf (G 10) (nv c) (nv s) (nv r)) a Q ↔ Q (cs R c (8 + 5 * s + r)) a := by
  simp (disch := omega) only [X5_pairedOf, ↓w_bd, ↓w_rt, ↓w_bh, sm_l, sm_r, ↓w_okr, ↓w_nm, ↓w_ite, ↓reduceIte, not_true_eq_false, not_false_eq_true, and_true, true_and, and_self, Option.some.injEq, reduceCtorEq, eq_self, ↓w_rc, ↓w_gI, ↓w_gR, ↓w_aN, ↓w_aI, ↓w_aR, ↓w_aL, ↓w_pI, ↓w_pR, ↓w_sI, ↓w_sR, ↓w_sL, ↓w_nO, ↓w_nA, ↓w_nL, ↓w_ca, ↓w_ca0, ↓w_gS, ↓w_gK, ↓w_dv, ↓w_tw, ↓w_rz, ↓w_no, nv_lit, nv_f, nv_add, nv_mul, nv_sub, nv_le, nv_lt, nv_eq, nv_cl, Nat.reduceMod, Nat.reduceMul, Nat.reduceAdd, Nat.zero_add, Nat.add_zero, Nat.mul_zero, decide_eq_true_eq, nv_in, hF.1, X5_cl_w hF]
theorem X5_leftIn_w {G : Nat → Nat} {a : Hp} {o : Nat} {R : Nat → Int32} (hF : FO G a o R) (hS : Sh R) {c s r : Nat} (hc : c < nC R) (hs : s < 2) (hr : r < 5) (Q : Int32 → Hp → Prop) : Wp (X5_leftIn (G 10) (nv c) (nv s) (nv r)) a Q ↔ Q (li R c s r) a := by
  have h20 := sh_C20 hS
  have h10 := sh_H10 hS
  have hh := sh_SH hS hc hs
  simp (disch := omega) only [X5_leftIn, ↓w_bd, ↓w_rt, ↓w_bh, sm_l, sm_r, ↓w_okr, ↓w_nm, ↓w_ite, ↓reduceIte, not_true_eq_false, not_false_eq_true, and_true, true_and, and_self, Option.some.injEq, reduceCtorEq, eq_self, ↓w_rc, ↓w_gI, ↓w_gR, ↓w_aN, ↓w_aI, ↓w_aR, ↓w_aL, ↓w_pI, ↓w_pR, ↓w_sI, ↓w_sR, ↓w_sL, ↓w_nO, ↓w_nA, ↓w_nL, ↓w_ca, ↓w_ca0, ↓w_gS, ↓w_gK, ↓w_dv, ↓w_tw, ↓w_rz, ↓w_no, nv_lit, nv_f, nv_add, nv_mul, nv_sub, nv_le, nv_lt, nv_eq, nv_cl, Nat.reduceMod, Nat.reduceMul, Nat.reduceAdd, Nat.zero_add, Nat.add_zero, Nat.mul_zero, decide_eq_true_eq, nv_in, hF.1, X5_sideOf_w hF hS, X5_stones_w hF, X5_pairedOf_w hF, li]
theorem X5_leftOf_w {G : Nat → Nat} {a : Hp} {o : Nat} {R : Nat → Int32} (hF : FO G a o R) (hS : Sh R) {c s : Nat} (hc : c < nC R) (hs : s < 2) (Q : Int32 → Hp → Prop) : Wp (X5_leftOf (G 10) (nv c) (nv s)) a Q ↔ Q (lf R c s) a := by
  have h20 := sh_C20 hS
  have h10 := sh_H10 hS
  have hh := sh_SH hS hc hs
  have h5 := sh_R5 hS hh
  have l : ∀ (f k : Nat), k ≤ nR R (sd R c s) → nR R (sd R c s) - k < f → (Wp (X5_leftOf_23 f (G 10) (nv c) (nv s) (su (fun r => li R c s r) k) (nv k)) a Q ↔ Q (su (fun r => li R c s r) (nR R (sd R c s))) a) := by
    refine loopUp _ (nR R (sd R c s)) ?_ ?_
    · intro f
      simp (disch := omega) only [X5_leftOf_23, ↓w_bd, ↓w_rt, ↓w_bh, sm_l, sm_r, ↓w_okr, ↓w_nm, ↓w_ite, ↓reduceIte, not_true_eq_false, not_false_eq_true, and_true, true_and, and_self, Option.some.injEq, reduceCtorEq, eq_self, ↓w_rc, ↓w_gI, ↓w_gR, ↓w_aN, ↓w_aI, ↓w_aR, ↓w_aL, ↓w_pI, ↓w_pR, ↓w_sI, ↓w_sR, ↓w_sL, ↓w_nO, ↓w_nA, ↓w_nL, ↓w_ca, ↓w_ca0, ↓w_gS, ↓w_gK, ↓w_dv, ↓w_tw, ↓w_rz, ↓w_no, nv_lit, nv_f, nv_add, nv_mul, nv_sub, nv_le, nv_lt, nv_eq, nv_cl, Nat.reduceMod, Nat.reduceMul, Nat.reduceAdd, Nat.zero_add, Nat.add_zero, Nat.mul_zero, decide_eq_true_eq, nv_in, hF.1, X5_sideOf_w hF hS, X5_hp_w hF, sh_R hS, X5_leftIn_w hF hS, Nat.le_refl]
      all_goals rfl
    · intro f k hk2 ih
      simp (disch := omega) only [su, nv_lit, nv_f, nv_add, nv_mul, nv_sub, nv_le, nv_lt, nv_eq, nv_cl, Nat.reduceMod, Nat.reduceMul, Nat.reduceAdd, Nat.zero_add, Nat.add_zero, Nat.mul_zero, decide_eq_true_eq, nv_in] at ih
      simp (disch := omega) only [X5_leftOf_23, ↓w_bd, ↓w_rt, ↓w_bh, sm_l, sm_r, ↓w_okr, ↓w_nm, ↓w_ite, ↓reduceIte, not_true_eq_false, not_false_eq_true, and_true, true_and, and_self, Option.some.injEq, reduceCtorEq, eq_self, ↓w_rc, ↓w_gI, ↓w_gR, ↓w_aN, ↓w_aI, ↓w_aR, ↓w_aL, ↓w_pI, ↓w_pR, ↓w_sI, ↓w_sR, ↓w_sL, ↓w_nO, ↓w_nA, ↓w_nL, ↓w_ca, ↓w_ca0, ↓w_gS, ↓w_gK, ↓w_dv, ↓w_tw, ↓w_rz, ↓w_no, nv_lit, nv_f, nv_add, nv_mul, nv_sub, nv_le, nv_lt, nv_eq, nv_cl, Nat.reduceMod, Nat.reduceMul, Nat.reduceAdd, Nat.zero_add, Nat.add_zero, Nat.mul_zero, decide_eq_true_eq, nv_in, hF.1, X5_sideOf_w hF hS, X5_hp_w hF, sh_R hS, X5_leftIn_w hF hS, Nat.not_le.mpr hk2]
      first
        | exact ih
        | ((repeat' split) <;> simp only [↓reduceIte, not_true_eq_false, not_false_eq_true, Int32.lt_irrefl, *] at ih <;> exact ih)
        | ((repeat' split) <;> simp only [↓reduceIte, not_true_eq_false, not_false_eq_true, Int32.lt_irrefl, *] at ih ⊢ <;> exact ih)
  by_cases h0 : cs R c 4 = nv 0
  · have e : lf R c s = su (fun r => li R c s r) (nR R (sd R c s)) := by rw [lf, if_pos (show cs R c 4 = 0 from h0)]
    rw [e, ← l FU 0 (by omega) (by unfold FU; omega)]
    simp (disch := omega) only [X5_leftOf, ↓w_bd, ↓w_rt, ↓w_bh, sm_l, sm_r, ↓w_okr, ↓w_nm, ↓w_ite, ↓reduceIte, not_true_eq_false, not_false_eq_true, and_true, true_and, and_self, Option.some.injEq, reduceCtorEq, eq_self, ↓w_rc, hF.1, X5_isOpen_1 hF (c := c) (by omega) h0, i1z, su_0, Nat.reduceMod]
    rfl
  · have e : lf R c s = cs R c (6 + s) := by rw [lf, if_neg (show ¬ cs R c 4 = 0 from h0)]
    rw [e]
    simp (disch := omega) only [X5_leftOf, ↓w_bd, ↓w_rt, ↓w_bh, sm_l, sm_r, ↓w_okr, ↓w_nm, ↓w_ite, ↓reduceIte, not_true_eq_false, not_false_eq_true, and_true, true_and, and_self, Option.some.injEq, reduceCtorEq, eq_self, ↓w_rc, ↓w_gI, ↓w_gR, ↓w_aN, ↓w_aI, ↓w_aR, ↓w_aL, ↓w_pI, ↓w_pR, ↓w_sI, ↓w_sR, ↓w_sL, ↓w_nO, ↓w_nA, ↓w_nL, ↓w_ca, ↓w_ca0, ↓w_gS, ↓w_gK, ↓w_dv, ↓w_tw, ↓w_rz, ↓w_no, nv_lit, nv_f, nv_add, nv_mul, nv_sub, nv_le, nv_lt, nv_eq, nv_cl, Nat.reduceMod, Nat.reduceMul, Nat.reduceAdd, Nat.zero_add, Nat.add_zero, Nat.mul_zero, decide_eq_true_eq, nv_in, hF.1, X5_isOpen_0 hF (c := c) (by omega) h0, X5_cl_w hF]
theorem X5_sizeOf_w {G : Nat → Nat} {a : Hp} {o : Nat} {R : Nat → Int32} (hF : FO G a o R) (hS : Sh R) {h : Nat} (hk : h < nH R) (Q : Int32 → Hp → Prop) : Wp (X5_sizeOf (G 10) (nv h)) a Q ↔ Q (sz R h) a := by
  have h10 := sh_H10 hS
  have h5 := sh_R5 hS hk
  have l : ∀ (f k : Nat), k ≤ nR R h → nR R h - k < f → (Wp (X5_sizeOf_4 f (G 10) (nv h) (su (fun r => st R h r) k) (nv k)) a Q ↔ Q (su (fun r => st R h r) (nR R h)) a) := by
    refine loopUp _ (nR R h) ?_ ?_
    · intro f
      simp (disch := omega) only [X5_sizeOf_4, ↓w_bd, ↓w_rt, ↓w_bh, sm_l, sm_r, ↓w_okr, ↓w_nm, ↓w_ite, ↓reduceIte, not_true_eq_false, not_false_eq_true, and_true, true_and, and_self, Option.some.injEq, reduceCtorEq, eq_self, ↓w_rc, ↓w_gI, ↓w_gR, ↓w_aN, ↓w_aI, ↓w_aR, ↓w_aL, ↓w_pI, ↓w_pR, ↓w_sI, ↓w_sR, ↓w_sL, ↓w_nO, ↓w_nA, ↓w_nL, ↓w_ca, ↓w_ca0, ↓w_gS, ↓w_gK, ↓w_dv, ↓w_tw, ↓w_rz, ↓w_no, nv_lit, nv_f, nv_add, nv_mul, nv_sub, nv_le, nv_lt, nv_eq, nv_cl, Nat.reduceMod, Nat.reduceMul, Nat.reduceAdd, Nat.zero_add, Nat.add_zero, Nat.mul_zero, decide_eq_true_eq, nv_in, hF.1, X5_hp_w hF, X5_stones_w hF, sh_R hS, Nat.le_refl]
      all_goals rfl
    · intro f k hk2 ih
      simp (disch := omega) only [su, nv_lit, nv_f, nv_add, nv_mul, nv_sub, nv_le, nv_lt, nv_eq, nv_cl, Nat.reduceMod, Nat.reduceMul, Nat.reduceAdd, Nat.zero_add, Nat.add_zero, Nat.mul_zero, decide_eq_true_eq, nv_in] at ih
      simp (disch := omega) only [X5_sizeOf_4, ↓w_bd, ↓w_rt, ↓w_bh, sm_l, sm_r, ↓w_okr, ↓w_nm, ↓w_ite, ↓reduceIte, not_true_eq_false, not_false_eq_true, and_true, true_and, and_self, Option.some.injEq, reduceCtorEq, eq_self, ↓w_rc, ↓w_gI, ↓w_gR, ↓w_aN, ↓w_aI, ↓w_aR, ↓w_aL, ↓w_pI, ↓w_pR, ↓w_sI, ↓w_sR, ↓w_sL, ↓w_nO, ↓w_nA, ↓w_nL, ↓w_ca, ↓w_ca0, ↓w_gS, ↓w_gK, ↓w_dv, ↓w_tw, ↓w_rz, ↓w_no, nv_lit, nv_f, nv_add, nv_mul, nv_sub, nv_le, nv_lt, nv_eq, nv_cl, Nat.reduceMod, Nat.reduceMul, Nat.reduceAdd, Nat.zero_add, Nat.add_zero, Nat.mul_zero, decide_eq_true_eq, nv_in, hF.1, X5_hp_w hF, X5_stones_w hF, sh_R hS, Nat.not_le.mpr hk2]
      first
        | exact ih
        | ((repeat' split) <;> simp only [↓reduceIte, not_true_eq_false, not_false_eq_true, Int32.lt_irrefl, *] at ih <;> exact ih)
        | ((repeat' split) <;> simp only [↓reduceIte, not_true_eq_false, not_false_eq_true, Int32.lt_irrefl, *] at ih ⊢ <;> exact ih)
  exact l FU 0 (by omega) (by unfold FU; omega)
theorem X5_lookOf_w {G : Nat → Nat} {a : Hp} {o : Nat} {R : Nat → Int32} (hF : FO G a o R) (hS : Sh R) {h : Nat} (hk : h < nH R) (Q : Int32 → Hp → Prop) : Wp (X5_lookOf (G 10) (nv h)) a Q ↔ Q (lk R (R 2) h) a := by
  have h10 := sh_H10 hS
  have h5 := sh_R5 hS hk
  have l : ∀ (f k : Nat), k ≤ nR R h → nR R h - k < f → (Wp (X5_lookOf_4 f (G 10) (nv h) (su (fun r => sg (st R h r) (R 2)) k) (nv k)) a Q ↔ Q (su (fun r => sg (st R h r) (R 2)) (nR R h)) a) := by
    refine loopUp _ (nR R h) ?_ ?_
    · intro f
      simp (disch := omega) only [X5_lookOf_4, ↓w_bd, ↓w_rt, ↓w_bh, sm_l, sm_r, ↓w_okr, ↓w_nm, ↓w_ite, ↓reduceIte, not_true_eq_false, not_false_eq_true, and_true, true_and, and_self, Option.some.injEq, reduceCtorEq, eq_self, ↓w_rc, ↓w_gI, ↓w_gR, ↓w_aN, ↓w_aI, ↓w_aR, ↓w_aL, ↓w_pI, ↓w_pR, ↓w_sI, ↓w_sR, ↓w_sL, ↓w_nO, ↓w_nA, ↓w_nL, ↓w_ca, ↓w_ca0, ↓w_gS, ↓w_gK, ↓w_dv, ↓w_tw, ↓w_rz, ↓w_no, nv_lit, nv_f, nv_add, nv_mul, nv_sub, nv_le, nv_lt, nv_eq, nv_cl, Nat.reduceMod, Nat.reduceMul, Nat.reduceAdd, Nat.zero_add, Nat.add_zero, Nat.mul_zero, decide_eq_true_eq, nv_in, hF.1, X5_hp_w hF, X5_stones_w hF, sh_R hS, X5_get_w hF, X5_sightOf_w, Nat.le_refl]
      all_goals rfl
    · intro f k hk2 ih
      simp (disch := omega) only [su, nv_lit, nv_f, nv_add, nv_mul, nv_sub, nv_le, nv_lt, nv_eq, nv_cl, Nat.reduceMod, Nat.reduceMul, Nat.reduceAdd, Nat.zero_add, Nat.add_zero, Nat.mul_zero, decide_eq_true_eq, nv_in] at ih
      simp (disch := omega) only [X5_lookOf_4, ↓w_bd, ↓w_rt, ↓w_bh, sm_l, sm_r, ↓w_okr, ↓w_nm, ↓w_ite, ↓reduceIte, not_true_eq_false, not_false_eq_true, and_true, true_and, and_self, Option.some.injEq, reduceCtorEq, eq_self, ↓w_rc, ↓w_gI, ↓w_gR, ↓w_aN, ↓w_aI, ↓w_aR, ↓w_aL, ↓w_pI, ↓w_pR, ↓w_sI, ↓w_sR, ↓w_sL, ↓w_nO, ↓w_nA, ↓w_nL, ↓w_ca, ↓w_ca0, ↓w_gS, ↓w_gK, ↓w_dv, ↓w_tw, ↓w_rz, ↓w_no, nv_lit, nv_f, nv_add, nv_mul, nv_sub, nv_le, nv_lt, nv_eq, nv_cl, Nat.reduceMod, Nat.reduceMul, Nat.reduceAdd, Nat.zero_add, Nat.add_zero, Nat.mul_zero, decide_eq_true_eq, nv_in, hF.1, X5_hp_w hF, X5_stones_w hF, sh_R hS, X5_get_w hF, X5_sightOf_w, Nat.not_le.mpr hk2]
      first
        | exact ih
        | ((repeat' split) <;> simp only [↓reduceIte, not_true_eq_false, not_false_eq_true, Int32.lt_irrefl, *] at ih <;> exact ih)
        | ((repeat' split) <;> simp only [↓reduceIte, not_true_eq_false, not_false_eq_true, Int32.lt_irrefl, *] at ih ⊢ <;> exact ih)
  exact l FU 0 (by omega) (by unfold FU; omega)
theorem X5_wordBySize_w {G : Nat → Nat} {a : Hp} {o : Nat} {R : Nat → Int32} (hF : FO G a o R) (hS : Sh R) {h k : Nat} (hh : h < nH R) (hk : k < nH R) (Q : Int32 → Hp → Prop) : Wp (X5_wordBySize (G 10) (nv h) (nv k)) a Q ↔ Q (ws R h k) a := by
  simp (disch := omega) only [X5_wordBySize, ↓w_bd, ↓w_rt, ↓w_bh, sm_l, sm_r, ↓w_okr, ↓w_nm, ↓w_ite, ↓reduceIte, not_true_eq_false, not_false_eq_true, and_true, true_and, and_self, Option.some.injEq, reduceCtorEq, eq_self, ↓w_rc, ↓w_gI, ↓w_gR, ↓w_aN, ↓w_aI, ↓w_aR, ↓w_aL, ↓w_pI, ↓w_pR, ↓w_sI, ↓w_sR, ↓w_sL, ↓w_nO, ↓w_nA, ↓w_nL, ↓w_ca, ↓w_ca0, ↓w_gS, ↓w_gK, ↓w_dv, ↓w_tw, ↓w_rz, ↓w_no, nv_lit, nv_f, nv_add, nv_mul, nv_sub, nv_le, nv_lt, nv_eq, nv_cl, Nat.reduceMod, Nat.reduceMul, Nat.reduceAdd, Nat.zero_add, Nat.add_zero, Nat.mul_zero, decide_eq_true_eq, nv_in, hF.1, X5_sizeOf_w hF hS, X5_word_w, ws]
theorem X5_wordByEye_w {G : Nat → Nat} {a : Hp} {o : Nat} {R : Nat → Int32} (hF : FO G a o R) (hS : Sh R) {h k : Nat} (hh : h < nH R) (hk : k < nH R) (Q : Int32 → Hp → Prop) : Wp (X5_wordByEye (G 10) (nv h) (nv k)) a Q ↔ Q (we R (R 2) h k) a := by
  simp (disch := omega) only [X5_wordByEye, ↓w_bd, ↓w_rt, ↓w_bh, sm_l, sm_r, ↓w_okr, ↓w_nm, ↓w_ite, ↓reduceIte, not_true_eq_false, not_false_eq_true, and_true, true_and, and_self, Option.some.injEq, reduceCtorEq, eq_self, ↓w_rc, ↓w_gI, ↓w_gR, ↓w_aN, ↓w_aI, ↓w_aR, ↓w_aL, ↓w_pI, ↓w_pR, ↓w_sI, ↓w_sR, ↓w_sL, ↓w_nO, ↓w_nA, ↓w_nL, ↓w_ca, ↓w_ca0, ↓w_gS, ↓w_gK, ↓w_dv, ↓w_tw, ↓w_rz, ↓w_no, nv_lit, nv_f, nv_add, nv_mul, nv_sub, nv_le, nv_lt, nv_eq, nv_cl, Nat.reduceMod, Nat.reduceMul, Nat.reduceAdd, Nat.zero_add, Nat.add_zero, Nat.mul_zero, decide_eq_true_eq, nv_in, hF.1, X5_lookOf_w hF hS, X5_word_w, we]
theorem X5_claimsThat_w {G : Nat → Nat} {a : Hp} {o : Nat} {R : Nat → Int32} (hF : FO G a o R) (hS : Sh R) (v : Int32) (Q : Int32 → Hp → Prop) : Wp (X5_claimsThat (G 10) v) a Q ↔ Q (ct R v) a := by
  have h20 := sh_C20 hS
  have l : ∀ (f k : Nat), k ≤ nC R → nC R - k < f → (Wp (X5_claimsThat_4 f (G 10) v (su (fun c => if cs R c 4 = v then 1 else 0) k) (nv k)) a Q ↔ Q (su (fun c => if cs R c 4 = v then 1 else 0) (nC R)) a) := by
    refine loopUp _ (nC R) ?_ ?_
    · intro f
      simp (disch := omega) only [X5_claimsThat_4, X5_claimsThat_29, ↓w_bd, ↓w_rt, ↓w_bh, sm_l, sm_r, ↓w_okr, ↓w_nm, ↓w_ite, ↓reduceIte, not_true_eq_false, not_false_eq_true, and_true, true_and, and_self, Option.some.injEq, reduceCtorEq, eq_self, ↓w_rc, ↓w_gI, ↓w_gR, ↓w_aN, ↓w_aI, ↓w_aR, ↓w_aL, ↓w_pI, ↓w_pR, ↓w_sI, ↓w_sR, ↓w_sL, ↓w_nO, ↓w_nA, ↓w_nL, ↓w_ca, ↓w_ca0, ↓w_gS, ↓w_gK, ↓w_dv, ↓w_tw, ↓w_rz, ↓w_no, nv_lit, nv_f, nv_add, nv_mul, nv_sub, nv_le, nv_lt, nv_eq, nv_cl, Nat.reduceMod, Nat.reduceMul, Nat.reduceAdd, Nat.zero_add, Nat.add_zero, Nat.mul_zero, decide_eq_true_eq, nv_in, hF.1, X5_get_w hF, sh_C hS, X5_cl_w hF, X5_one_0, X5_one_1, ite_not, Nat.le_refl]
      all_goals rfl
    · intro f k hk2 ih
      simp (disch := omega) only [su, nv_lit, nv_f, nv_add, nv_mul, nv_sub, nv_le, nv_lt, nv_eq, nv_cl, Nat.reduceMod, Nat.reduceMul, Nat.reduceAdd, Nat.zero_add, Nat.add_zero, Nat.mul_zero, decide_eq_true_eq, nv_in] at ih
      simp (disch := omega) only [X5_claimsThat_4, X5_claimsThat_29, ↓w_bd, ↓w_rt, ↓w_bh, sm_l, sm_r, ↓w_okr, ↓w_nm, ↓w_ite, ↓reduceIte, not_true_eq_false, not_false_eq_true, and_true, true_and, and_self, Option.some.injEq, reduceCtorEq, eq_self, ↓w_rc, ↓w_gI, ↓w_gR, ↓w_aN, ↓w_aI, ↓w_aR, ↓w_aL, ↓w_pI, ↓w_pR, ↓w_sI, ↓w_sR, ↓w_sL, ↓w_nO, ↓w_nA, ↓w_nL, ↓w_ca, ↓w_ca0, ↓w_gS, ↓w_gK, ↓w_dv, ↓w_tw, ↓w_rz, ↓w_no, nv_lit, nv_f, nv_add, nv_mul, nv_sub, nv_le, nv_lt, nv_eq, nv_cl, Nat.reduceMod, Nat.reduceMul, Nat.reduceAdd, Nat.zero_add, Nat.add_zero, Nat.mul_zero, decide_eq_true_eq, nv_in, hF.1, X5_get_w hF, sh_C hS, X5_cl_w hF, X5_one_0, X5_one_1, ite_not, Nat.not_le.mpr hk2]
      first
        | exact ih
        | ((repeat' split) <;> simp only [↓reduceIte, not_true_eq_false, not_false_eq_true, Int32.lt_irrefl, *] at ih <;> exact ih)
        | ((repeat' split) <;> simp only [↓reduceIte, not_true_eq_false, not_false_eq_true, Int32.lt_irrefl, *] at ih ⊢ <;> exact ih)
  exact l FU 0 (by omega) (by unfold FU; omega)
theorem X5_claimsOf_w1 {G : Nat → Nat} {a : Hp} {o : Nat} {R : Nat → Int32} (hF : FO G a o R) (hS : Sh R) (t : Int32) (Q : Int32 → Hp → Prop) : Wp (X5_claimsOf (G 10) t (-1)) a Q ↔ Q (co R t) a := by
  have h20 := sh_C20 hS
  have l : ∀ (f k : Nat), k ≤ nC R → nC R - k < f → (Wp (X5_claimsOf_5 f (G 10) t (-nv 1) (su (fun c => if cs R c 0 = t then 1 else 0) k) (nv k)) a Q ↔ Q (su (fun c => if cs R c 0 = t then 1 else 0) (nC R)) a) := by
    refine loopUp _ (nC R) ?_ ?_
    · intro f
      simp (disch := omega) only [X5_claimsOf_5, X5_claimsOf_48, X5_claimsOf_47, X5_claimsOf_43, ↓w_bd, ↓w_rt, ↓w_bh, sm_l, sm_r, ↓w_okr, ↓w_nm, ↓w_ite, ↓reduceIte, not_true_eq_false, not_false_eq_true, and_true, true_and, and_self, Option.some.injEq, reduceCtorEq, eq_self, ↓w_rc, ↓w_gI, ↓w_gR, ↓w_aN, ↓w_aI, ↓w_aR, ↓w_aL, ↓w_pI, ↓w_pR, ↓w_sI, ↓w_sR, ↓w_sL, ↓w_nO, ↓w_nA, ↓w_nL, ↓w_ca, ↓w_ca0, ↓w_gS, ↓w_gK, ↓w_dv, ↓w_tw, ↓w_rz, ↓w_no, nv_lit, nv_f, nv_add, nv_mul, nv_sub, nv_le, nv_lt, nv_eq, nv_cl, Nat.reduceMod, Nat.reduceMul, Nat.reduceAdd, Nat.zero_add, Nat.add_zero, Nat.mul_zero, decide_eq_true_eq, nv_in, hF.1, X5_get_w hF, sh_C hS, X5_cl_w hF, X5_one_0, X5_one_1, X1_bit_0, X1_bit_1, ite_not, Nat.le_refl]
      all_goals rfl
    · intro f k hk2 ih
      simp (disch := omega) only [su, nv_lit, nv_f, nv_add, nv_mul, nv_sub, nv_le, nv_lt, nv_eq, nv_cl, Nat.reduceMod, Nat.reduceMul, Nat.reduceAdd, Nat.zero_add, Nat.add_zero, Nat.mul_zero, decide_eq_true_eq, nv_in] at ih
      simp (disch := omega) only [X5_claimsOf_5, X5_claimsOf_48, X5_claimsOf_47, X5_claimsOf_43, ↓w_bd, ↓w_rt, ↓w_bh, sm_l, sm_r, ↓w_okr, ↓w_nm, ↓w_ite, ↓reduceIte, not_true_eq_false, not_false_eq_true, and_true, true_and, and_self, Option.some.injEq, reduceCtorEq, eq_self, ↓w_rc, ↓w_gI, ↓w_gR, ↓w_aN, ↓w_aI, ↓w_aR, ↓w_aL, ↓w_pI, ↓w_pR, ↓w_sI, ↓w_sR, ↓w_sL, ↓w_nO, ↓w_nA, ↓w_nL, ↓w_ca, ↓w_ca0, ↓w_gS, ↓w_gK, ↓w_dv, ↓w_tw, ↓w_rz, ↓w_no, nv_lit, nv_f, nv_add, nv_mul, nv_sub, nv_le, nv_lt, nv_eq, nv_cl, Nat.reduceMod, Nat.reduceMul, Nat.reduceAdd, Nat.zero_add, Nat.add_zero, Nat.mul_zero, decide_eq_true_eq, nv_in, hF.1, X5_get_w hF, sh_C hS, X5_cl_w hF, X5_one_0, X5_one_1, X1_bit_0, X1_bit_1, ite_not, Nat.not_le.mpr hk2]
      first
        | exact ih
        | ((repeat' split) <;> simp only [↓reduceIte, not_true_eq_false, not_false_eq_true, Int32.lt_irrefl, *] at ih <;> exact ih)
        | ((repeat' split) <;> simp only [↓reduceIte, not_true_eq_false, not_false_eq_true, Int32.lt_irrefl, *] at ih ⊢ <;> exact ih)
  exact l FU 0 (by omega) (by unfold FU; omega)
theorem X5_claimsOf_w2 {G : Nat → Nat} {a : Hp} {o : Nat} {R : Nat → Int32} (hF : FO G a o R) (hS : Sh R) (t v : Int32) (hv : ¬ v = -1) (Q : Int32 → Hp → Prop) : Wp (X5_claimsOf (G 10) t v) a Q ↔ Q (cos R t v) a := by
  have h20 := sh_C20 hS
  have hv : ¬ v = - nv 1 := hv
  have l : ∀ (f k : Nat), k ≤ nC R → nC R - k < f → (Wp (X5_claimsOf_5 f (G 10) t v (su (fun c => if cs R c 0 = t then (if cs R c 4 = v then 1 else 0) else 0) k) (nv k)) a Q ↔ Q (su (fun c => if cs R c 0 = t then (if cs R c 4 = v then 1 else 0) else 0) (nC R)) a) := by
    refine loopUp _ (nC R) ?_ ?_
    · intro f
      simp (disch := omega) only [X5_claimsOf_5, X5_claimsOf_48, X5_claimsOf_47, X5_claimsOf_43, ↓w_bd, ↓w_rt, ↓w_bh, sm_l, sm_r, ↓w_okr, ↓w_nm, ↓w_ite, ↓reduceIte, not_true_eq_false, not_false_eq_true, and_true, true_and, and_self, Option.some.injEq, reduceCtorEq, eq_self, ↓w_rc, ↓w_gI, ↓w_gR, ↓w_aN, ↓w_aI, ↓w_aR, ↓w_aL, ↓w_pI, ↓w_pR, ↓w_sI, ↓w_sR, ↓w_sL, ↓w_nO, ↓w_nA, ↓w_nL, ↓w_ca, ↓w_ca0, ↓w_gS, ↓w_gK, ↓w_dv, ↓w_tw, ↓w_rz, ↓w_no, nv_lit, nv_f, nv_add, nv_mul, nv_sub, nv_le, nv_lt, nv_eq, nv_cl, Nat.reduceMod, Nat.reduceMul, Nat.reduceAdd, Nat.zero_add, Nat.add_zero, Nat.mul_zero, decide_eq_true_eq, nv_in, hF.1, X5_get_w hF, sh_C hS, X5_cl_w hF, X5_one_0, X5_one_1, X1_bit_0, X1_bit_1, ite_not, hv, Nat.le_refl]
      all_goals rfl
    · intro f k hk2 ih
      simp (disch := omega) only [su, nv_lit, nv_f, nv_add, nv_mul, nv_sub, nv_le, nv_lt, nv_eq, nv_cl, Nat.reduceMod, Nat.reduceMul, Nat.reduceAdd, Nat.zero_add, Nat.add_zero, Nat.mul_zero, decide_eq_true_eq, nv_in] at ih
      simp (disch := omega) only [X5_claimsOf_5, X5_claimsOf_48, X5_claimsOf_47, X5_claimsOf_43, ↓w_bd, ↓w_rt, ↓w_bh, sm_l, sm_r, ↓w_okr, ↓w_nm, ↓w_ite, ↓reduceIte, not_true_eq_false, not_false_eq_true, and_true, true_and, and_self, Option.some.injEq, reduceCtorEq, eq_self, ↓w_rc, ↓w_gI, ↓w_gR, ↓w_aN, ↓w_aI, ↓w_aR, ↓w_aL, ↓w_pI, ↓w_pR, ↓w_sI, ↓w_sR, ↓w_sL, ↓w_nO, ↓w_nA, ↓w_nL, ↓w_ca, ↓w_ca0, ↓w_gS, ↓w_gK, ↓w_dv, ↓w_tw, ↓w_rz, ↓w_no, nv_lit, nv_f, nv_add, nv_mul, nv_sub, nv_le, nv_lt, nv_eq, nv_cl, Nat.reduceMod, Nat.reduceMul, Nat.reduceAdd, Nat.zero_add, Nat.add_zero, Nat.mul_zero, decide_eq_true_eq, nv_in, hF.1, X5_get_w hF, sh_C hS, X5_cl_w hF, X5_one_0, X5_one_1, X1_bit_0, X1_bit_1, ite_not, hv, Nat.not_le.mpr hk2]
      first
        | exact ih
        | ((repeat' split) <;> simp only [↓reduceIte, not_true_eq_false, not_false_eq_true, Int32.lt_irrefl, *] at ih <;> exact ih)
        | ((repeat' split) <;> simp only [↓reduceIte, not_true_eq_false, not_false_eq_true, Int32.lt_irrefl, *] at ih ⊢ <;> exact ih)
  exact l FU 0 (by omega) (by unfold FU; omega)
theorem X5_factsWith_w {G : Nat → Nat} {a : Hp} {o : Nat} {R : Nat → Int32} (hF : FO G a o R) (hS : Sh R) {h : Nat} (hh : h < 10) (Q : Int32 → Hp → Prop) : Wp (X5_factsWith (G 10) (nv h)) a Q ↔ Q (fw R h) a := by
  have h10 := sh_H10 hS
  have l : ∀ (f k : Nat), k ≤ nH R → nH R - k < f → (Wp (X5_factsWith_4 f (G 10) (nv h) (su (fun k => if fc R h k = -1 then 0 else 1) k) (nv k)) a Q ↔ Q (su (fun k => if fc R h k = -1 then 0 else 1) (nH R)) a) := by
    refine loopUp _ (nH R) ?_ ?_
    · intro f
      simp (disch := omega) only [X5_factsWith_4, X5_factsWith_29, ↓w_bd, ↓w_rt, ↓w_bh, sm_l, sm_r, ↓w_okr, ↓w_nm, ↓w_ite, ↓reduceIte, not_true_eq_false, not_false_eq_true, and_true, true_and, and_self, Option.some.injEq, reduceCtorEq, eq_self, ↓w_rc, ↓w_gI, ↓w_gR, ↓w_aN, ↓w_aI, ↓w_aR, ↓w_aL, ↓w_pI, ↓w_pR, ↓w_sI, ↓w_sR, ↓w_sL, ↓w_nO, ↓w_nA, ↓w_nL, ↓w_ca, ↓w_ca0, ↓w_gS, ↓w_gK, ↓w_dv, ↓w_tw, ↓w_rz, ↓w_no, nv_lit, nv_f, nv_add, nv_mul, nv_sub, nv_le, nv_lt, nv_eq, nv_cl, Nat.reduceMod, Nat.reduceMul, Nat.reduceAdd, Nat.zero_add, Nat.add_zero, Nat.mul_zero, decide_eq_true_eq, nv_in, hF.1, X5_get_w hF, sh_H hS, X5_factOf_w hF, X5_one_0, X5_one_1, X1_bit_0, X1_bit_1, ite_not, Nat.le_refl]
      all_goals rfl
    · intro f k hk2 ih
      simp (disch := omega) only [su, nv_lit, nv_f, nv_add, nv_mul, nv_sub, nv_le, nv_lt, nv_eq, nv_cl, Nat.reduceMod, Nat.reduceMul, Nat.reduceAdd, Nat.zero_add, Nat.add_zero, Nat.mul_zero, decide_eq_true_eq, nv_in] at ih
      simp (disch := omega) only [X5_factsWith_4, X5_factsWith_29, ↓w_bd, ↓w_rt, ↓w_bh, sm_l, sm_r, ↓w_okr, ↓w_nm, ↓w_ite, ↓reduceIte, not_true_eq_false, not_false_eq_true, and_true, true_and, and_self, Option.some.injEq, reduceCtorEq, eq_self, ↓w_rc, ↓w_gI, ↓w_gR, ↓w_aN, ↓w_aI, ↓w_aR, ↓w_aL, ↓w_pI, ↓w_pR, ↓w_sI, ↓w_sR, ↓w_sL, ↓w_nO, ↓w_nA, ↓w_nL, ↓w_ca, ↓w_ca0, ↓w_gS, ↓w_gK, ↓w_dv, ↓w_tw, ↓w_rz, ↓w_no, nv_lit, nv_f, nv_add, nv_mul, nv_sub, nv_le, nv_lt, nv_eq, nv_cl, Nat.reduceMod, Nat.reduceMul, Nat.reduceAdd, Nat.zero_add, Nat.add_zero, Nat.mul_zero, decide_eq_true_eq, nv_in, hF.1, X5_get_w hF, sh_H hS, X5_factOf_w hF, X5_one_0, X5_one_1, X1_bit_0, X1_bit_1, ite_not, Nat.not_le.mpr hk2]
      first
        | exact ih
        | ((repeat' split) <;> simp only [↓reduceIte, not_true_eq_false, not_false_eq_true, Int32.lt_irrefl, *] at ih <;> exact ih)
        | ((repeat' split) <;> simp only [↓reduceIte, not_true_eq_false, not_false_eq_true, Int32.lt_irrefl, *] at ih ⊢ <;> exact ih)
  exact l FU 0 (by omega) (by unfold FU; omega)
theorem X5_allFacts_w {G : Nat → Nat} {a : Hp} {o : Nat} {R : Nat → Int32} (hF : FO G a o R) (hS : Sh R) (Q : Int32 → Hp → Prop) : Wp (X5_allFacts (G 10)) a Q ↔ Q (fa R) a := by
  have h10 := sh_H10 hS
  have i2 : ¬ nv 2 = 0 := by decide
  have l : ∀ (f k : Nat), k ≤ nH R → nH R - k < f → (Wp (X5_allFacts_4 f (G 10) (su (fun k => fw R k) k) (nv k)) a Q ↔ Q (fa R) a) := by
    refine loopUp _ (nH R) ?_ ?_
    · intro f
      simp (disch := omega) only [X5_allFacts_4, ↓w_bd, ↓w_rt, ↓w_bh, sm_l, sm_r, ↓w_okr, ↓w_nm, ↓w_ite, ↓reduceIte, not_true_eq_false, not_false_eq_true, and_true, true_and, and_self, Option.some.injEq, reduceCtorEq, eq_self, ↓w_rc, ↓w_gI, ↓w_gR, ↓w_aN, ↓w_aI, ↓w_aR, ↓w_aL, ↓w_pI, ↓w_pR, ↓w_sI, ↓w_sR, ↓w_sL, ↓w_nO, ↓w_nA, ↓w_nL, ↓w_ca, ↓w_ca0, ↓w_gS, ↓w_gK, ↓w_dv, ↓w_tw, ↓w_rz, ↓w_no, nv_lit, nv_f, nv_add, nv_mul, nv_sub, nv_le, nv_lt, nv_eq, nv_cl, Nat.reduceMod, Nat.reduceMul, Nat.reduceAdd, Nat.zero_add, Nat.add_zero, Nat.mul_zero, decide_eq_true_eq, nv_in, hF.1, X5_get_w hF, sh_H hS, X5_factsWith_w hF hS, i2, fa, Nat.le_refl]
      all_goals rfl
    · intro f k hk2 ih
      simp (disch := omega) only [su, nv_lit, nv_f, nv_add, nv_mul, nv_sub, nv_le, nv_lt, nv_eq, nv_cl, Nat.reduceMod, Nat.reduceMul, Nat.reduceAdd, Nat.zero_add, Nat.add_zero, Nat.mul_zero, decide_eq_true_eq, nv_in, fa] at ih
      simp (disch := omega) only [X5_allFacts_4, ↓w_bd, ↓w_rt, ↓w_bh, sm_l, sm_r, ↓w_okr, ↓w_nm, ↓w_ite, ↓reduceIte, not_true_eq_false, not_false_eq_true, and_true, true_and, and_self, Option.some.injEq, reduceCtorEq, eq_self, ↓w_rc, ↓w_gI, ↓w_gR, ↓w_aN, ↓w_aI, ↓w_aR, ↓w_aL, ↓w_pI, ↓w_pR, ↓w_sI, ↓w_sR, ↓w_sL, ↓w_nO, ↓w_nA, ↓w_nL, ↓w_ca, ↓w_ca0, ↓w_gS, ↓w_gK, ↓w_dv, ↓w_tw, ↓w_rz, ↓w_no, nv_lit, nv_f, nv_add, nv_mul, nv_sub, nv_le, nv_lt, nv_eq, nv_cl, Nat.reduceMod, Nat.reduceMul, Nat.reduceAdd, Nat.zero_add, Nat.add_zero, Nat.mul_zero, decide_eq_true_eq, nv_in, hF.1, X5_get_w hF, sh_H hS, X5_factsWith_w hF hS, i2, fa, Nat.not_le.mpr hk2]
      first
        | exact ih
        | ((repeat' split) <;> simp only [↓reduceIte, not_true_eq_false, not_false_eq_true, Int32.lt_irrefl, *] at ih <;> exact ih)
        | ((repeat' split) <;> simp only [↓reduceIte, not_true_eq_false, not_false_eq_true, Int32.lt_irrefl, *] at ih ⊢ <;> exact ih)
  exact l FU 0 (by omega) (by unfold FU; omega)
theorem X5_allStones_w {G : Nat → Nat} {a : Hp} {o : Nat} {R : Nat → Int32} (hF : FO G a o R) (hS : Sh R) (Q : Int32 → Hp → Prop) : Wp (X5_allStones (G 10)) a Q ↔ Q (as_ R) a := by
  have h10 := sh_H10 hS
  have l : ∀ (f k : Nat), k ≤ nH R → nH R - k < f → (Wp (X5_allStones_4 f (G 10) (su (fun k => sz R k) k) (nv k)) a Q ↔ Q (su (fun k => sz R k) (nH R)) a) := by
    refine loopUp _ (nH R) ?_ ?_
    · intro f
      simp (disch := omega) only [X5_allStones_4, ↓w_bd, ↓w_rt, ↓w_bh, sm_l, sm_r, ↓w_okr, ↓w_nm, ↓w_ite, ↓reduceIte, not_true_eq_false, not_false_eq_true, and_true, true_and, and_self, Option.some.injEq, reduceCtorEq, eq_self, ↓w_rc, ↓w_gI, ↓w_gR, ↓w_aN, ↓w_aI, ↓w_aR, ↓w_aL, ↓w_pI, ↓w_pR, ↓w_sI, ↓w_sR, ↓w_sL, ↓w_nO, ↓w_nA, ↓w_nL, ↓w_ca, ↓w_ca0, ↓w_gS, ↓w_gK, ↓w_dv, ↓w_tw, ↓w_rz, ↓w_no, nv_lit, nv_f, nv_add, nv_mul, nv_sub, nv_le, nv_lt, nv_eq, nv_cl, Nat.reduceMod, Nat.reduceMul, Nat.reduceAdd, Nat.zero_add, Nat.add_zero, Nat.mul_zero, decide_eq_true_eq, nv_in, hF.1, X5_get_w hF, sh_H hS, X5_sizeOf_w hF hS, Nat.le_refl]
      all_goals rfl
    · intro f k hk2 ih
      simp (disch := omega) only [su, nv_lit, nv_f, nv_add, nv_mul, nv_sub, nv_le, nv_lt, nv_eq, nv_cl, Nat.reduceMod, Nat.reduceMul, Nat.reduceAdd, Nat.zero_add, Nat.add_zero, Nat.mul_zero, decide_eq_true_eq, nv_in] at ih
      simp (disch := omega) only [X5_allStones_4, ↓w_bd, ↓w_rt, ↓w_bh, sm_l, sm_r, ↓w_okr, ↓w_nm, ↓w_ite, ↓reduceIte, not_true_eq_false, not_false_eq_true, and_true, true_and, and_self, Option.some.injEq, reduceCtorEq, eq_self, ↓w_rc, ↓w_gI, ↓w_gR, ↓w_aN, ↓w_aI, ↓w_aR, ↓w_aL, ↓w_pI, ↓w_pR, ↓w_sI, ↓w_sR, ↓w_sL, ↓w_nO, ↓w_nA, ↓w_nL, ↓w_ca, ↓w_ca0, ↓w_gS, ↓w_gK, ↓w_dv, ↓w_tw, ↓w_rz, ↓w_no, nv_lit, nv_f, nv_add, nv_mul, nv_sub, nv_le, nv_lt, nv_eq, nv_cl, Nat.reduceMod, Nat.reduceMul, Nat.reduceAdd, Nat.zero_add, Nat.add_zero, Nat.mul_zero, decide_eq_true_eq, nv_in, hF.1, X5_get_w hF, sh_H hS, X5_sizeOf_w hF hS, Nat.not_le.mpr hk2]
      first
        | exact ih
        | ((repeat' split) <;> simp only [↓reduceIte, not_true_eq_false, not_false_eq_true, Int32.lt_irrefl, *] at ih <;> exact ih)
        | ((repeat' split) <;> simp only [↓reduceIte, not_true_eq_false, not_false_eq_true, Int32.lt_irrefl, *] at ih ⊢ <;> exact ih)
  exact l FU 0 (by omega) (by unfold FU; omega)
theorem X5_ownedBy_w0 {G : Nat → Nat} {a : Hp} {o : Nat} {R : Nat → Int32} (hF : FO G a o R) (hS : Sh R) (t : Int32) (Q : Int32 → Hp → Prop) : Wp (X5_ownedBy (G 10) t 0) a Q ↔ Q (ob R t) a := by
  have h10 := sh_H10 hS
  have l : ∀ (f k : Nat), k ≤ nH R → nH R - k < f → (Wp (X5_ownedBy_5 f (G 10) t (nv 0) (su (fun h => if R (15 + 7 * h) = t then 1 else 0) k) (nv k)) a Q ↔ Q (su (fun h => if R (15 + 7 * h) = t then 1 else 0) (nH R)) a) := by
    refine loopUp _ (nH R) ?_ ?_
    · intro f
      simp (disch := omega) only [X5_ownedBy_5, X5_ownedBy_45, ↓w_bd, ↓w_rt, ↓w_bh, sm_l, sm_r, ↓w_okr, ↓w_nm, ↓w_ite, ↓reduceIte, not_true_eq_false, not_false_eq_true, and_true, true_and, and_self, Option.some.injEq, reduceCtorEq, eq_self, ↓w_rc, ↓w_gI, ↓w_gR, ↓w_aN, ↓w_aI, ↓w_aR, ↓w_aL, ↓w_pI, ↓w_pR, ↓w_sI, ↓w_sR, ↓w_sL, ↓w_nO, ↓w_nA, ↓w_nL, ↓w_ca, ↓w_ca0, ↓w_gS, ↓w_gK, ↓w_dv, ↓w_tw, ↓w_rz, ↓w_no, nv_lit, nv_f, nv_add, nv_mul, nv_sub, nv_le, nv_lt, nv_eq, nv_cl, Nat.reduceMod, Nat.reduceMul, Nat.reduceAdd, Nat.zero_add, Nat.add_zero, Nat.mul_zero, decide_eq_true_eq, nv_in, hF.1, X5_get_w hF, sh_H hS, X5_hp_w hF, X5_one_0, X5_one_1, X1_bit_0, X1_bit_1, ite_not, Nat.le_refl]
      all_goals rfl
    · intro f k hk2 ih
      simp (disch := omega) only [su, nv_lit, nv_f, nv_add, nv_mul, nv_sub, nv_le, nv_lt, nv_eq, nv_cl, Nat.reduceMod, Nat.reduceMul, Nat.reduceAdd, Nat.zero_add, Nat.add_zero, Nat.mul_zero, decide_eq_true_eq, nv_in] at ih
      simp (disch := omega) only [X5_ownedBy_5, X5_ownedBy_45, ↓w_bd, ↓w_rt, ↓w_bh, sm_l, sm_r, ↓w_okr, ↓w_nm, ↓w_ite, ↓reduceIte, not_true_eq_false, not_false_eq_true, and_true, true_and, and_self, Option.some.injEq, reduceCtorEq, eq_self, ↓w_rc, ↓w_gI, ↓w_gR, ↓w_aN, ↓w_aI, ↓w_aR, ↓w_aL, ↓w_pI, ↓w_pR, ↓w_sI, ↓w_sR, ↓w_sL, ↓w_nO, ↓w_nA, ↓w_nL, ↓w_ca, ↓w_ca0, ↓w_gS, ↓w_gK, ↓w_dv, ↓w_tw, ↓w_rz, ↓w_no, nv_lit, nv_f, nv_add, nv_mul, nv_sub, nv_le, nv_lt, nv_eq, nv_cl, Nat.reduceMod, Nat.reduceMul, Nat.reduceAdd, Nat.zero_add, Nat.add_zero, Nat.mul_zero, decide_eq_true_eq, nv_in, hF.1, X5_get_w hF, sh_H hS, X5_hp_w hF, X5_one_0, X5_one_1, X1_bit_0, X1_bit_1, ite_not, Nat.not_le.mpr hk2]
      first
        | exact ih
        | ((repeat' split) <;> simp only [↓reduceIte, not_true_eq_false, not_false_eq_true, Int32.lt_irrefl, *] at ih <;> exact ih)
        | ((repeat' split) <;> simp only [↓reduceIte, not_true_eq_false, not_false_eq_true, Int32.lt_irrefl, *] at ih ⊢ <;> exact ih)
  exact l FU 0 (by omega) (by unfold FU; omega)
theorem X5_ownedBy_w1 {G : Nat → Nat} {a : Hp} {o : Nat} {R : Nat → Int32} (hF : FO G a o R) (hS : Sh R) (t : Int32) (Q : Int32 → Hp → Prop) : Wp (X5_ownedBy (G 10) t 1) a Q ↔ Q (os R t) a := by
  have h10 := sh_H10 hS
  have l : ∀ (f k : Nat), k ≤ nH R → nH R - k < f → (Wp (X5_ownedBy_5 f (G 10) t (nv 1) (su (fun h => if R (15 + 7 * h) = t then sz R h else 0) k) (nv k)) a Q ↔ Q (su (fun h => if R (15 + 7 * h) = t then sz R h else 0) (nH R)) a) := by
    refine loopUp _ (nH R) ?_ ?_
    · intro f
      simp (disch := omega) only [X5_ownedBy_5, X5_ownedBy_45, ↓w_bd, ↓w_rt, ↓w_bh, sm_l, sm_r, ↓w_okr, ↓w_nm, ↓w_ite, ↓reduceIte, not_true_eq_false, not_false_eq_true, and_true, true_and, and_self, Option.some.injEq, reduceCtorEq, eq_self, ↓w_rc, ↓w_gI, ↓w_gR, ↓w_aN, ↓w_aI, ↓w_aR, ↓w_aL, ↓w_pI, ↓w_pR, ↓w_sI, ↓w_sR, ↓w_sL, ↓w_nO, ↓w_nA, ↓w_nL, ↓w_ca, ↓w_ca0, ↓w_gS, ↓w_gK, ↓w_dv, ↓w_tw, ↓w_rz, ↓w_no, nv_lit, nv_f, nv_add, nv_mul, nv_sub, nv_le, nv_lt, nv_eq, nv_cl, Nat.reduceMod, Nat.reduceMul, Nat.reduceAdd, Nat.zero_add, Nat.add_zero, Nat.mul_zero, decide_eq_true_eq, nv_in, hF.1, X5_get_w hF, sh_H hS, X5_hp_w hF, X5_sizeOf_w hF hS, X5_one_0, X5_one_1, X1_bit_0, X1_bit_1, ite_not, Nat.le_refl]
      all_goals rfl
    · intro f k hk2 ih
      simp (disch := omega) only [su, nv_lit, nv_f, nv_add, nv_mul, nv_sub, nv_le, nv_lt, nv_eq, nv_cl, Nat.reduceMod, Nat.reduceMul, Nat.reduceAdd, Nat.zero_add, Nat.add_zero, Nat.mul_zero, decide_eq_true_eq, nv_in] at ih
      simp (disch := omega) only [X5_ownedBy_5, X5_ownedBy_45, ↓w_bd, ↓w_rt, ↓w_bh, sm_l, sm_r, ↓w_okr, ↓w_nm, ↓w_ite, ↓reduceIte, not_true_eq_false, not_false_eq_true, and_true, true_and, and_self, Option.some.injEq, reduceCtorEq, eq_self, ↓w_rc, ↓w_gI, ↓w_gR, ↓w_aN, ↓w_aI, ↓w_aR, ↓w_aL, ↓w_pI, ↓w_pR, ↓w_sI, ↓w_sR, ↓w_sL, ↓w_nO, ↓w_nA, ↓w_nL, ↓w_ca, ↓w_ca0, ↓w_gS, ↓w_gK, ↓w_dv, ↓w_tw, ↓w_rz, ↓w_no, nv_lit, nv_f, nv_add, nv_mul, nv_sub, nv_le, nv_lt, nv_eq, nv_cl, Nat.reduceMod, Nat.reduceMul, Nat.reduceAdd, Nat.zero_add, Nat.add_zero, Nat.mul_zero, decide_eq_true_eq, nv_in, hF.1, X5_get_w hF, sh_H hS, X5_hp_w hF, X5_sizeOf_w hF hS, X5_one_0, X5_one_1, X1_bit_0, X1_bit_1, ite_not, Nat.not_le.mpr hk2]
      first
        | exact ih
        | ((repeat' split) <;> simp only [↓reduceIte, not_true_eq_false, not_false_eq_true, Int32.lt_irrefl, *] at ih <;> exact ih)
        | ((repeat' split) <;> simp only [↓reduceIte, not_true_eq_false, not_false_eq_true, Int32.lt_irrefl, *] at ih ⊢ <;> exact ih)
  exact l FU 0 (by omega) (by unfold FU; omega)
theorem X5_openWith_w {G : Nat → Nat} {a : Hp} {o : Nat} {R : Nat → Int32} (hF : FO G a o R) (hS : Sh R) (h : Int32) (Q : Int32 → Hp → Prop) : Wp (X5_openWith (G 10) h) a Q ↔ Q (opw R h) a := by
  have h20 := sh_C20 hS
  have l : ∀ (f k : Nat), k ≤ nC R → nC R - k < f → (Wp (X5_openWith_4 f (G 10) h (su (fun c => if cs R c 4 = 0 then (if cs R c 1 = h then 1 else if cs R c 2 = h then 1 else 0) else 0) k) (nv k)) a Q ↔ Q (opw R h) a) := by
    refine loopUp _ (nC R) ?_ ?_
    · intro f
      simp (disch := omega) only [X5_openWith_4, ↓w_bd, ↓w_rt, ↓w_bh, sm_l, sm_r, ↓w_okr, ↓w_nm, ↓w_ite, ↓reduceIte, not_true_eq_false, not_false_eq_true, and_true, true_and, and_self, Option.some.injEq, reduceCtorEq, eq_self, ↓w_rc, ↓w_gI, ↓w_gR, ↓w_aN, ↓w_aI, ↓w_aR, ↓w_aL, ↓w_pI, ↓w_pR, ↓w_sI, ↓w_sR, ↓w_sL, ↓w_nO, ↓w_nA, ↓w_nL, ↓w_ca, ↓w_ca0, ↓w_gS, ↓w_gK, ↓w_dv, ↓w_tw, ↓w_rz, ↓w_no, nv_lit, nv_f, nv_add, nv_mul, nv_sub, nv_le, nv_lt, nv_eq, nv_cl, Nat.reduceMod, Nat.reduceMul, Nat.reduceAdd, Nat.zero_add, Nat.add_zero, Nat.mul_zero, decide_eq_true_eq, nv_in, hF.1, X5_get_w hF, sh_C hS, Nat.le_refl, opw]
    · intro f k hk2 ih
      simp (disch := omega) only [su, nv_lit, nv_f, nv_add, nv_mul, nv_sub, nv_le, nv_lt, nv_eq, nv_cl, Nat.reduceMod, Nat.reduceMul, Nat.reduceAdd, Nat.zero_add, Nat.add_zero, Nat.mul_zero, decide_eq_true_eq, nv_in] at ih
      have e0 : cs R k 1 = nv (sd R k 0) := sh_S0 hS hk2
      have e1 : cs R k 2 = nv (sd R k 1) := sh_S1 hS hk2
      by_cases c : cs R k 4 = nv 0
      · simp only [c, ↓reduceIte, e0, e1] at ih
        simp (disch := omega) only [X5_openWith_4, X5_openWith_47, X5_openWith_46, X5_openWith_42, ↓w_bd, ↓w_rt, ↓w_bh, sm_l, sm_r, ↓w_okr, ↓w_nm, ↓w_ite, ↓reduceIte, not_true_eq_false, not_false_eq_true, and_true, true_and, and_self, Option.some.injEq, reduceCtorEq, eq_self, ↓w_rc, ↓w_gI, ↓w_gR, ↓w_aN, ↓w_aI, ↓w_aR, ↓w_aL, ↓w_pI, ↓w_pR, ↓w_sI, ↓w_sR, ↓w_sL, ↓w_nO, ↓w_nA, ↓w_nL, ↓w_ca, ↓w_ca0, ↓w_gS, ↓w_gK, ↓w_dv, ↓w_tw, ↓w_rz, ↓w_no, nv_lit, nv_f, nv_add, nv_mul, nv_sub, nv_le, nv_lt, nv_eq, nv_cl, Nat.reduceMod, Nat.reduceMul, Nat.reduceAdd, Nat.zero_add, Nat.add_zero, Nat.mul_zero, decide_eq_true_eq, nv_in, hF.1, X5_get_w hF, sh_C hS, Nat.not_le.mpr hk2, X5_isOpen_1 hF (c := k) (by omega) c, X5_sideOf_w hF hS, X5_one_0, X5_one_1, X1_bit_0, X1_bit_1, ite_not]
        (repeat' split) <;> simp only [↓reduceIte, *] at ih <;> exact ih
      · simp only [c, ↓reduceIte] at ih
        simp (disch := omega) only [X5_openWith_4, X5_openWith_47, X5_openWith_46, X5_openWith_42, ↓w_bd, ↓w_rt, ↓w_bh, sm_l, sm_r, ↓w_okr, ↓w_nm, ↓w_ite, ↓reduceIte, not_true_eq_false, not_false_eq_true, and_true, true_and, and_self, Option.some.injEq, reduceCtorEq, eq_self, ↓w_rc, ↓w_gI, ↓w_gR, ↓w_aN, ↓w_aI, ↓w_aR, ↓w_aL, ↓w_pI, ↓w_pR, ↓w_sI, ↓w_sR, ↓w_sL, ↓w_nO, ↓w_nA, ↓w_nL, ↓w_ca, ↓w_ca0, ↓w_gS, ↓w_gK, ↓w_dv, ↓w_tw, ↓w_rz, ↓w_no, nv_lit, nv_f, nv_add, nv_mul, nv_sub, nv_le, nv_lt, nv_eq, nv_cl, Nat.reduceMod, Nat.reduceMul, Nat.reduceAdd, Nat.zero_add, Nat.add_zero, Nat.mul_zero, decide_eq_true_eq, nv_in, hF.1, X5_get_w hF, sh_C hS, Nat.not_le.mpr hk2, X5_isOpen_0 hF (c := k) (by omega) c, X5_sideOf_w hF hS, X5_one_0, X5_one_1, X1_bit_0, X1_bit_1, ite_not]
        exact ih
  exact l FU 0 (by omega) (by unfold FU; omega)
theorem X5_greatestRow_w {G : Nat → Nat} {a : Hp} {o : Nat} {R : Nat → Int32} (hF : FO G a o R) (hS : Sh R) {h : Nat} (hk : h < nH R) (Q : Int32 → Hp → Prop) : Wp (X5_greatestRow (G 10) (nv h)) a Q ↔ Q (gr_ R h) a := by
  have h10 := sh_H10 hS
  have h5 := sh_R5 hS hk
  have l : ∀ (f k : Nat), k ≤ nR R h → nR R h - k < f → (Wp (X5_greatestRow_4 f (G 10) (nv h) (gr (fun r => st R h r) k) (nv k)) a Q ↔ Q (gr_ R h) a) := by
    refine loopUp _ (nR R h) ?_ ?_
    · intro f
      simp (disch := omega) only [X5_greatestRow_4, ↓w_bd, ↓w_rt, ↓w_bh, sm_l, sm_r, ↓w_okr, ↓w_nm, ↓w_ite, ↓reduceIte, not_true_eq_false, not_false_eq_true, and_true, true_and, and_self, Option.some.injEq, reduceCtorEq, eq_self, ↓w_rc, ↓w_gI, ↓w_gR, ↓w_aN, ↓w_aI, ↓w_aR, ↓w_aL, ↓w_pI, ↓w_pR, ↓w_sI, ↓w_sR, ↓w_sL, ↓w_nO, ↓w_nA, ↓w_nL, ↓w_ca, ↓w_ca0, ↓w_gS, ↓w_gK, ↓w_dv, ↓w_tw, ↓w_rz, ↓w_no, nv_lit, nv_f, nv_add, nv_mul, nv_sub, nv_le, nv_lt, nv_eq, nv_cl, Nat.reduceMod, Nat.reduceMul, Nat.reduceAdd, Nat.zero_add, Nat.add_zero, Nat.mul_zero, decide_eq_true_eq, nv_in, hF.1, X5_hp_w hF, sh_R hS, Nat.le_refl, gr_]
    · intro f k hk2 ih
      simp (disch := omega) only [X5_greatestRow_4, ↓w_bd, ↓w_rt, ↓w_bh, sm_l, sm_r, ↓w_okr, ↓w_nm, ↓w_ite, ↓reduceIte, not_true_eq_false, not_false_eq_true, and_true, true_and, and_self, Option.some.injEq, reduceCtorEq, eq_self, ↓w_rc, ↓w_gI, ↓w_gR, ↓w_aN, ↓w_aI, ↓w_aR, ↓w_aL, ↓w_pI, ↓w_pR, ↓w_sI, ↓w_sR, ↓w_sL, ↓w_nO, ↓w_nA, ↓w_nL, ↓w_ca, ↓w_ca0, ↓w_gS, ↓w_gK, ↓w_dv, ↓w_tw, ↓w_rz, ↓w_no, nv_lit, nv_f, nv_add, nv_mul, nv_sub, nv_le, nv_lt, nv_eq, nv_cl, Nat.reduceMod, Nat.reduceMul, Nat.reduceAdd, Nat.zero_add, Nat.add_zero, Nat.mul_zero, decide_eq_true_eq, nv_in, hF.1, X5_hp_w hF, sh_R hS, X5_stones_w hF, J12_max_w, Nat.not_le.mpr hk2, gr_s, ih]
  exact l FU 0 (by omega) (by unfold FU; omega)
theorem X5_allErrors_w {G : Nat → Nat} {a : Hp} {o : Nat} {R : Nat → Int32} (hF : FO G a o R) (hS : Sh R) (Q : Int32 → Hp → Prop) : Wp (X5_allErrors (G 10)) a Q ↔ Q (er R (R 2)) a := by
  have h10 := sh_H10 hS
  have hm : ∀ (k4 : Nat → Int32 → Int32 → Mr Int32) (v : Int32) (m : Nat), m < nH R → (Wp (X5_allErrors_15 k4 FU (G 10) v (nv m) (nv 0)) a Q ↔ Wp (k4 (G 10) (v + su (fun b => if ws R m b = we R (R 2) m b then 0 else 1) m) (nv (m + 1))) a Q) := by
    intro k4 v m hm
    have l : ∀ (f k : Nat), k ≤ m → m - k < f → (Wp (X5_allErrors_15 k4 f (G 10) (v + su (fun b => if ws R m b = we R (R 2) m b then 0 else 1) k) (nv m) (nv k)) a Q ↔ Wp (k4 (G 10) (v + su (fun b => if ws R m b = we R (R 2) m b then 0 else 1) m) (nv (m + 1))) a Q) := by
      refine loopUp _ (m) ?_ ?_
      · intro f
        simp (disch := omega) only [X5_allErrors_15, X5_allErrors_41, ↓w_bd, ↓w_rt, ↓w_bh, sm_l, sm_r, ↓w_okr, ↓w_nm, ↓w_ite, ↓reduceIte, not_true_eq_false, not_false_eq_true, and_true, true_and, and_self, Option.some.injEq, reduceCtorEq, eq_self, ↓w_rc, ↓w_gI, ↓w_gR, ↓w_aN, ↓w_aI, ↓w_aR, ↓w_aL, ↓w_pI, ↓w_pR, ↓w_sI, ↓w_sR, ↓w_sL, ↓w_nO, ↓w_nA, ↓w_nL, ↓w_ca, ↓w_ca0, ↓w_gS, ↓w_gK, ↓w_dv, ↓w_tw, ↓w_rz, ↓w_no, nv_lit, nv_f, nv_add, nv_mul, nv_sub, nv_le, nv_lt, nv_eq, nv_cl, Nat.reduceMod, Nat.reduceMul, Nat.reduceAdd, Nat.zero_add, Nat.add_zero, Nat.mul_zero, decide_eq_true_eq, nv_in, hF.1, X5_wordBySize_w hF hS, X5_wordByEye_w hF hS, X5_one_0, X5_one_1, X1_bit_0, X1_bit_1, ite_not, Int32.add_assoc, Nat.le_refl]
        all_goals rfl
      · intro f k hk2 ih
        simp (disch := omega) only [su, nv_lit, nv_f, nv_add, nv_mul, nv_sub, nv_le, nv_lt, nv_eq, nv_cl, Nat.reduceMod, Nat.reduceMul, Nat.reduceAdd, Nat.zero_add, Nat.add_zero, Nat.mul_zero, decide_eq_true_eq, nv_in, Int32.add_assoc] at ih
        simp (disch := omega) only [X5_allErrors_15, X5_allErrors_41, ↓w_bd, ↓w_rt, ↓w_bh, sm_l, sm_r, ↓w_okr, ↓w_nm, ↓w_ite, ↓reduceIte, not_true_eq_false, not_false_eq_true, and_true, true_and, and_self, Option.some.injEq, reduceCtorEq, eq_self, ↓w_rc, ↓w_gI, ↓w_gR, ↓w_aN, ↓w_aI, ↓w_aR, ↓w_aL, ↓w_pI, ↓w_pR, ↓w_sI, ↓w_sR, ↓w_sL, ↓w_nO, ↓w_nA, ↓w_nL, ↓w_ca, ↓w_ca0, ↓w_gS, ↓w_gK, ↓w_dv, ↓w_tw, ↓w_rz, ↓w_no, nv_lit, nv_f, nv_add, nv_mul, nv_sub, nv_le, nv_lt, nv_eq, nv_cl, Nat.reduceMod, Nat.reduceMul, Nat.reduceAdd, Nat.zero_add, Nat.add_zero, Nat.mul_zero, decide_eq_true_eq, nv_in, hF.1, X5_wordBySize_w hF hS, X5_wordByEye_w hF hS, X5_one_0, X5_one_1, X1_bit_0, X1_bit_1, ite_not, Int32.add_assoc, Nat.not_le.mpr hk2]
        first
          | exact ih
          | ((repeat' split) <;> simp only [↓reduceIte, not_true_eq_false, not_false_eq_true, Int32.lt_irrefl, *] at ih <;> exact ih)
          | ((repeat' split) <;> simp only [↓reduceIte, not_true_eq_false, not_false_eq_true, Int32.lt_irrefl, *] at ih ⊢ <;> exact ih)
    have := l FU 0 (by omega) (by unfold FU; omega)
    rw [su_0, Int32.add_zero] at this
    exact this
  have l : ∀ (f k : Nat), k ≤ nH R → nH R - k < f → (Wp (X5_allErrors_4 f (G 10) (su (fun m => su (fun b => if ws R m b = we R (R 2) m b then 0 else 1) m) k) (nv k)) a Q ↔ Q (su (fun m => su (fun b => if ws R m b = we R (R 2) m b then 0 else 1) m) (nH R)) a) := by
    refine loopUp _ (nH R) ?_ ?_
    · intro f
      simp (disch := omega) only [X5_allErrors_4, ↓w_bd, ↓w_rt, ↓w_bh, sm_l, sm_r, ↓w_okr, ↓w_nm, ↓w_ite, ↓reduceIte, not_true_eq_false, not_false_eq_true, and_true, true_and, and_self, Option.some.injEq, reduceCtorEq, eq_self, ↓w_rc, ↓w_gI, ↓w_gR, ↓w_aN, ↓w_aI, ↓w_aR, ↓w_aL, ↓w_pI, ↓w_pR, ↓w_sI, ↓w_sR, ↓w_sL, ↓w_nO, ↓w_nA, ↓w_nL, ↓w_ca, ↓w_ca0, ↓w_gS, ↓w_gK, ↓w_dv, ↓w_tw, ↓w_rz, ↓w_no, nv_lit, nv_f, nv_add, nv_mul, nv_sub, nv_le, nv_lt, nv_eq, nv_cl, Nat.reduceMod, Nat.reduceMul, Nat.reduceAdd, Nat.zero_add, Nat.add_zero, Nat.mul_zero, decide_eq_true_eq, nv_in, hF.1, X5_get_w hF, sh_H hS, hm, Nat.le_refl]
      all_goals rfl
    · intro f k hk2 ih
      simp (disch := omega) only [su, nv_lit, nv_f, nv_add, nv_mul, nv_sub, nv_le, nv_lt, nv_eq, nv_cl, Nat.reduceMod, Nat.reduceMul, Nat.reduceAdd, Nat.zero_add, Nat.add_zero, Nat.mul_zero, decide_eq_true_eq, nv_in] at ih
      simp (disch := omega) only [X5_allErrors_4, ↓w_bd, ↓w_rt, ↓w_bh, sm_l, sm_r, ↓w_okr, ↓w_nm, ↓w_ite, ↓reduceIte, not_true_eq_false, not_false_eq_true, and_true, true_and, and_self, Option.some.injEq, reduceCtorEq, eq_self, ↓w_rc, ↓w_gI, ↓w_gR, ↓w_aN, ↓w_aI, ↓w_aR, ↓w_aL, ↓w_pI, ↓w_pR, ↓w_sI, ↓w_sR, ↓w_sL, ↓w_nO, ↓w_nA, ↓w_nL, ↓w_ca, ↓w_ca0, ↓w_gS, ↓w_gK, ↓w_dv, ↓w_tw, ↓w_rz, ↓w_no, nv_lit, nv_f, nv_add, nv_mul, nv_sub, nv_le, nv_lt, nv_eq, nv_cl, Nat.reduceMod, Nat.reduceMul, Nat.reduceAdd, Nat.zero_add, Nat.add_zero, Nat.mul_zero, decide_eq_true_eq, nv_in, hF.1, X5_get_w hF, sh_H hS, hm, Nat.not_le.mpr hk2]
      first
        | exact ih
        | ((repeat' split) <;> simp only [↓reduceIte, not_true_eq_false, not_false_eq_true, Int32.lt_irrefl, *] at ih <;> exact ih)
        | ((repeat' split) <;> simp only [↓reduceIte, not_true_eq_false, not_false_eq_true, Int32.lt_irrefl, *] at ih ⊢ <;> exact ih)
  exact l FU 0 (by omega) (by unfold FU; omega)
theorem X5_overPaired_w {G : Nat → Nat} {a : Hp} {o : Nat} {R : Nat → Int32} (hF : FO G a o R) (hS : Sh R) {c : Nat} (hc : c < nC R) (Q : Int32 → Hp → Prop) : Wp (X5_overPaired (G 10) (nv c)) a Q ↔ Q (op R c) a := by
  have h10 := sh_H10 hS
  have h20 := sh_C20 hS
  have hm : ∀ (k4 : Nat → Int32 → Int32 → Int32 → Mr Int32) (v : Int32) (m : Nat), m < 2 → (Wp (X5_overPaired_12 k4 FU (G 10) (nv c) v (nv m) (nv 0)) a Q ↔ Wp (k4 (G 10) (nv c) (v + su (fun r => if 0 ≤ li R c m r then 0 else 1) (nR R (sd R c m))) (nv (m + 1))) a Q) := by
    intro k4 v m hm
    have hh := sh_SH hS hc hm
    have h5 := sh_R5 hS hh
    have l : ∀ (f k : Nat), k ≤ nR R (sd R c m) → nR R (sd R c m) - k < f → (Wp (X5_overPaired_12 k4 f (G 10) (nv c) (v + su (fun r => if 0 ≤ li R c m r then 0 else 1) k) (nv m) (nv k)) a Q ↔ Wp (k4 (G 10) (nv c) (v + su (fun r => if 0 ≤ li R c m r then 0 else 1) (nR R (sd R c m))) (nv (m + 1))) a Q) := by
      refine loopUp _ (nR R (sd R c m)) ?_ ?_
      · intro f
        simp (disch := omega) only [X5_overPaired_12, X5_overPaired_45, ↓w_bd, ↓w_rt, ↓w_bh, sm_l, sm_r, ↓w_okr, ↓w_nm, ↓w_ite, ↓reduceIte, not_true_eq_false, not_false_eq_true, and_true, true_and, and_self, Option.some.injEq, reduceCtorEq, eq_self, ↓w_rc, ↓w_gI, ↓w_gR, ↓w_aN, ↓w_aI, ↓w_aR, ↓w_aL, ↓w_pI, ↓w_pR, ↓w_sI, ↓w_sR, ↓w_sL, ↓w_nO, ↓w_nA, ↓w_nL, ↓w_ca, ↓w_ca0, ↓w_gS, ↓w_gK, ↓w_dv, ↓w_tw, ↓w_rz, ↓w_no, nv_lit, nv_f, nv_add, nv_mul, nv_sub, nv_le, nv_lt, nv_eq, nv_cl, Nat.reduceMod, Nat.reduceMul, Nat.reduceAdd, Nat.zero_add, Nat.add_zero, Nat.mul_zero, decide_eq_true_eq, nv_in, hF.1, X5_sideOf_w hF hS, X5_hp_w hF, sh_R hS, X5_leftIn_w hF hS, X5_one_0, X5_one_1, X1_bit_0, X1_bit_1, ite_not, Int32.add_assoc, Nat.le_refl]
        all_goals rfl
      · intro f k hk2 ih
        simp (disch := omega) only [su, nv_lit, nv_f, nv_add, nv_mul, nv_sub, nv_le, nv_lt, nv_eq, nv_cl, Nat.reduceMod, Nat.reduceMul, Nat.reduceAdd, Nat.zero_add, Nat.add_zero, Nat.mul_zero, decide_eq_true_eq, nv_in, Int32.add_assoc] at ih
        simp (disch := omega) only [X5_overPaired_12, X5_overPaired_45, ↓w_bd, ↓w_rt, ↓w_bh, sm_l, sm_r, ↓w_okr, ↓w_nm, ↓w_ite, ↓reduceIte, not_true_eq_false, not_false_eq_true, and_true, true_and, and_self, Option.some.injEq, reduceCtorEq, eq_self, ↓w_rc, ↓w_gI, ↓w_gR, ↓w_aN, ↓w_aI, ↓w_aR, ↓w_aL, ↓w_pI, ↓w_pR, ↓w_sI, ↓w_sR, ↓w_sL, ↓w_nO, ↓w_nA, ↓w_nL, ↓w_ca, ↓w_ca0, ↓w_gS, ↓w_gK, ↓w_dv, ↓w_tw, ↓w_rz, ↓w_no, nv_lit, nv_f, nv_add, nv_mul, nv_sub, nv_le, nv_lt, nv_eq, nv_cl, Nat.reduceMod, Nat.reduceMul, Nat.reduceAdd, Nat.zero_add, Nat.add_zero, Nat.mul_zero, decide_eq_true_eq, nv_in, hF.1, X5_sideOf_w hF hS, X5_hp_w hF, sh_R hS, X5_leftIn_w hF hS, X5_one_0, X5_one_1, X1_bit_0, X1_bit_1, ite_not, Int32.add_assoc, Nat.not_le.mpr hk2]
        first
          | exact ih
          | ((repeat' split) <;> simp only [↓reduceIte, not_true_eq_false, not_false_eq_true, Int32.lt_irrefl, *] at ih <;> exact ih)
          | ((repeat' split) <;> simp only [↓reduceIte, not_true_eq_false, not_false_eq_true, Int32.lt_irrefl, *] at ih ⊢ <;> exact ih)
    have := l FU 0 (by omega) (by unfold FU; omega)
    rw [su_0, Int32.add_zero] at this
    exact this
  have l : ∀ (f k : Nat), k ≤ 2 → 2 - k < f → (Wp (X5_overPaired_4 f (G 10) (nv c) (su (fun m => su (fun r => if 0 ≤ li R c m r then 0 else 1) (nR R (sd R c m))) k) (nv k)) a Q ↔ Q (su (fun m => su (fun r => if 0 ≤ li R c m r then 0 else 1) (nR R (sd R c m))) (2)) a) := by
    refine loopUp _ (2) ?_ ?_
    · intro f
      simp (disch := omega) only [X5_overPaired_4, ↓w_bd, ↓w_rt, ↓w_bh, sm_l, sm_r, ↓w_okr, ↓w_nm, ↓w_ite, ↓reduceIte, not_true_eq_false, not_false_eq_true, and_true, true_and, and_self, Option.some.injEq, reduceCtorEq, eq_self, ↓w_rc, ↓w_gI, ↓w_gR, ↓w_aN, ↓w_aI, ↓w_aR, ↓w_aL, ↓w_pI, ↓w_pR, ↓w_sI, ↓w_sR, ↓w_sL, ↓w_nO, ↓w_nA, ↓w_nL, ↓w_ca, ↓w_ca0, ↓w_gS, ↓w_gK, ↓w_dv, ↓w_tw, ↓w_rz, ↓w_no, nv_lit, nv_f, nv_add, nv_mul, nv_sub, nv_le, nv_lt, nv_eq, nv_cl, Nat.reduceMod, Nat.reduceMul, Nat.reduceAdd, Nat.zero_add, Nat.add_zero, Nat.mul_zero, decide_eq_true_eq, nv_in, hF.1, hm, Nat.le_refl]
      all_goals rfl
    · intro f k hk2 ih
      simp (disch := omega) only [su, nv_lit, nv_f, nv_add, nv_mul, nv_sub, nv_le, nv_lt, nv_eq, nv_cl, Nat.reduceMod, Nat.reduceMul, Nat.reduceAdd, Nat.zero_add, Nat.add_zero, Nat.mul_zero, decide_eq_true_eq, nv_in] at ih
      simp (disch := omega) only [X5_overPaired_4, ↓w_bd, ↓w_rt, ↓w_bh, sm_l, sm_r, ↓w_okr, ↓w_nm, ↓w_ite, ↓reduceIte, not_true_eq_false, not_false_eq_true, and_true, true_and, and_self, Option.some.injEq, reduceCtorEq, eq_self, ↓w_rc, ↓w_gI, ↓w_gR, ↓w_aN, ↓w_aI, ↓w_aR, ↓w_aL, ↓w_pI, ↓w_pR, ↓w_sI, ↓w_sR, ↓w_sL, ↓w_nO, ↓w_nA, ↓w_nL, ↓w_ca, ↓w_ca0, ↓w_gS, ↓w_gK, ↓w_dv, ↓w_tw, ↓w_rz, ↓w_no, nv_lit, nv_f, nv_add, nv_mul, nv_sub, nv_le, nv_lt, nv_eq, nv_cl, Nat.reduceMod, Nat.reduceMul, Nat.reduceAdd, Nat.zero_add, Nat.add_zero, Nat.mul_zero, decide_eq_true_eq, nv_in, hF.1, hm, Nat.not_le.mpr hk2]
      first
        | exact ih
        | ((repeat' split) <;> simp only [↓reduceIte, not_true_eq_false, not_false_eq_true, Int32.lt_irrefl, *] at ih <;> exact ih)
        | ((repeat' split) <;> simp only [↓reduceIte, not_true_eq_false, not_false_eq_true, Int32.lt_irrefl, *] at ih ⊢ <;> exact ih)
  exact l FU 0 (by omega) (by unfold FU; omega)
theorem X5_isEnded_1 {G : Nat → Nat} {a : Hp} {o : Nat} {R : Nat → Int32} (hF : FO G a o R) (hS : Sh R) {c : Nat} (hc : c < nC R) (he : en R c) (Q : Int32 → Hp → Prop) : Wp (X5_isEnded (G 10) (nv c)) a Q ↔ Q (nv 1) a := by
  rcases he with he | he
  · have he : lf R c 0 = nv 0 := he
    simp (disch := omega) only [X5_isEnded, X5_isEnded_23, X5_isEnded_18, ↓w_bd, ↓w_rt, ↓w_bh, sm_l, sm_r, ↓w_okr, ↓w_nm, ↓w_ite, ↓reduceIte, not_true_eq_false, not_false_eq_true, and_true, true_and, and_self, Option.some.injEq, reduceCtorEq, eq_self, ↓w_rc, ↓w_gI, ↓w_gR, ↓w_aN, ↓w_aI, ↓w_aR, ↓w_aL, ↓w_pI, ↓w_pR, ↓w_sI, ↓w_sR, ↓w_sL, ↓w_nO, ↓w_nA, ↓w_nL, ↓w_ca, ↓w_ca0, ↓w_gS, ↓w_gK, ↓w_dv, ↓w_tw, ↓w_rz, ↓w_no, nv_lit, nv_f, nv_add, nv_mul, nv_sub, nv_le, nv_lt, nv_eq, nv_cl, Nat.reduceMod, Nat.reduceMul, Nat.reduceAdd, Nat.zero_add, Nat.add_zero, Nat.mul_zero, decide_eq_true_eq, nv_in, hF.1, X5_leftOf_w hF hS, show nrk 2 (nv 1) = true by decide, he]
  · have he : lf R c 1 = nv 0 := he
    by_cases h0 : lf R c 0 = nv 0
    · simp (disch := omega) only [X5_isEnded, X5_isEnded_23, X5_isEnded_18, ↓w_bd, ↓w_rt, ↓w_bh, sm_l, sm_r, ↓w_okr, ↓w_nm, ↓w_ite, ↓reduceIte, not_true_eq_false, not_false_eq_true, and_true, true_and, and_self, Option.some.injEq, reduceCtorEq, eq_self, ↓w_rc, ↓w_gI, ↓w_gR, ↓w_aN, ↓w_aI, ↓w_aR, ↓w_aL, ↓w_pI, ↓w_pR, ↓w_sI, ↓w_sR, ↓w_sL, ↓w_nO, ↓w_nA, ↓w_nL, ↓w_ca, ↓w_ca0, ↓w_gS, ↓w_gK, ↓w_dv, ↓w_tw, ↓w_rz, ↓w_no, nv_lit, nv_f, nv_add, nv_mul, nv_sub, nv_le, nv_lt, nv_eq, nv_cl, Nat.reduceMod, Nat.reduceMul, Nat.reduceAdd, Nat.zero_add, Nat.add_zero, Nat.mul_zero, decide_eq_true_eq, nv_in, hF.1, X5_leftOf_w hF hS, show nrk 2 (nv 1) = true by decide, h0]
    · simp (disch := omega) only [X5_isEnded, X5_isEnded_23, X5_isEnded_18, ↓w_bd, ↓w_rt, ↓w_bh, sm_l, sm_r, ↓w_okr, ↓w_nm, ↓w_ite, ↓reduceIte, not_true_eq_false, not_false_eq_true, and_true, true_and, and_self, Option.some.injEq, reduceCtorEq, eq_self, ↓w_rc, ↓w_gI, ↓w_gR, ↓w_aN, ↓w_aI, ↓w_aR, ↓w_aL, ↓w_pI, ↓w_pR, ↓w_sI, ↓w_sR, ↓w_sL, ↓w_nO, ↓w_nA, ↓w_nL, ↓w_ca, ↓w_ca0, ↓w_gS, ↓w_gK, ↓w_dv, ↓w_tw, ↓w_rz, ↓w_no, nv_lit, nv_f, nv_add, nv_mul, nv_sub, nv_le, nv_lt, nv_eq, nv_cl, Nat.reduceMod, Nat.reduceMul, Nat.reduceAdd, Nat.zero_add, Nat.add_zero, Nat.mul_zero, decide_eq_true_eq, nv_in, hF.1, X5_leftOf_w hF hS, show nrk 2 (nv 1) = true by decide, he, h0]
theorem X5_isEnded_0 {G : Nat → Nat} {a : Hp} {o : Nat} {R : Nat → Int32} (hF : FO G a o R) (hS : Sh R) {c : Nat} (hc : c < nC R) (he : ¬ en R c) (Q : Int32 → Hp → Prop) : Wp (X5_isEnded (G 10) (nv c)) a Q ↔ Q (nv 0) a := by
  have h0 : ¬ lf R c 0 = nv 0 := fun h => he (.inl h)
  have h1 : ¬ lf R c 1 = nv 0 := fun h => he (.inr h)
  simp (disch := omega) only [X5_isEnded, X5_isEnded_23, X5_isEnded_18, ↓w_bd, ↓w_rt, ↓w_bh, sm_l, sm_r, ↓w_okr, ↓w_nm, ↓w_ite, ↓reduceIte, not_true_eq_false, not_false_eq_true, and_true, true_and, and_self, Option.some.injEq, reduceCtorEq, eq_self, ↓w_rc, ↓w_gI, ↓w_gR, ↓w_aN, ↓w_aI, ↓w_aR, ↓w_aL, ↓w_pI, ↓w_pR, ↓w_sI, ↓w_sR, ↓w_sL, ↓w_nO, ↓w_nA, ↓w_nL, ↓w_ca, ↓w_ca0, ↓w_gS, ↓w_gK, ↓w_dv, ↓w_tw, ↓w_rz, ↓w_no, nv_lit, nv_f, nv_add, nv_mul, nv_sub, nv_le, nv_lt, nv_eq, nv_cl, Nat.reduceMod, Nat.reduceMul, Nat.reduceAdd, Nat.zero_add, Nat.add_zero, Nat.mul_zero, decide_eq_true_eq, nv_in, hF.1, X5_leftOf_w hF hS, show nrk 2 (nv 0) = true by decide, h0, h1]
theorem X5_isHeap_w {G : Nat → Nat} {a : Hp} {o : Nat} {R : Nat → Int32} (hF : FO G a o R) (hS : Sh R) (v : Int32) (Q : Int32 → Hp → Prop) : Wp (X5_isHeap (G 10) v) a Q ↔ Q (if 0 ≤ v.toInt ∧ v.toInt < nH R then 1 else 0) a := by
  have h10 := sh_H10 hS
  rw [← bw_nv (by omega)]
  simp (disch := omega) only [X5_isHeap, ↓w_bd, ↓w_rt, ↓w_bh, sm_l, sm_r, ↓w_okr, ↓w_nm, ↓w_ite, ↓reduceIte, not_true_eq_false, not_false_eq_true, and_true, true_and, and_self, Option.some.injEq, reduceCtorEq, eq_self, ↓w_rc, ↓w_gI, ↓w_gR, ↓w_aN, ↓w_aI, ↓w_aR, ↓w_aL, ↓w_pI, ↓w_pR, ↓w_sI, ↓w_sR, ↓w_sL, ↓w_nO, ↓w_nA, ↓w_nL, ↓w_ca, ↓w_ca0, ↓w_gS, ↓w_gK, ↓w_dv, ↓w_tw, ↓w_rz, ↓w_no, nv_lit, nv_f, nv_add, nv_mul, nv_sub, nv_le, nv_lt, nv_eq, nv_cl, Nat.reduceMod, Nat.reduceMul, Nat.reduceAdd, Nat.zero_add, Nat.add_zero, Nat.mul_zero, decide_eq_true_eq, nv_in, hF.1, X5_get_w hF, sh_H hS, X5_in_w, bw_rz]
theorem X5_isTrader_w {G : Nat → Nat} {a : Hp} {o : Nat} {R : Nat → Int32} (hF : FO G a o R) (hS : Sh R) (v : Int32) (Q : Int32 → Hp → Prop) : Wp (X5_isTrader (G 10) v) a Q ↔ Q (if 0 ≤ v.toInt ∧ v.toInt < nT R then 1 else 0) a := by
  have h10 := sh_T4 hS
  rw [← bw_nv (by omega)]
  simp (disch := omega) only [X5_isTrader, ↓w_bd, ↓w_rt, ↓w_bh, sm_l, sm_r, ↓w_okr, ↓w_nm, ↓w_ite, ↓reduceIte, not_true_eq_false, not_false_eq_true, and_true, true_and, and_self, Option.some.injEq, reduceCtorEq, eq_self, ↓w_rc, ↓w_gI, ↓w_gR, ↓w_aN, ↓w_aI, ↓w_aR, ↓w_aL, ↓w_pI, ↓w_pR, ↓w_sI, ↓w_sR, ↓w_sL, ↓w_nO, ↓w_nA, ↓w_nL, ↓w_ca, ↓w_ca0, ↓w_gS, ↓w_gK, ↓w_dv, ↓w_tw, ↓w_rz, ↓w_no, nv_lit, nv_f, nv_add, nv_mul, nv_sub, nv_le, nv_lt, nv_eq, nv_cl, Nat.reduceMod, Nat.reduceMul, Nat.reduceAdd, Nat.zero_add, Nat.add_zero, Nat.mul_zero, decide_eq_true_eq, nv_in, hF.1, X5_get_w hF, sh_T hS, X5_in_w, bw_rz]
theorem X5_isClaim_w {G : Nat → Nat} {a : Hp} {o : Nat} {R : Nat → Int32} (hF : FO G a o R) (hS : Sh R) (v : Int32) (Q : Int32 → Hp → Prop) : Wp (X5_isClaim (G 10) v) a Q ↔ Q (if 0 ≤ v.toInt ∧ v.toInt < nC R then 1 else 0) a := by
  have h10 := sh_C20 hS
  rw [← bw_nv (by omega)]
  simp (disch := omega) only [X5_isClaim, ↓w_bd, ↓w_rt, ↓w_bh, sm_l, sm_r, ↓w_okr, ↓w_nm, ↓w_ite, ↓reduceIte, not_true_eq_false, not_false_eq_true, and_true, true_and, and_self, Option.some.injEq, reduceCtorEq, eq_self, ↓w_rc, ↓w_gI, ↓w_gR, ↓w_aN, ↓w_aI, ↓w_aR, ↓w_aL, ↓w_pI, ↓w_pR, ↓w_sI, ↓w_sR, ↓w_sL, ↓w_nO, ↓w_nA, ↓w_nL, ↓w_ca, ↓w_ca0, ↓w_gS, ↓w_gK, ↓w_dv, ↓w_tw, ↓w_rz, ↓w_no, nv_lit, nv_f, nv_add, nv_mul, nv_sub, nv_le, nv_lt, nv_eq, nv_cl, Nat.reduceMod, Nat.reduceMul, Nat.reduceAdd, Nat.zero_add, Nat.add_zero, Nat.mul_zero, decide_eq_true_eq, nv_in, hF.1, X5_get_w hF, sh_C hS, X5_in_w, bw_rz]
theorem X5_isRow_w {G : Nat → Nat} {a : Hp} {o : Nat} {R : Nat → Int32} (hF : FO G a o R) (hS : Sh R) (v r : Int32) (Q : Int32 → Hp → Prop) : Wp (X5_isRow (G 10) v r) a Q ↔ Q (if (0 ≤ v.toInt ∧ v.toInt < nH R) ∧ 0 ≤ r.toInt ∧ r.toInt < nR R v.toInt.toNat then 1 else 0) a := by
  have h10 := sh_H10 hS
  by_cases h : 0 ≤ v.toInt ∧ v.toInt < nH R
  · have hk : v.toInt.toNat < nH R := by omega
    have h5 := sh_R5 hS hk
    have h1 := sh_R1 hS hk
    have e := nv_of h.1
    have h2 := bw_nv1 (v := r) (n := nR R v.toInt.toNat) (by omega) h1
    generalize v.toInt.toNat = k at *
    rw [e] at h ⊢
    by_cases g : 0 ≤ r.toInt ∧ r.toInt < nR R k
    · rw [if_pos g] at h2
      simp (disch := omega) only [X5_isRow, X5_isRow_29, X5_isRow_28, ↓w_bd, ↓w_rt, ↓w_bh, sm_l, sm_r, ↓w_okr, ↓w_nm, ↓w_ite, ↓reduceIte, not_true_eq_false, not_false_eq_true, and_true, true_and, and_self, Option.some.injEq, reduceCtorEq, eq_self, ↓w_rc, ↓w_gI, ↓w_gR, ↓w_aN, ↓w_aI, ↓w_aR, ↓w_aL, ↓w_pI, ↓w_pR, ↓w_sI, ↓w_sR, ↓w_sL, ↓w_nO, ↓w_nA, ↓w_nL, ↓w_ca, ↓w_ca0, ↓w_gS, ↓w_gK, ↓w_dv, ↓w_tw, ↓w_rz, ↓w_no, nv_lit, nv_f, nv_add, nv_mul, nv_sub, nv_le, nv_lt, nv_eq, nv_cl, Nat.reduceMod, Nat.reduceMul, Nat.reduceAdd, Nat.zero_add, Nat.add_zero, Nat.mul_zero, decide_eq_true_eq, nv_in, hF.1, X5_isHeap_w hF hS, h, X5_hp_w hF, sh_R hS, X5_in_w, h2, g, show nrk 2 (nv 1) = true by decide]
    · rw [if_neg g] at h2
      simp (disch := omega) only [X5_isRow, X5_isRow_29, X5_isRow_28, ↓w_bd, ↓w_rt, ↓w_bh, sm_l, sm_r, ↓w_okr, ↓w_nm, ↓w_ite, ↓reduceIte, not_true_eq_false, not_false_eq_true, and_true, true_and, and_self, Option.some.injEq, reduceCtorEq, eq_self, ↓w_rc, ↓w_gI, ↓w_gR, ↓w_aN, ↓w_aI, ↓w_aR, ↓w_aL, ↓w_pI, ↓w_pR, ↓w_sI, ↓w_sR, ↓w_sL, ↓w_nO, ↓w_nA, ↓w_nL, ↓w_ca, ↓w_ca0, ↓w_gS, ↓w_gK, ↓w_dv, ↓w_tw, ↓w_rz, ↓w_no, nv_lit, nv_f, nv_add, nv_mul, nv_sub, nv_le, nv_lt, nv_eq, nv_cl, Nat.reduceMod, Nat.reduceMul, Nat.reduceAdd, Nat.zero_add, Nat.add_zero, Nat.mul_zero, decide_eq_true_eq, nv_in, hF.1, X5_isHeap_w hF hS, h, X5_hp_w hF, sh_R hS, X5_in_w, h2, g, show nrk 2 (nv 0) = true by decide]
  · simp (disch := omega) only [X5_isRow, X5_isRow_29, X5_isRow_28, ↓w_bd, ↓w_rt, ↓w_bh, sm_l, sm_r, ↓w_okr, ↓w_nm, ↓w_ite, ↓reduceIte, not_true_eq_false, not_false_eq_true, and_true, true_and, and_self, Option.some.injEq, reduceCtorEq, eq_self, ↓w_rc, ↓w_gI, ↓w_gR, ↓w_aN, ↓w_aI, ↓w_aR, ↓w_aL, ↓w_pI, ↓w_pR, ↓w_sI, ↓w_sR, ↓w_sL, ↓w_nO, ↓w_nA, ↓w_nL, ↓w_ca, ↓w_ca0, ↓w_gS, ↓w_gK, ↓w_dv, ↓w_tw, ↓w_rz, ↓w_no, nv_lit, nv_f, nv_add, nv_mul, nv_sub, nv_le, nv_lt, nv_eq, nv_cl, Nat.reduceMod, Nat.reduceMul, Nat.reduceAdd, Nat.zero_add, Nat.add_zero, Nat.mul_zero, decide_eq_true_eq, nv_in, hF.1, X5_isHeap_w hF hS, h, false_and, show nrk 2 (nv 0) = true by decide]
theorem X5_ranked_7_w {G : Nat → Nat} {a : Hp} {o : Nat} {R : Nat → Int32} (hF : FO G a o R) (hS : Sh R) (v : Int32) (Q : Int32 → Hp → Prop) : Wp (X5_ranked_7 FU (G 10) v 0) a Q ↔ Q (on (rkd R v)) a := by
  have h10 := sh_H10 hS
  have hm : ∀ (k4 : Nat → Int32 → Int32 → Mr Int32) (m : Nat), m < nH R → (Wp (X5_ranked_21 k4 FU (G 10) v (nv m) (nv 0) (nv 0)) a Q ↔ if rnk R m = v then Q (nv m) a else Wp (k4 (G 10) v (nv (m + 1))) a Q) := by
    intro k4 m hm
    have l : ∀ (f k : Nat), k ≤ nH R → nH R - k < f → (Wp (X5_ranked_21 k4 f (G 10) v (nv m) (su (fun b => if sz R m < sz R b then 1 else if sz R b = sz R m then (if m ≤ b then 0 else 1) else 0) k) (nv k)) a Q ↔ if su (fun b => if sz R m < sz R b then 1 else if sz R b = sz R m then (if m ≤ b then 0 else 1) else 0) (nH R) = v then Q (nv m) a else Wp (k4 (G 10) v (nv (m + 1))) a Q) := by
      refine loopUp _ (nH R) ?_ ?_
      · intro f
        simp (disch := omega) only [X5_ranked_21, X5_ranked_66, X5_ranked_70, X5_ranked_71, ↓w_bd, ↓w_rt, ↓w_bh, sm_l, sm_r, ↓w_okr, ↓w_nm, ↓w_ite, ↓reduceIte, not_true_eq_false, not_false_eq_true, and_true, true_and, and_self, Option.some.injEq, reduceCtorEq, eq_self, ↓w_rc, ↓w_gI, ↓w_gR, ↓w_aN, ↓w_aI, ↓w_aR, ↓w_aL, ↓w_pI, ↓w_pR, ↓w_sI, ↓w_sR, ↓w_sL, ↓w_nO, ↓w_nA, ↓w_nL, ↓w_ca, ↓w_ca0, ↓w_gS, ↓w_gK, ↓w_dv, ↓w_tw, ↓w_rz, ↓w_no, nv_lit, nv_f, nv_add, nv_mul, nv_sub, nv_le, nv_lt, nv_eq, nv_cl, Nat.reduceMod, Nat.reduceMul, Nat.reduceAdd, Nat.zero_add, Nat.add_zero, Nat.mul_zero, decide_eq_true_eq, nv_in, hF.1, X5_get_w hF, sh_H hS, X5_sizeOf_w hF hS, X5_one_0, X5_one_1, X1_bit_0, X1_bit_1, ite_not, Nat.le_refl]
        all_goals rfl
      · intro f k hk2 ih
        simp (disch := omega) only [su, nv_lit, nv_f, nv_add, nv_mul, nv_sub, nv_le, nv_lt, nv_eq, nv_cl, Nat.reduceMod, Nat.reduceMul, Nat.reduceAdd, Nat.zero_add, Nat.add_zero, Nat.mul_zero, decide_eq_true_eq, nv_in] at ih
        simp (disch := omega) only [X5_ranked_21, X5_ranked_66, X5_ranked_70, X5_ranked_71, ↓w_bd, ↓w_rt, ↓w_bh, sm_l, sm_r, ↓w_okr, ↓w_nm, ↓w_ite, ↓reduceIte, not_true_eq_false, not_false_eq_true, and_true, true_and, and_self, Option.some.injEq, reduceCtorEq, eq_self, ↓w_rc, ↓w_gI, ↓w_gR, ↓w_aN, ↓w_aI, ↓w_aR, ↓w_aL, ↓w_pI, ↓w_pR, ↓w_sI, ↓w_sR, ↓w_sL, ↓w_nO, ↓w_nA, ↓w_nL, ↓w_ca, ↓w_ca0, ↓w_gS, ↓w_gK, ↓w_dv, ↓w_tw, ↓w_rz, ↓w_no, nv_lit, nv_f, nv_add, nv_mul, nv_sub, nv_le, nv_lt, nv_eq, nv_cl, Nat.reduceMod, Nat.reduceMul, Nat.reduceAdd, Nat.zero_add, Nat.add_zero, Nat.mul_zero, decide_eq_true_eq, nv_in, hF.1, X5_get_w hF, sh_H hS, X5_sizeOf_w hF hS, X5_one_0, X5_one_1, X1_bit_0, X1_bit_1, ite_not, Nat.not_le.mpr hk2]
        first
          | exact ih
          | ((repeat' split) <;> simp only [↓reduceIte, not_true_eq_false, not_false_eq_true, Int32.lt_irrefl, *] at ih <;> exact ih)
          | ((repeat' split) <;> simp only [↓reduceIte, not_true_eq_false, not_false_eq_true, Int32.lt_irrefl, *] at ih ⊢ <;> exact ih)
    exact l FU 0 (by omega) (by unfold FU; omega)
  have l : ∀ (f k : Nat), k ≤ nH R → nH R - k < f → (Wp (X5_ranked_7 f (G 10) v (nv k)) a Q ↔ Q (on (ff (fun a => decide (rnk R a = v)) k (nH R - k))) a) := by
    refine loopUp _ (nH R) ?_ ?_
    · intro f
      simp (disch := omega) only [X5_ranked_7, ↓w_bd, ↓w_rt, ↓w_bh, sm_l, sm_r, ↓w_okr, ↓w_nm, ↓w_ite, ↓reduceIte, not_true_eq_false, not_false_eq_true, and_true, true_and, and_self, Option.some.injEq, reduceCtorEq, eq_self, ↓w_rc, ↓w_gI, ↓w_gR, ↓w_aN, ↓w_aI, ↓w_aR, ↓w_aL, ↓w_pI, ↓w_pR, ↓w_sI, ↓w_sR, ↓w_sL, ↓w_nO, ↓w_nA, ↓w_nL, ↓w_ca, ↓w_ca0, ↓w_gS, ↓w_gK, ↓w_dv, ↓w_tw, ↓w_rz, ↓w_no, nv_lit, nv_f, nv_add, nv_mul, nv_sub, nv_le, nv_lt, nv_eq, nv_cl, Nat.reduceMod, Nat.reduceMul, Nat.reduceAdd, Nat.zero_add, Nat.add_zero, Nat.mul_zero, decide_eq_true_eq, nv_in, hF.1, X5_get_w hF, sh_H hS, Nat.le_refl, Nat.sub_self, ff, on]
    · intro f k hk2 ih
      simp (disch := omega) only [X5_ranked_7, ↓w_bd, ↓w_rt, ↓w_bh, sm_l, sm_r, ↓w_okr, ↓w_nm, ↓w_ite, ↓reduceIte, not_true_eq_false, not_false_eq_true, and_true, true_and, and_self, Option.some.injEq, reduceCtorEq, eq_self, ↓w_rc, ↓w_gI, ↓w_gR, ↓w_aN, ↓w_aI, ↓w_aR, ↓w_aL, ↓w_pI, ↓w_pR, ↓w_sI, ↓w_sR, ↓w_sL, ↓w_nO, ↓w_nA, ↓w_nL, ↓w_ca, ↓w_ca0, ↓w_gS, ↓w_gK, ↓w_dv, ↓w_tw, ↓w_rz, ↓w_no, nv_lit, nv_f, nv_add, nv_mul, nv_sub, nv_le, nv_lt, nv_eq, nv_cl, Nat.reduceMod, Nat.reduceMul, Nat.reduceAdd, Nat.zero_add, Nat.add_zero, Nat.mul_zero, decide_eq_true_eq, nv_in, hF.1, X5_get_w hF, sh_H hS, Nat.not_le.mpr hk2, hm, ih]
      rw [show nH R - k = (nH R - (k + 1)) + 1 by omega]
      by_cases c : rnk R k = v
      · simp only [ff, c, decide_true, ↓reduceIte, on]
      · simp only [ff, c, decide_false, ↓reduceIte, Bool.false_eq_true]
  exact l FU 0 (by omega) (by unfold FU; omega)
theorem X5_rowAt_w {G : Nat → Nat} {a : Hp} {o : Nat} {R : Nat → Int32} (hF : FO G a o R) (hS : Sh R) {c s : Nat} (hc : c < nC R) (hs : s < 2) (v : Int32) (Q : Int32 → Hp → Prop) : Wp (X5_rowAt (G 10) (nv c) (nv s) v) a Q ↔ Q (ra R c s v) a := by
  have h10 := sh_H10 hS
  have h20 := sh_C20 hS
  have hh := sh_SH hS hc hs
  have h5 := sh_R5 hS hh
  have l : ∀ (j f k : Nat) (v : Int32), k + j = nR R (sd R c s) → j < f → (Wp (X5_rowAt_6 f (G 10) (nv c) (nv s) v (nv k)) a Q ↔ Q (raF (fun r => li R c s r) v k j) a) := by
    intro j
    induction j with
    | zero =>
      intro f k v h1 h2
      cases f with
      | zero => omega
      | succ f =>
        simp (disch := omega) only [X5_rowAt_6, ↓w_bd, ↓w_rt, ↓w_bh, sm_l, sm_r, ↓w_okr, ↓w_nm, ↓w_ite, ↓reduceIte, not_true_eq_false, not_false_eq_true, and_true, true_and, and_self, Option.some.injEq, reduceCtorEq, eq_self, ↓w_rc, ↓w_gI, ↓w_gR, ↓w_aN, ↓w_aI, ↓w_aR, ↓w_aL, ↓w_pI, ↓w_pR, ↓w_sI, ↓w_sR, ↓w_sL, ↓w_nO, ↓w_nA, ↓w_nL, ↓w_ca, ↓w_ca0, ↓w_gS, ↓w_gK, ↓w_dv, ↓w_tw, ↓w_rz, ↓w_no, nv_lit, nv_f, nv_add, nv_mul, nv_sub, nv_le, nv_lt, nv_eq, nv_cl, Nat.reduceMod, Nat.reduceMul, Nat.reduceAdd, Nat.zero_add, Nat.add_zero, Nat.mul_zero, decide_eq_true_eq, nv_in, hF.1, X5_sideOf_w hF hS, X5_hp_w hF, sh_R hS, show nR R (sd R c s) ≤ k by omega, raF]
    | succ j ih =>
      intro f k v h1 h2
      cases f with
      | zero => omega
      | succ f =>
        simp (disch := omega) only [X5_rowAt_6, ↓w_bd, ↓w_rt, ↓w_bh, sm_l, sm_r, ↓w_okr, ↓w_nm, ↓w_ite, ↓reduceIte, not_true_eq_false, not_false_eq_true, and_true, true_and, and_self, Option.some.injEq, reduceCtorEq, eq_self, ↓w_rc, ↓w_gI, ↓w_gR, ↓w_aN, ↓w_aI, ↓w_aR, ↓w_aL, ↓w_pI, ↓w_pR, ↓w_sI, ↓w_sR, ↓w_sL, ↓w_nO, ↓w_nA, ↓w_nL, ↓w_ca, ↓w_ca0, ↓w_gS, ↓w_gK, ↓w_dv, ↓w_tw, ↓w_rz, ↓w_no, nv_lit, nv_f, nv_add, nv_mul, nv_sub, nv_le, nv_lt, nv_eq, nv_cl, Nat.reduceMod, Nat.reduceMul, Nat.reduceAdd, Nat.zero_add, Nat.add_zero, Nat.mul_zero, decide_eq_true_eq, nv_in, hF.1, X5_sideOf_w hF hS, X5_hp_w hF, sh_R hS, show ¬ nR R (sd R c s) ≤ k by omega, X5_leftIn_w hF hS, ih, raF]
        split <;> rfl
  exact l _ FU 0 v (by omega) (by unfold FU; omega)
theorem X5_nearest_24_w {G : Nat → Nat} {a : Hp} {o : Nat} {R : Nat → Int32} (hF : FO G a o R) (hS : Sh R) {h : Nat} (hh : h < nH R) (Q : Int32 → Hp → Prop) : Wp (X5_nearest_24 FU (G 10) (nv h) (-1) 0) a Q ↔ Q (nv (nb R h (nH R))) a := by
  have h10 := sh_H10 hS
  have h2 := sh_H2 hS
  have hb : b0 h < nH R := by unfold b0; split <;> omega
  have hbh : b0 h ≠ h := by unfold b0; split <;> omega
  have hn : ∀ k, k ≤ nH R → nb R h k < nH R ∧ (k ≤ b0 h → nb R h k = b0 h) := by
    intro k
    induction k with
    | zero => intro _; exact ⟨hb, fun _ => rfl⟩
    | succ k ih =>
      intro hk
      obtain ⟨i1, i2⟩ := ih (by omega)
      rw [nb]
      split
      · exact ⟨i1, fun g => i2 (by omega)⟩
      · split
        · refine ⟨by omega, fun g => ?_⟩
          exfalso
          revert hb hbh g
          rename_i c1 c2
          unfold b0
          split <;> omega
        · exact ⟨i1, fun g => i2 (by omega)⟩
  have l : ∀ (f k : Nat), k ≤ nH R → nH R - k < f → (Wp (X5_nearest_24 f (G 10) (nv h) (if k ≤ b0 h then -1 else nv (nb R h k)) (nv k)) a Q ↔ Q (nv (nb R h (nH R))) a) := by
    refine loopUp _ (nH R) ?_ ?_
    · intro f
      rw [if_neg (by omega)]
      simp (disch := omega) only [X5_nearest_24, ↓w_bd, ↓w_rt, ↓w_bh, sm_l, sm_r, ↓w_okr, ↓w_nm, ↓w_ite, ↓reduceIte, not_true_eq_false, not_false_eq_true, and_true, true_and, and_self, Option.some.injEq, reduceCtorEq, eq_self, ↓w_rc, ↓w_gI, ↓w_gR, ↓w_aN, ↓w_aI, ↓w_aR, ↓w_aL, ↓w_pI, ↓w_pR, ↓w_sI, ↓w_sR, ↓w_sL, ↓w_nO, ↓w_nA, ↓w_nL, ↓w_ca, ↓w_ca0, ↓w_gS, ↓w_gK, ↓w_dv, ↓w_tw, ↓w_rz, ↓w_no, nv_lit, nv_f, nv_add, nv_mul, nv_sub, nv_le, nv_lt, nv_eq, nv_cl, Nat.reduceMod, Nat.reduceMul, Nat.reduceAdd, Nat.zero_add, Nat.add_zero, Nat.mul_zero, decide_eq_true_eq, nv_in, hF.1, X5_get_w hF, sh_H hS, Nat.le_refl]
    · intro f k hk2 ih
      obtain ⟨i1, i2⟩ := hn k (by omega)
      by_cases c : k = h
      · subst c
        simp (disch := omega) only [X5_nearest_24, X5_nearest_76, ↓w_bd, ↓w_rt, ↓w_bh, sm_l, sm_r, ↓w_okr, ↓w_nm, ↓w_ite, ↓reduceIte, not_true_eq_false, not_false_eq_true, and_true, true_and, and_self, Option.some.injEq, reduceCtorEq, eq_self, ↓w_rc, ↓w_gI, ↓w_gR, ↓w_aN, ↓w_aI, ↓w_aR, ↓w_aL, ↓w_pI, ↓w_pR, ↓w_sI, ↓w_sR, ↓w_sL, ↓w_nO, ↓w_nA, ↓w_nL, ↓w_ca, ↓w_ca0, ↓w_gS, ↓w_gK, ↓w_dv, ↓w_tw, ↓w_rz, ↓w_no, nv_lit, nv_f, nv_add, nv_mul, nv_sub, nv_le, nv_lt, nv_eq, nv_cl, Nat.reduceMod, Nat.reduceMul, Nat.reduceAdd, Nat.zero_add, Nat.add_zero, Nat.mul_zero, decide_eq_true_eq, nv_in, hF.1, X5_get_w hF, sh_H hS, Nat.not_le.mpr hk2]
        rw [nb, if_pos rfl] at ih
        rw [← ih]
        have : (k + 1 ≤ b0 k) = (k ≤ b0 k) := by apply propext; omega
        simp only [this]
        rfl
      · by_cases c2 : k ≤ b0 h
        · have : k = b0 h := by
            revert c c2 hb
            unfold b0
            split <;> omega
          simp (disch := omega) only [X5_nearest_24, X5_nearest_76, X5_nearest_74, ↓w_bd, ↓w_rt, ↓w_bh, sm_l, sm_r, ↓w_okr, ↓w_nm, ↓w_ite, ↓reduceIte, not_true_eq_false, not_false_eq_true, and_true, true_and, and_self, Option.some.injEq, reduceCtorEq, eq_self, ↓w_rc, ↓w_gI, ↓w_gR, ↓w_aN, ↓w_aI, ↓w_aR, ↓w_aL, ↓w_pI, ↓w_pR, ↓w_sI, ↓w_sR, ↓w_sL, ↓w_nO, ↓w_nA, ↓w_nL, ↓w_ca, ↓w_ca0, ↓w_gS, ↓w_gK, ↓w_dv, ↓w_tw, ↓w_rz, ↓w_no, nv_lit, nv_f, nv_add, nv_mul, nv_sub, nv_le, nv_lt, nv_eq, nv_cl, Nat.reduceMod, Nat.reduceMul, Nat.reduceAdd, Nat.zero_add, Nat.add_zero, Nat.mul_zero, decide_eq_true_eq, nv_in, hF.1, X5_get_w hF, sh_H hS, Nat.not_le.mpr hk2, c, c2]
          rw [← ih, if_neg (by omega), nb, if_neg c, i2 c2, this, ite_self]
        · have hne : ¬ nv (nb R h k) = -nv 1 := by
            intro e
            have := congrArg Int32.toInt e
            rw [nv_int (by omega)] at this
            have e1 : (-nv 1).toInt = -1 := by decide
            omega
          simp (disch := omega) only [X5_nearest_24, X5_nearest_76, X5_nearest_74, ↓w_bd, ↓w_rt, ↓w_bh, sm_l, sm_r, ↓w_okr, ↓w_nm, ↓w_ite, ↓reduceIte, not_true_eq_false, not_false_eq_true, and_true, true_and, and_self, Option.some.injEq, reduceCtorEq, eq_self, ↓w_rc, ↓w_gI, ↓w_gR, ↓w_aN, ↓w_aI, ↓w_aR, ↓w_aL, ↓w_pI, ↓w_pR, ↓w_sI, ↓w_sR, ↓w_sL, ↓w_nO, ↓w_nA, ↓w_nL, ↓w_ca, ↓w_ca0, ↓w_gS, ↓w_gK, ↓w_dv, ↓w_tw, ↓w_rz, ↓w_no, nv_lit, nv_f, nv_add, nv_mul, nv_sub, nv_le, nv_lt, nv_eq, nv_cl, Nat.reduceMod, Nat.reduceMul, Nat.reduceAdd, Nat.zero_add, Nat.add_zero, Nat.mul_zero, decide_eq_true_eq, nv_in, hF.1, X5_get_w hF, sh_H hS, Nat.not_le.mpr hk2, c, c2, hne, X5_sizeOf_w hF hS, J12_abs_w]
          rw [if_neg (by omega), nb, if_neg c] at ih
          unfold ap at ih
          rw [ab_sub (sz R h) (sz R k), ab_sub (sz R h)] at ih
          split
          · rename_i g
            rw [if_neg (Int32.not_lt.mpr g)] at ih
            exact ih
          · rename_i g
            rw [if_pos (Int32.not_le.mp g)] at ih
            exact ih
  have := l FU 0 (by omega) (by unfold FU; omega)
  rw [if_pos (by omega)] at this
  exact this
