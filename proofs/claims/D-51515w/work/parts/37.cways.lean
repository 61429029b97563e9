/-! THE COMPONENT BY WAYS -/
theorem X1_groupIn_w {B : Nat → Nat × Nat} {G : Nat → Nat} {a : Hp} {L : Nat → Nat} {R : Nat → Int32} (hM : Mk B a L R) (hX : FX G a L) (hS : Sh R) (hF : Fs R) {s : Nat} {D : Nat → Nat → Int32} (hD : CD R D) (hW : Wm s (nH R) a D) {x : Nat} (hx : x < nH R) (Q : Int32 → Hp → Prop) : Wp (X1_groupIn (some s) (nv x)) a Q ↔ Q (nv (gp R x)) a := by
  have h10 := sh_H10 hS
  have hr := hW.r
  obtain ⟨g1, g2, g3⟩ := gp_le R x
  have l : ∀ (f k : Nat), k ≤ gp R x → gp R x - k < f → (Wp (X1_groupIn_2 f (some s) (nv x) (nv k)) a Q ↔ Q (nv (gp R x)) a) := by
    refine loopUp _ (gp R x) ?_ ?_
    · intro f
      simp (disch := omega) only [X1_groupIn_2, ↓w_bd, ↓w_rt, ↓w_bh, sm_l, sm_r, ↓w_okr, ↓w_nm, ↓w_ite, ↓reduceIte, not_true_eq_false, not_false_eq_true, and_true, true_and, and_self, Option.some.injEq, reduceCtorEq, eq_self, ↓w_rc, ↓w_gI, ↓w_gR, ↓w_aN, ↓w_aI, ↓w_aR, ↓w_aL, ↓w_pI, ↓w_pR, ↓w_sI, ↓w_sR, ↓w_sL, ↓w_nO, ↓w_nA, ↓w_nL, ↓w_ca, ↓w_ca0, ↓w_gS, ↓w_gK, ↓w_dv, ↓w_tw, ↓w_rz, ↓w_no, nv_lit, nv_f, nv_add, nv_mul, nv_sub, nv_le, nv_lt, nv_eq, nv_cl, Nat.reduceMod, Nat.reduceMul, Nat.reduceAdd, Nat.zero_add, Nat.add_zero, Nat.mul_zero, decide_eq_true_eq, nv_inT, hr, X9_known_w hF h10 hD hW, show kn R x (gp R x) = nv 2 from g2]
    · intro f k hk2 ih
      simp (disch := omega) only [X1_groupIn_2, ↓w_bd, ↓w_rt, ↓w_bh, sm_l, sm_r, ↓w_okr, ↓w_nm, ↓w_ite, ↓reduceIte, not_true_eq_false, not_false_eq_true, and_true, true_and, and_self, Option.some.injEq, reduceCtorEq, eq_self, ↓w_rc, ↓w_gI, ↓w_gR, ↓w_aN, ↓w_aI, ↓w_aR, ↓w_aL, ↓w_pI, ↓w_pR, ↓w_sI, ↓w_sR, ↓w_sL, ↓w_nO, ↓w_nA, ↓w_nL, ↓w_ca, ↓w_ca0, ↓w_gS, ↓w_gK, ↓w_dv, ↓w_tw, ↓w_rz, ↓w_no, nv_lit, nv_f, nv_add, nv_mul, nv_sub, nv_le, nv_lt, nv_eq, nv_cl, Nat.reduceMod, Nat.reduceMul, Nat.reduceAdd, Nat.zero_add, Nat.add_zero, Nat.mul_zero, decide_eq_true_eq, nv_inT, hr, X9_known_w hF h10 hD hW, show ¬ kn R x k = nv 2 from g3 k hk2, ih]
  exact l FU 0 (by omega) (by unfold FU; omega)
theorem X1_groups_w {B : Nat → Nat × Nat} {G : Nat → Nat} {a : Hp} {L : Nat → Nat} {R : Nat → Int32} (hM : Mk B a L R) (hX : FX G a L) (hS : Sh R) (hF : Fs R) {s : Nat} {D : Nat → Nat → Int32} (hD : CD R D) (hW : Wm s (nH R) a D) (Q : Int32 → Hp → Prop) : Wp (X1_groups_12 FU (G 0) (some s) (nv 0) (nv 0)) a Q ↔ Q (gs R) a := by
  have h10 := sh_H10 hS
  have l : ∀ (f k : Nat), k ≤ nH R → nH R - k < f → (Wp (X1_groups_12 f (G 0) (some s) (su (fun h => if gp R h = h then 1 else 0) k) (nv k)) a Q ↔ Q (gs R) a) := by
    refine loopUp _ (nH R) ?_ ?_
    · intro f
      simp (disch := omega) only [X1_groups_12, ↓w_bd, ↓w_rt, ↓w_bh, sm_l, sm_r, ↓w_okr, ↓w_nm, ↓w_ite, ↓reduceIte, not_true_eq_false, not_false_eq_true, and_true, true_and, and_self, Option.some.injEq, reduceCtorEq, eq_self, ↓w_rc, ↓w_gI, ↓w_gR, ↓w_aN, ↓w_aI, ↓w_aR, ↓w_aL, ↓w_pI, ↓w_pR, ↓w_sI, ↓w_sR, ↓w_sL, ↓w_nO, ↓w_nA, ↓w_nL, ↓w_ca, ↓w_ca0, ↓w_gS, ↓w_gK, ↓w_dv, ↓w_tw, ↓w_rz, ↓w_no, nv_lit, nv_f, nv_add, nv_mul, nv_sub, nv_le, nv_lt, nv_eq, nv_cl, Nat.reduceMod, Nat.reduceMul, Nat.reduceAdd, Nat.zero_add, Nat.add_zero, Nat.mul_zero, decide_eq_true_eq, nv_inT, mk_k hM, mk_n hM, mk_r hM, mk_i hM, hX, Nat.le_refl]
      rfl
    · intro f k hk2 ih
      have hg := (gp_le R k).1
      rw [su] at ih
      by_cases c : gp R k = k
      · rw [if_pos c] at ih
        simp (disch := omega) only [X1_groups_12, X1_groups_41, ↓w_bd, ↓w_rt, ↓w_bh, sm_l, sm_r, ↓w_okr, ↓w_nm, ↓w_ite, ↓reduceIte, not_true_eq_false, not_false_eq_true, and_true, true_and, and_self, Option.some.injEq, reduceCtorEq, eq_self, ↓w_rc, ↓w_gI, ↓w_gR, ↓w_aN, ↓w_aI, ↓w_aR, ↓w_aL, ↓w_pI, ↓w_pR, ↓w_sI, ↓w_sR, ↓w_sL, ↓w_nO, ↓w_nA, ↓w_nL, ↓w_ca, ↓w_ca0, ↓w_gS, ↓w_gK, ↓w_dv, ↓w_tw, ↓w_rz, ↓w_no, nv_lit, nv_f, nv_add, nv_mul, nv_sub, nv_le, nv_lt, nv_eq, nv_cl, Nat.reduceMod, Nat.reduceMul, Nat.reduceAdd, Nat.zero_add, Nat.add_zero, Nat.mul_zero, decide_eq_true_eq, nv_inT, mk_k hM, mk_n hM, mk_r hM, mk_i hM, hX, Nat.not_le.mpr hk2, X1_groupIn_w hM hX hS hF hD hW, c, X5_one_0, X5_one_1, X1_bit_0, X1_bit_1, ite_not]
        exact ih
      · rw [if_neg c] at ih
        simp (disch := omega) only [X1_groups_12, X1_groups_41, ↓w_bd, ↓w_rt, ↓w_bh, sm_l, sm_r, ↓w_okr, ↓w_nm, ↓w_ite, ↓reduceIte, not_true_eq_false, not_false_eq_true, and_true, true_and, and_self, Option.some.injEq, reduceCtorEq, eq_self, ↓w_rc, ↓w_gI, ↓w_gR, ↓w_aN, ↓w_aI, ↓w_aR, ↓w_aL, ↓w_pI, ↓w_pR, ↓w_sI, ↓w_sR, ↓w_sL, ↓w_nO, ↓w_nA, ↓w_nL, ↓w_ca, ↓w_ca0, ↓w_gS, ↓w_gK, ↓w_dv, ↓w_tw, ↓w_rz, ↓w_no, nv_lit, nv_f, nv_add, nv_mul, nv_sub, nv_le, nv_lt, nv_eq, nv_cl, Nat.reduceMod, Nat.reduceMul, Nat.reduceAdd, Nat.zero_add, Nat.add_zero, Nat.mul_zero, decide_eq_true_eq, nv_inT, mk_k hM, mk_n hM, mk_r hM, mk_i hM, hX, Nat.not_le.mpr hk2, X1_groupIn_w hM hX hS hF hD hW, c, X5_one_0, X5_one_1, X1_bit_0, X1_bit_1, ite_not]
        exact ih
  exact l FU 0 (by omega) (by unfold FU; omega)
theorem X1_areOthers_1 {B : Nat → Nat × Nat} {G : Nat → Nat} {a : Hp} {L : Nat → Nat} {R : Nat → Int32} (hM : Mk B a L R) (hX : FX G a L) (hS : Sh R) (hF : Fs R) {s : Nat} {D : Nat → Nat → Int32} (hD : CD R D) (hW : Wm s (nH R) a D) {x y : Nat} (hx : x < nH R) (hy : y < nH R) (h : ¬ R (15 + 7 * x) = R (15 + 7 * y)) (Q : Int32 → Hp → Prop) : Wp (X1_areOthers (G 0) (nv x) (nv y)) a Q ↔ Q (nv 1) a := by
  simp (disch := omega) only [X1_areOthers, X1_areOthers_42, ↓w_bd, ↓w_rt, ↓w_bh, sm_l, sm_r, ↓w_okr, ↓w_nm, ↓w_ite, ↓reduceIte, not_true_eq_false, not_false_eq_true, and_true, true_and, and_self, Option.some.injEq, reduceCtorEq, eq_self, ↓w_rc, ↓w_gI, ↓w_gR, ↓w_aN, ↓w_aI, ↓w_aR, ↓w_aL, ↓w_pI, ↓w_pR, ↓w_sI, ↓w_sR, ↓w_sL, ↓w_nO, ↓w_nA, ↓w_nL, ↓w_ca, ↓w_ca0, ↓w_gS, ↓w_gK, ↓w_dv, ↓w_tw, ↓w_rz, ↓w_no, nv_lit, nv_f, nv_add, nv_mul, nv_sub, nv_le, nv_lt, nv_eq, nv_cl, Nat.reduceMod, Nat.reduceMul, Nat.reduceAdd, Nat.zero_add, Nat.add_zero, Nat.mul_zero, decide_eq_true_eq, nv_inT, mk_k hM, mk_n hM, mk_r hM, mk_i hM, hX, X3_at_h hM, ct_44, h, nk1]
theorem X1_areOthers_0 {B : Nat → Nat × Nat} {G : Nat → Nat} {a : Hp} {L : Nat → Nat} {R : Nat → Int32} (hM : Mk B a L R) (hX : FX G a L) (hS : Sh R) (hF : Fs R) {s : Nat} {D : Nat → Nat → Int32} (hD : CD R D) (hW : Wm s (nH R) a D) {x y : Nat} (hx : x < nH R) (hy : y < nH R) (h : R (15 + 7 * x) = R (15 + 7 * y)) (Q : Int32 → Hp → Prop) : Wp (X1_areOthers (G 0) (nv x) (nv y)) a Q ↔ Q (nv 0) a := by
  simp (disch := omega) only [X1_areOthers, X1_areOthers_42, ↓w_bd, ↓w_rt, ↓w_bh, sm_l, sm_r, ↓w_okr, ↓w_nm, ↓w_ite, ↓reduceIte, not_true_eq_false, not_false_eq_true, and_true, true_and, and_self, Option.some.injEq, reduceCtorEq, eq_self, ↓w_rc, ↓w_gI, ↓w_gR, ↓w_aN, ↓w_aI, ↓w_aR, ↓w_aL, ↓w_pI, ↓w_pR, ↓w_sI, ↓w_sR, ↓w_sL, ↓w_nO, ↓w_nA, ↓w_nL, ↓w_ca, ↓w_ca0, ↓w_gS, ↓w_gK, ↓w_dv, ↓w_tw, ↓w_rz, ↓w_no, nv_lit, nv_f, nv_add, nv_mul, nv_sub, nv_le, nv_lt, nv_eq, nv_cl, Nat.reduceMod, Nat.reduceMul, Nat.reduceAdd, Nat.zero_add, Nat.add_zero, Nat.mul_zero, decide_eq_true_eq, nv_inT, mk_k hM, mk_n hM, mk_r hM, mk_i hM, hX, X3_at_h hM, ct_44, h, nk0]
theorem X1_swappable_w {B : Nat → Nat × Nat} {G : Nat → Nat} {a : Hp} {L : Nat → Nat} {R : Nat → Int32} (hM : Mk B a L R) (hX : FX G a L) (hS : Sh R) (hF : Fs R) {s : Nat} {D : Nat → Nat → Int32} (hD : CD R D) (hW : Wm s (nH R) a D) (Q : Int32 → Hp → Prop) : Wp (X1_swappable_12 FU (G 0) (some s) (nv 0) (nv 0)) a Q ↔ Q (sp R) a := by
  have h10 := sh_H10 hS
  have hr := hW.r
  have hm : ∀ (k4 : Nat → Option Nat → Int32 → Int32 → Mr Int32) (v : Int32) (m : Nat), m < nH R → (Wp (X1_swappable_29 k4 FU (G 0) (some s) v (nv m) (nv 0)) a Q ↔ Wp (k4 (G 0) (some s) (v + su (fun b => sp1 R m b) m) (nv (m + 1))) a Q) := by
    intro k4 v m hm
    have l : ∀ (f k : Nat), k ≤ m → m - k < f → (Wp (X1_swappable_29 k4 f (G 0) (some s) (v + su (fun b => sp1 R m b) k) (nv m) (nv k)) a Q ↔ Wp (k4 (G 0) (some s) (v + su (fun b => sp1 R m b) m) (nv (m + 1))) a Q) := by
      refine loopUp _ m ?_ ?_
      · intro f
        simp (disch := omega) only [X1_swappable_29, ↓w_bd, ↓w_rt, ↓w_bh, sm_l, sm_r, ↓w_okr, ↓w_nm, ↓w_ite, ↓reduceIte, not_true_eq_false, not_false_eq_true, and_true, true_and, and_self, Option.some.injEq, reduceCtorEq, eq_self, ↓w_rc, ↓w_gI, ↓w_gR, ↓w_aN, ↓w_aI, ↓w_aR, ↓w_aL, ↓w_pI, ↓w_pR, ↓w_sI, ↓w_sR, ↓w_sL, ↓w_nO, ↓w_nA, ↓w_nL, ↓w_ca, ↓w_ca0, ↓w_gS, ↓w_gK, ↓w_dv, ↓w_tw, ↓w_rz, ↓w_no, nv_lit, nv_f, nv_add, nv_mul, nv_sub, nv_le, nv_lt, nv_eq, nv_cl, Nat.reduceMod, Nat.reduceMul, Nat.reduceAdd, Nat.zero_add, Nat.add_zero, Nat.mul_zero, decide_eq_true_eq, nv_inT, Nat.le_refl]
      · intro f k hk2 ih
        rw [su, ← Int32.add_assoc] at ih
        unfold sp1 at ih
        by_cases c : R (15 + 7 * m) = R (15 + 7 * k)
        · rw [if_pos c] at ih
          simp (disch := omega) only [X1_swappable_29, X1_swappable_61, X1_swappable_62, ↓w_bd, ↓w_rt, ↓w_bh, sm_l, sm_r, ↓w_okr, ↓w_nm, ↓w_ite, ↓reduceIte, not_true_eq_false, not_false_eq_true, and_true, true_and, and_self, Option.some.injEq, reduceCtorEq, eq_self, ↓w_rc, ↓w_gI, ↓w_gR, ↓w_aN, ↓w_aI, ↓w_aR, ↓w_aL, ↓w_pI, ↓w_pR, ↓w_sI, ↓w_sR, ↓w_sL, ↓w_nO, ↓w_nA, ↓w_nL, ↓w_ca, ↓w_ca0, ↓w_gS, ↓w_gK, ↓w_dv, ↓w_tw, ↓w_rz, ↓w_no, nv_lit, nv_f, nv_add, nv_mul, nv_sub, nv_le, nv_lt, nv_eq, nv_cl, Nat.reduceMod, Nat.reduceMul, Nat.reduceAdd, Nat.zero_add, Nat.add_zero, Nat.mul_zero, decide_eq_true_eq, nv_inT, hX, Nat.not_le.mpr hk2, X1_areOthers_0 hM hX hS hF hD hW hm (show k < nH R by omega) c, X5_one_0, X5_one_1, X1_bit_0, X1_bit_1, ite_not]
          exact ih
        · rw [if_neg c] at ih
          by_cases c2 : kn R m k = nv 2
          · rw [if_pos (show kn R m k = 2 from c2)] at ih
            simp (disch := omega) only [X1_swappable_29, X1_swappable_61, X1_swappable_62, ↓w_bd, ↓w_rt, ↓w_bh, sm_l, sm_r, ↓w_okr, ↓w_nm, ↓w_ite, ↓reduceIte, not_true_eq_false, not_false_eq_true, and_true, true_and, and_self, Option.some.injEq, reduceCtorEq, eq_self, ↓w_rc, ↓w_gI, ↓w_gR, ↓w_aN, ↓w_aI, ↓w_aR, ↓w_aL, ↓w_pI, ↓w_pR, ↓w_sI, ↓w_sR, ↓w_sL, ↓w_nO, ↓w_nA, ↓w_nL, ↓w_ca, ↓w_ca0, ↓w_gS, ↓w_gK, ↓w_dv, ↓w_tw, ↓w_rz, ↓w_no, nv_lit, nv_f, nv_add, nv_mul, nv_sub, nv_le, nv_lt, nv_eq, nv_cl, Nat.reduceMod, Nat.reduceMul, Nat.reduceAdd, Nat.zero_add, Nat.add_zero, Nat.mul_zero, decide_eq_true_eq, nv_inT, hX, hr, Nat.not_le.mpr hk2, X1_areOthers_1 hM hX hS hF hD hW hm (show k < nH R by omega) c, X9_known_w hF h10 hD hW, c2, n10, X5_one_0, X5_one_1, X1_bit_0, X1_bit_1, ite_not]
            exact ih
          · rw [if_neg (show ¬ kn R m k = 2 from c2)] at ih
            simp (disch := omega) only [X1_swappable_29, X1_swappable_61, X1_swappable_62, ↓w_bd, ↓w_rt, ↓w_bh, sm_l, sm_r, ↓w_okr, ↓w_nm, ↓w_ite, ↓reduceIte, not_true_eq_false, not_false_eq_true, and_true, true_and, and_self, Option.some.injEq, reduceCtorEq, eq_self, ↓w_rc, ↓w_gI, ↓w_gR, ↓w_aN, ↓w_aI, ↓w_aR, ↓w_aL, ↓w_pI, ↓w_pR, ↓w_sI, ↓w_sR, ↓w_sL, ↓w_nO, ↓w_nA, ↓w_nL, ↓w_ca, ↓w_ca0, ↓w_gS, ↓w_gK, ↓w_dv, ↓w_tw, ↓w_rz, ↓w_no, nv_lit, nv_f, nv_add, nv_mul, nv_sub, nv_le, nv_lt, nv_eq, nv_cl, Nat.reduceMod, Nat.reduceMul, Nat.reduceAdd, Nat.zero_add, Nat.add_zero, Nat.mul_zero, decide_eq_true_eq, nv_inT, hX, hr, Nat.not_le.mpr hk2, X1_areOthers_1 hM hX hS hF hD hW hm (show k < nH R by omega) c, X9_known_w hF h10 hD hW, c2, n10, X5_one_0, X5_one_1, X1_bit_0, X1_bit_1, ite_not]
            exact ih
    have := l FU 0 (by omega) (by unfold FU; omega)
    rw [su_0, Int32.add_zero] at this
    exact this
  have l : ∀ (f k : Nat), k ≤ nH R → nH R - k < f → (Wp (X1_swappable_12 f (G 0) (some s) (su (fun a => su (fun b => sp1 R a b) a) k) (nv k)) a Q ↔ Q (sp R) a) := by
    refine loopUp _ (nH R) ?_ ?_
    · intro f
      simp (disch := omega) only [X1_swappable_12, ↓w_bd, ↓w_rt, ↓w_bh, sm_l, sm_r, ↓w_okr, ↓w_nm, ↓w_ite, ↓reduceIte, not_true_eq_false, not_false_eq_true, and_true, true_and, and_self, Option.some.injEq, reduceCtorEq, eq_self, ↓w_rc, ↓w_gI, ↓w_gR, ↓w_aN, ↓w_aI, ↓w_aR, ↓w_aL, ↓w_pI, ↓w_pR, ↓w_sI, ↓w_sR, ↓w_sL, ↓w_nO, ↓w_nA, ↓w_nL, ↓w_ca, ↓w_ca0, ↓w_gS, ↓w_gK, ↓w_dv, ↓w_tw, ↓w_rz, ↓w_no, nv_lit, nv_f, nv_add, nv_mul, nv_sub, nv_le, nv_lt, nv_eq, nv_cl, Nat.reduceMod, Nat.reduceMul, Nat.reduceAdd, Nat.zero_add, Nat.add_zero, Nat.mul_zero, decide_eq_true_eq, nv_inT, mk_k hM, mk_n hM, mk_r hM, mk_i hM, hX, Nat.le_refl]
      rfl
    · intro f k hk2 ih
      rw [su] at ih
      simp (disch := omega) only [X1_swappable_12, ↓w_bd, ↓w_rt, ↓w_bh, sm_l, sm_r, ↓w_okr, ↓w_nm, ↓w_ite, ↓reduceIte, not_true_eq_false, not_false_eq_true, and_true, true_and, and_self, Option.some.injEq, reduceCtorEq, eq_self, ↓w_rc, ↓w_gI, ↓w_gR, ↓w_aN, ↓w_aI, ↓w_aR, ↓w_aL, ↓w_pI, ↓w_pR, ↓w_sI, ↓w_sR, ↓w_sL, ↓w_nO, ↓w_nA, ↓w_nL, ↓w_ca, ↓w_ca0, ↓w_gS, ↓w_gK, ↓w_dv, ↓w_tw, ↓w_rz, ↓w_no, nv_lit, nv_f, nv_add, nv_mul, nv_sub, nv_le, nv_lt, nv_eq, nv_cl, Nat.reduceMod, Nat.reduceMul, Nat.reduceAdd, Nat.zero_add, Nat.add_zero, Nat.mul_zero, decide_eq_true_eq, nv_inT, mk_k hM, mk_n hM, mk_r hM, mk_i hM, hX, Nat.not_le.mpr hk2, hm]
      exact ih
  exact l FU 0 (by omega) (by unfold FU; omega)
theorem up_c {R : Nat → Int32} (hF : Fs R) (h10 : nH R ≤ 10) (t : Int32) {m k : Nat} (hm : m < nH R) (hk : k < nH R) (ht : R (15 + 7 * m) = t) : up_ R t m k = if R (15 + 7 * m) = R (15 + 7 * k) then 0 else if ¬ ws R m k = 2 then 0 else if ¬ kn R m k = -1 then 0 else 1 := by
  unfold up_
  rw [if_pos ht]
  by_cases c1 : R (15 + 7 * k) = t
  · rw [if_pos c1, if_pos (ht.trans c1.symm)]
  · rw [if_neg c1, if_neg (show ¬ R (15 + 7 * m) = R (15 + 7 * k) from fun e => c1 (e.symm.trans ht))]
    by_cases c2 : sz R m = sz R k
    · have w2 : ws R m k = 2 := wd_2.mpr c2
      have n1 : ¬ (2 : Int32) = -1 := by decide
      have n2 : ¬ (-1 : Int32) = 2 := by decide
      rcases kn_ws hF h10 hm hk with e | e
      · simp only [c2, e, w2, n2, if_true, if_false, not_true_eq_false]
      · simp only [c2, e, w2, n1, if_true, if_false, not_true_eq_false, not_false_eq_true]
    · have w2 : ¬ ws R m k = 2 := fun h => c2 (wd_2.mp h)
      rw [if_neg c2, if_pos w2]
theorem X1_unproved_w {B : Nat → Nat × Nat} {G : Nat → Nat} {a : Hp} {L : Nat → Nat} {R : Nat → Int32} (hM : Mk B a L R) (hX : FX G a L) (hS : Sh R) (hF : Fs R) {s : Nat} {D : Nat → Nat → Int32} (hD : CD R D) (hW : Wm s (nH R) a D) (t : Int32) (Q : Ex ⊕ Int32 → Hp → Prop) : Wp (X1_unproved_18 FU (G 0) t (some s) (nv 0) (nv 0)) a Q ↔ Q (.inr (up R t)) a := by
  have h10 := sh_H10 hS
  have hr := hW.r
  have hm : ∀ (k4 : Nat → Int32 → Option Nat → Int32 → Int32 → Mr (Ex ⊕ Int32)) (v : Int32) (m : Nat), m < nH R → R (15 + 7 * m) = t → (Wp (X1_unproved_61 k4 FU (G 0) t (some s) v (nv m) (nv 0)) a Q ↔ Wp (k4 (G 0) t (some s) (v + su (fun b => up_ R t m b) (nH R)) (nv (m + 1))) a Q) := by
    intro k4 v m hm ht
    have l : ∀ (f k : Nat), k ≤ nH R → nH R - k < f → (Wp (X1_unproved_61 k4 f (G 0) t (some s) (v + su (fun b => up_ R t m b) k) (nv m) (nv k)) a Q ↔ Wp (k4 (G 0) t (some s) (v + su (fun b => up_ R t m b) (nH R)) (nv (m + 1))) a Q) := by
      refine loopUp _ (nH R) ?_ ?_
      · intro f
        simp (disch := omega) only [X1_unproved_61, X1_unproved_131, ↓w_bd, ↓w_rt, ↓w_bh, sm_l, sm_r, ↓w_okr, ↓w_nm, ↓w_ite, ↓reduceIte, not_true_eq_false, not_false_eq_true, and_true, true_and, and_self, Option.some.injEq, reduceCtorEq, eq_self, ↓w_rc, ↓w_gI, ↓w_gR, ↓w_aN, ↓w_aI, ↓w_aR, ↓w_aL, ↓w_pI, ↓w_pR, ↓w_sI, ↓w_sR, ↓w_sL, ↓w_nO, ↓w_nA, ↓w_nL, ↓w_ca, ↓w_ca0, ↓w_gS, ↓w_gK, ↓w_dv, ↓w_tw, ↓w_rz, ↓w_no, nv_lit, nv_f, nv_add, nv_mul, nv_sub, nv_le, nv_lt, nv_eq, nv_cl, Nat.reduceMod, Nat.reduceMul, Nat.reduceAdd, Nat.zero_add, Nat.add_zero, Nat.mul_zero, decide_eq_true_eq, nv_inT, mk_k hM, mk_n hM, mk_r hM, mk_i hM, hX, Nat.le_refl]
      · intro f k hk2 ih
        rw [su, ← Int32.add_assoc] at ih
        rw [up_c hF h10 t hm hk2 ht] at ih
        by_cases c : R (15 + 7 * m) = R (15 + 7 * k)
        · rw [if_pos c] at ih
          simp (disch := omega) only [X1_unproved_61, X1_unproved_119, X1_unproved_120, ↓w_bd, ↓w_rt, ↓w_bh, sm_l, sm_r, ↓w_okr, ↓w_nm, ↓w_ite, ↓reduceIte, not_true_eq_false, not_false_eq_true, and_true, true_and, and_self, Option.some.injEq, reduceCtorEq, eq_self, ↓w_rc, ↓w_gI, ↓w_gR, ↓w_aN, ↓w_aI, ↓w_aR, ↓w_aL, ↓w_pI, ↓w_pR, ↓w_sI, ↓w_sR, ↓w_sL, ↓w_nO, ↓w_nA, ↓w_nL, ↓w_ca, ↓w_ca0, ↓w_gS, ↓w_gK, ↓w_dv, ↓w_tw, ↓w_rz, ↓w_no, nv_lit, nv_f, nv_add, nv_mul, nv_sub, nv_le, nv_lt, nv_eq, nv_cl, Nat.reduceMod, Nat.reduceMul, Nat.reduceAdd, Nat.zero_add, Nat.add_zero, Nat.mul_zero, decide_eq_true_eq, nv_inT, mk_k hM, mk_n hM, mk_r hM, mk_i hM, hX, Nat.not_le.mpr hk2, X1_areOthers_0 hM hX hS hF hD hW hm hk2 c, X5_one_0, X5_one_1, X1_bit_0, X1_bit_1, ite_not]
          exact ih
        · rw [if_neg c] at ih
          by_cases c2 : ws R m k = nv 2
          · rw [if_neg (show ¬ ¬ ws R m k = 2 from fun h => h c2)] at ih
            by_cases c3 : kn R m k = -nv 1
            · rw [if_neg (show ¬ ¬ kn R m k = -1 from fun h => h c3)] at ih
              simp (disch := omega) only [X1_unproved_61, X1_unproved_119, X1_unproved_120, ↓w_bd, ↓w_rt, ↓w_bh, sm_l, sm_r, ↓w_okr, ↓w_nm, ↓w_ite, ↓reduceIte, not_true_eq_false, not_false_eq_true, and_true, true_and, and_self, Option.some.injEq, reduceCtorEq, eq_self, ↓w_rc, ↓w_gI, ↓w_gR, ↓w_aN, ↓w_aI, ↓w_aR, ↓w_aL, ↓w_pI, ↓w_pR, ↓w_sI, ↓w_sR, ↓w_sL, ↓w_nO, ↓w_nA, ↓w_nL, ↓w_ca, ↓w_ca0, ↓w_gS, ↓w_gK, ↓w_dv, ↓w_tw, ↓w_rz, ↓w_no, nv_lit, nv_f, nv_add, nv_mul, nv_sub, nv_le, nv_lt, nv_eq, nv_cl, Nat.reduceMod, Nat.reduceMul, Nat.reduceAdd, Nat.zero_add, Nat.add_zero, Nat.mul_zero, decide_eq_true_eq, nv_inT, mk_k hM, mk_n hM, mk_r hM, mk_i hM, hX, hr, Nat.not_le.mpr hk2, X1_areOthers_1 hM hX hS hF hD hW hm hk2 c, X2_sizeWord_w hM, X9_known_w hF h10 hD hW, c2, c3, n10, X5_one_0, X5_one_1, X1_bit_0, X1_bit_1, ite_not]
              exact ih
            · rw [if_pos (show ¬ kn R m k = -1 from c3)] at ih
              simp (disch := omega) only [X1_unproved_61, X1_unproved_119, X1_unproved_120, ↓w_bd, ↓w_rt, ↓w_bh, sm_l, sm_r, ↓w_okr, ↓w_nm, ↓w_ite, ↓reduceIte, not_true_eq_false, not_false_eq_true, and_true, true_and, and_self, Option.some.injEq, reduceCtorEq, eq_self, ↓w_rc, ↓w_gI, ↓w_gR, ↓w_aN, ↓w_aI, ↓w_aR, ↓w_aL, ↓w_pI, ↓w_pR, ↓w_sI, ↓w_sR, ↓w_sL, ↓w_nO, ↓w_nA, ↓w_nL, ↓w_ca, ↓w_ca0, ↓w_gS, ↓w_gK, ↓w_dv, ↓w_tw, ↓w_rz, ↓w_no, nv_lit, nv_f, nv_add, nv_mul, nv_sub, nv_le, nv_lt, nv_eq, nv_cl, Nat.reduceMod, Nat.reduceMul, Nat.reduceAdd, Nat.zero_add, Nat.add_zero, Nat.mul_zero, decide_eq_true_eq, nv_inT, mk_k hM, mk_n hM, mk_r hM, mk_i hM, hX, hr, Nat.not_le.mpr hk2, X1_areOthers_1 hM hX hS hF hD hW hm hk2 c, X2_sizeWord_w hM, X9_known_w hF h10 hD hW, c2, c3, n10, X5_one_0, X5_one_1, X1_bit_0, X1_bit_1, ite_not]
              exact ih
          · rw [if_pos (show ¬ ws R m k = 2 from c2)] at ih
            simp (disch := omega) only [X1_unproved_61, X1_unproved_119, X1_unproved_120, ↓w_bd, ↓w_rt, ↓w_bh, sm_l, sm_r, ↓w_okr, ↓w_nm, ↓w_ite, ↓reduceIte, not_true_eq_false, not_false_eq_true, and_true, true_and, and_self, Option.some.injEq, reduceCtorEq, eq_self, ↓w_rc, ↓w_gI, ↓w_gR, ↓w_aN, ↓w_aI, ↓w_aR, ↓w_aL, ↓w_pI, ↓w_pR, ↓w_sI, ↓w_sR, ↓w_sL, ↓w_nO, ↓w_nA, ↓w_nL, ↓w_ca, ↓w_ca0, ↓w_gS, ↓w_gK, ↓w_dv, ↓w_tw, ↓w_rz, ↓w_no, nv_lit, nv_f, nv_add, nv_mul, nv_sub, nv_le, nv_lt, nv_eq, nv_cl, Nat.reduceMod, Nat.reduceMul, Nat.reduceAdd, Nat.zero_add, Nat.add_zero, Nat.mul_zero, decide_eq_true_eq, nv_inT, mk_k hM, mk_n hM, mk_r hM, mk_i hM, hX, hr, Nat.not_le.mpr hk2, X1_areOthers_1 hM hX hS hF hD hW hm hk2 c, X2_sizeWord_w hM, c2, n10, X5_one_0, X5_one_1, X1_bit_0, X1_bit_1, ite_not]
            exact ih
    have := l FU 0 (by omega) (by unfold FU; omega)
    rw [su_0, Int32.add_zero] at this
    exact this
  have l : ∀ (f k : Nat), k ≤ nH R → nH R - k < f → (Wp (X1_unproved_18 f (G 0) t (some s) (su (fun a => su (fun b => up_ R t a b) (nH R)) k) (nv k)) a Q ↔ Q (.inr (up R t)) a) := by
    refine loopUp _ (nH R) ?_ ?_
    · intro f
      simp (disch := omega) only [X1_unproved_18, ↓w_bd, ↓w_rt, ↓w_bh, sm_l, sm_r, ↓w_okr, ↓w_nm, ↓w_ite, ↓reduceIte, not_true_eq_false, not_false_eq_true, and_true, true_and, and_self, Option.some.injEq, reduceCtorEq, eq_self, ↓w_rc, ↓w_gI, ↓w_gR, ↓w_aN, ↓w_aI, ↓w_aR, ↓w_aL, ↓w_pI, ↓w_pR, ↓w_sI, ↓w_sR, ↓w_sL, ↓w_nO, ↓w_nA, ↓w_nL, ↓w_ca, ↓w_ca0, ↓w_gS, ↓w_gK, ↓w_dv, ↓w_tw, ↓w_rz, ↓w_no, nv_lit, nv_f, nv_add, nv_mul, nv_sub, nv_le, nv_lt, nv_eq, nv_cl, Nat.reduceMod, Nat.reduceMul, Nat.reduceAdd, Nat.zero_add, Nat.add_zero, Nat.mul_zero, decide_eq_true_eq, nv_inT, mk_k hM, mk_n hM, mk_r hM, mk_i hM, hX, Nat.le_refl]
      rfl
    · intro f k hk2 ih
      rw [su] at ih
      by_cases c : R (15 + 7 * k) = t
      · simp (disch := omega) only [X1_unproved_18, X1_unproved_131, ↓w_bd, ↓w_rt, ↓w_bh, sm_l, sm_r, ↓w_okr, ↓w_nm, ↓w_ite, ↓reduceIte, not_true_eq_false, not_false_eq_true, and_true, true_and, and_self, Option.some.injEq, reduceCtorEq, eq_self, ↓w_rc, ↓w_gI, ↓w_gR, ↓w_aN, ↓w_aI, ↓w_aR, ↓w_aL, ↓w_pI, ↓w_pR, ↓w_sI, ↓w_sR, ↓w_sL, ↓w_nO, ↓w_nA, ↓w_nL, ↓w_ca, ↓w_ca0, ↓w_gS, ↓w_gK, ↓w_dv, ↓w_tw, ↓w_rz, ↓w_no, nv_lit, nv_f, nv_add, nv_mul, nv_sub, nv_le, nv_lt, nv_eq, nv_cl, Nat.reduceMod, Nat.reduceMul, Nat.reduceAdd, Nat.zero_add, Nat.add_zero, Nat.mul_zero, decide_eq_true_eq, nv_inT, mk_k hM, mk_n hM, mk_r hM, mk_i hM, hX, Nat.not_le.mpr hk2, X3_at_h hM, ct_44, c, hm]
        exact ih
      · have z : su (fun b => up_ R t k b) (nH R) = 0 := by
          rw [su_cg (g := fun _ => 0) (fun b _ => by unfold up_; rw [if_neg c]), su_zero]
        rw [z, Int32.add_zero] at ih
        simp (disch := omega) only [X1_unproved_18, X1_unproved_131, ↓w_bd, ↓w_rt, ↓w_bh, sm_l, sm_r, ↓w_okr, ↓w_nm, ↓w_ite, ↓reduceIte, not_true_eq_false, not_false_eq_true, and_true, true_and, and_self, Option.some.injEq, reduceCtorEq, eq_self, ↓w_rc, ↓w_gI, ↓w_gR, ↓w_aN, ↓w_aI, ↓w_aR, ↓w_aL, ↓w_pI, ↓w_pR, ↓w_sI, ↓w_sR, ↓w_sL, ↓w_nO, ↓w_nA, ↓w_nL, ↓w_ca, ↓w_ca0, ↓w_gS, ↓w_gK, ↓w_dv, ↓w_tw, ↓w_rz, ↓w_no, nv_lit, nv_f, nv_add, nv_mul, nv_sub, nv_le, nv_lt, nv_eq, nv_cl, Nat.reduceMod, Nat.reduceMul, Nat.reduceAdd, Nat.zero_add, Nat.add_zero, Nat.mul_zero, decide_eq_true_eq, nv_inT, mk_k hM, mk_n hM, mk_r hM, mk_i hM, hX, Nat.not_le.mpr hk2, X3_at_h hM, ct_44, c]
        exact ih
  exact l FU 0 (by omega) (by unfold FU; omega)
theorem X1_gap_w {B : Nat → Nat × Nat} {G : Nat → Nat} {a : Hp} {L : Nat → Nat} {R : Nat → Int32} (hM : Mk B a L R) (hX : FX G a L) (hS : Sh R) (hF : Fs R) {s : Nat} {D : Nat → Nat → Int32} (hD : CD R D) (hW : Wm s (nH R) a D) (v : Int32) (Q : Int32 → Hp → Prop) : Wp (X1_gap_27 FU (G 0) (some s) v (nv 0)) a Q ↔ Q v a := by
  have h10 := sh_H10 hS
  have hr := hW.r
  have hm : ∀ (k4 : Nat → Option Nat → Int32 → Int32 → Mr Int32) (m : Nat), m < nH R → (Wp (X1_gap_44 k4 FU (G 0) (some s) v (nv m) (nv 0)) a Q ↔ Wp (k4 (G 0) (some s) v (nv (m + 1))) a Q) := by
    intro k4 m hm
    have l : ∀ (f k : Nat), k ≤ m → m - k < f → (Wp (X1_gap_44 k4 f (G 0) (some s) v (nv m) (nv k)) a Q ↔ Wp (k4 (G 0) (some s) v (nv (m + 1))) a Q) := by
      refine loopUp _ m ?_ ?_
      · intro f
        simp (disch := omega) only [X1_gap_44, ↓w_bd, ↓w_rt, ↓w_bh, sm_l, sm_r, ↓w_okr, ↓w_nm, ↓w_ite, ↓reduceIte, not_true_eq_false, not_false_eq_true, and_true, true_and, and_self, Option.some.injEq, reduceCtorEq, eq_self, ↓w_rc, ↓w_gI, ↓w_gR, ↓w_aN, ↓w_aI, ↓w_aR, ↓w_aL, ↓w_pI, ↓w_pR, ↓w_sI, ↓w_sR, ↓w_sL, ↓w_nO, ↓w_nA, ↓w_nL, ↓w_ca, ↓w_ca0, ↓w_gS, ↓w_gK, ↓w_dv, ↓w_tw, ↓w_rz, ↓w_no, nv_lit, nv_f, nv_add, nv_mul, nv_sub, nv_le, nv_lt, nv_eq, nv_cl, Nat.reduceMod, Nat.reduceMul, Nat.reduceAdd, Nat.zero_add, Nat.add_zero, Nat.mul_zero, decide_eq_true_eq, nv_inT, Nat.le_refl]
      · intro f k hk2 ih
        have z : v + (nv 0 + nv 0) = v := Int32.add_zero v
        have fcase : fc R m k = -nv 1 ∨ fc R m k = ws R m k := by
          rcases hF m k (by omega) (by omega) with e | ⟨-, -, -, e, -⟩
          · exact .inl e
          · exact .inr e
        have kcase : kn R m k = -nv 1 ∨ kn R m k = ws R m k := kn_ws hF h10 hm (by omega)
        have wne : ¬ ws R m k = -nv 1 := w3_m1 (wd_3 _ _)
        rcases fcase with c | c
        · rcases kcase with d | d
          · simp (disch := omega) only [X1_gap_44, X1_gap_101, X1_gap_102, X1_gap_122, X1_gap_123, ↓w_bd, ↓w_rt, ↓w_bh, sm_l, sm_r, ↓w_okr, ↓w_nm, ↓w_ite, ↓reduceIte, not_true_eq_false, not_false_eq_true, and_true, true_and, and_self, Option.some.injEq, reduceCtorEq, eq_self, ↓w_rc, ↓w_gI, ↓w_gR, ↓w_aN, ↓w_aI, ↓w_aR, ↓w_aL, ↓w_pI, ↓w_pR, ↓w_sI, ↓w_sR, ↓w_sL, ↓w_nO, ↓w_nA, ↓w_nL, ↓w_ca, ↓w_ca0, ↓w_gS, ↓w_gK, ↓w_dv, ↓w_tw, ↓w_rz, ↓w_no, nv_lit, nv_f, nv_add, nv_mul, nv_sub, nv_le, nv_lt, nv_eq, nv_cl, Nat.reduceMod, Nat.reduceMul, Nat.reduceAdd, Nat.zero_add, Nat.add_zero, Nat.mul_zero, decide_eq_true_eq, nv_inT, mk_k hM, mk_n hM, mk_r hM, mk_i hM, hX, hr, Nat.not_le.mpr hk2, X2_sizeWord_w hM, X2_factWord_w hM, X9_known_w hF h10 hD hW, c, d, X5_one_0, X5_one_1, X1_bit_0, X1_bit_1, ite_not]
            rw [show v + nv (0 + 0) = v from Int32.add_zero v]
            exact ih
          · simp (disch := omega) only [X1_gap_44, X1_gap_101, X1_gap_102, X1_gap_122, X1_gap_123, ↓w_bd, ↓w_rt, ↓w_bh, sm_l, sm_r, ↓w_okr, ↓w_nm, ↓w_ite, ↓reduceIte, not_true_eq_false, not_false_eq_true, and_true, true_and, and_self, Option.some.injEq, reduceCtorEq, eq_self, ↓w_rc, ↓w_gI, ↓w_gR, ↓w_aN, ↓w_aI, ↓w_aR, ↓w_aL, ↓w_pI, ↓w_pR, ↓w_sI, ↓w_sR, ↓w_sL, ↓w_nO, ↓w_nA, ↓w_nL, ↓w_ca, ↓w_ca0, ↓w_gS, ↓w_gK, ↓w_dv, ↓w_tw, ↓w_rz, ↓w_no, nv_lit, nv_f, nv_add, nv_mul, nv_sub, nv_le, nv_lt, nv_eq, nv_cl, Nat.reduceMod, Nat.reduceMul, Nat.reduceAdd, Nat.zero_add, Nat.add_zero, Nat.mul_zero, decide_eq_true_eq, nv_inT, mk_k hM, mk_n hM, mk_r hM, mk_i hM, hX, hr, Nat.not_le.mpr hk2, X2_sizeWord_w hM, X2_factWord_w hM, X9_known_w hF h10 hD hW, c, d, wne, X5_one_0, X5_one_1, X1_bit_0, X1_bit_1, ite_not]
            rw [show v + nv (0 + 0) = v from Int32.add_zero v]
            exact ih
        · rcases kcase with d | d
          · simp (disch := omega) only [X1_gap_44, X1_gap_101, X1_gap_102, X1_gap_122, X1_gap_123, ↓w_bd, ↓w_rt, ↓w_bh, sm_l, sm_r, ↓w_okr, ↓w_nm, ↓w_ite, ↓reduceIte, not_true_eq_false, not_false_eq_true, and_true, true_and, and_self, Option.some.injEq, reduceCtorEq, eq_self, ↓w_rc, ↓w_gI, ↓w_gR, ↓w_aN, ↓w_aI, ↓w_aR, ↓w_aL, ↓w_pI, ↓w_pR, ↓w_sI, ↓w_sR, ↓w_sL, ↓w_nO, ↓w_nA, ↓w_nL, ↓w_ca, ↓w_ca0, ↓w_gS, ↓w_gK, ↓w_dv, ↓w_tw, ↓w_rz, ↓w_no, nv_lit, nv_f, nv_add, nv_mul, nv_sub, nv_le, nv_lt, nv_eq, nv_cl, Nat.reduceMod, Nat.reduceMul, Nat.reduceAdd, Nat.zero_add, Nat.add_zero, Nat.mul_zero, decide_eq_true_eq, nv_inT, mk_k hM, mk_n hM, mk_r hM, mk_i hM, hX, hr, Nat.not_le.mpr hk2, X2_sizeWord_w hM, X2_factWord_w hM, X9_known_w hF h10 hD hW, c, d, wne, X5_one_0, X5_one_1, X1_bit_0, X1_bit_1, ite_not]
            rw [show v + nv (0 + 0) = v from Int32.add_zero v]
            exact ih
          · simp (disch := omega) only [X1_gap_44, X1_gap_101, X1_gap_102, X1_gap_122, X1_gap_123, ↓w_bd, ↓w_rt, ↓w_bh, sm_l, sm_r, ↓w_okr, ↓w_nm, ↓w_ite, ↓reduceIte, not_true_eq_false, not_false_eq_true, and_true, true_and, and_self, Option.some.injEq, reduceCtorEq, eq_self, ↓w_rc, ↓w_gI, ↓w_gR, ↓w_aN, ↓w_aI, ↓w_aR, ↓w_aL, ↓w_pI, ↓w_pR, ↓w_sI, ↓w_sR, ↓w_sL, ↓w_nO, ↓w_nA, ↓w_nL, ↓w_ca, ↓w_ca0, ↓w_gS, ↓w_gK, ↓w_dv, ↓w_tw, ↓w_rz, ↓w_no, nv_lit, nv_f, nv_add, nv_mul, nv_sub, nv_le, nv_lt, nv_eq, nv_cl, Nat.reduceMod, Nat.reduceMul, Nat.reduceAdd, Nat.zero_add, Nat.add_zero, Nat.mul_zero, decide_eq_true_eq, nv_inT, mk_k hM, mk_n hM, mk_r hM, mk_i hM, hX, hr, Nat.not_le.mpr hk2, X2_sizeWord_w hM, X2_factWord_w hM, X9_known_w hF h10 hD hW, c, d, wne, X5_one_0, X5_one_1, X1_bit_0, X1_bit_1, ite_not]
            rw [show v + nv (0 + 0) = v from Int32.add_zero v]
            exact ih
    exact l FU 0 (by omega) (by unfold FU; omega)
  have l : ∀ (f k : Nat), k ≤ nH R → nH R - k < f → (Wp (X1_gap_27 f (G 0) (some s) v (nv k)) a Q ↔ Q v a) := by
    refine loopUp _ (nH R) ?_ ?_
    · intro f
      simp (disch := omega) only [X1_gap_27, ↓w_bd, ↓w_rt, ↓w_bh, sm_l, sm_r, ↓w_okr, ↓w_nm, ↓w_ite, ↓reduceIte, not_true_eq_false, not_false_eq_true, and_true, true_and, and_self, Option.some.injEq, reduceCtorEq, eq_self, ↓w_rc, ↓w_gI, ↓w_gR, ↓w_aN, ↓w_aI, ↓w_aR, ↓w_aL, ↓w_pI, ↓w_pR, ↓w_sI, ↓w_sR, ↓w_sL, ↓w_nO, ↓w_nA, ↓w_nL, ↓w_ca, ↓w_ca0, ↓w_gS, ↓w_gK, ↓w_dv, ↓w_tw, ↓w_rz, ↓w_no, nv_lit, nv_f, nv_add, nv_mul, nv_sub, nv_le, nv_lt, nv_eq, nv_cl, Nat.reduceMod, Nat.reduceMul, Nat.reduceAdd, Nat.zero_add, Nat.add_zero, Nat.mul_zero, decide_eq_true_eq, nv_inT, mk_k hM, mk_n hM, mk_r hM, mk_i hM, hX, Nat.le_refl]
    · intro f k hk2 ih
      simp (disch := omega) only [X1_gap_27, ↓w_bd, ↓w_rt, ↓w_bh, sm_l, sm_r, ↓w_okr, ↓w_nm, ↓w_ite, ↓reduceIte, not_true_eq_false, not_false_eq_true, and_true, true_and, and_self, Option.some.injEq, reduceCtorEq, eq_self, ↓w_rc, ↓w_gI, ↓w_gR, ↓w_aN, ↓w_aI, ↓w_aR, ↓w_aL, ↓w_pI, ↓w_pR, ↓w_sI, ↓w_sR, ↓w_sL, ↓w_nO, ↓w_nA, ↓w_nL, ↓w_ca, ↓w_ca0, ↓w_gS, ↓w_gK, ↓w_dv, ↓w_tw, ↓w_rz, ↓w_no, nv_lit, nv_f, nv_add, nv_mul, nv_sub, nv_le, nv_lt, nv_eq, nv_cl, Nat.reduceMod, Nat.reduceMul, Nat.reduceAdd, Nat.zero_add, Nat.add_zero, Nat.mul_zero, decide_eq_true_eq, nv_inT, mk_k hM, mk_n hM, mk_r hM, mk_i hM, hX, Nat.not_le.mpr hk2, hm]
      exact ih
  exact l FU 0 (by omega) (by unfold FU; omega)
