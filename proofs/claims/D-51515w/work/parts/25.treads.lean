theorem X5_knownTo_w {G : Nat → Nat} {a : Hp} {o : Nat} {R : Nat → Int32} (hF : FO G a o R) (hG : GD G) (hS : Sh R) (hFs : Fs R) {x : Nat} (hx : x < nH R) (Q : Int32 → Hp → Prop) (hk : ∀ b, Sx G a b → Q (kt R x) b) : Wp (X5_knownTo (G 10) (nv x)) a Q := by
  have h10 := sh_H10 hS
  have l : ∀ (f k : Nat), k ≤ nH R → nH R - k < f → ∀ b, Sx G a b → Wp (X5_knownTo_4 f (G 10) (nv x) (su (fun k => if k = x then 0 else if kn R x k = -1 then 0 else 1) k) (nv k)) b Q := by
    refine loopUp _ (nH R) ?_ ?_
    · intro f b hb
      have hFb := hF.sx hG hb
      simp (disch := omega) only [X5_knownTo_4, X5_knownTo_33, X5_knownTo_34, ↓w_bd, ↓w_rt, ↓w_bh, sm_l, sm_r, ↓w_okr, ↓w_nm, ↓w_ite, ↓reduceIte, not_true_eq_false, not_false_eq_true, and_true, true_and, and_self, Option.some.injEq, reduceCtorEq, eq_self, ↓w_rc, ↓w_gI, ↓w_gR, ↓w_aN, ↓w_aI, ↓w_aR, ↓w_aL, ↓w_pI, ↓w_pR, ↓w_sI, ↓w_sR, ↓w_sL, ↓w_nO, ↓w_nA, ↓w_nL, ↓w_ca, ↓w_ca0, ↓w_gS, ↓w_gK, ↓w_dv, ↓w_tw, ↓w_rz, ↓w_no, nv_lit, nv_f, nv_add, nv_mul, nv_sub, nv_le, nv_lt, nv_eq, nv_cl, Nat.reduceMod, Nat.reduceMul, Nat.reduceAdd, Nat.zero_add, Nat.add_zero, Nat.mul_zero, decide_eq_true_eq, nv_inT, hFb.1, X5_get_w hFb, sh_H hS, X5_one_0, X5_one_1, X1_bit_0, X1_bit_1, ite_not, Nat.le_refl]
      exact hk b hb
    · intro f k hk2 ih b hb
      have hFb := hF.sx hG hb
      simp (disch := omega) only [su, nv_lit, nv_f, nv_add, nv_mul, nv_sub, nv_le, nv_lt, nv_eq, nv_cl, Nat.reduceMod, Nat.reduceMul, Nat.reduceAdd, Nat.zero_add, Nat.add_zero, Nat.mul_zero, decide_eq_true_eq] at ih
      simp (disch := omega) only [X5_knownTo_4, X5_knownTo_33, X5_knownTo_34, ↓w_bd, ↓w_rt, ↓w_bh, sm_l, sm_r, ↓w_okr, ↓w_nm, ↓w_ite, ↓reduceIte, not_true_eq_false, not_false_eq_true, and_true, true_and, and_self, Option.some.injEq, reduceCtorEq, eq_self, ↓w_rc, ↓w_gI, ↓w_gR, ↓w_aN, ↓w_aI, ↓w_aR, ↓w_aL, ↓w_pI, ↓w_pR, ↓w_sI, ↓w_sR, ↓w_sL, ↓w_nO, ↓w_nA, ↓w_nL, ↓w_ca, ↓w_ca0, ↓w_gS, ↓w_gK, ↓w_dv, ↓w_tw, ↓w_rz, ↓w_no, nv_lit, nv_f, nv_add, nv_mul, nv_sub, nv_le, nv_lt, nv_eq, nv_cl, Nat.reduceMod, Nat.reduceMul, Nat.reduceAdd, Nat.zero_add, Nat.add_zero, Nat.mul_zero, decide_eq_true_eq, nv_inT, hFb.1, X5_get_w hFb, sh_H hS, X5_one_0, X5_one_1, X1_bit_0, X1_bit_1, ite_not, Nat.not_le.mpr hk2]
      split
      · rename_i c
        simp only [c, ↓reduceIte] at ih
        rw [c]
        exact ih b hb
      · rename_i c
        refine X5_knownOf_w hFb hG hS hFs hx hk2 _ fun b2 hb2 => ?_
        simp only [c, ↓reduceIte] at ih
        split
        · rename_i c2
          simp only [c2, ↓reduceIte] at ih
          exact ih b2 (hb.tr hb2)
        · rename_i c2
          simp only [c2, ↓reduceIte] at ih
          exact ih b2 (hb.tr hb2)
  exact l FU 0 (by omega) (by unfold FU; omega) a (Sx.rf G a)
theorem X5_allKnown_w {G : Nat → Nat} {a : Hp} {o : Nat} {R : Nat → Int32} (hF : FO G a o R) (hG : GD G) (hS : Sh R) (hFs : Fs R) (Q : Int32 → Hp → Prop) (hk : ∀ b, Sx G a b → Q (ka R) b) : Wp (X5_allKnown (G 10)) a Q := by
  have h10 := sh_H10 hS
  have i2 : ¬ nv 2 = nv 0 := by decide
  have l : ∀ (f k : Nat), k ≤ nH R → nH R - k < f → ∀ b, Sx G a b → Wp (X5_allKnown_4 f (G 10) (su (fun k => kt R k) k) (nv k)) b Q := by
    refine loopUp _ (nH R) ?_ ?_
    · intro f b hb
      have hFb := hF.sx hG hb
      simp (disch := omega) only [X5_allKnown_4, ↓w_bd, ↓w_rt, ↓w_bh, sm_l, sm_r, ↓w_okr, ↓w_nm, ↓w_ite, ↓reduceIte, not_true_eq_false, not_false_eq_true, and_true, true_and, and_self, Option.some.injEq, reduceCtorEq, eq_self, ↓w_rc, ↓w_gI, ↓w_gR, ↓w_aN, ↓w_aI, ↓w_aR, ↓w_aL, ↓w_pI, ↓w_pR, ↓w_sI, ↓w_sR, ↓w_sL, ↓w_nO, ↓w_nA, ↓w_nL, ↓w_ca, ↓w_ca0, ↓w_gS, ↓w_gK, ↓w_dv, ↓w_tw, ↓w_rz, ↓w_no, nv_lit, nv_f, nv_add, nv_mul, nv_sub, nv_le, nv_lt, nv_eq, nv_cl, Nat.reduceMod, Nat.reduceMul, Nat.reduceAdd, Nat.zero_add, Nat.add_zero, Nat.mul_zero, decide_eq_true_eq, nv_inT, hFb.1, X5_get_w hFb, sh_H hS, i2, Nat.le_refl]
      exact hk b hb
    · intro f k hk2 ih b hb
      have hFb := hF.sx hG hb
      simp (disch := omega) only [su, nv_lit, nv_f, nv_add, nv_mul, nv_sub, nv_le, nv_lt, nv_eq, nv_cl, Nat.reduceMod, Nat.reduceMul, Nat.reduceAdd, Nat.zero_add, Nat.add_zero, Nat.mul_zero, decide_eq_true_eq] at ih
      simp (disch := omega) only [X5_allKnown_4, ↓w_bd, ↓w_rt, ↓w_bh, sm_l, sm_r, ↓w_okr, ↓w_nm, ↓w_ite, ↓reduceIte, not_true_eq_false, not_false_eq_true, and_true, true_and, and_self, Option.some.injEq, reduceCtorEq, eq_self, ↓w_rc, ↓w_gI, ↓w_gR, ↓w_aN, ↓w_aI, ↓w_aR, ↓w_aL, ↓w_pI, ↓w_pR, ↓w_sI, ↓w_sR, ↓w_sL, ↓w_nO, ↓w_nA, ↓w_nL, ↓w_ca, ↓w_ca0, ↓w_gS, ↓w_gK, ↓w_dv, ↓w_tw, ↓w_rz, ↓w_no, nv_lit, nv_f, nv_add, nv_mul, nv_sub, nv_le, nv_lt, nv_eq, nv_cl, Nat.reduceMod, Nat.reduceMul, Nat.reduceAdd, Nat.zero_add, Nat.add_zero, Nat.mul_zero, decide_eq_true_eq, nv_inT, hFb.1, X5_get_w hFb, sh_H hS, i2, Nat.not_le.mpr hk2]
      exact X5_knownTo_w hFb hG hS hFs hk2 _ fun b2 hb2 => ih b2 (hb.tr hb2)
  exact l FU 0 (by omega) (by unfold FU; omega) a (Sx.rf G a)
/-- the lowest heap of the same group -/
noncomputable def gp (R : Nat → Int32) (h : Nat) : Nat := (ff (fun k => decide (kn R h k = 2)) 0 (h + 1)).getD h
theorem ff_some {p : Nat → Bool} : ∀ {j k : Nat}, (∃ i, k ≤ i ∧ i < k + j ∧ p i = true) → ∃ i, ff p k j = some i ∧ k ≤ i ∧ i < k + j ∧ p i = true ∧ ∀ u, k ≤ u → u < i → p u = false := by
  intro j
  induction j with
  | zero => rintro k ⟨i, h1, h2, -⟩; omega
  | succ j ih =>
    rintro k ⟨i, h1, h2, h3⟩
    unfold ff
    by_cases c : p k = true
    · exact ⟨k, by rw [if_pos c], Nat.le_refl k, by omega, c, fun u g1 g2 => by omega⟩
    · rw [if_neg c]
      have : k ≠ i := fun e => c (e ▸ h3)
      obtain ⟨z, z1, z2, z3, z4, z5⟩ := ih (k := k + 1) ⟨i, by omega, by omega, h3⟩
      refine ⟨z, z1, by omega, by omega, z4, fun u g1 g2 => ?_⟩
      by_cases e : u = k
      · rw [e]; exact Bool.eq_false_iff.mpr c
      · exact z5 u (by omega) g2
theorem gp_le (R : Nat → Int32) (h : Nat) : gp R h ≤ h ∧ kn R h (gp R h) = 2 ∧ ∀ u, u < gp R h → kn R h u ≠ 2 := by
  obtain ⟨i, h1, h2, h3, h4, h5⟩ := ff_some (p := fun k => decide (kn R h k = 2)) (k := 0) (j := h + 1) ⟨h, by omega, by omega, by simp [kn_self]⟩
  unfold gp
  rw [h1]
  refine ⟨by simp only [Option.getD_some]; omega, of_decide_eq_true h4, fun u hu => ?_⟩
  exact of_decide_eq_false (h5 u (by omega) hu)
theorem X5_groupOf_w {G : Nat → Nat} {a : Hp} {o : Nat} {R : Nat → Int32} (hF : FO G a o R) (hG : GD G) (hS : Sh R) (hFs : Fs R) {x : Nat} (hx : x < nH R) (Q : Int32 → Hp → Prop) (hk : ∀ b, Sx G a b → Q (nv (gp R x)) b) : Wp (X5_groupOf (G 10) (nv x)) a Q := by
  have h10 := sh_H10 hS
  obtain ⟨g1, g2, g3⟩ := gp_le R x
  have l : ∀ (f k : Nat), k ≤ gp R x → gp R x - k < f → ∀ b, Sx G a b → Wp (X5_groupOf_2 f (G 10) (nv x) (nv k)) b Q := by
    refine loopUp _ (gp R x) ?_ ?_
    · intro f b hb
      have hFb := hF.sx hG hb
      simp (disch := omega) only [X5_groupOf_2, ↓w_bd, ↓w_rt, ↓w_bh, sm_l, sm_r, ↓w_okr, ↓w_nm, ↓w_ite, ↓reduceIte, not_true_eq_false, not_false_eq_true, and_true, true_and, and_self, Option.some.injEq, reduceCtorEq, eq_self, ↓w_rc, ↓w_gI, ↓w_gR, ↓w_aN, ↓w_aI, ↓w_aR, ↓w_aL, ↓w_pI, ↓w_pR, ↓w_sI, ↓w_sR, ↓w_sL, ↓w_nO, ↓w_nA, ↓w_nL, ↓w_ca, ↓w_ca0, ↓w_gS, ↓w_gK, ↓w_dv, ↓w_tw, ↓w_rz, ↓w_no, nv_lit, nv_f, nv_add, nv_mul, nv_sub, nv_le, nv_lt, nv_eq, nv_cl, Nat.reduceMod, Nat.reduceMul, Nat.reduceAdd, Nat.zero_add, Nat.add_zero, Nat.mul_zero, decide_eq_true_eq, nv_inT, hFb.1]
      refine X5_knownOf_w hFb hG hS hFs hx (by omega) _ fun b2 hb2 => ?_
      rw [if_pos (show kn R x (gp R x) = nv 2 from g2)]
      exact hk b2 (hb.tr hb2)
    · intro f k hk2 ih b hb
      have hFb := hF.sx hG hb
      simp (disch := omega) only [X5_groupOf_2, ↓w_bd, ↓w_rt, ↓w_bh, sm_l, sm_r, ↓w_okr, ↓w_nm, ↓w_ite, ↓reduceIte, not_true_eq_false, not_false_eq_true, and_true, true_and, and_self, Option.some.injEq, reduceCtorEq, eq_self, ↓w_rc, ↓w_gI, ↓w_gR, ↓w_aN, ↓w_aI, ↓w_aR, ↓w_aL, ↓w_pI, ↓w_pR, ↓w_sI, ↓w_sR, ↓w_sL, ↓w_nO, ↓w_nA, ↓w_nL, ↓w_ca, ↓w_ca0, ↓w_gS, ↓w_gK, ↓w_dv, ↓w_tw, ↓w_rz, ↓w_no, nv_lit, nv_f, nv_add, nv_mul, nv_sub, nv_le, nv_lt, nv_eq, nv_cl, Nat.reduceMod, Nat.reduceMul, Nat.reduceAdd, Nat.zero_add, Nat.add_zero, Nat.mul_zero, decide_eq_true_eq, nv_inT, hFb.1]
      refine X5_knownOf_w hFb hG hS hFs hx (by omega) _ fun b2 hb2 => ?_
      rw [if_neg (show ¬ kn R x k = nv 2 from g3 k hk2)]
      exact ih b2 (hb.tr hb2)
  exact l FU 0 (by omega) (by unfold FU; omega) a (Sx.rf G a)
noncomputable def gs (R : Nat → Int32) : Int32 := su (fun h => if gp R h = h then 1 else 0) (nH R)
theorem X5_groups_w {G : Nat → Nat} {a : Hp} {o : Nat} {R : Nat → Int32} (hF : FO G a o R) (hG : GD G) (hS : Sh R) (hFs : Fs R) (Q : Int32 → Hp → Prop) (hk : ∀ b, Sx G a b → Q (gs R) b) : Wp (X5_groups_9 FU (G 10) 0 0) a Q := by
  have h10 := sh_H10 hS
  have l : ∀ (f k : Nat), k ≤ nH R → nH R - k < f → ∀ b, Sx G a b → Wp (X5_groups_9 f (G 10) (su (fun h => if gp R h = h then 1 else 0) k) (nv k)) b Q := by
    refine loopUp _ (nH R) ?_ ?_
    · intro f b hb
      have hFb := hF.sx hG hb
      simp (disch := omega) only [X5_groups_9, X5_groups_33, ↓w_bd, ↓w_rt, ↓w_bh, sm_l, sm_r, ↓w_okr, ↓w_nm, ↓w_ite, ↓reduceIte, not_true_eq_false, not_false_eq_true, and_true, true_and, and_self, Option.some.injEq, reduceCtorEq, eq_self, ↓w_rc, ↓w_gI, ↓w_gR, ↓w_aN, ↓w_aI, ↓w_aR, ↓w_aL, ↓w_pI, ↓w_pR, ↓w_sI, ↓w_sR, ↓w_sL, ↓w_nO, ↓w_nA, ↓w_nL, ↓w_ca, ↓w_ca0, ↓w_gS, ↓w_gK, ↓w_dv, ↓w_tw, ↓w_rz, ↓w_no, nv_lit, nv_f, nv_add, nv_mul, nv_sub, nv_le, nv_lt, nv_eq, nv_cl, Nat.reduceMod, Nat.reduceMul, Nat.reduceAdd, Nat.zero_add, Nat.add_zero, Nat.mul_zero, decide_eq_true_eq, nv_inT, hFb.1, X5_get_w hFb, sh_H hS, X5_one_0, X5_one_1, X1_bit_0, X1_bit_1, ite_not, Nat.le_refl]
      exact hk b hb
    · intro f k hk2 ih b hb
      have hFb := hF.sx hG hb
      simp (disch := omega) only [su, nv_lit, nv_f, nv_add, nv_mul, nv_sub, nv_le, nv_lt, nv_eq, nv_cl, Nat.reduceMod, Nat.reduceMul, Nat.reduceAdd, Nat.zero_add, Nat.add_zero, Nat.mul_zero, decide_eq_true_eq] at ih
      simp (disch := omega) only [X5_groups_9, X5_groups_33, ↓w_bd, ↓w_rt, ↓w_bh, sm_l, sm_r, ↓w_okr, ↓w_nm, ↓w_ite, ↓reduceIte, not_true_eq_false, not_false_eq_true, and_true, true_and, and_self, Option.some.injEq, reduceCtorEq, eq_self, ↓w_rc, ↓w_gI, ↓w_gR, ↓w_aN, ↓w_aI, ↓w_aR, ↓w_aL, ↓w_pI, ↓w_pR, ↓w_sI, ↓w_sR, ↓w_sL, ↓w_nO, ↓w_nA, ↓w_nL, ↓w_ca, ↓w_ca0, ↓w_gS, ↓w_gK, ↓w_dv, ↓w_tw, ↓w_rz, ↓w_no, nv_lit, nv_f, nv_add, nv_mul, nv_sub, nv_le, nv_lt, nv_eq, nv_cl, Nat.reduceMod, Nat.reduceMul, Nat.reduceAdd, Nat.zero_add, Nat.add_zero, Nat.mul_zero, decide_eq_true_eq, nv_inT, hFb.1, X5_get_w hFb, sh_H hS, X5_one_0, X5_one_1, X1_bit_0, X1_bit_1, ite_not, Nat.not_le.mpr hk2]
      refine X5_groupOf_w hFb hG hS hFs hk2 _ fun b2 hb2 => ?_
      have := (gp_le R k).1
      simp (disch := omega) only [nv_eq]
      split
      · rename_i c
        simp only [c, ↓reduceIte] at ih
        exact ih b2 (hb.tr hb2)
      · rename_i c
        simp only [c, ↓reduceIte] at ih
        exact ih b2 (hb.tr hb2)
  exact l FU 0 (by omega) (by unfold FU; omega) a (Sx.rf G a)
noncomputable def sp1 (R : Nat → Int32) (a b : Nat) : Int32 := if R (15 + 7 * a) = R (15 + 7 * b) then 0 else if kn R a b = 2 then 1 else 0
noncomputable def sp (R : Nat → Int32) : Int32 := su (fun a => su (fun b => sp1 R a b) a) (nH R)
theorem X5_swappable_w {G : Nat → Nat} {a : Hp} {o : Nat} {R : Nat → Int32} (hF : FO G a o R) (hG : GD G) (hS : Sh R) (hFs : Fs R) (Q : Int32 → Hp → Prop) (hk : ∀ b, Sx G a b → Q (sp R) b) : Wp (X5_swappable_9 FU (G 10) 0 0) a Q := by
  have h10 := sh_H10 hS
  have hm : ∀ (k4 : Nat → Int32 → Int32 → Mr Int32) (v : Int32) (m : Nat), m < nH R → (∀ b, Sx G a b → Wp (k4 (G 10) (v + su (fun b => sp1 R m b) m) (nv (m + 1))) b Q) → ∀ b, Sx G a b → Wp (X5_swappable_20 k4 FU (G 10) v (nv m) (nv 0)) b Q := by
    intro k4 v m hm hk
    have l : ∀ (f k : Nat), k ≤ m → m - k < f → ∀ b, Sx G a b → Wp (X5_swappable_20 k4 f (G 10) (v + su (fun b => sp1 R m b) k) (nv m) (nv k)) b Q := by
      refine loopUp _ (m) ?_ ?_
      · intro f b hb
        have hFb := hF.sx hG hb
        simp (disch := omega) only [X5_swappable_20, X5_swappable_55, X5_swappable_56, ↓w_bd, ↓w_rt, ↓w_bh, sm_l, sm_r, ↓w_okr, ↓w_nm, ↓w_ite, ↓reduceIte, not_true_eq_false, not_false_eq_true, and_true, true_and, and_self, Option.some.injEq, reduceCtorEq, eq_self, ↓w_rc, ↓w_gI, ↓w_gR, ↓w_aN, ↓w_aI, ↓w_aR, ↓w_aL, ↓w_pI, ↓w_pR, ↓w_sI, ↓w_sR, ↓w_sL, ↓w_nO, ↓w_nA, ↓w_nL, ↓w_ca, ↓w_ca0, ↓w_gS, ↓w_gK, ↓w_dv, ↓w_tw, ↓w_rz, ↓w_no, nv_lit, nv_f, nv_add, nv_mul, nv_sub, nv_le, nv_lt, nv_eq, nv_cl, Nat.reduceMod, Nat.reduceMul, Nat.reduceAdd, Nat.zero_add, Nat.add_zero, Nat.mul_zero, decide_eq_true_eq, nv_inT, hFb.1, X5_hp_w hFb, X5_one_0, X5_one_1, X1_bit_0, X1_bit_1, ite_not, Nat.add_zero, Nat.le_refl]
        exact hk b hb
      · intro f k hk2 ih b hb
        have hFb := hF.sx hG hb
        simp (disch := omega) only [su, nv_lit, nv_f, nv_add, nv_mul, nv_sub, nv_le, nv_lt, nv_eq, nv_cl, Nat.reduceMod, Nat.reduceMul, Nat.reduceAdd, Nat.zero_add, Nat.add_zero, Nat.mul_zero, decide_eq_true_eq, Int32.add_assoc] at ih
        simp (disch := omega) only [X5_swappable_20, X5_swappable_55, X5_swappable_56, ↓w_bd, ↓w_rt, ↓w_bh, sm_l, sm_r, ↓w_okr, ↓w_nm, ↓w_ite, ↓reduceIte, not_true_eq_false, not_false_eq_true, and_true, true_and, and_self, Option.some.injEq, reduceCtorEq, eq_self, ↓w_rc, ↓w_gI, ↓w_gR, ↓w_aN, ↓w_aI, ↓w_aR, ↓w_aL, ↓w_pI, ↓w_pR, ↓w_sI, ↓w_sR, ↓w_sL, ↓w_nO, ↓w_nA, ↓w_nL, ↓w_ca, ↓w_ca0, ↓w_gS, ↓w_gK, ↓w_dv, ↓w_tw, ↓w_rz, ↓w_no, nv_lit, nv_f, nv_add, nv_mul, nv_sub, nv_le, nv_lt, nv_eq, nv_cl, Nat.reduceMod, Nat.reduceMul, Nat.reduceAdd, Nat.zero_add, Nat.add_zero, Nat.mul_zero, decide_eq_true_eq, nv_inT, hFb.1, X5_hp_w hFb, X5_one_0, X5_one_1, X1_bit_0, X1_bit_1, ite_not, Nat.add_zero, Int32.add_assoc, Nat.not_le.mpr hk2]
        unfold sp1 at ih
        split
        · rename_i c
          rw [if_pos c] at ih
          exact ih b hb
        · rename_i c
          rw [if_neg c] at ih
          refine X5_knownOf_w hFb hG hS hFs hm (by omega) _ fun b2 hb2 => ?_
          split
          · rename_i c2
            rw [if_pos (show kn R m k = 2 from c2)] at ih
            exact ih b2 (hb.tr hb2)
          · rename_i c2
            rw [if_neg (show ¬ kn R m k = 2 from c2)] at ih
            exact ih b2 (hb.tr hb2)
    have := l FU 0 (by omega) (by unfold FU; omega)
    rw [su_0, Int32.add_zero] at this
    exact this
  have l : ∀ (f k : Nat), k ≤ nH R → nH R - k < f → ∀ b, Sx G a b → Wp (X5_swappable_9 f (G 10) (su (fun a => su (fun b => sp1 R a b) a) k) (nv k)) b Q := by
    refine loopUp _ (nH R) ?_ ?_
    · intro f b hb
      have hFb := hF.sx hG hb
      simp (disch := omega) only [X5_swappable_9, ↓w_bd, ↓w_rt, ↓w_bh, sm_l, sm_r, ↓w_okr, ↓w_nm, ↓w_ite, ↓reduceIte, not_true_eq_false, not_false_eq_true, and_true, true_and, and_self, Option.some.injEq, reduceCtorEq, eq_self, ↓w_rc, ↓w_gI, ↓w_gR, ↓w_aN, ↓w_aI, ↓w_aR, ↓w_aL, ↓w_pI, ↓w_pR, ↓w_sI, ↓w_sR, ↓w_sL, ↓w_nO, ↓w_nA, ↓w_nL, ↓w_ca, ↓w_ca0, ↓w_gS, ↓w_gK, ↓w_dv, ↓w_tw, ↓w_rz, ↓w_no, nv_lit, nv_f, nv_add, nv_mul, nv_sub, nv_le, nv_lt, nv_eq, nv_cl, Nat.reduceMod, Nat.reduceMul, Nat.reduceAdd, Nat.zero_add, Nat.add_zero, Nat.mul_zero, decide_eq_true_eq, nv_inT, hFb.1, X5_get_w hFb, sh_H hS, Nat.le_refl]
      exact hk b hb
    · intro f k hk2 ih b hb
      have hFb := hF.sx hG hb
      simp (disch := omega) only [su, nv_lit, nv_f, nv_add, nv_mul, nv_sub, nv_le, nv_lt, nv_eq, nv_cl, Nat.reduceMod, Nat.reduceMul, Nat.reduceAdd, Nat.zero_add, Nat.add_zero, Nat.mul_zero, decide_eq_true_eq] at ih
      simp (disch := omega) only [X5_swappable_9, ↓w_bd, ↓w_rt, ↓w_bh, sm_l, sm_r, ↓w_okr, ↓w_nm, ↓w_ite, ↓reduceIte, not_true_eq_false, not_false_eq_true, and_true, true_and, and_self, Option.some.injEq, reduceCtorEq, eq_self, ↓w_rc, ↓w_gI, ↓w_gR, ↓w_aN, ↓w_aI, ↓w_aR, ↓w_aL, ↓w_pI, ↓w_pR, ↓w_sI, ↓w_sR, ↓w_sL, ↓w_nO, ↓w_nA, ↓w_nL, ↓w_ca, ↓w_ca0, ↓w_gS, ↓w_gK, ↓w_dv, ↓w_tw, ↓w_rz, ↓w_no, nv_lit, nv_f, nv_add, nv_mul, nv_sub, nv_le, nv_lt, nv_eq, nv_cl, Nat.reduceMod, Nat.reduceMul, Nat.reduceAdd, Nat.zero_add, Nat.add_zero, Nat.mul_zero, decide_eq_true_eq, nv_inT, hFb.1, X5_get_w hFb, sh_H hS, Nat.not_le.mpr hk2]
      exact hm _ _ k hk2 ih b hb
  exact l FU 0 (by omega) (by unfold FU; omega) a (Sx.rf G a)
noncomputable def up_ (R : Nat → Int32) (t : Int32) (a b : Nat) : Int32 := if R (15 + 7 * a) = t then (if R (15 + 7 * b) = t then 0 else if sz R a = sz R b then (if kn R a b = 2 then 0 else 1) else 0) else 0
noncomputable def up (R : Nat → Int32) (t : Int32) : Int32 := su (fun a => su (fun b => up_ R t a b) (nH R)) (nH R)
theorem X5_unproved_24_w {G : Nat → Nat} {a : Hp} {o : Nat} {R : Nat → Int32} (hF : FO G a o R) (hG : GD G) (hS : Sh R) (hFs : Fs R) (t : Int32) (Q : Int32 → Hp → Prop) (hk : ∀ b, Sx G a b → Q (up R t) b) : Wp (X5_unproved_24 FU (G 10) t 0 0) a Q := by
  have h10 := sh_H10 hS
  have hm : ∀ (k4 : Nat → Int32 → Int32 → Int32 → Mr Int32) (v : Int32) (m : Nat), m < nH R → (∀ b, Sx G a b → Wp (k4 (G 10) t (v + su (fun b => up_ R t m b) (nH R)) (nv (m + 1))) b Q) → ∀ b, Sx G a b → Wp (X5_unproved_36 k4 FU (G 10) t v (nv m) (nv 0)) b Q := by
    intro k4 v m hm hk
    have l : ∀ (f k : Nat), k ≤ nH R → nH R - k < f → ∀ b, Sx G a b → Wp (X5_unproved_36 k4 f (G 10) t (v + su (fun b => up_ R t m b) k) (nv m) (nv k)) b Q := by
      refine loopUp _ (nH R) ?_ ?_
      · intro f b hb
        have hFb := hF.sx hG hb
        simp (disch := omega) only [X5_unproved_36, X5_unproved_97, X5_unproved_98, ↓w_bd, ↓w_rt, ↓w_bh, sm_l, sm_r, ↓w_okr, ↓w_nm, ↓w_ite, ↓reduceIte, not_true_eq_false, not_false_eq_true, and_true, true_and, and_self, Option.some.injEq, reduceCtorEq, eq_self, ↓w_rc, ↓w_gI, ↓w_gR, ↓w_aN, ↓w_aI, ↓w_aR, ↓w_aL, ↓w_pI, ↓w_pR, ↓w_sI, ↓w_sR, ↓w_sL, ↓w_nO, ↓w_nA, ↓w_nL, ↓w_ca, ↓w_ca0, ↓w_gS, ↓w_gK, ↓w_dv, ↓w_tw, ↓w_rz, ↓w_no, nv_lit, nv_f, nv_add, nv_mul, nv_sub, nv_le, nv_lt, nv_eq, nv_cl, Nat.reduceMod, Nat.reduceMul, Nat.reduceAdd, Nat.zero_add, Nat.add_zero, Nat.mul_zero, decide_eq_true_eq, nv_inT, hFb.1, X5_hp_w hFb, X5_get_w hFb, sh_H hS, X5_sizeOf_w hFb hS, X5_one_0, X5_one_1, X1_bit_0, X1_bit_1, ite_not, Nat.add_zero, Nat.le_refl]
        exact hk b hb
      · intro f k hk2 ih b hb
        have hFb := hF.sx hG hb
        simp (disch := omega) only [su, nv_lit, nv_f, nv_add, nv_mul, nv_sub, nv_le, nv_lt, nv_eq, nv_cl, Nat.reduceMod, Nat.reduceMul, Nat.reduceAdd, Nat.zero_add, Nat.add_zero, Nat.mul_zero, decide_eq_true_eq, Int32.add_assoc] at ih
        simp (disch := omega) only [X5_unproved_36, X5_unproved_97, X5_unproved_98, ↓w_bd, ↓w_rt, ↓w_bh, sm_l, sm_r, ↓w_okr, ↓w_nm, ↓w_ite, ↓reduceIte, not_true_eq_false, not_false_eq_true, and_true, true_and, and_self, Option.some.injEq, reduceCtorEq, eq_self, ↓w_rc, ↓w_gI, ↓w_gR, ↓w_aN, ↓w_aI, ↓w_aR, ↓w_aL, ↓w_pI, ↓w_pR, ↓w_sI, ↓w_sR, ↓w_sL, ↓w_nO, ↓w_nA, ↓w_nL, ↓w_ca, ↓w_ca0, ↓w_gS, ↓w_gK, ↓w_dv, ↓w_tw, ↓w_rz, ↓w_no, nv_lit, nv_f, nv_add, nv_mul, nv_sub, nv_le, nv_lt, nv_eq, nv_cl, Nat.reduceMod, Nat.reduceMul, Nat.reduceAdd, Nat.zero_add, Nat.add_zero, Nat.mul_zero, decide_eq_true_eq, nv_inT, hFb.1, X5_hp_w hFb, X5_get_w hFb, sh_H hS, X5_sizeOf_w hFb hS, X5_one_0, X5_one_1, X1_bit_0, X1_bit_1, ite_not, Nat.add_zero, Int32.add_assoc, Nat.not_le.mpr hk2]
        unfold up_ at ih
        split
        · rename_i c
          rw [if_pos c] at ih
          split
          · rename_i c1
            rw [if_pos c1] at ih
            exact ih b hb
          · rename_i c1
            rw [if_neg c1] at ih
            split
            · rename_i c3
              rw [if_pos c3] at ih
              refine X5_knownOf_w hFb hG hS hFs hm hk2 _ fun b2 hb2 => ?_
              split
              · rename_i c2
                rw [if_pos (show kn R m k = 2 from c2)] at ih
                exact ih b2 (hb.tr hb2)
              · rename_i c2
                rw [if_neg (show ¬ kn R m k = 2 from c2)] at ih
                exact ih b2 (hb.tr hb2)
            · rename_i c3
              rw [if_neg c3] at ih
              exact ih b hb
        · rename_i c
          rw [if_neg c] at ih
          exact ih b hb
    have := l FU 0 (by omega) (by unfold FU; omega)
    rw [su_0, Int32.add_zero] at this
    exact this
  have l : ∀ (f k : Nat), k ≤ nH R → nH R - k < f → ∀ b, Sx G a b → Wp (X5_unproved_24 f (G 10) t (su (fun a => su (fun b => up_ R t a b) (nH R)) k) (nv k)) b Q := by
    refine loopUp _ (nH R) ?_ ?_
    · intro f b hb
      have hFb := hF.sx hG hb
      simp (disch := omega) only [X5_unproved_24, ↓w_bd, ↓w_rt, ↓w_bh, sm_l, sm_r, ↓w_okr, ↓w_nm, ↓w_ite, ↓reduceIte, not_true_eq_false, not_false_eq_true, and_true, true_and, and_self, Option.some.injEq, reduceCtorEq, eq_self, ↓w_rc, ↓w_gI, ↓w_gR, ↓w_aN, ↓w_aI, ↓w_aR, ↓w_aL, ↓w_pI, ↓w_pR, ↓w_sI, ↓w_sR, ↓w_sL, ↓w_nO, ↓w_nA, ↓w_nL, ↓w_ca, ↓w_ca0, ↓w_gS, ↓w_gK, ↓w_dv, ↓w_tw, ↓w_rz, ↓w_no, nv_lit, nv_f, nv_add, nv_mul, nv_sub, nv_le, nv_lt, nv_eq, nv_cl, Nat.reduceMod, Nat.reduceMul, Nat.reduceAdd, Nat.zero_add, Nat.add_zero, Nat.mul_zero, decide_eq_true_eq, nv_inT, hFb.1, X5_get_w hFb, sh_H hS, Nat.le_refl]
      exact hk b hb
    · intro f k hk2 ih b hb
      have hFb := hF.sx hG hb
      simp (disch := omega) only [su, nv_lit, nv_f, nv_add, nv_mul, nv_sub, nv_le, nv_lt, nv_eq, nv_cl, Nat.reduceMod, Nat.reduceMul, Nat.reduceAdd, Nat.zero_add, Nat.add_zero, Nat.mul_zero, decide_eq_true_eq] at ih
      simp (disch := omega) only [X5_unproved_24, ↓w_bd, ↓w_rt, ↓w_bh, sm_l, sm_r, ↓w_okr, ↓w_nm, ↓w_ite, ↓reduceIte, not_true_eq_false, not_false_eq_true, and_true, true_and, and_self, Option.some.injEq, reduceCtorEq, eq_self, ↓w_rc, ↓w_gI, ↓w_gR, ↓w_aN, ↓w_aI, ↓w_aR, ↓w_aL, ↓w_pI, ↓w_pR, ↓w_sI, ↓w_sR, ↓w_sL, ↓w_nO, ↓w_nA, ↓w_nL, ↓w_ca, ↓w_ca0, ↓w_gS, ↓w_gK, ↓w_dv, ↓w_tw, ↓w_rz, ↓w_no, nv_lit, nv_f, nv_add, nv_mul, nv_sub, nv_le, nv_lt, nv_eq, nv_cl, Nat.reduceMod, Nat.reduceMul, Nat.reduceAdd, Nat.zero_add, Nat.add_zero, Nat.mul_zero, decide_eq_true_eq, nv_inT, hFb.1, X5_get_w hFb, sh_H hS, Nat.not_le.mpr hk2]
      exact hm _ _ k hk2 ih b hb
  exact l FU 0 (by omega) (by unfold FU; omega) a (Sx.rf G a)
/-- what is wrong: too much paired in open claims (facts and what is known are true) -/
def ga (R : Nat → Int32) : Int32 := su (fun c => if cs R c 4 = 0 then op R c else 0) (nC R)
theorem su_zero : ∀ (n : Nat), su (fun _ => 0) n = 0
  | 0 => rfl
  | n + 1 => by rw [su, su_zero n]; rfl
theorem X5_gap_9_w {G : Nat → Nat} {a : Hp} {o : Nat} {R : Nat → Int32} (hF : FO G a o R) (hG : GD G) (hS : Sh R) (hFs : Fs R) (Q : Int32 → Hp → Prop) (hk : ∀ b, Sx G a b → Q (ga R) b) : Wp (X5_gap_9 FU (G 10) 0 0) a Q := by
  have h10 := sh_H10 hS
  have h20 := sh_C20 hS
  have tail : ∀ b, Sx G a b → Wp (X5_gap_111 FU (G 10) (nv 0) (nv 0)) b Q := by
    have l : ∀ (f k : Nat), k ≤ nC R → nC R - k < f → ∀ b, Sx G a b → Wp (X5_gap_111 f (G 10) (su (fun c => if cs R c 4 = 0 then op R c else 0) k) (nv k)) b Q := by
      refine loopUp _ (nC R) ?_ ?_
      · intro f b hb
        have hFb := hF.sx hG hb
        simp (disch := omega) only [X5_gap_111, ↓w_bd, ↓w_rt, ↓w_bh, sm_l, sm_r, ↓w_okr, ↓w_nm, ↓w_ite, ↓reduceIte, not_true_eq_false, not_false_eq_true, and_true, true_and, and_self, Option.some.injEq, reduceCtorEq, eq_self, ↓w_rc, ↓w_gI, ↓w_gR, ↓w_aN, ↓w_aI, ↓w_aR, ↓w_aL, ↓w_pI, ↓w_pR, ↓w_sI, ↓w_sR, ↓w_sL, ↓w_nO, ↓w_nA, ↓w_nL, ↓w_ca, ↓w_ca0, ↓w_gS, ↓w_gK, ↓w_dv, ↓w_tw, ↓w_rz, ↓w_no, nv_lit, nv_f, nv_add, nv_mul, nv_sub, nv_le, nv_lt, nv_eq, nv_cl, Nat.reduceMod, Nat.reduceMul, Nat.reduceAdd, Nat.zero_add, Nat.add_zero, Nat.mul_zero, decide_eq_true_eq, nv_inT, hFb.1, X5_get_w hFb, sh_C hS, Nat.le_refl]
        exact hk b hb
      · intro f k hk2 ih b hb
        have hFb := hF.sx hG hb
        by_cases c : cs R k 4 = nv 0
        · rw [su, if_pos (show cs R k 4 = 0 from c)] at ih
          simp (disch := omega) only [X5_gap_111, X5_gap_138, ↓w_bd, ↓w_rt, ↓w_bh, sm_l, sm_r, ↓w_okr, ↓w_nm, ↓w_ite, ↓reduceIte, not_true_eq_false, not_false_eq_true, and_true, true_and, and_self, Option.some.injEq, reduceCtorEq, eq_self, ↓w_rc, ↓w_gI, ↓w_gR, ↓w_aN, ↓w_aI, ↓w_aR, ↓w_aL, ↓w_pI, ↓w_pR, ↓w_sI, ↓w_sR, ↓w_sL, ↓w_nO, ↓w_nA, ↓w_nL, ↓w_ca, ↓w_ca0, ↓w_gS, ↓w_gK, ↓w_dv, ↓w_tw, ↓w_rz, ↓w_no, nv_lit, nv_f, nv_add, nv_mul, nv_sub, nv_le, nv_lt, nv_eq, nv_cl, Nat.reduceMod, Nat.reduceMul, Nat.reduceAdd, Nat.zero_add, Nat.add_zero, Nat.mul_zero, decide_eq_true_eq, nv_inT, hFb.1, X5_get_w hFb, sh_C hS, Nat.not_le.mpr hk2, X5_isOpen_1 hFb (c := k) (by omega) c, i1z, X5_overPaired_w hFb hS, show ¬ nv 1 = nv 0 by decide]
          exact ih b hb
        · rw [su, if_neg (show ¬ cs R k 4 = 0 from c)] at ih
          simp (disch := omega) only [X5_gap_111, X5_gap_138, ↓w_bd, ↓w_rt, ↓w_bh, sm_l, sm_r, ↓w_okr, ↓w_nm, ↓w_ite, ↓reduceIte, not_true_eq_false, not_false_eq_true, and_true, true_and, and_self, Option.some.injEq, reduceCtorEq, eq_self, ↓w_rc, ↓w_gI, ↓w_gR, ↓w_aN, ↓w_aI, ↓w_aR, ↓w_aL, ↓w_pI, ↓w_pR, ↓w_sI, ↓w_sR, ↓w_sL, ↓w_nO, ↓w_nA, ↓w_nL, ↓w_ca, ↓w_ca0, ↓w_gS, ↓w_gK, ↓w_dv, ↓w_tw, ↓w_rz, ↓w_no, nv_lit, nv_f, nv_add, nv_mul, nv_sub, nv_le, nv_lt, nv_eq, nv_cl, Nat.reduceMod, Nat.reduceMul, Nat.reduceAdd, Nat.zero_add, Nat.add_zero, Nat.mul_zero, decide_eq_true_eq, nv_inT, hFb.1, X5_get_w hFb, sh_C hS, Nat.not_le.mpr hk2, X5_isOpen_0 hFb (c := k) (by omega) c]
          exact ih b hb
    exact l FU 0 (by omega) (by unfold FU; omega)
  have hm : ∀ (k4 : Nat → Int32 → Int32 → Mr Int32) (m : Nat), m < nH R → (∀ b, Sx G a b → Wp (k4 (G 10) (nv 0) (nv (m + 1))) b Q) → ∀ b, Sx G a b → Wp (X5_gap_20 k4 FU (G 10) (nv 0) (nv m) (nv 0)) b Q := by
    intro k4 m hm hk
    have l : ∀ (f k : Nat), k ≤ m → m - k < f → ∀ b, Sx G a b → Wp (X5_gap_20 k4 f (G 10) (nv 0) (nv m) (nv k)) b Q := by
      refine loopUp _ m ?_ ?_
      · intro f b hb
        have hFb := hF.sx hG hb
        simp (disch := omega) only [X5_gap_20, ↓w_bd, ↓w_rt, ↓w_bh, sm_l, sm_r, ↓w_okr, ↓w_nm, ↓w_ite, ↓reduceIte, not_true_eq_false, not_false_eq_true, and_true, true_and, and_self, Option.some.injEq, reduceCtorEq, eq_self, ↓w_rc, ↓w_gI, ↓w_gR, ↓w_aN, ↓w_aI, ↓w_aR, ↓w_aL, ↓w_pI, ↓w_pR, ↓w_sI, ↓w_sR, ↓w_sL, ↓w_nO, ↓w_nA, ↓w_nL, ↓w_ca, ↓w_ca0, ↓w_gS, ↓w_gK, ↓w_dv, ↓w_tw, ↓w_rz, ↓w_no, nv_lit, nv_f, nv_add, nv_mul, nv_sub, nv_le, nv_lt, nv_eq, nv_cl, Nat.reduceMod, Nat.reduceMul, Nat.reduceAdd, Nat.zero_add, Nat.add_zero, Nat.mul_zero, decide_eq_true_eq, nv_inT, Nat.le_refl]
        exact hk b hb
      · intro f k hk2 ih b hb
        have hFb := hF.sx hG hb
        have knw : ∀ b2, Sx G b b2 → Wp (X5_knownOf (G 10) (nv m) (nv k)) b2 (fun x b2 => if x = -nv 1 then Wp (X5_gap_20 k4 f (G 10) (nv 0) (nv m) (nv (k + 1))) b2 Q else hK b2 (G 10) % 100 = 5 ∧ Wp (X5_knownOf (G 10) (nv m) (nv k)) b2 fun x b => hK b (G 10) % 100 = 5 ∧ Wp (X5_wordBySize (G 10) (nv m) (nv k)) b fun x_1 b => if x = x_1 then Wp (X5_gap_20 k4 f (G 10) (nv 0) (nv m) (nv (k + 1))) b Q else Wp (X5_gap_20 k4 f (G 10) (nv 1) (nv m) (nv (k + 1))) b Q) := by
          intro b2 hb2
          have hFb2 := hFb.sx hG hb2
          refine X5_knownOf_w hFb2 hG hS hFs hm (by omega) _ fun b3 hb3 => ?_
          have hFb3 := hFb2.sx hG hb3
          split
          · exact ih b3 ((hb.tr hb2).tr hb3)
          · rename_i c
            refine ⟨by rw [hFb3.1.1.1], ?_⟩
            refine X5_knownOf_w hFb3 hG hS hFs hm (by omega) _ fun b4 hb4 => ?_
            have hFb4 := hFb3.sx hG hb4
            refine ⟨by rw [hFb4.1.1.1], ?_⟩
            rw [X5_wordBySize_w hFb4 hS hm (by omega)]
            rcases kn_ws hFs h10 hm (show k < nH R by omega) with e | e
            · exact absurd e c
            · rw [if_pos e]
              exact ih b4 (((hb.tr hb2).tr hb3).tr hb4)
        simp (disch := omega) only [X5_gap_20, X5_gap_55, X5_gap_56, X5_gap_91, X5_gap_92, ↓w_bd, ↓w_rt, ↓w_bh, sm_l, sm_r, ↓w_okr, ↓w_nm, ↓w_ite, ↓reduceIte, not_true_eq_false, not_false_eq_true, and_true, true_and, and_self, Option.some.injEq, reduceCtorEq, eq_self, ↓w_rc, ↓w_gI, ↓w_gR, ↓w_aN, ↓w_aI, ↓w_aR, ↓w_aL, ↓w_pI, ↓w_pR, ↓w_sI, ↓w_sR, ↓w_sL, ↓w_nO, ↓w_nA, ↓w_nL, ↓w_ca, ↓w_ca0, ↓w_gS, ↓w_gK, ↓w_dv, ↓w_tw, ↓w_rz, ↓w_no, nv_lit, nv_f, nv_add, nv_mul, nv_sub, nv_le, nv_lt, nv_eq, nv_cl, Nat.reduceMod, Nat.reduceMul, Nat.reduceAdd, Nat.zero_add, Nat.add_zero, Nat.mul_zero, decide_eq_true_eq, nv_inT, hFb.1, Nat.not_le.mpr hk2, X5_factOf_w hFb, X5_one_0, X5_one_1, X1_bit_0, X1_bit_1, ite_not, X5_wordBySize_w hFb hS]
        rcases hFs m k (by omega) (by omega) with e | ⟨-, -, -, e, -⟩
        · rw [if_pos (show fc R m k = -nv 1 from e)]
          exact knw b (Sx.rf G b)
        · rw [if_neg (show ¬ fc R m k = -nv 1 from Fs.ne e), if_pos e]
          exact knw b (Sx.rf G b)
    exact l FU 0 (by omega) (by unfold FU; omega)
  have l : ∀ (f k : Nat), k ≤ nH R → nH R - k < f → ∀ b, Sx G a b → Wp (X5_gap_9 f (G 10) (nv 0) (nv k)) b Q := by
    refine loopUp _ (nH R) ?_ ?_
    · intro f b hb
      have hFb := hF.sx hG hb
      simp (disch := omega) only [X5_gap_9, ↓w_bd, ↓w_rt, ↓w_bh, sm_l, sm_r, ↓w_okr, ↓w_nm, ↓w_ite, ↓reduceIte, not_true_eq_false, not_false_eq_true, and_true, true_and, and_self, Option.some.injEq, reduceCtorEq, eq_self, ↓w_rc, ↓w_gI, ↓w_gR, ↓w_aN, ↓w_aI, ↓w_aR, ↓w_aL, ↓w_pI, ↓w_pR, ↓w_sI, ↓w_sR, ↓w_sL, ↓w_nO, ↓w_nA, ↓w_nL, ↓w_ca, ↓w_ca0, ↓w_gS, ↓w_gK, ↓w_dv, ↓w_tw, ↓w_rz, ↓w_no, nv_lit, nv_f, nv_add, nv_mul, nv_sub, nv_le, nv_lt, nv_eq, nv_cl, Nat.reduceMod, Nat.reduceMul, Nat.reduceAdd, Nat.zero_add, Nat.add_zero, Nat.mul_zero, decide_eq_true_eq, nv_inT, hFb.1, X5_get_w hFb, sh_H hS, Nat.le_refl]
      exact tail b hb
    · intro f k hk2 ih b hb
      have hFb := hF.sx hG hb
      simp (disch := omega) only [X5_gap_9, ↓w_bd, ↓w_rt, ↓w_bh, sm_l, sm_r, ↓w_okr, ↓w_nm, ↓w_ite, ↓reduceIte, not_true_eq_false, not_false_eq_true, and_true, true_and, and_self, Option.some.injEq, reduceCtorEq, eq_self, ↓w_rc, ↓w_gI, ↓w_gR, ↓w_aN, ↓w_aI, ↓w_aR, ↓w_aL, ↓w_pI, ↓w_pR, ↓w_sI, ↓w_sR, ↓w_sL, ↓w_nO, ↓w_nA, ↓w_nL, ↓w_ca, ↓w_ca0, ↓w_gS, ↓w_gK, ↓w_dv, ↓w_tw, ↓w_rz, ↓w_no, nv_lit, nv_f, nv_add, nv_mul, nv_sub, nv_le, nv_lt, nv_eq, nv_cl, Nat.reduceMod, Nat.reduceMul, Nat.reduceAdd, Nat.zero_add, Nat.add_zero, Nat.mul_zero, decide_eq_true_eq, nv_inT, hFb.1, X5_get_w hFb, sh_H hS, Nat.not_le.mpr hk2]
      exact hm _ k hk2 ih b hb
  exact l FU 0 (by omega) (by unfold FU; omega) a (Sx.rf G a)
