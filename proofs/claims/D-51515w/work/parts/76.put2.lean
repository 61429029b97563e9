theorem X5_changes_49_w {G : Nat → Nat} {a d : Hp} {R R0 : Nat → Int32} (hG : GD G) (hF : FO G a 0 R0) (h : Tn G a d R) (hS : Sh R) {k : Nat} (hk : k < 10) (h10' : ∀ c, c < nC R → cs R c 4 = 0 → (su (fun r => cs R c (8 + r)) 10 ≤ nv 0) = (su (fun r => cs R c (8 + r)) 5 ≤ nv 0)) (Q : Unit → Hp → Prop)
    (kk : ∀ d', Tn G a d' (bg R k (nC R)) → Q () d') : Wp (X5_changes_49 FU (G 10) (nv k) (nv 0)) d Q := by
  have h10 := sh_H10 hS
  have h20 := sh_C20 hS
  have l : ∀ (f j : Nat), j ≤ nC R → nC R - j < f → ∀ d, Tn G a d (bg R k j) → Wp (X5_changes_49 f (G 10) (nv k) (nv j)) d Q := by
    refine loopUp _ (nC R) ?_ ?_
    · intro f d hd
      have f0 := hd.fo hF
      have ss := bg_ss h10 k (nC R)
      have e3 : bg R k (nC R) 3 = nv (nC R) := ss.2.2.1.trans (sh_C hS)
      simp (disch := omega) only [X5_changes_49, ↓w_bd, ↓w_rt, ↓w_bh, sm_l, sm_r, ↓w_okr, ↓w_nm, ↓w_ite, ↓reduceIte, not_true_eq_false, not_false_eq_true, and_true, true_and, and_self, Option.some.injEq, reduceCtorEq, eq_self, ↓w_rc, ↓w_gI, ↓w_gR, ↓w_aN, ↓w_aI, ↓w_aR, ↓w_aL, ↓w_pI, ↓w_pR, ↓w_sI, ↓w_sR, ↓w_sL, ↓w_nO, ↓w_nA, ↓w_nL, ↓w_ca, ↓w_ca0, ↓w_gS, ↓w_gK, ↓w_dv, ↓w_tw, ↓w_rz, ↓w_no, nv_lit, nv_f, nv_add, nv_mul, nv_sub, nv_le, nv_lt, nv_eq, nv_cl, Nat.reduceMod, Nat.reduceMul, Nat.reduceAdd, Nat.zero_add, Nat.add_zero, Nat.mul_zero, decide_eq_true_eq, nv_inT, f0.1, X5_get_w f0, e3, Nat.le_refl]
      exact kk d hd
    · intro f j hj ih d hd
      have f0 := hd.fo hF
      have ss := bg_ss h10 k j
      have e3 : bg R k j 3 = nv (nC R) := ss.2.2.1.trans (sh_C hS)
      have hj1 : j < nC (bg R k j) := by rw [ss.C]; exact hj
      obtain ⟨i1, i2, -, i4⟩ := bg_iv R k j
      have hS2 : Sh (bg R k j) := ss.sh hS fun x hx => ⟨ow R x, sh_OT hS hx, by rw [i1 _ (by omega) (by omega)]; exact sh_O hS hx⟩
      have h10b := sh_H10 hS2
      have sh0 := sh_SH hS2 hj1 (show 0 < 2 by omega)
      have sh1 := sh_SH hS2 hj1 (show 1 < 2 by omega)
      by_cases e4 : cs (bg R k j) j 4 = nv 0
      · have e10 : (su (fun r => cs (bg R k j) j (8 + r)) 10 ≤ nv 0) = (su (fun r => cs (bg R k j) j (8 + r)) 5 ≤ nv 0) := by
          have u : ∀ n, n ≤ 10 → su (fun r => cs (bg R k j) j (8 + r)) n = su (fun r => cs R j (8 + r)) n := fun n hn => su_cg fun r hr => i4 j (8 + r) (by omega) (by omega) (by omega)
          rw [u 10 (by omega), u 5 (by omega)]
          exact h10' j hj (by rw [← i2 j 4 (by omega)]; exact e4)
        by_cases w0 : sd (bg R k j) j 0 = k
        · have en : bg R k (j + 1) = ba (bg R k j) j := if_pos ⟨e4, .inl w0⟩
          rw [en] at ih
          simp (disch := omega) only [X5_changes_49, X5_changes_86, X5_changes_91, ↓w_bd, ↓w_rt, ↓w_bh, sm_l, sm_r, ↓w_okr, ↓w_nm, ↓w_ite, ↓reduceIte, not_true_eq_false, not_false_eq_true, and_true, true_and, and_self, Option.some.injEq, reduceCtorEq, eq_self, ↓w_rc, ↓w_gI, ↓w_gR, ↓w_aN, ↓w_aI, ↓w_aR, ↓w_aL, ↓w_pI, ↓w_pR, ↓w_sI, ↓w_sR, ↓w_sL, ↓w_nO, ↓w_nA, ↓w_nL, ↓w_ca, ↓w_ca0, ↓w_gS, ↓w_gK, ↓w_dv, ↓w_tw, ↓w_rz, ↓w_no, nv_lit, nv_f, nv_add, nv_mul, nv_sub, nv_le, nv_lt, nv_eq, nv_cl, Nat.reduceMod, Nat.reduceMul, Nat.reduceAdd, Nat.zero_add, Nat.add_zero, Nat.mul_zero, decide_eq_true_eq, nv_inT, f0.1, X5_get_w f0, e3, Nat.not_le.mpr hj, X5_isOpen_1 f0 (show j < 20 by omega) e4, n10, X5_sideOf_w f0 hS2, w0]
          refine X5_beginsAnew_w hG hF hd (by omega) e10 _ fun d' hd' => ?_
          exact ih d' hd'
        · by_cases w1 : sd (bg R k j) j 1 = k
          · have en : bg R k (j + 1) = ba (bg R k j) j := if_pos ⟨e4, .inr w1⟩
            rw [en] at ih
            simp (disch := omega) only [X5_changes_49, X5_changes_86, X5_changes_91, ↓w_bd, ↓w_rt, ↓w_bh, sm_l, sm_r, ↓w_okr, ↓w_nm, ↓w_ite, ↓reduceIte, not_true_eq_false, not_false_eq_true, and_true, true_and, and_self, Option.some.injEq, reduceCtorEq, eq_self, ↓w_rc, ↓w_gI, ↓w_gR, ↓w_aN, ↓w_aI, ↓w_aR, ↓w_aL, ↓w_pI, ↓w_pR, ↓w_sI, ↓w_sR, ↓w_sL, ↓w_nO, ↓w_nA, ↓w_nL, ↓w_ca, ↓w_ca0, ↓w_gS, ↓w_gK, ↓w_dv, ↓w_tw, ↓w_rz, ↓w_no, nv_lit, nv_f, nv_add, nv_mul, nv_sub, nv_le, nv_lt, nv_eq, nv_cl, Nat.reduceMod, Nat.reduceMul, Nat.reduceAdd, Nat.zero_add, Nat.add_zero, Nat.mul_zero, decide_eq_true_eq, nv_inT, f0.1, X5_get_w f0, e3, Nat.not_le.mpr hj, X5_isOpen_1 f0 (show j < 20 by omega) e4, n10, X5_sideOf_w f0 hS2, w0, w1]
            refine X5_beginsAnew_w hG hF hd (by omega) e10 _ fun d' hd' => ?_
            exact ih d' hd'
          · have en : bg R k (j + 1) = bg R k j := if_neg (fun e => e.2.elim w0 w1)
            rw [en] at ih
            simp (disch := omega) only [X5_changes_49, X5_changes_86, X5_changes_91, ↓w_bd, ↓w_rt, ↓w_bh, sm_l, sm_r, ↓w_okr, ↓w_nm, ↓w_ite, ↓reduceIte, not_true_eq_false, not_false_eq_true, and_true, true_and, and_self, Option.some.injEq, reduceCtorEq, eq_self, ↓w_rc, ↓w_gI, ↓w_gR, ↓w_aN, ↓w_aI, ↓w_aR, ↓w_aL, ↓w_pI, ↓w_pR, ↓w_sI, ↓w_sR, ↓w_sL, ↓w_nO, ↓w_nA, ↓w_nL, ↓w_ca, ↓w_ca0, ↓w_gS, ↓w_gK, ↓w_dv, ↓w_tw, ↓w_rz, ↓w_no, nv_lit, nv_f, nv_add, nv_mul, nv_sub, nv_le, nv_lt, nv_eq, nv_cl, Nat.reduceMod, Nat.reduceMul, Nat.reduceAdd, Nat.zero_add, Nat.add_zero, Nat.mul_zero, decide_eq_true_eq, nv_inT, f0.1, X5_get_w f0, e3, Nat.not_le.mpr hj, X5_isOpen_1 f0 (show j < 20 by omega) e4, n10, X5_sideOf_w f0 hS2, w0, w1]
            exact ih d hd
      · have en : bg R k (j + 1) = bg R k j := if_neg (fun e => e4 e.1)
        rw [en] at ih
        simp (disch := omega) only [X5_changes_49, X5_changes_91, ↓w_bd, ↓w_rt, ↓w_bh, sm_l, sm_r, ↓w_okr, ↓w_nm, ↓w_ite, ↓reduceIte, not_true_eq_false, not_false_eq_true, and_true, true_and, and_self, Option.some.injEq, reduceCtorEq, eq_self, ↓w_rc, ↓w_gI, ↓w_gR, ↓w_aN, ↓w_aI, ↓w_aR, ↓w_aL, ↓w_pI, ↓w_pR, ↓w_sI, ↓w_sR, ↓w_sL, ↓w_nO, ↓w_nA, ↓w_nL, ↓w_ca, ↓w_ca0, ↓w_gS, ↓w_gK, ↓w_dv, ↓w_tw, ↓w_rz, ↓w_no, nv_lit, nv_f, nv_add, nv_mul, nv_sub, nv_le, nv_lt, nv_eq, nv_cl, Nat.reduceMod, Nat.reduceMul, Nat.reduceAdd, Nat.zero_add, Nat.add_zero, Nat.mul_zero, decide_eq_true_eq, nv_inT, f0.1, X5_get_w f0, e3, Nat.not_le.mpr hj, X5_isOpen_0 f0 (show j < 20 by omega) e4]
        exact ih d hd
  exact l FU 0 (by omega) (by unfold FU; omega) d h
theorem cf_all {R : Nat → Int32} {k n : Nat} (hk : k < 10) (hn : n ≤ 10) (h : ∀ y, n ≤ y → y < 10 → fc R k y = -nv 1 ∧ fc R y k = -nv 1) : cf R k n = cf R k 10 := by
  funext i
  unfold cf
  by_cases c : (85 + 10 * k ≤ i ∧ i < 85 + 10 * k + n) ∨ (85 + k ≤ i ∧ i < 85 + k + 10 * n ∧ (i - 85 - k) % 10 = 0)
  · rw [if_pos c, if_pos (by omega)]
  · rw [if_neg c]
    by_cases d : (85 + 10 * k ≤ i ∧ i < 85 + 10 * k + 10) ∨ (85 + k ≤ i ∧ i < 85 + k + 10 * 10 ∧ (i - 85 - k) % 10 = 0)
    · rw [if_pos d]
      rcases d with d | d
      · have := (h (i - 85 - 10 * k) (by omega) (by omega)).1
        unfold fc at this
        rwa [show 85 + 10 * k + (i - 85 - 10 * k) = i by omega] at this
      · have := (h ((i - 85 - k) / 10) (by omega) (by omega)).2
        unfold fc at this
        rwa [show 85 + 10 * ((i - 85 - k) / 10) + k = i by omega] at this
    · rw [if_neg d]
theorem X5_changes_w {G : Nat → Nat} {a d : Hp} {P R0 : Nat → Int32} (hG : GD G) (hF : FO G a 0 R0) (h : Tn G a d P) {k : Nat} (hk : k < nH P) (h1 : P 1 = nv (nH P)) (h10 : nH P ≤ 10) (hf : ∀ y, nH P ≤ y → y < 10 → fc P k y = -nv 1 ∧ fc P y k = -nv 1) (Q : Unit → Hp → Prop)
    (kk : ∀ d', Tn G a d' (cf (up1 P 6 (P 6 + fw P k)) k 10) → Wp (X5_changes_49 FU (G 10) (nv k) (nv 0)) d' Q) : Wp (X5_changes (G 10) (nv k)) d Q := by
  have l : ∀ (f j : Nat), j ≤ nH P → nH P - j < f → ∀ d, Tn G a d (up1 (cf P k j) 6 (P 6 + su (fun y => if fc P k y = -nv 1 then nv 0 else nv 1) j)) → Wp (X5_changes_2 f (G 10) (nv k) (nv j)) d Q := by
    refine loopUp _ (nH P) ?_ ?_
    · intro f d hd
      have f0 := hd.fo hF
      have e1 : up1 (cf P k (nH P)) 6 (P 6 + su (fun y => if fc P k y = -nv 1 then nv 0 else nv 1) (nH P)) 1 = nv (nH P) := by
        rw [up1_o _ _ _ (by omega), cf_o P (by omega) h10 (by omega), h1]
      simp (disch := omega) only [X5_changes_2, ↓w_bd, ↓w_rt, ↓w_bh, sm_l, sm_r, ↓w_okr, ↓w_nm, ↓w_ite, ↓reduceIte, not_true_eq_false, not_false_eq_true, and_true, true_and, and_self, Option.some.injEq, reduceCtorEq, eq_self, ↓w_rc, ↓w_gI, ↓w_gR, ↓w_aN, ↓w_aI, ↓w_aR, ↓w_aL, ↓w_pI, ↓w_pR, ↓w_sI, ↓w_sR, ↓w_sL, ↓w_nO, ↓w_nA, ↓w_nL, ↓w_ca, ↓w_ca0, ↓w_gS, ↓w_gK, ↓w_dv, ↓w_tw, ↓w_rz, ↓w_no, nv_lit, nv_f, nv_add, nv_mul, nv_sub, nv_le, nv_lt, nv_eq, nv_cl, Nat.reduceMod, Nat.reduceMul, Nat.reduceAdd, Nat.zero_add, Nat.add_zero, Nat.mul_zero, decide_eq_true_eq, nv_inT, f0.1, X5_get_w f0, e1, Nat.le_refl]
      have efw : fw P k = su (fun y => if fc P k y = -nv 1 then nv 0 else nv 1) (nH P) := rfl
      refine kk d ?_
      rw [efw, cf_up P (by omega) (by omega) (by omega), ← cf_all (by omega) h10 hf]
      exact hd
    · intro f j hj ih d hd
      have f0 := hd.fo hF
      have e1 : up1 (cf P k j) 6 (P 6 + su (fun y => if fc P k y = -nv 1 then nv 0 else nv 1) j) 1 = nv (nH P) := by
        rw [up1_o _ _ _ (by omega), cf_o P (by omega) (by omega) (by omega), h1]
      have ef : fc (up1 (cf P k j) 6 (P 6 + su (fun y => if fc P k y = -nv 1 then nv 0 else nv 1) j)) k j = fc P k j := by
        have : fc (up1 (cf P k j) 6 (P 6 + su (fun y => if fc P k y = -nv 1 then nv 0 else nv 1) j)) k j = fc (cf P k j) k j := up1_o _ _ _ (by omega)
        rw [this, cf_fc P (by omega) (by omega) (by omega) (by omega), if_neg (by omega)]
      have e6 : up1 (cf P k j) 6 (P 6 + su (fun y => if fc P k y = -nv 1 then nv 0 else nv 1) j) 6 = P 6 + su (fun y => if fc P k y = -nv 1 then nv 0 else nv 1) j := up1_s _ _ _
      have step : ∀ v, up1 (up1 (up1 (up1 (cf P k j) 6 (P 6 + su (fun y => if fc P k y = -nv 1 then nv 0 else nv 1) j)) 6 v) (85 + 10 * k + j) (-nv 1)) (85 + 10 * j + k) (-nv 1) = up1 (cf P k (j + 1)) 6 v := fun v => by
        rw [up1_2, up1_cm _ v (-nv 1) (show 6 ≠ 85 + 10 * k + j by omega), up1_cm _ v (-nv 1) (show 6 ≠ 85 + 10 * j + k by omega), cf_n P (by omega) (by omega)]
      rw [su] at ih
      by_cases c : fc P k j = -nv 1
      · rw [if_pos c] at ih
        have t1 := hd.lay hG (k := 6) (by omega) (P 6 + su (fun y => if fc P k y = -nv 1 then nv 0 else nv 1) j + nv 0)
        have f1 := t1.fo hF
        have t2 := (t1.lay hG (k := 85 + 10 * k + j) (by omega) (-nv 1)).lay hG (k := 85 + 10 * j + k) (by omega) (-nv 1)
        rw [step] at t2
        simp (disch := omega) only [X5_changes_2, X5_changes_28, ↓w_bd, ↓w_rt, ↓w_bh, sm_l, sm_r, ↓w_okr, ↓w_nm, ↓w_ite, ↓reduceIte, not_true_eq_false, not_false_eq_true, and_true, true_and, and_self, Option.some.injEq, reduceCtorEq, eq_self, ↓w_rc, ↓w_gI, ↓w_gR, ↓w_aN, ↓w_aI, ↓w_aR, ↓w_aL, ↓w_pI, ↓w_pR, ↓w_sI, ↓w_sR, ↓w_sL, ↓w_nO, ↓w_nA, ↓w_nL, ↓w_ca, ↓w_ca0, ↓w_gS, ↓w_gK, ↓w_dv, ↓w_tw, ↓w_rz, ↓w_no, nv_lit, nv_f, nv_add, nv_mul, nv_sub, nv_le, nv_lt, nv_eq, nv_cl, Nat.reduceMod, Nat.reduceMul, Nat.reduceAdd, Nat.zero_add, Nat.add_zero, Nat.mul_zero, decide_eq_true_eq, nv_inT, f0.1, X5_get_w f0, e1, Nat.not_le.mpr hj, X5_factOf_w f0, ef, c, X5_one_0, X5_one_1, X1_bit_0, X1_bit_1, ite_not, X5_tallies_w f0, e6, ly_K, X5_layFact_0 f1 hG]
        refine ih _ ?_
        rw [← Int32.add_assoc]
        exact t2
      · rw [if_neg c] at ih
        have t1 := hd.lay hG (k := 6) (by omega) (P 6 + su (fun y => if fc P k y = -nv 1 then nv 0 else nv 1) j + nv 1)
        have f1 := t1.fo hF
        have t2 := (t1.lay hG (k := 85 + 10 * k + j) (by omega) (-nv 1)).lay hG (k := 85 + 10 * j + k) (by omega) (-nv 1)
        rw [step] at t2
        simp (disch := omega) only [X5_changes_2, X5_changes_28, ↓w_bd, ↓w_rt, ↓w_bh, sm_l, sm_r, ↓w_okr, ↓w_nm, ↓w_ite, ↓reduceIte, not_true_eq_false, not_false_eq_true, and_true, true_and, and_self, Option.some.injEq, reduceCtorEq, eq_self, ↓w_rc, ↓w_gI, ↓w_gR, ↓w_aN, ↓w_aI, ↓w_aR, ↓w_aL, ↓w_pI, ↓w_pR, ↓w_sI, ↓w_sR, ↓w_sL, ↓w_nO, ↓w_nA, ↓w_nL, ↓w_ca, ↓w_ca0, ↓w_gS, ↓w_gK, ↓w_dv, ↓w_tw, ↓w_rz, ↓w_no, nv_lit, nv_f, nv_add, nv_mul, nv_sub, nv_le, nv_lt, nv_eq, nv_cl, Nat.reduceMod, Nat.reduceMul, Nat.reduceAdd, Nat.zero_add, Nat.add_zero, Nat.mul_zero, decide_eq_true_eq, nv_inT, f0.1, X5_get_w f0, e1, Nat.not_le.mpr hj, X5_factOf_w f0, ef, c, X5_one_0, X5_one_1, X1_bit_0, X1_bit_1, ite_not, n10, X5_tallies_w f0, e6, ly_K, X5_layFact_0 f1 hG]
        refine ih _ ?_
        rw [← Int32.add_assoc]
        exact t2
  refine l FU 0 (by omega) (by unfold FU; omega) d ?_
  have : up1 (cf P k 0) 6 (P 6 + su (fun y => if fc P k y = -nv 1 then nv 0 else nv 1) 0) = P := by
    rw [cf_0, su_0, Int32.add_zero, up1_id]
  rw [this]
  exact h
/-- the row behind -/
def pt (R : Nat → Int32) (k r : Nat) (s : Int32) : Nat → Int32 := cf (up1 (up1 R (15 + 7 * k + (2 + r)) s) 6 (R 6 + fw R k)) k 10
theorem pt_ok {R : Nat → Int32} (hR : Ro R) {k r s : Nat} (hk : k < nH R) (hr : r < nR R k) (hs : s ≤ 9) : Sh (pt R k r (nv s)) ∧ Ss R (pt R k r (nv s)) ∧ (∀ c, c < nC R → ∀ q, cs (pt R k r (nv s)) c q = cs R c q) ∧ Ro (bg (pt R k r (nv s)) k (nC R)) := by
  have hS := hR.1
  have h10 := sh_H10 hS
  have h20 := sh_C20 hS
  have h4 := sh_T4 hS
  have h5 := sh_R5 hS hk
  have o1 : ∀ i, i < 85 ∨ 185 ≤ i → i ≠ 15 + 7 * k + (2 + r) → i ≠ 6 → pt R k r (nv s) i = R i := fun i h h1 h2 => by
    unfold pt
    rw [cf_o _ (by omega) (by omega) h, up1_o _ _ _ h2, up1_o _ _ _ h1]
  have o2 : pt R k r (nv s) (15 + 7 * k + (2 + r)) = nv s := by
    unfold pt
    rw [cf_o _ (by omega) (by omega) (by omega), up1_o _ _ _ (by omega), up1_s]
  have o3 : ∀ x y, x < 10 → y < 10 → fc (pt R k r (nv s)) x y = if x = k ∨ y = k then -nv 1 else fc R x y := fun x y hx hy => by
    unfold pt
    rw [cf_fc _ (by omega) (by omega) hx hy]
    have e : fc (up1 (up1 R (15 + 7 * k + (2 + r)) (nv s)) 6 (R 6 + fw R k)) x y = fc R x y := by
      unfold fc
      rw [up1_o _ _ _ (by omega), up1_o _ _ _ (by omega)]
    rw [e]
    have : ((x = k ∧ y < 10) ∨ (y = k ∧ x < 10)) = (x = k ∨ y = k) := by apply propext; omega
    simp only [this]
  have ss : Ss R (pt R k r (nv s)) := ⟨o1 _ (by omega) (by omega) (by omega), o1 _ (by omega) (by omega) (by omega), o1 _ (by omega) (by omega) (by omega), fun x hx => o1 _ (by omega) (by omega) (by omega), fun c hc j hj => o1 _ (by omega) (by omega) (by omega)⟩
  have hSp : Sh (pt R k r (nv s)) := ss.sh hS fun x hx => ⟨ow R x, sh_OT hS hx, by rw [o1 _ (by omega) (by omega) (by omega)]; exact sh_O hS hx⟩
  have ecs : ∀ c q, cs (pt R k r (nv s)) c q = cs R c q := fun c q => o1 _ (by omega) (by omega) (by omega)
  refine ⟨hSp, ss, fun c _ q => ecs c q, ?_⟩
  obtain ⟨i1, i2, i3, i4⟩ := bg_iv (pt R k r (nv s)) k (nC R)
  have ssb : Ss R (bg (pt R k r (nv s)) k (nC R)) := ss.tr (bg_ss (by rw [ss.H]; exact h10) k (nC R))
  have eop : ∀ c, opk (pt R k r (nv s)) k c = opk R k c := fun c => opk_cg fun q _ => ecs c q
  have est : ∀ x q, x < nH R → q < nR R x → st (bg (pt R k r (nv s)) k (nC R)) x q = if x = k ∧ q = r then nv s else st R x q := fun x q hx hq => by
    have := sh_R5 hS hx
    unfold st
    rw [i1 _ (by omega) (by omega)]
    by_cases c : x = k ∧ q = r
    · rw [if_pos c, c.1, c.2]; exact o2
    · rw [if_neg c]; exact o1 _ (by omega) (by omega) (by omega)
  have ez : ∀ x, x < nH R → x ≠ k → sz (bg (pt R k r (nv s)) k (nC R)) x = sz R x := fun x hx hne => by
    unfold sz
    rw [ssb.R hx]
    exact su_cg fun q hq => by rw [est x q hx hq, if_neg (fun e => hne e.1)]
  have efc : ∀ x y, x < 10 → y < 10 → fc (bg (pt R k r (nv s)) k (nC R)) x y = if x = k ∨ y = k then -nv 1 else fc R x y := fun x y hx hy => by
    rw [← o3 x y hx hy]
    exact i1 _ (by omega) (by omega)
  refine ⟨ssb.sh hS fun x hx => ⟨ow R x, sh_OT hS hx, by rw [i1 _ (by omega) (by omega), o1 _ (by omega) (by omega) (by omega)]; exact sh_O hS hx⟩, fun x y hx hy => ?_, fun c s' q hc hs' hq5 hq => ?_, ⟨fun x q hx hq => ?_, fun t ht => ?_, fun c hc hc4 => ?_⟩⟩
  · rw [efc x y hx hy, efc y x hy hx, ssb.H]
    by_cases e : x = k ∨ y = k
    · rw [if_pos e]; exact .inl rfl
    · have e' : ¬ (y = k ∨ x = k) := fun g => e g.symm
      rw [if_neg e, if_neg e']
      rcases hR.2.1 x y hx hy with g | ⟨g1, g2, g3, g4, g5⟩
      · exact .inl g
      · unfold ws
        rw [ez x g2 (fun h => e (.inl h)), ez y g3 (fun h => e (.inr h))]
        exact .inr ⟨g1, g2, g3, g4, g5⟩
  · rw [ssb.C] at hc
    rw [ssb.S hc hs', ssb.R (sh_SH hS hc hs')] at hq
    by_cases co : opk (pt R k r (nv s)) k c
    · exact i3 c _ hc co (by omega) (by omega)
    · rw [i4 c _ (fun e => co e.2) (by omega) (by omega), ecs]
      exact hR.2.2.1 c s' q hc hs' hq5 hq
  · rw [ssb.H] at hx
    rw [ssb.R hx] at hq
    rw [est x q hx hq]
    by_cases c : x = k ∧ q = r
    · rw [if_pos c]; exact ⟨s, hs, rfl⟩
    · rw [if_neg c]; exact hR.2.2.2.1 x q hx hq
  · rw [ssb.T] at ht
    rw [i1 _ (by omega) (by omega), o1 _ (by omega) (by omega) (by omega)]
    exact hR.2.2.2.2.1 t ht
  · rw [ssb.C] at hc
    have e4 : cs R c 4 = 0 := by rw [← ecs c 4, ← i2 c 4 (by omega)]; exact hc4
    obtain ⟨g1, g2⟩ := hR.2.2.2.2.2 c hc e4
    by_cases co : opk (pt R k r (nv s)) k c
    · refine ⟨fun s' q hs' hq => ?_, ?_⟩
      · have hsd := sh_SH hS hc hs'
        have := sh_R5 hS hsd
        rw [ssb.S hc hs', ssb.R hsd] at hq
        rw [ssb.S hc hs', est _ q hsd hq, i3 c _ hc co (by omega) (by omega)]
        by_cases e : sd R c s' = k ∧ q = r
        · rw [if_pos e]; exact ⟨0, s, by omega, hs, rfl, rfl⟩
        · rw [if_neg e]
          obtain ⟨t, ht, et⟩ := hR.2.2.2.1 _ q hsd hq
          exact ⟨0, t, by omega, ht, rfl, et⟩
      · exact su_cg fun q hq => (i3 c _ hc co (by omega) (by omega)).trans (i3 c _ hc co (by omega) (by omega)).symm
    · have nk : ∀ s', s' < 2 → sd R c s' ≠ k := fun s' hs' e => co (by
        rw [eop]
        refine ⟨e4, ?_⟩
        have : s' = 0 ∨ s' = 1 := by omega
        rcases this with rfl | rfl
        · exact .inl e
        · exact .inr e)
      have eq : ∀ q, 8 ≤ q → q < 18 → cs (bg (pt R k r (nv s)) k (nC R)) c q = cs R c q := fun q h1 h2 => (i4 c q (fun e => co e.2) h1 h2).trans (ecs c q)
      refine ⟨fun s' q hs' hq => ?_, ?_⟩
      · have hsd := sh_SH hS hc hs'
        have := sh_R5 hS hsd
        rw [ssb.S hc hs', ssb.R hsd] at hq
        rw [ssb.S hc hs', est _ q hsd hq, eq _ (by omega) (by omega), if_neg (fun e => nk s' hs' e.1)]
        exact g1 s' q hs' hq
      · rw [su_cg (g := fun r => cs R c (8 + r)) fun q hq => eq _ (by omega) (by omega), su_cg (f := fun q => cs (bg (pt R k r (nv s)) k (nC R)) c (13 + q)) (g := fun r => cs R c (13 + r)) fun q hq => eq _ (by omega) (by omega)]
        exact g2
theorem act_put {G : Nat → Nat} {B : Nat → Nat × Nat} {S : Gst} {a : Hp} (hC : JC G B S a) (v r s : Int32) : Act κb G B S a (X1_put (G 0) v r s) (X5_put (G 10) v r s) := by
  obtain ⟨L, R, hM, hR, hX, h0⟩ := startC hC
  have hG := hC.1.gd
  have hJ := hC.2.1
  have hS := hR.1
  have hP := hR.2.2.1
  have h10 := sh_H10 hS
  have h20 := sh_C20 hS
  have h2 := sh_H2 hS
  by_cases hv : inr v (nH R)
  · obtain ⟨k, rfl, hk⟩ := inr_k hv
    have h5 := sh_R5 hS hk
    have h51 := sh_R1 hS hk
    by_cases hr : inr r (nR R k)
    · obtain ⟨r, rfl, hr'⟩ := inr_k hr
      by_cases hs : inr s 10
      · have hbs := bw_1' hs (by omega) (show 10 = 9 + 1 from rfl)
        by_cases e : st R k r = s
        · have e' : (s = st R k r) = True := by simp [e]
          simp (disch := omega) only [X1_put, ↓w_bd, ↓w_rt, ↓w_bh, sm_l, sm_r, ↓w_okr, ↓w_nm, ↓w_ite, ↓reduceIte, not_true_eq_false, not_false_eq_true, and_true, true_and, and_self, Option.some.injEq, reduceCtorEq, eq_self, ↓w_rc, ↓w_gI, ↓w_gR, ↓w_aN, ↓w_aI, ↓w_aR, ↓w_aL, ↓w_pI, ↓w_pR, ↓w_sI, ↓w_sR, ↓w_sL, ↓w_nO, ↓w_nA, ↓w_nL, ↓w_ca, ↓w_ca0, ↓w_gS, ↓w_gK, ↓w_dv, ↓w_tw, ↓w_rz, ↓w_no, nv_lit, nv_f, nv_add, nv_mul, nv_sub, nv_le, nv_lt, nv_eq, nv_cl, Nat.reduceMod, Nat.reduceMul, Nat.reduceAdd, Nat.zero_add, Nat.add_zero, Nat.mul_zero, decide_eq_true_eq, nv_inT, mk_k hM, mk_n hM, mk_r hM, mk_i hM, hX, hJ, X1_isBetween_w, X1_requireArgument_1 n10, X1_requireArgument_0, X1_requireIndex_1 n10, X1_requireIndex_0, Nat.reduceEqDiff, okn, X1_heapOf_1 hM hX, X1_requireRow_1 hM hk hr, hbs, e, X1_refuse_w hC]
          refine ap_ref hC (E0.rf a) (by omega) (by omega) (by omega) fun c hc Q hq => ?_
          obtain ⟨hF, hF0⟩ := jt_f0 hG hc h0
          have t5 := th_5 G c (nv 0)
          simp (disch := omega) only [X5_put, ↓w_bd, ↓w_rt, ↓w_bh, sm_l, sm_r, ↓w_okr, ↓w_nm, ↓w_ite, ↓reduceIte, not_true_eq_false, not_false_eq_true, and_true, true_and, and_self, Option.some.injEq, reduceCtorEq, eq_self, ↓w_rc, ↓w_gI, ↓w_gR, ↓w_aN, ↓w_aI, ↓w_aR, ↓w_aL, ↓w_pI, ↓w_pR, ↓w_sI, ↓w_sR, ↓w_sL, ↓w_nO, ↓w_nA, ↓w_nL, ↓w_ca, ↓w_ca0, ↓w_gS, ↓w_gK, ↓w_dv, ↓w_tw, ↓w_rz, ↓w_no, nv_lit, nv_f, nv_add, nv_mul, nv_sub, nv_le, nv_lt, nv_eq, nv_cl, Nat.reduceMod, Nat.reduceMul, Nat.reduceAdd, Nat.zero_add, Nat.add_zero, Nat.mul_zero, decide_eq_true_eq, nv_inT, th_f, th_K, th_N, th_R, th_5, th_2, okn0, Nat.reduceEqDiff, hF.1, hF0.1, X5_in_w, X5_holds_1 hF0.1.1.1 t5 n10, X5_holds_0 hF0.1.1.1 t5, n10, X5_isRow_1 hF0 hS hk hr, hbs, X5_stones_w hF0, e']
          exact hq _ (Sx.rf _ _)
        · have e' : ¬ s = st R k r := fun g => e g.symm
          obtain ⟨s, rfl, hs'⟩ := inr_k hs
          obtain ⟨hSp, hss, hcs, hRf⟩ := pt_ok hR hk hr' (show s ≤ 9 by omega)
          simp (disch := omega) only [X1_put, ↓w_bd, ↓w_rt, ↓w_bh, sm_l, sm_r, ↓w_okr, ↓w_nm, ↓w_ite, ↓reduceIte, not_true_eq_false, not_false_eq_true, and_true, true_and, and_self, Option.some.injEq, reduceCtorEq, eq_self, ↓w_rc, ↓w_gI, ↓w_gR, ↓w_aN, ↓w_aI, ↓w_aR, ↓w_aL, ↓w_pI, ↓w_pR, ↓w_sI, ↓w_sR, ↓w_sL, ↓w_nO, ↓w_nA, ↓w_nL, ↓w_ca, ↓w_ca0, ↓w_gS, ↓w_gK, ↓w_dv, ↓w_tw, ↓w_rz, ↓w_no, nv_lit, nv_f, nv_add, nv_mul, nv_sub, nv_le, nv_lt, nv_eq, nv_cl, Nat.reduceMod, Nat.reduceMul, Nat.reduceAdd, Nat.zero_add, Nat.add_zero, Nat.mul_zero, decide_eq_true_eq, nv_inT, mk_k hM, mk_n hM, mk_r hM, mk_i hM, hX, hJ, X1_isBetween_w, X1_requireArgument_1 n10, X1_requireArgument_0, X1_requireIndex_1 n10, X1_requireIndex_0, Nat.reduceEqDiff, okn, X1_heapOf_1 hM hX, X1_requireRow_1 hM hk hr, hbs, e]
          refine keep_c hC (E0.rf a) h0 _ fun d B' L' q1 q2 q3 hMd hXd hCd z l => ?_
          have hJd := q1.2.1
          have c1 := hCd.wI (nv s) (ci_st R hk hr' (show r < 5 by omega)) (by omega) (by omega) (by omega) (fun z _ => by omega) (by omega)
          obtain ⟨P, eP⟩ : ∃ P, P = up1 R (15 + 7 * k + (2 + r)) (nv s) := ⟨_, rfl⟩
          rw [← eP] at c1
          have hM1 := c1.1
          have oP : ∀ i, i ≠ 15 + 7 * k + (2 + r) → P i = R i := fun i hi => by rw [eP, up1_o _ _ _ hi]
          have nP : nH P = nH R := by unfold nH; rw [oP _ (by omega)]
          have hkP : k < nH P := by rw [nP]; exact hk
          have fP : ∀ x y, fc P x y = fc R x y := fun x y => oP _ (by omega)
          have fwP : fw P k = fw R k := by
            unfold fw
            rw [nP]
            exact su_cg fun y _ => by rw [fP]
          have hfz : ∀ x y, x < 10 → y < 10 → nH R ≤ x ∨ nH R ≤ y → fc R x y = -nv 1 := fun x y hx hy h => by
            rcases hR.2.1 x y hx hy with g | ⟨-, g2, g3, -⟩
            · exact g
            · omega
          have e6 : P 6 = R 6 := oP _ (by omega)
          have c2 := c1.wI (R 6 + fw R k) (ci_ta P (j := 2) (by omega)) (by omega) (by omega) (by omega) (fun z _ => by omega) (by omega)
          have hM2 := c2.1
          have hk2 : k < nH (up1 P (4 + 2) (R 6 + fw R k)) := by
            have : nH (up1 P (4 + 2) (R 6 + fw R k)) = nH P := by unfold nH; rw [up1_o _ _ _ (by omega)]
            rw [this]; exact hkP
          simp (disch := omega) only [↓w_bd, ↓w_rt, ↓w_bh, sm_l, sm_r, ↓w_okr, ↓w_nm, ↓w_ite, ↓reduceIte, not_true_eq_false, not_false_eq_true, and_true, true_and, and_self, Option.some.injEq, reduceCtorEq, eq_self, ↓w_rc, ↓w_gI, ↓w_gR, ↓w_aN, ↓w_aI, ↓w_aR, ↓w_aL, ↓w_pI, ↓w_pR, ↓w_sI, ↓w_sR, ↓w_sL, ↓w_nO, ↓w_nA, ↓w_nL, ↓w_ca, ↓w_ca0, ↓w_gS, ↓w_gK, ↓w_dv, ↓w_tw, ↓w_rz, ↓w_no, nv_lit, nv_f, nv_add, nv_mul, nv_sub, nv_le, nv_lt, nv_eq, nv_cl, Nat.reduceMod, Nat.reduceMul, Nat.reduceAdd, Nat.zero_add, Nat.add_zero, Nat.mul_zero, decide_eq_true_eq, nv_inT, mk_k hMd, mk_r hMd, mk_n hMd, mk_i hMd, hXd, hJd, okn, X2_put, nr41, mk_k hM1, mk_r hM1, mk_n hM1, mk_i hM1, e6, X2_factsOf_g hM1 (h := k) (fun y hy hn => by rw [fP]; exact hfz k y (by omega) hy (by omega)), fwP]
          refine X2_put_27_w c2 hk2 (by omega) _ fun b hb z' l' => ?_
          have ept : cf (up1 P (4 + 2) (R 6 + fw R k)) k 10 = pt R k r (nv s) := by unfold pt; rw [eP]
          rw [ept] at hb
          refine X2_put_69_w hb hSp (by rw [hss.H]; exact hk) _ fun b2 hb2 z2 l2 => ?_
          rw [hss.C] at hb2
          try rw [hss.C]
          refine ap_now hC h0 q2 q3 q1 hb2 (fun _ _ => rfl) hRf ?_ ?_ fun c hc Q hq => ?_
          · have zz : hSz b2 = hSz d := z2.trans z'
            omega
          · have zz : hSl b2 = hSl d := l2.trans l'
            omega
          · obtain ⟨hF, hF0⟩ := jt_f0 hG hc h0
            have t5 := th_5 G c (nv 0)
            simp (disch := omega) only [X5_put, ↓w_bd, ↓w_rt, ↓w_bh, sm_l, sm_r, ↓w_okr, ↓w_nm, ↓w_ite, ↓reduceIte, not_true_eq_false, not_false_eq_true, and_true, true_and, and_self, Option.some.injEq, reduceCtorEq, eq_self, ↓w_rc, ↓w_gI, ↓w_gR, ↓w_aN, ↓w_aI, ↓w_aR, ↓w_aL, ↓w_pI, ↓w_pR, ↓w_sI, ↓w_sR, ↓w_sL, ↓w_nO, ↓w_nA, ↓w_nL, ↓w_ca, ↓w_ca0, ↓w_gS, ↓w_gK, ↓w_dv, ↓w_tw, ↓w_rz, ↓w_no, nv_lit, nv_f, nv_add, nv_mul, nv_sub, nv_le, nv_lt, nv_eq, nv_cl, Nat.reduceMod, Nat.reduceMul, Nat.reduceAdd, Nat.zero_add, Nat.add_zero, Nat.mul_zero, decide_eq_true_eq, nv_inT, th_f, th_K, th_N, th_R, th_5, th_2, okn0, Nat.reduceEqDiff, hF.1, hF0.1, X5_in_w, X5_holds_1 hF0.1.1.1 t5 n10, X5_holds_0 hF0.1.1.1 t5, n10, X5_isRow_1 hF0 hS hk hr, hbs, X5_stones_w hF0, e']
            refine keeps_t hC hc (Sx.rf _ _) h0 L' _ fun d2 k1 k3 k2 hF3 => ?_
            have t1 := (Tn.rf hF3).lay hG (k := 15 + 7 * k + (2 + r)) (by omega) (nv s)
            rw [← eP] at t1
            simp (disch := omega) only [↓w_bd, ↓w_rt, ↓w_bh, sm_l, sm_r, ↓w_okr, ↓w_nm, ↓w_ite, ↓reduceIte, not_true_eq_false, not_false_eq_true, and_true, true_and, and_self, Option.some.injEq, reduceCtorEq, eq_self, ↓w_rc, ↓w_gI, ↓w_gR, ↓w_aN, ↓w_aI, ↓w_aR, ↓w_aL, ↓w_pI, ↓w_pR, ↓w_sI, ↓w_sR, ↓w_sL, ↓w_nO, ↓w_nA, ↓w_nL, ↓w_ca, ↓w_ca0, ↓w_gS, ↓w_gK, ↓w_dv, ↓w_tw, ↓w_rz, ↓w_no, nv_lit, nv_f, nv_add, nv_mul, nv_sub, nv_le, nv_lt, nv_eq, nv_cl, Nat.reduceMod, Nat.reduceMul, Nat.reduceAdd, Nat.zero_add, Nat.add_zero, Nat.mul_zero, decide_eq_true_eq, nv_inT, hF3.1, X5_layHeap_w hF3, ly_K]
            refine X5_changes_w hG hF3 t1 hkP (by rw [nP, oP _ (by omega)]; exact sh_H hS) (by omega) (fun y h1 h2 => by rw [fP, fP]; exact ⟨hfz _ _ (by omega) h2 (by omega), hfz _ _ h2 (by omega) (by omega)⟩) _ fun d3 ht3 => ?_
            rw [e6, fwP] at ht3
            have ept' : cf (up1 P 6 (R 6 + fw R k)) k 10 = pt R k r (nv s) := ept
            rw [ept'] at ht3
            refine X5_changes_49_w hG hF3 ht3 hSp (by omega) (fun c hc h4 => ?_) _ fun d4 ht4 => ?_
            · rw [hss.C] at hc
              rw [hcs c hc] at h4
              have := su_10 hR hc h4
              simp only [hcs c hc]
              exact this
            · rw [hss.C] at ht4
              have hF4 := ht4.fo hF3
              have hkb : k < nH (bg (pt R k r (nv s)) k (nC R)) := by
                rw [((hss.tr (bg_ss (by rw [hss.H]; exact h10) k (nC R)))).H]; exact hk
              simp (disch := omega) only [↓w_bd, ↓w_rt, ↓w_bh, sm_l, sm_r, ↓w_okr, ↓w_nm, ↓w_ite, ↓reduceIte, not_true_eq_false, not_false_eq_true, and_true, true_and, and_self, Option.some.injEq, reduceCtorEq, eq_self, ↓w_rc, ↓w_gI, ↓w_gR, ↓w_aN, ↓w_aI, ↓w_aR, ↓w_aL, ↓w_pI, ↓w_pR, ↓w_sI, ↓w_sR, ↓w_sL, ↓w_nO, ↓w_nA, ↓w_nL, ↓w_ca, ↓w_ca0, ↓w_gS, ↓w_gK, ↓w_dv, ↓w_tw, ↓w_rz, ↓w_no, nv_lit, nv_f, nv_add, nv_mul, nv_sub, nv_le, nv_lt, nv_eq, nv_cl, Nat.reduceMod, Nat.reduceMul, Nat.reduceAdd, Nat.zero_add, Nat.add_zero, Nat.mul_zero, decide_eq_true_eq, nv_inT, hF4.1, X5_sizeOf_w hF4 hRf.1]
              exact hq _ _ k1 k3 k2 ht4
      · have hb := bw_0' hs (by omega) (show 10 = 9 + 1 from rfl)
        simp (disch := omega) only [X1_put, ↓w_bd, ↓w_rt, ↓w_bh, sm_l, sm_r, ↓w_okr, ↓w_nm, ↓w_ite, ↓reduceIte, not_true_eq_false, not_false_eq_true, and_true, true_and, and_self, Option.some.injEq, reduceCtorEq, eq_self, ↓w_rc, ↓w_gI, ↓w_gR, ↓w_aN, ↓w_aI, ↓w_aR, ↓w_aL, ↓w_pI, ↓w_pR, ↓w_sI, ↓w_sR, ↓w_sL, ↓w_nO, ↓w_nA, ↓w_nL, ↓w_ca, ↓w_ca0, ↓w_gS, ↓w_gK, ↓w_dv, ↓w_tw, ↓w_rz, ↓w_no, nv_lit, nv_f, nv_add, nv_mul, nv_sub, nv_le, nv_lt, nv_eq, nv_cl, Nat.reduceMod, Nat.reduceMul, Nat.reduceAdd, Nat.zero_add, Nat.add_zero, Nat.mul_zero, decide_eq_true_eq, nv_inT, mk_k hM, mk_n hM, mk_r hM, mk_i hM, hX, hJ, X1_isBetween_w, X1_requireArgument_1 n10, X1_requireArgument_0, X1_requireIndex_1 n10, X1_requireIndex_0, Nat.reduceEqDiff, okn, X1_heapOf_1 hM hX, X1_requireRow_1 hM hk hr, hb]
        refine ap_x hC (tw_e a) (by rw [tw_z]; omega) (by rw [tw_l]; omega) (k := 2) rfl (by omega) (by omega) fun c hc Q hq => ?_
        obtain ⟨hF, hF0⟩ := jt_f0 hG hc h0
        have t5 := th_5 G c (nv 0)
        simp (disch := omega) only [X5_put, X5_put_34, ↓w_bd, ↓w_rt, ↓w_bh, sm_l, sm_r, ↓w_okr, ↓w_nm, ↓w_ite, ↓reduceIte, not_true_eq_false, not_false_eq_true, and_true, true_and, and_self, Option.some.injEq, reduceCtorEq, eq_self, ↓w_rc, ↓w_gI, ↓w_gR, ↓w_aN, ↓w_aI, ↓w_aR, ↓w_aL, ↓w_pI, ↓w_pR, ↓w_sI, ↓w_sR, ↓w_sL, ↓w_nO, ↓w_nA, ↓w_nL, ↓w_ca, ↓w_ca0, ↓w_gS, ↓w_gK, ↓w_dv, ↓w_tw, ↓w_rz, ↓w_no, nv_lit, nv_f, nv_add, nv_mul, nv_sub, nv_le, nv_lt, nv_eq, nv_cl, Nat.reduceMod, Nat.reduceMul, Nat.reduceAdd, Nat.zero_add, Nat.add_zero, Nat.mul_zero, decide_eq_true_eq, nv_inT, th_f, th_K, th_N, th_R, th_5, th_2, okn0, Nat.reduceEqDiff, hF.1, hF0.1, X5_in_w, X5_holds_1 hF0.1.1.1 t5 n10, X5_holds_0 hF0.1.1.1 t5, n10, X5_isRow_1 hF0 hS hk hr, hb]
        exact hq _
    · simp (disch := omega) only [X1_put, ↓w_bd, ↓w_rt, ↓w_bh, sm_l, sm_r, ↓w_okr, ↓w_nm, ↓w_ite, ↓reduceIte, not_true_eq_false, not_false_eq_true, and_true, true_and, and_self, Option.some.injEq, reduceCtorEq, eq_self, ↓w_rc, ↓w_gI, ↓w_gR, ↓w_aN, ↓w_aI, ↓w_aR, ↓w_aL, ↓w_pI, ↓w_pR, ↓w_sI, ↓w_sR, ↓w_sL, ↓w_nO, ↓w_nA, ↓w_nL, ↓w_ca, ↓w_ca0, ↓w_gS, ↓w_gK, ↓w_dv, ↓w_tw, ↓w_rz, ↓w_no, nv_lit, nv_f, nv_add, nv_mul, nv_sub, nv_le, nv_lt, nv_eq, nv_cl, Nat.reduceMod, Nat.reduceMul, Nat.reduceAdd, Nat.zero_add, Nat.add_zero, Nat.mul_zero, decide_eq_true_eq, nv_inT, mk_k hM, mk_n hM, mk_r hM, mk_i hM, hX, hJ, X1_isBetween_w, X1_requireArgument_1 n10, X1_requireArgument_0, X1_requireIndex_1 n10, X1_requireIndex_0, Nat.reduceEqDiff, okn, X1_heapOf_1 hM hX, X1_requireRow_0 hM hk h51 hr]
      refine ap_x hC (tw_e a) (by rw [tw_z]; omega) (by rw [tw_l]; omega) (k := 1) rfl (by omega) (by omega) fun c hc Q hq => ?_
      obtain ⟨hF, hF0⟩ := jt_f0 hG hc h0
      have t5 := th_5 G c (nv 0)
      simp (disch := omega) only [X5_put, X5_put_34, ↓w_bd, ↓w_rt, ↓w_bh, sm_l, sm_r, ↓w_okr, ↓w_nm, ↓w_ite, ↓reduceIte, not_true_eq_false, not_false_eq_true, and_true, true_and, and_self, Option.some.injEq, reduceCtorEq, eq_self, ↓w_rc, ↓w_gI, ↓w_gR, ↓w_aN, ↓w_aI, ↓w_aR, ↓w_aL, ↓w_pI, ↓w_pR, ↓w_sI, ↓w_sR, ↓w_sL, ↓w_nO, ↓w_nA, ↓w_nL, ↓w_ca, ↓w_ca0, ↓w_gS, ↓w_gK, ↓w_dv, ↓w_tw, ↓w_rz, ↓w_no, nv_lit, nv_f, nv_add, nv_mul, nv_sub, nv_le, nv_lt, nv_eq, nv_cl, Nat.reduceMod, Nat.reduceMul, Nat.reduceAdd, Nat.zero_add, Nat.add_zero, Nat.mul_zero, decide_eq_true_eq, nv_inT, th_f, th_K, th_N, th_R, th_5, th_2, okn0, Nat.reduceEqDiff, hF.1, hF0.1, X5_in_w, X5_holds_1 hF0.1.1.1 t5 n10, X5_holds_0 hF0.1.1.1 t5, X5_isRow_0 hF0 hS hk hr]
      exact hq _
  · simp (disch := omega) only [X1_put, ↓w_bd, ↓w_rt, ↓w_bh, sm_l, sm_r, ↓w_okr, ↓w_nm, ↓w_ite, ↓reduceIte, not_true_eq_false, not_false_eq_true, and_true, true_and, and_self, Option.some.injEq, reduceCtorEq, eq_self, ↓w_rc, ↓w_gI, ↓w_gR, ↓w_aN, ↓w_aI, ↓w_aR, ↓w_aL, ↓w_pI, ↓w_pR, ↓w_sI, ↓w_sR, ↓w_sL, ↓w_nO, ↓w_nA, ↓w_nL, ↓w_ca, ↓w_ca0, ↓w_gS, ↓w_gK, ↓w_dv, ↓w_tw, ↓w_rz, ↓w_no, nv_lit, nv_f, nv_add, nv_mul, nv_sub, nv_le, nv_lt, nv_eq, nv_cl, Nat.reduceMod, Nat.reduceMul, Nat.reduceAdd, Nat.zero_add, Nat.add_zero, Nat.mul_zero, decide_eq_true_eq, nv_inT, mk_k hM, mk_n hM, mk_r hM, mk_i hM, hX, hJ, X1_isBetween_w, X1_requireArgument_1 n10, X1_requireArgument_0, X1_requireIndex_1 n10, X1_requireIndex_0, Nat.reduceEqDiff, okn, X1_heapOf_0 hM hX (by omega) hv]
    refine ap_x hC (tw_e a) (by rw [tw_z]; omega) (by rw [tw_l]; omega) (k := 1) rfl (by omega) (by omega) fun c hc Q hq => ?_
    obtain ⟨hF, hF0⟩ := jt_f0 hG hc h0
    have t5 := th_5 G c (nv 0)
    simp (disch := omega) only [X5_put, X5_put_34, ↓w_bd, ↓w_rt, ↓w_bh, sm_l, sm_r, ↓w_okr, ↓w_nm, ↓w_ite, ↓reduceIte, not_true_eq_false, not_false_eq_true, and_true, true_and, and_self, Option.some.injEq, reduceCtorEq, eq_self, ↓w_rc, ↓w_gI, ↓w_gR, ↓w_aN, ↓w_aI, ↓w_aR, ↓w_aL, ↓w_pI, ↓w_pR, ↓w_sI, ↓w_sR, ↓w_sL, ↓w_nO, ↓w_nA, ↓w_nL, ↓w_ca, ↓w_ca0, ↓w_gS, ↓w_gK, ↓w_dv, ↓w_tw, ↓w_rz, ↓w_no, nv_lit, nv_f, nv_add, nv_mul, nv_sub, nv_le, nv_lt, nv_eq, nv_cl, Nat.reduceMod, Nat.reduceMul, Nat.reduceAdd, Nat.zero_add, Nat.add_zero, Nat.mul_zero, decide_eq_true_eq, nv_inT, th_f, th_K, th_N, th_R, th_5, th_2, okn0, Nat.reduceEqDiff, hF.1, hF0.1, X5_in_w, X5_holds_1 hF0.1.1.1 t5 n10, X5_holds_0 hF0.1.1.1 t5, X5_isRow_h hF0 hS hv]
    exact hq _
theorem op_put {G : Nat → Nat} {B : Nat → Nat × Nat} {S : Gst} {a : Hp} (hC : JC G B S a) (hT : JT G S a) (v r s : Int32) : OpL G a (X0_put (some (G 0)) v r s (some (G 20))) (X5_put (G 10) v r s) :=
  Act.op (m := fun h => X1_put h v r s) hC hT (act_put hC v r s) fun _ _ h Q => hd_b h Q
