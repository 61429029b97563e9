/-! STONES ARE PUT: facts and pairs with the heap go -/
theorem X2_factsOf_g {B : Nat → Nat × Nat} {a : Hp} {L : Nat → Nat} {R : Nat → Int32} (hM : Mk B a L R) {h : Nat} (hF : ∀ y, y < 10 → nH R ≤ y → fc R h y = -1) (hh : h < 10) (Q : Int32 → Hp → Prop) : Wp (X2_factsOf (L 0) (nv h)) a Q ↔ Q (fw R h) a := by
  have h10 := (mk_w hM).2.1.2
  have e : fw R h = su (fun k => if fc R h k = -1 then 0 else 1) 10 := by
    have := su_z (fun k => if fc R h k = -1 then (0 : Int32) else 1) (n := nH R) (10 - nH R) (fun r h1 h2 => if_pos (hF r (by omega) h1))
    rw [show nH R + (10 - nH R) = 10 by omega] at this
    rw [this]
    rfl
  rw [e]
  have l : ∀ (f k : Nat), k ≤ 10 → 10 - k < f → (Wp (X2_factsOf_16 f (nv h) (su (fun k => if fc R h k = -1 then 0 else 1) k) (some (L (10 + h))) (nv 10) (nv k)) a Q ↔ Q (su (fun k => if fc R h k = -1 then 0 else 1) 10) a) := by
    refine loopUp _ 10 ?_ ?_
    · intro f
      simp (disch := omega) only [X2_factsOf_16, ↓w_bd, ↓w_rt, ↓w_bh, sm_l, sm_r, ↓w_okr, ↓w_nm, ↓w_ite, ↓reduceIte, not_true_eq_false, not_false_eq_true, and_true, true_and, and_self, Option.some.injEq, reduceCtorEq, eq_self, ↓w_rc, ↓w_gI, ↓w_gR, ↓w_aN, ↓w_aI, ↓w_aR, ↓w_aL, ↓w_pI, ↓w_pR, ↓w_sI, ↓w_sR, ↓w_sL, ↓w_nO, ↓w_nA, ↓w_nL, ↓w_ca, ↓w_ca0, ↓w_gS, ↓w_gK, ↓w_dv, ↓w_tw, ↓w_rz, ↓w_no, nv_lit, nv_f, nv_add, nv_mul, nv_sub, nv_le, nv_lt, nv_eq, nv_cl, Nat.reduceMod, Nat.reduceMul, Nat.reduceAdd, Nat.zero_add, Nat.add_zero, Nat.mul_zero, decide_eq_true_eq, nv_inT, Nat.le_refl]
    · intro f k hk2 ih
      rw [su] at ih
      rcases mk_f hM h k hh hk2 with ⟨f1, f2⟩ | ⟨f0, f1, f2, f3, f4⟩
      · rw [if_pos f1] at ih
        simp (disch := omega) only [X2_factsOf_16, X2_factsOf_48, X2_factsOf_49, ↓w_bd, ↓w_rt, ↓w_bh, sm_l, sm_r, ↓w_okr, ↓w_nm, ↓w_ite, ↓reduceIte, not_true_eq_false, not_false_eq_true, and_true, true_and, and_self, Option.some.injEq, reduceCtorEq, eq_self, ↓w_rc, ↓w_gI, ↓w_gR, ↓w_aN, ↓w_aI, ↓w_aR, ↓w_aL, ↓w_pI, ↓w_pR, ↓w_sI, ↓w_sR, ↓w_sL, ↓w_nO, ↓w_nA, ↓w_nL, ↓w_ca, ↓w_ca0, ↓w_gS, ↓w_gK, ↓w_dv, ↓w_tw, ↓w_rz, ↓w_no, nv_lit, nv_f, nv_add, nv_mul, nv_sub, nv_le, nv_lt, nv_eq, nv_cl, Nat.reduceMod, Nat.reduceMul, Nat.reduceAdd, Nat.zero_add, Nat.add_zero, Nat.mul_zero, decide_eq_true_eq, nv_inT, mk_k hM, mk_n hM, mk_r hM, mk_i hM, Nat.not_le.mpr hk2, f2, X5_one_0, X5_one_1, X1_bit_0, X1_bit_1, ite_not]
        exact ih
      · rw [if_neg (w3_m1 f3)] at ih
        simp (disch := omega) only [X2_factsOf_16, X2_factsOf_48, X2_factsOf_49, ↓w_bd, ↓w_rt, ↓w_bh, sm_l, sm_r, ↓w_okr, ↓w_nm, ↓w_ite, ↓reduceIte, not_true_eq_false, not_false_eq_true, and_true, true_and, and_self, Option.some.injEq, reduceCtorEq, eq_self, ↓w_rc, ↓w_gI, ↓w_gR, ↓w_aN, ↓w_aI, ↓w_aR, ↓w_aL, ↓w_pI, ↓w_pR, ↓w_sI, ↓w_sR, ↓w_sL, ↓w_nO, ↓w_nA, ↓w_nL, ↓w_ca, ↓w_ca0, ↓w_gS, ↓w_gK, ↓w_dv, ↓w_tw, ↓w_rz, ↓w_no, nv_lit, nv_f, nv_add, nv_mul, nv_sub, nv_le, nv_lt, nv_eq, nv_cl, Nat.reduceMod, Nat.reduceMul, Nat.reduceAdd, Nat.zero_add, Nat.add_zero, Nat.mul_zero, decide_eq_true_eq, nv_inT, mk_k hM, mk_n hM, mk_r hM, mk_i hM, Nat.not_le.mpr hk2, f1, f4.2.1, X10_isOf_w f4, X5_one_0, X5_one_1, X1_bit_0, X1_bit_1, ite_not, show ¬ nv 1 = nv 0 by decide]
        exact ih
  rw [← l FU 0 (by omega) (by unfold FU; omega)]
  simp (disch := omega) only [X2_factsOf, ↓w_bd, ↓w_rt, ↓w_bh, sm_l, sm_r, ↓w_okr, ↓w_nm, ↓w_ite, ↓reduceIte, not_true_eq_false, not_false_eq_true, and_true, true_and, and_self, Option.some.injEq, reduceCtorEq, eq_self, ↓w_rc, ↓w_gI, ↓w_gR, ↓w_aN, ↓w_aI, ↓w_aR, ↓w_aL, ↓w_pI, ↓w_pR, ↓w_sI, ↓w_sR, ↓w_sL, ↓w_nO, ↓w_nA, ↓w_nL, ↓w_ca, ↓w_ca0, ↓w_gS, ↓w_gK, ↓w_dv, ↓w_tw, ↓w_rz, ↓w_no, nv_lit, nv_f, nv_add, nv_mul, nv_sub, nv_le, nv_lt, nv_eq, nv_cl, Nat.reduceMod, Nat.reduceMul, Nat.reduceAdd, Nat.zero_add, Nat.add_zero, Nat.mul_zero, decide_eq_true_eq, nv_inT, mk_k hM, mk_n hM, mk_r hM, mk_i hM, su_0]
/-- facts with k cleared, up to j -/
def cf (R : Nat → Int32) (k j : Nat) : Nat → Int32 := fun i => if (85 + 10 * k ≤ i ∧ i < 85 + 10 * k + j) ∨ (85 + k ≤ i ∧ i < 85 + k + 10 * j ∧ (i - 85 - k) % 10 = 0) then -nv 1 else R i
theorem cf_0 (R : Nat → Int32) (k : Nat) : cf R k 0 = R := by
  funext i
  exact if_neg (by omega)
theorem cf_n (R : Nat → Int32) {k j : Nat} (hk : k < 10) (hj : j < 10) : up1 (up1 (cf R k j) (85 + 10 * k + j) (-nv 1)) (85 + 10 * j + k) (-nv 1) = cf R k (j + 1) := by
  funext i
  unfold up1
  by_cases c : i = 85 + 10 * j + k
  · rw [if_pos c]
    exact (if_pos (by omega)).symm
  · rw [if_neg c]
    by_cases d : i = 85 + 10 * k + j
    · rw [if_pos d]
      exact (if_pos (by omega)).symm
    · rw [if_neg d]
      unfold cf
      have : ((85 + 10 * k ≤ i ∧ i < 85 + 10 * k + j) ∨ (85 + k ≤ i ∧ i < 85 + k + 10 * j ∧ (i - 85 - k) % 10 = 0)) = ((85 + 10 * k ≤ i ∧ i < 85 + 10 * k + (j + 1)) ∨ (85 + k ≤ i ∧ i < 85 + k + 10 * (j + 1) ∧ (i - 85 - k) % 10 = 0)) := by apply propext; omega
      simp only [this]
theorem cf_o (R : Nat → Int32) {k j i : Nat} (hk : k < 10) (hj : j ≤ 10) (h : i < 85 ∨ 185 ≤ i) : cf R k j i = R i := if_neg (by omega)
theorem cf_fc (R : Nat → Int32) {k j x y : Nat} (hk : k < 10) (hj : j ≤ 10) (hx : x < 10) (hy : y < 10) : fc (cf R k j) x y = if (x = k ∧ y < j) ∨ (y = k ∧ x < j) then -nv 1 else fc R x y := by
  have : ((85 + 10 * k ≤ 85 + 10 * x + y ∧ 85 + 10 * x + y < 85 + 10 * k + j) ∨ (85 + k ≤ 85 + 10 * x + y ∧ 85 + 10 * x + y < 85 + k + 10 * j ∧ (85 + 10 * x + y - 85 - k) % 10 = 0)) = ((x = k ∧ y < j) ∨ (y = k ∧ x < j)) := by apply propext; omega
  unfold fc cf
  simp only [this]
theorem cf_up (R : Nat → Int32) {k j q : Nat} (hk : k < 10) (hj : j ≤ 10) (hq : q < 85) (v : Int32) : cf (up1 R q v) k j = up1 (cf R k j) q v := by
  funext i
  by_cases c : i = q
  · rw [c, up1_s, cf_o _ hk hj (by omega), up1_s]
  · rw [up1_o _ _ _ c]
    unfold cf
    rw [up1_o _ _ _ c]
theorem X2_put_27_w {G : Nat → Nat} {B : Nat → Nat × Nat} {a b : Hp} {L : Nat → Nat} {R : Nat → Int32} (h : Cn G B a b L R) {k : Nat} (hk : k < nH R) (hk10 : k < 10) (Q : Int32 → Hp → Prop)
    (kk : ∀ b', Cn G B a b' L (cf R k 10) → hSz b' = hSz b → hSl b' = hSl b → Wp (X2_put_69 FU (L 0) (some (L (20 + k))) (nv 0)) b' Q) : Wp (X2_put_27 FU (L 0) (some (L (20 + k))) (nv 0)) b Q := by
  have l : ∀ (f j : Nat), j ≤ 10 → 10 - j < f → ∀ d, Cn G B a d L (cf R k j) → hSz d = hSz b → hSl d = hSl b → Wp (X2_put_27 f (L 0) (some (L (20 + k))) (nv j)) d Q := by
    refine loopUp _ 10 ?_ ?_
    · intro f d hd z l
      simp (disch := omega) only [X2_put_27, ↓w_bd, ↓w_rt, ↓w_bh, sm_l, sm_r, ↓w_okr, ↓w_nm, ↓w_ite, ↓reduceIte, not_true_eq_false, not_false_eq_true, and_true, true_and, and_self, Option.some.injEq, reduceCtorEq, eq_self, ↓w_rc, ↓w_gI, ↓w_gR, ↓w_aN, ↓w_aI, ↓w_aR, ↓w_aL, ↓w_pI, ↓w_pR, ↓w_sI, ↓w_sR, ↓w_sL, ↓w_nO, ↓w_nA, ↓w_nL, ↓w_ca, ↓w_ca0, ↓w_gS, ↓w_gK, ↓w_dv, ↓w_tw, ↓w_rz, ↓w_no, nv_lit, nv_f, nv_add, nv_mul, nv_sub, nv_le, nv_lt, nv_eq, nv_cl, Nat.reduceMod, Nat.reduceMul, Nat.reduceAdd, Nat.zero_add, Nat.add_zero, Nat.mul_zero, decide_eq_true_eq, nv_inT, Nat.le_refl]
      exact kk d hd z l
    · intro f j hj ih d hd z l
      have hM := hd.1
      have hkj : k < nH (cf R k j) := by
        have : nH (cf R k j) = nH R := by unfold nH; rw [cf_o R hk10 (by omega) (by omega)]
        rw [this]; exact hk
      have c1 := hd.wF hk10 hj (v := none) (w := -nv 1) (.inl ⟨rfl, rfl⟩)
      have c2 := c1.wF hj hk10 (v := none) (w := -nv 1) (.inl ⟨rfl, rfl⟩)
      have hM1 := c1.1
      have ok : ∀ z, okR z [10] none = true := fun _ => rfl
      have hkj1 : k < nH (up1 (cf R k j) (85 + 10 * k + j) (-nv 1)) := by
        have : nH (up1 (cf R k j) (85 + 10 * k + j) (-nv 1)) = nH (cf R k j) := by unfold nH; rw [up1_o _ _ _ (by omega)]
        rw [this]; exact hkj
      simp (disch := omega) only [X2_put_27, ↓w_bd, ↓w_rt, ↓w_bh, sm_l, sm_r, ↓w_okr, ↓w_nm, ↓w_ite, ↓reduceIte, not_true_eq_false, not_false_eq_true, and_true, true_and, and_self, Option.some.injEq, reduceCtorEq, eq_self, ↓w_rc, ↓w_gI, ↓w_gR, ↓w_aN, ↓w_aI, ↓w_aR, ↓w_aL, ↓w_pI, ↓w_pR, ↓w_sI, ↓w_sR, ↓w_sL, ↓w_nO, ↓w_nA, ↓w_nL, ↓w_ca, ↓w_ca0, ↓w_gS, ↓w_gK, ↓w_dv, ↓w_tw, ↓w_rz, ↓w_no, nv_lit, nv_f, nv_add, nv_mul, nv_sub, nv_le, nv_lt, nv_eq, nv_cl, Nat.reduceMod, Nat.reduceMul, Nat.reduceAdd, Nat.zero_add, Nat.add_zero, Nat.mul_zero, decide_eq_true_eq, nv_inT, Nat.not_le.mpr hj, mk_k hM, mk_n hM, mk_r hM, mk_i hM, ok, mk_k hM1, mk_r hM1, mk_n hM1, mk_i hM1]
      rw [cf_n R hk10 hj] at c2
      exact ih _ c2 z l
  refine l FU 0 (by omega) (by unfold FU; omega) b ?_ rfl rfl
  rw [cf_0]
  exact h
/-! claims with the heap begin anew -/
abbrev opk (R : Nat → Int32) (k c : Nat) : Prop := cs R c 4 = 0 ∧ (sd R c 0 = k ∨ sd R c 1 = k)
def bb (R : Nat → Int32) (c : Nat) : Int32 := if su (fun r => cs R c (8 + r)) 5 ≤ nv 0 then nv 0 else nv 1
def bz (R : Nat → Int32) (c j l : Nat) : Nat → Int32 := fun i => if (185 + 18 * c + 8 ≤ i ∧ i < 185 + 18 * c + 8 + j) ∨ (185 + 18 * c + 13 ≤ i ∧ i < 185 + 18 * c + 13 + l) then nv 0 else R i
def ba (R : Nat → Int32) (c : Nat) : Nat → Int32 := up1 (bz R c 5 5) (4 + 3) (R 7 + bb R c)
theorem bz_o (R : Nat → Int32) {c j l i : Nat} (hj : j ≤ 5) (hl : l ≤ 5) (h : i < 185 + 18 * c + 8 ∨ 185 + 18 * c + 18 ≤ i) : bz R c j l i = R i := if_neg (by omega)
theorem bz_0 (R : Nat → Int32) (c : Nat) : bz R c 0 0 = R := by
  funext i
  exact if_neg (by omega)
theorem bz_n (R : Nat → Int32) {c j : Nat} (hj : j < 5) : up1 (up1 (bz R c j j) (185 + 18 * c + (8 + j)) (nv 0)) (185 + 18 * c + (13 + j)) (nv 0) = bz R c (j + 1) (j + 1) := by
  funext i
  unfold up1
  by_cases c1 : i = 185 + 18 * c + (13 + j)
  · rw [if_pos c1]
    exact (if_pos (by omega)).symm
  · rw [if_neg c1]
    by_cases d : i = 185 + 18 * c + (8 + j)
    · rw [if_pos d]
      exact (if_pos (by omega)).symm
    · rw [if_neg d]
      unfold bz
      have : ((185 + 18 * c + 8 ≤ i ∧ i < 185 + 18 * c + 8 + j) ∨ (185 + 18 * c + 13 ≤ i ∧ i < 185 + 18 * c + 13 + j)) = ((185 + 18 * c + 8 ≤ i ∧ i < 185 + 18 * c + 8 + (j + 1)) ∨ (185 + 18 * c + 13 ≤ i ∧ i < 185 + 18 * c + 13 + (j + 1))) := by apply propext; omega
      simp only [this]
theorem bz_m (R : Nat → Int32) {c j : Nat} (hj : j < 10) : up1 (bz R c (min j 5) (j - 5)) (185 + 18 * c + (8 + j)) (nv 0) = bz R c (min (j + 1) 5) (j + 1 - 5) := by
  funext i
  unfold up1
  by_cases d : i = 185 + 18 * c + (8 + j)
  · rw [if_pos d]
    exact (if_pos (by omega)).symm
  · rw [if_neg d]
    unfold bz
    have : ((185 + 18 * c + 8 ≤ i ∧ i < 185 + 18 * c + 8 + min j 5) ∨ (185 + 18 * c + 13 ≤ i ∧ i < 185 + 18 * c + 13 + (j - 5))) = ((185 + 18 * c + 8 ≤ i ∧ i < 185 + 18 * c + 8 + min (j + 1) 5) ∨ (185 + 18 * c + 13 ≤ i ∧ i < 185 + 18 * c + 13 + (j + 1 - 5))) := by apply propext; omega
    simp only [this]
theorem X8_beginsAnew_w {G : Nat → Nat} {B : Nat → Nat × Nat} {a b : Hp} {L : Nat → Nat} {R : Nat → Int32} (h : Cn G B a b L R) {c : Nat} (hc : c < nC R) (h20 : c < 20) (Q : Int32 → Hp → Prop)
    (kk : ∀ b', Cn G B a b' L (bz R c 5 5) → hSz b' = hSz b → hSl b' = hSl b → Q (bb R c) b') : Wp (X8_beginsAnew (L (40 + c))) b Q := by
  have hnC : ∀ j, j ≤ 5 → nC (bz R c j j) = nC R := fun j hj => by unfold nC; rw [bz_o R hj hj (by omega)]
  have l : ∀ (v : Int32), nrk 2 v = true → (v = bb R c) → ∀ (f j : Nat), j ≤ 5 → 5 - j < f → ∀ d, Cn G B a d L (bz R c j j) → hSz d = hSz b → hSl d = hSl b → Wp (X8_beginsAnew_16 f (L (40 + c)) v (nv j)) d Q := by
    intro v hv ev
    refine loopUp _ 5 ?_ ?_
    · intro f d hd z l
      simp (disch := omega) only [X8_beginsAnew_16, ↓w_bd, ↓w_rt, ↓w_bh, sm_l, sm_r, ↓w_okr, ↓w_nm, ↓w_ite, ↓reduceIte, not_true_eq_false, not_false_eq_true, and_true, true_and, and_self, Option.some.injEq, reduceCtorEq, eq_self, ↓w_rc, ↓w_gI, ↓w_gR, ↓w_aN, ↓w_aI, ↓w_aR, ↓w_aL, ↓w_pI, ↓w_pR, ↓w_sI, ↓w_sR, ↓w_sL, ↓w_nO, ↓w_nA, ↓w_nL, ↓w_ca, ↓w_ca0, ↓w_gS, ↓w_gK, ↓w_dv, ↓w_tw, ↓w_rz, ↓w_no, nv_lit, nv_f, nv_add, nv_mul, nv_sub, nv_le, nv_lt, nv_eq, nv_cl, Nat.reduceMod, Nat.reduceMul, Nat.reduceAdd, Nat.zero_add, Nat.add_zero, Nat.mul_zero, decide_eq_true_eq, nv_inT, Nat.le_refl, hv]
      rw [ev]
      exact kk d hd z l
    · intro f j hj ih d hd z l
      have hM := hd.1
      have hc0 : c < nC (bz R c j j) := by rw [hnC j (by omega)]; exact hc
      have c1 : Cn G B a (hwI d (L (100 + 2 * c)) (up1 (hI d (L (100 + 2 * c))) j (nv 0))) L (up1 (bz R c j j) (185 + 18 * c + (8 + j)) (nv 0)) :=
        hd.wI (r := 100 + 2 * c + 0) (i := 185 + 18 * c + (8 + 5 * 0 + j)) (nv 0) (ci_pa _ hc0 (by omega) hj) (by omega) (by omega) (by omega) (fun z _ => by
          have := (mk_w hM).2.1.2
          omega) (by omega)
      have hM1 := c1.1
      have hc1 : c < nC (up1 (bz R c j j) (185 + 18 * c + (8 + j)) (nv 0)) := by
        have : nC (up1 (bz R c j j) (185 + 18 * c + (8 + j)) (nv 0)) = nC (bz R c j j) := by unfold nC; rw [up1_o _ _ _ (by omega)]
        rw [this]; exact hc0
      have c2 : Cn G B a _ L (up1 (up1 (bz R c j j) (185 + 18 * c + (8 + j)) (nv 0)) (185 + 18 * c + (13 + j)) (nv 0)) :=
        c1.wI (r := 100 + 2 * c + 1) (i := 185 + 18 * c + (8 + 5 * 1 + j)) (nv 0) (ci_pa _ hc1 (by omega) hj) (by omega) (by omega) (by omega) (fun z _ => by
          have := (mk_w hM1).2.1.2
          omega) (by omega)
      rw [bz_n R hj] at c2
      simp (disch := omega) only [X8_beginsAnew_16, ↓w_bd, ↓w_rt, ↓w_bh, sm_l, sm_r, ↓w_okr, ↓w_nm, ↓w_ite, ↓reduceIte, not_true_eq_false, not_false_eq_true, and_true, true_and, and_self, Option.some.injEq, reduceCtorEq, eq_self, ↓w_rc, ↓w_gI, ↓w_gR, ↓w_aN, ↓w_aI, ↓w_aR, ↓w_aL, ↓w_pI, ↓w_pR, ↓w_sI, ↓w_sR, ↓w_sL, ↓w_nO, ↓w_nA, ↓w_nL, ↓w_ca, ↓w_ca0, ↓w_gS, ↓w_gK, ↓w_dv, ↓w_tw, ↓w_rz, ↓w_no, nv_lit, nv_f, nv_add, nv_mul, nv_sub, nv_le, nv_lt, nv_eq, nv_cl, Nat.reduceMod, Nat.reduceMul, Nat.reduceAdd, Nat.zero_add, Nat.add_zero, Nat.mul_zero, decide_eq_true_eq, nv_inT, Nat.not_le.mpr hj, mk_k hM, mk_n hM, mk_r hM, mk_i hM, mk_p0 hM hc0, nr41, mk_k hM1, mk_r hM1, mk_n hM1]
      exact ih _ c2 z l
  have hM := h.1
  have h00 : Cn G B a b L (bz R c 0 0) := by rw [bz_0]; exact h
  by_cases e : su (fun r => cs R c (8 + 5 * 0 + r)) 5 ≤ nv 0
  · simp (disch := omega) only [X8_beginsAnew, X8_beginsAnew_13, ↓w_bd, ↓w_rt, ↓w_bh, sm_l, sm_r, ↓w_okr, ↓w_nm, ↓w_ite, ↓reduceIte, not_true_eq_false, not_false_eq_true, and_true, true_and, and_self, Option.some.injEq, reduceCtorEq, eq_self, ↓w_rc, ↓w_gI, ↓w_gR, ↓w_aN, ↓w_aI, ↓w_aR, ↓w_aL, ↓w_pI, ↓w_pR, ↓w_sI, ↓w_sR, ↓w_sL, ↓w_nO, ↓w_nA, ↓w_nL, ↓w_ca, ↓w_ca0, ↓w_gS, ↓w_gK, ↓w_dv, ↓w_tw, ↓w_rz, ↓w_no, nv_lit, nv_f, nv_add, nv_mul, nv_sub, nv_le, nv_lt, nv_eq, nv_cl, Nat.reduceMod, Nat.reduceMul, Nat.reduceAdd, Nat.zero_add, Nat.add_zero, Nat.mul_zero, decide_eq_true_eq, nv_inT, mk_k hM, mk_n hM, mk_r hM, mk_i hM, X8_sum_w hM, e]
    exact l (nv 0) (by decide) (if_pos (by simpa only [Nat.mul_zero, Nat.add_zero] using e)).symm FU 0 (by omega) (by unfold FU; omega) b h00 rfl rfl
  · simp (disch := omega) only [X8_beginsAnew, X8_beginsAnew_13, ↓w_bd, ↓w_rt, ↓w_bh, sm_l, sm_r, ↓w_okr, ↓w_nm, ↓w_ite, ↓reduceIte, not_true_eq_false, not_false_eq_true, and_true, true_and, and_self, Option.some.injEq, reduceCtorEq, eq_self, ↓w_rc, ↓w_gI, ↓w_gR, ↓w_aN, ↓w_aI, ↓w_aR, ↓w_aL, ↓w_pI, ↓w_pR, ↓w_sI, ↓w_sR, ↓w_sL, ↓w_nO, ↓w_nA, ↓w_nL, ↓w_ca, ↓w_ca0, ↓w_gS, ↓w_gK, ↓w_dv, ↓w_tw, ↓w_rz, ↓w_no, nv_lit, nv_f, nv_add, nv_mul, nv_sub, nv_le, nv_lt, nv_eq, nv_cl, Nat.reduceMod, Nat.reduceMul, Nat.reduceAdd, Nat.zero_add, Nat.add_zero, Nat.mul_zero, decide_eq_true_eq, nv_inT, mk_k hM, mk_n hM, mk_r hM, mk_i hM, X8_sum_w hM, e]
    exact l (nv 1) (by decide) (if_neg (by simpa only [Nat.mul_zero, Nat.add_zero] using e)).symm FU 0 (by omega) (by unfold FU; omega) b h00 rfl rfl
theorem X5_beginsAnew_w {G : Nat → Nat} {a d : Hp} {R R0 : Nat → Int32} (hG : GD G) (hF : FO G a 0 R0) (h : Tn G a d R) {c : Nat} (hc : c < 20) (hs : (su (fun r => cs R c (8 + r)) 10 ≤ nv 0) = (su (fun r => cs R c (8 + r)) 5 ≤ nv 0)) (Q : Unit → Hp → Prop)
    (kk : ∀ d', Tn G a d' (ba R c) → Q () d') : Wp (X5_beginsAnew (G 10) (nv c)) d Q := by
  have l : ∀ (f j : Nat), j ≤ 10 → 10 - j < f → ∀ d, Tn G a d (bz R c (min j 5) (j - 5)) → Wp (X5_beginsAnew_4 f (G 10) (nv c) (su (fun r => cs R c (8 + r)) j) (nv j)) d Q := by
    refine loopUp _ 10 ?_ ?_
    · intro f d hd
      have f0 := hd.fo hF
      have e7 : bz R c (min 10 5) (10 - 5) 7 = R 7 := bz_o R (by omega) (by omega) (by omega)
      have l0 := X5_tallies_w f0 (k := 3) (by omega)
      simp only [Nat.reduceAdd, e7] at l0
      have t1 := hd.lay hG (k := 7) (by omega) (R 7 + bb R c)
      by_cases e : su (fun r => cs R c (8 + r)) 10 ≤ nv 0
      · have eb : bb R c = nv 0 := if_pos (by rw [← hs]; exact e)
        rw [eb] at t1
        simp (disch := omega) only [X5_beginsAnew_4, X5_beginsAnew_49, ↓w_bd, ↓w_rt, ↓w_bh, sm_l, sm_r, ↓w_okr, ↓w_nm, ↓w_ite, ↓reduceIte, not_true_eq_false, not_false_eq_true, and_true, true_and, and_self, Option.some.injEq, reduceCtorEq, eq_self, ↓w_rc, ↓w_gI, ↓w_gR, ↓w_aN, ↓w_aI, ↓w_aR, ↓w_aL, ↓w_pI, ↓w_pR, ↓w_sI, ↓w_sR, ↓w_sL, ↓w_nO, ↓w_nA, ↓w_nL, ↓w_ca, ↓w_ca0, ↓w_gS, ↓w_gK, ↓w_dv, ↓w_tw, ↓w_rz, ↓w_no, nv_lit, nv_f, nv_add, nv_mul, nv_sub, nv_le, nv_lt, nv_eq, nv_cl, Nat.reduceMod, Nat.reduceMul, Nat.reduceAdd, Nat.zero_add, Nat.add_zero, Nat.mul_zero, decide_eq_true_eq, nv_inT, Nat.le_refl, e, X5_one_0, f0.1, l0]
        refine kk _ ?_
        unfold ba
        rw [eb]
        exact t1
      · have eb : bb R c = nv 1 := if_neg (by rw [← hs]; exact e)
        rw [eb] at t1
        simp (disch := omega) only [X5_beginsAnew_4, X5_beginsAnew_49, ↓w_bd, ↓w_rt, ↓w_bh, sm_l, sm_r, ↓w_okr, ↓w_nm, ↓w_ite, ↓reduceIte, not_true_eq_false, not_false_eq_true, and_true, true_and, and_self, Option.some.injEq, reduceCtorEq, eq_self, ↓w_rc, ↓w_gI, ↓w_gR, ↓w_aN, ↓w_aI, ↓w_aR, ↓w_aL, ↓w_pI, ↓w_pR, ↓w_sI, ↓w_sR, ↓w_sL, ↓w_nO, ↓w_nA, ↓w_nL, ↓w_ca, ↓w_ca0, ↓w_gS, ↓w_gK, ↓w_dv, ↓w_tw, ↓w_rz, ↓w_no, nv_lit, nv_f, nv_add, nv_mul, nv_sub, nv_le, nv_lt, nv_eq, nv_cl, Nat.reduceMod, Nat.reduceMul, Nat.reduceAdd, Nat.zero_add, Nat.add_zero, Nat.mul_zero, decide_eq_true_eq, nv_inT, Nat.le_refl, e, X5_one_1, n10, f0.1, l0]
        refine kk _ ?_
        unfold ba
        rw [eb]
        exact t1
    · intro f j hj ih d hd
      have f0 := hd.fo hF
      have t1 := hd.lay hG (k := 185 + 18 * c + (8 + j)) (by omega) (nv 0)
      rw [bz_m R hj] at t1
      have ev : cs (bz R c (min j 5) (j - 5)) c (8 + j) = cs R c (8 + j) := if_neg (by omega)
      rw [su] at ih
      simp (disch := omega) only [X5_beginsAnew_4, ↓w_bd, ↓w_rt, ↓w_bh, sm_l, sm_r, ↓w_okr, ↓w_nm, ↓w_ite, ↓reduceIte, not_true_eq_false, not_false_eq_true, and_true, true_and, and_self, Option.some.injEq, reduceCtorEq, eq_self, ↓w_rc, ↓w_gI, ↓w_gR, ↓w_aN, ↓w_aI, ↓w_aR, ↓w_aL, ↓w_pI, ↓w_pR, ↓w_sI, ↓w_sR, ↓w_sL, ↓w_nO, ↓w_nA, ↓w_nL, ↓w_ca, ↓w_ca0, ↓w_gS, ↓w_gK, ↓w_dv, ↓w_tw, ↓w_rz, ↓w_no, nv_lit, nv_f, nv_add, nv_mul, nv_sub, nv_le, nv_lt, nv_eq, nv_cl, Nat.reduceMod, Nat.reduceMul, Nat.reduceAdd, Nat.zero_add, Nat.add_zero, Nat.mul_zero, decide_eq_true_eq, nv_inT, Nat.not_le.mpr hj, f0.1, X5_cl_w f0, ev, X5_layClaim_w f0]
      exact ih _ t1
  refine l FU 0 (by omega) (by unfold FU; omega) d ?_
  show Tn G a d (bz R c 0 0)
  rw [bz_0]
  exact h
def bg (R : Nat → Int32) (k : Nat) : Nat → Nat → Int32
  | 0 => R
  | j + 1 => if opk (bg R k j) k j then ba (bg R k j) j else bg R k j
theorem ba_o (R : Nat → Int32) {c i : Nat} (h7 : i ≠ 7) (h : i < 185 + 18 * c + 8 ∨ 185 + 18 * c + 18 ≤ i) : ba R c i = R i := by
  unfold ba
  rw [up1_o _ _ _ h7, bz_o R (by omega) (by omega) h]
theorem ba_z (R : Nat → Int32) {c q : Nat} (h1 : 8 ≤ q) (h2 : q < 18) : cs (ba R c) c q = nv 0 := by
  unfold cs ba
  rw [up1_o _ _ _ (by omega)]
  exact if_pos (by omega)
theorem opk_cg {R R' : Nat → Int32} {k c : Nat} (h : ∀ q, q < 8 → cs R' c q = cs R c q) : opk R' k c = opk R k c := by
  have e : ∀ s, s < 2 → sd R' c s = sd R c s := fun s hs => by
    have := h (1 + s) (by omega)
    unfold cs at this
    unfold sd
    rw [this]
  unfold opk
  rw [h 4 (by omega), e 0 (by omega), e 1 (by omega)]
theorem bg_iv (R : Nat → Int32) (k : Nat) : ∀ j, (∀ i, i < 185 → i ≠ 7 → bg R k j i = R i) ∧ (∀ c q, q < 8 → cs (bg R k j) c q = cs R c q) ∧ (∀ c q, c < j → opk R k c → 8 ≤ q → q < 18 → cs (bg R k j) c q = nv 0) ∧ (∀ c q, ¬ (c < j ∧ opk R k c) → 8 ≤ q → q < 18 → cs (bg R k j) c q = cs R c q) := by
  intro j
  induction j with
  | zero => exact ⟨fun _ _ _ => rfl, fun _ _ _ => rfl, fun c q h => by omega, fun _ _ _ _ _ => rfl⟩
  | succ j ih =>
    obtain ⟨i1, i2, i3, i4⟩ := ih
    have eo := opk_cg (k := k) (fun q hq => i2 j q hq)
    by_cases c0 : opk R k j
    · have e : bg R k (j + 1) = ba (bg R k j) j := if_pos (by rw [eo]; exact c0)
      rw [e]
      refine ⟨fun i h1 h2 => (ba_o _ h2 (by omega)).trans (i1 i h1 h2), fun c q hq => ?_, fun c q hc ho h1 h2 => ?_, fun c q hc h1 h2 => ?_⟩
      · by_cases d : c < j ∨ c = j ∨ j < c
        · exact (ba_o _ (by omega) (by omega)).trans (i2 c q hq)
        · omega
      · by_cases d : c = j
        · rw [d]; exact ba_z _ h1 h2
        · exact (ba_o _ (by omega) (by omega)).trans (i3 c q (by omega) ho h1 h2)
      · have d : c ≠ j := fun d => hc ⟨by omega, by rw [d]; exact c0⟩
        exact (ba_o _ (by omega) (by omega)).trans (i4 c q (fun g => hc ⟨by omega, g.2⟩) h1 h2)
    · have e : bg R k (j + 1) = bg R k j := if_neg (by rw [eo]; exact c0)
      rw [e]
      refine ⟨i1, i2, fun c q hc ho h1 h2 => ?_, fun c q hc h1 h2 => ?_⟩
      · by_cases d : c = j
        · rw [d] at ho; exact absurd ho c0
        · exact i3 c q (by omega) ho h1 h2
      · exact i4 c q (fun g => hc ⟨by omega, g.2⟩) h1 h2
theorem bg_ss {R : Nat → Int32} (hH : nH R ≤ 10) (k j : Nat) : Ss R (bg R k j) := by
  obtain ⟨i1, i2, -⟩ := bg_iv R k j
  exact ⟨i1 _ (by omega) (by omega), i1 _ (by omega) (by omega), i1 _ (by omega) (by omega), fun x hx => i1 _ (by omega) (by omega), fun c _ q hq => i2 c q (by omega)⟩
theorem bg_bb (R : Nat → Int32) (k j : Nat) : bb (bg R k j) j = bb R j := by
  obtain ⟨-, -, -, i4⟩ := bg_iv R k j
  unfold bb
  rw [su_cg (g := fun r => cs R j (8 + r)) fun r hr => i4 j (8 + r) (by omega) (by omega) (by omega)]
theorem X8_isWith_1 {B : Nat → Nat × Nat} {a : Hp} {L : Nat → Nat} {R : Nat → Int32} (hM : Mk B a L R) {c k : Nat} (hc : c < nC R) (ea0 : cs R c 1 = nv (sd R c 0)) (ea1 : cs R c 2 = nv (sd R c 1)) (hs : sd R c 0 < 100 ∧ sd R c 1 < 100) (hk : k < 100) (h : sd R c 0 = k ∨ sd R c 1 = k) (Q : Int32 → Hp → Prop) : Wp (X8_isWith (L (40 + c)) (nv k)) a Q ↔ Q (nv 1) a := by
  have k1 : nrk 2 (nv 1) = true := by decide
  by_cases e : sd R c 0 = k
  · simp (disch := omega) only [X8_isWith, X8_isWith_16, X8_isWith_21, ↓w_bd, ↓w_rt, ↓w_bh, sm_l, sm_r, ↓w_okr, ↓w_nm, ↓w_ite, ↓reduceIte, not_true_eq_false, not_false_eq_true, and_true, true_and, and_self, Option.some.injEq, reduceCtorEq, eq_self, ↓w_rc, ↓w_gI, ↓w_gR, ↓w_aN, ↓w_aI, ↓w_aR, ↓w_aL, ↓w_pI, ↓w_pR, ↓w_sI, ↓w_sR, ↓w_sL, ↓w_nO, ↓w_nA, ↓w_nL, ↓w_ca, ↓w_ca0, ↓w_gS, ↓w_gK, ↓w_dv, ↓w_tw, ↓w_rz, ↓w_no, nv_lit, nv_f, nv_add, nv_mul, nv_sub, nv_le, nv_lt, nv_eq, nv_cl, Nat.reduceMod, Nat.reduceMul, Nat.reduceAdd, Nat.zero_add, Nat.add_zero, Nat.mul_zero, decide_eq_true_eq, nv_inT, mk_k hM, mk_n hM, mk_r hM, mk_i hM, ea0, e, k1]
  · have e2 : sd R c 1 = k := h.resolve_left e
    simp (disch := omega) only [X8_isWith, X8_isWith_16, X8_isWith_21, ↓w_bd, ↓w_rt, ↓w_bh, sm_l, sm_r, ↓w_okr, ↓w_nm, ↓w_ite, ↓reduceIte, not_true_eq_false, not_false_eq_true, and_true, true_and, and_self, Option.some.injEq, reduceCtorEq, eq_self, ↓w_rc, ↓w_gI, ↓w_gR, ↓w_aN, ↓w_aI, ↓w_aR, ↓w_aL, ↓w_pI, ↓w_pR, ↓w_sI, ↓w_sR, ↓w_sL, ↓w_nO, ↓w_nA, ↓w_nL, ↓w_ca, ↓w_ca0, ↓w_gS, ↓w_gK, ↓w_dv, ↓w_tw, ↓w_rz, ↓w_no, nv_lit, nv_f, nv_add, nv_mul, nv_sub, nv_le, nv_lt, nv_eq, nv_cl, Nat.reduceMod, Nat.reduceMul, Nat.reduceAdd, Nat.zero_add, Nat.add_zero, Nat.mul_zero, decide_eq_true_eq, nv_inT, mk_k hM, mk_n hM, mk_r hM, mk_i hM, ea0, ea1, e, e2, k1]
theorem X8_isWith_0 {B : Nat → Nat × Nat} {a : Hp} {L : Nat → Nat} {R : Nat → Int32} (hM : Mk B a L R) {c k : Nat} (hc : c < nC R) (ea0 : cs R c 1 = nv (sd R c 0)) (ea1 : cs R c 2 = nv (sd R c 1)) (hs : sd R c 0 < 100 ∧ sd R c 1 < 100) (hk : k < 100) (h : ¬ (sd R c 0 = k ∨ sd R c 1 = k)) (Q : Int32 → Hp → Prop) : Wp (X8_isWith (L (40 + c)) (nv k)) a Q ↔ Q (nv 0) a := by
  have k1 : nrk 2 (nv 0) = true := by decide
  have e : ¬ sd R c 0 = k := fun e => h (.inl e)
  have e2 : ¬ sd R c 1 = k := fun e => h (.inr e)
  simp (disch := omega) only [X8_isWith, X8_isWith_16, X8_isWith_21, ↓w_bd, ↓w_rt, ↓w_bh, sm_l, sm_r, ↓w_okr, ↓w_nm, ↓w_ite, ↓reduceIte, not_true_eq_false, not_false_eq_true, and_true, true_and, and_self, Option.some.injEq, reduceCtorEq, eq_self, ↓w_rc, ↓w_gI, ↓w_gR, ↓w_aN, ↓w_aI, ↓w_aR, ↓w_aL, ↓w_pI, ↓w_pR, ↓w_sI, ↓w_sR, ↓w_sL, ↓w_nO, ↓w_nA, ↓w_nL, ↓w_ca, ↓w_ca0, ↓w_gS, ↓w_gK, ↓w_dv, ↓w_tw, ↓w_rz, ↓w_no, nv_lit, nv_f, nv_add, nv_mul, nv_sub, nv_le, nv_lt, nv_eq, nv_cl, Nat.reduceMod, Nat.reduceMul, Nat.reduceAdd, Nat.zero_add, Nat.add_zero, Nat.mul_zero, decide_eq_true_eq, nv_inT, mk_k hM, mk_n hM, mk_r hM, mk_i hM, ea0, ea1, e, e2, k1]
theorem X2_put_69_w {G : Nat → Nat} {B : Nat → Nat × Nat} {a b : Hp} {L : Nat → Nat} {R : Nat → Int32} (h : Cn G B a b L R) (hS : Sh R) {k : Nat} (hk : k < nH R) (Q : Int32 → Hp → Prop)
    (kk : ∀ b', Cn G B a b' L (bg R k (nC R)) → hSz b' = hSz b → hSl b' = hSl b → Q (sz (bg R k (nC R)) k) b') : Wp (X2_put_69 FU (L 0) (some (L (20 + k))) (nv 0)) b Q := by
  have h10 := sh_H10 hS
  have h20 := sh_C20 hS
  have l : ∀ (f j : Nat), j ≤ nC R → nC R - j < f → ∀ d, Cn G B a d L (bg R k j) → hSz d = hSz b → hSl d = hSl b → Wp (X2_put_69 f (L 0) (some (L (20 + k))) (nv j)) d Q := by
    refine loopUp _ (nC R) ?_ ?_
    · intro f d hd z l
      have hM := hd.1
      have ss := bg_ss h10 k (nC R)
      have hk1 : k < nH (bg R k (nC R)) := by rw [ss.H]; exact hk
      simp (disch := omega) only [X2_put_69, ↓w_bd, ↓w_rt, ↓w_bh, sm_l, sm_r, ↓w_okr, ↓w_nm, ↓w_ite, ↓reduceIte, not_true_eq_false, not_false_eq_true, and_true, true_and, and_self, Option.some.injEq, reduceCtorEq, eq_self, ↓w_rc, ↓w_gI, ↓w_gR, ↓w_aN, ↓w_aI, ↓w_aR, ↓w_aL, ↓w_pI, ↓w_pR, ↓w_sI, ↓w_sR, ↓w_sL, ↓w_nO, ↓w_nA, ↓w_nL, ↓w_ca, ↓w_ca0, ↓w_gS, ↓w_gK, ↓w_dv, ↓w_tw, ↓w_rz, ↓w_no, nv_lit, nv_f, nv_add, nv_mul, nv_sub, nv_le, nv_lt, nv_eq, nv_cl, Nat.reduceMod, Nat.reduceMul, Nat.reduceAdd, Nat.zero_add, Nat.add_zero, Nat.mul_zero, decide_eq_true_eq, nv_inT, mk_k hM, mk_n hM, mk_r hM, mk_i hM, ss.C, Nat.le_refl, X4_size_w hM]
      exact kk d hd z l
    · intro f j hj ih d hd z l
      have hM := hd.1
      have ss := bg_ss h10 k j
      have hk1 : k < nH (bg R k j) := by rw [ss.H]; exact hk
      have hj1 : j < nC (bg R k j) := by rw [ss.C]; exact hj
      obtain ⟨-, i2, -⟩ := bg_iv R k j
      have sh0 := sh_SH hS hj (show 0 < 2 by omega)
      have sh1 := sh_SH hS hj (show 1 < 2 by omega)
      have s0 := ss.S hj (show 0 < 2 by omega)
      have s1 := ss.S hj (show 1 < 2 by omega)
      have ea0 : cs (bg R k j) j 1 = nv (sd (bg R k j) j 0) := by rw [i2 j 1 (by omega), s0]; exact sh_S0 hS hj
      have ea1 : cs (bg R k j) j 2 = nv (sd (bg R k j) j 1) := by rw [i2 j 2 (by omega), s1]; exact sh_S1 hS hj
      have hsd : sd (bg R k j) j 0 < 100 ∧ sd (bg R k j) j 1 < 100 := by rw [s0, s1]; omega
      by_cases c1 : opk (bg R k j) k j
      · have e4 : cs (bg R k j) j 4 = nv 0 := c1.1
        have en : bg R k (j + 1) = ba (bg R k j) j := if_pos c1
        simp (disch := omega) only [X2_put_69, X2_put_132, ↓w_bd, ↓w_rt, ↓w_bh, sm_l, sm_r, ↓w_okr, ↓w_nm, ↓w_ite, ↓reduceIte, not_true_eq_false, not_false_eq_true, and_true, true_and, and_self, Option.some.injEq, reduceCtorEq, eq_self, ↓w_rc, ↓w_gI, ↓w_gR, ↓w_aN, ↓w_aI, ↓w_aR, ↓w_aL, ↓w_pI, ↓w_pR, ↓w_sI, ↓w_sR, ↓w_sL, ↓w_nO, ↓w_nA, ↓w_nL, ↓w_ca, ↓w_ca0, ↓w_gS, ↓w_gK, ↓w_dv, ↓w_tw, ↓w_rz, ↓w_no, nv_lit, nv_f, nv_add, nv_mul, nv_sub, nv_le, nv_lt, nv_eq, nv_cl, Nat.reduceMod, Nat.reduceMul, Nat.reduceAdd, Nat.zero_add, Nat.add_zero, Nat.mul_zero, decide_eq_true_eq, nv_inT, mk_k hM, mk_n hM, mk_r hM, mk_i hM, ss.C, Nat.not_le.mpr hj, X3_at_c hM, ct_88, List.contains_cons, List.contains_nil, Nat.reduceBEq, Bool.or_true, Bool.true_or, Bool.or_false, BEq.rfl, X8_isOpen_c1 hM hj1 e4, X8_isWith_1 hM hj1 ea0 ea1 hsd (show k < 100 by omega) c1.2, n10]
        refine X8_beginsAnew_w hd hj1 (by omega) _ fun b' hb' z' l' => ?_
        have hMb := hb'.1
        have e7 : bz (bg R k j) j 5 5 7 = bg R k j 7 := bz_o _ (by omega) (by omega) (by omega)
        have c2 := hb'.wI (bg R k j 7 + bb (bg R k j) j) (ci_ta (bz (bg R k j) j 5 5) (j := 3) (by omega)) (by omega) (by omega) (by omega) (fun z _ => by omega) (by omega)
        have eb : bb (bg R k j) j = nv 0 ∨ bb (bg R k j) j = nv 1 := by unfold bb; split <;> simp
        have c3 := c2
        rw [show up1 (bz (bg R k j) j 5 5) (4 + 3) (bg R k j 7 + bb (bg R k j) j) = bg R k (j + 1) from en.symm] at c3
        have fin := ih _ c3 (z'.trans z) (l'.trans l)
        rcases eb with eb | eb
        · rw [eb] at fin ⊢
          simp (disch := omega) only [↓w_bd, ↓w_rt, ↓w_bh, sm_l, sm_r, ↓w_okr, ↓w_nm, ↓w_ite, ↓reduceIte, not_true_eq_false, not_false_eq_true, and_true, true_and, and_self, Option.some.injEq, reduceCtorEq, eq_self, ↓w_rc, ↓w_gI, ↓w_gR, ↓w_aN, ↓w_aI, ↓w_aR, ↓w_aL, ↓w_pI, ↓w_pR, ↓w_sI, ↓w_sR, ↓w_sL, ↓w_nO, ↓w_nA, ↓w_nL, ↓w_ca, ↓w_ca0, ↓w_gS, ↓w_gK, ↓w_dv, ↓w_tw, ↓w_rz, ↓w_no, nv_lit, nv_f, nv_add, nv_mul, nv_sub, nv_le, nv_lt, nv_eq, nv_cl, Nat.reduceMod, Nat.reduceMul, Nat.reduceAdd, Nat.zero_add, Nat.add_zero, Nat.mul_zero, decide_eq_true_eq, nv_inT, X5_one_0, X5_one_1, X1_bit_0, X1_bit_1, ite_not, nr41, mk_k hMb, mk_r hMb, mk_n hMb]
          exact fin
        · rw [eb] at fin ⊢
          simp (disch := omega) only [↓w_bd, ↓w_rt, ↓w_bh, sm_l, sm_r, ↓w_okr, ↓w_nm, ↓w_ite, ↓reduceIte, not_true_eq_false, not_false_eq_true, and_true, true_and, and_self, Option.some.injEq, reduceCtorEq, eq_self, ↓w_rc, ↓w_gI, ↓w_gR, ↓w_aN, ↓w_aI, ↓w_aR, ↓w_aL, ↓w_pI, ↓w_pR, ↓w_sI, ↓w_sR, ↓w_sL, ↓w_nO, ↓w_nA, ↓w_nL, ↓w_ca, ↓w_ca0, ↓w_gS, ↓w_gK, ↓w_dv, ↓w_tw, ↓w_rz, ↓w_no, nv_lit, nv_f, nv_add, nv_mul, nv_sub, nv_le, nv_lt, nv_eq, nv_cl, Nat.reduceMod, Nat.reduceMul, Nat.reduceAdd, Nat.zero_add, Nat.add_zero, Nat.mul_zero, decide_eq_true_eq, nv_inT, X5_one_0, X5_one_1, X1_bit_0, X1_bit_1, ite_not, n10, nr41, mk_k hMb, mk_r hMb, mk_n hMb]
          exact fin
      · have en : bg R k (j + 1) = bg R k j := if_neg c1
        rw [en] at ih
        by_cases e4 : cs (bg R k j) j 4 = nv 0
        · have nw : ¬ (sd (bg R k j) j 0 = k ∨ sd (bg R k j) j 1 = k) := fun e => c1 ⟨e4, e⟩
          simp (disch := omega) only [X2_put_69, X2_put_132, ↓w_bd, ↓w_rt, ↓w_bh, sm_l, sm_r, ↓w_okr, ↓w_nm, ↓w_ite, ↓reduceIte, not_true_eq_false, not_false_eq_true, and_true, true_and, and_self, Option.some.injEq, reduceCtorEq, eq_self, ↓w_rc, ↓w_gI, ↓w_gR, ↓w_aN, ↓w_aI, ↓w_aR, ↓w_aL, ↓w_pI, ↓w_pR, ↓w_sI, ↓w_sR, ↓w_sL, ↓w_nO, ↓w_nA, ↓w_nL, ↓w_ca, ↓w_ca0, ↓w_gS, ↓w_gK, ↓w_dv, ↓w_tw, ↓w_rz, ↓w_no, nv_lit, nv_f, nv_add, nv_mul, nv_sub, nv_le, nv_lt, nv_eq, nv_cl, Nat.reduceMod, Nat.reduceMul, Nat.reduceAdd, Nat.zero_add, Nat.add_zero, Nat.mul_zero, decide_eq_true_eq, nv_inT, mk_k hM, mk_n hM, mk_r hM, mk_i hM, ss.C, Nat.not_le.mpr hj, X3_at_c hM, ct_88, List.contains_cons, List.contains_nil, Nat.reduceBEq, Bool.or_true, Bool.true_or, Bool.or_false, BEq.rfl, X8_isOpen_c1 hM hj1 e4, X8_isWith_0 hM hj1 ea0 ea1 hsd (show k < 100 by omega) nw, n10]
          exact ih d hd z l
        · simp (disch := omega) only [X2_put_69, X2_put_132, ↓w_bd, ↓w_rt, ↓w_bh, sm_l, sm_r, ↓w_okr, ↓w_nm, ↓w_ite, ↓reduceIte, not_true_eq_false, not_false_eq_true, and_true, true_and, and_self, Option.some.injEq, reduceCtorEq, eq_self, ↓w_rc, ↓w_gI, ↓w_gR, ↓w_aN, ↓w_aI, ↓w_aR, ↓w_aL, ↓w_pI, ↓w_pR, ↓w_sI, ↓w_sR, ↓w_sL, ↓w_nO, ↓w_nA, ↓w_nL, ↓w_ca, ↓w_ca0, ↓w_gS, ↓w_gK, ↓w_dv, ↓w_tw, ↓w_rz, ↓w_no, nv_lit, nv_f, nv_add, nv_mul, nv_sub, nv_le, nv_lt, nv_eq, nv_cl, Nat.reduceMod, Nat.reduceMul, Nat.reduceAdd, Nat.zero_add, Nat.add_zero, Nat.mul_zero, decide_eq_true_eq, nv_inT, mk_k hM, mk_n hM, mk_r hM, mk_i hM, ss.C, Nat.not_le.mpr hj, X3_at_c hM, ct_88, List.contains_cons, List.contains_nil, Nat.reduceBEq, Bool.or_true, Bool.true_or, Bool.or_false, BEq.rfl, X8_isOpen_c0 hM hj1 e4]
          exact ih d hd z l
  exact l FU 0 (by omega) (by unfold FU; omega) b h rfl rfl
theorem su_ap (f : Nat → Int32) (n : Nat) : ∀ m, su f (n + m) = su f n + su (fun i => f (n + i)) m := by
  intro m
  induction m with
  | zero => exact (Int32.add_zero _).symm
  | succ m ih =>
    show su f (n + m) + f (n + m) = su f n + (su (fun i => f (n + i)) m + f (n + m))
    rw [ih, Int32.add_assoc]
/-- pairs on both sides: none on both or on neither -/
theorem su_10 {R : Nat → Int32} (hR : Ro R) {c : Nat} (hc : c < nC R) (h4 : cs R c 4 = 0) : (su (fun r => cs R c (8 + r)) 10 ≤ nv 0) = (su (fun r => cs R c (8 + r)) 5 ≤ nv 0) := by
  obtain ⟨n0, n1, p, a1, a2, a3, a4, -, -, -, -, e⟩ := lf_nat hR hc h4
  have e2 := (hR.2.2.2.2.2 c hc h4).2
  have e3 := su_ap (fun r => cs R c (8 + r)) 5 5
  have e4 : su (fun i => cs R c (8 + (5 + i))) 5 = su (fun r => cs R c (13 + r)) 5 := su_cg fun r _ => by rw [show 8 + (5 + r) = 13 + r by omega]
  have e5 : su (fun r => cs R c (8 + r)) 10 = nv (p + p) := by
    have e3' : su (fun r => cs R c (8 + r)) 10 = su (fun r => cs R c (8 + r)) 5 + su (fun i => cs R c (8 + (5 + i))) 5 := e3
    rw [e3', e4, ← e2, e, nv_add]
  rw [e5, e, nv_le (by omega) (by omega), nv_le (by omega) (by omega)]
  apply propext
  omega
