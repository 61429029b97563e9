/-! A CLAIM IS SAID -/
def zr (R : Nat → Int32) (k j : Nat) : Nat → Int32 := fun i => if 185 + 18 * k ≤ i ∧ i < 185 + 18 * k + j then nv 0 else R i
def sy (R : Nat → Int32) (k : Nat) (t x y w : Int32) : Nat → Int32 := up1 (up1 (up1 (up1 (up1 (zr R k 18) (185 + 18 * k + 0) t) (185 + 18 * k + 1) x) (185 + 18 * k + 2) y) (185 + 18 * k + 3) w) 3 (nv (k + 1))
theorem zr_o (R : Nat → Int32) {k j i : Nat} (h : i < 185 + 18 * k ∨ 185 + 18 * k + j ≤ i) : zr R k j i = R i := if_neg (by omega)
theorem zr_n (R : Nat → Int32) (k j : Nat) : up1 (zr R k j) (185 + 18 * k + j) (nv 0) = zr R k (j + 1) := by
  funext i
  unfold up1 zr
  by_cases c : i = 185 + 18 * k + j
  · rw [if_pos c, if_pos (by omega)]
  · rw [if_neg c]
    have : (185 + 18 * k ≤ i ∧ i < 185 + 18 * k + j) = (185 + 18 * k ≤ i ∧ i < 185 + 18 * k + (j + 1)) := by apply propext; omega
    simp only [this]
theorem sy_o (R : Nat → Int32) {k i : Nat} (t x y w : Int32) (h3 : i ≠ 3) (h : i < 185 + 18 * k ∨ 185 + 18 * k + 18 ≤ i) : sy R k t x y w i = R i := by
  unfold sy
  rw [up1_o _ _ _ h3, up1_o _ _ _ (by omega), up1_o _ _ _ (by omega), up1_o _ _ _ (by omega), up1_o _ _ _ (by omega), zr_o R h]
theorem sy_z (R : Nat → Int32) {k j : Nat} (t x y w : Int32) (h1 : 4 ≤ j) (h2 : j < 18) : sy R k t x y w (185 + 18 * k + j) = nv 0 := by
  unfold sy
  rw [up1_o _ _ _ (by omega), up1_o _ _ _ (by omega), up1_o _ _ _ (by omega), up1_o _ _ _ (by omega), up1_o _ _ _ (by omega)]
  exact if_pos (by omega)
theorem sy_v (R : Nat → Int32) (k : Nat) (t x y w : Int32) : sy R k t x y w 3 = nv (k + 1) ∧ sy R k t x y w (185 + 18 * k + 0) = t ∧ sy R k t x y w (185 + 18 * k + 1) = x ∧ sy R k t x y w (185 + 18 * k + 2) = y ∧ sy R k t x y w (185 + 18 * k + 3) = w := by
  unfold sy
  refine ⟨up1_s _ _ _, ?_, ?_, ?_, ?_⟩
  · rw [up1_o _ _ _ (by omega), up1_o _ _ _ (by omega), up1_o _ _ _ (by omega), up1_o _ _ _ (by omega), up1_s]
  · rw [up1_o _ _ _ (by omega), up1_o _ _ _ (by omega), up1_o _ _ _ (by omega), up1_s]
  · rw [up1_o _ _ _ (by omega), up1_o _ _ _ (by omega), up1_s]
  · rw [up1_o _ _ _ (by omega), up1_s]
theorem sy_ro {R : Nat → Int32} (hR : Ro R) {t x y : Nat} {w : Int32} (ht : t < nT R) (hx : x < nH R) (hy : y < nH R) (hxy : x ≠ y) (hk : nC R < 20) : Ro (sy R (nC R) (nv t) (nv x) (nv y) w) ∧ nC (sy R (nC R) (nv t) (nv x) (nv y) w) = nC R + 1 := by
  have hS := hR.1
  have h10 := sh_H10 hS
  have h4 := sh_T4 hS
  have lo : ∀ i, i < 185 → i ≠ 3 → sy R (nC R) (nv t) (nv x) (nv y) w i = R i := fun i h h3 => sy_o R _ _ _ _ h3 (by omega)
  obtain ⟨v3, v0, v1, v2, -⟩ := sy_v R (nC R) (nv t) (nv x) (nv y) w
  rw [Nat.add_zero] at v0
  have eH : nH (sy R (nC R) (nv t) (nv x) (nv y) w) = nH R := by unfold nH; rw [lo 1 (by omega) (by omega)]
  have eT : nT (sy R (nC R) (nv t) (nv x) (nv y) w) = nT R := by unfold nT; rw [lo 0 (by omega) (by omega)]
  have eC : nC (sy R (nC R) (nv t) (nv x) (nv y) w) = nC R + 1 := by
    show ix (sy R (nC R) (nv t) (nv x) (nv y) w 3) = _
    rw [v3]; exact nv_cl (by omega)
  have eR : ∀ z, z < nH R → nR (sy R (nC R) (nv t) (nv x) (nv y) w) z = nR R z := fun z hz => by unfold nR; rw [lo _ (by omega) (by omega)]
  have eO : ∀ z, z < nH R → ow (sy R (nC R) (nv t) (nv x) (nv y) w) z = ow R z := fun z hz => by unfold ow; rw [lo _ (by omega) (by omega)]
  have est : ∀ z r, z < nH R → r < nR R z → st (sy R (nC R) (nv t) (nv x) (nv y) w) z r = st R z r := fun z r hz hr => by
    have := sh_R5 hS hz
    unfold st
    rw [lo _ (by omega) (by omega)]
  have ez : ∀ z, z < nH R → sz (sy R (nC R) (nv t) (nv x) (nv y) w) z = sz R z := fun z hz => by
    unfold sz
    rw [eR z hz]
    exact su_cg fun r hr => est z r hz hr
  have efc : ∀ u v, u < 10 → v < 10 → fc (sy R (nC R) (nv t) (nv x) (nv y) w) u v = fc R u v := fun u v hu hv => lo _ (by omega) (by omega)
  have old : ∀ d j, d < nC R → j < 18 → cs (sy R (nC R) (nv t) (nv x) (nv y) w) d j = cs R d j := fun d j hd hj => sy_o R _ _ _ _ (by omega) (by omega)
  have oldS : ∀ d s, d < nC R → s < 2 → sd (sy R (nC R) (nv t) (nv x) (nv y) w) d s = sd R d s := fun d s hd hs => by unfold sd; rw [sy_o R _ _ _ _ (by omega) (by omega)]
  have newS0 : sd (sy R (nC R) (nv t) (nv x) (nv y) w) (nC R) 0 = x := by unfold sd; rw [show 185 + 18 * nC R + (1 + 0) = 185 + 18 * nC R + 1 by omega, v1]; exact nv_cl (by omega)
  have newS1 : sd (sy R (nC R) (nv t) (nv x) (nv y) w) (nC R) 1 = y := by unfold sd; rw [show 185 + 18 * nC R + (1 + 1) = 185 + 18 * nC R + 2 by omega, v2]; exact nv_cl (by omega)
  have newS : ∀ s, s < 2 → sd (sy R (nC R) (nv t) (nv x) (nv y) w) (nC R) s < nH R := fun s hs => by
    have : s = 0 ∨ s = 1 := by omega
    rcases this with rfl | rfl
    · rw [newS0]; exact hx
    · rw [newS1]; exact hy
  have newz : ∀ j, 4 ≤ j → j < 18 → cs (sy R (nC R) (nv t) (nv x) (nv y) w) (nC R) j = nv 0 := fun j h1 h2 => sy_z R _ _ _ _ h1 h2
  refine ⟨⟨?_, fun u v hu hv => ?_, fun d s r hd hs hr5 hr => ?_, ⟨fun z r hz hr => ?_, fun k hk => ?_, fun d hd hd4 => ?_⟩⟩, eC⟩
  · obtain ⟨⟨a1, a2, a3⟩, ⟨b1, b2, b3⟩, ⟨c1, c2⟩, d, e⟩ := hS
    unfold Sh
    rw [eH, eT, eC]
    refine ⟨⟨by rw [lo 0 (by omega) (by omega)]; exact a1, a2, a3⟩, ⟨by rw [lo 1 (by omega) (by omega)]; exact b1, b2, b3⟩, ⟨v3, by omega⟩, fun z hz => ?_, fun q hq => ?_⟩
    · rw [eR z hz, eO z hz, lo _ (by omega) (by omega), lo _ (by omega) (by omega)]
      exact d z hz
    · by_cases c : q = nC R
      · rw [c]
        have ew : who (sy R (nC R) (nv t) (nv x) (nv y) w) (nC R) = t := by unfold who; rw [v0]; exact nv_cl (by omega)
        rw [ew, newS0, newS1]
        refine ⟨v0, ht, hxy, fun s hs => ?_⟩
        have : s = 0 ∨ s = 1 := by omega
        rcases this with rfl | rfl
        · rw [newS0]; exact ⟨v1, hx⟩
        · rw [newS1]; exact ⟨v2, hy⟩
      · have hq2 : q < nC R := by omega
        obtain ⟨e1, e2, e3, e4⟩ := e q hq2
        have ew : who (sy R (nC R) (nv t) (nv x) (nv y) w) q = who R q := by unfold who; rw [sy_o R _ _ _ _ (by omega) (by omega)]
        rw [ew, oldS q 0 hq2 (by omega), oldS q 1 hq2 (by omega), sy_o R _ _ _ _ (by omega) (by omega)]
        refine ⟨e1, e2, e3, fun s hs => ?_⟩
        rw [oldS q s hq2 hs, sy_o R _ _ _ _ (by omega) (by omega)]
        exact e4 s hs
  · rw [efc u v hu hv, efc v u hv hu, eH]
    rcases hR.2.1 u v hu hv with g | ⟨g1, g2, g3, g4, g5⟩
    · exact .inl g
    · unfold ws
      rw [ez u g2, ez v g3]
      exact .inr ⟨g1, g2, g3, g4, g5⟩
  · rw [eC] at hd
    by_cases c : d = nC R
    · rw [c]; exact newz _ (by omega) (by omega)
    · have hd2 : d < nC R := by omega
      rw [oldS d s hd2 hs, eR _ (sh_SH hS hd2 hs)] at hr
      rw [old d _ hd2 (by omega)]
      exact hR.2.2.1 d s r hd2 hs hr5 hr
  · rw [eH] at hz
    rw [eR z hz] at hr
    rw [est z r hz hr]
    exact hR.2.2.2.1 z r hz hr
  · rw [eT] at hk
    rw [lo _ (by omega) (by omega)]
    exact hR.2.2.2.2.1 k hk
  · rw [eC] at hd
    by_cases c : d = nC R
    · subst c
      refine ⟨fun s r hs hr => ?_, ?_⟩
      · have hsd := newS s hs
        rw [eR _ hsd] at hr
        obtain ⟨u, hu, eu⟩ := hR.2.2.2.1 _ r hsd hr
        have := sh_R5 hS hsd
        refine ⟨0, u, by omega, hu, newz _ (by omega) (by omega), ?_⟩
        rw [est _ r hsd hr]
        exact eu
      · exact su_cg fun r hr => (newz _ (by omega) (by omega)).trans (newz _ (by omega) (by omega)).symm
    · have hd2 : d < nC R := by omega
      rw [old d 4 hd2 (by omega)] at hd4
      obtain ⟨g1, g2⟩ := hR.2.2.2.2.2 d hd2 hd4
      refine ⟨fun s r hs hr => ?_, ?_⟩
      · have hsd := sh_SH hS hd2 hs
        have := sh_R5 hS hsd
        rw [oldS d s hd2 hs, eR _ hsd] at hr
        rw [oldS d s hd2 hs, est _ r hsd hr, old d _ hd2 (by omega)]
        exact g1 s r hs hr
      · rw [su_cg (g := fun r => cs R d (8 + r)) fun r hr => old d _ hd2 (by omega), su_cg (f := fun r => cs (sy R (nC R) (nv t) (nv x) (nv y) w) d (13 + r)) (g := fun r => cs R d (13 + r)) fun r hr => old d _ hd2 (by omega)]
        exact g2
/-- the twin lays a claim -/
theorem X5_say_119_w {G : Nat → Nat} {a d : Hp} {R R0 : Nat → Int32} (hG : GD G) (hF : FO G a 0 R0) (h : Tn G a d R) {k : Nat} (hk : k < 20) (h3 : R 3 = nv k) (t x y w : Int32) (Q : Int32 → Hp → Prop)
    (kk : ∀ d', Tn G a d' (sy R k t x y w) → Q (nv k) d') : Wp (X5_say_119 FU (G 10) t x w y (nv k) (nv 0)) d Q := by
  have lp : ∀ (f j : Nat), j ≤ 18 → 18 - j < f → ∀ d, Tn G a d (zr R k j) → Wp (X5_say_119 f (G 10) t x w y (nv k) (nv j)) d Q := by
    refine loopUp _ 18 ?_ ?_
    · intro f d hd
      have f0 := hd.fo hF
      have t1 := hd.lay hG (k := 185 + 18 * k + 0) (by omega) t
      have f1 := t1.fo hF
      have t2 := t1.lay hG (k := 185 + 18 * k + 1) (by omega) x
      have f2 := t2.fo hF
      have t3 := t2.lay hG (k := 185 + 18 * k + 2) (by omega) y
      have f3 := t3.fo hF
      have t4 := t3.lay hG (k := 185 + 18 * k + 3) (by omega) w
      have f4 := t4.fo hF
      have t5 := t4.lay hG (k := 3) (by omega) (nv (k + 1))
      have e3 : up1 (up1 (up1 (up1 (zr R k 18) (185 + 18 * k + 0) t) (185 + 18 * k + 1) x) (185 + 18 * k + 2) y) (185 + 18 * k + 3) w 3 = nv k := by
        rw [up1_o _ _ _ (by omega), up1_o _ _ _ (by omega), up1_o _ _ _ (by omega), up1_o _ _ _ (by omega), zr_o R (by omega), h3]
      have l0 := X5_layClaim_w f0 (c := k) (j := 0) hk (by omega) t
      have l1 := X5_layClaim_w f1 (c := k) (j := 1) hk (by omega) x
      have l2 := X5_layClaim_w f2 (c := k) (j := 2) hk (by omega) y
      have l3 := X5_layClaim_w f3 (c := k) (j := 3) hk (by omega) w
      have l4 := X5_adds_w f4 (k := 3) (by omega) (nv 1)
      rw [e3] at l4
      simp (disch := omega) only [X5_say_119, ↓w_bd, ↓w_rt, ↓w_bh, sm_l, sm_r, ↓w_okr, ↓w_nm, ↓w_ite, ↓reduceIte, not_true_eq_false, not_false_eq_true, and_true, true_and, and_self, Option.some.injEq, reduceCtorEq, eq_self, ↓w_rc, ↓w_gI, ↓w_gR, ↓w_aN, ↓w_aI, ↓w_aR, ↓w_aL, ↓w_pI, ↓w_pR, ↓w_sI, ↓w_sR, ↓w_sL, ↓w_nO, ↓w_nA, ↓w_nL, ↓w_ca, ↓w_ca0, ↓w_gS, ↓w_gK, ↓w_dv, ↓w_tw, ↓w_rz, ↓w_no, nv_lit, Nat.le_refl, f0.1, l0, ly_K, l1, l2, l3, l4, nv_add]
      exact kk _ t5
    · intro f j hj ih d hd
      have f0 := hd.fo hF
      have t1 := hd.lay hG (k := 185 + 18 * k + j) (by omega) (nv 0)
      rw [zr_n] at t1
      simp (disch := omega) only [X5_say_119, ↓w_bd, ↓w_rt, ↓w_bh, sm_l, sm_r, ↓w_okr, ↓w_nm, ↓w_ite, ↓reduceIte, not_true_eq_false, not_false_eq_true, and_true, true_and, and_self, Option.some.injEq, reduceCtorEq, eq_self, ↓w_rc, ↓w_gI, ↓w_gR, ↓w_aN, ↓w_aI, ↓w_aR, ↓w_aL, ↓w_pI, ↓w_pR, ↓w_sI, ↓w_sR, ↓w_sL, ↓w_nO, ↓w_nA, ↓w_nL, ↓w_ca, ↓w_ca0, ↓w_gS, ↓w_gK, ↓w_dv, ↓w_tw, ↓w_rz, ↓w_no, nv_lit, nv_f, nv_add, nv_mul, nv_sub, nv_le, nv_lt, nv_eq, nv_cl, Nat.reduceMod, Nat.reduceMul, Nat.reduceAdd, Nat.zero_add, Nat.add_zero, Nat.mul_zero, decide_eq_true_eq, nv_inT, Nat.not_le.mpr hj, f0.1, X5_layClaim_w f0]
      exact ih _ t1
  refine lp FU 0 (by omega) (by unfold FU; omega) d ?_
  have : zr R k 0 = R := by
    funext i
    exact if_neg (by omega)
  rw [this]
  exact h
theorem act_say {G : Nat → Nat} {B : Nat → Nat × Nat} {S : Gst} {a : Hp} (hC : JC G B S a) (v x w y : Int32) : Act κb G B S a (X1_say (G 0) v x w y) (X5_say (G 10) v x w y) := by
  obtain ⟨L, R, hM0, hRo, hX0, h0⟩ := startC hC
  have hG := hC.1.gd
  have hS := hRo.1
  have h10 := sh_H10 hS
  have h2 := sh_H2 hS
  have hT1 := sh_T1 hS
  have hT4 := sh_T4 hS
  have h20 := sh_C20 hS
  have hX := hX0.ext (va2_e a x y)
  have hM := hM0.ext (va2_e a x y) (fun _ _ => rfl)
  have hCb := hC.e0 (va2_e a x y)
  have hJ := hCb.2.1
  have hJ0 := hC.2.1
  have hE := va2_e a x y
  by_cases hv : inr v (nT R)
  · obtain ⟨t, rfl, ht⟩ := inr_k hv
    by_cases hh : inr x (nH R) ∧ inr y (nH R)
    · by_cases hw : inr w 3
      · have hb := bw_1' hw (by omega) (show 3 = 2 + 1 from rfl)
        by_cases exy : x = y
        · subst exy
          simp (disch := omega) only [X1_say, ↓w_bd, ↓w_rt, ↓w_bh, sm_l, sm_r, ↓w_okr, ↓w_nm, ↓w_ite, ↓reduceIte, not_true_eq_false, not_false_eq_true, and_true, true_and, and_self, Option.some.injEq, reduceCtorEq, eq_self, ↓w_rc, ↓w_gI, ↓w_gR, ↓w_aN, ↓w_aI, ↓w_aR, ↓w_aL, ↓w_pI, ↓w_pR, ↓w_sI, ↓w_sR, ↓w_sL, ↓w_nO, ↓w_nA, ↓w_nL, ↓w_ca, ↓w_ca0, ↓w_gS, ↓w_gK, ↓w_dv, ↓w_tw, ↓w_rz, ↓w_no, nv_lit, nv_f, nv_add, nv_mul, nv_sub, nv_le, nv_lt, nv_eq, nv_cl, Nat.reduceMod, Nat.reduceMul, Nat.reduceAdd, Nat.zero_add, Nat.add_zero, Nat.mul_zero, decide_eq_true_eq, nv_inT, mk_k hM, mk_n hM, mk_r hM, mk_i hM, hX, hJ, X1_isBetween_w, X1_requireArgument_1 n10, X1_requireArgument_0, X1_requireIndex_1 n10, X1_requireIndex_0, Nat.reduceEqDiff, okn, hJ0, hX0, X1_requireTrader_1 hM0 hX0 hv, va1_f, va2_f, hK_new, hN_new, hK_wI, hN_wI, up1_s, Nat.reduceLeDiff, Nat.not_lt_zero, X1_requireHeaps_11 hM hX hh.1 hh.2 (va2_q a _ _), hb, X1_refuse_w hCb]
          refine ap_ref hC hE (by rw [va2_z]; omega) (by rw [va2_l]; omega) (by omega) fun c hc Q hq => ?_
          obtain ⟨hF, hF0⟩ := jt_f0 hG hc h0
          have t5 := th_5 G c (nv 0)
          simp (disch := omega) only [X5_say, X5_say_36, ↓w_bd, ↓w_rt, ↓w_bh, sm_l, sm_r, ↓w_okr, ↓w_nm, ↓w_ite, ↓reduceIte, not_true_eq_false, not_false_eq_true, and_true, true_and, and_self, Option.some.injEq, reduceCtorEq, eq_self, ↓w_rc, ↓w_gI, ↓w_gR, ↓w_aN, ↓w_aI, ↓w_aR, ↓w_aL, ↓w_pI, ↓w_pR, ↓w_sI, ↓w_sR, ↓w_sL, ↓w_nO, ↓w_nA, ↓w_nL, ↓w_ca, ↓w_ca0, ↓w_gS, ↓w_gK, ↓w_dv, ↓w_tw, ↓w_rz, ↓w_no, nv_lit, nv_f, nv_add, nv_mul, nv_sub, nv_le, nv_lt, nv_eq, nv_cl, Nat.reduceMod, Nat.reduceMul, Nat.reduceAdd, Nat.zero_add, Nat.add_zero, Nat.mul_zero, decide_eq_true_eq, nv_inT, th_f, th_K, th_N, th_R, th_5, th_2, okn0, Nat.reduceEqDiff, hF.1, hF0.1, X5_in_w, X5_holds_1 hF0.1.1.1 t5 n10, X5_holds_0 hF0.1.1.1 t5, n10, X5_isTrader_1 hF0 hS hv, X5_isHeap_1 hF0 hS hh.1, X5_isHeap_1 hF0 hS hh.2, hb]
          exact hq _ (Sx.rf _ _)
        · obtain ⟨x, rfl, hx⟩ := inr_k hh.1
          obtain ⟨y, rfl, hy⟩ := inr_k hh.2
          have exy' : ¬ x = y := fun e => exy (by rw [e])
          by_cases e0 : R (11 + t) = nv 0
          · simp (disch := omega) only [X1_say, ↓w_bd, ↓w_rt, ↓w_bh, sm_l, sm_r, ↓w_okr, ↓w_nm, ↓w_ite, ↓reduceIte, not_true_eq_false, not_false_eq_true, and_true, true_and, and_self, Option.some.injEq, reduceCtorEq, eq_self, ↓w_rc, ↓w_gI, ↓w_gR, ↓w_aN, ↓w_aI, ↓w_aR, ↓w_aL, ↓w_pI, ↓w_pR, ↓w_sI, ↓w_sR, ↓w_sL, ↓w_nO, ↓w_nA, ↓w_nL, ↓w_ca, ↓w_ca0, ↓w_gS, ↓w_gK, ↓w_dv, ↓w_tw, ↓w_rz, ↓w_no, nv_lit, nv_f, nv_add, nv_mul, nv_sub, nv_le, nv_lt, nv_eq, nv_cl, Nat.reduceMod, Nat.reduceMul, Nat.reduceAdd, Nat.zero_add, Nat.add_zero, Nat.mul_zero, decide_eq_true_eq, nv_inT, mk_k hM, mk_n hM, mk_r hM, mk_i hM, hX, hJ, X1_isBetween_w, X1_requireArgument_1 n10, X1_requireArgument_0, X1_requireIndex_1 n10, X1_requireIndex_0, Nat.reduceEqDiff, okn, hJ0, hX0, X1_requireTrader_1 hM0 hX0 hv, va1_f, va2_f, hK_new, hN_new, hK_wI, hN_wI, up1_s, Nat.reduceLeDiff, Nat.not_lt_zero, X1_requireHeaps_11 hM hX hh.1 hh.2 (va2_q a _ _), hb, exy', e0, X1_refuse_w hCb]
            refine ap_ref hC hE (by rw [va2_z]; omega) (by rw [va2_l]; omega) (by omega) fun c hc Q hq => ?_
            obtain ⟨hF, hF0⟩ := jt_f0 hG hc h0
            have t5 := th_5 G c (nv 0)
            simp (disch := omega) only [X5_say, X5_say_36, ↓w_bd, ↓w_rt, ↓w_bh, sm_l, sm_r, ↓w_okr, ↓w_nm, ↓w_ite, ↓reduceIte, not_true_eq_false, not_false_eq_true, and_true, true_and, and_self, Option.some.injEq, reduceCtorEq, eq_self, ↓w_rc, ↓w_gI, ↓w_gR, ↓w_aN, ↓w_aI, ↓w_aR, ↓w_aL, ↓w_pI, ↓w_pR, ↓w_sI, ↓w_sR, ↓w_sL, ↓w_nO, ↓w_nA, ↓w_nL, ↓w_ca, ↓w_ca0, ↓w_gS, ↓w_gK, ↓w_dv, ↓w_tw, ↓w_rz, ↓w_no, nv_lit, nv_f, nv_add, nv_mul, nv_sub, nv_le, nv_lt, nv_eq, nv_cl, Nat.reduceMod, Nat.reduceMul, Nat.reduceAdd, Nat.zero_add, Nat.add_zero, Nat.mul_zero, decide_eq_true_eq, nv_inT, th_f, th_K, th_N, th_R, th_5, th_2, okn0, Nat.reduceEqDiff, hF.1, hF0.1, X5_in_w, X5_holds_1 hF0.1.1.1 t5 n10, X5_holds_0 hF0.1.1.1 t5, n10, X5_isTrader_1 hF0 hS hv, X5_isHeap_1 hF0 hS hh.1, X5_isHeap_1 hF0 hS hh.2, hb, exy', X5_get_w hF0, e0]
            exact hq _ (Sx.rf _ _)
          · by_cases eC : nC R = 20
            · simp (disch := omega) only [X1_say, ↓w_bd, ↓w_rt, ↓w_bh, sm_l, sm_r, ↓w_okr, ↓w_nm, ↓w_ite, ↓reduceIte, not_true_eq_false, not_false_eq_true, and_true, true_and, and_self, Option.some.injEq, reduceCtorEq, eq_self, ↓w_rc, ↓w_gI, ↓w_gR, ↓w_aN, ↓w_aI, ↓w_aR, ↓w_aL, ↓w_pI, ↓w_pR, ↓w_sI, ↓w_sR, ↓w_sL, ↓w_nO, ↓w_nA, ↓w_nL, ↓w_ca, ↓w_ca0, ↓w_gS, ↓w_gK, ↓w_dv, ↓w_tw, ↓w_rz, ↓w_no, nv_lit, nv_f, nv_add, nv_mul, nv_sub, nv_le, nv_lt, nv_eq, nv_cl, Nat.reduceMod, Nat.reduceMul, Nat.reduceAdd, Nat.zero_add, Nat.add_zero, Nat.mul_zero, decide_eq_true_eq, nv_inT, mk_k hM, mk_n hM, mk_r hM, mk_i hM, hX, hJ, X1_isBetween_w, X1_requireArgument_1 n10, X1_requireArgument_0, X1_requireIndex_1 n10, X1_requireIndex_0, Nat.reduceEqDiff, okn, hJ0, hX0, X1_requireTrader_1 hM0 hX0 hv, va1_f, va2_f, hK_new, hN_new, hK_wI, hN_wI, up1_s, Nat.reduceLeDiff, Nat.not_lt_zero, X1_requireHeaps_11 hM hX hh.1 hh.2 (va2_q a _ _), hb, exy', e0, eC, X1_refuse_w hCb]
              refine ap_ref hC hE (by rw [va2_z]; omega) (by rw [va2_l]; omega) (by omega) fun c hc Q hq => ?_
              obtain ⟨hF, hF0⟩ := jt_f0 hG hc h0
              have t5 := th_5 G c (nv 0)
              simp (disch := omega) only [X5_say, X5_say_36, ↓w_bd, ↓w_rt, ↓w_bh, sm_l, sm_r, ↓w_okr, ↓w_nm, ↓w_ite, ↓reduceIte, not_true_eq_false, not_false_eq_true, and_true, true_and, and_self, Option.some.injEq, reduceCtorEq, eq_self, ↓w_rc, ↓w_gI, ↓w_gR, ↓w_aN, ↓w_aI, ↓w_aR, ↓w_aL, ↓w_pI, ↓w_pR, ↓w_sI, ↓w_sR, ↓w_sL, ↓w_nO, ↓w_nA, ↓w_nL, ↓w_ca, ↓w_ca0, ↓w_gS, ↓w_gK, ↓w_dv, ↓w_tw, ↓w_rz, ↓w_no, nv_lit, nv_f, nv_add, nv_mul, nv_sub, nv_le, nv_lt, nv_eq, nv_cl, Nat.reduceMod, Nat.reduceMul, Nat.reduceAdd, Nat.zero_add, Nat.add_zero, Nat.mul_zero, decide_eq_true_eq, nv_inT, th_f, th_K, th_N, th_R, th_5, th_2, okn0, Nat.reduceEqDiff, hF.1, hF0.1, X5_in_w, X5_holds_1 hF0.1.1.1 t5 n10, X5_holds_0 hF0.1.1.1 t5, n10, X5_isTrader_1 hF0 hS hv, X5_isHeap_1 hF0 hS hh.1, X5_isHeap_1 hF0 hS hh.2, hb, exy', X5_get_w hF0, e0, sh_C hS, eC]
              exact hq _ (Sx.rf _ _)
            · obtain ⟨hRn, eCn⟩ := sy_ro hRo (w := w) ht hx hy exy' (show nC R < 20 by omega)
              simp (disch := omega) only [X1_say, ↓w_bd, ↓w_rt, ↓w_bh, sm_l, sm_r, ↓w_okr, ↓w_nm, ↓w_ite, ↓reduceIte, not_true_eq_false, not_false_eq_true, and_true, true_and, and_self, Option.some.injEq, reduceCtorEq, eq_self, ↓w_rc, ↓w_gI, ↓w_gR, ↓w_aN, ↓w_aI, ↓w_aR, ↓w_aL, ↓w_pI, ↓w_pR, ↓w_sI, ↓w_sR, ↓w_sL, ↓w_nA, ↓w_nL, ↓w_ca, ↓w_ca0, ↓w_gS, ↓w_gK, ↓w_dv, ↓w_tw, ↓w_rz, ↓w_no, nv_lit, nv_f, nv_add, nv_mul, nv_sub, nv_le, nv_lt, nv_eq, nv_cl, Nat.reduceMod, Nat.reduceMul, Nat.reduceAdd, Nat.zero_add, Nat.add_zero, Nat.mul_zero, decide_eq_true_eq, nv_inT, mk_k hM, mk_n hM, mk_r hM, mk_i hM, hX, hJ, X1_isBetween_w, X1_requireArgument_1 n10, X1_requireArgument_0, X1_requireIndex_1 n10, X1_requireIndex_0, Nat.reduceEqDiff, okn, hJ0, hX0, X1_requireTrader_1 hM0 hX0 hv, va1_f, va2_f, hK_new, hN_new, hK_wI, hN_wI, up1_s, Nat.reduceLeDiff, Nat.not_lt_zero, X1_requireHeaps_11 hM hX hh.1 hh.2 (va2_q a _ _), hb, exy', e0, eC]
              refine keep_c hC hE h0 _ fun d B' L' q1 q2 q3 hMd hXd hCd z l => ?_
              have hJd := q1.2.1
              simp (disch := omega) only [↓w_bd, ↓w_rt, ↓w_bh, sm_l, sm_r, ↓w_okr, ↓w_nm, ↓w_ite, ↓reduceIte, not_true_eq_false, not_false_eq_true, and_true, true_and, and_self, Option.some.injEq, reduceCtorEq, eq_self, ↓w_rc, ↓w_gI, ↓w_gR, ↓w_aN, ↓w_aI, ↓w_aR, ↓w_ca, ↓w_ca0, nv_lit, nv_f, nv_add, nv_mul, nv_sub, nv_le, nv_lt, nv_eq, nv_cl, Nat.reduceMod, Nat.reduceMul, Nat.reduceAdd, Nat.zero_add, Nat.add_zero, Nat.mul_zero, decide_eq_true_eq, nv_inT, mk_k hMd, mk_r hMd, mk_n hMd, mk_i hMd, hXd, hJd, okn]
              refine w_nO' fun d1 e1 z1 l1 k1 i1 r1 => ?_
              have o0 := e1.2.2 (G 0) hXd.2.2
              have hM1 := hMd.ext e1 (B' := B') (fun _ _ => rfl)
              have hX1 := hXd.ext e1
              simp (disch := omega) only [↓w_bd, ↓w_rt, ↓w_bh, sm_l, sm_r, ↓w_okr, ↓w_nm, ↓w_ite, ↓reduceIte, not_true_eq_false, not_false_eq_true, and_true, true_and, and_self, Option.some.injEq, reduceCtorEq, eq_self, ↓w_rc, ↓w_gI, ↓w_gR, ↓w_aN, ↓w_aI, ↓w_aR, ↓w_ca, ↓w_ca0, nv_lit, nv_f, nv_add, nv_mul, nv_sub, nv_le, nv_lt, nv_eq, nv_cl, Nat.reduceMod, Nat.reduceMul, Nat.reduceAdd, Nat.zero_add, Nat.add_zero, Nat.mul_zero, decide_eq_true_eq, nv_inT, mk_k hM1, mk_r hM1, mk_i hM1, hX1]
              refine X8_mk_w _ _ _ _ _ rfl z1 e1 k1 i1 _ fun d2 e2 z2 l2 cm ci0 cz => ?_
              have hM2 := hMd.ext e2 (B' := B') (fun _ _ => rfl)
              have hX2 := hXd.ext e2
              have lvs : ∀ r, lv R r → L r < hSz d := fun r hr => (hMd.2.1 r hr).1
              obtain ⟨⟨c1, c2, c3, c4, c5⟩, ⟨c6, c7, c8, c9⟩, c10, c11, c12, c13⟩ := cm
              obtain ⟨s3, s0, s1, s2, s4⟩ := sy_v R (nC R) (nv t) (nv x) (nv y) w
              let L2 : Nat → Nat := fun r => if r = 40 + nC R then hSz d else if r = 60 + nC R then hSz d + 1 else if r = 80 + nC R then hSz d + 4 else if r = 100 + 2 * nC R then hSz d + 2 else if r = 101 + 2 * nC R then hSz d + 3 else L r
              let B2 : Nat → Nat × Nat := fun q => if q = hSz d then (L 0 + 1, 40 + nC R) else if q = hSz d + 1 then (L 0 + 1, 60 + nC R) else if q = hSz d + 4 then (L 0 + 1, 80 + nC R) else if q = hSz d + 2 then (L 0 + 1, 100 + 2 * nC R) else if q = hSz d + 3 then (L 0 + 1, 101 + 2 * nC R) else B' q
              have hL : ∀ r, r ≠ 40 + nC R → r ≠ 60 + nC R → r ≠ 80 + nC R → r ≠ 100 + 2 * nC R → r ≠ 101 + 2 * nC R → L2 r = L r := fun r g1 g2 g3 g4 g5 => by
                show (if r = 40 + nC R then _ else if r = 60 + nC R then _ else if r = 80 + nC R then _ else if r = 100 + 2 * nC R then _ else if r = 101 + 2 * nC R then _ else _) = _
                rw [if_neg g1, if_neg g2, if_neg g3, if_neg g4, if_neg g5]
              have hB2 : ∀ q, q ≠ hSz d → q ≠ hSz d + 1 → q ≠ hSz d + 2 → q ≠ hSz d + 3 → q ≠ hSz d + 4 → B2 q = B' q := fun q g1 g2 g3 g4 g5 => by
                show (if q = hSz d then _ else if q = hSz d + 1 then _ else if q = hSz d + 4 then _ else if q = hSz d + 2 then _ else if q = hSz d + 3 then _ else _) = _
                rw [if_neg g1, if_neg g2, if_neg g5, if_neg g3, if_neg g4]
              have hMf := hM2.addClaim (k := nC R) (p := hSz d) (o := hSz d + 1) (u0 := hSz d + 2) (u1 := hSz d + 3) (t := hSz d + 4) (B' := B2) (L' := L2) (R' := sy R (nC R) (nv t) (nv x) (nv y) w) rfl (by omega) ⟨by omega, by omega, by omega, by omega, by omega⟩ (fun r hr => by
                  have := lvs r hr
                  exact ⟨by omega, by omega, by omega, by omega, by omega⟩) ⟨c1, c2, c3, c4, c5⟩ ⟨c6, c7, c8, c9⟩ ⟨c10, c11, c12, c13⟩ ci0.1 (fun i h3 h => sy_o R _ _ _ _ h3 h) s3 ⟨?_, ?_, ?_, ?_, ?_, ?_⟩ (fun j hj => ?_) (fun j hj => ?_) (fun j hj => ?_) hL (if_pos rfl) ?_ ?_ ?_ ?_ (fun q g1 g2 g3 g4 g5 => hB2 q g1 g2 g3 g4 g5) (if_pos rfl) ?_ ?_ ?_ ?_
              · have n0 : hK d2 (G 0) = 1 ∧ hR d2 (G 0) 4 = some (L 0) := ⟨hX2.1, hX2.2.1⟩
                have kp8 : hK d2 (hSz d) = 8 := c1
                simp (disch := omega) only [↓w_bd, ↓w_rt, ↓w_bh, sm_l, sm_r, ↓w_okr, ↓w_nm, ↓w_ite, ↓reduceIte, not_true_eq_false, not_false_eq_true, and_true, true_and, and_self, Option.some.injEq, reduceCtorEq, eq_self, ↓w_rc, ↓w_gI, ↓w_gR, ↓w_aN, ↓w_aI, ↓w_aR, ↓w_aL, ↓w_pI, ↓w_pR, ↓w_sI, ↓w_sR, ↓w_sL, ↓w_nO, ↓w_nA, ↓w_nL, ↓w_ca, ↓w_ca0, ↓w_gS, ↓w_gK, ↓w_dv, ↓w_tw, ↓w_rz, ↓w_no, nv_lit, nv_f, nv_add, nv_mul, nv_sub, nv_le, nv_lt, nv_eq, nv_cl, Nat.reduceMod, Nat.reduceMul, Nat.reduceAdd, Nat.zero_add, Nat.add_zero, Nat.mul_zero, decide_eq_true_eq, nv_inT, mk_k hM2, mk_r hM2, mk_n hM2, mk_i hM2, hX2, X3_add_c hM2 rfl (show nC R < 20 by omega) kp8]
                have hXf : FX G (hwI (hwR d2 (L 4) (up1 (hR d2 (L 4)) (nC R) (some (hSz d)))) (L 2) (up1 (hI d2 (L 2)) 1 (nv (nC R + 1)))) L2 := by
                  refine ⟨hX2.1, ?_, hX2.2.2⟩
                  have n4 := hCd.n0 (r := 4) (lv_0 (by omega))
                  have l0 : L2 0 = L 0 := hL 0 (by omega) (by omega) (by omega) (by omega) (by omega)
                  rw [hR_wI, hR_wR, up1_n _ _ n4, l0]
                  exact hX2.2.1
                have cnt := (mk_i hMf).1.2.2
                have l2' : L2 2 = L 2 := hL 2 (by omega) (by omega) (by omega) (by omega) (by omega)
                have l1' : L2 1 = L 1 := hL 1 (by omega) (by omega) (by omega) (by omega) (by omega)
                have l0' : L2 0 = L 0 := hL 0 (by omega) (by omega) (by omega) (by omega) (by omega)
                rw [eCn, l2'] at cnt
                have kf := mk_k hMf
                have rf := mk_r hMf
                unfold MkR at rf
                rw [l0', l1', l2'] at kf rf
                have hXf' := hXf
                unfold FX at hXf'
                rw [l0'] at hXf'
                simp (disch := omega) only [↓w_bd, ↓w_rt, ↓w_bh, sm_l, sm_r, ↓w_okr, ↓w_nm, ↓w_ite, ↓reduceIte, not_true_eq_false, not_false_eq_true, and_true, true_and, and_self, Option.some.injEq, reduceCtorEq, eq_self, ↓w_rc, ↓w_gI, ↓w_gR, ↓w_aN, ↓w_aI, ↓w_aR, ↓w_aL, ↓w_pI, ↓w_pR, ↓w_sI, ↓w_sR, ↓w_sL, ↓w_nO, ↓w_nA, ↓w_nL, ↓w_ca, ↓w_ca0, ↓w_gS, ↓w_gK, ↓w_dv, ↓w_tw, ↓w_rz, ↓w_no, nv_lit, nv_f, nv_add, nv_mul, nv_sub, nv_le, nv_lt, nv_eq, nv_cl, Nat.reduceMod, Nat.reduceMul, Nat.reduceAdd, Nat.zero_add, Nat.add_zero, Nat.mul_zero, decide_eq_true_eq, nv_inT, kf, rf, hXf', cnt]
                refine ap_nowL (L2 := L2) (B2 := B2) l0' hC h0 q2 q3 q1 ⟨hMf, ?_, ?_, fun _ => hXf, ?_⟩ (fun q hq => hB2 q (by omega) (by omega) (by omega) (by omega) (by omega)) hRn ?_ ?_ fun c hc Q hq => ?_
                · have P4 := (Cn.P hCd (r := 4) (lv_0 (by omega)))
                  have P2 := (Cn.P hCd (r := 2) (lv_0 (by omega)))
                  have z4 := lvs 4 (lv_0 (by omega))
                  have z2 := lvs 2 (lv_0 (by omega))
                  rcases P4 with ⟨x1, x2, x3, x4⟩ | x1
                  · rcases P2 with ⟨y1, y2, y3, y4⟩ | y1
                    · rw [l0']
                      refine ((e2.ep _).wR (.inl ⟨x1, ?_, x3, x4⟩) _).wI (.inl ⟨y1, ?_, y3, y4⟩) _
                      · rw [hB2 _ (by omega) (by omega) (by omega) (by omega) (by omega)]; exact x2
                      · rw [hB2 _ (by omega) (by omega) (by omega) (by omega) (by omega)]; exact y2
                    · omega
                  · omega
                · intro q hq
                  exact (e2.2.2 q hq).1
                · have := hXd.2.2
                  rw [hB2 _ (by omega) (by omega) (by omega) (by omega) (by omega)]
                  exact hCd.2.2.2.2
                · show hSz d2 ≤ _
                  rw [z2]
                  rw [va2_z] at z
                  omega
                · show hSl d2 ≤ _
                  rw [va2_l] at l
                  omega
                · obtain ⟨hF, hF0⟩ := jt_f0 hG hc h0
                  have t5 := th_5 G c (nv 0)
                  simp (disch := omega) only [X5_say, X5_say_36, ↓w_bd, ↓w_rt, ↓w_bh, sm_l, sm_r, ↓w_okr, ↓w_nm, ↓w_ite, ↓reduceIte, not_true_eq_false, not_false_eq_true, and_true, true_and, and_self, Option.some.injEq, reduceCtorEq, eq_self, ↓w_rc, ↓w_gI, ↓w_gR, ↓w_aN, ↓w_aI, ↓w_aR, ↓w_aL, ↓w_pI, ↓w_pR, ↓w_sI, ↓w_sR, ↓w_sL, ↓w_nO, ↓w_nA, ↓w_nL, ↓w_ca, ↓w_ca0, ↓w_gS, ↓w_gK, ↓w_dv, ↓w_tw, ↓w_rz, ↓w_no, nv_lit, nv_f, nv_add, nv_mul, nv_sub, nv_le, nv_lt, nv_eq, nv_cl, Nat.reduceMod, Nat.reduceMul, Nat.reduceAdd, Nat.zero_add, Nat.add_zero, Nat.mul_zero, decide_eq_true_eq, nv_inT, th_f, th_K, th_N, th_R, th_5, th_2, okn0, Nat.reduceEqDiff, hF.1, hF0.1, X5_in_w, X5_holds_1 hF0.1.1.1 t5 n10, X5_holds_0 hF0.1.1.1 t5, n10, X5_isTrader_1 hF0 hS hv, X5_isHeap_1 hF0 hS hh.1, X5_isHeap_1 hF0 hS hh.2, hb, exy', X5_get_w hF0, e0, sh_C hS, eC]
                  refine keeps_t hC hc (Sx.rf _ _) h0 L' _ fun d3 k1 k3 k2 hF3 => ?_
                  simp (disch := omega) only [↓w_bd, ↓w_rt, ↓w_bh, sm_l, sm_r, ↓w_okr, ↓w_nm, ↓w_ite, ↓reduceIte, not_true_eq_false, not_false_eq_true, and_true, true_and, and_self, Option.some.injEq, reduceCtorEq, eq_self, ↓w_rc, ↓w_gI, ↓w_gR, ↓w_aN, ↓w_aI, ↓w_aR, ↓w_aL, ↓w_pI, ↓w_pR, ↓w_sI, ↓w_sR, ↓w_sL, ↓w_nO, ↓w_nA, ↓w_nL, ↓w_ca, ↓w_ca0, ↓w_gS, ↓w_gK, ↓w_dv, ↓w_tw, ↓w_rz, ↓w_no, nv_lit, nv_f, nv_add, nv_mul, nv_sub, nv_le, nv_lt, nv_eq, nv_cl, Nat.reduceMod, Nat.reduceMul, Nat.reduceAdd, Nat.zero_add, Nat.add_zero, Nat.mul_zero, decide_eq_true_eq, nv_inT, hF3.1, X5_get_w hF3, sh_C hS]
                  refine X5_say_119_w hG hF3 (Tn.rf hF3) (show nC R < 20 by omega) (sh_C hS) _ _ _ _ _ fun d4 ht4 => ?_
                  exact hq _ _ k1 k3 k2 ht4
              · rw [ci0.2.1]; exact s0.symm
              · rw [ci0.2.2.1, show 186 + 18 * nC R = 185 + 18 * nC R + 1 by omega]; exact s1.symm
              · rw [ci0.2.2.2.1, show 187 + 18 * nC R = 185 + 18 * nC R + 2 by omega]; exact s2.symm
              · rw [ci0.2.2.2.2.1, show 188 + 18 * nC R = 185 + 18 * nC R + 3 by omega]; exact s4.symm
              · rw [ci0.2.2.2.2.2.1, show 189 + 18 * nC R = 185 + 18 * nC R + 4 by omega]; exact (sy_z R _ _ _ _ (by omega) (by omega)).symm
              · rw [ci0.2.2.2.2.2.2, show 190 + 18 * nC R = 185 + 18 * nC R + 5 by omega]; exact (sy_z R _ _ _ _ (by omega) (by omega)).symm
              · rw [cz.2.2, show 191 + 18 * nC R + j = 185 + 18 * nC R + (6 + j) by omega]; exact (sy_z R _ _ _ _ (by omega) (by omega)).symm
              · rw [cz.1, show 193 + 18 * nC R + j = 185 + 18 * nC R + (8 + j) by omega]; exact (sy_z R _ _ _ _ (by omega) (by omega)).symm
              · rw [cz.2.1, show 198 + 18 * nC R + j = 185 + 18 * nC R + (13 + j) by omega]; exact (sy_z R _ _ _ _ (by omega) (by omega)).symm
              all_goals (simp only [L2, B2]; (repeat rw [if_neg (by omega)]); first | exact if_pos trivial | rw [if_pos rfl])
      · have hb := bw_0' hw (by omega) (show 3 = 2 + 1 from rfl)
        simp (disch := omega) only [X1_say, ↓w_bd, ↓w_rt, ↓w_bh, sm_l, sm_r, ↓w_okr, ↓w_nm, ↓w_ite, ↓reduceIte, not_true_eq_false, not_false_eq_true, and_true, true_and, and_self, Option.some.injEq, reduceCtorEq, eq_self, ↓w_rc, ↓w_gI, ↓w_gR, ↓w_aN, ↓w_aI, ↓w_aR, ↓w_aL, ↓w_pI, ↓w_pR, ↓w_sI, ↓w_sR, ↓w_sL, ↓w_nO, ↓w_nA, ↓w_nL, ↓w_ca, ↓w_ca0, ↓w_gS, ↓w_gK, ↓w_dv, ↓w_tw, ↓w_rz, ↓w_no, nv_lit, nv_f, nv_add, nv_mul, nv_sub, nv_le, nv_lt, nv_eq, nv_cl, Nat.reduceMod, Nat.reduceMul, Nat.reduceAdd, Nat.zero_add, Nat.add_zero, Nat.mul_zero, decide_eq_true_eq, nv_inT, mk_k hM, mk_n hM, mk_r hM, mk_i hM, hX, hJ, X1_isBetween_w, X1_requireArgument_1 n10, X1_requireArgument_0, X1_requireIndex_1 n10, X1_requireIndex_0, Nat.reduceEqDiff, okn, hJ0, hX0, X1_requireTrader_1 hM0 hX0 hv, va1_f, va2_f, hK_new, hN_new, hK_wI, hN_wI, up1_s, Nat.reduceLeDiff, Nat.not_lt_zero, X1_requireHeaps_11 hM hX hh.1 hh.2 (va2_q a _ _), hb]
        refine ap_x hC (hE.tr (tw_e _)) (by rw [tw_z, va2_z]; omega) (by rw [tw_l, va2_l]; omega) (k := 2) rfl (by omega) (by omega) fun c hc Q hq => ?_
        obtain ⟨hF, hF0⟩ := jt_f0 hG hc h0
        have t5 := th_5 G c (nv 0)
        simp (disch := omega) only [X5_say, ↓w_bd, ↓w_rt, ↓w_bh, sm_l, sm_r, ↓w_okr, ↓w_nm, ↓w_ite, ↓reduceIte, not_true_eq_false, not_false_eq_true, and_true, true_and, and_self, Option.some.injEq, reduceCtorEq, eq_self, ↓w_rc, ↓w_gI, ↓w_gR, ↓w_aN, ↓w_aI, ↓w_aR, ↓w_aL, ↓w_pI, ↓w_pR, ↓w_sI, ↓w_sR, ↓w_sL, ↓w_nO, ↓w_nA, ↓w_nL, ↓w_ca, ↓w_ca0, ↓w_gS, ↓w_gK, ↓w_dv, ↓w_tw, ↓w_rz, ↓w_no, nv_lit, nv_f, nv_add, nv_mul, nv_sub, nv_le, nv_lt, nv_eq, nv_cl, Nat.reduceMod, Nat.reduceMul, Nat.reduceAdd, Nat.zero_add, Nat.add_zero, Nat.mul_zero, decide_eq_true_eq, nv_inT, th_f, th_K, th_N, th_R, th_5, th_2, okn0, Nat.reduceEqDiff, hF.1, hF0.1, X5_in_w, X5_holds_1 hF0.1.1.1 t5 n10, X5_holds_0 hF0.1.1.1 t5, n10, X5_isTrader_1 hF0 hS hv, X5_isHeap_1 hF0 hS hh.1, X5_isHeap_1 hF0 hS hh.2]
        simp (disch := omega) only [X5_say_36, X5_say_57, ↓w_bd, ↓w_rt, ↓w_bh, sm_l, sm_r, ↓w_okr, ↓w_nm, ↓w_ite, ↓reduceIte, not_true_eq_false, not_false_eq_true, and_true, true_and, and_self, Option.some.injEq, reduceCtorEq, eq_self, ↓w_rc, ↓w_gI, ↓w_gR, ↓w_aN, ↓w_aI, ↓w_aR, ↓w_aL, ↓w_pI, ↓w_pR, ↓w_sI, ↓w_sR, ↓w_sL, ↓w_nO, ↓w_nA, ↓w_nL, ↓w_ca, ↓w_ca0, ↓w_gS, ↓w_gK, ↓w_dv, ↓w_tw, ↓w_rz, ↓w_no, nv_lit, nv_f, nv_add, nv_mul, nv_sub, nv_le, nv_lt, nv_eq, nv_cl, Nat.reduceMod, Nat.reduceMul, Nat.reduceAdd, Nat.zero_add, Nat.add_zero, Nat.mul_zero, decide_eq_true_eq, nv_inT, th_f, th_K, th_N, th_R, th_5, th_2, okn0, Nat.reduceEqDiff, hF.1, hF0.1, X5_in_w, X5_holds_1 hF0.1.1.1 t5 n10, X5_holds_0 hF0.1.1.1 t5, n10, hb]
        exact hq _
    · simp (disch := omega) only [X1_say, ↓w_bd, ↓w_rt, ↓w_bh, sm_l, sm_r, ↓w_okr, ↓w_nm, ↓w_ite, ↓reduceIte, not_true_eq_false, not_false_eq_true, and_true, true_and, and_self, Option.some.injEq, reduceCtorEq, eq_self, ↓w_rc, ↓w_gI, ↓w_gR, ↓w_aN, ↓w_aI, ↓w_aR, ↓w_aL, ↓w_pI, ↓w_pR, ↓w_sI, ↓w_sR, ↓w_sL, ↓w_nO, ↓w_nA, ↓w_nL, ↓w_ca, ↓w_ca0, ↓w_gS, ↓w_gK, ↓w_dv, ↓w_tw, ↓w_rz, ↓w_no, nv_lit, nv_f, nv_add, nv_mul, nv_sub, nv_le, nv_lt, nv_eq, nv_cl, Nat.reduceMod, Nat.reduceMul, Nat.reduceAdd, Nat.zero_add, Nat.add_zero, Nat.mul_zero, decide_eq_true_eq, nv_inT, mk_k hM, mk_n hM, mk_r hM, mk_i hM, hX, hJ, X1_isBetween_w, X1_requireArgument_1 n10, X1_requireArgument_0, X1_requireIndex_1 n10, X1_requireIndex_0, Nat.reduceEqDiff, okn, hJ0, hX0, X1_requireTrader_1 hM0 hX0 hv, va1_f, va2_f, hK_new, hN_new, hK_wI, hN_wI, up1_s, Nat.reduceLeDiff, Nat.not_lt_zero, X1_requireHeaps_0 hM hX (by omega) hh (va2_q a _ _)]
      refine ap_x hC (hE.tr (tw_e _)) (by rw [tw_z, va2_z]; omega) (by rw [tw_l, va2_l]; omega) (k := 1) rfl (by omega) (by omega) fun c hc Q hq => ?_
      obtain ⟨hF, hF0⟩ := jt_f0 hG hc h0
      have t5 := th_5 G c (nv 0)
      by_cases h1 : inr x (nH R)
      · have h1' : ¬ inr y (nH R) := fun e => hh ⟨h1, e⟩
        simp (disch := omega) only [X5_say, ↓w_bd, ↓w_rt, ↓w_bh, sm_l, sm_r, ↓w_okr, ↓w_nm, ↓w_ite, ↓reduceIte, not_true_eq_false, not_false_eq_true, and_true, true_and, and_self, Option.some.injEq, reduceCtorEq, eq_self, ↓w_rc, ↓w_gI, ↓w_gR, ↓w_aN, ↓w_aI, ↓w_aR, ↓w_aL, ↓w_pI, ↓w_pR, ↓w_sI, ↓w_sR, ↓w_sL, ↓w_nO, ↓w_nA, ↓w_nL, ↓w_ca, ↓w_ca0, ↓w_gS, ↓w_gK, ↓w_dv, ↓w_tw, ↓w_rz, ↓w_no, nv_lit, nv_f, nv_add, nv_mul, nv_sub, nv_le, nv_lt, nv_eq, nv_cl, Nat.reduceMod, Nat.reduceMul, Nat.reduceAdd, Nat.zero_add, Nat.add_zero, Nat.mul_zero, decide_eq_true_eq, nv_inT, th_f, th_K, th_N, th_R, th_5, th_2, okn0, Nat.reduceEqDiff, hF.1, hF0.1, X5_in_w, X5_holds_1 hF0.1.1.1 t5 n10, X5_holds_0 hF0.1.1.1 t5, n10, X5_isTrader_1 hF0 hS hv, X5_isHeap_1 hF0 hS h1, X5_isHeap_0 hF0 hS h1']
        simp (disch := omega) only [X5_say_35, X5_say_36, X5_say_57, ↓w_bd, ↓w_rt, ↓w_bh, sm_l, sm_r, ↓w_okr, ↓w_nm, ↓w_ite, ↓reduceIte, not_true_eq_false, not_false_eq_true, and_true, true_and, and_self, Option.some.injEq, reduceCtorEq, eq_self, ↓w_rc, ↓w_gI, ↓w_gR, ↓w_aN, ↓w_aI, ↓w_aR, ↓w_aL, ↓w_pI, ↓w_pR, ↓w_sI, ↓w_sR, ↓w_sL, ↓w_nO, ↓w_nA, ↓w_nL, ↓w_ca, ↓w_ca0, ↓w_gS, ↓w_gK, ↓w_dv, ↓w_tw, ↓w_rz, ↓w_no, nv_lit, nv_f, nv_add, nv_mul, nv_sub, nv_le, nv_lt, nv_eq, nv_cl, Nat.reduceMod, Nat.reduceMul, Nat.reduceAdd, Nat.zero_add, Nat.add_zero, Nat.mul_zero, decide_eq_true_eq, nv_inT, th_f, th_K, th_N, th_R, th_5, th_2, okn0, Nat.reduceEqDiff, hF.1, hF0.1, X5_in_w, X5_holds_1 hF0.1.1.1 t5 n10, X5_holds_0 hF0.1.1.1 t5]
        exact hq _
      · simp (disch := omega) only [X5_say, ↓w_bd, ↓w_rt, ↓w_bh, sm_l, sm_r, ↓w_okr, ↓w_nm, ↓w_ite, ↓reduceIte, not_true_eq_false, not_false_eq_true, and_true, true_and, and_self, Option.some.injEq, reduceCtorEq, eq_self, ↓w_rc, ↓w_gI, ↓w_gR, ↓w_aN, ↓w_aI, ↓w_aR, ↓w_aL, ↓w_pI, ↓w_pR, ↓w_sI, ↓w_sR, ↓w_sL, ↓w_nO, ↓w_nA, ↓w_nL, ↓w_ca, ↓w_ca0, ↓w_gS, ↓w_gK, ↓w_dv, ↓w_tw, ↓w_rz, ↓w_no, nv_lit, nv_f, nv_add, nv_mul, nv_sub, nv_le, nv_lt, nv_eq, nv_cl, Nat.reduceMod, Nat.reduceMul, Nat.reduceAdd, Nat.zero_add, Nat.add_zero, Nat.mul_zero, decide_eq_true_eq, nv_inT, th_f, th_K, th_N, th_R, th_5, th_2, okn0, Nat.reduceEqDiff, hF.1, hF0.1, X5_in_w, X5_holds_1 hF0.1.1.1 t5 n10, X5_holds_0 hF0.1.1.1 t5, n10, X5_isTrader_1 hF0 hS hv, X5_isHeap_0 hF0 hS h1]
        simp (disch := omega) only [X5_say_35, X5_say_36, X5_say_57, ↓w_bd, ↓w_rt, ↓w_bh, sm_l, sm_r, ↓w_okr, ↓w_nm, ↓w_ite, ↓reduceIte, not_true_eq_false, not_false_eq_true, and_true, true_and, and_self, Option.some.injEq, reduceCtorEq, eq_self, ↓w_rc, ↓w_gI, ↓w_gR, ↓w_aN, ↓w_aI, ↓w_aR, ↓w_aL, ↓w_pI, ↓w_pR, ↓w_sI, ↓w_sR, ↓w_sL, ↓w_nO, ↓w_nA, ↓w_nL, ↓w_ca, ↓w_ca0, ↓w_gS, ↓w_gK, ↓w_dv, ↓w_tw, ↓w_rz, ↓w_no, nv_lit, nv_f, nv_add, nv_mul, nv_sub, nv_le, nv_lt, nv_eq, nv_cl, Nat.reduceMod, Nat.reduceMul, Nat.reduceAdd, Nat.zero_add, Nat.add_zero, Nat.mul_zero, decide_eq_true_eq, nv_inT, th_f, th_K, th_N, th_R, th_5, th_2, okn0, Nat.reduceEqDiff, hF.1, hF0.1, X5_in_w, X5_holds_1 hF0.1.1.1 t5 n10, X5_holds_0 hF0.1.1.1 t5]
        exact hq _
  · simp (disch := omega) only [X1_say, ↓w_bd, ↓w_rt, ↓w_bh, sm_l, sm_r, ↓w_okr, ↓w_nm, ↓w_ite, ↓reduceIte, not_true_eq_false, not_false_eq_true, and_true, true_and, and_self, Option.some.injEq, reduceCtorEq, eq_self, ↓w_rc, ↓w_gI, ↓w_gR, ↓w_aN, ↓w_aI, ↓w_aR, ↓w_aL, ↓w_pI, ↓w_pR, ↓w_sI, ↓w_sR, ↓w_sL, ↓w_nO, ↓w_nA, ↓w_nL, ↓w_ca, ↓w_ca0, ↓w_gS, ↓w_gK, ↓w_dv, ↓w_tw, ↓w_rz, ↓w_no, nv_lit, nv_f, nv_add, nv_mul, nv_sub, nv_le, nv_lt, nv_eq, nv_cl, Nat.reduceMod, Nat.reduceMul, Nat.reduceAdd, Nat.zero_add, Nat.add_zero, Nat.mul_zero, decide_eq_true_eq, nv_inT, mk_k hM, mk_n hM, mk_r hM, mk_i hM, hX, hJ, X1_isBetween_w, X1_requireArgument_1 n10, X1_requireArgument_0, X1_requireIndex_1 n10, X1_requireIndex_0, Nat.reduceEqDiff, okn, hJ0, hX0, X1_requireTrader_0 hM0 hX0 hT1 hv]
    refine ap_x hC (tw_e a) (by rw [tw_z]; omega) (by rw [tw_l]; omega) (k := 1) rfl (by omega) (by omega) fun c hc Q hq => ?_
    obtain ⟨hF, hF0⟩ := jt_f0 hG hc h0
    have t5 := th_5 G c (nv 0)
    simp (disch := omega) only [X5_say, ↓w_bd, ↓w_rt, ↓w_bh, sm_l, sm_r, ↓w_okr, ↓w_nm, ↓w_ite, ↓reduceIte, not_true_eq_false, not_false_eq_true, and_true, true_and, and_self, Option.some.injEq, reduceCtorEq, eq_self, ↓w_rc, ↓w_gI, ↓w_gR, ↓w_aN, ↓w_aI, ↓w_aR, ↓w_aL, ↓w_pI, ↓w_pR, ↓w_sI, ↓w_sR, ↓w_sL, ↓w_nO, ↓w_nA, ↓w_nL, ↓w_ca, ↓w_ca0, ↓w_gS, ↓w_gK, ↓w_dv, ↓w_tw, ↓w_rz, ↓w_no, nv_lit, nv_f, nv_add, nv_mul, nv_sub, nv_le, nv_lt, nv_eq, nv_cl, Nat.reduceMod, Nat.reduceMul, Nat.reduceAdd, Nat.zero_add, Nat.add_zero, Nat.mul_zero, decide_eq_true_eq, nv_inT, th_f, th_K, th_N, th_R, th_5, th_2, okn0, Nat.reduceEqDiff, hF.1, hF0.1, X5_in_w, X5_holds_1 hF0.1.1.1 t5 n10, X5_holds_0 hF0.1.1.1 t5, X5_isTrader_0 hF0 hS hv]
    simp (disch := omega) only [X5_say_35, X5_say_36, X5_say_57, ↓w_bd, ↓w_rt, ↓w_bh, sm_l, sm_r, ↓w_okr, ↓w_nm, ↓w_ite, ↓reduceIte, not_true_eq_false, not_false_eq_true, and_true, true_and, and_self, Option.some.injEq, reduceCtorEq, eq_self, ↓w_rc, ↓w_gI, ↓w_gR, ↓w_aN, ↓w_aI, ↓w_aR, ↓w_aL, ↓w_pI, ↓w_pR, ↓w_sI, ↓w_sR, ↓w_sL, ↓w_nO, ↓w_nA, ↓w_nL, ↓w_ca, ↓w_ca0, ↓w_gS, ↓w_gK, ↓w_dv, ↓w_tw, ↓w_rz, ↓w_no, nv_lit, nv_f, nv_add, nv_mul, nv_sub, nv_le, nv_lt, nv_eq, nv_cl, Nat.reduceMod, Nat.reduceMul, Nat.reduceAdd, Nat.zero_add, Nat.add_zero, Nat.mul_zero, decide_eq_true_eq, nv_inT, th_f, th_K, th_N, th_R, th_5, th_2, okn0, Nat.reduceEqDiff, hF.1, hF0.1, X5_in_w, X5_holds_1 hF0.1.1.1 t5 n10, X5_holds_0 hF0.1.1.1 t5]
    exact hq _
theorem op_say {G : Nat → Nat} {B : Nat → Nat × Nat} {S : Gst} {a : Hp} (hC : JC G B S a) (hT : JT G S a) (v x w y : Int32) : OpL G a (X0_say (some (G 0)) v x w y (some (G 20))) (X5_say (G 10) v x w y) :=
  Act.op (m := fun h => X1_say h v x w y) hC hT (act_say hC v x w y) fun _ _ h Q => hd_b h Q
