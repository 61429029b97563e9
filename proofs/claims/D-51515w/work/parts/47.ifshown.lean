theorem X2_show_w {B : Nat → Nat × Nat} {a : Hp} {L : Nat → Nat} {R : Nat → Int32} (hM : Mk B a L R) {x y : Nat} (hx : x < 10) (hy : y < 10) (hxy : x ≠ y) {w : Int32} (hw : W3 w) (Q : Unit → Hp → Prop) : Wp (X2_show (L 0) (nv x) (nv y) w) a Q ↔ Q () (s2 (nf a (nv x) (nv y) w) (L (10 + x)) (L (10 + y)) x y (some (hSz a))) := by
  have hM1 := hM.ext (B' := B) (nf_e a (nv x) (nv y) w) (fun _ _ => rfl)
  have hf := nf_f a x y w
  have hM2 := hM1.wF hx hy (v := some (hSz a)) (w := w) (.inr ⟨_, rfl, hxy, hw, hf⟩)
  have hf2 : Fw_ (hwR (nf a (nv x) (nv y) w) (L (10 + x)) (up1 (hR (nf a (nv x) (nv y) w) (L (10 + x))) y (some (hSz a)))) (hSz a) x y w := hf
  simp (disch := omega) only [X2_show, X10_mk_w, ↓w_bd, ↓w_rt, ↓w_bh, sm_l, sm_r, ↓w_okr, ↓w_nm, ↓w_ite, ↓reduceIte, not_true_eq_false, not_false_eq_true, and_true, true_and, and_self, Option.some.injEq, reduceCtorEq, eq_self, ↓w_rc, ↓w_gI, ↓w_gR, ↓w_aN, ↓w_aI, ↓w_aR, ↓w_aL, ↓w_pI, ↓w_pR, ↓w_sI, ↓w_sR, ↓w_sL, ↓w_nO, ↓w_nA, ↓w_nL, ↓w_ca, ↓w_ca0, ↓w_gS, ↓w_gK, ↓w_dv, ↓w_tw, ↓w_rz, ↓w_no, nv_lit, nv_f, nv_add, nv_mul, nv_sub, nv_le, nv_lt, nv_eq, nv_cl, Nat.reduceMod, Nat.reduceMul, Nat.reduceAdd, Nat.zero_add, Nat.add_zero, Nat.mul_zero, decide_eq_true_eq, nv_inT, mk_k hM1, mk_r hM1, mk_n hM1, okR_f hf, mk_k hM2, mk_r hM2, mk_n hM2, okR_f hf2]
  rfl
/-- a fact's cell: what lies there -/
theorem fact_had {B : Nat → Nat × Nat} {a : Hp} {L : Nat → Nat} {R : Nat → Int32} (hM : Mk B a L R) {x y : Nat} (hx : x < 10) (hy : y < 10) : (fc R x y = -1 ∧ hR a (L (10 + x)) y = none) ∨ ∃ f, hR a (L (10 + x)) y = some f ∧ W3 (fc R x y) ∧ Fw_ a f x y (fc R x y) := by
  rcases mk_f hM x y hx hy with h | ⟨f, h1, h2, h3, h4⟩
  · exact .inl h
  · exact .inr ⟨f, h1, h3, h4⟩
theorem rf_k {B : Nat → Nat × Nat} {a : Hp} {L : Nat → Nat} {R : Nat → Int32} (hM : Mk B a L R) {x y : Nat} (hx : x < 10) (hy : y < 10) : ∀ q, (q = L (10 + x) ∨ q = L (10 + y)) → (B q).1 = L 0 + 1 ∧ hK a q < 100 ∧ hK a q ≠ 10 := by
  have k := fun z (hz : z < 10) => hM.2.1 _ (lv_10 hz)
  have kk := fun z (hz : z < 10) => (mk_k hM).2.1 z hz
  rintro q (rfl | rfl)
  · exact ⟨by rw [(k x hx).2.1], by rw [kk x hx]; omega, by rw [kk x hx]; omega⟩
  · exact ⟨by rw [(k y hy).2.1], by rw [kk y hy]; omega, by rw [kk y hy]; omega⟩
theorem X1_shown_w {B : Nat → Nat × Nat} {a : Hp} {L : Nat → Nat} {R : Nat → Int32} (hM : Mk B a L R) {G : Nat → Nat} (hX : FX G a L) (hS : Sh R) (hF : Fs R) {x y : Nat} (hx : x < nH R) (hy : y < nH R) (hxy : x ≠ y) (Q : Int32 → Hp → Prop)
    (hG0 : ¬ (G 0 = L (10 + x) ∨ G 0 = L (10 + y)))
    (hq : ∀ b, EP (fun q => q = L (10 + x) ∨ q = L (10 + y)) a b → Mk B b L R → hSz b ≤ hSz a + 20 → hSl b ≤ hSl a + 200 → Q (ka (shw R x y)) b) : Wp (X1_shown (G 0) (nv x) (nv y)) a Q := by
  have h10 := sh_H10 hS
  have hmul := Nat.mul_le_mul h10 h10
  have hx' : x < 10 := by omega
  have hy' : y < 10 := by omega
  have hw3 : W3 (ws R x y) := wd_3 _ _
  have e1 : (if ws R x y = -1 then -1 else tn (ws R x y)) = ws R y x := by
    rw [if_neg (w3_m1 hw3)]
    exact tn_wd _ _
  -- shown
  have hM1 := hM.ext (B' := B) (nf_e a (nv x) (nv y) (ws R x y)) (fun _ _ => rfl)
  have hM2 := hM1.s2 hx' hy' hxy (v := some (hSz a)) (w := ws R x y) (.inr ⟨_, rfl, hw3, nf_f a x y _⟩)
  rw [e1] at hM2
  have hM2 : Mk B (s2 (nf a (nv x) (nv y) (ws R x y)) (L (10 + x)) (L (10 + y)) x y (some (hSz a))) L (shw R x y) := hM2
  have ep2 : EP (fun q => q = L (10 + x) ∨ q = L (10 + y)) a (s2 (nf a (nv x) (nv y) (ws R x y)) (L (10 + x)) (L (10 + y)) x y (some (hSz a))) := ((nf_e a _ _ _).ep _).tr (s2_ep _ _ _ _ _ _)
  have hX2 : FX G (s2 (nf a (nv x) (nv y) (ws R x y)) (L (10 + x)) (L (10 + y)) x y (some (hSz a))) L := by
    have := ep2.2.2 (G 0) hX.2.2 hG0
    exact ⟨by rw [this.1]; exact hX.1, by rw [this.2.2.1]; exact hX.2.1, Nat.lt_of_lt_of_le hX.2.2 ep2.1⟩
  have hrf := shw_rf R hx' hy'
  have hF2 := shw_fs hS hF hx hy hxy
  have had := fact_had hM hx' hy'
  simp (disch := omega) only [X1_shown, ↓w_bd, ↓w_rt, ↓w_bh, sm_l, sm_r, ↓w_okr, ↓w_nm, ↓w_ite, ↓reduceIte, not_true_eq_false, not_false_eq_true, and_true, true_and, and_self, Option.some.injEq, reduceCtorEq, eq_self, ↓w_rc, ↓w_gI, ↓w_gR, ↓w_aN, ↓w_aI, ↓w_aR, ↓w_aL, ↓w_pI, ↓w_pR, ↓w_sI, ↓w_sR, ↓w_sL, ↓w_nO, ↓w_nA, ↓w_nL, ↓w_ca, ↓w_ca0, ↓w_gS, ↓w_gK, ↓w_dv, ↓w_tw, ↓w_rz, ↓w_no, nv_lit, nv_f, nv_add, nv_mul, nv_sub, nv_le, nv_lt, nv_eq, nv_cl, Nat.reduceMod, Nat.reduceMul, Nat.reduceAdd, Nat.zero_add, Nat.add_zero, Nat.mul_zero, decide_eq_true_eq, nv_inT, mk_k hM, mk_n hM, mk_r hM, mk_i hM, hX, X2_sizeWord_w hM, X2_show_w hM hx' hy' hxy hw3, mk_k hM2, mk_r hM2, hX2]
  refine X2_ways_w hM2 hF2 _ fun b D hD hW => ?_
  rw [hrf.H] at hW
  have hXb := hX2.ext hW.1
  have hMb := hM2.ext (B' := B) hW.1 (fun _ _ => rfl)
  have epb := ep2.tr (hW.1.ep _)
  have hWm : Wm (hSz (s2 (nf a (nv x) (nv y) (ws R x y)) (L (10 + x)) (L (10 + y)) x y (some (hSz a)))) (nH (shw R x y)) b D := by rw [hrf.H]; exact hW.2.2.2
  have kpair : ∀ q, (q = L (10 + x) ∨ q = L (10 + y)) → hK a q ≠ 10 := fun q hq => (rf_k hM hx' hy' q hq).2.2
  have hadb : (fc R x y = -1 ∧ hR a (L (10 + x)) y = none) ∨ ∃ f, hR a (L (10 + x)) y = some f ∧ W3 (fc R x y) ∧ Fw_ b f x y (fc R x y) := by
    rcases had with h | ⟨f, h1, h2, h3⟩
    · exact .inl h
    · exact .inr ⟨f, h1, h2, h3.ep epb kpair⟩
  have hMc := hMb.wF hx' hy' (v := hR a (L (10 + x)) y) (w := fc R x y) (by
    rcases hadb with h | ⟨f, h1, h2, h3⟩
    · exact .inl h
    · exact .inr ⟨f, h1, hxy, h2, h3⟩)
  have okv : okR b [10] (hR a (L (10 + x)) y) = true := by
    rcases hadb with ⟨-, h⟩ | ⟨f, h1, h2, h3⟩
    · rw [h]; rfl
    · rw [h1]; exact okR_f h3
  have okv2 : okR (hwR b (L (10 + x)) (up1 (hR b (L (10 + x))) y (hR a (L (10 + x)) y))) [10] (hR a (L (10 + x)) y) = true := okv
  have hXc : FX G (hwR b (L (10 + x)) (up1 (hR b (L (10 + x))) y (hR a (L (10 + x)) y))) L := by
    refine ⟨hXb.1, ?_, hXb.2.2⟩
    rw [hR_wR, up1_n _ _ (fun e => hG0 (.inl e))]
    exact hXb.2.1
  have hMd := hMb.s2 hx' hy' hxy hadb
  have efin : up1 (up1 (shw R x y) (85 + 10 * x + y) (fc R x y)) (85 + 10 * y + x) (if fc R x y = -1 then -1 else tn (fc R x y)) = R := by
    have e2 : (if fc R x y = -1 then -1 else tn (fc R x y)) = fc R y x := by
      rcases hF x y hx' hy' with e | ⟨-, -, -, q1, q2⟩
      · rw [if_pos e, hF.sym hx' hy' e]
      · rw [if_neg (Fs.ne q1), q1, q2]
        exact tn_wd _ _
    rw [e2]
    funext i
    unfold fc shw up1
    by_cases c1 : i = 85 + 10 * y + x
    · simp only [c1, if_true]
    · by_cases c2 : i = 85 + 10 * x + y
      · simp only [c1, c2, if_true, if_false]
        split
        · omega
        · rfl
      · simp only [c1, c2, if_false]
  rw [efin] at hMd
  simp (disch := omega) only [↓w_bd, ↓w_rt, ↓w_bh, sm_l, sm_r, ↓w_okr, ↓w_nm, ↓w_ite, ↓reduceIte, not_true_eq_false, not_false_eq_true, and_true, true_and, and_self, Option.some.injEq, reduceCtorEq, eq_self, ↓w_rc, ↓w_gI, ↓w_gR, ↓w_aN, ↓w_aI, ↓w_aR, ↓w_aL, ↓w_pI, ↓w_pR, ↓w_sI, ↓w_sR, ↓w_sL, ↓w_nO, ↓w_nA, ↓w_nL, ↓w_ca, ↓w_ca0, ↓w_gS, ↓w_gK, ↓w_dv, ↓w_tw, ↓w_rz, ↓w_no, nv_lit, nv_f, nv_add, nv_mul, nv_sub, nv_le, nv_lt, nv_eq, nv_cl, Nat.reduceMod, Nat.reduceMul, Nat.reduceAdd, Nat.zero_add, Nat.add_zero, Nat.mul_zero, decide_eq_true_eq, nv_inT, hWm.r, X9_knownPairs_w hF2 (by rw [hrf.H]; exact h10) hD hWm, mk_k hMb, mk_r hMb, mk_n hMb, hXb, okv, mk_k hMc, mk_r hMc, mk_n hMc, hXc, okv2]
  refine hq _ (epb.tr (s2_ep _ _ _ _ _ _)) hMd ?_ ?_
  · have e1 : hSz b = _ := hW.2.1
    show hSz b ≤ _
    rw [e1]
    show hSz a + 1 + 2 + nH R ≤ _
    omega
  · have e1 : hSl b = _ := hW.2.2.1
    show hSl b ≤ _
    rw [e1]
    show hSl a + 3 + 2 + nH R + nH R * nH R ≤ _
    omega
theorem X5_shown_w {G : Nat → Nat} {a : Hp} {R : Nat → Int32} (hF : FO G a 0 R) (hG : GD G) (hS : Sh R) (hFs : Fs R) {x y : Nat} (hx : x < nH R) (hy : y < nH R) (hxy : x ≠ y) (Q : Int32 → Hp → Prop) (hq : ∀ c, Sy G a c → Q (ka (shw R x y)) c) : Wp (X5_shown (G 10) (nv x) (nv y)) a Q := by
  have h10 := sh_H10 hS
  have hF9 := hF.tr9 hG
  have hw3 : W3 (ws R x y) := wd_3 _ _
  have hl1 := hF9.ly hG (k := 85 + 10 * x + y) (by omega) (ws R x y)
  have hl2 := hl1.ly hG (k := 85 + 10 * y + x) (by omega) (tn (ws R x y))
  have e1 : up1 (up1 R (85 + 10 * x + y) (ws R x y)) (85 + 10 * y + x) (tn (ws R x y)) = shw R x y := by
    unfold shw
    rw [show tn (ws R x y) = ws R y x from tn_wd _ _]
  rw [e1] at hl2
  have hrf := shw_rf R (show x < 10 by omega) (show y < 10 by omega)
  simp (disch := omega) only [X5_shown, ↓w_bd, ↓w_rt, ↓w_bh, sm_l, sm_r, ↓w_okr, ↓w_nm, ↓w_ite, ↓reduceIte, not_true_eq_false, not_false_eq_true, and_true, true_and, and_self, Option.some.injEq, reduceCtorEq, eq_self, ↓w_rc, ↓w_gI, ↓w_gR, ↓w_aN, ↓w_aI, ↓w_aR, ↓w_aL, ↓w_pI, ↓w_pR, ↓w_sI, ↓w_sR, ↓w_sL, ↓w_nO, ↓w_nA, ↓w_nL, ↓w_ca, ↓w_ca0, ↓w_gS, ↓w_gK, ↓w_dv, ↓w_tw, ↓w_rz, ↓w_no, nv_lit, nv_f, nv_add, nv_mul, nv_sub, nv_le, nv_lt, nv_eq, nv_cl, Nat.reduceMod, Nat.reduceMul, Nat.reduceAdd, Nat.zero_add, Nat.add_zero, Nat.mul_zero, decide_eq_true_eq, nv_inT, hF.1, X5_tries_w hG hF, hF9.1, X5_wordBySize_w hF9 hS, X5_layFact_w hF9 hG (show x < 10 by omega) (show y < 10 by omega) (w3_m1 hw3), ly_K]
  refine X5_allKnown_w hl2 hG (hrf.sh hS) (shw_fs hS hFs hx hy hxy) _ fun b hb => ?_
  have hk : hK b (G 10) = 5 := by rw [hb.k]; exact hF.1.1.1
  simp (disch := omega) only [↓w_bd, ↓w_rt, ↓w_bh, sm_l, sm_r, ↓w_okr, ↓w_nm, ↓w_ite, ↓reduceIte, not_true_eq_false, not_false_eq_true, and_true, true_and, and_self, Option.some.injEq, reduceCtorEq, eq_self, ↓w_rc, ↓w_gI, ↓w_gR, ↓w_aN, ↓w_aI, ↓w_aR, ↓w_aL, ↓w_pI, ↓w_pR, ↓w_sI, ↓w_sR, ↓w_sL, ↓w_nO, ↓w_nA, ↓w_nL, ↓w_ca, ↓w_ca0, ↓w_gS, ↓w_gK, ↓w_dv, ↓w_tw, ↓w_rz, ↓w_no, nv_lit, nv_f, nv_add, nv_mul, nv_sub, nv_le, nv_lt, nv_eq, nv_cl, Nat.reduceMod, Nat.reduceMul, Nat.reduceAdd, Nat.zero_add, Nat.add_zero, Nat.mul_zero, decide_eq_true_eq, nv_inT, hk, X5_isBack_w hk]
  exact hq _ (bk_sy hG hF.2.1 (ly_b (ly_b (tr9_b hG _) _ _) _ _) hb)
