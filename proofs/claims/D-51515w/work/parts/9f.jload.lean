/-! LOAD -/
/-- the twin's first writes: fields 3, 5 -/
def T0 (G : Nat → Nat) (a c : Hp) : Prop := c.1 = a.1 ∧ c.2.2 = a.2.2 ∧ (∀ q, q ≠ G 10 → hI c q = hI a q) ∧ ∀ j, j ≠ 3 → j ≠ 5 → hI c (G 10) j = hI a (G 10) j
theorem hp_eq {a c : Hp} (h : c.1 = a.1 ∧ c.2.2 = a.2.2) : hK c = hK a ∧ hN c = hN a ∧ hR c = hR a ∧ hS c = hS a ∧ hSz c = hSz a ∧ hSl c = hSl a := ⟨congrArg (fun x => x.1.2.1) h.1, congrArg (fun x => x.1.2.2) h.1, congrArg (fun x => x.1) h.2, congrArg (fun x => x.2) h.1, congrArg (fun x => x.1.1.1) h.1, congrArg (fun x => x.1.1.2) h.1⟩
theorem FT.cg {G : Nat → Nat} {a c : Hp} (hF : FT G a) (h : c.1 = a.1 ∧ c.2.2 = a.2.2) : FT G c := by
  obtain ⟨eK, eN, eR, -⟩ := hp_eq h
  unfold FT at *
  rw [eK, eN, eR]
  exact hF
theorem Co.cg {G : Nat → Nat} {a c : Hp} (h : Co a) (hF : FT G a) (k : c.1 = a.1 ∧ c.2.2 = a.2.2) (e : ∀ q, q ≠ G 10 → q ≠ G 11 → q ≠ G 17 → hI c q = hI a q) : Co c := by
  obtain ⟨eK, eN, eR, eS, eZ, -⟩ := hp_eq k
  refine h.ep (P := fun q => q = G 10 ∨ q = G 11 ∨ q = G 17) ⟨by omega, eS, fun q _ hn => ⟨by rw [eK], by rw [eN], by rw [eR], e q (fun x => hn (.inl x)) (fun x => hn (.inr (.inl x))) (fun x => hn (.inr (.inr x)))⟩⟩ (fun q hq => ?_)
  obtain ⟨⟨k10, -⟩, ⟨k11, k12, k13, k14, k15, k16, k17, k18, k19⟩, -⟩ := hF
  rcases hq with rfl | rfl | rfl <;> omega
theorem opens_w {G : Nat → Nat} (hG : GD G) {c0 d : Hp} {R : Nat → Int32} (hF : FO G d 10 R) (hT : Tl G c0 d) (Q : Unit → Hp → Prop) (kk : ∀ d' R', FO G d' 10 R' → Tl G c0 d' → (∀ i, R' i = if 11 ≤ i ∧ i < 15 then nv 10 else if 85 ≤ i ∧ i < 185 then -nv 1 else R i) → Q () d') : Wp (X5_opens (G 10)) d Q := by
  have p2 : ∀ (f k : Nat), k ≤ 100 → 100 - k < f → ∀ d R', FO G d 10 R' → Tl G c0 d → (∀ i, R' i = if 11 ≤ i ∧ i < 15 then nv 10 else if 85 ≤ i ∧ i < 85 + k then -nv 1 else R i) → Wp (X5_opens_25 f (G 10) (nv k)) d Q := by
    refine loopUp _ 100 ?_ ?_
    · intro f d R' h1 h2 h3
      simp (disch := omega) only [X5_opens_25, ↓w_bd, ↓w_rt, ↓w_bh, sm_l, sm_r, ↓w_okr, ↓w_nm, ↓w_ite, ↓reduceIte, not_true_eq_false, not_false_eq_true, and_true, true_and, and_self, Option.some.injEq, reduceCtorEq, eq_self, ↓w_rc, ↓w_gI, ↓w_gR, ↓w_aN, ↓w_aI, ↓w_aR, ↓w_aL, ↓w_pI, ↓w_pR, ↓w_sI, ↓w_sR, ↓w_sL, ↓w_nO, ↓w_nA, ↓w_nL, ↓w_ca, ↓w_ca0, ↓w_gS, ↓w_gK, ↓w_dv, ↓w_tw, ↓w_rz, ↓w_no, nv_lit, nv_f, nv_add, nv_mul, nv_sub, nv_le, nv_lt, nv_eq, nv_cl, Nat.reduceMod, Nat.reduceMul, Nat.reduceAdd, Nat.zero_add, Nat.add_zero, Nat.mul_zero, decide_eq_true_eq, nv_inT, Nat.le_refl]
      exact kk d R' h1 h2 h3
    · intro f k hk ih d R' h1 h2 h3
      simp (disch := omega) only [X5_opens_25, ↓w_bd, ↓w_rt, ↓w_bh, sm_l, sm_r, ↓w_okr, ↓w_nm, ↓w_ite, ↓reduceIte, not_true_eq_false, not_false_eq_true, and_true, true_and, and_self, Option.some.injEq, reduceCtorEq, eq_self, ↓w_rc, ↓w_gI, ↓w_gR, ↓w_aN, ↓w_aI, ↓w_aR, ↓w_aL, ↓w_pI, ↓w_pR, ↓w_sI, ↓w_sR, ↓w_sL, ↓w_nO, ↓w_nA, ↓w_nL, ↓w_ca, ↓w_ca0, ↓w_gS, ↓w_gK, ↓w_dv, ↓w_tw, ↓w_rz, ↓w_no, nv_lit, nv_f, nv_add, nv_mul, nv_sub, nv_le, nv_lt, nv_eq, nv_cl, Nat.reduceMod, Nat.reduceMul, Nat.reduceAdd, Nat.zero_add, Nat.add_zero, Nat.mul_zero, decide_eq_true_eq, nv_inT, Nat.not_le.mpr hk, h1.1, X5_lay_w h1]
      refine ih _ _ (h1.ly hG (by omega) _) (h2.tr (ly_tl hG _ _ _)) fun i => ?_
      by_cases c : i = 85 + k
      · rw [c, up1_s, if_neg (by omega), if_pos (by omega)]
      · rw [up1_n _ _ c, h3]
        by_cases c2 : 11 ≤ i ∧ i < 15
        · rw [if_pos c2, if_pos c2]
        · rw [if_neg c2, if_neg c2]
          by_cases c3 : 85 ≤ i ∧ i < 85 + k
          · rw [if_pos c3, if_pos (by omega)]
          · rw [if_neg c3, if_neg (by omega)]
  have p1 : ∀ (f k : Nat), k ≤ 4 → 4 - k < f → ∀ d R', FO G d 10 R' → Tl G c0 d → (∀ i, R' i = if 11 ≤ i ∧ i < 11 + k then nv 10 else R i) → Wp (X5_opens_2 f (G 10) (nv k)) d Q := by
    refine loopUp _ 4 ?_ ?_
    · intro f d R' h1 h2 h3
      simp (disch := omega) only [X5_opens_2, ↓w_bd, ↓w_rt, ↓w_bh, sm_l, sm_r, ↓w_okr, ↓w_nm, ↓w_ite, ↓reduceIte, not_true_eq_false, not_false_eq_true, and_true, true_and, and_self, Option.some.injEq, reduceCtorEq, eq_self, ↓w_rc, ↓w_gI, ↓w_gR, ↓w_aN, ↓w_aI, ↓w_aR, ↓w_aL, ↓w_pI, ↓w_pR, ↓w_sI, ↓w_sR, ↓w_sL, ↓w_nO, ↓w_nA, ↓w_nL, ↓w_ca, ↓w_ca0, ↓w_gS, ↓w_gK, ↓w_dv, ↓w_tw, ↓w_rz, ↓w_no, nv_lit, nv_f, nv_add, nv_mul, nv_sub, nv_le, nv_lt, nv_eq, nv_cl, Nat.reduceMod, Nat.reduceMul, Nat.reduceAdd, Nat.zero_add, Nat.add_zero, Nat.mul_zero, decide_eq_true_eq, nv_inT, Nat.le_refl]
      refine p2 FU 0 (by omega) (by unfold FU; omega) d R' h1 h2 fun i => ?_
      rw [h3]
      by_cases c2 : 11 ≤ i ∧ i < 15
      · rw [if_pos c2, if_pos c2]
      · rw [if_neg c2, if_neg c2, if_neg (by omega)]
    · intro f k hk ih d R' h1 h2 h3
      simp (disch := omega) only [X5_opens_2, ↓w_bd, ↓w_rt, ↓w_bh, sm_l, sm_r, ↓w_okr, ↓w_nm, ↓w_ite, ↓reduceIte, not_true_eq_false, not_false_eq_true, and_true, true_and, and_self, Option.some.injEq, reduceCtorEq, eq_self, ↓w_rc, ↓w_gI, ↓w_gR, ↓w_aN, ↓w_aI, ↓w_aR, ↓w_aL, ↓w_pI, ↓w_pR, ↓w_sI, ↓w_sR, ↓w_sL, ↓w_nO, ↓w_nA, ↓w_nL, ↓w_ca, ↓w_ca0, ↓w_gS, ↓w_gK, ↓w_dv, ↓w_tw, ↓w_rz, ↓w_no, nv_lit, nv_f, nv_add, nv_mul, nv_sub, nv_le, nv_lt, nv_eq, nv_cl, Nat.reduceMod, Nat.reduceMul, Nat.reduceAdd, Nat.zero_add, Nat.add_zero, Nat.mul_zero, decide_eq_true_eq, nv_inT, Nat.not_le.mpr hk, h1.1, X5_lay_w h1]
      refine ih _ _ (h1.ly hG (by omega) _) (h2.tr (ly_tl hG _ _ _)) fun i => ?_
      by_cases c : i = 11 + k
      · rw [c, up1_s, if_pos (by omega)]
      · rw [up1_n _ _ c, h3]
        by_cases c3 : 11 ≤ i ∧ i < 11 + k
        · rw [if_pos c3, if_pos (by omega)]
        · rw [if_neg c3, if_neg (by omega)]
  unfold X5_opens
  exact p1 FU 0 (by omega) (by unfold FU; omega) d R hF hT fun i => by rw [if_neg (by omega)]
theorem load_s {G : Nat → Nat} {S : Gst} {c : Hp} {s e k : Nat} (hG : GD G) (hT : JT G S c) (hCo : Co c) (h5 : gl S ≤ 500) (hx : Nx S 0 s e k) (Q : Int32 → Hp → Prop) (kk : ∀ c0 c', T0 G c c0 → TL G S R00 c0 c' s e k → Wp (tld0 G) c' Q) : Wp (X5_load (G 10)) c Q := by
  obtain ⟨hF, -, -, -, -, -, ⟨t9, t16⟩, -⟩ := hT
  obtain ⟨c0, ec0⟩ : ∃ c0, c0 = hwI c (G 10) (up1 (up1 (hI c (G 10)) 5 (nv 0)) 3 (nv 10)) := ⟨_, rfl⟩
  have i0 : ∀ j, hI c0 (G 10) j = up1 (up1 (hI c (G 10)) 5 (nv 0)) 3 (nv 10) j := fun j => by rw [ec0, hI_wI, up1_s]
  have h0 : T0 G c c0 := ⟨by rw [ec0]; rfl, by rw [ec0]; rfl, fun q hq => by rw [ec0, hI_wI, up1_n _ _ hq], fun j h1 h2 => by rw [i0, up1_n _ _ h1, up1_n _ _ h2]⟩
  have hF0 : FT G c0 := hF.cg ⟨h0.1, h0.2.1⟩
  have hCo0 : Co c0 := hCo.cg hF ⟨h0.1, h0.2.1⟩ fun q h1 _ _ => h0.2.2.1 q h1
  simp (disch := omega) only [X5_load, ↓w_bd, ↓w_rt, ↓w_bh, sm_l, sm_r, ↓w_okr, ↓w_nm, ↓w_ite, ↓reduceIte, not_true_eq_false, not_false_eq_true, and_true, true_and, and_self, Option.some.injEq, reduceCtorEq, eq_self, ↓w_rc, ↓w_gI, ↓w_gR, ↓w_aN, ↓w_aI, ↓w_aR, ↓w_aL, ↓w_pI, ↓w_pR, ↓w_sI, ↓w_sR, ↓w_sL, ↓w_nO, ↓w_nA, ↓w_nL, ↓w_ca, ↓w_ca0, ↓w_gS, ↓w_gK, ↓w_dv, ↓w_tw, ↓w_rz, ↓w_no, nv_lit, nv_f, nv_add, nv_mul, nv_sub, nv_le, nv_lt, nv_eq, nv_cl, Nat.reduceMod, Nat.reduceMul, Nat.reduceAdd, Nat.zero_add, Nat.add_zero, Nat.mul_zero, decide_eq_true_eq, nv_inT, hF, okn, hK_wI, hI_wI, up1_s, hwI_2]
  rw [← ec0]
  have n1110 := hG.ne (show 16 < 22 by omega) (show 10 < 22 by omega) (by omega)
  have n1611 := hG.ne (show 16 < 22 by omega) (show 11 < 22 by omega) (by omega)
  have l : ∀ (f k : Nat), k ≤ 545 → 545 - k < f → ∀ d R, FO G d 10 R → Tl G c0 d → (∀ j, j < k → R j = nv 0) → Wp (X5_load_13 f (G 10) (nv k)) d Q := by
    refine loopUp _ 545 ?_ ?_
    · intro f d R h1 h2 h3
      simp (disch := omega) only [X5_load_13, ↓w_bd, ↓w_rt, ↓w_bh, sm_l, sm_r, ↓w_okr, ↓w_nm, ↓w_ite, ↓reduceIte, not_true_eq_false, not_false_eq_true, and_true, true_and, and_self, Option.some.injEq, reduceCtorEq, eq_self, ↓w_rc, ↓w_gI, ↓w_gR, ↓w_aN, ↓w_aI, ↓w_aR, ↓w_ca, ↓w_ca0, nv_lit, nv_f, nv_add, nv_mul, nv_sub, nv_le, nv_lt, nv_eq, nv_cl, Nat.reduceMod, Nat.reduceMul, Nat.reduceAdd, Nat.zero_add, Nat.add_zero, Nat.mul_zero, decide_eq_true_eq, nv_inT, Nat.le_refl, h1.1]
      refine opens_w hG h1 h2 _ fun d2 R2 g1 g2 g3 => ?_
      simp (disch := omega) only [↓w_bd, ↓w_rt, ↓w_bh, sm_l, sm_r, ↓w_okr, ↓w_nm, ↓w_ite, ↓reduceIte, not_true_eq_false, not_false_eq_true, and_true, true_and, and_self, Option.some.injEq, reduceCtorEq, eq_self, ↓w_rc, ↓w_gI, ↓w_gR, ↓w_aN, ↓w_aI, ↓w_aR, ↓w_ca, ↓w_ca0, nv_lit, nv_f, nv_add, nv_mul, nv_sub, nv_le, nv_lt, nv_eq, nv_cl, Nat.reduceMod, Nat.reduceMul, Nat.reduceAdd, Nat.zero_add, Nat.add_zero, Nat.mul_zero, decide_eq_true_eq, nv_inT, g1.1]
      have hTx : Tx G d2 (tb S) (gl S) := ⟨h5, by rw [g2.2.2.2 9 (by omega), h0.2.2.2 9 (by omega) (by omega)]; exact t9, fun i hi => by rw [g2.2.1 _ n1110 n1611, h0.2.2.1 _ n1110, t16 i hi]; exact tb_v S i, tb_b S⟩
      refine X5_starts_w hG g1.1 hTx hx _ fun d3 w1 w2 => ?_
      have hTL : TL G S R00 c0 d3 s e k := ⟨w2, (g1.tww hG w1 w2.1).cg fun i hi => by
        rw [g3]
        unfold R00
        by_cases c1 : 11 ≤ i ∧ i < 15
        · rw [if_pos c1, if_pos c1]
        · rw [if_neg c1, if_neg c1]
          by_cases c2 : 85 ≤ i ∧ i < 185
          · rw [if_pos c2, if_pos c2]
          · rw [if_neg c2, if_neg c2]; exact h3 i hi, hCo0.cg hF0 ⟨w1.1.trans g2.1.1, w1.2.1.trans g2.1.2⟩ (fun q q1 q2 _ => by rw [w1.2.2.1 q q1, g2.2.1 q q1 q2]), g2.tr (w1.tl hG)⟩
      have := kk c0 d3 h0 hTL
      unfold tld0 tld1 tld2 tld3 tld4 at this
      simp (disch := omega) only [↓w_bd, ↓w_rt, ↓w_bh, sm_l, sm_r, ↓w_okr, ↓w_nm, ↓w_ite, ↓reduceIte, not_true_eq_false, not_false_eq_true, and_true, true_and, and_self, Option.some.injEq, reduceCtorEq, eq_self, ↓w_rc, ↓w_gI, ↓w_gR, ↓w_aN, ↓w_aI, ↓w_aR, ↓w_ca, ↓w_ca0, nv_lit, nv_f, nv_add, nv_mul, nv_sub, nv_le, nv_lt, nv_eq, nv_cl, Nat.reduceMod, Nat.reduceMul, Nat.reduceAdd, Nat.zero_add, Nat.add_zero, Nat.mul_zero, decide_eq_true_eq, nv_inT] at this
      exact this
    · intro f k hk ih d R h1 h2 h3
      simp (disch := omega) only [X5_load_13, ↓w_bd, ↓w_rt, ↓w_bh, sm_l, sm_r, ↓w_okr, ↓w_nm, ↓w_ite, ↓reduceIte, not_true_eq_false, not_false_eq_true, and_true, true_and, and_self, Option.some.injEq, reduceCtorEq, eq_self, ↓w_rc, ↓w_gI, ↓w_gR, ↓w_aN, ↓w_aI, ↓w_aR, ↓w_ca, ↓w_ca0, nv_lit, nv_f, nv_add, nv_mul, nv_sub, nv_le, nv_lt, nv_eq, nv_cl, Nat.reduceMod, Nat.reduceMul, Nat.reduceAdd, Nat.zero_add, Nat.add_zero, Nat.mul_zero, decide_eq_true_eq, nv_inT, Nat.not_le.mpr hk, h1.1, X5_lay_w h1]
      refine ih _ _ (h1.ly hG hk _) (h2.tr (ly_tl hG _ _ _)) fun j hj => ?_
      by_cases c1 : j = k
      · rw [c1, up1_s]
      · rw [up1_n _ _ c1]; exact h3 j (by omega)
  exact l FU 0 (by omega) (by unfold FU; omega) c0 (fun j => hI c0 (G 11) (545 * 10 + j)) ⟨hF0, by rw [i0, up1_s], by omega, fun j hj => rfl⟩ (Tl.rf G c0) (fun j hj => absurd hj (Nat.not_lt_zero j))
theorem load_t {G : Nat → Nat} {S S' : Gst} {c c2 : Hp} (hG : GD G) (hT : JT G S c) (k : c2.1 = c.1 ∧ c2.2.2 = c.2.2) (e : ∀ q, q ≠ G 10 → q ≠ G 11 → q ≠ G 17 → hI c2 q = hI c q) (e3 : hI c2 (G 10) 3 = nv 0) (e4 : hI c2 (G 10) 4 = nv (gu S')) (e9 : hI c2 (G 10) 9 = nv 0) (h9 : gl S' = 0) (e10 : hI c2 (G 10) 10 = (ge S').1 ∧ hI c2 (G 10) 11 = (ge S').2) (e20 : hI c2 (G 10) 20 = hI c (G 10) 20) (hr : ∀ i p, gm S' i = some p → ∀ k, k < 545 → hI c2 (G 11) (545 * i + k) = p.2 k) (hs : ∀ j, j < 2 → (gm S' (7 + j)).isSome = (gm S (7 + j)).isSome) (hS : gf S' = gf S ∧ go S' = go S) : JT G S' c2 := by
  have n := fun i (h1 : i < 22) (h2 : i ≠ 10 ∧ i ≠ 11 ∧ i ≠ 17) => e (G i) (hG.ne h1 (by omega) h2.1) (hG.ne h1 (by omega) h2.2.1) (hG.ne h1 (by omega) h2.2.2)
  obtain ⟨h1, h2, h3, h4, h5, h6, ⟨h7, h8⟩, ⟨hh9, hh10⟩, h11, h12⟩ := hT
  refine ⟨h1.cg k, e3, e4, hr, ?_, ?_, ⟨by rw [e9, h9], fun i hi => by rw [h9] at hi; omega⟩, e10, ?_, ?_⟩
  · intro j hj
    rw [n 12 (by omega) (by omega), hs j hj]
    exact h5 j hj
  · rw [n 13 (by omega) (by omega), hS.1]; exact h6
  · rw [e20, hS.2]; exact h11
  · rw [n 19 (by omega) (by omega), hS.2]; exact h12
def sE (S : Gst) (c p : Int32) : Gst := (S.1, (S.2.1, ((c, p), S.2.2.2)))
theorem tg_ep {G : Nat → Nat} {b c : Hp} (k : c.1 = b.1 ∧ c.2.2 = b.2.2) (e : ∀ q, q ≠ G 10 → q ≠ G 11 → q ≠ G 17 → hI c q = hI b q) : EP (tG G) b c ∧ hSz c = hSz b ∧ hSl c = hSl b := by
  obtain ⟨eK, eN, eR, eS, eZ, eL⟩ := hp_eq k
  exact ⟨⟨by omega, eS, fun q _ hn => ⟨by rw [eK], by rw [eN], by rw [eR], e q (fun x => hn ⟨10, by omega, by omega, x⟩) (fun x => hn ⟨11, by omega, by omega, x⟩) (fun x => hn ⟨17, by omega, by omega, x⟩)⟩⟩, eZ, eL⟩
theorem TL.sE {G : Nat → Nat} {S : Gst} {R : Nat → Int32} {c0 c : Hp} {s e k : Nat} {x y : Int32} (h : TL G S R c0 c s e k) : TL G (sE S x y) R c0 c s e k := h
theorem op_load {G : Nat → Nat} {B : Nat → Nat × Nat} {S : Gst} {a : Hp} (hC : JC G B S a) (hT : JT G S a) : OpE G a (X1_load (G 0)) (X5_load (G 10)) := by
  have hG := hC.1.gd
  have hJ := hC.2.1
  have hs : ∀ i, i < 22 → G i < hSz a := fun i hi => (hC.1 i hi).1
  have n := fun i j (hi : i < 22) (hj : j < 22) (hn : i ≠ j) => hG.ne hi hj hn
  obtain ⟨l5, l2, l3⟩ := hC.2.2.2.2.2.2.1
  obtain ⟨a1, ea1⟩ : ∃ a1, a1 = hwI a (G 0) (up1 (up1 (hI a (G 0)) 2 (nv 0)) 3 (-nv 1)) := ⟨_, rfl⟩
  have i1 : ∀ j, hI a1 (G 0) j = up1 (up1 (hI a (G 0)) 2 (nv 0)) 3 (-nv 1) j := fun j => by rw [ea1, hI_wI, up1_s]
  have ep1 : EP (fun q => q = G 0) a a1 := by rw [ea1]; exact (EP.rf (fun q => q = G 0) a).wI (.inl rfl) _
  have k1 : hK a1 = hK a ∧ hN a1 = hN a ∧ hR a1 = hR a := by rw [ea1]; exact ⟨rfl, rfl, rfl⟩
  have z1 : hSz a1 = hSz a ∧ hSl a1 = hSl a := by rw [ea1]; exact ⟨rfl, rfl⟩
  have hC1 : JC G B (sE S (nv 0) (-nv 1)) a1 := by
    refine hC.i0 ep1 k1 ⟨rfl, rfl, rfl⟩ ⟨l5, by rw [i1, up1_n _ _ (by omega), up1_n _ _ (by omega)]; exact l2, fun i hi => ?_⟩ ⟨by rw [i1, up1_n _ _ (by omega), up1_s]; rfl, by rw [i1, up1_s]; rfl⟩
    rw [ea1, hI_wI, up1_n _ _ (n 1 0 (by omega) (by omega) (by omega))]
    exact l3 i hi
  obtain ⟨s, e, k, hx⟩ := nx_ex S (Nat.zero_le (gl S))
  have hx1 : Nx (sE S (nv 0) (-nv 1)) 0 s e k := hx
  unfold OpE X1_load
  rw [w_bd, w_pI]
  refine ⟨⟨hJ.1.1, okn _⟩, ?_⟩
  rw [w_bd, w_pI]
  refine ⟨⟨hJ.1.1, okn _⟩, ?_⟩
  have e1 : hwI (hwI a (G 0) (up1 (hI a (G 0)) 2 0)) (G 0) (up1 (hI (hwI a (G 0) (up1 (hI a (G 0)) 2 0)) (G 0)) 3 (-1)) = a1 := by
    rw [ea1, hI_wI, up1_s, hwI_2]
    rfl
  rw [e1, w_bd]
  refine w_nO' fun d0 e0 z0 l0 k0 i0 r0 => ?_
  obtain ⟨rq, erq⟩ : ∃ rq, rq = hSz a1 := ⟨_, rfl⟩
  rw [← erq] at k0 i0 z0 ⊢
  rw [w_bd]
  refine X6_init_w hC1 e0 z0 (by omega) k0 i0 hx1 _ fun d1 hcs => ?_
  have hk1 := hcs.k
  rw [w_bd, w_rc]
  refine ⟨by rw [hk1], ?_⟩
  rw [w_bh]
  refine market_j hC1 hcs _ (fun cd ps d2 q hce hc1 hc2 tw => ?_) (fun R' m0 m s' e' mq d2 hm hL hcs2 hmq amq tw => ?_)
  · obtain ⟨E2, ⟨q1, q2, q3⟩, zz, ll⟩ := hce
    have hC2 := hC1.e0 E2
    have hJ2 := hC2.2.1
    obtain ⟨b, eb⟩ : ∃ b, b = hwI d2 (G 0) (up1 (up1 (up1 (hI d2 (G 0)) 2 (nv cd)) 3 (nv ps)) 1 (nv 0)) := ⟨_, rfl⟩
    have nq : q ≠ G 0 := fun e' => by rw [e', hJ2.1.1] at q1; omega
    simp (disch := omega) only [↓w_bd, ↓w_rt, ↓w_bh, sm_l, sm_r, ↓w_okr, ↓w_nm, ↓w_ite, ↓reduceIte, not_true_eq_false, not_false_eq_true, and_true, true_and, and_self, Option.some.injEq, reduceCtorEq, eq_self, ↓w_rc, ↓w_gI, ↓w_gR, ↓w_aN, ↓w_aI, ↓w_aR, ↓w_aL, ↓w_pI, ↓w_pR, ↓w_sI, ↓w_sR, ↓w_sL, ↓w_nO, ↓w_nA, ↓w_nL, ↓w_ca, ↓w_ca0, ↓w_gS, ↓w_gK, ↓w_dv, ↓w_tw, ↓w_rz, ↓w_no, nv_lit, nv_f, nv_add, nv_mul, nv_sub, nv_le, nv_lt, nv_eq, nv_cl, Nat.reduceMod, Nat.reduceMul, Nat.reduceAdd, Nat.zero_add, Nat.add_zero, Nat.mul_zero, decide_eq_true_eq, nv_inT, X1_wrong, hJ2, q1, q2, q3, okn, hK_wI, hI_wI, up1_s, hwI_2, up1_n, nq, ne_eq]
    rw [← eb]
    have ib : ∀ j, hI b (G 0) j = up1 (up1 (up1 (hI d2 (G 0)) 2 (nv cd)) 3 (nv ps)) 1 (nv 0) j := fun j => by rw [eb, hI_wI, up1_s]
    have epb : EP (Pq G) a b := by
      rw [eb]
      exact ((ep1.mono (fun x h => .inl h)).tr (E2.ep _)).wI (.inl (.inl rfl)) _
    have frb := pq_fr hC epb
    have zb : hSz b = hSz d2 ∧ hSl b = hSl d2 := by rw [eb]; exact ⟨rfl, rfl⟩
    have jb : JC G B (sX (sE S (nv cd) (nv ps)) 0 (gb S)) b := by
      refine hC2.i0 (S' := sX (sE S (nv cd) (nv ps)) 0 (gb S)) (by rw [eb]; exact (EP.rf (fun q => q = G 0) d2).wI (.inl rfl) _) (by rw [eb]; exact ⟨rfl, rfl, rfl⟩) ⟨rfl, rfl, rfl⟩ ⟨Nat.zero_le _, by rw [ib, up1_s]; rfl, fun i hi => absurd hi (Nat.not_lt_zero i)⟩ ⟨?_, ?_⟩
      · rw [ib, up1_n _ _ (by omega), up1_n _ _ (by omega), up1_s]; rfl
      · rw [ib, up1_n _ _ (by omega), up1_s]; rfl
    have hTb := frb.t hC.1 hT
    refine load_s hG hTb jb.2.2.2.2.2.2.2.2.2 l5 hx _ fun c0 c' t0 tl => ?_
    refine tw c0 c' tl.sE _ fun c2 te => ?_
    obtain ⟨⟨hF2, z10, z11, -, -⟩, -, tl2⟩ := te
    have i10 : ∀ v, up1 (up1 (hI c2 (G 10)) 3 (nv 0)) 9 v 10 = nv cd := fun v => by rw [up1_n _ _ (by omega), up1_n _ _ (by omega)]; exact z10
    simp (disch := omega) only [X5_load_103, ↓w_bd, ↓w_rt, ↓w_bh, sm_l, sm_r, ↓w_okr, ↓w_nm, ↓w_ite, ↓reduceIte, not_true_eq_false, not_false_eq_true, and_true, true_and, and_self, Option.some.injEq, reduceCtorEq, eq_self, ↓w_rc, ↓w_gI, ↓w_gR, ↓w_aN, ↓w_aI, ↓w_aR, ↓w_aL, ↓w_pI, ↓w_pR, ↓w_sI, ↓w_sR, ↓w_sL, ↓w_nO, ↓w_nA, ↓w_nL, ↓w_ca, ↓w_ca0, ↓w_gS, ↓w_gK, ↓w_dv, ↓w_tw, ↓w_rz, ↓w_no, nv_lit, nv_f, nv_add, nv_mul, nv_sub, nv_le, nv_lt, nv_eq, nv_cl, Nat.reduceMod, Nat.reduceMul, Nat.reduceAdd, Nat.zero_add, Nat.add_zero, Nat.mul_zero, decide_eq_true_eq, nv_inT, hF2, okn, hK_wI, hI_wI, up1_s, hwI_2, i10, show ¬ cd = 0 by omega]
    obtain ⟨c3, ec3⟩ : ∃ c3, c3 = hwI c2 (G 10) (up1 (up1 (hI c2 (G 10)) 3 (nv 0)) 9 (nv 0)) := ⟨_, rfl⟩
    rw [← ec3]
    have i3 : ∀ j, hI c3 (G 10) j = up1 (up1 (hI c2 (G 10)) 3 (nv 0)) 9 (nv 0) j := fun j => by rw [ec3, hI_wI, up1_s]
    have k3 : c3.1 = b.1 ∧ c3.2.2 = b.2.2 := by rw [ec3]; exact ⟨tl2.1.1.trans t0.1, tl2.1.2.trans t0.2.1⟩
    have o3 : ∀ q, q ≠ G 10 → q ≠ G 11 → q ≠ G 17 → hI c3 q = hI b q := fun q h1 h2 _ => by rw [ec3, hI_wI, up1_n _ _ h1, tl2.2.1 q h1 h2, t0.2.2.1 q h1]
    have n1110 := n 11 10 (by omega) (by omega) (by omega)
    obtain ⟨ep3, zc3⟩ := tg_ep (G := G) k3 o3
    refine after_h hC hT frb jb (by omega) (by omega) (load_t hG hTb k3 o3 ?_ ?_ ?_ rfl ⟨?_, ?_⟩ ?_ (fun i p hp k hk => ?_) (fun j hj => rfl) ⟨rfl, rfl⟩) ep3 zc3
    · rw [i3, up1_n _ _ (by omega), up1_s]
    · rw [i3, up1_n _ _ (by omega), up1_n _ _ (by omega), tl2.2.2.2 4 (by omega), t0.2.2.2 4 (by omega) (by omega)]; exact hTb.2.2.1
    · rw [i3, up1_s]
    · rw [i3, up1_n _ _ (by omega), up1_n _ _ (by omega)]; exact z10
    · rw [i3, up1_n _ _ (by omega), up1_n _ _ (by omega)]; exact z11
    · rw [i3, up1_n _ _ (by omega), up1_n _ _ (by omega), tl2.2.2.2 20 (by omega), t0.2.2.2 20 (by omega) (by omega)]
    · have h9 := (hC.2.2.1.2.1 i p hp).1
      rw [ec3, hI_wI, up1_n _ _ n1110, tl2.2.2.1 _ (by omega), t0.2.2.1 _ n1110]
      exact hTb.2.2.2.1 i p hp k hk
  · obtain ⟨B', Ln, g1, g2, g3, g4, -, -⟩ := hmq
    have hC2 := hC1.e0 hcs2.1.1
    have zcs := hcs2.2.2.1
    have gl5 := hcs2.2.2.2.1
    have gl5' : gl (sE S (nv 0) (-nv 1)) = gl S := rfl
    simp only [sm_r]
    refine new_c (mq := mq) hC1 hcs2.1.1 g2 g1 g3 amq (hL.ro hm) _ _ fun b jb eab edb zb lb rb mb => ?_
    have hJb := jb.2.1
    have kkb := mk_k mb
    have rrb := mk_r mb
    have iib := (mk_i mb).1.2.1
    have eH : nH R' = m := by unfold nH; rw [hL.2.1.1]; exact nv_cl (by have := hL.2.1.2; omega)
    rw [eH] at iib
    have kq : hK b mq = 2 := by rw [← g3]; exact kkb.1.1
    have rq1 : hR b mq 0 = some (Ln 1) := by rw [← g3]; exact rrb.1.1
    obtain ⟨b2, eb2⟩ : ∃ b2, b2 = hwI b (G 0) (up1 (hI b (G 0)) 1 (nv 0)) := ⟨_, rfl⟩
    simp (disch := omega) only [↓w_bd, ↓w_rt, ↓w_bh, sm_l, sm_r, ↓w_okr, ↓w_nm, ↓w_ite, ↓reduceIte, not_true_eq_false, not_false_eq_true, and_true, true_and, and_self, Option.some.injEq, reduceCtorEq, eq_self, ↓w_rc, ↓w_gI, ↓w_gR, ↓w_aN, ↓w_aI, ↓w_aR, ↓w_aL, ↓w_pI, ↓w_pR, ↓w_sI, ↓w_sR, ↓w_sL, ↓w_nO, ↓w_nA, ↓w_nL, ↓w_ca, ↓w_ca0, ↓w_gS, ↓w_gK, ↓w_dv, ↓w_tw, ↓w_rz, ↓w_no, nv_lit, nv_f, nv_add, nv_mul, nv_sub, nv_le, nv_lt, nv_eq, nv_cl, Nat.reduceMod, Nat.reduceMul, Nat.reduceAdd, Nat.zero_add, Nat.add_zero, Nat.mul_zero, decide_eq_true_eq, nv_inT, hJb, rb, kq, rq1, kkb, iib, okn]
    rw [← eb2]
    have ib : ∀ j, hI b2 (G 0) j = up1 (hI b (G 0)) 1 (nv 0) j := fun j => by rw [eb2, hI_wI, up1_s]
    have epb : EP (Pq G) a b2 := by
      rw [eb2]
      exact ((ep1.mono (fun x h => .inl h)).tr eab).wI (.inl (.inl rfl)) _
    have frb := pq_fr hC epb
    have zb2 : hSz b2 = hSz b ∧ hSl b2 = hSl b := by rw [eb2]; exact ⟨rfl, rfl⟩
    have jE := jb.2.2.2.2.2.2.2.1
    have jb2 : JC G B' (sX (sB (sE S (nv 0) (-nv 1)) (Ln, R')) 0 (gb S)) b2 := by
      refine jb.i0 (S' := sX (sB (sE S (nv 0) (-nv 1)) (Ln, R')) 0 (gb S)) (by rw [eb2]; exact (EP.rf (fun q => q = G 0) b).wI (.inl rfl) _) (by rw [eb2]; exact ⟨rfl, rfl, rfl⟩) ⟨rfl, rfl, rfl⟩ ⟨Nat.zero_le _, by rw [ib, up1_s]; rfl, fun i hi => absurd hi (Nat.not_lt_zero i)⟩ ⟨?_, ?_⟩
      · rw [ib, up1_n _ _ (by omega)]; exact jE.1
      · rw [ib, up1_n _ _ (by omega)]; exact jE.2
    have hTb := frb.t hC.1 hT
    refine load_s hG hTb jb2.2.2.2.2.2.2.2.2.2 l5 hx _ fun c0 c' t0 tl => ?_
    refine tw c0 c' tl.sE _ fun c2 te => ?_
    obtain ⟨⟨hF2, -, ⟨z10, z11⟩, -⟩, hFO, -, tl2⟩ := te
    have i10 : ∀ v, up1 (up1 (hI c2 (G 10)) 3 (nv 0)) 9 v 10 = nv 0 := fun v => by rw [up1_n _ _ (by omega), up1_n _ _ (by omega)]; exact z10
    obtain ⟨c3, ec3⟩ : ∃ c3, c3 = hwI c2 (G 10) (up1 (up1 (hI c2 (G 10)) 3 (nv 0)) 9 (nv 0)) := ⟨_, rfl⟩
    have hF3 : FT G c3 := by rw [ec3]; exact hF2
    have i3 : ∀ j, hI c3 (G 10) j = up1 (up1 (hI c2 (G 10)) 3 (nv 0)) 9 (nv 0) j := fun j => by rw [ec3, hI_wI, up1_s]
    simp (disch := omega) only [X5_load_103, ↓w_bd, ↓w_rt, ↓w_bh, sm_l, sm_r, ↓w_okr, ↓w_nm, ↓w_ite, ↓reduceIte, not_true_eq_false, not_false_eq_true, and_true, true_and, and_self, Option.some.injEq, reduceCtorEq, eq_self, ↓w_rc, ↓w_gI, ↓w_gR, ↓w_aN, ↓w_aI, ↓w_aR, ↓w_aL, ↓w_pI, ↓w_pR, ↓w_sI, ↓w_sR, ↓w_sL, ↓w_nO, ↓w_nA, ↓w_nL, ↓w_ca, ↓w_ca0, ↓w_gS, ↓w_gK, ↓w_dv, ↓w_tw, ↓w_rz, ↓w_no, nv_lit, nv_f, nv_add, nv_mul, nv_sub, nv_le, nv_lt, nv_eq, nv_cl, Nat.reduceMod, Nat.reduceMul, Nat.reduceAdd, Nat.zero_add, Nat.add_zero, Nat.mul_zero, decide_eq_true_eq, nv_inT, hF2, okn, hK_wI, hI_wI, up1_s, hwI_2, i10]
    rw [← ec3]
    simp (disch := omega) only [X5_copies_w hF3, ↓w_bd, ↓w_rt, ↓w_bh, sm_l, sm_r, ↓w_okr, ↓w_nm, ↓w_ite, ↓reduceIte, not_true_eq_false, not_false_eq_true, and_true, true_and, and_self, Option.some.injEq, reduceCtorEq, eq_self, ↓w_rc, ↓w_gI, ↓w_gR, ↓w_aN, ↓w_aI, ↓w_aR, ↓w_aL, ↓w_pI, ↓w_pR, ↓w_sI, ↓w_sR, ↓w_sL, ↓w_nO, ↓w_nA, ↓w_nL, ↓w_ca, ↓w_ca0, ↓w_gS, ↓w_gK, ↓w_dv, ↓w_tw, ↓w_rz, ↓w_no, nv_lit, nv_f, nv_add, nv_mul, nv_sub, nv_le, nv_lt, nv_eq, nv_cl, Nat.reduceMod, Nat.reduceMul, Nat.reduceAdd, Nat.zero_add, Nat.add_zero, Nat.mul_zero, decide_eq_true_eq, nv_inT, show ∀ i j, hK (cpw G c3 i j) = hK c3 from fun _ _ => rfl, hF3, okn]
    have n1110 := n 11 10 (by omega) (by omega) (by omega)
    have n1011 := n 10 11 (by omega) (by omega) (by omega)
    obtain ⟨c5, ec5⟩ : ∃ c5, c5 = hwI (cpw G c3 10 0) (G 10) (up1 (hI (cpw G c3 10 0) (G 10)) 4 (nv 0)) := ⟨_, rfl⟩
    rw [← ec5]
    have i5 : ∀ j, hI c5 (G 10) j = up1 (hI c3 (G 10)) 4 (nv 0) j := fun j => by rw [ec5, hI_wI, up1_s, cpw_o G _ _ _ n1011]
    have r5 : ∀ k, k < 545 → hI c5 (G 11) k = R' k := fun k hk => by
      have := cpw_r G c3 10 0 k hk
      rw [Nat.mul_zero, Nat.zero_add] at this
      rw [ec5, hI_wI, up1_n _ _ n1110, this, ec3, hI_wI, up1_n _ _ n1110]
      exact hFO.2.2.2 k hk
    have k5 : c5.1 = b2.1 ∧ c5.2.2 = b2.2.2 := by rw [ec5, ec3]; exact ⟨tl2.1.1.trans t0.1, tl2.1.2.trans t0.2.1⟩
    have hF5 : FT G c5 := by rw [ec5]; exact hF3
    have fo5 : FO G c5 0 R' := ⟨hF5, by rw [i5, up1_n _ _ (by omega), i3, up1_n _ _ (by omega), up1_s], by omega, fun k hk => by rw [Nat.mul_zero, Nat.zero_add]; exact r5 k hk⟩
    have get1 := fun Q => X5_get_w fo5 (show 1 < 545 by omega) (Q := Q)
    rw [hL.2.1.1] at get1
    simp (disch := omega) only [↓w_bd, ↓w_rt, ↓w_bh, sm_l, sm_r, ↓w_okr, ↓w_nm, ↓w_ite, ↓reduceIte, not_true_eq_false, not_false_eq_true, and_true, true_and, and_self, Option.some.injEq, reduceCtorEq, eq_self, ↓w_rc, ↓w_gI, ↓w_gR, ↓w_aN, ↓w_aI, ↓w_aR, ↓w_aL, ↓w_pI, ↓w_pR, ↓w_sI, ↓w_sR, ↓w_sL, ↓w_nO, ↓w_nA, ↓w_nL, ↓w_ca, ↓w_ca0, ↓w_gS, ↓w_gK, ↓w_dv, ↓w_tw, ↓w_rz, ↓w_no, nv_lit, nv_f, nv_add, nv_mul, nv_sub, nv_le, nv_lt, nv_eq, nv_cl, Nat.reduceMod, Nat.reduceMul, Nat.reduceAdd, Nat.zero_add, Nat.add_zero, Nat.mul_zero, decide_eq_true_eq, nv_inT, hF5, get1]
    have o5 : ∀ q, q ≠ G 10 → q ≠ G 11 → q ≠ G 17 → hI c5 q = hI b2 q := fun q h1 h2 _ => by rw [ec5, hI_wI, up1_n _ _ h1, cpw_o G _ _ _ h2, ec3, hI_wI, up1_n _ _ h1, tl2.2.1 q h1 h2, t0.2.2.1 q h1]
    obtain ⟨ep5, zc5⟩ := tg_ep (G := G) k5 o5
    refine after_h hC hT frb jb2 (by omega) (by omega) (load_t hG hTb k5 o5 ?_ ?_ ?_ rfl ⟨?_, ?_⟩ ?_ (fun i p hp k hk => ?_) (fun j hj => ?_) ⟨rfl, rfl⟩) ep5 zc5
    · rw [i5, up1_n _ _ (by omega), i3, up1_n _ _ (by omega), up1_s]
    · rw [i5, up1_s]; rfl
    · rw [i5, up1_n _ _ (by omega), i3, up1_s]
    · rw [i5, up1_n _ _ (by omega), i3, up1_n _ _ (by omega), up1_n _ _ (by omega)]; exact z10
    · rw [i5, up1_n _ _ (by omega), i3, up1_n _ _ (by omega), up1_n _ _ (by omega)]; exact z11
    · rw [i5, up1_n _ _ (by omega), i3, up1_n _ _ (by omega), up1_n _ _ (by omega), tl2.2.2.2 20 (by omega), t0.2.2.2 20 (by omega) (by omega)]
    · have hp' : (if i = 0 then some (Ln, R') else if 1 ≤ i ∧ i ≤ 6 then none else gm S i) = some p := hp
      by_cases c1 : i = 0
      · rw [if_pos c1] at hp'
        cases hp'
        rw [c1, Nat.mul_zero, Nat.zero_add]
        exact r5 k hk
      · rw [if_neg c1] at hp'
        split at hp'
        · cases hp'
        · have h9 := (hC.2.2.1.2.1 i p hp').1
          rw [ec5, hI_wI, up1_n _ _ n1110, cpw_n G _ _ _ _ (by omega), ec3, hI_wI, up1_n _ _ n1110, tl2.2.2.1 _ (by omega), t0.2.2.1 _ n1110]
          exact hTb.2.2.2.1 i p hp' k hk
    · show (if 7 + j = 0 then some (Ln, R') else if 1 ≤ 7 + j ∧ 7 + j ≤ 6 then none else gm S (7 + j)).isSome = _
      rw [if_neg (by omega), if_neg (by omega)]
