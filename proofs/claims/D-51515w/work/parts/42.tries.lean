/-- rows that are tried: the twin's copy -/
def tr9 (G : Nat → Nat) (a : Hp) : Hp := hwI (cpw G a 0 9) (G 10) (up1 (hI (cpw G a 0 9) (G 10)) 3 (nv 9))
theorem tr9_sy {G : Nat → Nat} (hG : GD G) (a : Hp) : (tr9 G a).1 = a.1 ∧ (tr9 G a).2.2 = a.2.2 ∧ (∀ q j, q ≠ G 10 → ¬ (q = G 11 ∧ 4905 ≤ j) → hI (tr9 G a) q j = hI a q j) ∧ (∀ j, j ≠ 3 → hI (tr9 G a) (G 10) j = hI a (G 10) j) ∧ hI (tr9 G a) (G 10) 3 = nv 9 := by
  have n := hG.ne (show 10 < 22 by omega) (show 11 < 22 by omega) (by omega)
  refine ⟨rfl, rfl, fun q j h1 h2 => ?_, fun j hj => ?_, ?_⟩
  · unfold tr9
    rw [hI_wI, up1_n _ _ h1]
    by_cases c : q = G 11
    · subst c
      exact cpw_n G a 0 9 j (by omega)
    · rw [cpw_o G a 0 9 c]
  · unfold tr9
    rw [hI_wI, up1_s, up1_n _ _ hj, cpw_o G a 0 9 n]
  · unfold tr9
    rw [hI_wI, up1_s, up1_s]
theorem FO.tr9 {G : Nat → Nat} {a : Hp} {R : Nat → Int32} (hG : GD G) (h : FO G a 0 R) : FO G (tr9 G a) 9 R := by
  obtain ⟨h1, h2, h3, h4⟩ := h
  have n := hG.ne (show 11 < 22 by omega) (show 10 < 22 by omega) (by omega)
  refine ⟨h1, (tr9_sy hG a).2.2.2.2, by omega, fun k hk => ?_⟩
  show hI (hwI (cpw G a 0 9) (G 10) _) (G 11) (545 * 9 + k) = R k
  rw [hI_wI, up1_n _ _ n, cpw_r G a 0 9 k hk]
  exact h4 k hk
theorem X5_tries_w {G : Nat → Nat} {a : Hp} {R : Nat → Int32} (hG : GD G) (hF : FO G a 0 R) (Q : Unit → Hp → Prop) : Wp (X5_tries (G 10)) a Q ↔ Q () (tr9 G a) := by
  have hk : hK (cpw G a 0 9) (G 10) = 5 := hF.1.1.1
  simp (disch := omega) only [X5_tries, ↓w_bd, ↓w_rt, ↓w_bh, sm_l, sm_r, ↓w_okr, ↓w_nm, ↓w_ite, ↓reduceIte, not_true_eq_false, not_false_eq_true, and_true, true_and, and_self, Option.some.injEq, reduceCtorEq, eq_self, ↓w_rc, ↓w_gI, ↓w_gR, ↓w_aN, ↓w_aI, ↓w_aR, ↓w_aL, ↓w_pI, ↓w_pR, ↓w_sI, ↓w_sR, ↓w_sL, ↓w_nO, ↓w_nA, ↓w_nL, ↓w_ca, ↓w_ca0, ↓w_gS, ↓w_gK, ↓w_dv, ↓w_tw, ↓w_rz, ↓w_no, nv_lit, nv_f, nv_add, nv_mul, nv_sub, nv_le, nv_lt, nv_eq, nv_cl, Nat.reduceMod, Nat.reduceMul, Nat.reduceAdd, Nat.zero_add, Nat.add_zero, Nat.mul_zero, decide_eq_true_eq, nv_inT, hF.1, X5_copies_w hF.1, hk, show okN 0 (nv 9) = true from rfl]
  rfl
def bk (G : Nat → Nat) (a : Hp) : Hp := hwI a (G 10) (up1 (hI a (G 10)) 3 (nv 0))
theorem X5_isBack_w {G : Nat → Nat} {a : Hp} (hk : hK a (G 10) = 5) (v : Int32) (Q : Int32 → Hp → Prop) : Wp (X5_isBack (G 10) v) a Q ↔ Q v (bk G a) := by
  simp (disch := omega) only [X5_isBack, ↓w_bd, ↓w_rt, ↓w_bh, sm_l, sm_r, ↓w_okr, ↓w_nm, ↓w_ite, ↓reduceIte, not_true_eq_false, not_false_eq_true, and_true, true_and, and_self, Option.some.injEq, reduceCtorEq, eq_self, ↓w_rc, ↓w_gI, ↓w_gR, ↓w_aN, ↓w_aI, ↓w_aR, ↓w_aL, ↓w_pI, ↓w_pR, ↓w_sI, ↓w_sR, ↓w_sL, ↓w_nO, ↓w_nA, ↓w_nL, ↓w_ca, ↓w_ca0, ↓w_gS, ↓w_gK, ↓w_dv, ↓w_tw, ↓w_rz, ↓w_no, nv_lit, nv_f, nv_add, nv_mul, nv_sub, nv_le, nv_lt, nv_eq, nv_cl, Nat.reduceMod, Nat.reduceMul, Nat.reduceAdd, Nat.zero_add, Nat.add_zero, Nat.mul_zero, decide_eq_true_eq, nv_inT, hk, show okN 0 (nv 0) = true from rfl]
  rfl
/-- back again: only scratch and row 9 are spoiled -/
theorem bk_sy {G : Nat → Nat} (hG : GD G) {t b c : Hp} (h3 : hI t (G 10) 3 = nv 0) (hb : b.1 = t.1 ∧ b.2.2 = t.2.2 ∧ ∀ q j, q ≠ G 14 → q ≠ G 15 → q ≠ G 18 → ¬ (q = G 11 ∧ 4905 ≤ j) → ¬ (q = G 10 ∧ j = 3) → hI b q j = hI t q j) (hc : Sx G b c) : Sy G t (bk G c) := by
  refine ⟨hc.1.trans hb.1, hc.2.1.trans hb.2.1, fun q j h1 h2 h4 h5 => ?_⟩
  unfold bk
  by_cases c0 : q = G 10
  · subst c0
    rw [hI_wI, up1_s]
    by_cases d : j = 3
    · rw [d, up1_s, h3]
    · rw [up1_n _ _ d, congrFun (hc.2.2 (G 10) h1 h2 h4) j]
      exact hb.2.2 _ j h1 h2 h4 h5 (fun e => d e.2)
  · rw [hI_wI, up1_n _ _ c0, congrFun (hc.2.2 q h1 h2 h4) j]
    exact hb.2.2 _ j h1 h2 h4 h5 (fun e => c0 e.1)
theorem tr9_b {G : Nat → Nat} (hG : GD G) (t : Hp) : (tr9 G t).1 = t.1 ∧ (tr9 G t).2.2 = t.2.2 ∧ ∀ q j, q ≠ G 14 → q ≠ G 15 → q ≠ G 18 → ¬ (q = G 11 ∧ 4905 ≤ j) → ¬ (q = G 10 ∧ j = 3) → hI (tr9 G t) q j = hI t q j := by
  obtain ⟨h1, h2, h3, h4, h5⟩ := tr9_sy hG t
  refine ⟨h1, h2, fun q j _ _ _ g1 g2 => ?_⟩
  by_cases c : q = G 10
  · subst c
    exact h4 j (fun e => g2 ⟨rfl, e⟩)
  · exact h3 q j c g1
theorem ly_b {G : Nat → Nat} {t b : Hp} (h : b.1 = t.1 ∧ b.2.2 = t.2.2 ∧ ∀ q j, q ≠ G 14 → q ≠ G 15 → q ≠ G 18 → ¬ (q = G 11 ∧ 4905 ≤ j) → ¬ (q = G 10 ∧ j = 3) → hI b q j = hI t q j) (k : Nat) (v : Int32) : (ly G b 9 k v).1 = t.1 ∧ (ly G b 9 k v).2.2 = t.2.2 ∧ ∀ q j, q ≠ G 14 → q ≠ G 15 → q ≠ G 18 → ¬ (q = G 11 ∧ 4905 ≤ j) → ¬ (q = G 10 ∧ j = 3) → hI (ly G b 9 k v) q j = hI t q j := by
  refine ⟨h.1, h.2.1, fun q j g1 g2 g3 g4 g5 => ?_⟩
  show hI (hwI b (G 11) _) q j = _
  by_cases c : q = G 11
  · subst c
    rw [hI_wI, up1_s, up1_n _ _ (by omega)]
    exact h.2.2 _ j g1 g2 g3 g4 g5
  · rw [hI_wI, up1_n _ _ c]
    exact h.2.2 q j g1 g2 g3 g4 g5
/-! a row with one place laid -/
theorem up1_o {α : Type} (f : Nat → α) (k : Nat) (v : α) {j : Nat} (h : j ≠ k) : up1 f k v j = f j := up1_n f v h
theorem sh_up {R : Nat → Int32} (h : Sh R) {k : Nat} (v : Int32) (h0 : k ≠ 0) (h1 : k ≠ 1) (h3 : k ≠ 3) (hr : ∀ x, x < nH R → k ≠ 15 + 7 * x + 1 ∧ k ≠ 15 + 7 * x) (hc : ∀ c, c < nC R → k ≠ 185 + 18 * c ∧ k ≠ 185 + 18 * c + 1 ∧ k ≠ 185 + 18 * c + 2) : Sh (up1 R k v) ∧ nH (up1 R k v) = nH R ∧ nT (up1 R k v) = nT R ∧ nC (up1 R k v) = nC R ∧ (∀ x, x < nH R → nR (up1 R k v) x = nR R x ∧ ow (up1 R k v) x = ow R x) ∧ (∀ c, c < nC R → who (up1 R k v) c = who R c ∧ ∀ s, s < 2 → sd (up1 R k v) c s = sd R c s) := by
  have eH : nH (up1 R k v) = nH R := by unfold nH; rw [up1_o _ _ _ (Ne.symm h1)]
  have eT : nT (up1 R k v) = nT R := by unfold nT; rw [up1_o _ _ _ (Ne.symm h0)]
  have eC : nC (up1 R k v) = nC R := by unfold nC; rw [up1_o _ _ _ (Ne.symm h3)]
  have eR : ∀ x, x < nH R → nR (up1 R k v) x = nR R x ∧ ow (up1 R k v) x = ow R x := by
    intro x hx
    unfold nR ow
    rw [up1_o _ _ _ (Ne.symm (hr x hx).1), up1_o _ _ _ (Ne.symm (hr x hx).2)]
    exact ⟨rfl, rfl⟩
  have eS : ∀ c, c < nC R → who (up1 R k v) c = who R c ∧ ∀ s, s < 2 → sd (up1 R k v) c s = sd R c s := by
    intro c hc2
    obtain ⟨q1, q2, q3⟩ := hc c hc2
    refine ⟨by unfold who; rw [up1_o _ _ _ (Ne.symm q1)], fun s hs => ?_⟩
    unfold sd
    rw [up1_o _ _ _ (show 185 + 18 * c + (1 + s) ≠ k by omega)]
  refine ⟨?_, eH, eT, eC, eR, eS⟩
  obtain ⟨⟨a1, a2, a3⟩, ⟨b1, b2, b3⟩, ⟨c1, c2⟩, d, e⟩ := h
  unfold Sh
  rw [eH, eT, eC]
  refine ⟨⟨by rw [up1_o _ _ _ (Ne.symm h0)]; exact a1, a2, a3⟩, ⟨by rw [up1_o _ _ _ (Ne.symm h1)]; exact b1, b2, b3⟩, ⟨by rw [up1_o _ _ _ (Ne.symm h3)]; exact c1, c2⟩, fun x hx => ?_, fun c hc2 => ?_⟩
  · rw [(eR x hx).1, (eR x hx).2, up1_o _ _ _ (Ne.symm (hr x hx).1), up1_o _ _ _ (Ne.symm (hr x hx).2)]
    exact d x hx
  · obtain ⟨q1, q2, q3⟩ := hc c hc2
    obtain ⟨e1, e2, e3, e4⟩ := e c hc2
    rw [(eS c hc2).1, (eS c hc2).2 0 (by omega), (eS c hc2).2 1 (by omega), up1_o _ _ _ (Ne.symm q1)]
    refine ⟨e1, e2, e3, fun s hs => ?_⟩
    rw [(eS c hc2).2 s hs, up1_o _ _ _ (show 185 + 18 * c + (1 + s) ≠ k by omega)]
    exact e4 s hs
/-! by another eye -/
theorem er_eye {R : Nat → Int32} (hS : Sh R) (v : Int32) : Sh (up1 R 2 v) ∧ er (up1 R 2 v) v = er R v := by
  obtain ⟨q1, q2, q3, q4, q5, q6⟩ := sh_up hS (k := 2) v (by omega) (by omega) (by omega) (fun x _ => ⟨by omega, by omega⟩) (fun c _ => ⟨by omega, by omega, by omega⟩)
  refine ⟨q1, ?_⟩
  have est : ∀ x r, st (up1 R 2 v) x r = st R x r := fun x r => by unfold st; rw [up1_o _ _ _ (by omega)]
  have ez : ∀ x, x < nH R → sz (up1 R 2 v) x = sz R x := fun x hx => by
    unfold sz
    rw [(q5 x hx).1]
    exact su_cg fun r _ => est x r
  have el : ∀ x, x < nH R → lk (up1 R 2 v) v x = lk R v x := fun x hx => by
    unfold lk
    rw [(q5 x hx).1]
    exact su_cg fun r _ => by rw [est]
  unfold er
  rw [q2]
  refine su_cg fun x hx => su_cg fun y hy => ?_
  unfold ws we
  rw [ez x hx, ez y (by omega), el x hx, el y (by omega)]
theorem X5_ifEye_1 {G : Nat → Nat} {a : Hp} {R : Nat → Int32} (hF : FO G a 0 R) (hG : GD G) (hS : Sh R) {v : Int32} (h : inr v 10) (Q : Int32 → Hp → Prop) (hq : ∀ c, Sy G (th G a (nv 0)) c → Q (er R v) c) : Wp (X5_ifEye (G 10) v) a Q := by
  have hF0 := hF.th hG (nv 0)
  have t5 := th_5 G a (nv 0)
  have hb := bw_1' h (by omega) (show 10 = 9 + 1 from rfl)
  have hF9 := hF0.tr9 hG
  have hFl := hF9.ly hG (k := 2) (by omega) v
  obtain ⟨hS2, he⟩ := er_eye hS v
  have e2 : up1 R 2 v 2 = v := up1_s _ _ _
  simp (disch := omega) only [X5_ifEye, ↓w_bd, ↓w_rt, ↓w_bh, sm_l, sm_r, ↓w_okr, ↓w_nm, ↓w_ite, ↓reduceIte, not_true_eq_false, not_false_eq_true, and_true, true_and, and_self, Option.some.injEq, reduceCtorEq, eq_self, ↓w_rc, ↓w_gI, ↓w_gR, ↓w_aN, ↓w_aI, ↓w_aR, ↓w_aL, ↓w_pI, ↓w_pR, ↓w_sI, ↓w_sR, ↓w_sL, ↓w_nO, ↓w_nA, ↓w_nL, ↓w_ca, ↓w_ca0, ↓w_gS, ↓w_gK, ↓w_dv, ↓w_tw, ↓w_rz, ↓w_no, nv_lit, nv_f, nv_add, nv_mul, nv_sub, nv_le, nv_lt, nv_eq, nv_cl, Nat.reduceMod, Nat.reduceMul, Nat.reduceAdd, Nat.zero_add, Nat.add_zero, Nat.mul_zero, decide_eq_true_eq, nv_inT, th_f, th_K, th_N, th_R, th_5, th_2, okn0, Nat.reduceEqDiff, hF.1, hF0.1, X5_in_w, X5_holds_1 hF0.1.1.1 t5 n10, X5_holds_0 hF0.1.1.1 t5, hb, n10, X5_tries_w hG hF0, hF9.1, X5_lay_w hF9, ly_K, X5_allErrors_w hFl hS2, e2, he, X5_isBack_w (a := ly G (tr9 G (th G a (nv 0))) 9 2 v) hF9.1.1.1]
  exact hq _ (bk_sy hG hF0.2.1 (ly_b (tr9_b hG _) 2 v) (Sx.rf _ _))
theorem X5_ifEye_0 {G : Nat → Nat} {a : Hp} {o : Nat} {R : Nat → Int32} (hF : FO G a o R) (hG : GD G) {v : Int32} (h : ¬ inr v 10) (Q : Int32 → Hp → Prop) : Wp (X5_ifEye (G 10) v) a Q ↔ Q (nv 0) (th G a (nv 1)) := by
  have hF0 := hF.th hG (nv 0)
  have t5 := th_5 G a (nv 0)
  have hb := bw_0' h (by omega) (show 10 = 9 + 1 from rfl)
  simp (disch := omega) only [X5_ifEye, ↓w_bd, ↓w_rt, ↓w_bh, sm_l, sm_r, ↓w_okr, ↓w_nm, ↓w_ite, ↓reduceIte, not_true_eq_false, not_false_eq_true, and_true, true_and, and_self, Option.some.injEq, reduceCtorEq, eq_self, ↓w_rc, ↓w_gI, ↓w_gR, ↓w_aN, ↓w_aI, ↓w_aR, ↓w_aL, ↓w_pI, ↓w_pR, ↓w_sI, ↓w_sR, ↓w_sL, ↓w_nO, ↓w_nA, ↓w_nL, ↓w_ca, ↓w_ca0, ↓w_gS, ↓w_gK, ↓w_dv, ↓w_tw, ↓w_rz, ↓w_no, nv_lit, nv_f, nv_add, nv_mul, nv_sub, nv_le, nv_lt, nv_eq, nv_cl, Nat.reduceMod, Nat.reduceMul, Nat.reduceAdd, Nat.zero_add, Nat.add_zero, Nat.mul_zero, decide_eq_true_eq, nv_inT, th_f, th_K, th_N, th_R, th_5, th_2, okn0, Nat.reduceEqDiff, hF.1, hF0.1, X5_in_w, X5_holds_1 hF0.1.1.1 t5 n10, X5_holds_0 hF0.1.1.1 t5, hb]
theorem op_ifEye {G : Nat → Nat} {B : Nat → Nat × Nat} {S : Gst} {a : Hp} (hC : JC G B S a) (hT : JT G S a) (v : Int32) : OpL G a (X0_ifEye (some (G 0)) v (some (G 20))) (X5_ifEye (G 10) v) := by
  obtain ⟨L, R, hM, hR, hX, hF, -⟩ := start hC hT
  have hG := hC.1.gd
  have hJ := hC.2.1
  have hS := hR.1
  have hs : ∀ i, i < 22 → G i < hSz a := fun i hi => (hC.1 i hi).1
  by_cases h : inr v 10
  · simp (disch := omega) only [X0_ifEye, X1_ifEye, OpL, ↓w_bd, ↓w_rt, ↓w_bh, sm_l, sm_r, ↓w_okr, ↓w_nm, ↓w_ite, ↓reduceIte, not_true_eq_false, not_false_eq_true, and_true, true_and, and_self, Option.some.injEq, reduceCtorEq, eq_self, ↓w_rc, ↓w_gI, ↓w_gR, ↓w_aN, ↓w_aI, ↓w_aR, ↓w_aL, ↓w_pI, ↓w_pR, ↓w_sI, ↓w_sR, ↓w_sL, ↓w_nO, ↓w_nA, ↓w_nL, ↓w_ca, ↓w_ca0, ↓w_gS, ↓w_gK, ↓w_dv, ↓w_tw, ↓w_rz, ↓w_no, nv_lit, nv_f, nv_add, nv_mul, nv_sub, nv_le, nv_lt, nv_eq, nv_cl, Nat.reduceMod, Nat.reduceMul, Nat.reduceAdd, Nat.zero_add, Nat.add_zero, Nat.mul_zero, decide_eq_true_eq, nv_inT, mk_k hM, mk_n hM, mk_r hM, mk_i hM, hX, hJ, ol_f, X1_isBetween_w, X1_requireArgument_1 n10, X1_requireArgument_0, X1_requireIndex_1 n10, X1_requireIndex_0, Nat.reduceEqDiff, bw_1' h (by omega) (show 10 = 9 + 1 from rfl), X2_errors_w hM]
    refine X5_ifEye_1 (hF.ol _) hG hS h _ fun c hc => ?_
    exact postY hC hT (E0.rf a) (by omega) (by omega) hc
  · simp (disch := omega) only [X0_ifEye, X1_ifEye, OpL, ↓w_bd, ↓w_rt, ↓w_bh, sm_l, sm_r, ↓w_okr, ↓w_nm, ↓w_ite, ↓reduceIte, not_true_eq_false, not_false_eq_true, and_true, true_and, and_self, Option.some.injEq, reduceCtorEq, eq_self, ↓w_rc, ↓w_gI, ↓w_gR, ↓w_aN, ↓w_aI, ↓w_aR, ↓w_aL, ↓w_pI, ↓w_pR, ↓w_sI, ↓w_sR, ↓w_sL, ↓w_nO, ↓w_nA, ↓w_nL, ↓w_ca, ↓w_ca0, ↓w_gS, ↓w_gK, ↓w_dv, ↓w_tw, ↓w_rz, ↓w_no, nv_lit, nv_f, nv_add, nv_mul, nv_sub, nv_le, nv_lt, nv_eq, nv_cl, Nat.reduceMod, Nat.reduceMul, Nat.reduceAdd, Nat.zero_add, Nat.add_zero, Nat.mul_zero, decide_eq_true_eq, nv_inT, mk_k hM, mk_n hM, mk_r hM, mk_i hM, hX, hJ, ol_f, X1_isBetween_w, X1_requireArgument_1 n10, X1_requireArgument_0, X1_requireIndex_1 n10, X1_requireIndex_0, Nat.reduceEqDiff, bw_0' h (by omega) (show 10 = 9 + 1 from rfl), X5_ifEye_0 (hF.tw hs) hG h]
    exact post_x hC hT (tw_e a) (by rw [tw_z]; omega) (by rw [tw_l]; omega) (by omega) (by omega) _
