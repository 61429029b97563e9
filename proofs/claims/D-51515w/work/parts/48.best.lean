/-- rows of facts of the market -/
def Pf (L : Nat → Nat) (q : Nat) : Prop := ∃ k, k < 10 ∧ q = L (10 + k)
theorem pf_k {B : Nat → Nat × Nat} {a : Hp} {L : Nat → Nat} {R : Nat → Int32} (hM : Mk B a L R) : ∀ q, Pf L q → (B q).1 = L 0 + 1 ∧ hK a q < 100 ∧ hK a q ≠ 10 := by
  rintro q ⟨k, hk, rfl⟩
  exact rf_k hM hk hk _ (.inl rfl)
theorem pf_2 {L : Nat → Nat} {x y : Nat} (hx : x < 10) (hy : y < 10) : ∀ q, (q = L (10 + x) ∨ q = L (10 + y)) → Pf L q := by
  rintro q (rfl | rfl)
  · exact ⟨x, hx, rfl⟩
  · exact ⟨y, hy, rfl⟩
/-- what holds, holds behind a step that left the market's row as it was -/
theorem keepJ {P : Nat → Prop} {G : Nat → Nat} {B : Nat → Nat × Nat} {S : Gst} {a b : Hp} {L : Nat → Nat} {R : Nat → Int32} (hC : JC G B S a) (hT : JT G S a) (h0 : gm S 0 = some (L, R)) (hR : Ro R) (g : EP P a b) (hP : ∀ q, P q → (B q).1 = L 0 + 1 ∧ hK a q < 100 ∧ hK a q ≠ 10) (hM : Mk B b L R) : JC G B S b ∧ JT G S b ∧ Kp a b := by
  have h1 := hC.now h0 g hP (fun _ _ => rfl) hM hR
  rw [sN_id h0] at h1
  refine ⟨h1, hT.ep g (fun i hi => (hC.1 i hi).1) (fun q hq ht => ?_), g.kp (fun q hq => (hP q hq).2.1)⟩
  obtain ⟨j, j1, j2, rfl⟩ := ht
  have := (hP _ hq).1
  rw [(hC.1 j (by omega)).2] at this
  simp at this
theorem g0_pf {G : Nat → Nat} {B : Nat → Nat × Nat} {S : Gst} {a : Hp} (hC : JC G B S a) {L : Nat → Nat} {R : Nat → Int32} (hM : Mk B a L R) : ∀ i, i < 22 → ¬ Pf L (G i) := fun i hi h => by
  have := (pf_k hM _ h).1
  rw [(hC.1 i hi).2] at this
  simp at this
theorem X5_ifShown_1 {G : Nat → Nat} {a : Hp} {R : Nat → Int32} (hF : FO G a 0 R) (hG : GD G) (hS : Sh R) (hFs : Fs R) {x y : Nat} (hx : x < nH R) (hy : y < nH R) (hxy : x ≠ y) (Q : Int32 → Hp → Prop) (hq : ∀ c, Sy G (th G a (nv 0)) c → Q (ka (shw R x y)) c) : Wp (X5_ifShown (G 10) (nv x) (nv y)) a Q := by
  have hF0 := hF.th hG (nv 0)
  have t5 := th_5 G a (nv 0)
  have h10 := sh_H10 hS
  simp (disch := omega) only [X5_ifShown, X5_ifShown_26, X5_ifShown_27, X5_ifShown_39, X5_ifShown_49, ↓w_bd, ↓w_rt, ↓w_bh, sm_l, sm_r, ↓w_okr, ↓w_nm, ↓w_ite, ↓reduceIte, not_true_eq_false, not_false_eq_true, and_true, true_and, and_self, Option.some.injEq, reduceCtorEq, eq_self, ↓w_rc, ↓w_gI, ↓w_gR, ↓w_aN, ↓w_aI, ↓w_aR, ↓w_aL, ↓w_pI, ↓w_pR, ↓w_sI, ↓w_sR, ↓w_sL, ↓w_nO, ↓w_nA, ↓w_nL, ↓w_ca, ↓w_ca0, ↓w_gS, ↓w_gK, ↓w_dv, ↓w_tw, ↓w_rz, ↓w_no, nv_lit, nv_f, nv_add, nv_mul, nv_sub, nv_le, nv_lt, nv_eq, nv_cl, Nat.reduceMod, Nat.reduceMul, Nat.reduceAdd, Nat.zero_add, Nat.add_zero, Nat.mul_zero, decide_eq_true_eq, nv_inT, th_f, th_K, th_N, th_R, th_5, th_2, okn0, Nat.reduceEqDiff, hF.1, hF0.1, X5_in_w, X5_holds_1 hF0.1.1.1 t5 n10, X5_holds_0 hF0.1.1.1 t5, X5_isHeap_1 hF0 hS (inr_nv hx (by omega)), X5_isHeap_1 hF0 hS (inr_nv hy (by omega)), n10, hxy]
  exact X5_shown_w hF0 hG hS hFs hx hy hxy _ hq
theorem X5_ifShown_s {G : Nat → Nat} {a : Hp} {R : Nat → Int32} (hF : FO G a 0 R) (hG : GD G) (hS : Sh R) {x : Nat} (hx : x < nH R) (Q : Int32 → Hp → Prop) : Wp (X5_ifShown (G 10) (nv x) (nv x)) a Q ↔ Q (nv 0) (th G a (nv 0)) := by
  have hF0 := hF.th hG (nv 0)
  have t5 := th_5 G a (nv 0)
  have h10 := sh_H10 hS
  simp (disch := omega) only [X5_ifShown, X5_ifShown_26, X5_ifShown_27, X5_ifShown_39, X5_ifShown_49, ↓w_bd, ↓w_rt, ↓w_bh, sm_l, sm_r, ↓w_okr, ↓w_nm, ↓w_ite, ↓reduceIte, not_true_eq_false, not_false_eq_true, and_true, true_and, and_self, Option.some.injEq, reduceCtorEq, eq_self, ↓w_rc, ↓w_gI, ↓w_gR, ↓w_aN, ↓w_aI, ↓w_aR, ↓w_aL, ↓w_pI, ↓w_pR, ↓w_sI, ↓w_sR, ↓w_sL, ↓w_nO, ↓w_nA, ↓w_nL, ↓w_ca, ↓w_ca0, ↓w_gS, ↓w_gK, ↓w_dv, ↓w_tw, ↓w_rz, ↓w_no, nv_lit, nv_f, nv_add, nv_mul, nv_sub, nv_le, nv_lt, nv_eq, nv_cl, Nat.reduceMod, Nat.reduceMul, Nat.reduceAdd, Nat.zero_add, Nat.add_zero, Nat.mul_zero, decide_eq_true_eq, nv_inT, th_f, th_K, th_N, th_R, th_5, th_2, okn0, Nat.reduceEqDiff, hF.1, hF0.1, X5_in_w, X5_holds_1 hF0.1.1.1 t5 n10, X5_holds_0 hF0.1.1.1 t5, X5_isHeap_1 hF0 hS (inr_nv hx (by omega)), n10]
theorem X5_ifShown_0 {G : Nat → Nat} {a : Hp} {o : Nat} {R : Nat → Int32} (hF : FO G a o R) (hG : GD G) (hS : Sh R) {v w : Int32} (h : ¬ (inr v (nH R) ∧ inr w (nH R))) (Q : Int32 → Hp → Prop) : Wp (X5_ifShown (G 10) v w) a Q ↔ Q (nv 0) (th G a (nv 1)) := by
  have hF0 := hF.th hG (nv 0)
  have t5 := th_5 G a (nv 0)
  rcases tw2 hF hS h with ⟨h1, h2⟩ | h1
  · simp (disch := omega) only [X5_ifShown, X5_ifShown_26, X5_ifShown_27, X5_ifShown_39, X5_ifShown_49, ↓w_bd, ↓w_rt, ↓w_bh, sm_l, sm_r, ↓w_okr, ↓w_nm, ↓w_ite, ↓reduceIte, not_true_eq_false, not_false_eq_true, and_true, true_and, and_self, Option.some.injEq, reduceCtorEq, eq_self, ↓w_rc, ↓w_gI, ↓w_gR, ↓w_aN, ↓w_aI, ↓w_aR, ↓w_aL, ↓w_pI, ↓w_pR, ↓w_sI, ↓w_sR, ↓w_sL, ↓w_nO, ↓w_nA, ↓w_nL, ↓w_ca, ↓w_ca0, ↓w_gS, ↓w_gK, ↓w_dv, ↓w_tw, ↓w_rz, ↓w_no, nv_lit, nv_f, nv_add, nv_mul, nv_sub, nv_le, nv_lt, nv_eq, nv_cl, Nat.reduceMod, Nat.reduceMul, Nat.reduceAdd, Nat.zero_add, Nat.add_zero, Nat.mul_zero, decide_eq_true_eq, nv_inT, th_f, th_K, th_N, th_R, th_5, th_2, okn0, Nat.reduceEqDiff, hF.1, hF0.1, X5_in_w, X5_holds_1 hF0.1.1.1 t5 n10, X5_holds_0 hF0.1.1.1 t5, X5_isHeap_1 hF0 hS h1, X5_isHeap_0 hF0 hS h2]
  · simp (disch := omega) only [X5_ifShown, X5_ifShown_26, X5_ifShown_27, X5_ifShown_39, X5_ifShown_49, ↓w_bd, ↓w_rt, ↓w_bh, sm_l, sm_r, ↓w_okr, ↓w_nm, ↓w_ite, ↓reduceIte, not_true_eq_false, not_false_eq_true, and_true, true_and, and_self, Option.some.injEq, reduceCtorEq, eq_self, ↓w_rc, ↓w_gI, ↓w_gR, ↓w_aN, ↓w_aI, ↓w_aR, ↓w_aL, ↓w_pI, ↓w_pR, ↓w_sI, ↓w_sR, ↓w_sL, ↓w_nO, ↓w_nA, ↓w_nL, ↓w_ca, ↓w_ca0, ↓w_gS, ↓w_gK, ↓w_dv, ↓w_tw, ↓w_rz, ↓w_no, nv_lit, nv_f, nv_add, nv_mul, nv_sub, nv_le, nv_lt, nv_eq, nv_cl, Nat.reduceMod, Nat.reduceMul, Nat.reduceAdd, Nat.zero_add, Nat.add_zero, Nat.mul_zero, decide_eq_true_eq, nv_inT, th_f, th_K, th_N, th_R, th_5, th_2, okn0, Nat.reduceEqDiff, hF.1, hF0.1, X5_in_w, X5_holds_1 hF0.1.1.1 t5 n10, X5_holds_0 hF0.1.1.1 t5, X5_isHeap_0 hF0 hS h1]
theorem op_ifShown {G : Nat → Nat} {B : Nat → Nat × Nat} {S : Gst} {a : Hp} (hC : JC G B S a) (hT : JT G S a) (v w : Int32) : OpL G a (X0_ifShown (some (G 0)) v w (some (G 20))) (X5_ifShown (G 10) v w) := by
  obtain ⟨L, R, hM0, hRo, hX0, hF, h0⟩ := start hC hT
  have hG := hC.1.gd
  have hS := hRo.1
  have hFs := hRo.2.1
  have hs : ∀ i, i < 22 → G i < hSz a := fun i hi => (hC.1 i hi).1
  have h10 := sh_H10 hS
  have h2 := sh_H2 hS
  have hX := hX0.ext (va2_e a v w)
  have hM := hM0.ext (va2_e a v w) (fun _ _ => rfl)
  have hC1 := hC.e0 (va2_e a v w)
  have hT1 := hT.e0 (va2_e a v w) hs
  have hJ := hC1.2.1
  by_cases h : inr v (nH R) ∧ inr w (nH R)
  · obtain ⟨x, rfl, hx⟩ := inr_k h.1
    obtain ⟨y, rfl, hy⟩ := inr_k h.2
    by_cases hxy : x = y
    · subst hxy
      simp (disch := omega) only [X0_ifShown, X1_ifShown, X1_ifShown_30, OpL, ↓w_bd, ↓w_rt, ↓w_bh, sm_l, sm_r, ↓w_okr, ↓w_nm, ↓w_ite, ↓reduceIte, not_true_eq_false, not_false_eq_true, and_true, true_and, and_self, Option.some.injEq, reduceCtorEq, eq_self, ↓w_rc, ↓w_gI, ↓w_gR, ↓w_aN, ↓w_aI, ↓w_aR, ↓w_aL, ↓w_pI, ↓w_pR, ↓w_sI, ↓w_sR, ↓w_sL, ↓w_nO, ↓w_nA, ↓w_nL, ↓w_ca, ↓w_ca0, ↓w_gS, ↓w_gK, ↓w_dv, ↓w_tw, ↓w_rz, ↓w_no, nv_lit, nv_f, nv_add, nv_mul, nv_sub, nv_le, nv_lt, nv_eq, nv_cl, Nat.reduceMod, Nat.reduceMul, Nat.reduceAdd, Nat.zero_add, Nat.add_zero, Nat.mul_zero, decide_eq_true_eq, nv_inT, mk_k hM, mk_n hM, mk_r hM, mk_i hM, hX, hJ, ol_f, X1_isBetween_w, X1_requireArgument_1 n10, X1_requireArgument_0, X1_requireIndex_1 n10, X1_requireIndex_0, Nat.reduceEqDiff, hX0, va1_f, va2_f, hK_new, hN_new, hK_wI, hN_wI, up1_s, Nat.reduceLeDiff, Nat.not_lt_zero, X1_requireHeaps_11 hM hX h.1 h.2 (va2_q a _ _), X5_ifShown_s ((hF.e0 (va2_e a _ _) hs).ol _) hG hS hx]
      exact post_0 hC hT (va2_e a (nv x) (nv x)) (by rw [va2_z]; omega) (by rw [va2_l]; omega) _
    · simp (disch := omega) only [X0_ifShown, X1_ifShown, X1_ifShown_30, OpL, ↓w_bd, ↓w_rt, ↓w_bh, sm_l, sm_r, ↓w_okr, ↓w_nm, ↓w_ite, ↓reduceIte, not_true_eq_false, not_false_eq_true, and_true, true_and, and_self, Option.some.injEq, reduceCtorEq, eq_self, ↓w_rc, ↓w_gI, ↓w_gR, ↓w_aN, ↓w_aI, ↓w_aR, ↓w_aL, ↓w_pI, ↓w_pR, ↓w_sI, ↓w_sR, ↓w_sL, ↓w_nO, ↓w_nA, ↓w_nL, ↓w_ca, ↓w_ca0, ↓w_gS, ↓w_gK, ↓w_dv, ↓w_tw, ↓w_rz, ↓w_no, nv_lit, nv_f, nv_add, nv_mul, nv_sub, nv_le, nv_lt, nv_eq, nv_cl, Nat.reduceMod, Nat.reduceMul, Nat.reduceAdd, Nat.zero_add, Nat.add_zero, Nat.mul_zero, decide_eq_true_eq, nv_inT, mk_k hM, mk_n hM, mk_r hM, mk_i hM, hX, hJ, ol_f, X1_isBetween_w, X1_requireArgument_1 n10, X1_requireArgument_0, X1_requireIndex_1 n10, X1_requireIndex_0, Nat.reduceEqDiff, hX0, va1_f, va2_f, hK_new, hN_new, hK_wI, hN_wI, up1_s, Nat.reduceLeDiff, Nat.not_lt_zero, X1_requireHeaps_11 hM hX h.1 h.2 (va2_q a _ _), hxy]
      refine X1_shown_w hM hX hS hFs hx hy hxy _ (fun e => g0_pf hC1 hM 0 (by omega) (pf_2 (show x < 10 by omega) (show y < 10 by omega) _ e)) fun b g hMb hz hl => ?_
      have g := g.mono (pf_2 (show x < 10 by omega) (show y < 10 by omega))
      obtain ⟨hCb, hTb, kb⟩ := keepJ hC1 hT1 h0 hRo g (pf_k hM) hMb
      have hJb := hCb.2.1
      simp (disch := omega) only [↓w_bd, ↓w_rt, ↓w_bh, sm_l, sm_r, ↓w_okr, ↓w_nm, ↓w_ite, ↓reduceIte, not_true_eq_false, not_false_eq_true, and_true, true_and, and_self, Option.some.injEq, reduceCtorEq, eq_self, ↓w_rc, ↓w_gI, ↓w_gR, ↓w_aN, ↓w_aI, ↓w_aR, ↓w_aL, ↓w_pI, ↓w_pR, ↓w_sI, ↓w_sR, ↓w_sL, ↓w_nO, ↓w_nA, ↓w_nL, ↓w_ca, ↓w_ca0, ↓w_gS, ↓w_gK, ↓w_dv, ↓w_tw, ↓w_rz, ↓w_no, nv_lit, nv_f, nv_add, nv_mul, nv_sub, nv_le, nv_lt, nv_eq, nv_cl, Nat.reduceMod, Nat.reduceMul, Nat.reduceAdd, Nat.zero_add, Nat.add_zero, Nat.mul_zero, decide_eq_true_eq, nv_inT, hJb, ol_f]
      refine X5_ifShown_1 ((hTb.fo h0).ol _) hG hS hFs hx hy hxy _ fun c hc => ?_
      have ka2 : Kp a (va2 a (nv x) (nv y)) := ((va2_e a (nv x) (nv y)).ep (fun _ => False)).kp (fun _ h => h.elim)
      rw [va2_z] at hz
      rw [va2_l] at hl
      exact postG hCb hTb (Nat.le_trans (va2_e a (nv x) (nv y)).1 g.1) (ka2.tr (va2_e a (nv x) (nv y)).1 kb) (by omega) (by omega) hc
  · simp (disch := omega) only [X0_ifShown, X1_ifShown, X1_ifShown_30, OpL, ↓w_bd, ↓w_rt, ↓w_bh, sm_l, sm_r, ↓w_okr, ↓w_nm, ↓w_ite, ↓reduceIte, not_true_eq_false, not_false_eq_true, and_true, true_and, and_self, Option.some.injEq, reduceCtorEq, eq_self, ↓w_rc, ↓w_gI, ↓w_gR, ↓w_aN, ↓w_aI, ↓w_aR, ↓w_aL, ↓w_pI, ↓w_pR, ↓w_sI, ↓w_sR, ↓w_sL, ↓w_nO, ↓w_nA, ↓w_nL, ↓w_ca, ↓w_ca0, ↓w_gS, ↓w_gK, ↓w_dv, ↓w_tw, ↓w_rz, ↓w_no, nv_lit, nv_f, nv_add, nv_mul, nv_sub, nv_le, nv_lt, nv_eq, nv_cl, Nat.reduceMod, Nat.reduceMul, Nat.reduceAdd, Nat.zero_add, Nat.add_zero, Nat.mul_zero, decide_eq_true_eq, nv_inT, mk_k hM, mk_n hM, mk_r hM, mk_i hM, hX, hJ, ol_f, X1_isBetween_w, X1_requireArgument_1 n10, X1_requireArgument_0, X1_requireIndex_1 n10, X1_requireIndex_0, Nat.reduceEqDiff, hX0, va1_f, va2_f, hK_new, hN_new, hK_wI, hN_wI, up1_s, Nat.reduceLeDiff, Nat.not_lt_zero, X1_requireHeaps_0 hM hX (by omega) h (va2_q a _ _), X5_ifShown_0 (hF.e0 ((va2_e a v w).tr (tw_e _)) hs) hG hS h]
    exact post_x hC hT ((va2_e a v w).tr (tw_e (va2 a v w))) (by rw [tw_z, va2_z]; omega) (by rw [tw_l, va2_l]; omega) (by omega) (by omega) _
/-! the best proof -/
noncomputable def bps (R : Nat → Int32) (s : Int32 × Int32) (x y : Nat) : Int32 × Int32 := if s.2 < ka (shw R x y) then (nv (10 * x + y), ka (shw R x y)) else s
noncomputable def bpi (R : Nat → Int32) (x : Nat) (s : Int32 × Int32) : Nat → Int32 × Int32
  | 0 => s
  | j + 1 => bps R (bpi R x s j) x (x + 1 + j)
noncomputable def bpo (R : Nat → Int32) : Nat → Int32 × Int32
  | 0 => (-1, ka R)
  | x + 1 => bpi R x (bpo R x) (nH R - (x + 1))
theorem X5_bestProof_w {G : Nat → Nat} {a : Hp} {R : Nat → Int32} (hF : FO G a 0 R) (hG : GD G) (hS : Sh R) (hFs : Fs R) (Q : Int32 → Hp → Prop) (hq : ∀ c, Sy G (th G a (nv 0)) c → Q (bpo R (nH R)).1 c) : Wp (X5_bestProof (G 10)) a Q := by
  have hF0 := hF.th hG (nv 0)
  have h10 := sh_H10 hS
  have foy : ∀ c, Sy G (th G a (nv 0)) c → FO G c 0 R := by
    intro c hc
    have e10 := fun j => hc.2.2 (G 10) j (hG.ne (by omega) (by omega) (by omega)) (hG.ne (by omega) (by omega) (by omega)) (hG.ne (by omega) (by omega) (by omega)) (fun e => hG.ne (by omega) (by omega) (by omega) e.1)
    have e11 := fun j (hj : j < 4905) => hc.2.2 (G 11) j (hG.ne (by omega) (by omega) (by omega)) (hG.ne (by omega) (by omega) (by omega)) (hG.ne (by omega) (by omega) (by omega)) (by omega)
    refine ⟨?_, ?_, by omega, fun k hk => ?_⟩
    · have := hF0.1
      unfold FT at *
      rw [hc.k, hc.n, hc.r]
      exact this
    · rw [e10]; exact hF0.2.1
    · rw [e11 _ (by omega)]; exact hF0.2.2.2 k hk
  have sytr : ∀ {b c : Hp}, Sy G (th G a (nv 0)) b → Sy G b c → Sy G (th G a (nv 0)) c := fun {b c} h g => ⟨g.1.trans h.1, g.2.1.trans h.2.1, fun q j h1 h2 h3 h4 => (g.2.2 q j h1 h2 h3 h4).trans (h.2.2 q j h1 h2 h3 h4)⟩
  have hm : ∀ (k4 : Nat → Int32 → Int32 → Int32 → Mr Int32) (x : Nat) (s : Int32 × Int32), x < nH R → (∀ c, Sy G (th G a (nv 0)) c → Wp (k4 (G 10) (bpi R x s (nH R - (x + 1))).1 (bpi R x s (nH R - (x + 1))).2 (nv (x + 1))) c Q) → ∀ c, Sy G (th G a (nv 0)) c → Wp (X5_bestProof_28 k4 FU (G 10) s.1 s.2 (nv x) (nv (x + 1))) c Q := by
    intro k4 x s hx hk
    have l : ∀ (f j : Nat), j ≤ nH R - (x + 1) → nH R - (x + 1) - j < f → ∀ c, Sy G (th G a (nv 0)) c → Wp (X5_bestProof_28 k4 f (G 10) (bpi R x s j).1 (bpi R x s j).2 (nv x) (nv (x + 1 + j))) c Q := by
      refine loopUp _ (nH R - (x + 1)) ?_ ?_
      · intro f c hc
        have hFc := foy c hc
        rw [show x + 1 + (nH R - (x + 1)) = nH R by omega]
        simp (disch := omega) only [X5_bestProof_28, ↓w_bd, ↓w_rt, ↓w_bh, sm_l, sm_r, ↓w_okr, ↓w_nm, ↓w_ite, ↓reduceIte, not_true_eq_false, not_false_eq_true, and_true, true_and, and_self, Option.some.injEq, reduceCtorEq, eq_self, ↓w_rc, ↓w_gI, ↓w_gR, ↓w_aN, ↓w_aI, ↓w_aR, ↓w_aL, ↓w_pI, ↓w_pR, ↓w_sI, ↓w_sR, ↓w_sL, ↓w_nO, ↓w_nA, ↓w_nL, ↓w_ca, ↓w_ca0, ↓w_gS, ↓w_gK, ↓w_dv, ↓w_tw, ↓w_rz, ↓w_no, nv_lit, nv_f, nv_add, nv_mul, nv_sub, nv_le, nv_lt, nv_eq, nv_cl, Nat.reduceMod, Nat.reduceMul, Nat.reduceAdd, Nat.zero_add, Nat.add_zero, Nat.mul_zero, decide_eq_true_eq, nv_inT, hFc.1, X5_get_w hFc, sh_H hS, Nat.le_refl]
        exact hk c hc
      · intro f j hj ih c hc
        have hFc := foy c hc
        simp (disch := omega) only [X5_bestProof_28, X5_bestProof_67, ↓w_bd, ↓w_rt, ↓w_bh, sm_l, sm_r, ↓w_okr, ↓w_nm, ↓w_ite, ↓reduceIte, not_true_eq_false, not_false_eq_true, and_true, true_and, and_self, Option.some.injEq, reduceCtorEq, eq_self, ↓w_rc, ↓w_gI, ↓w_gR, ↓w_aN, ↓w_aI, ↓w_aR, ↓w_aL, ↓w_pI, ↓w_pR, ↓w_sI, ↓w_sR, ↓w_sL, ↓w_nO, ↓w_nA, ↓w_nL, ↓w_ca, ↓w_ca0, ↓w_gS, ↓w_gK, ↓w_dv, ↓w_tw, ↓w_rz, ↓w_no, nv_lit, nv_f, nv_add, nv_mul, nv_sub, nv_le, nv_lt, nv_eq, nv_cl, Nat.reduceMod, Nat.reduceMul, Nat.reduceAdd, Nat.zero_add, Nat.add_zero, Nat.mul_zero, decide_eq_true_eq, nv_inT, hFc.1, X5_get_w hFc, sh_H hS, show ¬ nH R ≤ x + 1 + j by omega]
        refine X5_shown_w hFc hG hS hFs hx (by omega) (by omega) _ fun d hd => ?_
        have := ih d (sytr hc hd)
        rw [bpi, bps] at this
        split
        · rename_i g
          rw [if_pos g] at this
          exact this
        · rename_i g
          rw [if_neg g] at this
          exact this
    exact l FU 0 (by omega) (by unfold FU; omega)
  have l : ∀ (f x : Nat), x ≤ nH R → nH R - x < f → ∀ c, Sy G (th G a (nv 0)) c → Wp (X5_bestProof_14 f (G 10) (bpo R x).1 (bpo R x).2 (nv x)) c Q := by
    refine loopUp _ (nH R) ?_ ?_
    · intro f c hc
      have hFc := foy c hc
      simp (disch := omega) only [X5_bestProof_14, ↓w_bd, ↓w_rt, ↓w_bh, sm_l, sm_r, ↓w_okr, ↓w_nm, ↓w_ite, ↓reduceIte, not_true_eq_false, not_false_eq_true, and_true, true_and, and_self, Option.some.injEq, reduceCtorEq, eq_self, ↓w_rc, ↓w_gI, ↓w_gR, ↓w_aN, ↓w_aI, ↓w_aR, ↓w_aL, ↓w_pI, ↓w_pR, ↓w_sI, ↓w_sR, ↓w_sL, ↓w_nO, ↓w_nA, ↓w_nL, ↓w_ca, ↓w_ca0, ↓w_gS, ↓w_gK, ↓w_dv, ↓w_tw, ↓w_rz, ↓w_no, nv_lit, nv_f, nv_add, nv_mul, nv_sub, nv_le, nv_lt, nv_eq, nv_cl, Nat.reduceMod, Nat.reduceMul, Nat.reduceAdd, Nat.zero_add, Nat.add_zero, Nat.mul_zero, decide_eq_true_eq, nv_inT, hFc.1, X5_get_w hFc, sh_H hS, Nat.le_refl]
      exact hq c hc
    · intro f x hx ih c hc
      have hFc := foy c hc
      simp (disch := omega) only [X5_bestProof_14, ↓w_bd, ↓w_rt, ↓w_bh, sm_l, sm_r, ↓w_okr, ↓w_nm, ↓w_ite, ↓reduceIte, not_true_eq_false, not_false_eq_true, and_true, true_and, and_self, Option.some.injEq, reduceCtorEq, eq_self, ↓w_rc, ↓w_gI, ↓w_gR, ↓w_aN, ↓w_aI, ↓w_aR, ↓w_aL, ↓w_pI, ↓w_pR, ↓w_sI, ↓w_sR, ↓w_sL, ↓w_nO, ↓w_nA, ↓w_nL, ↓w_ca, ↓w_ca0, ↓w_gS, ↓w_gK, ↓w_dv, ↓w_tw, ↓w_rz, ↓w_no, nv_lit, nv_f, nv_add, nv_mul, nv_sub, nv_le, nv_lt, nv_eq, nv_cl, Nat.reduceMod, Nat.reduceMul, Nat.reduceAdd, Nat.zero_add, Nat.add_zero, Nat.mul_zero, decide_eq_true_eq, nv_inT, hFc.1, X5_get_w hFc, sh_H hS, Nat.not_le.mpr hx]
      exact hm _ x _ hx ih c hc
  simp (disch := omega) only [X5_bestProof, ↓w_bd, ↓w_rt, ↓w_bh, sm_l, sm_r, ↓w_okr, ↓w_nm, ↓w_ite, ↓reduceIte, not_true_eq_false, not_false_eq_true, and_true, true_and, and_self, Option.some.injEq, reduceCtorEq, eq_self, ↓w_rc, ↓w_gI, ↓w_gR, ↓w_aN, ↓w_aI, ↓w_aR, ↓w_aL, ↓w_pI, ↓w_pR, ↓w_sI, ↓w_sR, ↓w_sL, ↓w_nO, ↓w_nA, ↓w_nL, ↓w_ca, ↓w_ca0, ↓w_gS, ↓w_gK, ↓w_dv, ↓w_tw, ↓w_rz, ↓w_no, nv_lit, nv_f, nv_add, nv_mul, nv_sub, nv_le, nv_lt, nv_eq, nv_cl, Nat.reduceMod, Nat.reduceMul, Nat.reduceAdd, Nat.zero_add, Nat.add_zero, Nat.mul_zero, decide_eq_true_eq, nv_inT, th_f, okn0, hF.1, hF0.1]
  refine X5_allKnown_w hF0 hG hS hFs _ fun b hb => ?_
  exact l FU 0 (by omega) (by unfold FU; omega) b hb.sy
theorem X1_bestProof_w {B : Nat → Nat × Nat} {a : Hp} {L : Nat → Nat} {R : Nat → Int32} (hM : Mk B a L R) {G : Nat → Nat} (hX : FX G a L) (hG0 : ¬ Pf L (G 0)) (hS : Sh R) (hF : Fs R) (Q : Int32 → Hp → Prop)
    (hq : ∀ b, EP (Pf L) a b → Mk B b L R → hSz b ≤ hSz a + 3000 → hSl b ≤ hSl a + 30000 → Q (bpo R (nH R)).1 b) : Wp (X1_bestProof (G 0)) a Q := by
  have h10 := sh_H10 hS
  have hmul := Nat.mul_le_mul h10 h10
  have fxe : ∀ b, EP (Pf L) a b → FX G b L := by
    intro b hb
    have := hb.2.2 (G 0) hX.2.2 hG0
    exact ⟨by rw [this.1]; exact hX.1, by rw [this.2.2.1]; exact hX.2.1, Nat.lt_of_lt_of_le hX.2.2 hb.1⟩
  have hm : ∀ (k4 : Nat → Int32 → Int32 → Int32 → Mr Int32) (x : Nat) (s : Int32 × Int32), x < nH R → (∀ b, EP (Pf L) a b → Mk B b L R → hSz b ≤ hSz a + 20 + 200 * (x + 1) → hSl b ≤ hSl a + 200 + 2000 * (x + 1) → Wp (k4 (G 0) (bpi R x s (nH R - (x + 1))).1 (bpi R x s (nH R - (x + 1))).2 (nv (x + 1))) b Q) → ∀ b, EP (Pf L) a b → Mk B b L R → hSz b ≤ hSz a + 20 + 200 * x → hSl b ≤ hSl a + 200 + 2000 * x → Wp (X1_bestProof_34 k4 FU (G 0) s.1 s.2 (nv x) (nv (x + 1))) b Q := by
    intro k4 x s hx hk
    have l : ∀ (f j : Nat), j ≤ nH R - (x + 1) → nH R - (x + 1) - j < f → ∀ b, EP (Pf L) a b → Mk B b L R → hSz b ≤ hSz a + 20 + 200 * x + 20 * j → hSl b ≤ hSl a + 200 + 2000 * x + 200 * j → Wp (X1_bestProof_34 k4 f (G 0) (bpi R x s j).1 (bpi R x s j).2 (nv x) (nv (x + 1 + j))) b Q := by
      refine loopUp _ (nH R - (x + 1)) ?_ ?_
      · intro f b hb hMb hz hl
        have hXb := fxe b hb
        rw [show x + 1 + (nH R - (x + 1)) = nH R by omega]
        simp (disch := omega) only [X1_bestProof_34, ↓w_bd, ↓w_rt, ↓w_bh, sm_l, sm_r, ↓w_okr, ↓w_nm, ↓w_ite, ↓reduceIte, not_true_eq_false, not_false_eq_true, and_true, true_and, and_self, Option.some.injEq, reduceCtorEq, eq_self, ↓w_rc, ↓w_gI, ↓w_gR, ↓w_aN, ↓w_aI, ↓w_aR, ↓w_aL, ↓w_pI, ↓w_pR, ↓w_sI, ↓w_sR, ↓w_sL, ↓w_nO, ↓w_nA, ↓w_nL, ↓w_ca, ↓w_ca0, ↓w_gS, ↓w_gK, ↓w_dv, ↓w_tw, ↓w_rz, ↓w_no, nv_lit, nv_f, nv_add, nv_mul, nv_sub, nv_le, nv_lt, nv_eq, nv_cl, Nat.reduceMod, Nat.reduceMul, Nat.reduceAdd, Nat.zero_add, Nat.add_zero, Nat.mul_zero, decide_eq_true_eq, nv_inT, mk_k hMb, mk_r hMb, mk_i hMb, hXb, Nat.le_refl]
        exact hk b hb hMb (by omega) (by omega)
      · intro f j hj ih b hb hMb hz hl
        have hXb := fxe b hb
        simp (disch := omega) only [X1_bestProof_34, X1_bestProof_78, ↓w_bd, ↓w_rt, ↓w_bh, sm_l, sm_r, ↓w_okr, ↓w_nm, ↓w_ite, ↓reduceIte, not_true_eq_false, not_false_eq_true, and_true, true_and, and_self, Option.some.injEq, reduceCtorEq, eq_self, ↓w_rc, ↓w_gI, ↓w_gR, ↓w_aN, ↓w_aI, ↓w_aR, ↓w_aL, ↓w_pI, ↓w_pR, ↓w_sI, ↓w_sR, ↓w_sL, ↓w_nO, ↓w_nA, ↓w_nL, ↓w_ca, ↓w_ca0, ↓w_gS, ↓w_gK, ↓w_dv, ↓w_tw, ↓w_rz, ↓w_no, nv_lit, nv_f, nv_add, nv_mul, nv_sub, nv_le, nv_lt, nv_eq, nv_cl, Nat.reduceMod, Nat.reduceMul, Nat.reduceAdd, Nat.zero_add, Nat.add_zero, Nat.mul_zero, decide_eq_true_eq, nv_inT, mk_k hMb, mk_r hMb, mk_i hMb, hXb, show ¬ nH R ≤ x + 1 + j by omega]
        refine X1_shown_w hMb hXb hS hF hx (show x + 1 + j < nH R by omega) (by omega) _ (fun e => hG0 (pf_2 (show x < 10 by omega) (show x + 1 + j < 10 by omega) _ e)) fun d g hMd hzd hld => ?_
        have g := g.mono (pf_2 (show x < 10 by omega) (show x + 1 + j < 10 by omega))
        have := ih d (hb.tr g) hMd (by omega) (by omega)
        rw [bpi, bps] at this
        split
        · rename_i g
          rw [if_pos g] at this
          exact this
        · rename_i g
          rw [if_neg g] at this
          exact this
    exact fun b hb hMb hz hl => l FU 0 (by omega) (by unfold FU; omega) b hb hMb (by omega) (by omega)
  have l : ∀ (f x : Nat), x ≤ nH R → nH R - x < f → ∀ b, EP (Pf L) a b → Mk B b L R → hSz b ≤ hSz a + 20 + 200 * x → hSl b ≤ hSl a + 200 + 2000 * x → Wp (X1_bestProof_15 f (G 0) (bpo R x).1 (bpo R x).2 (nv x)) b Q := by
    refine loopUp _ (nH R) ?_ ?_
    · intro f b hb hMb hz hl
      have hXb := fxe b hb
      simp (disch := omega) only [X1_bestProof_15, ↓w_bd, ↓w_rt, ↓w_bh, sm_l, sm_r, ↓w_okr, ↓w_nm, ↓w_ite, ↓reduceIte, not_true_eq_false, not_false_eq_true, and_true, true_and, and_self, Option.some.injEq, reduceCtorEq, eq_self, ↓w_rc, ↓w_gI, ↓w_gR, ↓w_aN, ↓w_aI, ↓w_aR, ↓w_aL, ↓w_pI, ↓w_pR, ↓w_sI, ↓w_sR, ↓w_sL, ↓w_nO, ↓w_nA, ↓w_nL, ↓w_ca, ↓w_ca0, ↓w_gS, ↓w_gK, ↓w_dv, ↓w_tw, ↓w_rz, ↓w_no, nv_lit, nv_f, nv_add, nv_mul, nv_sub, nv_le, nv_lt, nv_eq, nv_cl, Nat.reduceMod, Nat.reduceMul, Nat.reduceAdd, Nat.zero_add, Nat.add_zero, Nat.mul_zero, decide_eq_true_eq, nv_inT, mk_k hMb, mk_r hMb, mk_i hMb, hXb, Nat.le_refl]
      exact hq b hb hMb (by omega) (by omega)
    · intro f x hx ih b hb hMb hz hl
      have hXb := fxe b hb
      simp (disch := omega) only [X1_bestProof_15, ↓w_bd, ↓w_rt, ↓w_bh, sm_l, sm_r, ↓w_okr, ↓w_nm, ↓w_ite, ↓reduceIte, not_true_eq_false, not_false_eq_true, and_true, true_and, and_self, Option.some.injEq, reduceCtorEq, eq_self, ↓w_rc, ↓w_gI, ↓w_gR, ↓w_aN, ↓w_aI, ↓w_aR, ↓w_aL, ↓w_pI, ↓w_pR, ↓w_sI, ↓w_sR, ↓w_sL, ↓w_nO, ↓w_nA, ↓w_nL, ↓w_ca, ↓w_ca0, ↓w_gS, ↓w_gK, ↓w_dv, ↓w_tw, ↓w_rz, ↓w_no, nv_lit, nv_f, nv_add, nv_mul, nv_sub, nv_le, nv_lt, nv_eq, nv_cl, Nat.reduceMod, Nat.reduceMul, Nat.reduceAdd, Nat.zero_add, Nat.add_zero, Nat.mul_zero, decide_eq_true_eq, nv_inT, mk_k hMb, mk_r hMb, mk_i hMb, hXb, Nat.not_le.mpr hx]
      exact hm _ x _ hx ih b hb hMb hz hl
  simp (disch := omega) only [X1_bestProof, ↓w_bd, ↓w_rt, ↓w_bh, sm_l, sm_r, ↓w_okr, ↓w_nm, ↓w_ite, ↓reduceIte, not_true_eq_false, not_false_eq_true, and_true, true_and, and_self, Option.some.injEq, reduceCtorEq, eq_self, ↓w_rc, ↓w_gI, ↓w_gR, ↓w_aN, ↓w_aI, ↓w_aR, ↓w_aL, ↓w_pI, ↓w_pR, ↓w_sI, ↓w_sR, ↓w_sL, ↓w_nO, ↓w_nA, ↓w_nL, ↓w_ca, ↓w_ca0, ↓w_gS, ↓w_gK, ↓w_dv, ↓w_tw, ↓w_rz, ↓w_no, nv_lit, nv_f, nv_add, nv_mul, nv_sub, nv_le, nv_lt, nv_eq, nv_cl, Nat.reduceMod, Nat.reduceMul, Nat.reduceAdd, Nat.zero_add, Nat.add_zero, Nat.mul_zero, decide_eq_true_eq, nv_inT, mk_k hM, mk_n hM, mk_r hM, mk_i hM, hX]
  refine X2_ways_w hM hF _ fun b D hD hW => ?_
  have hMb := hM.ext (B' := B) hW.1 (fun _ _ => rfl)
  simp (disch := omega) only [↓w_bd, ↓w_rt, ↓w_bh, sm_l, sm_r, ↓w_okr, ↓w_nm, ↓w_ite, ↓reduceIte, not_true_eq_false, not_false_eq_true, and_true, true_and, and_self, Option.some.injEq, reduceCtorEq, eq_self, ↓w_rc, ↓w_gI, ↓w_gR, ↓w_aN, ↓w_aI, ↓w_aR, ↓w_aL, ↓w_pI, ↓w_pR, ↓w_sI, ↓w_sR, ↓w_sL, ↓w_nO, ↓w_nA, ↓w_nL, ↓w_ca, ↓w_ca0, ↓w_gS, ↓w_gK, ↓w_dv, ↓w_tw, ↓w_rz, ↓w_no, nv_lit, nv_f, nv_add, nv_mul, nv_sub, nv_le, nv_lt, nv_eq, nv_cl, Nat.reduceMod, Nat.reduceMul, Nat.reduceAdd, Nat.zero_add, Nat.add_zero, Nat.mul_zero, decide_eq_true_eq, nv_inT, hW.2.2.2.r, X9_knownPairs_w hF h10 hD hW.2.2.2]
  exact l FU 0 (by omega) (by unfold FU; omega) b (hW.1.ep _) hMb (by rw [hW.2.1]; omega) (by rw [hW.2.2.1]; omega)
theorem op_bestProof {G : Nat → Nat} {B : Nat → Nat × Nat} {S : Gst} {a : Hp} (hC : JC G B S a) (hT : JT G S a) : OpE G a (X1_bestProof (G 0)) (X5_bestProof (G 10)) := by
  obtain ⟨L, R, hM, hRo, hX, hF, h0⟩ := start hC hT
  have hG := hC.1.gd
  have hS := hRo.1
  have hFs := hRo.2.1
  refine X1_bestProof_w hM hX (g0_pf hC hM 0 (by omega)) hS hFs _ fun b g hMb hz hl => ?_
  obtain ⟨hCb, hTb, kb⟩ := keepJ hC hT h0 hRo g (pf_k hM) hMb
  refine X5_bestProof_w (hTb.fo h0) hG hS hFs _ fun c hc => ⟨rfl, ?_⟩
  exact afterG hCb hTb g.1 kb (by omega) (by omega) (.inl rfl) hc
