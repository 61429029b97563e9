/-! A CLAIM ENDS -/
theorem up1_cm {α : Type} (f : Nat → α) {i j : Nat} (v w : α) (h : i ≠ j) : up1 (up1 f i v) j w = up1 (up1 f j w) i v := by
  funext q
  unfold up1
  by_cases c : q = i
  · by_cases d : q = j
    · omega
    · simp only [c, if_true, if_neg (show ¬ i = j from h)]
  · simp only [c, if_false]
theorem fu3 : ∃ f, FU = f + 1 + 1 + 1 := ⟨FU - 3, by unfold FU; rfl⟩
def ed (R : Nat → Int32) (c : Nat) (v : Int32) : Nat → Int32 := up1 (up1 (up1 R (185 + 18 * c + 6) (lf R c 0)) (185 + 18 * c + 7) (lf R c 1)) (185 + 18 * c + 4) v
theorem ed_o (R : Nat → Int32) {c i : Nat} (v : Int32) (h1 : i ≠ 185 + 18 * c + 4) (h2 : i ≠ 185 + 18 * c + 6) (h3 : i ≠ 185 + 18 * c + 7) : ed R c v i = R i := by
  unfold ed
  rw [up1_o _ _ _ h1, up1_o _ _ _ h3, up1_o _ _ _ h2]
theorem ed_s (R : Nat → Int32) (c : Nat) (v : Int32) : cs (ed R c v) c 4 = v := by
  unfold cs ed
  rw [up1_s]
theorem ed_ss {R : Nat → Int32} (hS : Sh R) {c : Nat} (v : Int32) (hc : c < nC R) : Ss R (ed R c v) := by
  have h10 := sh_H10 hS
  exact ⟨ed_o R v (by omega) (by omega) (by omega), ed_o R v (by omega) (by omega) (by omega), ed_o R v (by omega) (by omega) (by omega), fun x hx => ed_o R v (by omega) (by omega) (by omega), fun d hd j hj => ed_o R v (by omega) (by omega) (by omega)⟩
/-- half done -/
theorem ed_1 {R : Nat → Int32} (hS : Sh R) (hP : Pz R) {c : Nat} (hc : c < nC R) : Sh (up1 R (185 + 18 * c + 6) (lf R c 0)) ∧ Pz (up1 R (185 + 18 * c + 6) (lf R c 0)) ∧ nC (up1 R (185 + 18 * c + 6) (lf R c 0)) = nC R ∧ lf (up1 R (185 + 18 * c + 6) (lf R c 0)) c 1 = lf R c 1 := by
  have h10 := sh_H10 hS
  generalize lf R c 0 = z
  have s1 : Ss R (up1 R (185 + 18 * c + 6) z) := Ss.up hS _ (by omega) (by omega) (by omega) (fun z hz => by omega) (fun z hz => ⟨by omega, by omega, by omega⟩)
  refine ⟨s1.sh hS fun x hx => ⟨ow R x, sh_OT hS hx, by rw [up1_o _ _ _ (by omega)]; exact sh_O hS hx⟩, fun d s r hd hs hr5 hr => ?_, s1.C, ?_⟩
  · rw [s1.C] at hd
    rw [s1.S hd hs, s1.R (sh_SH hS hd hs)] at hr
    have e : cs (up1 R (185 + 18 * c + 6) z) d (8 + 5 * s + r) = cs R d (8 + 5 * s + r) := by
      have : s = 0 ∨ s = 1 := by omega
      rcases this with rfl | rfl <;> exact up1_o _ _ _ (by omega)
    rw [e]
    exact hP d s r hd hs hr5 hr
  · have sh1 := sh_SH hS hc (show 1 < 2 by omega)
    have r5 := sh_R5 hS sh1
    unfold lf
    rw [s1.S hc (show 1 < 2 by omega), s1.R sh1]
    have e4 : cs (up1 R (185 + 18 * c + 6) z) c 4 = cs R c 4 := by unfold cs; rw [up1_o _ _ _ (by omega)]
    have e7 : cs (up1 R (185 + 18 * c + 6) z) c (6 + 1) = cs R c (6 + 1) := by unfold cs; rw [up1_o _ _ _ (by omega)]
    rw [e4, e7]
    have el : su (fun r => li (up1 R (185 + 18 * c + 6) z) c 1 r) (nR R (sd R c 1)) = su (fun r => li R c 1 r) (nR R (sd R c 1)) := by
      refine su_cg fun r hr => ?_
      unfold li
      rw [s1.S hc (show 1 < 2 by omega)]
      unfold st cs
      rw [up1_o _ _ _ (by omega), up1_o _ _ _ (by omega)]
    rw [el]
theorem X2_ends_w {G : Nat → Nat} {B : Nat → Nat × Nat} {a b : Hp} {L : Nat → Nat} {R : Nat → Int32} (h : Cn G B a b L R) (hS : Sh R) (hP : Pz R) {c : Nat} (hc : c < nC R) (v : Int32) (Q : Unit → Hp → Prop)
    (k : ∀ b', Cn G B a b' L (ed R c v) → hSz b' = hSz b → hSl b' = hSl b → Q () b') : Wp (X2_ends (L 0) (some (L (40 + c))) v) b Q := by
  have h10 := sh_H10 hS
  have h20 := sh_C20 hS
  obtain ⟨S1, P1, n1, l1⟩ := ed_1 hS hP hc
  obtain ⟨R1, r1⟩ : ∃ R1, R1 = up1 R (185 + 18 * c + 6) (lf R c 0) := ⟨_, rfl⟩
  have c1 : Cn G B a (hwI b (L (80 + c)) (up1 (hI b (L (80 + c))) 0 (lf R c 0))) L R1 := by
    rw [r1]
    exact h.wI (r := 80 + c) (i := 185 + 18 * c + (6 + 0)) _ (ci_lt R hc (by omega)) (by omega) (by omega) (by omega) (fun z _ => by omega) (by omega)
  rw [← r1] at S1 P1 n1 l1
  have hc1 : c < nC R1 := by rw [n1]; exact hc
  obtain ⟨R2, r2⟩ : ∃ R2, R2 = up1 R1 (185 + 18 * c + 7) (lf R c 1) := ⟨_, rfl⟩
  have c2 : Cn G B a _ L (up1 R1 (185 + 18 * c + 7) (lf R c 1)) := c1.wI (r := 80 + c) (i := 185 + 18 * c + (6 + 1)) (lf R c 1) (ci_lt R1 hc1 (by omega)) (by omega) (by omega) (by omega) (fun z _ => by omega) (by omega)
  rw [← r2] at c2
  have n2 : nC R2 = nC R := by rw [r2]; unfold nC; rw [up1_o _ _ _ (by omega)]; exact n1
  have hc2 : c < nC R2 := by rw [n2]; exact hc
  have c3 := c2.wI v (ci_cl R2 hc2 (j := 7) (i := 4) (by omega)) (by omega) (by omega) (by omega) (fun z _ => by omega) (by omega)
  have hM := h.1
  have hM1 := c1.1
  have hM2 := c2.1
  simp (disch := omega) only [X2_ends, ↓w_bd, ↓w_rt, ↓w_bh, sm_l, sm_r, ↓w_okr, ↓w_nm, ↓w_ite, ↓reduceIte, not_true_eq_false, not_false_eq_true, and_true, true_and, and_self, Option.some.injEq, reduceCtorEq, eq_self, ↓w_rc, ↓w_gI, ↓w_gR, ↓w_aN, ↓w_aI, ↓w_aR, ↓w_aL, ↓w_pI, ↓w_pR, ↓w_sI, ↓w_sR, ↓w_sL, ↓w_nO, ↓w_nA, ↓w_nL, ↓w_ca, ↓w_ca0, ↓w_gS, ↓w_gK, ↓w_dv, ↓w_tw, ↓w_rz, ↓w_no, nv_lit, nv_f, nv_add, nv_mul, nv_sub, nv_le, nv_lt, nv_eq, nv_cl, Nat.reduceMod, Nat.reduceMul, Nat.reduceAdd, Nat.zero_add, Nat.add_zero, Nat.mul_zero, decide_eq_true_eq, nv_inT, mk_k hM, mk_n hM, mk_r hM, mk_i hM, nr41, okn, X2_left_2_w hM hS hP, mk_k hM1, mk_r hM1, mk_n hM1, X2_left_2_w hM1 S1 P1, l1, mk_k hM2, mk_r hM2, mk_n hM2]
  refine k _ ?_ rfl rfl
  unfold ed
  rw [← r1, ← r2]
  exact c3
theorem X5_ends_w {G : Nat → Nat} {a d : Hp} {R R0 : Nat → Int32} (hG : GD G) (hF : FO G a 0 R0) (h : Tn G a d R) (hS : Sh R) (hP : Pz R) {c : Nat} (hc : c < nC R) (v : Int32) (Q : Unit → Hp → Prop)
    (k : ∀ d', Tn G a d' (ed R c v) → Q () d') : Wp (X5_ends (G 10) (nv c) v) d Q := by
  have h20 := sh_C20 hS
  obtain ⟨S1, P1, n1, l1⟩ := ed_1 hS hP hc
  have f0 := h.fo hF
  have t1 := h.lay hG (k := 185 + 18 * c + 6) (by omega) (lf R c 0)
  have f1 := t1.fo hF
  have t2 := t1.lay hG (k := 185 + 18 * c + 7) (by omega) (lf R c 1)
  have f2 := t2.fo hF
  have t3 := t2.lay hG (k := 185 + 18 * c + 4) (by omega) v
  obtain ⟨f, hf⟩ := fu3
  unfold X5_ends
  rw [hf]
  have hc1 : c < nC (up1 R (185 + 18 * c + 6) (lf R c 0)) := by rw [n1]; exact hc
  simp (disch := omega) only [X5_ends_2, ↓w_bd, ↓w_rt, ↓w_bh, sm_l, sm_r, ↓w_okr, ↓w_nm, ↓w_ite, ↓reduceIte, not_true_eq_false, not_false_eq_true, and_true, true_and, and_self, Option.some.injEq, reduceCtorEq, eq_self, ↓w_rc, ↓w_gI, ↓w_gR, ↓w_aN, ↓w_aI, ↓w_aR, ↓w_aL, ↓w_pI, ↓w_pR, ↓w_sI, ↓w_sR, ↓w_sL, ↓w_nO, ↓w_nA, ↓w_nL, ↓w_ca, ↓w_ca0, ↓w_gS, ↓w_gK, ↓w_dv, ↓w_tw, ↓w_rz, ↓w_no, nv_lit, nv_f, nv_add, nv_mul, nv_sub, nv_le, nv_lt, nv_eq, nv_cl, Nat.reduceMod, Nat.reduceMul, Nat.reduceAdd, Nat.zero_add, Nat.add_zero, Nat.mul_zero, decide_eq_true_eq, nv_inT, f0.1, Nat.reduceLeDiff, X5_leftOf_w f0 hS, X5_layClaim_w f0, ly_K, X5_leftOf_w f1 S1, l1, X5_layClaim_w f1, Nat.le_refl, X5_layClaim_w f2]
  exact k _ t3
theorem ed_ro {R : Nat → Int32} (hR : Ro R) {c : Nat} {v : Int32} (hc : c < nC R) (hv : v ≠ 0) : Ro (ed R c v) := by
  have hS := hR.1
  have h10 := sh_H10 hS
  have hT4 := sh_T4 hS
  have lo : ∀ i, i < 185 → ed R c v i = R i := fun i h => ed_o R v (by omega) (by omega) (by omega)
  have ec : ∀ d j, j < 18 → ¬ (d = c ∧ (j = 4 ∨ j = 6 ∨ j = 7)) → cs (ed R c v) d j = cs R d j := fun d j hj h => by
    unfold cs
    exact ed_o R v (by omega) (by omega) (by omega)
  refine ro_gen hR (ed_ss hS v hc) (fun x hx => ?_) (fun k hk => ?_) (fun x y hx hy => lo _ ?_) (fun x y hx hy => .inl ⟨lo _ (by omega), lo _ (by omega)⟩) (fun d s z hd hs hz hnz => ?_) (fun d hd hd4 => ?_)
  · rw [lo _ (by omega)]; exact ro_own hR x hx
  · rw [lo _ (by omega)]; exact hR.2.2.2.2.1 k hk
  · have := sh_R5 hS hx; omega
  · rw [ec d _ (by omega) (by omega)]; exact hR.2.2.1 d s z hd hs hz hnz
  · by_cases e : d = c
    · subst e
      rw [ed_s] at hd4
      exact absurd hd4 hv
    · rw [ec d 4 (by omega) (by omega)] at hd4
      obtain ⟨g1, g2⟩ := hR.2.2.2.2.2 d hd hd4
      refine ⟨fun s z hs hz => ?_, ?_⟩
      · have : z < 5 := by
          have := sh_R5 hS (sh_SH hS hd hs)
          omega
        rw [ec d _ (by omega) (by omega)]
        exact g1 s z hs hz
      · have s0 : su (fun z => cs (ed R c v) d (8 + z)) 5 = su (fun z => cs R d (8 + z)) 5 := su_cg fun z hz => ec d _ (by omega) (by omega)
        have s1 : su (fun z => cs (ed R c v) d (13 + z)) 5 = su (fun z => cs R d (13 + z)) 5 := su_cg fun z hz => ec d _ (by omega) (by omega)
        rw [s0, s1, g2]
theorem act_drop {G : Nat → Nat} {B : Nat → Nat × Nat} {S : Gst} {a : Hp} (hC : JC G B S a) (v : Int32) : Act κi G B S a (X1_drop (G 0) v) (X5_drop (G 10) v) := by
  obtain ⟨L, R, hM, hR, hX, h0⟩ := startC hC
  have hG := hC.1.gd
  have hJ := hC.2.1
  have hS := hR.1
  have hP := hR.2.2.1
  have h10 := sh_H10 hS
  have h20 := sh_C20 hS
  by_cases hv : inr v (nC R)
  · obtain ⟨c, rfl, hc⟩ := inr_k hv
    by_cases h4 : cs R c 4 = nv 0
    · have hR2 := ed_ro hR hc (v := nv 3) (by decide)
      simp (disch := omega) only [X1_drop, ↓w_bd, ↓w_rt, ↓w_bh, sm_l, sm_r, ↓w_okr, ↓w_nm, ↓w_ite, ↓reduceIte, not_true_eq_false, not_false_eq_true, and_true, true_and, and_self, Option.some.injEq, reduceCtorEq, eq_self, ↓w_rc, ↓w_gI, ↓w_gR, ↓w_aN, ↓w_aI, ↓w_aR, ↓w_aL, ↓w_pI, ↓w_pR, ↓w_sI, ↓w_sR, ↓w_sL, ↓w_nO, ↓w_nA, ↓w_nL, ↓w_ca, ↓w_ca0, ↓w_gS, ↓w_gK, ↓w_dv, ↓w_tw, ↓w_rz, ↓w_no, nv_lit, nv_f, nv_add, nv_mul, nv_sub, nv_le, nv_lt, nv_eq, nv_cl, Nat.reduceMod, Nat.reduceMul, Nat.reduceAdd, Nat.zero_add, Nat.add_zero, Nat.mul_zero, decide_eq_true_eq, nv_inT, mk_k hM, mk_n hM, mk_r hM, mk_i hM, hX, hJ, X1_isBetween_w, X1_requireArgument_1 n10, X1_requireArgument_0, X1_requireIndex_1 n10, X1_requireIndex_0, Nat.reduceEqDiff, okn, X1_claimOf_1 hM hX, X8_isOpen_c1 hM hc h4, n10]
      refine keep_c hC (E0.rf a) h0 _ fun d B' L' q1 q2 q3 hMd hXd hCd z l => ?_
      have hJd := q1.2.1
      simp (disch := omega) only [↓w_bd, ↓w_rt, ↓w_bh, sm_l, sm_r, ↓w_okr, ↓w_nm, ↓w_ite, ↓reduceIte, not_true_eq_false, not_false_eq_true, and_true, true_and, and_self, Option.some.injEq, reduceCtorEq, eq_self, ↓w_rc, ↓w_gI, ↓w_gR, ↓w_aN, ↓w_aI, ↓w_aR, ↓w_aL, ↓w_pI, ↓w_pR, ↓w_sI, ↓w_sR, ↓w_sL, ↓w_nO, ↓w_nA, ↓w_nL, ↓w_ca, ↓w_ca0, ↓w_gS, ↓w_gK, ↓w_dv, ↓w_tw, ↓w_rz, ↓w_no, nv_lit, nv_f, nv_add, nv_mul, nv_sub, nv_le, nv_lt, nv_eq, nv_cl, Nat.reduceMod, Nat.reduceMul, Nat.reduceAdd, Nat.zero_add, Nat.add_zero, Nat.mul_zero, decide_eq_true_eq, nv_inT, mk_k hMd, mk_r hMd, mk_n hMd, mk_i hMd, hXd, hJd, okn, X2_drop]
      refine X2_ends_w hCd hS hP hc _ _ fun b hb hz hl => ?_
      have hMb := hb.1
      have hXb := hb.2.2.2.1 hXd
      simp (disch := omega) only [↓w_bd, ↓w_rt, ↓w_bh, sm_l, sm_r, ↓w_okr, ↓w_nm, ↓w_ite, ↓reduceIte, not_true_eq_false, not_false_eq_true, and_true, true_and, and_self, Option.some.injEq, reduceCtorEq, eq_self, ↓w_rc, ↓w_gI, ↓w_gR, ↓w_aN, ↓w_aI, ↓w_aR, ↓w_aL, ↓w_pI, ↓w_pR, ↓w_sI, ↓w_sR, ↓w_sL, ↓w_nO, ↓w_nA, ↓w_nL, ↓w_ca, ↓w_ca0, ↓w_gS, ↓w_gK, ↓w_dv, ↓w_tw, ↓w_rz, ↓w_no, nv_lit, nv_f, nv_add, nv_mul, nv_sub, nv_le, nv_lt, nv_eq, nv_cl, Nat.reduceMod, Nat.reduceMul, Nat.reduceAdd, Nat.zero_add, Nat.add_zero, Nat.mul_zero, decide_eq_true_eq, nv_inT, mk_k hMb, mk_r hMb, hXb, X1_claimsThat_w hMb hXb]
      have hb2 := hb.e0 ((E0.rf b).new 61 0 1 (fun j => if j = 0 then nv 0 else nv 0) (fun _ => none))
      refine ap_now hC h0 q2 q3 q1 hb2 (fun _ _ => rfl) hR2 ?_ ?_ fun c' hc' Q hQ => ?_
      · show hSz b + 1 ≤ _
        omega
      · show hSl b + 1 ≤ _
        omega
      obtain ⟨hF, hF0⟩ := jt_f0 hG hc' h0
      have t5 := th_5 G c' (nv 0)
      simp (disch := omega) only [X5_drop, ↓w_bd, ↓w_rt, ↓w_bh, sm_l, sm_r, ↓w_okr, ↓w_nm, ↓w_ite, ↓reduceIte, not_true_eq_false, not_false_eq_true, and_true, true_and, and_self, Option.some.injEq, reduceCtorEq, eq_self, ↓w_rc, ↓w_gI, ↓w_gR, ↓w_aN, ↓w_aI, ↓w_aR, ↓w_aL, ↓w_pI, ↓w_pR, ↓w_sI, ↓w_sR, ↓w_sL, ↓w_nO, ↓w_nA, ↓w_nL, ↓w_ca, ↓w_ca0, ↓w_gS, ↓w_gK, ↓w_dv, ↓w_tw, ↓w_rz, ↓w_no, nv_lit, nv_f, nv_add, nv_mul, nv_sub, nv_le, nv_lt, nv_eq, nv_cl, Nat.reduceMod, Nat.reduceMul, Nat.reduceAdd, Nat.zero_add, Nat.add_zero, Nat.mul_zero, decide_eq_true_eq, nv_inT, th_f, th_K, th_N, th_R, th_5, th_2, okn0, Nat.reduceEqDiff, hF.1, hF0.1, X5_in_w, X5_holds_1 hF0.1.1.1 t5 n10, X5_holds_0 hF0.1.1.1 t5, n10, X5_isClaim_1 hF0 hS hv, X5_isOpen_1 hF0 (show c < 20 by omega) h4]
      refine keeps_t hC hc' (Sx.rf _ _) h0 L' _ fun d2 k1 k3 k2 hF3 => ?_
      simp (disch := omega) only [↓w_bd, ↓w_rt, ↓w_bh, sm_l, sm_r, ↓w_okr, ↓w_nm, ↓w_ite, ↓reduceIte, not_true_eq_false, not_false_eq_true, and_true, true_and, and_self, Option.some.injEq, reduceCtorEq, eq_self, ↓w_rc, ↓w_gI, ↓w_gR, ↓w_aN, ↓w_aI, ↓w_aR, ↓w_aL, ↓w_pI, ↓w_pR, ↓w_sI, ↓w_sR, ↓w_sL, ↓w_nO, ↓w_nA, ↓w_nL, ↓w_ca, ↓w_ca0, ↓w_gS, ↓w_gK, ↓w_dv, ↓w_tw, ↓w_rz, ↓w_no, nv_lit, nv_f, nv_add, nv_mul, nv_sub, nv_le, nv_lt, nv_eq, nv_cl, Nat.reduceMod, Nat.reduceMul, Nat.reduceAdd, Nat.zero_add, Nat.add_zero, Nat.mul_zero, decide_eq_true_eq, nv_inT, hF3.1]
      refine X5_ends_w hG hF3 (Tn.rf hF3) hS hP hc _ _ fun d3 ht => ?_
      have hF4 := ht.fo hF3
      simp (disch := omega) only [↓w_bd, ↓w_rt, ↓w_bh, sm_l, sm_r, ↓w_okr, ↓w_nm, ↓w_ite, ↓reduceIte, not_true_eq_false, not_false_eq_true, and_true, true_and, and_self, Option.some.injEq, reduceCtorEq, eq_self, ↓w_rc, ↓w_gI, ↓w_gR, ↓w_aN, ↓w_aI, ↓w_aR, ↓w_aL, ↓w_pI, ↓w_pR, ↓w_sI, ↓w_sR, ↓w_sL, ↓w_nO, ↓w_nA, ↓w_nL, ↓w_ca, ↓w_ca0, ↓w_gS, ↓w_gK, ↓w_dv, ↓w_tw, ↓w_rz, ↓w_no, nv_lit, nv_f, nv_add, nv_mul, nv_sub, nv_le, nv_lt, nv_eq, nv_cl, Nat.reduceMod, Nat.reduceMul, Nat.reduceAdd, Nat.zero_add, Nat.add_zero, Nat.mul_zero, decide_eq_true_eq, nv_inT, hF4.1, X5_claimsThat_w hF4 hR2.1]
      exact hQ _ _ k1 k3 k2 ht
    · simp (disch := omega) only [X1_drop, ↓w_bd, ↓w_rt, ↓w_bh, sm_l, sm_r, ↓w_okr, ↓w_nm, ↓w_ite, ↓reduceIte, not_true_eq_false, not_false_eq_true, and_true, true_and, and_self, Option.some.injEq, reduceCtorEq, eq_self, ↓w_rc, ↓w_gI, ↓w_gR, ↓w_aN, ↓w_aI, ↓w_aR, ↓w_aL, ↓w_pI, ↓w_pR, ↓w_sI, ↓w_sR, ↓w_sL, ↓w_nO, ↓w_nA, ↓w_nL, ↓w_ca, ↓w_ca0, ↓w_gS, ↓w_gK, ↓w_dv, ↓w_tw, ↓w_rz, ↓w_no, nv_lit, nv_f, nv_add, nv_mul, nv_sub, nv_le, nv_lt, nv_eq, nv_cl, Nat.reduceMod, Nat.reduceMul, Nat.reduceAdd, Nat.zero_add, Nat.add_zero, Nat.mul_zero, decide_eq_true_eq, nv_inT, mk_k hM, mk_n hM, mk_r hM, mk_i hM, hX, hJ, X1_isBetween_w, X1_requireArgument_1 n10, X1_requireArgument_0, X1_requireIndex_1 n10, X1_requireIndex_0, Nat.reduceEqDiff, okn, X1_claimOf_1 hM hX, X8_isOpen_c0 hM hc h4, X1_refuse_w hC]
      refine ap_ref hC (E0.rf a) (by omega) (by omega) (by omega) fun c' hc' Q hQ => ?_
      obtain ⟨hF, hF0⟩ := jt_f0 hG hc' h0
      have t5 := th_5 G c' (nv 0)
      simp (disch := omega) only [X5_drop, ↓w_bd, ↓w_rt, ↓w_bh, sm_l, sm_r, ↓w_okr, ↓w_nm, ↓w_ite, ↓reduceIte, not_true_eq_false, not_false_eq_true, and_true, true_and, and_self, Option.some.injEq, reduceCtorEq, eq_self, ↓w_rc, ↓w_gI, ↓w_gR, ↓w_aN, ↓w_aI, ↓w_aR, ↓w_aL, ↓w_pI, ↓w_pR, ↓w_sI, ↓w_sR, ↓w_sL, ↓w_nO, ↓w_nA, ↓w_nL, ↓w_ca, ↓w_ca0, ↓w_gS, ↓w_gK, ↓w_dv, ↓w_tw, ↓w_rz, ↓w_no, nv_lit, nv_f, nv_add, nv_mul, nv_sub, nv_le, nv_lt, nv_eq, nv_cl, Nat.reduceMod, Nat.reduceMul, Nat.reduceAdd, Nat.zero_add, Nat.add_zero, Nat.mul_zero, decide_eq_true_eq, nv_inT, th_f, th_K, th_N, th_R, th_5, th_2, okn0, Nat.reduceEqDiff, hF.1, hF0.1, X5_in_w, X5_holds_1 hF0.1.1.1 t5 n10, X5_holds_0 hF0.1.1.1 t5, n10, X5_isClaim_1 hF0 hS hv, X5_isOpen_0 hF0 (show c < 20 by omega) h4]
      exact hQ _ (Sx.rf _ _)
  · simp (disch := omega) only [X1_drop, ↓w_bd, ↓w_rt, ↓w_bh, sm_l, sm_r, ↓w_okr, ↓w_nm, ↓w_ite, ↓reduceIte, not_true_eq_false, not_false_eq_true, and_true, true_and, and_self, Option.some.injEq, reduceCtorEq, eq_self, ↓w_rc, ↓w_gI, ↓w_gR, ↓w_aN, ↓w_aI, ↓w_aR, ↓w_aL, ↓w_pI, ↓w_pR, ↓w_sI, ↓w_sR, ↓w_sL, ↓w_nO, ↓w_nA, ↓w_nL, ↓w_ca, ↓w_ca0, ↓w_gS, ↓w_gK, ↓w_dv, ↓w_tw, ↓w_rz, ↓w_no, nv_lit, nv_f, nv_add, nv_mul, nv_sub, nv_le, nv_lt, nv_eq, nv_cl, Nat.reduceMod, Nat.reduceMul, Nat.reduceAdd, Nat.zero_add, Nat.add_zero, Nat.mul_zero, decide_eq_true_eq, nv_inT, mk_k hM, mk_n hM, mk_r hM, mk_i hM, hX, hJ, X1_isBetween_w, X1_requireArgument_1 n10, X1_requireArgument_0, X1_requireIndex_1 n10, X1_requireIndex_0, Nat.reduceEqDiff, okn, X1_claimOf_0 hM hX hv]
    refine ap_x hC (tw_e a) (by rw [tw_z]; omega) (by rw [tw_l]; omega) (k := 1) rfl (by omega) (by omega) fun c' hc' Q hQ => ?_
    obtain ⟨hF, hF0⟩ := jt_f0 hG hc' h0
    have t5 := th_5 G c' (nv 0)
    simp (disch := omega) only [X5_drop, ↓w_bd, ↓w_rt, ↓w_bh, sm_l, sm_r, ↓w_okr, ↓w_nm, ↓w_ite, ↓reduceIte, not_true_eq_false, not_false_eq_true, and_true, true_and, and_self, Option.some.injEq, reduceCtorEq, eq_self, ↓w_rc, ↓w_gI, ↓w_gR, ↓w_aN, ↓w_aI, ↓w_aR, ↓w_aL, ↓w_pI, ↓w_pR, ↓w_sI, ↓w_sR, ↓w_sL, ↓w_nO, ↓w_nA, ↓w_nL, ↓w_ca, ↓w_ca0, ↓w_gS, ↓w_gK, ↓w_dv, ↓w_tw, ↓w_rz, ↓w_no, nv_lit, nv_f, nv_add, nv_mul, nv_sub, nv_le, nv_lt, nv_eq, nv_cl, Nat.reduceMod, Nat.reduceMul, Nat.reduceAdd, Nat.zero_add, Nat.add_zero, Nat.mul_zero, decide_eq_true_eq, nv_inT, th_f, th_K, th_N, th_R, th_5, th_2, okn0, Nat.reduceEqDiff, hF.1, hF0.1, X5_in_w, X5_holds_1 hF0.1.1.1 t5 n10, X5_holds_0 hF0.1.1.1 t5, X5_isClaim_0 hF0 hS hv]
    exact hQ _
theorem op_drop {G : Nat → Nat} {B : Nat → Nat × Nat} {S : Gst} {a : Hp} (hC : JC G B S a) (hT : JT G S a) (v : Int32) : OpL G a (X0_drop (some (G 0)) v (some (G 20))) (X5_drop (G 10) v) :=
  Act.op (m := fun h => X1_drop h v) hC hT (act_drop hC v) fun _ _ h Q => hd_i h Q
