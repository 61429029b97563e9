/-! A PAIR MADE -/
def pr (R : Nat → Int32) (c r q : Nat) : Nat → Int32 := up1 (up1 (up1 (up1 R (185 + 18 * c + (8 + r)) (R (185 + 18 * c + (8 + r)) + nv 1)) (185 + 18 * c + (13 + q)) (R (185 + 18 * c + (13 + q)) + nv 1)) (185 + 18 * c + 5) (R (185 + 18 * c + 5) + nv 1)) (4 + 0) (R 4 + nv 1)
theorem pr_o (R : Nat → Int32) {c r q i : Nat} (h1 : i ≠ 185 + 18 * c + (8 + r)) (h2 : i ≠ 185 + 18 * c + (13 + q)) (h3 : i ≠ 185 + 18 * c + 5) (h4 : i ≠ 4) : pr R c r q i = R i := by
  unfold pr
  rw [up1_o _ _ _ h4, up1_o _ _ _ h3, up1_o _ _ _ h2, up1_o _ _ _ h1]
theorem pr_0 (R : Nat → Int32) {c r q : Nat} (hr : r < 5) (hq : q < 5) : pr R c r q (185 + 18 * c + (8 + r)) = R (185 + 18 * c + (8 + r)) + nv 1 := by
  unfold pr
  rw [up1_o _ _ _ (by omega), up1_o _ _ _ (by omega), up1_o _ _ _ (by omega), up1_s]
theorem pr_1 (R : Nat → Int32) {c r q : Nat} (hr : r < 5) (hq : q < 5) : pr R c r q (185 + 18 * c + (13 + q)) = R (185 + 18 * c + (13 + q)) + nv 1 := by
  unfold pr
  rw [up1_o _ _ _ (by omega), up1_o _ _ _ (by omega), up1_s]
theorem pr_ss {R : Nat → Int32} (hS : Sh R) {c r q : Nat} (hc : c < nC R) (hr : r < 5) (hq : q < 5) : Ss R (pr R c r q) := by
  have h10 := sh_H10 hS
  exact ⟨pr_o R (by omega) (by omega) (by omega) (by omega), pr_o R (by omega) (by omega) (by omega) (by omega), pr_o R (by omega) (by omega) (by omega) (by omega), fun x hx => pr_o R (by omega) (by omega) (by omega) (by omega), fun d hd j hj => pr_o R (by omega) (by omega) (by omega) (by omega)⟩
theorem X2_pairs_w {G : Nat → Nat} {B : Nat → Nat × Nat} {a b : Hp} {L : Nat → Nat} {R : Nat → Int32} (h : Cn G B a b L R) (hS : Sh R) {c r q : Nat} (hc : c < nC R) (hr : r < 5) (hq : q < 5) (Q : Unit → Hp → Prop)
    (k : ∀ b', Cn G B a b' L (pr R c r q) → hSz b' = hSz b → hSl b' = hSl b → Q () b') : Wp (X2_pairs (L 0) (some (L (40 + c))) (nv r) (nv q)) b Q := by
  have h10 := sh_H10 hS
  have h20 := sh_C20 hS
  obtain ⟨R1, r1⟩ : ∃ R1, R1 = up1 R (185 + 18 * c + (8 + r)) (R (185 + 18 * c + (8 + r)) + nv 1) := ⟨_, rfl⟩
  have c1 : Cn G B a (hwI b (L (100 + 2 * c)) (up1 (hI b (L (100 + 2 * c))) r (R (185 + 18 * c + (8 + r)) + nv 1))) L R1 := by
    rw [r1]
    exact h.wI (r := 100 + 2 * c + 0) (i := 185 + 18 * c + (8 + 5 * 0 + r)) _ (ci_pa R hc (by omega) hr) (by omega) (by omega) (by omega) (fun z _ => by omega) (by omega)
  have n1 : nC R1 = nC R := by rw [r1]; unfold nC; rw [up1_o _ _ _ (by omega)]
  have hc1 : c < nC R1 := by rw [n1]; exact hc
  obtain ⟨R2, r2⟩ : ∃ R2, R2 = up1 R1 (185 + 18 * c + (13 + q)) (R (185 + 18 * c + (13 + q)) + nv 1) := ⟨_, rfl⟩
  have c2 : Cn G B a _ L (up1 R1 (185 + 18 * c + (13 + q)) (R (185 + 18 * c + (13 + q)) + nv 1)) := c1.wI (r := 100 + 2 * c + 1) (i := 185 + 18 * c + (8 + 5 * 1 + q)) (R (185 + 18 * c + (13 + q)) + nv 1) (ci_pa R1 hc1 (by omega) hq) (by omega) (by omega) (by omega) (fun z _ => by omega) (by omega)
  rw [← r2] at c2
  have n2 : nC R2 = nC R := by rw [r2]; unfold nC; rw [up1_o _ _ _ (by omega)]; exact n1
  have hc2 : c < nC R2 := by rw [n2]; exact hc
  obtain ⟨R3, r3⟩ : ∃ R3, R3 = up1 R2 (185 + 18 * c + 5) (R (185 + 18 * c + 5) + nv 1) := ⟨_, rfl⟩
  have c3 := c2.wI (R (185 + 18 * c + 5) + nv 1) (ci_cl R2 hc2 (j := 8) (i := 5) (by omega)) (by omega) (by omega) (by omega) (fun z _ => by omega) (by omega)
  rw [← r3] at c3
  have n3 : nC R3 = nC R := by rw [r3]; unfold nC; rw [up1_o _ _ _ (by omega)]; exact n2
  have hc3 : c < nC R3 := by rw [n3]; exact hc
  have c4 := c3.wI (R 4 + nv 1) (ci_ta R3 (j := 0) (by omega)) (by omega) (by omega) (by omega) (fun z _ => by omega) (by omega)
  have v0 : cs R c (8 + r) = R (185 + 18 * c + (8 + r)) := rfl
  have v1 : cs R1 c (13 + q) = R (185 + 18 * c + (13 + q)) := by unfold cs; rw [r1, up1_o _ _ _ (by omega)]
  have v2 : cs R2 c 5 = R (185 + 18 * c + 5) := by unfold cs; rw [r2, r1, up1_o _ _ _ (by omega), up1_o _ _ _ (by omega)]
  have v3 : R3 4 = R 4 := by rw [r3, r2, r1, up1_o _ _ _ (by omega), up1_o _ _ _ (by omega), up1_o _ _ _ (by omega)]
  have hM := h.1
  have hM1 := c1.1
  have hM2 := c2.1
  have hM3 := c3.1
  simp (disch := omega) only [X2_pairs, ↓w_bd, ↓w_rt, ↓w_bh, sm_l, sm_r, ↓w_okr, ↓w_nm, ↓w_ite, ↓reduceIte, not_true_eq_false, not_false_eq_true, and_true, true_and, and_self, Option.some.injEq, reduceCtorEq, eq_self, ↓w_rc, ↓w_gI, ↓w_gR, ↓w_aN, ↓w_aI, ↓w_aR, ↓w_aL, ↓w_pI, ↓w_pR, ↓w_sI, ↓w_sR, ↓w_sL, ↓w_nO, ↓w_nA, ↓w_nL, ↓w_ca, ↓w_ca0, ↓w_gS, ↓w_gK, ↓w_dv, ↓w_tw, ↓w_rz, ↓w_no, nv_lit, nv_f, nv_add, nv_mul, nv_sub, nv_le, nv_lt, nv_eq, nv_cl, Nat.reduceMod, Nat.reduceMul, Nat.reduceAdd, Nat.zero_add, Nat.add_zero, Nat.mul_zero, decide_eq_true_eq, nv_inT, mk_k hM, mk_n hM, mk_r hM, mk_i hM, mk_p0 hM hc, nr41, okn, mk_k hM1, mk_r hM1, mk_n hM1, mk_i hM1, mk_k hM2, mk_r hM2, mk_n hM2, mk_i hM2, mk_k hM3, mk_r hM3, mk_n hM3, mk_i hM3, v0, v1, v2, v3]
  refine k _ ?_ rfl rfl
  unfold pr
  rw [← r1, ← r2, ← r3]
  exact c4
theorem X5_pairs_w {G : Nat → Nat} {a d : Hp} {R R0 : Nat → Int32} (hG : GD G) (hF : FO G a 0 R0) (h : Tn G a d R) {c r q : Nat} (hc : c < 20) (hr : r < 5) (hq : q < 5) (Q : Unit → Hp → Prop)
    (k : ∀ d', Tn G a d' (pr R c r q) → Q () d') : Wp (X5_pairs (G 10) (nv c) (nv r) (nv q)) d Q := by
  have f0 := h.fo hF
  have t1 := h.lay hG (k := 185 + 18 * c + (8 + r)) (by omega) (R (185 + 18 * c + (8 + r)) + nv 1)
  have f1 := t1.fo hF
  have t2 := t1.lay hG (k := 185 + 18 * c + (13 + q)) (by omega) (R (185 + 18 * c + (13 + q)) + nv 1)
  have f2 := t2.fo hF
  have t3 := t2.lay hG (k := 185 + 18 * c + 5) (by omega) (R (185 + 18 * c + 5) + nv 1)
  have f3 := t3.fo hF
  have t4 := t3.lay hG (k := 4) (by omega) (R 4 + nv 1)
  have v1 : up1 R (185 + 18 * c + (8 + r)) (R (185 + 18 * c + (8 + r)) + nv 1) (185 + 18 * c + (13 + q)) = R (185 + 18 * c + (13 + q)) := up1_o _ _ _ (by omega)
  have v2 : up1 (up1 R (185 + 18 * c + (8 + r)) (R (185 + 18 * c + (8 + r)) + nv 1)) (185 + 18 * c + (13 + q)) (R (185 + 18 * c + (13 + q)) + nv 1) (185 + 18 * c + 5) = R (185 + 18 * c + 5) := by rw [up1_o _ _ _ (by omega), up1_o _ _ _ (by omega)]
  have v3 : up1 (up1 (up1 R (185 + 18 * c + (8 + r)) (R (185 + 18 * c + (8 + r)) + nv 1)) (185 + 18 * c + (13 + q)) (R (185 + 18 * c + (13 + q)) + nv 1)) (185 + 18 * c + 5) (R (185 + 18 * c + 5) + nv 1) 4 = R 4 := by rw [up1_o _ _ _ (by omega), up1_o _ _ _ (by omega), up1_o _ _ _ (by omega)]
  simp (disch := omega) only [X5_pairs, ↓w_bd, ↓w_rt, ↓w_bh, sm_l, sm_r, ↓w_okr, ↓w_nm, ↓w_ite, ↓reduceIte, not_true_eq_false, not_false_eq_true, and_true, true_and, and_self, Option.some.injEq, reduceCtorEq, eq_self, ↓w_rc, ↓w_gI, ↓w_gR, ↓w_aN, ↓w_aI, ↓w_aR, ↓w_aL, ↓w_pI, ↓w_pR, ↓w_sI, ↓w_sR, ↓w_sL, ↓w_nO, ↓w_nA, ↓w_nL, ↓w_ca, ↓w_ca0, ↓w_gS, ↓w_gK, ↓w_dv, ↓w_tw, ↓w_rz, ↓w_no, nv_lit, nv_f, nv_add, nv_mul, nv_sub, nv_le, nv_lt, nv_eq, nv_cl, Nat.reduceMod, Nat.reduceMul, Nat.reduceAdd, Nat.zero_add, Nat.add_zero, Nat.mul_zero, decide_eq_true_eq, nv_inT, f0.1, X5_addsClaim_w f0, ly_K, X5_addsClaim_w f1, v1, X5_addsClaim_w f2, v2, X5_tallies_w f3, v3]
  exact k _ t4
/-- what is left is a count -/
theorem li_nv {R : Nat → Int32} (hR : Ro R) {c s r : Nat} (hc : c < nC R) (h4 : cs R c 4 = 0) (hs : s < 2) (hr : r < nR R (sd R c s)) : ∃ p t, p ≤ t ∧ t ≤ 9 ∧ cs R c (8 + 5 * s + r) = nv p ∧ st R (sd R c s) r = nv t ∧ li R c s r = nv (t - p) := by
  obtain ⟨p, t, h1, h2, h3, h5⟩ := (hR.2.2.2.2.2 c hc h4).1 s r hs hr
  refine ⟨p, t, h1, h2, h3, h5, ?_⟩
  unfold li
  rw [h3, h5, nv_sub h1]
theorem su_up5 (f : Nat → Int32) {r : Nat} (hr : r < 5) : su (up1 f r (f r + nv 1)) 5 = su f 5 + nv 1 := by
  rw [su_up _ hr]
  simp only [Int32.sub_eq_add_neg]
  have : su f 5 + -f r + (f r + nv 1) = su f 5 + (-f r + f r) + nv 1 := by ac_rfl
  rw [this, Int32.add_left_neg, Int32.add_zero]
theorem pr_ro {R : Nat → Int32} (hR : Ro R) {c r q : Nat} (hc : c < nC R) (h4 : cs R c 4 = 0) (hr : r < nR R (sd R c 0)) (hq : q < nR R (sd R c 1)) (h0 : li R c 0 r ≠ 0) (h1 : li R c 1 q ≠ 0) : Ro (pr R c r q) := by
  have hS := hR.1
  have h10 := sh_H10 hS
  have h20 := sh_C20 hS
  have hT4 := sh_T4 hS
  have r5 := sh_R5 hS (sh_SH hS hc (show 0 < 2 by omega))
  have q5 := sh_R5 hS (sh_SH hS hc (show 1 < 2 by omega))
  have hr5 : r < 5 := by omega
  have hq5 : q < 5 := by omega
  have lo : ∀ i, i < 185 → i ≠ 4 → pr R c r q i = R i := fun i h h' => pr_o R (by omega) (by omega) (by omega) h'
  have e0 : ∀ d j, cs (pr R c r q) d j = if d = c ∧ j = 8 + r then cs R c (8 + r) + nv 1 else if d = c ∧ j = 13 + q then cs R c (13 + q) + nv 1 else if d = c ∧ j = 5 then cs R c 5 + nv 1 else pr R c r q (185 + 18 * d + j) := by
    intro d j
    by_cases g1 : d = c ∧ j = 8 + r
    · rw [if_pos g1, g1.1, g1.2]; exact pr_0 R hr5 hq5
    · rw [if_neg g1]
      by_cases g2 : d = c ∧ j = 13 + q
      · rw [if_pos g2, g2.1, g2.2]; exact pr_1 R hr5 hq5
      · rw [if_neg g2]
        by_cases g3 : d = c ∧ j = 5
        · rw [if_pos g3, g3.1, g3.2]
          unfold cs pr
          rw [up1_o _ _ _ (by omega), up1_s]
        · rw [if_neg g3]; rfl
  have ec : ∀ d j, j < 18 → ¬ (d = c ∧ (j = 8 + r ∨ j = 13 + q ∨ j = 5)) → cs (pr R c r q) d j = cs R d j := fun d j hj h => by
    unfold cs
    exact pr_o R (by omega) (by omega) (by omega) (by omega)
  refine ro_gen hR (pr_ss hS hc hr5 hq5) (fun x hx => ?_) (fun k hk => ?_) (fun x y hx hy => lo _ ?_ ?_) (fun x y hx hy => .inl ⟨lo _ (by omega) (by omega), lo _ (by omega) (by omega)⟩) (fun d s z hd hs hz hnz => ?_) (fun d hd hd4 => ?_)
  · rw [lo _ (by omega) (by omega)]; exact ro_own hR x hx
  · rw [lo _ (by omega) (by omega)]; exact hR.2.2.2.2.1 k hk
  · have := sh_R5 hS hx; omega
  · omega
  · by_cases e : d = c
    · subst e
      have : s = 0 ∨ s = 1 := by omega
      rcases this with rfl | rfl
      · rw [ec d _ (by omega) (by omega)]; exact hR.2.2.1 d 0 z hd hs hz hnz
      · rw [ec d _ (by omega) (by omega)]; exact hR.2.2.1 d 1 z hd hs hz hnz
    · rw [ec d _ (by omega) (by omega)]; exact hR.2.2.1 d s z hd hs hz hnz
  · rw [ec d 4 (by omega) (by omega)] at hd4
    obtain ⟨g1, g2⟩ := hR.2.2.2.2.2 d hd hd4
    by_cases e : d = c
    · subst e
      have z0 := li_nv hR hd hd4 (show 0 < 2 by omega) hr
      have z1 := li_nv hR hd hd4 (show 1 < 2 by omega) hq
      refine ⟨fun s z hs hz => ?_, ?_⟩
      · obtain ⟨p, t, k1, k2, k3, k4⟩ := g1 s z hs hz
        have : s = 0 ∨ s = 1 := by omega
        rcases this with rfl | rfl
        · by_cases ez : z = r
          · subst ez
            obtain ⟨p', t', m1, m2, m3, m4, m5⟩ := z0
            rw [m5] at h0
            have : p' < t' := by
              rcases Nat.lt_or_ge p' t' with q | q
              · exact q
              · exact absurd (by rw [show t' - p' = 0 by omega]; rfl) h0
            refine ⟨p' + 1, t', by omega, m2, ?_, m4⟩
            have m3' : cs R d (8 + z) = nv p' := m3
            rw [show 8 + 5 * 0 + z = 8 + z by omega, e0, if_pos ⟨rfl, rfl⟩, m3', nv_add]
          · refine ⟨p, t, k1, k2, ?_, k4⟩
            have : z < 5 := by omega
            rw [ec d _ (by omega) (by omega)]; exact k3
        · by_cases ez : z = q
          · subst ez
            obtain ⟨p', t', m1, m2, m3, m4, m5⟩ := z1
            rw [m5] at h1
            have : p' < t' := by
              rcases Nat.lt_or_ge p' t' with q | q
              · exact q
              · exact absurd (by rw [show t' - p' = 0 by omega]; rfl) h1
            refine ⟨p' + 1, t', by omega, m2, ?_, m4⟩
            have m3' : cs R d (13 + z) = nv p' := m3
            rw [show 8 + 5 * 1 + z = 13 + z by omega, e0, if_neg (by omega), if_pos ⟨rfl, rfl⟩, m3', nv_add]
          · refine ⟨p, t, k1, k2, ?_, k4⟩
            have : z < 5 := by omega
            rw [ec d _ (by omega) (by omega)]; exact k3
      · have s0 : su (fun z => cs (pr R d r q) d (8 + z)) 5 = su (fun z => cs R d (8 + z)) 5 + nv 1 := by
          rw [← su_up5 _ hr5]
          refine su_cg fun z hz => ?_
          by_cases ez : z = r
          · subst ez
            rw [up1_s, e0, if_pos ⟨rfl, rfl⟩]
          · rw [up1_o _ _ _ ez, ec d _ (by omega) (by omega)]
        have s1 : su (fun z => cs (pr R d r q) d (13 + z)) 5 = su (fun z => cs R d (13 + z)) 5 + nv 1 := by
          rw [← su_up5 _ hq5]
          refine su_cg fun z hz => ?_
          by_cases ez : z = q
          · subst ez
            rw [up1_s, e0, if_neg (by omega), if_pos ⟨rfl, rfl⟩]
          · rw [up1_o _ _ _ ez, ec d _ (by omega) (by omega)]
        rw [s0, s1, g2]
    · refine ⟨fun s z hs hz => ?_, ?_⟩
      · have : z < 5 := by
          have := sh_R5 hS (sh_SH hS hd hs)
          omega
        rw [ec d _ (by omega) (by omega)]
        exact g1 s z hs hz
      · have s0 : su (fun z => cs (pr R c r q) d (8 + z)) 5 = su (fun z => cs R d (8 + z)) 5 := su_cg fun z hz => ec d _ (by omega) (by omega)
        have s1 : su (fun z => cs (pr R c r q) d (13 + z)) 5 = su (fun z => cs R d (13 + z)) 5 := su_cg fun z hz => ec d _ (by omega) (by omega)
        rw [s0, s1, g2]
theorem act_pair {G : Nat → Nat} {B : Nat → Nat × Nat} {S : Gst} {a : Hp} (hC : JC G B S a) (v r q : Int32) : Act κi G B S a (X1_pair (G 0) v r q) (X5_pair (G 10) v r q) := by
  obtain ⟨L, R, hM, hR, hX, h0⟩ := startC hC
  have hG := hC.1.gd
  have hJ := hC.2.1
  have hS := hR.1
  have hP := hR.2.2.1
  have h10 := sh_H10 hS
  have h20 := sh_C20 hS
  by_cases hv : inr v (nC R)
  · obtain ⟨c, rfl, hc⟩ := inr_k hv
    have sh0 := sh_SH hS hc (show 0 < 2 by omega)
    have sh1 := sh_SH hS hc (show 1 < 2 by omega)
    have ea0 : cs R c 1 = nv (sd R c 0) := sh_S hS hc (s := 0) (by omega)
    have ea1 : cs R c 2 = nv (sd R c 1) := sh_S hS hc (s := 1) (by omega)
    have r5 := sh_R5 hS sh0
    have q5 := sh_R5 hS sh1
    have r1 := sh_R1 hS sh0
    have q1 := sh_R1 hS sh1
    by_cases hr : inr r (nR R (sd R c 0))
    · by_cases hq : inr q (nR R (sd R c 1))
      · obtain ⟨r, rfl, hr'⟩ := inr_k hr
        obtain ⟨q, rfl, hq'⟩ := inr_k hq
        have rl := X1_requireRow_1 hM sh0 hr
        have rl1 := X1_requireRow_1 hM sh1 hq
        by_cases h4 : cs R c 4 = nv 0
        · by_cases e0 : li R c 0 r = nv 0
          · simp (disch := omega) only [X1_pair, X1_pair_93, ↓w_bd, ↓w_rt, ↓w_bh, sm_l, sm_r, ↓w_okr, ↓w_nm, ↓w_ite, ↓reduceIte, not_true_eq_false, not_false_eq_true, and_true, true_and, and_self, Option.some.injEq, reduceCtorEq, eq_self, ↓w_rc, ↓w_gI, ↓w_gR, ↓w_aN, ↓w_aI, ↓w_aR, ↓w_aL, ↓w_pI, ↓w_pR, ↓w_sI, ↓w_sR, ↓w_sL, ↓w_nO, ↓w_nA, ↓w_nL, ↓w_ca, ↓w_ca0, ↓w_gS, ↓w_gK, ↓w_dv, ↓w_tw, ↓w_rz, ↓w_no, nv_lit, nv_f, nv_add, nv_mul, nv_sub, nv_le, nv_lt, nv_eq, nv_cl, Nat.reduceMod, Nat.reduceMul, Nat.reduceAdd, Nat.zero_add, Nat.add_zero, Nat.mul_zero, decide_eq_true_eq, nv_inT, mk_k hM, mk_n hM, mk_r hM, mk_i hM, hX, hJ, X1_isBetween_w, X1_requireArgument_1 n10, X1_requireArgument_0, X1_requireIndex_1 n10, X1_requireIndex_0, Nat.reduceEqDiff, okn, X1_claimOf_1 hM hX, ea0, ea1, X3_at_h hM, List.contains_cons, List.contains_nil, Nat.reduceBEq, Bool.or_true, Bool.true_or, Bool.or_false, BEq.rfl, ct_44, rl, rl1, X8_isOpen_c1 hM hc h4, n10, X2_left_w hM hS, e0, X1_refuse_w hC]
            refine ap_ref hC (E0.rf a) (by omega) (by omega) (by omega) fun c' hc' Q hQ => ?_
            obtain ⟨hF, hF0⟩ := jt_f0 hG hc' h0
            have t5 := th_5 G c' (nv 0)
            simp (disch := omega) only [X5_pair, X5_pair_47, X5_pair_90, ↓w_bd, ↓w_rt, ↓w_bh, sm_l, sm_r, ↓w_okr, ↓w_nm, ↓w_ite, ↓reduceIte, not_true_eq_false, not_false_eq_true, and_true, true_and, and_self, Option.some.injEq, reduceCtorEq, eq_self, ↓w_rc, ↓w_gI, ↓w_gR, ↓w_aN, ↓w_aI, ↓w_aR, ↓w_aL, ↓w_pI, ↓w_pR, ↓w_sI, ↓w_sR, ↓w_sL, ↓w_nO, ↓w_nA, ↓w_nL, ↓w_ca, ↓w_ca0, ↓w_gS, ↓w_gK, ↓w_dv, ↓w_tw, ↓w_rz, ↓w_no, nv_lit, nv_f, nv_add, nv_mul, nv_sub, nv_le, nv_lt, nv_eq, nv_cl, Nat.reduceMod, Nat.reduceMul, Nat.reduceAdd, Nat.zero_add, Nat.add_zero, Nat.mul_zero, decide_eq_true_eq, nv_inT, th_f, th_K, th_N, th_R, th_5, th_2, okn0, Nat.reduceEqDiff, hF.1, hF0.1, X5_in_w, X5_holds_1 hF0.1.1.1 t5 n10, X5_holds_0 hF0.1.1.1 t5, n10, X5_isClaim_1 hF0 hS hv, X5_sideOf_w hF0 hS, X5_isRow_1 hF0 hS sh0 hr, X5_isRow_1 hF0 hS sh1 hq, X5_isOpen_1 hF0 (show c < 20 by omega) h4, X5_leftIn_w hF0 hS, e0]
            exact hQ _ (Sx.rf _ _)
          · by_cases e1 : li R c 1 q = nv 0
            · simp (disch := omega) only [X1_pair, X1_pair_93, ↓w_bd, ↓w_rt, ↓w_bh, sm_l, sm_r, ↓w_okr, ↓w_nm, ↓w_ite, ↓reduceIte, not_true_eq_false, not_false_eq_true, and_true, true_and, and_self, Option.some.injEq, reduceCtorEq, eq_self, ↓w_rc, ↓w_gI, ↓w_gR, ↓w_aN, ↓w_aI, ↓w_aR, ↓w_aL, ↓w_pI, ↓w_pR, ↓w_sI, ↓w_sR, ↓w_sL, ↓w_nO, ↓w_nA, ↓w_nL, ↓w_ca, ↓w_ca0, ↓w_gS, ↓w_gK, ↓w_dv, ↓w_tw, ↓w_rz, ↓w_no, nv_lit, nv_f, nv_add, nv_mul, nv_sub, nv_le, nv_lt, nv_eq, nv_cl, Nat.reduceMod, Nat.reduceMul, Nat.reduceAdd, Nat.zero_add, Nat.add_zero, Nat.mul_zero, decide_eq_true_eq, nv_inT, mk_k hM, mk_n hM, mk_r hM, mk_i hM, hX, hJ, X1_isBetween_w, X1_requireArgument_1 n10, X1_requireArgument_0, X1_requireIndex_1 n10, X1_requireIndex_0, Nat.reduceEqDiff, okn, X1_claimOf_1 hM hX, ea0, ea1, X3_at_h hM, List.contains_cons, List.contains_nil, Nat.reduceBEq, Bool.or_true, Bool.true_or, Bool.or_false, BEq.rfl, ct_44, rl, rl1, X8_isOpen_c1 hM hc h4, n10, X2_left_w hM hS, e0, e1, X1_refuse_w hC]
              refine ap_ref hC (E0.rf a) (by omega) (by omega) (by omega) fun c' hc' Q hQ => ?_
              obtain ⟨hF, hF0⟩ := jt_f0 hG hc' h0
              have t5 := th_5 G c' (nv 0)
              simp (disch := omega) only [X5_pair, X5_pair_47, X5_pair_90, ↓w_bd, ↓w_rt, ↓w_bh, sm_l, sm_r, ↓w_okr, ↓w_nm, ↓w_ite, ↓reduceIte, not_true_eq_false, not_false_eq_true, and_true, true_and, and_self, Option.some.injEq, reduceCtorEq, eq_self, ↓w_rc, ↓w_gI, ↓w_gR, ↓w_aN, ↓w_aI, ↓w_aR, ↓w_aL, ↓w_pI, ↓w_pR, ↓w_sI, ↓w_sR, ↓w_sL, ↓w_nO, ↓w_nA, ↓w_nL, ↓w_ca, ↓w_ca0, ↓w_gS, ↓w_gK, ↓w_dv, ↓w_tw, ↓w_rz, ↓w_no, nv_lit, nv_f, nv_add, nv_mul, nv_sub, nv_le, nv_lt, nv_eq, nv_cl, Nat.reduceMod, Nat.reduceMul, Nat.reduceAdd, Nat.zero_add, Nat.add_zero, Nat.mul_zero, decide_eq_true_eq, nv_inT, th_f, th_K, th_N, th_R, th_5, th_2, okn0, Nat.reduceEqDiff, hF.1, hF0.1, X5_in_w, X5_holds_1 hF0.1.1.1 t5 n10, X5_holds_0 hF0.1.1.1 t5, n10, X5_isClaim_1 hF0 hS hv, X5_sideOf_w hF0 hS, X5_isRow_1 hF0 hS sh0 hr, X5_isRow_1 hF0 hS sh1 hq, X5_isOpen_1 hF0 (show c < 20 by omega) h4, X5_leftIn_w hF0 hS, e0, e1]
              exact hQ _ (Sx.rf _ _)
            · have hR2 := pr_ro hR hc h4 hr' hq' e0 e1
              have hss := pr_ss hS hc (show r < 5 by omega) (show q < 5 by omega)
              have hc2 : c < nC (pr R c r q) := by rw [hss.C]; exact hc
              simp (disch := omega) only [X1_pair, X1_pair_93, ↓w_bd, ↓w_rt, ↓w_bh, sm_l, sm_r, ↓w_okr, ↓w_nm, ↓w_ite, ↓reduceIte, not_true_eq_false, not_false_eq_true, and_true, true_and, and_self, Option.some.injEq, reduceCtorEq, eq_self, ↓w_rc, ↓w_gI, ↓w_gR, ↓w_aN, ↓w_aI, ↓w_aR, ↓w_aL, ↓w_pI, ↓w_pR, ↓w_sI, ↓w_sR, ↓w_sL, ↓w_nO, ↓w_nA, ↓w_nL, ↓w_ca, ↓w_ca0, ↓w_gS, ↓w_gK, ↓w_dv, ↓w_tw, ↓w_rz, ↓w_no, nv_lit, nv_f, nv_add, nv_mul, nv_sub, nv_le, nv_lt, nv_eq, nv_cl, Nat.reduceMod, Nat.reduceMul, Nat.reduceAdd, Nat.zero_add, Nat.add_zero, Nat.mul_zero, decide_eq_true_eq, nv_inT, mk_k hM, mk_n hM, mk_r hM, mk_i hM, hX, hJ, X1_isBetween_w, X1_requireArgument_1 n10, X1_requireArgument_0, X1_requireIndex_1 n10, X1_requireIndex_0, Nat.reduceEqDiff, okn, X1_claimOf_1 hM hX, ea0, ea1, X3_at_h hM, List.contains_cons, List.contains_nil, Nat.reduceBEq, Bool.or_true, Bool.true_or, Bool.or_false, BEq.rfl, ct_44, rl, rl1, X8_isOpen_c1 hM hc h4, n10, X2_left_w hM hS, e0, e1]
              refine keep_c hC (E0.rf a) h0 _ fun d B' L' q1 q2 q3 hMd hXd hCd z l => ?_
              have hJd := q1.2.1
              simp (disch := omega) only [↓w_bd, ↓w_rt, ↓w_bh, sm_l, sm_r, ↓w_okr, ↓w_nm, ↓w_ite, ↓reduceIte, not_true_eq_false, not_false_eq_true, and_true, true_and, and_self, Option.some.injEq, reduceCtorEq, eq_self, ↓w_rc, ↓w_gI, ↓w_gR, ↓w_aN, ↓w_aI, ↓w_aR, ↓w_aL, ↓w_pI, ↓w_pR, ↓w_sI, ↓w_sR, ↓w_sL, ↓w_nO, ↓w_nA, ↓w_nL, ↓w_ca, ↓w_ca0, ↓w_gS, ↓w_gK, ↓w_dv, ↓w_tw, ↓w_rz, ↓w_no, nv_lit, nv_f, nv_add, nv_mul, nv_sub, nv_le, nv_lt, nv_eq, nv_cl, Nat.reduceMod, Nat.reduceMul, Nat.reduceAdd, Nat.zero_add, Nat.add_zero, Nat.mul_zero, decide_eq_true_eq, nv_inT, mk_k hMd, mk_r hMd, mk_n hMd, mk_i hMd, hXd, hJd, okn]
              refine X2_pairs_w hCd hS hc (by omega) (by omega) _ fun b hb hz hl => ?_
              have hMb := hb.1
              have hXb := hb.2.2.2.1 hXd
              simp (disch := omega) only [↓w_bd, ↓w_rt, ↓w_bh, sm_l, sm_r, ↓w_okr, ↓w_nm, ↓w_ite, ↓reduceIte, not_true_eq_false, not_false_eq_true, and_true, true_and, and_self, Option.some.injEq, reduceCtorEq, eq_self, ↓w_rc, ↓w_gI, ↓w_gR, ↓w_aN, ↓w_aI, ↓w_aR, ↓w_aL, ↓w_pI, ↓w_pR, ↓w_sI, ↓w_sR, ↓w_sL, ↓w_nO, ↓w_nA, ↓w_nL, ↓w_ca, ↓w_ca0, ↓w_gS, ↓w_gK, ↓w_dv, ↓w_tw, ↓w_rz, ↓w_no, nv_lit, nv_f, nv_add, nv_mul, nv_sub, nv_le, nv_lt, nv_eq, nv_cl, Nat.reduceMod, Nat.reduceMul, Nat.reduceAdd, Nat.zero_add, Nat.add_zero, Nat.mul_zero, decide_eq_true_eq, nv_inT, mk_k hMb, mk_r hMb, hXb, X2_left_2_w hMb hR2.1 hR2.2.2.1]
              refine ap_now hC h0 q2 q3 q1 hb (fun _ _ => rfl) hR2 (by omega) (by omega) fun c' hc' Q hQ => ?_
              obtain ⟨hF, hF0⟩ := jt_f0 hG hc' h0
              have t5 := th_5 G c' (nv 0)
              simp (disch := omega) only [X5_pair, X5_pair_47, X5_pair_90, ↓w_bd, ↓w_rt, ↓w_bh, sm_l, sm_r, ↓w_okr, ↓w_nm, ↓w_ite, ↓reduceIte, not_true_eq_false, not_false_eq_true, and_true, true_and, and_self, Option.some.injEq, reduceCtorEq, eq_self, ↓w_rc, ↓w_gI, ↓w_gR, ↓w_aN, ↓w_aI, ↓w_aR, ↓w_aL, ↓w_pI, ↓w_pR, ↓w_sI, ↓w_sR, ↓w_sL, ↓w_nO, ↓w_nA, ↓w_nL, ↓w_ca, ↓w_ca0, ↓w_gS, ↓w_gK, ↓w_dv, ↓w_tw, ↓w_rz, ↓w_no, nv_lit, nv_f, nv_add, nv_mul, nv_sub, nv_le, nv_lt, nv_eq, nv_cl, Nat.reduceMod, Nat.reduceMul, Nat.reduceAdd, Nat.zero_add, Nat.add_zero, Nat.mul_zero, decide_eq_true_eq, nv_inT, th_f, th_K, th_N, th_R, th_5, th_2, okn0, Nat.reduceEqDiff, hF.1, hF0.1, X5_in_w, X5_holds_1 hF0.1.1.1 t5 n10, X5_holds_0 hF0.1.1.1 t5, n10, X5_isClaim_1 hF0 hS hv, X5_sideOf_w hF0 hS, X5_isRow_1 hF0 hS sh0 hr, X5_isRow_1 hF0 hS sh1 hq, X5_isOpen_1 hF0 (show c < 20 by omega) h4, X5_leftIn_w hF0 hS, e0, e1]
              refine keeps_t hC hc' (Sx.rf _ _) h0 L' _ fun d2 k1 k3 k2 hF3 => ?_
              simp (disch := omega) only [↓w_bd, ↓w_rt, ↓w_bh, sm_l, sm_r, ↓w_okr, ↓w_nm, ↓w_ite, ↓reduceIte, not_true_eq_false, not_false_eq_true, and_true, true_and, and_self, Option.some.injEq, reduceCtorEq, eq_self, ↓w_rc, ↓w_gI, ↓w_gR, ↓w_aN, ↓w_aI, ↓w_aR, ↓w_aL, ↓w_pI, ↓w_pR, ↓w_sI, ↓w_sR, ↓w_sL, ↓w_nO, ↓w_nA, ↓w_nL, ↓w_ca, ↓w_ca0, ↓w_gS, ↓w_gK, ↓w_dv, ↓w_tw, ↓w_rz, ↓w_no, nv_lit, nv_f, nv_add, nv_mul, nv_sub, nv_le, nv_lt, nv_eq, nv_cl, Nat.reduceMod, Nat.reduceMul, Nat.reduceAdd, Nat.zero_add, Nat.add_zero, Nat.mul_zero, decide_eq_true_eq, nv_inT, hF3.1]
              refine X5_pairs_w hG hF3 (Tn.rf hF3) (by omega) (by omega) (by omega) _ fun d3 ht => ?_
              have hF4 := ht.fo hF3
              simp (disch := omega) only [↓w_bd, ↓w_rt, ↓w_bh, sm_l, sm_r, ↓w_okr, ↓w_nm, ↓w_ite, ↓reduceIte, not_true_eq_false, not_false_eq_true, and_true, true_and, and_self, Option.some.injEq, reduceCtorEq, eq_self, ↓w_rc, ↓w_gI, ↓w_gR, ↓w_aN, ↓w_aI, ↓w_aR, ↓w_aL, ↓w_pI, ↓w_pR, ↓w_sI, ↓w_sR, ↓w_sL, ↓w_nO, ↓w_nA, ↓w_nL, ↓w_ca, ↓w_ca0, ↓w_gS, ↓w_gK, ↓w_dv, ↓w_tw, ↓w_rz, ↓w_no, nv_lit, nv_f, nv_add, nv_mul, nv_sub, nv_le, nv_lt, nv_eq, nv_cl, Nat.reduceMod, Nat.reduceMul, Nat.reduceAdd, Nat.zero_add, Nat.add_zero, Nat.mul_zero, decide_eq_true_eq, nv_inT, hF4.1, X5_leftOf_w hF4 hR2.1]
              exact hQ _ _ k1 k3 k2 ht
        · simp (disch := omega) only [X1_pair, X1_pair_93, ↓w_bd, ↓w_rt, ↓w_bh, sm_l, sm_r, ↓w_okr, ↓w_nm, ↓w_ite, ↓reduceIte, not_true_eq_false, not_false_eq_true, and_true, true_and, and_self, Option.some.injEq, reduceCtorEq, eq_self, ↓w_rc, ↓w_gI, ↓w_gR, ↓w_aN, ↓w_aI, ↓w_aR, ↓w_aL, ↓w_pI, ↓w_pR, ↓w_sI, ↓w_sR, ↓w_sL, ↓w_nO, ↓w_nA, ↓w_nL, ↓w_ca, ↓w_ca0, ↓w_gS, ↓w_gK, ↓w_dv, ↓w_tw, ↓w_rz, ↓w_no, nv_lit, nv_f, nv_add, nv_mul, nv_sub, nv_le, nv_lt, nv_eq, nv_cl, Nat.reduceMod, Nat.reduceMul, Nat.reduceAdd, Nat.zero_add, Nat.add_zero, Nat.mul_zero, decide_eq_true_eq, nv_inT, mk_k hM, mk_n hM, mk_r hM, mk_i hM, hX, hJ, X1_isBetween_w, X1_requireArgument_1 n10, X1_requireArgument_0, X1_requireIndex_1 n10, X1_requireIndex_0, Nat.reduceEqDiff, okn, X1_claimOf_1 hM hX, ea0, ea1, X3_at_h hM, List.contains_cons, List.contains_nil, Nat.reduceBEq, Bool.or_true, Bool.true_or, Bool.or_false, BEq.rfl, ct_44, rl, rl1, X8_isOpen_c0 hM hc h4, n10, X1_refuse_w hC]
          refine ap_ref hC (E0.rf a) (by omega) (by omega) (by omega) fun c' hc' Q hQ => ?_
          obtain ⟨hF, hF0⟩ := jt_f0 hG hc' h0
          have t5 := th_5 G c' (nv 0)
          simp (disch := omega) only [X5_pair, X5_pair_47, X5_pair_90, ↓w_bd, ↓w_rt, ↓w_bh, sm_l, sm_r, ↓w_okr, ↓w_nm, ↓w_ite, ↓reduceIte, not_true_eq_false, not_false_eq_true, and_true, true_and, and_self, Option.some.injEq, reduceCtorEq, eq_self, ↓w_rc, ↓w_gI, ↓w_gR, ↓w_aN, ↓w_aI, ↓w_aR, ↓w_aL, ↓w_pI, ↓w_pR, ↓w_sI, ↓w_sR, ↓w_sL, ↓w_nO, ↓w_nA, ↓w_nL, ↓w_ca, ↓w_ca0, ↓w_gS, ↓w_gK, ↓w_dv, ↓w_tw, ↓w_rz, ↓w_no, nv_lit, nv_f, nv_add, nv_mul, nv_sub, nv_le, nv_lt, nv_eq, nv_cl, Nat.reduceMod, Nat.reduceMul, Nat.reduceAdd, Nat.zero_add, Nat.add_zero, Nat.mul_zero, decide_eq_true_eq, nv_inT, th_f, th_K, th_N, th_R, th_5, th_2, okn0, Nat.reduceEqDiff, hF.1, hF0.1, X5_in_w, X5_holds_1 hF0.1.1.1 t5 n10, X5_holds_0 hF0.1.1.1 t5, n10, X5_isClaim_1 hF0 hS hv, X5_sideOf_w hF0 hS, X5_isRow_1 hF0 hS sh0 hr, X5_isRow_1 hF0 hS sh1 hq, X5_isOpen_0 hF0 (show c < 20 by omega) h4]
          exact hQ _ (Sx.rf _ _)
      · simp (disch := omega) only [X1_pair, ↓w_bd, ↓w_rt, ↓w_bh, sm_l, sm_r, ↓w_okr, ↓w_nm, ↓w_ite, ↓reduceIte, not_true_eq_false, not_false_eq_true, and_true, true_and, and_self, Option.some.injEq, reduceCtorEq, eq_self, ↓w_rc, ↓w_gI, ↓w_gR, ↓w_aN, ↓w_aI, ↓w_aR, ↓w_aL, ↓w_pI, ↓w_pR, ↓w_sI, ↓w_sR, ↓w_sL, ↓w_nO, ↓w_nA, ↓w_nL, ↓w_ca, ↓w_ca0, ↓w_gS, ↓w_gK, ↓w_dv, ↓w_tw, ↓w_rz, ↓w_no, nv_lit, nv_f, nv_add, nv_mul, nv_sub, nv_le, nv_lt, nv_eq, nv_cl, Nat.reduceMod, Nat.reduceMul, Nat.reduceAdd, Nat.zero_add, Nat.add_zero, Nat.mul_zero, decide_eq_true_eq, nv_inT, mk_k hM, mk_n hM, mk_r hM, mk_i hM, hX, hJ, X1_isBetween_w, X1_requireArgument_1 n10, X1_requireArgument_0, X1_requireIndex_1 n10, X1_requireIndex_0, Nat.reduceEqDiff, okn, X1_claimOf_1 hM hX, ea0, ea1, X3_at_h hM, List.contains_cons, List.contains_nil, Nat.reduceBEq, Bool.or_true, Bool.true_or, Bool.or_false, BEq.rfl, ct_44, X1_requireRow_1 hM sh0 hr, X1_requireRow_0 hM sh1 q1 hq]
        refine ap_x hC (tw_e a) (by rw [tw_z]; omega) (by rw [tw_l]; omega) (k := 1) rfl (by omega) (by omega) fun c' hc' Q hQ => ?_
        obtain ⟨hF, hF0⟩ := jt_f0 hG hc' h0
        have t5 := th_5 G c' (nv 0)
        simp (disch := omega) only [X5_pair, X5_pair_46, X5_pair_47, ↓w_bd, ↓w_rt, ↓w_bh, sm_l, sm_r, ↓w_okr, ↓w_nm, ↓w_ite, ↓reduceIte, not_true_eq_false, not_false_eq_true, and_true, true_and, and_self, Option.some.injEq, reduceCtorEq, eq_self, ↓w_rc, ↓w_gI, ↓w_gR, ↓w_aN, ↓w_aI, ↓w_aR, ↓w_aL, ↓w_pI, ↓w_pR, ↓w_sI, ↓w_sR, ↓w_sL, ↓w_nO, ↓w_nA, ↓w_nL, ↓w_ca, ↓w_ca0, ↓w_gS, ↓w_gK, ↓w_dv, ↓w_tw, ↓w_rz, ↓w_no, nv_lit, nv_f, nv_add, nv_mul, nv_sub, nv_le, nv_lt, nv_eq, nv_cl, Nat.reduceMod, Nat.reduceMul, Nat.reduceAdd, Nat.zero_add, Nat.add_zero, Nat.mul_zero, decide_eq_true_eq, nv_inT, th_f, th_K, th_N, th_R, th_5, th_2, okn0, Nat.reduceEqDiff, hF.1, hF0.1, X5_in_w, X5_holds_1 hF0.1.1.1 t5 n10, X5_holds_0 hF0.1.1.1 t5, n10, X5_isClaim_1 hF0 hS hv, X5_sideOf_w hF0 hS, X5_isRow_1 hF0 hS sh0 hr, X5_isRow_0 hF0 hS sh1 hq]
        exact hQ _
    · simp (disch := omega) only [X1_pair, ↓w_bd, ↓w_rt, ↓w_bh, sm_l, sm_r, ↓w_okr, ↓w_nm, ↓w_ite, ↓reduceIte, not_true_eq_false, not_false_eq_true, and_true, true_and, and_self, Option.some.injEq, reduceCtorEq, eq_self, ↓w_rc, ↓w_gI, ↓w_gR, ↓w_aN, ↓w_aI, ↓w_aR, ↓w_aL, ↓w_pI, ↓w_pR, ↓w_sI, ↓w_sR, ↓w_sL, ↓w_nO, ↓w_nA, ↓w_nL, ↓w_ca, ↓w_ca0, ↓w_gS, ↓w_gK, ↓w_dv, ↓w_tw, ↓w_rz, ↓w_no, nv_lit, nv_f, nv_add, nv_mul, nv_sub, nv_le, nv_lt, nv_eq, nv_cl, Nat.reduceMod, Nat.reduceMul, Nat.reduceAdd, Nat.zero_add, Nat.add_zero, Nat.mul_zero, decide_eq_true_eq, nv_inT, mk_k hM, mk_n hM, mk_r hM, mk_i hM, hX, hJ, X1_isBetween_w, X1_requireArgument_1 n10, X1_requireArgument_0, X1_requireIndex_1 n10, X1_requireIndex_0, Nat.reduceEqDiff, okn, X1_claimOf_1 hM hX, ea0, ea1, X3_at_h hM, List.contains_cons, List.contains_nil, Nat.reduceBEq, Bool.or_true, Bool.true_or, Bool.or_false, BEq.rfl, ct_44, X1_requireRow_0 hM sh0 r1 hr]
      refine ap_x hC (tw_e a) (by rw [tw_z]; omega) (by rw [tw_l]; omega) (k := 1) rfl (by omega) (by omega) fun c' hc' Q hQ => ?_
      obtain ⟨hF, hF0⟩ := jt_f0 hG hc' h0
      have t5 := th_5 G c' (nv 0)
      simp (disch := omega) only [X5_pair, X5_pair_46, X5_pair_47, ↓w_bd, ↓w_rt, ↓w_bh, sm_l, sm_r, ↓w_okr, ↓w_nm, ↓w_ite, ↓reduceIte, not_true_eq_false, not_false_eq_true, and_true, true_and, and_self, Option.some.injEq, reduceCtorEq, eq_self, ↓w_rc, ↓w_gI, ↓w_gR, ↓w_aN, ↓w_aI, ↓w_aR, ↓w_aL, ↓w_pI, ↓w_pR, ↓w_sI, ↓w_sR, ↓w_sL, ↓w_nO, ↓w_nA, ↓w_nL, ↓w_ca, ↓w_ca0, ↓w_gS, ↓w_gK, ↓w_dv, ↓w_tw, ↓w_rz, ↓w_no, nv_lit, nv_f, nv_add, nv_mul, nv_sub, nv_le, nv_lt, nv_eq, nv_cl, Nat.reduceMod, Nat.reduceMul, Nat.reduceAdd, Nat.zero_add, Nat.add_zero, Nat.mul_zero, decide_eq_true_eq, nv_inT, th_f, th_K, th_N, th_R, th_5, th_2, okn0, Nat.reduceEqDiff, hF.1, hF0.1, X5_in_w, X5_holds_1 hF0.1.1.1 t5 n10, X5_holds_0 hF0.1.1.1 t5, n10, X5_isClaim_1 hF0 hS hv, X5_sideOf_w hF0 hS, X5_isRow_0 hF0 hS sh0 hr]
      exact hQ _
  · simp (disch := omega) only [X1_pair, ↓w_bd, ↓w_rt, ↓w_bh, sm_l, sm_r, ↓w_okr, ↓w_nm, ↓w_ite, ↓reduceIte, not_true_eq_false, not_false_eq_true, and_true, true_and, and_self, Option.some.injEq, reduceCtorEq, eq_self, ↓w_rc, ↓w_gI, ↓w_gR, ↓w_aN, ↓w_aI, ↓w_aR, ↓w_aL, ↓w_pI, ↓w_pR, ↓w_sI, ↓w_sR, ↓w_sL, ↓w_nO, ↓w_nA, ↓w_nL, ↓w_ca, ↓w_ca0, ↓w_gS, ↓w_gK, ↓w_dv, ↓w_tw, ↓w_rz, ↓w_no, nv_lit, nv_f, nv_add, nv_mul, nv_sub, nv_le, nv_lt, nv_eq, nv_cl, Nat.reduceMod, Nat.reduceMul, Nat.reduceAdd, Nat.zero_add, Nat.add_zero, Nat.mul_zero, decide_eq_true_eq, nv_inT, mk_k hM, mk_n hM, mk_r hM, mk_i hM, hX, hJ, X1_isBetween_w, X1_requireArgument_1 n10, X1_requireArgument_0, X1_requireIndex_1 n10, X1_requireIndex_0, Nat.reduceEqDiff, okn, X1_claimOf_0 hM hX hv]
    refine ap_x hC (tw_e a) (by rw [tw_z]; omega) (by rw [tw_l]; omega) (k := 1) rfl (by omega) (by omega) fun c' hc' Q hQ => ?_
    obtain ⟨hF, hF0⟩ := jt_f0 hG hc' h0
    have t5 := th_5 G c' (nv 0)
    simp (disch := omega) only [X5_pair, X5_pair_46, X5_pair_47, ↓w_bd, ↓w_rt, ↓w_bh, sm_l, sm_r, ↓w_okr, ↓w_nm, ↓w_ite, ↓reduceIte, not_true_eq_false, not_false_eq_true, and_true, true_and, and_self, Option.some.injEq, reduceCtorEq, eq_self, ↓w_rc, ↓w_gI, ↓w_gR, ↓w_aN, ↓w_aI, ↓w_aR, ↓w_aL, ↓w_pI, ↓w_pR, ↓w_sI, ↓w_sR, ↓w_sL, ↓w_nO, ↓w_nA, ↓w_nL, ↓w_ca, ↓w_ca0, ↓w_gS, ↓w_gK, ↓w_dv, ↓w_tw, ↓w_rz, ↓w_no, nv_lit, nv_f, nv_add, nv_mul, nv_sub, nv_le, nv_lt, nv_eq, nv_cl, Nat.reduceMod, Nat.reduceMul, Nat.reduceAdd, Nat.zero_add, Nat.add_zero, Nat.mul_zero, decide_eq_true_eq, nv_inT, th_f, th_K, th_N, th_R, th_5, th_2, okn0, Nat.reduceEqDiff, hF.1, hF0.1, X5_in_w, X5_holds_1 hF0.1.1.1 t5 n10, X5_holds_0 hF0.1.1.1 t5, X5_isClaim_0 hF0 hS hv]
    exact hQ _
theorem op_pair {G : Nat → Nat} {B : Nat → Nat × Nat} {S : Gst} {a : Hp} (hC : JC G B S a) (hT : JT G S a) (v r q : Int32) : OpL G a (X0_pair (some (G 0)) v r q (some (G 20))) (X5_pair (G 10) v r q) :=
  Act.op (m := fun h => X1_pair h v r q) hC hT (act_pair hC v r q) fun _ _ h Q => hd_i h Q
