/-! A CLAIM IS CLOSED -/
def sh2 (R : Nat → Int32) (x y : Nat) (w : Int32) : Nat → Int32 := up1 (up1 R (85 + 10 * x + y) w) (85 + 10 * y + x) (tn w)
theorem tn_3 {w : Int32} (h : W3 w) : W3 (tn w) := by
  rcases h with rfl | rfl | rfl <;> simp [tn, W3]
theorem Cn.show {G : Nat → Nat} {B : Nat → Nat × Nat} {a b : Hp} {L : Nat → Nat} {R : Nat → Int32} (h : Cn G B a b L R) {x y : Nat} (hx : x < 10) (hy : y < 10) (hxy : x ≠ y) {w : Int32} (hw : W3 w) : Cn G B a (s2 (nf b (nv x) (nv y) w) (L (10 + x)) (L (10 + y)) x y (some (hSz b))) L (sh2 R x y w) := by
  have c1 := h.e0 (nf_e b (nv x) (nv y) w)
  have c2 := c1.wF hx hy (v := some (hSz b)) (w := w) (.inr ⟨_, rfl, hxy, hw, nf_f b x y w⟩)
  exact c2.wF hy hx (v := some (hSz b)) (w := tn w) (.inr ⟨_, rfl, Ne.symm hxy, tn_3 hw, (show Fw_ (hwR (nf b (nv x) (nv y) w) (L (10 + x)) (up1 (hR (nf b (nv x) (nv y) w) (L (10 + x))) y (some (hSz b)))) (hSz b) x y w from nf_f b x y w).sym hw⟩)
/-- the row of a claim that is closed: told word, trust, the tallies -/
def clr (E : Nat → Int32) (x y : Nat) (w : Int32) (u : Nat) (t : Int32) (i : Nat) : Nat → Int32 :=
  if i = 0 then up1 (up1 (sh2 E x y w) (11 + u) t) (4 + 1) (E 5 + nv 1) else up1 (up1 (up1 (sh2 E x y w) (11 + u) t) (4 + 1) (E 5 + nv 1)) (4 + i) (E (4 + i) + nv 1)
theorem clr_o (E : Nat → Int32) {x y u i q : Nat} (w t : Int32) (hi : i = 0 ∨ i = 5 ∨ i = 6) (h1 : q < 5 ∨ 11 ≤ q) (h2 : q ≠ 11 + u) (h3 : q ≠ 85 + 10 * x + y) (h4 : q ≠ 85 + 10 * y + x) : clr E x y w u t i q = E q := by
  unfold clr sh2
  split
  · rw [up1_o _ _ _ (by omega), up1_o _ _ _ (by omega), up1_o _ _ _ (by omega), up1_o _ _ _ (by omega)]
  · rw [up1_o _ _ _ (by omega), up1_o _ _ _ (by omega), up1_o _ _ _ (by omega), up1_o _ _ _ (by omega), up1_o _ _ _ (by omega)]
theorem clr_u (E : Nat → Int32) {x y u i : Nat} (w t : Int32) (hi : i = 0 ∨ i = 5 ∨ i = 6) : clr E x y w u t i (11 + u) = t := by
  unfold clr
  split
  · rw [up1_o _ _ _ (by omega), up1_s]
  · rw [up1_o _ _ _ (by omega), up1_o _ _ _ (by omega), up1_s]
theorem clr_f (E : Nat → Int32) {x y u i q : Nat} (w t : Int32) (hi : i = 0 ∨ i = 5 ∨ i = 6) (hu : u < 4) (hq : 85 ≤ q) : clr E x y w u t i q = sh2 E x y w q := by
  unfold clr
  split
  · rw [up1_o _ _ _ (by omega), up1_o _ _ _ (by omega)]
  · rw [up1_o _ _ _ (by omega), up1_o _ _ _ (by omega), up1_o _ _ _ (by omega)]
theorem sh2_fc (E : Nat → Int32) {x y u v : Nat} (w : Int32) (hx : x < 10) (hy : y < 10) (hu : u < 10) (hv : v < 10) (hxy : x ≠ y) : fc (sh2 E x y w) u v = if u = x ∧ v = y then w else if u = y ∧ v = x then tn w else fc E u v := by
  unfold fc sh2
  by_cases c : u = x ∧ v = y
  · rw [if_pos c, c.1, c.2, up1_o _ _ _ (by omega), up1_s]
  · rw [if_neg c]
    by_cases d : u = y ∧ v = x
    · rw [if_pos d, d.1, d.2, up1_s]
    · rw [if_neg d, up1_o _ _ _ (by omega), up1_o _ _ _ (by omega)]
theorem clr_ro {E : Nat → Int32} (hR : Ro E) {x y u i t : Nat} (hx : x < nH E) (hy : y < nH E) (hxy : x ≠ y) (hu : u < nT E) (ht : t ≤ 20) (hi : i = 0 ∨ i = 5 ∨ i = 6) : Ro (clr E x y (ws E x y) u (nv t) i) := by
  have hS := hR.1
  have h10 := sh_H10 hS
  have h20 := sh_C20 hS
  have hT4 := sh_T4 hS
  have hi2 : ∀ q, 185 ≤ q → clr E x y (ws E x y) u (nv t) i q = E q := fun q hq => clr_o E _ _ hi (by omega) (by omega) (by omega) (by omega)
  have lo2 : ∀ q, q < 85 → (q < 5 ∨ 15 ≤ q) → clr E x y (ws E x y) u (nv t) i q = E q := fun q hq h => clr_o E _ _ hi (by omega) (by omega) (by omega) (by omega)
  have ss : Ss E (clr E x y (ws E x y) u (nv t) i) := ⟨lo2 _ (by omega) (by omega), lo2 _ (by omega) (by omega), lo2 _ (by omega) (by omega), fun z hz => lo2 _ (by omega) (by omega), fun d hd j hj => hi2 _ (by omega)⟩
  have ec : ∀ d j, cs (clr E x y (ws E x y) u (nv t) i) d j = cs E d j := fun d j => hi2 _ (by omega)
  refine ro_gen hR ss (fun z hz => ?_) (fun k hk => ?_) (fun z r hz hr => lo2 _ ?_ ?_) (fun z z' hz hz' => ?_) (fun d s z hd hs hz hnz => ?_) (fun d hd hd4 => ?_)
  · rw [lo2 _ (by omega) (by omega)]; exact ro_own hR z hz
  · by_cases e : k = u
    · rw [e, clr_u E _ _ hi]; exact ⟨t, ht, rfl⟩
    · rw [clr_o E _ _ hi (by omega) (by omega) (by omega) (by omega)]; exact hR.2.2.2.2.1 k hk
  · have := sh_R5 hS hz; omega
  · omega
  · have f1 : fc (clr E x y (ws E x y) u (nv t) i) z z' = fc (sh2 E x y (ws E x y)) z z' := clr_f E _ _ hi (by omega) (by omega)
    have f2 : fc (clr E x y (ws E x y) u (nv t) i) z' z = fc (sh2 E x y (ws E x y)) z' z := clr_f E _ _ hi (by omega) (by omega)
    rw [f1, f2, sh2_fc E _ (by omega) (by omega) hz hz' hxy, sh2_fc E _ (by omega) (by omega) hz' hz hxy]
    have et : tn (ws E x y) = ws E y x := tn_wd _ _
    by_cases c : z = x ∧ z' = y
    · right; right
      have c2 : ¬ (z' = x ∧ z = y) := by omega
      have c3 : z' = y ∧ z = x := ⟨c.2, c.1⟩
      rw [if_pos c, if_neg c2, if_pos c3, c.1, c.2, et]
      exact ⟨hxy, hx, hy, rfl, rfl⟩
    · rw [if_neg c]
      by_cases d : z = y ∧ z' = x
      · right; right
        have d2 : z' = x ∧ z = y := ⟨d.2, d.1⟩
        rw [if_pos d, if_pos d2, d.1, d.2, et]
        exact ⟨Ne.symm hxy, hy, hx, rfl, rfl⟩
      · left
        have d2 : ¬ (z' = x ∧ z = y) := by omega
        have d3 : ¬ (z' = y ∧ z = x) := by omega
        rw [if_neg d, if_neg d2, if_neg d3]
        exact ⟨rfl, rfl⟩
  · rw [ec]; exact hR.2.2.1 d s z hd hs hz hnz
  · rw [ec] at hd4
    have := hR.2.2.2.2.2 d hd hd4
    simp only [ec]
    exact this
theorem ed_ws {R : Nat → Int32} (hS : Sh R) {c : Nat} (v : Int32) (hc : c < nC R) {x y : Nat} (hx : x < nH R) (hy : y < nH R) : ws (ed R c v) x y = ws R x y := by
  have h10 := sh_H10 hS
  have ez : ∀ z, z < nH R → sz (ed R c v) z = sz R z := fun z hz => by
    have h5 := sh_R5 hS hz
    unfold sz
    rw [(ed_ss hS v hc).R hz]
    exact su_cg fun r hr => ed_o R v (by omega) (by omega) (by omega)
  unfold ws
  rw [ez x hx, ez y hy]
theorem mx_d {t : Nat} (ht : t ≤ 20) : mx (nv 0) (mn (nv 20) (nv t + -nv 2)) = nv (t - 2) ∧ mx (nv 0) (nv t - nv 2) = nv (t - 2) ∧ mx (nv 0) (mn (nv 20) (nv (t + 1))) = nv (min 20 (t + 1)) ∧ mn (nv 20) (nv (t + 1)) = nv (min 20 (t + 1)) := by
  have hf : ∀ t : Fin 21, mx (nv 0) (mn (nv 20) (nv t.val + -nv 2)) = nv (t.val - 2) ∧ mx (nv 0) (nv t.val - nv 2) = nv (t.val - 2) ∧ mx (nv 0) (mn (nv 20) (nv (t.val + 1))) = nv (min 20 (t.val + 1)) ∧ mn (nv 20) (nv (t.val + 1)) = nv (min 20 (t.val + 1)) := by decide +kernel
  exact hf ⟨t, by omega⟩
/-- the twin's row at the end: laid in another order -/
theorem clr_t (E : Nat → Int32) {x y u : Nat} (w t : Int32) (hu : u < 4) : up1 (sh2 (up1 E (11 + u) t) x y w) 5 (E 5 + nv 1) = clr E x y w u t 0 := by
  unfold clr sh2
  rw [if_pos rfl, up1_cm E t w (show 11 + u ≠ 85 + 10 * x + y by omega), up1_cm _ t (tn w) (show 11 + u ≠ 85 + 10 * y + x by omega)]
theorem Tn.eq {G : Nat → Nat} {a c : Hp} {R R' : Nat → Int32} (h : Tn G a c R) (e : R = R') : Tn G a c R' := e ▸ h
theorem add_n0 (x : Int32) : x + nv 0 = x := Int32.add_zero x
theorem act_close {G : Nat → Nat} {B : Nat → Nat × Nat} {S : Gst} {a : Hp} (hC : JC G B S a) (v : Int32) : Act κi G B S a (X1_close (G 0) v) (X5_close (G 10) v) := by
  obtain ⟨L, R, hM, hR, hX, h0⟩ := startC hC
  have hG := hC.1.gd
  have hJ := hC.2.1
  have hS := hR.1
  have hP := hR.2.2.1
  have h10 := sh_H10 hS
  have h20 := sh_C20 hS
  have hT4 := sh_T4 hS
  by_cases hv : inr v (nC R)
  · obtain ⟨c, rfl, hc⟩ := inr_k hv
    by_cases h4 : cs R c 4 = nv 0
    · by_cases he : en R c
      · have sh0 := sh_SH hS hc (show 0 < 2 by omega)
        have sh1 := sh_SH hS hc (show 1 < 2 by omega)
        have ne := (hS.2.2.2.2 c hc).2.2.1
        have hu := sh_WT hS hc
        have ew : cs R c 0 = nv (who R c) := sh_W hS hc
        have ea0 : cs R c 1 = nv (sd R c 0) := sh_S hS hc (s := 0) (by omega)
        have ea1 : cs R c 2 = nv (sd R c 1) := sh_S hS hc (s := 1) (by omega)
        have hwl := wd_lf hR hc h4
        have hw3 : W3 (ws R (sd R c 0) (sd R c 1)) := wd_3 _ _
        obtain ⟨t, ht, et⟩ := hR.2.2.2.2.1 (who R c) hu
        obtain ⟨m1, m2, m3, m4⟩ := mx_d ht
        by_cases p1 : ws R (sd R c 0) (sd R c 1) = cs R c 3
        · by_cases p2 : we R (R 2) (sd R c 0) (sd R c 1) = cs R c 3
          · have p1' := eq_true p1
            have p2' := eq_true p2
            have hE := ed_ro hR hc (v := nv 1) (by decide)
            have hss := ed_ss hS (nv 1) hc
            obtain ⟨E, eE⟩ : ∃ E, E = ed R c (nv 1) := ⟨_, rfl⟩
            have eo : ∀ i, i ≠ 185 + 18 * c + 4 → i ≠ 185 + 18 * c + 6 → i ≠ 185 + 18 * c + 7 → E i = R i := fun i g1 g2 g3 => by rw [eE]; exact ed_o R _ g1 g2 g3
            have ews : ws E (sd R c 0) (sd R c 1) = ws R (sd R c 0) (sd R c 1) := by rw [eE]; exact ed_ws hS _ hc sh0 sh1
            rw [← eE] at hE hss
            have hcE : c < nC E := by rw [hss.C]; exact hc
            have hRf : Ro (clr E (sd R c 0) (sd R c 1) (ws R (sd R c 0) (sd R c 1)) (who R c) (nv (min 20 (t + 1))) 0) := by
              have := clr_ro hE (x := sd R c 0) (y := sd R c 1) (u := who R c) (t := min 20 (t + 1)) (i := 0) (by rw [hss.H]; exact sh0) (by rw [hss.H]; exact sh1) ne (by rw [hss.T]; exact hu) (by omega) (by omega)
              rw [ews] at this
              exact this
            simp (disch := omega) only [X1_close, ↓w_bd, ↓w_rt, ↓w_bh, sm_l, sm_r, ↓w_okr, ↓w_nm, ↓w_ite, ↓reduceIte, not_true_eq_false, not_false_eq_true, and_true, true_and, and_self, Option.some.injEq, reduceCtorEq, eq_self, ↓w_rc, ↓w_gI, ↓w_gR, ↓w_aN, ↓w_aI, ↓w_aR, ↓w_aL, ↓w_pI, ↓w_pR, ↓w_sI, ↓w_sR, ↓w_sL, ↓w_nO, ↓w_nA, ↓w_nL, ↓w_ca, ↓w_ca0, ↓w_gS, ↓w_gK, ↓w_dv, ↓w_tw, ↓w_rz, ↓w_no, nv_lit, nv_f, nv_add, nv_mul, nv_sub, nv_le, nv_lt, nv_eq, nv_cl, Nat.reduceMod, Nat.reduceMul, Nat.reduceAdd, Nat.zero_add, Nat.add_zero, Nat.mul_zero, decide_eq_true_eq, nv_inT, mk_k hM, mk_n hM, mk_r hM, mk_i hM, hX, hJ, X1_isBetween_w, X1_requireArgument_1 n10, X1_requireArgument_0, X1_requireIndex_1 n10, X1_requireIndex_0, Nat.reduceEqDiff, okn, X1_claimOf_1 hM hX, X8_isOpen_c1 hM hc h4, X2_isEnded_1 hM hS hP hc he, n10]
            refine keep_c hC (E0.rf a) h0 _ fun d B' L' q1 q2 q3 hMd hXd hCd z l => ?_
            have hJd := q1.2.1
            simp (disch := omega) only [↓w_bd, ↓w_rt, ↓w_bh, sm_l, sm_r, ↓w_okr, ↓w_nm, ↓w_ite, ↓reduceIte, not_true_eq_false, not_false_eq_true, and_true, true_and, and_self, Option.some.injEq, reduceCtorEq, eq_self, ↓w_rc, ↓w_gI, ↓w_gR, ↓w_aN, ↓w_aI, ↓w_aR, ↓w_aL, ↓w_pI, ↓w_pR, ↓w_sI, ↓w_sR, ↓w_sL, ↓w_nO, ↓w_nA, ↓w_nL, ↓w_ca, ↓w_ca0, ↓w_gS, ↓w_gK, ↓w_dv, ↓w_tw, ↓w_rz, ↓w_no, nv_lit, nv_f, nv_add, nv_mul, nv_sub, nv_le, nv_lt, nv_eq, nv_cl, Nat.reduceMod, Nat.reduceMul, Nat.reduceAdd, Nat.zero_add, Nat.add_zero, Nat.mul_zero, decide_eq_true_eq, nv_inT, mk_k hMd, mk_r hMd, mk_n hMd, mk_i hMd, hXd, hJd, okn, X2_close, X2_close_19, X2_close_48, X2_close_61, X2_shows_w hMd hS hP hc, hwl, ea0, ea1, X2_eyeWord_w hMd sh0 sh1, p1', p2', n10]
            refine X2_ends_w hCd hS hP hc _ _ fun b hb hz hl => ?_
            rw [← eE] at hb
            have hMb := hb.1
            have hXb := hb.2.2.2.1 hXd
            have eE1 : cs E c 1 = nv (sd R c 0) := (eo _ (by omega) (by omega) (by omega)).trans ea0
            have eE2 : cs E c 2 = nv (sd R c 1) := (eo _ (by omega) (by omega) (by omega)).trans ea1
            have eE0 : cs E c 0 = nv (who R c) := (eo _ (by omega) (by omega) (by omega)).trans ew
            have c1 := hb.show (show sd R c 0 < 10 by omega) (show sd R c 1 < 10 by omega) ne hw3
            have hM1 := c1.1
            obtain ⟨F, eF⟩ : ∃ F, F = sh2 E (sd R c 0) (sd R c 1) (ws R (sd R c 0) (sd R c 1)) := ⟨_, rfl⟩
            rw [← eF] at c1 hM1
            have eFo : ∀ i, i < 85 ∨ 185 ≤ i → F i = E i := fun i g => by rw [eF]; unfold sh2; rw [up1_o _ _ _ (by omega), up1_o _ _ _ (by omega)]
            have nF : nC F = nC E ∧ nT F = nT R := ⟨by unfold nC; rw [eFo _ (by omega)], by unfold nT; rw [eFo _ (by omega), eo _ (by omega) (by omega) (by omega)]⟩
            have hcF : c < nC F := by rw [nF.1]; exact hcE
            have huF : who R c < nT F := by rw [nF.2]; exact hu
            have eF0 : cs F c 0 = nv (who R c) := (eFo _ (by omega)).trans eE0
            have eFt : F (11 + who R c) = nv t := (eFo _ (by omega)).trans ((eo _ (by omega) (by omega) (by omega)).trans et)
            have c2 := c1.wI (nv (min 20 (t + 1))) (ci_tr F huF) (by omega) (by omega) (by omega) (fun z _ => by omega) (by omega)
            have hM2 := c2.1
            obtain ⟨T, eT⟩ : ∃ T, T = up1 F (11 + who R c) (nv (min 20 (t + 1))) := ⟨_, rfl⟩
            rw [← eT] at c2 hM2
            have eTo : ∀ i, i < 11 → T i = E i := fun i g => by rw [eT, up1_o _ _ _ (by omega)]; exact eFo i (by omega)
            have c3 := c2.wI (E 5 + nv 1) (ci_ta T (j := 1) (by omega)) (by omega) (by omega) (by omega) (fun z _ => by omega) (by omega)
            have hM3 := c3.1
            have e5 : T 5 = E 5 := eTo _ (by omega)
            simp (disch := omega) only [↓w_bd, ↓w_rt, ↓w_bh, sm_l, sm_r, ↓w_okr, ↓w_nm, ↓w_ite, ↓reduceIte, not_true_eq_false, not_false_eq_true, and_true, true_and, and_self, Option.some.injEq, reduceCtorEq, eq_self, ↓w_rc, ↓w_gI, ↓w_gR, ↓w_aN, ↓w_aI, ↓w_aR, ↓w_aL, ↓w_pI, ↓w_pR, ↓w_sI, ↓w_sR, ↓w_sL, ↓w_nO, ↓w_nA, ↓w_nL, ↓w_ca, ↓w_ca0, ↓w_gS, ↓w_gK, ↓w_dv, ↓w_tw, ↓w_rz, ↓w_no, nv_lit, nv_f, nv_add, nv_mul, nv_sub, nv_le, nv_lt, nv_eq, nv_cl, Nat.reduceMod, Nat.reduceMul, Nat.reduceAdd, Nat.zero_add, Nat.add_zero, Nat.mul_zero, decide_eq_true_eq, nv_inT, mk_k hMb, mk_r hMb, mk_n hMb, mk_i hMb, hXb, eE1, eE2, eE0, X2_show_w hMb (show sd R c 0 < 10 by omega) (show sd R c 1 < 10 by omega) ne hw3, mk_k hM1, mk_r hM1, mk_n hM1, mk_i hM1, eF0, eFt, X2_close_123, X2_close_154, X2_close_159, J12_max_w, J12_min_w, m2, m4, nr41, okn, n10, mk_k hM2, mk_r hM2, mk_n hM2, mk_i hM2, e5, mk_k hM3, mk_r hM3, mk_n hM3, mk_i hM3, show ¬ nv 0 = nv 1 by decide]
            have ecl : up1 T (4 + 1) (E 5 + nv 1) = clr E (sd R c 0) (sd R c 1) (ws R (sd R c 0) (sd R c 1)) (who R c) (nv (min 20 (t + 1))) 0 := by
              unfold clr
              rw [if_pos rfl, ← eF, ← eT]
            have cf := c3
            rw [ecl] at cf
            refine ap_now hC h0 q2 q3 q1 cf (fun _ _ => rfl) hRf ?_ ?_ fun c' hc' Q hQ => ?_
            · show hSz b + 1 ≤ _
              omega
            · show hSl b + 3 ≤ _
              omega
            · obtain ⟨hF, hF0⟩ := jt_f0 hG hc' h0
              have t5 := th_5 G c' (nv 0)
              simp (disch := omega) only [X5_close, ↓w_bd, ↓w_rt, ↓w_bh, sm_l, sm_r, ↓w_okr, ↓w_nm, ↓w_ite, ↓reduceIte, not_true_eq_false, not_false_eq_true, and_true, true_and, and_self, Option.some.injEq, reduceCtorEq, eq_self, ↓w_rc, ↓w_gI, ↓w_gR, ↓w_aN, ↓w_aI, ↓w_aR, ↓w_aL, ↓w_pI, ↓w_pR, ↓w_sI, ↓w_sR, ↓w_sL, ↓w_nO, ↓w_nA, ↓w_nL, ↓w_ca, ↓w_ca0, ↓w_gS, ↓w_gK, ↓w_dv, ↓w_tw, ↓w_rz, ↓w_no, nv_lit, nv_f, nv_add, nv_mul, nv_sub, nv_le, nv_lt, nv_eq, nv_cl, Nat.reduceMod, Nat.reduceMul, Nat.reduceAdd, Nat.zero_add, Nat.add_zero, Nat.mul_zero, decide_eq_true_eq, nv_inT, th_f, th_K, th_N, th_R, th_5, th_2, okn0, Nat.reduceEqDiff, hF.1, hF0.1, X5_in_w, X5_holds_1 hF0.1.1.1 t5 n10, X5_holds_0 hF0.1.1.1 t5, n10, X5_isClaim_1 hF0 hS hv, X5_isOpen_1 hF0 (show c < 20 by omega) h4, X5_isEnded_1 hF0 hS hc he]
              refine keeps_t hC hc' (Sx.rf _ _) h0 L' _ fun d2 k1 k3 k2 hF3 => ?_
              simp (disch := omega) only [↓w_bd, ↓w_rt, ↓w_bh, sm_l, sm_r, ↓w_okr, ↓w_nm, ↓w_ite, ↓reduceIte, not_true_eq_false, not_false_eq_true, and_true, true_and, and_self, Option.some.injEq, reduceCtorEq, eq_self, ↓w_rc, ↓w_gI, ↓w_gR, ↓w_aN, ↓w_aI, ↓w_aR, ↓w_aL, ↓w_pI, ↓w_pR, ↓w_sI, ↓w_sR, ↓w_sL, ↓w_nO, ↓w_nA, ↓w_nL, ↓w_ca, ↓w_ca0, ↓w_gS, ↓w_gK, ↓w_dv, ↓w_tw, ↓w_rz, ↓w_no, nv_lit, nv_f, nv_add, nv_mul, nv_sub, nv_le, nv_lt, nv_eq, nv_cl, Nat.reduceMod, Nat.reduceMul, Nat.reduceAdd, Nat.zero_add, Nat.add_zero, Nat.mul_zero, decide_eq_true_eq, nv_inT, hF3.1, X5_leftOf_w hF3 hS, X5_word_w, hwl, X5_sideOf_w hF3 hS, X5_cl_w hF3, p1', X5_close_98, X5_wordByEye_w hF3 hS, p2', X5_close_121, ew, n10, X5_close_146]
              refine X5_ends_w hG hF3 (Tn.rf hF3) hS hP hc _ _ fun d3 ht3 => ?_
              rw [← eE] at ht3
              have hF4 := ht3.fo hF3
              have eEt : E (11 + who R c) = nv t := (eo _ (by omega) (by omega) (by omega)).trans et
              have t6 := ht3.lay hG (k := 11 + who R c) (by omega) (nv (min 20 (t + 1)))
              have f6 := t6.fo hF3
              have t7 := (t6.lay hG (k := 85 + 10 * sd R c 0 + sd R c 1) (by omega) (ws R (sd R c 0) (sd R c 1))).lay hG (k := 85 + 10 * sd R c 1 + sd R c 0) (by omega) (tn (ws R (sd R c 0) (sd R c 1)))
              have f7 := t7.fo hF3
              have o7 : ∀ i, i < 11 → up1 (up1 (up1 E (11 + who R c) (nv (min 20 (t + 1)))) (85 + 10 * sd R c 0 + sd R c 1) (ws R (sd R c 0) (sd R c 1))) (85 + 10 * sd R c 1 + sd R c 0) (tn (ws R (sd R c 0) (sd R c 1))) i = E i := fun i hi => by rw [up1_o _ _ _ (by omega), up1_o _ _ _ (by omega), up1_o _ _ _ (by omega)]
              have t8 := t7.lay hG (k := 5) (by omega) (E 5 + nv 1)
              have e8 := clr_t E (x := sd R c 0) (y := sd R c 1) (ws R (sd R c 0) (sd R c 1)) (nv (min 20 (t + 1))) (show who R c < 4 by omega)
              unfold sh2 at e8
              rw [e8] at t8
              have f8 := t8.fo hF3
              obtain ⟨C, eC⟩ : ∃ C, C = clr E (sd R c 0) (sd R c 1) (ws R (sd R c 0) (sd R c 1)) (who R c) (nv (min 20 (t + 1))) 0 := ⟨_, rfl⟩
              rw [← eC] at t8 f8
              have t9 := t8.lay hG (k := 9) (by omega) (C 9)
              have f9 := t9.fo hF3
              rw [up1_id] at t9 f9
              have t10 := t9.lay hG (k := 10) (by omega) (C 10)
              simp (disch := omega) only [↓w_bd, ↓w_rt, ↓w_bh, sm_l, sm_r, ↓w_okr, ↓w_nm, ↓w_ite, ↓reduceIte, not_true_eq_false, not_false_eq_true, and_true, true_and, and_self, Option.some.injEq, reduceCtorEq, eq_self, ↓w_rc, ↓w_gI, ↓w_gR, ↓w_aN, ↓w_aI, ↓w_aR, ↓w_aL, ↓w_pI, ↓w_pR, ↓w_sI, ↓w_sR, ↓w_sL, ↓w_nO, ↓w_nA, ↓w_nL, ↓w_ca, ↓w_ca0, ↓w_gS, ↓w_gK, ↓w_dv, ↓w_tw, ↓w_rz, ↓w_no, nv_lit, nv_f, nv_add, nv_mul, nv_sub, nv_le, nv_lt, nv_eq, nv_cl, Nat.reduceMod, Nat.reduceMul, Nat.reduceAdd, Nat.zero_add, Nat.add_zero, Nat.mul_zero, decide_eq_true_eq, nv_inT, hF4.1, X5_get_w hF4, eEt, n10, X5_close_172, J12_max_w, J12_min_w, m1, m3, X5_lay_w hF4, ly_K, X5_layFact_w f6 hG (show sd R c 0 < 10 by omega) (show sd R c 1 < 10 by omega) (w3_m1 hw3), X5_tallies_w f7, o7, X5_close_212, X5_close_213, X5_one_0, X5_one_1, X5_tallies_w f8, X5_close_236, X5_close_237, X5_tallies_w f9, add_n0]
              have ec : ∀ i, i < 11 → i ≠ 5 → C i = E i := fun i g g5 => by rw [eC]; unfold clr sh2; rw [if_pos rfl, up1_o _ _ _ (by omega), up1_o _ _ _ (by omega), up1_o _ _ _ (by omega), up1_o _ _ _ (by omega)]
              rw [up1_id] at t10
              exact hQ _ _ k1 k3 k2 (t10.eq eC)
          · have p1' := eq_true p1
            have p2' := eq_false p2
            have hE := ed_ro hR hc (v := nv 1) (by decide)
            have hss := ed_ss hS (nv 1) hc
            obtain ⟨E, eE⟩ : ∃ E, E = ed R c (nv 1) := ⟨_, rfl⟩
            have eo : ∀ i, i ≠ 185 + 18 * c + 4 → i ≠ 185 + 18 * c + 6 → i ≠ 185 + 18 * c + 7 → E i = R i := fun i g1 g2 g3 => by rw [eE]; exact ed_o R _ g1 g2 g3
            have ews : ws E (sd R c 0) (sd R c 1) = ws R (sd R c 0) (sd R c 1) := by rw [eE]; exact ed_ws hS _ hc sh0 sh1
            rw [← eE] at hE hss
            have hcE : c < nC E := by rw [hss.C]; exact hc
            have hRf : Ro (clr E (sd R c 0) (sd R c 1) (ws R (sd R c 0) (sd R c 1)) (who R c) (nv (min 20 (t + 1))) 5) := by
              have := clr_ro hE (x := sd R c 0) (y := sd R c 1) (u := who R c) (t := min 20 (t + 1)) (i := 5) (by rw [hss.H]; exact sh0) (by rw [hss.H]; exact sh1) ne (by rw [hss.T]; exact hu) (by omega) (by omega)
              rw [ews] at this
              exact this
            simp (disch := omega) only [X1_close, ↓w_bd, ↓w_rt, ↓w_bh, sm_l, sm_r, ↓w_okr, ↓w_nm, ↓w_ite, ↓reduceIte, not_true_eq_false, not_false_eq_true, and_true, true_and, and_self, Option.some.injEq, reduceCtorEq, eq_self, ↓w_rc, ↓w_gI, ↓w_gR, ↓w_aN, ↓w_aI, ↓w_aR, ↓w_aL, ↓w_pI, ↓w_pR, ↓w_sI, ↓w_sR, ↓w_sL, ↓w_nO, ↓w_nA, ↓w_nL, ↓w_ca, ↓w_ca0, ↓w_gS, ↓w_gK, ↓w_dv, ↓w_tw, ↓w_rz, ↓w_no, nv_lit, nv_f, nv_add, nv_mul, nv_sub, nv_le, nv_lt, nv_eq, nv_cl, Nat.reduceMod, Nat.reduceMul, Nat.reduceAdd, Nat.zero_add, Nat.add_zero, Nat.mul_zero, decide_eq_true_eq, nv_inT, mk_k hM, mk_n hM, mk_r hM, mk_i hM, hX, hJ, X1_isBetween_w, X1_requireArgument_1 n10, X1_requireArgument_0, X1_requireIndex_1 n10, X1_requireIndex_0, Nat.reduceEqDiff, okn, X1_claimOf_1 hM hX, X8_isOpen_c1 hM hc h4, X2_isEnded_1 hM hS hP hc he, n10]
            refine keep_c hC (E0.rf a) h0 _ fun d B' L' q1 q2 q3 hMd hXd hCd z l => ?_
            have hJd := q1.2.1
            simp (disch := omega) only [↓w_bd, ↓w_rt, ↓w_bh, sm_l, sm_r, ↓w_okr, ↓w_nm, ↓w_ite, ↓reduceIte, not_true_eq_false, not_false_eq_true, and_true, true_and, and_self, Option.some.injEq, reduceCtorEq, eq_self, ↓w_rc, ↓w_gI, ↓w_gR, ↓w_aN, ↓w_aI, ↓w_aR, ↓w_aL, ↓w_pI, ↓w_pR, ↓w_sI, ↓w_sR, ↓w_sL, ↓w_nO, ↓w_nA, ↓w_nL, ↓w_ca, ↓w_ca0, ↓w_gS, ↓w_gK, ↓w_dv, ↓w_tw, ↓w_rz, ↓w_no, nv_lit, nv_f, nv_add, nv_mul, nv_sub, nv_le, nv_lt, nv_eq, nv_cl, Nat.reduceMod, Nat.reduceMul, Nat.reduceAdd, Nat.zero_add, Nat.add_zero, Nat.mul_zero, decide_eq_true_eq, nv_inT, mk_k hMd, mk_r hMd, mk_n hMd, mk_i hMd, hXd, hJd, okn, X2_close, X2_close_19, X2_close_48, X2_close_61, X2_shows_w hMd hS hP hc, hwl, ea0, ea1, X2_eyeWord_w hMd sh0 sh1, p1', p2', n10]
            refine X2_ends_w hCd hS hP hc _ _ fun b hb hz hl => ?_
            rw [← eE] at hb
            have hMb := hb.1
            have hXb := hb.2.2.2.1 hXd
            have eE1 : cs E c 1 = nv (sd R c 0) := (eo _ (by omega) (by omega) (by omega)).trans ea0
            have eE2 : cs E c 2 = nv (sd R c 1) := (eo _ (by omega) (by omega) (by omega)).trans ea1
            have eE0 : cs E c 0 = nv (who R c) := (eo _ (by omega) (by omega) (by omega)).trans ew
            have c1 := hb.show (show sd R c 0 < 10 by omega) (show sd R c 1 < 10 by omega) ne hw3
            have hM1 := c1.1
            obtain ⟨F, eF⟩ : ∃ F, F = sh2 E (sd R c 0) (sd R c 1) (ws R (sd R c 0) (sd R c 1)) := ⟨_, rfl⟩
            rw [← eF] at c1 hM1
            have eFo : ∀ i, i < 85 ∨ 185 ≤ i → F i = E i := fun i g => by rw [eF]; unfold sh2; rw [up1_o _ _ _ (by omega), up1_o _ _ _ (by omega)]
            have nF : nC F = nC E ∧ nT F = nT R := ⟨by unfold nC; rw [eFo _ (by omega)], by unfold nT; rw [eFo _ (by omega), eo _ (by omega) (by omega) (by omega)]⟩
            have hcF : c < nC F := by rw [nF.1]; exact hcE
            have huF : who R c < nT F := by rw [nF.2]; exact hu
            have eF0 : cs F c 0 = nv (who R c) := (eFo _ (by omega)).trans eE0
            have eFt : F (11 + who R c) = nv t := (eFo _ (by omega)).trans ((eo _ (by omega) (by omega) (by omega)).trans et)
            have c2 := c1.wI (nv (min 20 (t + 1))) (ci_tr F huF) (by omega) (by omega) (by omega) (fun z _ => by omega) (by omega)
            have hM2 := c2.1
            obtain ⟨T, eT⟩ : ∃ T, T = up1 F (11 + who R c) (nv (min 20 (t + 1))) := ⟨_, rfl⟩
            rw [← eT] at c2 hM2
            have eTo : ∀ i, i < 11 → T i = E i := fun i g => by rw [eT, up1_o _ _ _ (by omega)]; exact eFo i (by omega)
            have c3 := c2.wI (E 5 + nv 1) (ci_ta T (j := 1) (by omega)) (by omega) (by omega) (by omega) (fun z _ => by omega) (by omega)
            have hM3 := c3.1
            have e5 : T 5 = E 5 := eTo _ (by omega)
            obtain ⟨T1, eT1⟩ : ∃ T1, T1 = up1 T (4 + 1) (E 5 + nv 1) := ⟨_, rfl⟩
            rw [← eT1] at c3 hM3
            have e6 : T1 9 = E 9 := by rw [eT1, up1_o _ _ _ (by omega)]; exact eTo _ (by omega)
            have c4 := c3.wI (E (4 + 5) + nv 1) (ci_ta T1 (j := 5) (by omega)) (by omega) (by omega) (by omega) (fun z _ => by omega) (by omega)
            simp (disch := omega) only [↓w_bd, ↓w_rt, ↓w_bh, sm_l, sm_r, ↓w_okr, ↓w_nm, ↓w_ite, ↓reduceIte, not_true_eq_false, not_false_eq_true, and_true, true_and, and_self, Option.some.injEq, reduceCtorEq, eq_self, ↓w_rc, ↓w_gI, ↓w_gR, ↓w_aN, ↓w_aI, ↓w_aR, ↓w_aL, ↓w_pI, ↓w_pR, ↓w_sI, ↓w_sR, ↓w_sL, ↓w_nO, ↓w_nA, ↓w_nL, ↓w_ca, ↓w_ca0, ↓w_gS, ↓w_gK, ↓w_dv, ↓w_tw, ↓w_rz, ↓w_no, nv_lit, nv_f, nv_add, nv_mul, nv_sub, nv_le, nv_lt, nv_eq, nv_cl, Nat.reduceMod, Nat.reduceMul, Nat.reduceAdd, Nat.zero_add, Nat.add_zero, Nat.mul_zero, decide_eq_true_eq, nv_inT, mk_k hMb, mk_r hMb, mk_n hMb, mk_i hMb, hXb, eE1, eE2, eE0, X2_show_w hMb (show sd R c 0 < 10 by omega) (show sd R c 1 < 10 by omega) ne hw3, mk_k hM1, mk_r hM1, mk_n hM1, mk_i hM1, eF0, eFt, X2_close_123, X2_close_154, X2_close_159, J12_max_w, J12_min_w, m2, m4, nr41, okn, n10, mk_k hM2, mk_r hM2, mk_n hM2, mk_i hM2, e5, mk_k hM3, mk_r hM3, mk_n hM3, mk_i hM3, show ¬ nv 0 = nv 1 by decide, e6]
            have ecl : up1 T1 (4 + 5) (E (4 + 5) + nv 1) = clr E (sd R c 0) (sd R c 1) (ws R (sd R c 0) (sd R c 1)) (who R c) (nv (min 20 (t + 1))) 5 := by
              unfold clr
              rw [if_neg (by omega), ← eF, ← eT, ← eT1]
            have cf := c4
            rw [ecl] at cf
            refine ap_now hC h0 q2 q3 q1 cf (fun _ _ => rfl) hRf ?_ ?_ fun c' hc' Q hQ => ?_
            · show hSz b + 1 ≤ _
              omega
            · show hSl b + 3 ≤ _
              omega
            · obtain ⟨hF, hF0⟩ := jt_f0 hG hc' h0
              have t5 := th_5 G c' (nv 0)
              simp (disch := omega) only [X5_close, ↓w_bd, ↓w_rt, ↓w_bh, sm_l, sm_r, ↓w_okr, ↓w_nm, ↓w_ite, ↓reduceIte, not_true_eq_false, not_false_eq_true, and_true, true_and, and_self, Option.some.injEq, reduceCtorEq, eq_self, ↓w_rc, ↓w_gI, ↓w_gR, ↓w_aN, ↓w_aI, ↓w_aR, ↓w_aL, ↓w_pI, ↓w_pR, ↓w_sI, ↓w_sR, ↓w_sL, ↓w_nO, ↓w_nA, ↓w_nL, ↓w_ca, ↓w_ca0, ↓w_gS, ↓w_gK, ↓w_dv, ↓w_tw, ↓w_rz, ↓w_no, nv_lit, nv_f, nv_add, nv_mul, nv_sub, nv_le, nv_lt, nv_eq, nv_cl, Nat.reduceMod, Nat.reduceMul, Nat.reduceAdd, Nat.zero_add, Nat.add_zero, Nat.mul_zero, decide_eq_true_eq, nv_inT, th_f, th_K, th_N, th_R, th_5, th_2, okn0, Nat.reduceEqDiff, hF.1, hF0.1, X5_in_w, X5_holds_1 hF0.1.1.1 t5 n10, X5_holds_0 hF0.1.1.1 t5, n10, X5_isClaim_1 hF0 hS hv, X5_isOpen_1 hF0 (show c < 20 by omega) h4, X5_isEnded_1 hF0 hS hc he]
              refine keeps_t hC hc' (Sx.rf _ _) h0 L' _ fun d2 k1 k3 k2 hF3 => ?_
              simp (disch := omega) only [↓w_bd, ↓w_rt, ↓w_bh, sm_l, sm_r, ↓w_okr, ↓w_nm, ↓w_ite, ↓reduceIte, not_true_eq_false, not_false_eq_true, and_true, true_and, and_self, Option.some.injEq, reduceCtorEq, eq_self, ↓w_rc, ↓w_gI, ↓w_gR, ↓w_aN, ↓w_aI, ↓w_aR, ↓w_aL, ↓w_pI, ↓w_pR, ↓w_sI, ↓w_sR, ↓w_sL, ↓w_nO, ↓w_nA, ↓w_nL, ↓w_ca, ↓w_ca0, ↓w_gS, ↓w_gK, ↓w_dv, ↓w_tw, ↓w_rz, ↓w_no, nv_lit, nv_f, nv_add, nv_mul, nv_sub, nv_le, nv_lt, nv_eq, nv_cl, Nat.reduceMod, Nat.reduceMul, Nat.reduceAdd, Nat.zero_add, Nat.add_zero, Nat.mul_zero, decide_eq_true_eq, nv_inT, hF3.1, X5_leftOf_w hF3 hS, X5_word_w, hwl, X5_sideOf_w hF3 hS, X5_cl_w hF3, p1', X5_close_98, X5_wordByEye_w hF3 hS, p2', X5_close_121, ew, n10, X5_close_146]
              refine X5_ends_w hG hF3 (Tn.rf hF3) hS hP hc _ _ fun d3 ht3 => ?_
              rw [← eE] at ht3
              have hF4 := ht3.fo hF3
              have eEt : E (11 + who R c) = nv t := (eo _ (by omega) (by omega) (by omega)).trans et
              have t6 := ht3.lay hG (k := 11 + who R c) (by omega) (nv (min 20 (t + 1)))
              have f6 := t6.fo hF3
              have t7 := (t6.lay hG (k := 85 + 10 * sd R c 0 + sd R c 1) (by omega) (ws R (sd R c 0) (sd R c 1))).lay hG (k := 85 + 10 * sd R c 1 + sd R c 0) (by omega) (tn (ws R (sd R c 0) (sd R c 1)))
              have f7 := t7.fo hF3
              have o7 : ∀ i, i < 11 → up1 (up1 (up1 E (11 + who R c) (nv (min 20 (t + 1)))) (85 + 10 * sd R c 0 + sd R c 1) (ws R (sd R c 0) (sd R c 1))) (85 + 10 * sd R c 1 + sd R c 0) (tn (ws R (sd R c 0) (sd R c 1))) i = E i := fun i hi => by rw [up1_o _ _ _ (by omega), up1_o _ _ _ (by omega), up1_o _ _ _ (by omega)]
              have t8 := t7.lay hG (k := 5) (by omega) (E 5 + nv 1)
              have e8 := clr_t E (x := sd R c 0) (y := sd R c 1) (ws R (sd R c 0) (sd R c 1)) (nv (min 20 (t + 1))) (show who R c < 4 by omega)
              unfold sh2 at e8
              rw [e8] at t8
              have f8 := t8.fo hF3
              obtain ⟨C, eC⟩ : ∃ C, C = clr E (sd R c 0) (sd R c 1) (ws R (sd R c 0) (sd R c 1)) (who R c) (nv (min 20 (t + 1))) 0 := ⟨_, rfl⟩
              rw [← eC] at t8 f8
              have t9 := t8.lay hG (k := 9) (by omega) (C 9 + nv 1)
              have f9 := t9.fo hF3
              have o9 : up1 C 9 (C 9 + nv 1) 10 = C 10 := up1_o _ _ _ (by omega)
              have t10 := t9.lay hG (k := 10) (by omega) (C 10)
              simp (disch := omega) only [↓w_bd, ↓w_rt, ↓w_bh, sm_l, sm_r, ↓w_okr, ↓w_nm, ↓w_ite, ↓reduceIte, not_true_eq_false, not_false_eq_true, and_true, true_and, and_self, Option.some.injEq, reduceCtorEq, eq_self, ↓w_rc, ↓w_gI, ↓w_gR, ↓w_aN, ↓w_aI, ↓w_aR, ↓w_aL, ↓w_pI, ↓w_pR, ↓w_sI, ↓w_sR, ↓w_sL, ↓w_nO, ↓w_nA, ↓w_nL, ↓w_ca, ↓w_ca0, ↓w_gS, ↓w_gK, ↓w_dv, ↓w_tw, ↓w_rz, ↓w_no, nv_lit, nv_f, nv_add, nv_mul, nv_sub, nv_le, nv_lt, nv_eq, nv_cl, Nat.reduceMod, Nat.reduceMul, Nat.reduceAdd, Nat.zero_add, Nat.add_zero, Nat.mul_zero, decide_eq_true_eq, nv_inT, hF4.1, X5_get_w hF4, eEt, n10, X5_close_172, J12_max_w, J12_min_w, m1, m3, X5_lay_w hF4, ly_K, X5_layFact_w f6 hG (show sd R c 0 < 10 by omega) (show sd R c 1 < 10 by omega) (w3_m1 hw3), X5_tallies_w f7, o7, X5_close_212, X5_close_213, X5_one_0, X5_one_1, X5_tallies_w f8, X5_close_236, X5_close_237, X5_tallies_w f9, add_n0, o9]
              have ec : ∀ i, i < 11 → i ≠ 5 → C i = E i := fun i g g5 => by rw [eC]; unfold clr sh2; rw [if_pos rfl, up1_o _ _ _ (by omega), up1_o _ _ _ (by omega), up1_o _ _ _ (by omega), up1_o _ _ _ (by omega)]
              have ef : up1 (up1 C 9 (C 9 + nv 1)) 10 (C 10) = clr E (sd R c 0) (sd R c 1) (ws R (sd R c 0) (sd R c 1)) (who R c) (nv (min 20 (t + 1))) 5 := by
                rw [← o9, up1_id, ec 9 (by omega) (by omega), eC]
                rfl
              exact hQ _ _ k1 k3 k2 (t10.eq ef)
        · by_cases p2 : we R (R 2) (sd R c 0) (sd R c 1) = cs R c 3
          · have p1' := eq_false p1
            have p2' := eq_true p2
            have hE := ed_ro hR hc (v := nv 2) (by decide)
            have hss := ed_ss hS (nv 2) hc
            obtain ⟨E, eE⟩ : ∃ E, E = ed R c (nv 2) := ⟨_, rfl⟩
            have eo : ∀ i, i ≠ 185 + 18 * c + 4 → i ≠ 185 + 18 * c + 6 → i ≠ 185 + 18 * c + 7 → E i = R i := fun i g1 g2 g3 => by rw [eE]; exact ed_o R _ g1 g2 g3
            have ews : ws E (sd R c 0) (sd R c 1) = ws R (sd R c 0) (sd R c 1) := by rw [eE]; exact ed_ws hS _ hc sh0 sh1
            rw [← eE] at hE hss
            have hcE : c < nC E := by rw [hss.C]; exact hc
            have hRf : Ro (clr E (sd R c 0) (sd R c 1) (ws R (sd R c 0) (sd R c 1)) (who R c) (nv (t - 2)) 6) := by
              have := clr_ro hE (x := sd R c 0) (y := sd R c 1) (u := who R c) (t := t - 2) (i := 6) (by rw [hss.H]; exact sh0) (by rw [hss.H]; exact sh1) ne (by rw [hss.T]; exact hu) (by omega) (by omega)
              rw [ews] at this
              exact this
            simp (disch := omega) only [X1_close, ↓w_bd, ↓w_rt, ↓w_bh, sm_l, sm_r, ↓w_okr, ↓w_nm, ↓w_ite, ↓reduceIte, not_true_eq_false, not_false_eq_true, and_true, true_and, and_self, Option.some.injEq, reduceCtorEq, eq_self, ↓w_rc, ↓w_gI, ↓w_gR, ↓w_aN, ↓w_aI, ↓w_aR, ↓w_aL, ↓w_pI, ↓w_pR, ↓w_sI, ↓w_sR, ↓w_sL, ↓w_nO, ↓w_nA, ↓w_nL, ↓w_ca, ↓w_ca0, ↓w_gS, ↓w_gK, ↓w_dv, ↓w_tw, ↓w_rz, ↓w_no, nv_lit, nv_f, nv_add, nv_mul, nv_sub, nv_le, nv_lt, nv_eq, nv_cl, Nat.reduceMod, Nat.reduceMul, Nat.reduceAdd, Nat.zero_add, Nat.add_zero, Nat.mul_zero, decide_eq_true_eq, nv_inT, mk_k hM, mk_n hM, mk_r hM, mk_i hM, hX, hJ, X1_isBetween_w, X1_requireArgument_1 n10, X1_requireArgument_0, X1_requireIndex_1 n10, X1_requireIndex_0, Nat.reduceEqDiff, okn, X1_claimOf_1 hM hX, X8_isOpen_c1 hM hc h4, X2_isEnded_1 hM hS hP hc he, n10]
            refine keep_c hC (E0.rf a) h0 _ fun d B' L' q1 q2 q3 hMd hXd hCd z l => ?_
            have hJd := q1.2.1
            simp (disch := omega) only [↓w_bd, ↓w_rt, ↓w_bh, sm_l, sm_r, ↓w_okr, ↓w_nm, ↓w_ite, ↓reduceIte, not_true_eq_false, not_false_eq_true, and_true, true_and, and_self, Option.some.injEq, reduceCtorEq, eq_self, ↓w_rc, ↓w_gI, ↓w_gR, ↓w_aN, ↓w_aI, ↓w_aR, ↓w_aL, ↓w_pI, ↓w_pR, ↓w_sI, ↓w_sR, ↓w_sL, ↓w_nO, ↓w_nA, ↓w_nL, ↓w_ca, ↓w_ca0, ↓w_gS, ↓w_gK, ↓w_dv, ↓w_tw, ↓w_rz, ↓w_no, nv_lit, nv_f, nv_add, nv_mul, nv_sub, nv_le, nv_lt, nv_eq, nv_cl, Nat.reduceMod, Nat.reduceMul, Nat.reduceAdd, Nat.zero_add, Nat.add_zero, Nat.mul_zero, decide_eq_true_eq, nv_inT, mk_k hMd, mk_r hMd, mk_n hMd, mk_i hMd, hXd, hJd, okn, X2_close, X2_close_19, X2_close_48, X2_close_61, X2_shows_w hMd hS hP hc, hwl, ea0, ea1, X2_eyeWord_w hMd sh0 sh1, p1', p2', n10]
            refine X2_ends_w hCd hS hP hc _ _ fun b hb hz hl => ?_
            rw [← eE] at hb
            have hMb := hb.1
            have hXb := hb.2.2.2.1 hXd
            have eE1 : cs E c 1 = nv (sd R c 0) := (eo _ (by omega) (by omega) (by omega)).trans ea0
            have eE2 : cs E c 2 = nv (sd R c 1) := (eo _ (by omega) (by omega) (by omega)).trans ea1
            have eE0 : cs E c 0 = nv (who R c) := (eo _ (by omega) (by omega) (by omega)).trans ew
            have c1 := hb.show (show sd R c 0 < 10 by omega) (show sd R c 1 < 10 by omega) ne hw3
            have hM1 := c1.1
            obtain ⟨F, eF⟩ : ∃ F, F = sh2 E (sd R c 0) (sd R c 1) (ws R (sd R c 0) (sd R c 1)) := ⟨_, rfl⟩
            rw [← eF] at c1 hM1
            have eFo : ∀ i, i < 85 ∨ 185 ≤ i → F i = E i := fun i g => by rw [eF]; unfold sh2; rw [up1_o _ _ _ (by omega), up1_o _ _ _ (by omega)]
            have nF : nC F = nC E ∧ nT F = nT R := ⟨by unfold nC; rw [eFo _ (by omega)], by unfold nT; rw [eFo _ (by omega), eo _ (by omega) (by omega) (by omega)]⟩
            have hcF : c < nC F := by rw [nF.1]; exact hcE
            have huF : who R c < nT F := by rw [nF.2]; exact hu
            have eF0 : cs F c 0 = nv (who R c) := (eFo _ (by omega)).trans eE0
            have eFt : F (11 + who R c) = nv t := (eFo _ (by omega)).trans ((eo _ (by omega) (by omega) (by omega)).trans et)
            have c2 := c1.wI (nv (t - 2)) (ci_tr F huF) (by omega) (by omega) (by omega) (fun z _ => by omega) (by omega)
            have hM2 := c2.1
            obtain ⟨T, eT⟩ : ∃ T, T = up1 F (11 + who R c) (nv (t - 2)) := ⟨_, rfl⟩
            rw [← eT] at c2 hM2
            have eTo : ∀ i, i < 11 → T i = E i := fun i g => by rw [eT, up1_o _ _ _ (by omega)]; exact eFo i (by omega)
            have c3 := c2.wI (E 5 + nv 1) (ci_ta T (j := 1) (by omega)) (by omega) (by omega) (by omega) (fun z _ => by omega) (by omega)
            have hM3 := c3.1
            have e5 : T 5 = E 5 := eTo _ (by omega)
            obtain ⟨T1, eT1⟩ : ∃ T1, T1 = up1 T (4 + 1) (E 5 + nv 1) := ⟨_, rfl⟩
            rw [← eT1] at c3 hM3
            have e6 : T1 10 = E 10 := by rw [eT1, up1_o _ _ _ (by omega)]; exact eTo _ (by omega)
            have c4 := c3.wI (E (4 + 6) + nv 1) (ci_ta T1 (j := 6) (by omega)) (by omega) (by omega) (by omega) (fun z _ => by omega) (by omega)
            simp (disch := omega) only [↓w_bd, ↓w_rt, ↓w_bh, sm_l, sm_r, ↓w_okr, ↓w_nm, ↓w_ite, ↓reduceIte, not_true_eq_false, not_false_eq_true, and_true, true_and, and_self, Option.some.injEq, reduceCtorEq, eq_self, ↓w_rc, ↓w_gI, ↓w_gR, ↓w_aN, ↓w_aI, ↓w_aR, ↓w_aL, ↓w_pI, ↓w_pR, ↓w_sI, ↓w_sR, ↓w_sL, ↓w_nO, ↓w_nA, ↓w_nL, ↓w_ca, ↓w_ca0, ↓w_gS, ↓w_gK, ↓w_dv, ↓w_tw, ↓w_rz, ↓w_no, nv_lit, nv_f, nv_add, nv_mul, nv_sub, nv_le, nv_lt, nv_eq, nv_cl, Nat.reduceMod, Nat.reduceMul, Nat.reduceAdd, Nat.zero_add, Nat.add_zero, Nat.mul_zero, decide_eq_true_eq, nv_inT, mk_k hMb, mk_r hMb, mk_n hMb, mk_i hMb, hXb, eE1, eE2, eE0, X2_show_w hMb (show sd R c 0 < 10 by omega) (show sd R c 1 < 10 by omega) ne hw3, mk_k hM1, mk_r hM1, mk_n hM1, mk_i hM1, eF0, eFt, X2_close_123, X2_close_154, X2_close_159, J12_max_w, J12_min_w, m2, m4, nr41, okn, n10, mk_k hM2, mk_r hM2, mk_n hM2, mk_i hM2, e5, mk_k hM3, mk_r hM3, mk_n hM3, mk_i hM3, show ¬ nv 0 = nv 1 by decide, e6]
            have ecl : up1 T1 (4 + 6) (E (4 + 6) + nv 1) = clr E (sd R c 0) (sd R c 1) (ws R (sd R c 0) (sd R c 1)) (who R c) (nv (t - 2)) 6 := by
              unfold clr
              rw [if_neg (by omega), ← eF, ← eT, ← eT1]
            have cf := c4
            rw [ecl] at cf
            refine ap_now hC h0 q2 q3 q1 cf (fun _ _ => rfl) hRf ?_ ?_ fun c' hc' Q hQ => ?_
            · show hSz b + 1 ≤ _
              omega
            · show hSl b + 3 ≤ _
              omega
            · obtain ⟨hF, hF0⟩ := jt_f0 hG hc' h0
              have t5 := th_5 G c' (nv 0)
              simp (disch := omega) only [X5_close, ↓w_bd, ↓w_rt, ↓w_bh, sm_l, sm_r, ↓w_okr, ↓w_nm, ↓w_ite, ↓reduceIte, not_true_eq_false, not_false_eq_true, and_true, true_and, and_self, Option.some.injEq, reduceCtorEq, eq_self, ↓w_rc, ↓w_gI, ↓w_gR, ↓w_aN, ↓w_aI, ↓w_aR, ↓w_aL, ↓w_pI, ↓w_pR, ↓w_sI, ↓w_sR, ↓w_sL, ↓w_nO, ↓w_nA, ↓w_nL, ↓w_ca, ↓w_ca0, ↓w_gS, ↓w_gK, ↓w_dv, ↓w_tw, ↓w_rz, ↓w_no, nv_lit, nv_f, nv_add, nv_mul, nv_sub, nv_le, nv_lt, nv_eq, nv_cl, Nat.reduceMod, Nat.reduceMul, Nat.reduceAdd, Nat.zero_add, Nat.add_zero, Nat.mul_zero, decide_eq_true_eq, nv_inT, th_f, th_K, th_N, th_R, th_5, th_2, okn0, Nat.reduceEqDiff, hF.1, hF0.1, X5_in_w, X5_holds_1 hF0.1.1.1 t5 n10, X5_holds_0 hF0.1.1.1 t5, n10, X5_isClaim_1 hF0 hS hv, X5_isOpen_1 hF0 (show c < 20 by omega) h4, X5_isEnded_1 hF0 hS hc he]
              refine keeps_t hC hc' (Sx.rf _ _) h0 L' _ fun d2 k1 k3 k2 hF3 => ?_
              simp (disch := omega) only [↓w_bd, ↓w_rt, ↓w_bh, sm_l, sm_r, ↓w_okr, ↓w_nm, ↓w_ite, ↓reduceIte, not_true_eq_false, not_false_eq_true, and_true, true_and, and_self, Option.some.injEq, reduceCtorEq, eq_self, ↓w_rc, ↓w_gI, ↓w_gR, ↓w_aN, ↓w_aI, ↓w_aR, ↓w_aL, ↓w_pI, ↓w_pR, ↓w_sI, ↓w_sR, ↓w_sL, ↓w_nO, ↓w_nA, ↓w_nL, ↓w_ca, ↓w_ca0, ↓w_gS, ↓w_gK, ↓w_dv, ↓w_tw, ↓w_rz, ↓w_no, nv_lit, nv_f, nv_add, nv_mul, nv_sub, nv_le, nv_lt, nv_eq, nv_cl, Nat.reduceMod, Nat.reduceMul, Nat.reduceAdd, Nat.zero_add, Nat.add_zero, Nat.mul_zero, decide_eq_true_eq, nv_inT, hF3.1, X5_leftOf_w hF3 hS, X5_word_w, hwl, X5_sideOf_w hF3 hS, X5_cl_w hF3, p1', X5_close_98, X5_wordByEye_w hF3 hS, p2', X5_close_121, ew, n10, X5_close_146]
              refine X5_ends_w hG hF3 (Tn.rf hF3) hS hP hc _ _ fun d3 ht3 => ?_
              rw [← eE] at ht3
              have hF4 := ht3.fo hF3
              have eEt : E (11 + who R c) = nv t := (eo _ (by omega) (by omega) (by omega)).trans et
              have t6 := ht3.lay hG (k := 11 + who R c) (by omega) (nv (t - 2))
              have f6 := t6.fo hF3
              have t7 := (t6.lay hG (k := 85 + 10 * sd R c 0 + sd R c 1) (by omega) (ws R (sd R c 0) (sd R c 1))).lay hG (k := 85 + 10 * sd R c 1 + sd R c 0) (by omega) (tn (ws R (sd R c 0) (sd R c 1)))
              have f7 := t7.fo hF3
              have o7 : ∀ i, i < 11 → up1 (up1 (up1 E (11 + who R c) (nv (t - 2))) (85 + 10 * sd R c 0 + sd R c 1) (ws R (sd R c 0) (sd R c 1))) (85 + 10 * sd R c 1 + sd R c 0) (tn (ws R (sd R c 0) (sd R c 1))) i = E i := fun i hi => by rw [up1_o _ _ _ (by omega), up1_o _ _ _ (by omega), up1_o _ _ _ (by omega)]
              have t8 := t7.lay hG (k := 5) (by omega) (E 5 + nv 1)
              have e8 := clr_t E (x := sd R c 0) (y := sd R c 1) (ws R (sd R c 0) (sd R c 1)) (nv (t - 2)) (show who R c < 4 by omega)
              unfold sh2 at e8
              rw [e8] at t8
              have f8 := t8.fo hF3
              obtain ⟨C, eC⟩ : ∃ C, C = clr E (sd R c 0) (sd R c 1) (ws R (sd R c 0) (sd R c 1)) (who R c) (nv (t - 2)) 0 := ⟨_, rfl⟩
              rw [← eC] at t8 f8
              have t9 := t8.lay hG (k := 9) (by omega) (C 9)
              have f9 := t9.fo hF3
              rw [up1_id] at t9 f9
              have t10 := t9.lay hG (k := 10) (by omega) (C 10 + nv 1)
              simp (disch := omega) only [↓w_bd, ↓w_rt, ↓w_bh, sm_l, sm_r, ↓w_okr, ↓w_nm, ↓w_ite, ↓reduceIte, not_true_eq_false, not_false_eq_true, and_true, true_and, and_self, Option.some.injEq, reduceCtorEq, eq_self, ↓w_rc, ↓w_gI, ↓w_gR, ↓w_aN, ↓w_aI, ↓w_aR, ↓w_aL, ↓w_pI, ↓w_pR, ↓w_sI, ↓w_sR, ↓w_sL, ↓w_nO, ↓w_nA, ↓w_nL, ↓w_ca, ↓w_ca0, ↓w_gS, ↓w_gK, ↓w_dv, ↓w_tw, ↓w_rz, ↓w_no, nv_lit, nv_f, nv_add, nv_mul, nv_sub, nv_le, nv_lt, nv_eq, nv_cl, Nat.reduceMod, Nat.reduceMul, Nat.reduceAdd, Nat.zero_add, Nat.add_zero, Nat.mul_zero, decide_eq_true_eq, nv_inT, hF4.1, X5_get_w hF4, eEt, n10, X5_close_172, J12_max_w, J12_min_w, m1, m3, X5_lay_w hF4, ly_K, X5_layFact_w f6 hG (show sd R c 0 < 10 by omega) (show sd R c 1 < 10 by omega) (w3_m1 hw3), X5_tallies_w f7, o7, X5_close_212, X5_close_213, X5_one_0, X5_one_1, X5_tallies_w f8, X5_close_236, X5_close_237, X5_tallies_w f9, add_n0]
              have ec : ∀ i, i < 11 → i ≠ 5 → C i = E i := fun i g g5 => by rw [eC]; unfold clr sh2; rw [if_pos rfl, up1_o _ _ _ (by omega), up1_o _ _ _ (by omega), up1_o _ _ _ (by omega), up1_o _ _ _ (by omega)]
              have ef : up1 C 10 (C 10 + nv 1) = clr E (sd R c 0) (sd R c 1) (ws R (sd R c 0) (sd R c 1)) (who R c) (nv (t - 2)) 6 := by
                rw [ec 10 (by omega) (by omega), eC]
                rfl
              exact hQ _ _ k1 k3 k2 (t10.eq ef)
          · have p1' := eq_false p1
            have p2' := eq_false p2
            have hE := ed_ro hR hc (v := nv 2) (by decide)
            have hss := ed_ss hS (nv 2) hc
            obtain ⟨E, eE⟩ : ∃ E, E = ed R c (nv 2) := ⟨_, rfl⟩
            have eo : ∀ i, i ≠ 185 + 18 * c + 4 → i ≠ 185 + 18 * c + 6 → i ≠ 185 + 18 * c + 7 → E i = R i := fun i g1 g2 g3 => by rw [eE]; exact ed_o R _ g1 g2 g3
            have ews : ws E (sd R c 0) (sd R c 1) = ws R (sd R c 0) (sd R c 1) := by rw [eE]; exact ed_ws hS _ hc sh0 sh1
            rw [← eE] at hE hss
            have hcE : c < nC E := by rw [hss.C]; exact hc
            have hRf : Ro (clr E (sd R c 0) (sd R c 1) (ws R (sd R c 0) (sd R c 1)) (who R c) (nv (t - 2)) 0) := by
              have := clr_ro hE (x := sd R c 0) (y := sd R c 1) (u := who R c) (t := t - 2) (i := 0) (by rw [hss.H]; exact sh0) (by rw [hss.H]; exact sh1) ne (by rw [hss.T]; exact hu) (by omega) (by omega)
              rw [ews] at this
              exact this
            simp (disch := omega) only [X1_close, ↓w_bd, ↓w_rt, ↓w_bh, sm_l, sm_r, ↓w_okr, ↓w_nm, ↓w_ite, ↓reduceIte, not_true_eq_false, not_false_eq_true, and_true, true_and, and_self, Option.some.injEq, reduceCtorEq, eq_self, ↓w_rc, ↓w_gI, ↓w_gR, ↓w_aN, ↓w_aI, ↓w_aR, ↓w_aL, ↓w_pI, ↓w_pR, ↓w_sI, ↓w_sR, ↓w_sL, ↓w_nO, ↓w_nA, ↓w_nL, ↓w_ca, ↓w_ca0, ↓w_gS, ↓w_gK, ↓w_dv, ↓w_tw, ↓w_rz, ↓w_no, nv_lit, nv_f, nv_add, nv_mul, nv_sub, nv_le, nv_lt, nv_eq, nv_cl, Nat.reduceMod, Nat.reduceMul, Nat.reduceAdd, Nat.zero_add, Nat.add_zero, Nat.mul_zero, decide_eq_true_eq, nv_inT, mk_k hM, mk_n hM, mk_r hM, mk_i hM, hX, hJ, X1_isBetween_w, X1_requireArgument_1 n10, X1_requireArgument_0, X1_requireIndex_1 n10, X1_requireIndex_0, Nat.reduceEqDiff, okn, X1_claimOf_1 hM hX, X8_isOpen_c1 hM hc h4, X2_isEnded_1 hM hS hP hc he, n10]
            refine keep_c hC (E0.rf a) h0 _ fun d B' L' q1 q2 q3 hMd hXd hCd z l => ?_
            have hJd := q1.2.1
            simp (disch := omega) only [↓w_bd, ↓w_rt, ↓w_bh, sm_l, sm_r, ↓w_okr, ↓w_nm, ↓w_ite, ↓reduceIte, not_true_eq_false, not_false_eq_true, and_true, true_and, and_self, Option.some.injEq, reduceCtorEq, eq_self, ↓w_rc, ↓w_gI, ↓w_gR, ↓w_aN, ↓w_aI, ↓w_aR, ↓w_aL, ↓w_pI, ↓w_pR, ↓w_sI, ↓w_sR, ↓w_sL, ↓w_nO, ↓w_nA, ↓w_nL, ↓w_ca, ↓w_ca0, ↓w_gS, ↓w_gK, ↓w_dv, ↓w_tw, ↓w_rz, ↓w_no, nv_lit, nv_f, nv_add, nv_mul, nv_sub, nv_le, nv_lt, nv_eq, nv_cl, Nat.reduceMod, Nat.reduceMul, Nat.reduceAdd, Nat.zero_add, Nat.add_zero, Nat.mul_zero, decide_eq_true_eq, nv_inT, mk_k hMd, mk_r hMd, mk_n hMd, mk_i hMd, hXd, hJd, okn, X2_close, X2_close_19, X2_close_48, X2_close_61, X2_shows_w hMd hS hP hc, hwl, ea0, ea1, X2_eyeWord_w hMd sh0 sh1, p1', p2', n10]
            refine X2_ends_w hCd hS hP hc _ _ fun b hb hz hl => ?_
            rw [← eE] at hb
            have hMb := hb.1
            have hXb := hb.2.2.2.1 hXd
            have eE1 : cs E c 1 = nv (sd R c 0) := (eo _ (by omega) (by omega) (by omega)).trans ea0
            have eE2 : cs E c 2 = nv (sd R c 1) := (eo _ (by omega) (by omega) (by omega)).trans ea1
            have eE0 : cs E c 0 = nv (who R c) := (eo _ (by omega) (by omega) (by omega)).trans ew
            have c1 := hb.show (show sd R c 0 < 10 by omega) (show sd R c 1 < 10 by omega) ne hw3
            have hM1 := c1.1
            obtain ⟨F, eF⟩ : ∃ F, F = sh2 E (sd R c 0) (sd R c 1) (ws R (sd R c 0) (sd R c 1)) := ⟨_, rfl⟩
            rw [← eF] at c1 hM1
            have eFo : ∀ i, i < 85 ∨ 185 ≤ i → F i = E i := fun i g => by rw [eF]; unfold sh2; rw [up1_o _ _ _ (by omega), up1_o _ _ _ (by omega)]
            have nF : nC F = nC E ∧ nT F = nT R := ⟨by unfold nC; rw [eFo _ (by omega)], by unfold nT; rw [eFo _ (by omega), eo _ (by omega) (by omega) (by omega)]⟩
            have hcF : c < nC F := by rw [nF.1]; exact hcE
            have huF : who R c < nT F := by rw [nF.2]; exact hu
            have eF0 : cs F c 0 = nv (who R c) := (eFo _ (by omega)).trans eE0
            have eFt : F (11 + who R c) = nv t := (eFo _ (by omega)).trans ((eo _ (by omega) (by omega) (by omega)).trans et)
            have c2 := c1.wI (nv (t - 2)) (ci_tr F huF) (by omega) (by omega) (by omega) (fun z _ => by omega) (by omega)
            have hM2 := c2.1
            obtain ⟨T, eT⟩ : ∃ T, T = up1 F (11 + who R c) (nv (t - 2)) := ⟨_, rfl⟩
            rw [← eT] at c2 hM2
            have eTo : ∀ i, i < 11 → T i = E i := fun i g => by rw [eT, up1_o _ _ _ (by omega)]; exact eFo i (by omega)
            have c3 := c2.wI (E 5 + nv 1) (ci_ta T (j := 1) (by omega)) (by omega) (by omega) (by omega) (fun z _ => by omega) (by omega)
            have hM3 := c3.1
            have e5 : T 5 = E 5 := eTo _ (by omega)
            simp (disch := omega) only [↓w_bd, ↓w_rt, ↓w_bh, sm_l, sm_r, ↓w_okr, ↓w_nm, ↓w_ite, ↓reduceIte, not_true_eq_false, not_false_eq_true, and_true, true_and, and_self, Option.some.injEq, reduceCtorEq, eq_self, ↓w_rc, ↓w_gI, ↓w_gR, ↓w_aN, ↓w_aI, ↓w_aR, ↓w_aL, ↓w_pI, ↓w_pR, ↓w_sI, ↓w_sR, ↓w_sL, ↓w_nO, ↓w_nA, ↓w_nL, ↓w_ca, ↓w_ca0, ↓w_gS, ↓w_gK, ↓w_dv, ↓w_tw, ↓w_rz, ↓w_no, nv_lit, nv_f, nv_add, nv_mul, nv_sub, nv_le, nv_lt, nv_eq, nv_cl, Nat.reduceMod, Nat.reduceMul, Nat.reduceAdd, Nat.zero_add, Nat.add_zero, Nat.mul_zero, decide_eq_true_eq, nv_inT, mk_k hMb, mk_r hMb, mk_n hMb, mk_i hMb, hXb, eE1, eE2, eE0, X2_show_w hMb (show sd R c 0 < 10 by omega) (show sd R c 1 < 10 by omega) ne hw3, mk_k hM1, mk_r hM1, mk_n hM1, mk_i hM1, eF0, eFt, X2_close_123, X2_close_154, X2_close_159, J12_max_w, J12_min_w, m2, m4, nr41, okn, n10, mk_k hM2, mk_r hM2, mk_n hM2, mk_i hM2, e5, mk_k hM3, mk_r hM3, mk_n hM3, mk_i hM3, show ¬ nv 0 = nv 1 by decide]
            have ecl : up1 T (4 + 1) (E 5 + nv 1) = clr E (sd R c 0) (sd R c 1) (ws R (sd R c 0) (sd R c 1)) (who R c) (nv (t - 2)) 0 := by
              unfold clr
              rw [if_pos rfl, ← eF, ← eT]
            have cf := c3
            rw [ecl] at cf
            refine ap_now hC h0 q2 q3 q1 cf (fun _ _ => rfl) hRf ?_ ?_ fun c' hc' Q hQ => ?_
            · show hSz b + 1 ≤ _
              omega
            · show hSl b + 3 ≤ _
              omega
            · obtain ⟨hF, hF0⟩ := jt_f0 hG hc' h0
              have t5 := th_5 G c' (nv 0)
              simp (disch := omega) only [X5_close, ↓w_bd, ↓w_rt, ↓w_bh, sm_l, sm_r, ↓w_okr, ↓w_nm, ↓w_ite, ↓reduceIte, not_true_eq_false, not_false_eq_true, and_true, true_and, and_self, Option.some.injEq, reduceCtorEq, eq_self, ↓w_rc, ↓w_gI, ↓w_gR, ↓w_aN, ↓w_aI, ↓w_aR, ↓w_aL, ↓w_pI, ↓w_pR, ↓w_sI, ↓w_sR, ↓w_sL, ↓w_nO, ↓w_nA, ↓w_nL, ↓w_ca, ↓w_ca0, ↓w_gS, ↓w_gK, ↓w_dv, ↓w_tw, ↓w_rz, ↓w_no, nv_lit, nv_f, nv_add, nv_mul, nv_sub, nv_le, nv_lt, nv_eq, nv_cl, Nat.reduceMod, Nat.reduceMul, Nat.reduceAdd, Nat.zero_add, Nat.add_zero, Nat.mul_zero, decide_eq_true_eq, nv_inT, th_f, th_K, th_N, th_R, th_5, th_2, okn0, Nat.reduceEqDiff, hF.1, hF0.1, X5_in_w, X5_holds_1 hF0.1.1.1 t5 n10, X5_holds_0 hF0.1.1.1 t5, n10, X5_isClaim_1 hF0 hS hv, X5_isOpen_1 hF0 (show c < 20 by omega) h4, X5_isEnded_1 hF0 hS hc he]
              refine keeps_t hC hc' (Sx.rf _ _) h0 L' _ fun d2 k1 k3 k2 hF3 => ?_
              simp (disch := omega) only [↓w_bd, ↓w_rt, ↓w_bh, sm_l, sm_r, ↓w_okr, ↓w_nm, ↓w_ite, ↓reduceIte, not_true_eq_false, not_false_eq_true, and_true, true_and, and_self, Option.some.injEq, reduceCtorEq, eq_self, ↓w_rc, ↓w_gI, ↓w_gR, ↓w_aN, ↓w_aI, ↓w_aR, ↓w_aL, ↓w_pI, ↓w_pR, ↓w_sI, ↓w_sR, ↓w_sL, ↓w_nO, ↓w_nA, ↓w_nL, ↓w_ca, ↓w_ca0, ↓w_gS, ↓w_gK, ↓w_dv, ↓w_tw, ↓w_rz, ↓w_no, nv_lit, nv_f, nv_add, nv_mul, nv_sub, nv_le, nv_lt, nv_eq, nv_cl, Nat.reduceMod, Nat.reduceMul, Nat.reduceAdd, Nat.zero_add, Nat.add_zero, Nat.mul_zero, decide_eq_true_eq, nv_inT, hF3.1, X5_leftOf_w hF3 hS, X5_word_w, hwl, X5_sideOf_w hF3 hS, X5_cl_w hF3, p1', X5_close_98, X5_wordByEye_w hF3 hS, p2', X5_close_121, ew, n10, X5_close_146]
              refine X5_ends_w hG hF3 (Tn.rf hF3) hS hP hc _ _ fun d3 ht3 => ?_
              rw [← eE] at ht3
              have hF4 := ht3.fo hF3
              have eEt : E (11 + who R c) = nv t := (eo _ (by omega) (by omega) (by omega)).trans et
              have t6 := ht3.lay hG (k := 11 + who R c) (by omega) (nv (t - 2))
              have f6 := t6.fo hF3
              have t7 := (t6.lay hG (k := 85 + 10 * sd R c 0 + sd R c 1) (by omega) (ws R (sd R c 0) (sd R c 1))).lay hG (k := 85 + 10 * sd R c 1 + sd R c 0) (by omega) (tn (ws R (sd R c 0) (sd R c 1)))
              have f7 := t7.fo hF3
              have o7 : ∀ i, i < 11 → up1 (up1 (up1 E (11 + who R c) (nv (t - 2))) (85 + 10 * sd R c 0 + sd R c 1) (ws R (sd R c 0) (sd R c 1))) (85 + 10 * sd R c 1 + sd R c 0) (tn (ws R (sd R c 0) (sd R c 1))) i = E i := fun i hi => by rw [up1_o _ _ _ (by omega), up1_o _ _ _ (by omega), up1_o _ _ _ (by omega)]
              have t8 := t7.lay hG (k := 5) (by omega) (E 5 + nv 1)
              have e8 := clr_t E (x := sd R c 0) (y := sd R c 1) (ws R (sd R c 0) (sd R c 1)) (nv (t - 2)) (show who R c < 4 by omega)
              unfold sh2 at e8
              rw [e8] at t8
              have f8 := t8.fo hF3
              obtain ⟨C, eC⟩ : ∃ C, C = clr E (sd R c 0) (sd R c 1) (ws R (sd R c 0) (sd R c 1)) (who R c) (nv (t - 2)) 0 := ⟨_, rfl⟩
              rw [← eC] at t8 f8
              have t9 := t8.lay hG (k := 9) (by omega) (C 9)
              have f9 := t9.fo hF3
              rw [up1_id] at t9 f9
              have t10 := t9.lay hG (k := 10) (by omega) (C 10)
              simp (disch := omega) only [↓w_bd, ↓w_rt, ↓w_bh, sm_l, sm_r, ↓w_okr, ↓w_nm, ↓w_ite, ↓reduceIte, not_true_eq_false, not_false_eq_true, and_true, true_and, and_self, Option.some.injEq, reduceCtorEq, eq_self, ↓w_rc, ↓w_gI, ↓w_gR, ↓w_aN, ↓w_aI, ↓w_aR, ↓w_aL, ↓w_pI, ↓w_pR, ↓w_sI, ↓w_sR, ↓w_sL, ↓w_nO, ↓w_nA, ↓w_nL, ↓w_ca, ↓w_ca0, ↓w_gS, ↓w_gK, ↓w_dv, ↓w_tw, ↓w_rz, ↓w_no, nv_lit, nv_f, nv_add, nv_mul, nv_sub, nv_le, nv_lt, nv_eq, nv_cl, Nat.reduceMod, Nat.reduceMul, Nat.reduceAdd, Nat.zero_add, Nat.add_zero, Nat.mul_zero, decide_eq_true_eq, nv_inT, hF4.1, X5_get_w hF4, eEt, n10, X5_close_172, J12_max_w, J12_min_w, m1, m3, X5_lay_w hF4, ly_K, X5_layFact_w f6 hG (show sd R c 0 < 10 by omega) (show sd R c 1 < 10 by omega) (w3_m1 hw3), X5_tallies_w f7, o7, X5_close_212, X5_close_213, X5_one_0, X5_one_1, X5_tallies_w f8, X5_close_236, X5_close_237, X5_tallies_w f9, add_n0]
              have ec : ∀ i, i < 11 → i ≠ 5 → C i = E i := fun i g g5 => by rw [eC]; unfold clr sh2; rw [if_pos rfl, up1_o _ _ _ (by omega), up1_o _ _ _ (by omega), up1_o _ _ _ (by omega), up1_o _ _ _ (by omega)]
              rw [up1_id] at t10
              exact hQ _ _ k1 k3 k2 (t10.eq eC)
      · simp (disch := omega) only [X1_close, ↓w_bd, ↓w_rt, ↓w_bh, sm_l, sm_r, ↓w_okr, ↓w_nm, ↓w_ite, ↓reduceIte, not_true_eq_false, not_false_eq_true, and_true, true_and, and_self, Option.some.injEq, reduceCtorEq, eq_self, ↓w_rc, ↓w_gI, ↓w_gR, ↓w_aN, ↓w_aI, ↓w_aR, ↓w_aL, ↓w_pI, ↓w_pR, ↓w_sI, ↓w_sR, ↓w_sL, ↓w_nO, ↓w_nA, ↓w_nL, ↓w_ca, ↓w_ca0, ↓w_gS, ↓w_gK, ↓w_dv, ↓w_tw, ↓w_rz, ↓w_no, nv_lit, nv_f, nv_add, nv_mul, nv_sub, nv_le, nv_lt, nv_eq, nv_cl, Nat.reduceMod, Nat.reduceMul, Nat.reduceAdd, Nat.zero_add, Nat.add_zero, Nat.mul_zero, decide_eq_true_eq, nv_inT, mk_k hM, mk_n hM, mk_r hM, mk_i hM, hX, hJ, X1_isBetween_w, X1_requireArgument_1 n10, X1_requireArgument_0, X1_requireIndex_1 n10, X1_requireIndex_0, Nat.reduceEqDiff, okn, X1_claimOf_1 hM hX, X8_isOpen_c1 hM hc h4, X2_isEnded_0 hM hS hP hc he, n10, X1_refuse_w hC]
        refine ap_ref hC (E0.rf a) (by omega) (by omega) (by omega) fun c' hc' Q hQ => ?_
        obtain ⟨hF, hF0⟩ := jt_f0 hG hc' h0
        have t5 := th_5 G c' (nv 0)
        simp (disch := omega) only [X5_close, ↓w_bd, ↓w_rt, ↓w_bh, sm_l, sm_r, ↓w_okr, ↓w_nm, ↓w_ite, ↓reduceIte, not_true_eq_false, not_false_eq_true, and_true, true_and, and_self, Option.some.injEq, reduceCtorEq, eq_self, ↓w_rc, ↓w_gI, ↓w_gR, ↓w_aN, ↓w_aI, ↓w_aR, ↓w_aL, ↓w_pI, ↓w_pR, ↓w_sI, ↓w_sR, ↓w_sL, ↓w_nO, ↓w_nA, ↓w_nL, ↓w_ca, ↓w_ca0, ↓w_gS, ↓w_gK, ↓w_dv, ↓w_tw, ↓w_rz, ↓w_no, nv_lit, nv_f, nv_add, nv_mul, nv_sub, nv_le, nv_lt, nv_eq, nv_cl, Nat.reduceMod, Nat.reduceMul, Nat.reduceAdd, Nat.zero_add, Nat.add_zero, Nat.mul_zero, decide_eq_true_eq, nv_inT, th_f, th_K, th_N, th_R, th_5, th_2, okn0, Nat.reduceEqDiff, hF.1, hF0.1, X5_in_w, X5_holds_1 hF0.1.1.1 t5 n10, X5_holds_0 hF0.1.1.1 t5, n10, X5_isClaim_1 hF0 hS hv, X5_isOpen_1 hF0 (show c < 20 by omega) h4, X5_isEnded_0 hF0 hS hc he]
        exact hQ _ (Sx.rf _ _)
    · simp (disch := omega) only [X1_close, ↓w_bd, ↓w_rt, ↓w_bh, sm_l, sm_r, ↓w_okr, ↓w_nm, ↓w_ite, ↓reduceIte, not_true_eq_false, not_false_eq_true, and_true, true_and, and_self, Option.some.injEq, reduceCtorEq, eq_self, ↓w_rc, ↓w_gI, ↓w_gR, ↓w_aN, ↓w_aI, ↓w_aR, ↓w_aL, ↓w_pI, ↓w_pR, ↓w_sI, ↓w_sR, ↓w_sL, ↓w_nO, ↓w_nA, ↓w_nL, ↓w_ca, ↓w_ca0, ↓w_gS, ↓w_gK, ↓w_dv, ↓w_tw, ↓w_rz, ↓w_no, nv_lit, nv_f, nv_add, nv_mul, nv_sub, nv_le, nv_lt, nv_eq, nv_cl, Nat.reduceMod, Nat.reduceMul, Nat.reduceAdd, Nat.zero_add, Nat.add_zero, Nat.mul_zero, decide_eq_true_eq, nv_inT, mk_k hM, mk_n hM, mk_r hM, mk_i hM, hX, hJ, X1_isBetween_w, X1_requireArgument_1 n10, X1_requireArgument_0, X1_requireIndex_1 n10, X1_requireIndex_0, Nat.reduceEqDiff, okn, X1_claimOf_1 hM hX, X8_isOpen_c0 hM hc h4, X1_refuse_w hC]
      refine ap_ref hC (E0.rf a) (by omega) (by omega) (by omega) fun c' hc' Q hQ => ?_
      obtain ⟨hF, hF0⟩ := jt_f0 hG hc' h0
      have t5 := th_5 G c' (nv 0)
      simp (disch := omega) only [X5_close, ↓w_bd, ↓w_rt, ↓w_bh, sm_l, sm_r, ↓w_okr, ↓w_nm, ↓w_ite, ↓reduceIte, not_true_eq_false, not_false_eq_true, and_true, true_and, and_self, Option.some.injEq, reduceCtorEq, eq_self, ↓w_rc, ↓w_gI, ↓w_gR, ↓w_aN, ↓w_aI, ↓w_aR, ↓w_aL, ↓w_pI, ↓w_pR, ↓w_sI, ↓w_sR, ↓w_sL, ↓w_nO, ↓w_nA, ↓w_nL, ↓w_ca, ↓w_ca0, ↓w_gS, ↓w_gK, ↓w_dv, ↓w_tw, ↓w_rz, ↓w_no, nv_lit, nv_f, nv_add, nv_mul, nv_sub, nv_le, nv_lt, nv_eq, nv_cl, Nat.reduceMod, Nat.reduceMul, Nat.reduceAdd, Nat.zero_add, Nat.add_zero, Nat.mul_zero, decide_eq_true_eq, nv_inT, th_f, th_K, th_N, th_R, th_5, th_2, okn0, Nat.reduceEqDiff, hF.1, hF0.1, X5_in_w, X5_holds_1 hF0.1.1.1 t5 n10, X5_holds_0 hF0.1.1.1 t5, n10, X5_isClaim_1 hF0 hS hv, X5_isOpen_0 hF0 (show c < 20 by omega) h4]
      exact hQ _ (Sx.rf _ _)
  · simp (disch := omega) only [X1_close, ↓w_bd, ↓w_rt, ↓w_bh, sm_l, sm_r, ↓w_okr, ↓w_nm, ↓w_ite, ↓reduceIte, not_true_eq_false, not_false_eq_true, and_true, true_and, and_self, Option.some.injEq, reduceCtorEq, eq_self, ↓w_rc, ↓w_gI, ↓w_gR, ↓w_aN, ↓w_aI, ↓w_aR, ↓w_aL, ↓w_pI, ↓w_pR, ↓w_sI, ↓w_sR, ↓w_sL, ↓w_nO, ↓w_nA, ↓w_nL, ↓w_ca, ↓w_ca0, ↓w_gS, ↓w_gK, ↓w_dv, ↓w_tw, ↓w_rz, ↓w_no, nv_lit, nv_f, nv_add, nv_mul, nv_sub, nv_le, nv_lt, nv_eq, nv_cl, Nat.reduceMod, Nat.reduceMul, Nat.reduceAdd, Nat.zero_add, Nat.add_zero, Nat.mul_zero, decide_eq_true_eq, nv_inT, mk_k hM, mk_n hM, mk_r hM, mk_i hM, hX, hJ, X1_isBetween_w, X1_requireArgument_1 n10, X1_requireArgument_0, X1_requireIndex_1 n10, X1_requireIndex_0, Nat.reduceEqDiff, okn, X1_claimOf_0 hM hX hv]
    refine ap_x hC (tw_e a) (by rw [tw_z]; omega) (by rw [tw_l]; omega) (k := 1) rfl (by omega) (by omega) fun c' hc' Q hQ => ?_
    obtain ⟨hF, hF0⟩ := jt_f0 hG hc' h0
    have t5 := th_5 G c' (nv 0)
    simp (disch := omega) only [X5_close, ↓w_bd, ↓w_rt, ↓w_bh, sm_l, sm_r, ↓w_okr, ↓w_nm, ↓w_ite, ↓reduceIte, not_true_eq_false, not_false_eq_true, and_true, true_and, and_self, Option.some.injEq, reduceCtorEq, eq_self, ↓w_rc, ↓w_gI, ↓w_gR, ↓w_aN, ↓w_aI, ↓w_aR, ↓w_aL, ↓w_pI, ↓w_pR, ↓w_sI, ↓w_sR, ↓w_sL, ↓w_nO, ↓w_nA, ↓w_nL, ↓w_ca, ↓w_ca0, ↓w_gS, ↓w_gK, ↓w_dv, ↓w_tw, ↓w_rz, ↓w_no, nv_lit, nv_f, nv_add, nv_mul, nv_sub, nv_le, nv_lt, nv_eq, nv_cl, Nat.reduceMod, Nat.reduceMul, Nat.reduceAdd, Nat.zero_add, Nat.add_zero, Nat.mul_zero, decide_eq_true_eq, nv_inT, th_f, th_K, th_N, th_R, th_5, th_2, okn0, Nat.reduceEqDiff, hF.1, hF0.1, X5_in_w, X5_holds_1 hF0.1.1.1 t5 n10, X5_holds_0 hF0.1.1.1 t5, X5_isClaim_0 hF0 hS hv]
    exact hQ _
theorem op_close {G : Nat → Nat} {B : Nat → Nat × Nat} {S : Gst} {a : Hp} (hC : JC G B S a) (hT : JT G S a) (v : Int32) : OpL G a (X0_close (some (G 0)) v (some (G 20))) (X5_close (G 10) v) :=
  Act.op (m := fun h => X1_close h v) hC hT (act_close hC v) fun _ _ h Q => hd_i h Q
