/-! the twin's way to the longest row -/
theorem X5_lr_56 {G : Nat → Nat} {c : Hp} {R : Nat → Int32} (hF : FO G c 0 R) (hG : GD G) (hS : Sh R) (hFs : Fs R) {j r m : Nat} (hj : j < nH R) (hm : m ≤ 100) (k33 : Nat → Int32 → Int32 → Mr Int32) (k44 : Nat → Int32 → Int32 → Int32 → Mr Int32) (v2 : Int32) (Q : Int32 → Hp → Prop)
    {d : Hp} {A : Nat → Nat} (hd : Sx G c d) (hA : ∀ y, y < nH R → hI d (G 18) y = nv (A y)) (hup : ∀ y, y < nH R → A y ≤ len R y) (hlo : ∀ y, y < nH R → ln R (r + 1) y ≤ A y) (hl2 : ∀ y, y < j → ln R (r + 2) y ≤ A y) (h1 : 1 ≤ A j)
    (kk : ∀ d (A : Nat → Nat), Sx G c d → (∀ y, y < nH R → hI d (G 18) y = nv (A y)) → (∀ y, y < nH R → A y ≤ len R y) → (∀ y, y < nH R → ln R (r + 1) y ≤ A y) → (∀ y, y < j + 1 → ln R (r + 2) y ≤ A y) → (∀ y, y < nH R → 1 ≤ A y) → Wp (k44 (G 10) (nv (max m (A j))) v2 (nv (j + 1))) d Q) (hall : ∀ y, y < nH R → 1 ≤ A y) :
    Wp (X5_longestRow_56 k33 k44 FU (G 10) (nv m) v2 (nv j) (nv 0)) d Q := by
  have h10 := sh_H10 hS
  have n18 := fun i (hi : i < 22) (hn : i ≠ 18) => hG.ne (show 18 < 22 by omega) hi (Ne.symm hn)
  have l : ∀ (f k : Nat), k ≤ nH R → nH R - k < f → ∀ d (A : Nat → Nat), Sx G c d → (∀ y, y < nH R → hI d (G 18) y = nv (A y)) → (∀ y, y < nH R → A y ≤ len R y) → (∀ y, y < nH R → ln R (r + 1) y ≤ A y) → (∀ y, y < j → ln R (r + 2) y ≤ A y) → (∀ y, y < nH R → 1 ≤ A y) → (∀ y, y < k → kn R j y = nv 0 → A y + 1 ≤ A j) → Wp (X5_longestRow_56 k33 k44 f (G 10) (nv m) v2 (nv j) (nv k)) d Q := by
    refine loopUp _ (nH R) ?_ ?_
    · intro f d A hd hA hup hlo hl2 h1 hp
      have f0 := hF.sx hG hd
      have b1 := hup j hj
      have b2 := len_n R j
      simp (disch := omega) only [X5_longestRow_56, ↓w_bd, ↓w_rt, ↓w_bh, sm_l, sm_r, ↓w_okr, ↓w_nm, ↓w_ite, ↓reduceIte, not_true_eq_false, not_false_eq_true, and_true, true_and, and_self, Option.some.injEq, reduceCtorEq, eq_self, ↓w_rc, ↓w_gI, ↓w_gR, ↓w_aN, ↓w_aI, ↓w_aR, ↓w_aL, ↓w_pI, ↓w_pR, ↓w_sI, ↓w_sR, ↓w_sL, ↓w_nO, ↓w_nA, ↓w_nL, ↓w_ca, ↓w_ca0, ↓w_gS, ↓w_gK, ↓w_dv, ↓w_tw, ↓w_rz, ↓w_no, nv_lit, nv_f, nv_add, nv_mul, nv_sub, nv_le, nv_lt, nv_eq, nv_cl, Nat.reduceMod, Nat.reduceMul, Nat.reduceAdd, Nat.zero_add, Nat.add_zero, Nat.mul_zero, decide_eq_true_eq, nv_inT, f0.1, X5_get_w f0, sh_H hS, Nat.le_refl, hA, J12_max_w, mx_nv]
      refine kk d A hd hA hup hlo (fun y hy => ?_) h1
      by_cases e : y = j
      · rw [e]
        show 1 + mxs (fun y => if kn R j y = nv 0 then ln R (r + 1) y else 0) (nH R) ≤ A j
        have h1j := h1 j hj
        have : mxs (fun y => if kn R j y = nv 0 then ln R (r + 1) y else 0) (nH R) ≤ A j - 1 := mxs_le fun z hz => by
          by_cases c0 : kn R j z = nv 0
          · rw [if_pos c0]
            have := hp z hz c0
            have := hlo z hz
            omega
          · rw [if_neg c0]; omega
        omega
      · exact hl2 y (by omega)
    · intro f k hk ih d A hd hA hup hlo hl2 h1 hp
      have f0 := hF.sx hG hd
      have b1 := hup j hj
      have b2 := len_n R j
      have b3 := hup k hk
      have b4 := len_n R k
      by_cases c0 : A k < A j
      · simp (disch := omega) only [X5_longestRow_56, X5_longestRow_107, ↓w_bd, ↓w_rt, ↓w_bh, sm_l, sm_r, ↓w_okr, ↓w_nm, ↓w_ite, ↓reduceIte, not_true_eq_false, not_false_eq_true, and_true, true_and, and_self, Option.some.injEq, reduceCtorEq, eq_self, ↓w_rc, ↓w_gI, ↓w_gR, ↓w_aN, ↓w_aI, ↓w_aR, ↓w_aL, ↓w_pI, ↓w_pR, ↓w_sI, ↓w_sR, ↓w_sL, ↓w_nO, ↓w_nA, ↓w_nL, ↓w_ca, ↓w_ca0, ↓w_gS, ↓w_gK, ↓w_dv, ↓w_tw, ↓w_rz, ↓w_no, nv_lit, nv_f, nv_add, nv_mul, nv_sub, nv_le, nv_lt, nv_eq, nv_cl, Nat.reduceMod, Nat.reduceMul, Nat.reduceAdd, Nat.zero_add, Nat.add_zero, Nat.mul_zero, decide_eq_true_eq, nv_inT, f0.1, X5_get_w f0, sh_H hS, Nat.not_le.mpr hk, hA, c0]
        refine ih d A hd hA hup hlo hl2 h1 (fun y hy e => ?_)
        by_cases ey : y = k
        · rw [ey]; omega
        · exact hp y (by omega) e
      · simp (disch := omega) only [X5_longestRow_56, X5_longestRow_107, ↓w_bd, ↓w_rt, ↓w_bh, sm_l, sm_r, ↓w_okr, ↓w_nm, ↓w_ite, ↓reduceIte, not_true_eq_false, not_false_eq_true, and_true, true_and, and_self, Option.some.injEq, reduceCtorEq, eq_self, ↓w_rc, ↓w_gI, ↓w_gR, ↓w_aN, ↓w_aI, ↓w_aR, ↓w_aL, ↓w_pI, ↓w_pR, ↓w_sI, ↓w_sR, ↓w_sL, ↓w_nO, ↓w_nA, ↓w_nL, ↓w_ca, ↓w_ca0, ↓w_gS, ↓w_gK, ↓w_dv, ↓w_tw, ↓w_rz, ↓w_no, nv_lit, nv_f, nv_add, nv_mul, nv_sub, nv_le, nv_lt, nv_eq, nv_cl, Nat.reduceMod, Nat.reduceMul, Nat.reduceAdd, Nat.zero_add, Nat.add_zero, Nat.mul_zero, decide_eq_true_eq, nv_inT, f0.1, X5_get_w f0, sh_H hS, Nat.not_le.mpr hk, hA, c0]
        refine X5_knownOf_w_z f0 hG hS hFs hj hk _ fun b hb => ?_
        have hbx : Sx G d b := ⟨hb.1, hb.2.1, fun q g1 g2 _ => hb.2.2 q g1 g2⟩
        have hcb := hd.tr hbx
        have fb := hF.sx hG hcb
        have e18 : hI b (G 18) = hI d (G 18) := hb.2.2 _ (n18 14 (by omega) (by omega)) (n18 15 (by omega) (by omega))
        have hAb : ∀ y, y < nH R → hI b (G 18) y = nv (A y) := fun y hy => by rw [e18]; exact hA y hy
        by_cases c1 : kn R j k = nv 0
        · have hjk : k ≠ j := fun e => by
            rw [e, kn_self] at c1
            exact absurd c1 (by decide)
          have hle := len_e hFs h10 hj hk c1
          simp (disch := omega) only [↓w_bd, ↓w_rt, ↓w_bh, sm_l, sm_r, ↓w_okr, ↓w_nm, ↓w_ite, ↓reduceIte, not_true_eq_false, not_false_eq_true, and_true, true_and, and_self, Option.some.injEq, reduceCtorEq, eq_self, ↓w_rc, ↓w_gI, ↓w_gR, ↓w_aN, ↓w_aI, ↓w_aR, ↓w_aL, ↓w_pI, ↓w_pR, ↓w_sI, ↓w_sR, ↓w_sL, ↓w_nO, ↓w_nA, ↓w_nL, ↓w_ca, ↓w_ca0, ↓w_gS, ↓w_gK, ↓w_dv, ↓w_tw, ↓w_rz, ↓w_no, nv_lit, nv_f, nv_add, nv_mul, nv_sub, nv_le, nv_lt, nv_eq, nv_cl, Nat.reduceMod, Nat.reduceMul, Nat.reduceAdd, Nat.zero_add, Nat.add_zero, Nat.mul_zero, decide_eq_true_eq, nv_inT, fb.1, c1, hAb, nr41]
          refine ih _ (fun y => if y = j then A k + 1 else A y) (hcb.w (.inr (.inr rfl)) _) (fun y hy => ?_) (fun y hy => ?_) (fun y hy => ?_) (fun y hy => ?_) (fun y hy => ?_) (fun y hy e => ?_)
          · rw [hI_wI, up1_s]
            by_cases ey : y = j
            · rw [ey, up1_s, if_pos rfl]
            · rw [up1_n _ _ ey, if_neg ey]; exact hAb y hy
          · by_cases ey : y = j
            · rw [if_pos ey, ey]; omega
            · rw [if_neg ey]; exact hup y hy
          · by_cases ey : y = j
            · rw [if_pos ey, ey]
              have := hlo j hj
              omega
            · rw [if_neg ey]; exact hlo y hy
          · rw [if_neg (by omega)]; exact hl2 y hy
          · by_cases ey : y = j
            · rw [if_pos ey]; omega
            · rw [if_neg ey]; exact h1 y hy
          · have yj : y ≠ j := fun e2 => by
              rw [e2, kn_self] at e
              exact absurd e (by decide)
            rw [if_neg yj, if_pos rfl]
            by_cases ey : y = k
            · rw [ey]; exact Nat.le_refl _
            · have := hp y (by omega) e
              omega
        · simp (disch := omega) only [↓w_bd, ↓w_rt, ↓w_bh, sm_l, sm_r, ↓w_okr, ↓w_nm, ↓w_ite, ↓reduceIte, not_true_eq_false, not_false_eq_true, and_true, true_and, and_self, Option.some.injEq, reduceCtorEq, eq_self, ↓w_rc, ↓w_gI, ↓w_gR, ↓w_aN, ↓w_aI, ↓w_aR, ↓w_aL, ↓w_pI, ↓w_pR, ↓w_sI, ↓w_sR, ↓w_sL, ↓w_nO, ↓w_nA, ↓w_nL, ↓w_ca, ↓w_ca0, ↓w_gS, ↓w_gK, ↓w_dv, ↓w_tw, ↓w_rz, ↓w_no, nv_lit, nv_f, nv_add, nv_mul, nv_sub, nv_le, nv_lt, nv_eq, nv_cl, Nat.reduceMod, Nat.reduceMul, Nat.reduceAdd, Nat.zero_add, Nat.add_zero, Nat.mul_zero, decide_eq_true_eq, nv_inT, c1]
          refine ih b A hcb hAb hup hlo hl2 h1 (fun y hy e => ?_)
          by_cases ey : y = k
          · rw [ey] at e; exact absurd e c1
          · exact hp y (by omega) e
  exact l FU 0 (by omega) (by unfold FU; omega) d A hd hA hup hlo hl2 hall (fun y hy => by omega)
theorem X5_lr_44 {G : Nat → Nat} {c : Hp} {R : Nat → Int32} (hF : FO G c 0 R) (hG : GD G) (hS : Sh R) (hFs : Fs R) {r m0 : Nat} (hm0 : m0 ≤ mxs (len R) (nH R)) (k33 : Nat → Int32 → Int32 → Mr Int32) (Q : Int32 → Hp → Prop)
    {d : Hp} {A : Nat → Nat} (hd : Sx G c d) (hA : ∀ y, y < nH R → hI d (G 18) y = nv (A y)) (hup : ∀ y, y < nH R → A y ≤ len R y) (hlo : ∀ y, y < nH R → ln R (r + 1) y ≤ A y) (hall : ∀ y, y < nH R → 1 ≤ A y)
    (kk : ∀ d (A : Nat → Nat) m, Sx G c d → (∀ y, y < nH R → hI d (G 18) y = nv (A y)) → (∀ y, y < nH R → A y ≤ len R y) → (∀ y, y < nH R → ln R (r + 2) y ≤ A y) → (∀ y, y < nH R → 1 ≤ A y) → m ≤ mxs (len R) (nH R) → (∀ y, y < nH R → ln R (r + 2) y ≤ m) → Wp (k33 (G 10) (nv m) (nv (r + 1))) d Q) :
    Wp (X5_longestRow_44 k33 FU (G 10) (nv m0) (nv r) (nv 0)) d Q := by
  have h10 := sh_H10 hS
  have hM : mxs (len R) (nH R) ≤ 100 := mxs_le fun y _ => by
    have := len_n R y
    omega
  have l : ∀ (f j : Nat), j ≤ nH R → nH R - j < f → ∀ d (A : Nat → Nat) m, Sx G c d → (∀ y, y < nH R → hI d (G 18) y = nv (A y)) → (∀ y, y < nH R → A y ≤ len R y) → (∀ y, y < nH R → ln R (r + 1) y ≤ A y) → (∀ y, y < j → ln R (r + 2) y ≤ A y) → (∀ y, y < nH R → 1 ≤ A y) → m ≤ mxs (len R) (nH R) → (∀ y, y < j → ln R (r + 2) y ≤ m) → Wp (X5_longestRow_44 k33 f (G 10) (nv m) (nv r) (nv j)) d Q := by
    refine loopUp _ (nH R) ?_ ?_
    · intro f d A m hd hA hup hlo hl2 h1 hm hml
      have f0 := hF.sx hG hd
      simp (disch := omega) only [X5_longestRow_44, ↓w_bd, ↓w_rt, ↓w_bh, sm_l, sm_r, ↓w_okr, ↓w_nm, ↓w_ite, ↓reduceIte, not_true_eq_false, not_false_eq_true, and_true, true_and, and_self, Option.some.injEq, reduceCtorEq, eq_self, ↓w_rc, ↓w_gI, ↓w_gR, ↓w_aN, ↓w_aI, ↓w_aR, ↓w_aL, ↓w_pI, ↓w_pR, ↓w_sI, ↓w_sR, ↓w_sL, ↓w_nO, ↓w_nA, ↓w_nL, ↓w_ca, ↓w_ca0, ↓w_gS, ↓w_gK, ↓w_dv, ↓w_tw, ↓w_rz, ↓w_no, nv_lit, nv_f, nv_add, nv_mul, nv_sub, nv_le, nv_lt, nv_eq, nv_cl, Nat.reduceMod, Nat.reduceMul, Nat.reduceAdd, Nat.zero_add, Nat.add_zero, Nat.mul_zero, decide_eq_true_eq, nv_inT, f0.1, X5_get_w f0, sh_H hS, Nat.le_refl]
      exact kk d A m hd hA hup hl2 h1 hm hml
    · intro f j hj ih d A m hd hA hup hlo hl2 h1 hm hml
      have f0 := hF.sx hG hd
      simp (disch := omega) only [X5_longestRow_44, ↓w_bd, ↓w_rt, ↓w_bh, sm_l, sm_r, ↓w_okr, ↓w_nm, ↓w_ite, ↓reduceIte, not_true_eq_false, not_false_eq_true, and_true, true_and, and_self, Option.some.injEq, reduceCtorEq, eq_self, ↓w_rc, ↓w_gI, ↓w_gR, ↓w_aN, ↓w_aI, ↓w_aR, ↓w_aL, ↓w_pI, ↓w_pR, ↓w_sI, ↓w_sR, ↓w_sL, ↓w_nO, ↓w_nA, ↓w_nL, ↓w_ca, ↓w_ca0, ↓w_gS, ↓w_gK, ↓w_dv, ↓w_tw, ↓w_rz, ↓w_no, nv_lit, nv_f, nv_add, nv_mul, nv_sub, nv_le, nv_lt, nv_eq, nv_cl, Nat.reduceMod, Nat.reduceMul, Nat.reduceAdd, Nat.zero_add, Nat.add_zero, Nat.mul_zero, decide_eq_true_eq, nv_inT, f0.1, X5_get_w f0, sh_H hS, Nat.not_le.mpr hj]
      refine X5_lr_56 hF hG hS hFs hj (show m ≤ 100 by omega) k33 _ _ Q hd hA hup hlo hl2 (h1 j hj) (fun d A hd hA hup hlo hl2 h1 => ?_) h1
      have b1 := hup j hj
      have b2 := mxs_ge (f := len R) hj
      refine ih d A (max m (A j)) hd hA hup hlo hl2 h1 (by omega) (fun y hy => ?_)
      by_cases e : y = j
      · have := hl2 j (by omega)
        rw [e]; omega
      · have := hml y (by omega)
        omega
  exact l FU 0 (by omega) (by unfold FU; omega) d A m0 hd hA hup hlo (fun y hy => by omega) hall hm0 (fun y hy => by omega)
theorem X5_lr_33 {G : Nat → Nat} {c : Hp} {R : Nat → Int32} (hF : FO G c 0 R) (hG : GD G) (hS : Sh R) (hFs : Fs R) (Q : Int32 → Hp → Prop)
    {d : Hp} (hd : Sx G c d) (hA : ∀ y, y < nH R → hI d (G 18) y = nv 1) (kk : ∀ d, Sx G c d → Q (nv (mxs (len R) (nH R))) d) : Wp (X5_longestRow_33 FU (G 10) (nv 1) (nv 0)) d Q := by
  have h10 := sh_H10 hS
  have h2 := sh_H2 hS
  have l : ∀ (f r : Nat), r ≤ nH R → nH R - r < f → ∀ d (A : Nat → Nat) m, Sx G c d → (∀ y, y < nH R → hI d (G 18) y = nv (A y)) → (∀ y, y < nH R → A y ≤ len R y) → (∀ y, y < nH R → ln R (r + 1) y ≤ A y) → (∀ y, y < nH R → 1 ≤ A y) → m ≤ mxs (len R) (nH R) → (∀ y, y < nH R → ln R (r + 1) y ≤ m) → Wp (X5_longestRow_33 f (G 10) (nv m) (nv r)) d Q := by
    refine loopUp _ (nH R) ?_ ?_
    · intro f d A m hd hA hup hlo h1 hm hml
      have f0 := hF.sx hG hd
      simp (disch := omega) only [X5_longestRow_33, ↓w_bd, ↓w_rt, ↓w_bh, sm_l, sm_r, ↓w_okr, ↓w_nm, ↓w_ite, ↓reduceIte, not_true_eq_false, not_false_eq_true, and_true, true_and, and_self, Option.some.injEq, reduceCtorEq, eq_self, ↓w_rc, ↓w_gI, ↓w_gR, ↓w_aN, ↓w_aI, ↓w_aR, ↓w_aL, ↓w_pI, ↓w_pR, ↓w_sI, ↓w_sR, ↓w_sL, ↓w_nO, ↓w_nA, ↓w_nL, ↓w_ca, ↓w_ca0, ↓w_gS, ↓w_gK, ↓w_dv, ↓w_tw, ↓w_rz, ↓w_no, nv_lit, nv_f, nv_add, nv_mul, nv_sub, nv_le, nv_lt, nv_eq, nv_cl, Nat.reduceMod, Nat.reduceMul, Nat.reduceAdd, Nat.zero_add, Nat.add_zero, Nat.mul_zero, decide_eq_true_eq, nv_inT, f0.1, X5_get_w f0, sh_H hS, Nat.le_refl]
      have e : m = mxs (len R) (nH R) := Nat.le_antisymm hm (mxs_le fun y hy => by
        have := hml y hy
        rwa [ln_len hFs h10 hy (by omega)] at this)
      rw [e]
      exact kk d hd
    · intro f r hr ih d A m hd hA hup hlo h1 hm hml
      have f0 := hF.sx hG hd
      simp (disch := omega) only [X5_longestRow_33, ↓w_bd, ↓w_rt, ↓w_bh, sm_l, sm_r, ↓w_okr, ↓w_nm, ↓w_ite, ↓reduceIte, not_true_eq_false, not_false_eq_true, and_true, true_and, and_self, Option.some.injEq, reduceCtorEq, eq_self, ↓w_rc, ↓w_gI, ↓w_gR, ↓w_aN, ↓w_aI, ↓w_aR, ↓w_aL, ↓w_pI, ↓w_pR, ↓w_sI, ↓w_sR, ↓w_sL, ↓w_nO, ↓w_nA, ↓w_nL, ↓w_ca, ↓w_ca0, ↓w_gS, ↓w_gK, ↓w_dv, ↓w_tw, ↓w_rz, ↓w_no, nv_lit, nv_f, nv_add, nv_mul, nv_sub, nv_le, nv_lt, nv_eq, nv_cl, Nat.reduceMod, Nat.reduceMul, Nat.reduceAdd, Nat.zero_add, Nat.add_zero, Nat.mul_zero, decide_eq_true_eq, nv_inT, f0.1, X5_get_w f0, sh_H hS, Nat.not_le.mpr hr]
      exact X5_lr_44 hF hG hS hFs hm _ Q hd hA hup hlo h1 fun d A m g1 g2 g3 g4 g5 g6 g7 => ih d A m g1 g2 g3 g4 g5 g6 g7
  have b0 := mxs_ge (f := len R) (show 0 < nH R by omega)
  have b1 := len_1 hFs h10 (show 0 < nH R by omega)
  exact l FU 0 (by omega) (by unfold FU; omega) d (fun _ => 1) 1 hd hA (fun y hy => len_1 hFs h10 hy) (fun y _ => ln_k R 1 y) (fun _ _ => Nat.le_refl _) (by omega) (fun y _ => ln_k R 1 y)
theorem op_longestRow {G : Nat → Nat} {B : Nat → Nat × Nat} {S : Gst} {a : Hp} (hC : JC G B S a) (hT : JT G S a) : OpE G a (X1_longestRow (G 0)) (X5_longestRow (G 10)) := by
  obtain ⟨L, R, hM, hRo, hX, hF, h0⟩ := start hC hT
  have hG := hC.1.gd
  have hS := hRo.1
  have hFs := hRo.2.1
  have h10 := sh_H10 hS
  have h2 := sh_H2 hS
  have hs : ∀ i, i < 22 → G i < hSz a := fun i hi => (hC.1 i hi).1
  have hmul := Nat.mul_le_mul h10 h10
  simp (disch := omega) only [OpE, X1_longestRow, ↓w_bd, ↓w_rt, ↓w_bh, sm_l, sm_r, ↓w_okr, ↓w_nm, ↓w_ite, ↓reduceIte, not_true_eq_false, not_false_eq_true, and_true, true_and, and_self, Option.some.injEq, reduceCtorEq, eq_self, ↓w_rc, ↓w_gI, ↓w_gR, ↓w_aN, ↓w_aI, ↓w_aR, ↓w_ca, ↓w_ca0, nv_lit, nv_f, nv_add, nv_mul, nv_sub, nv_le, nv_lt, nv_eq, nv_cl, Nat.reduceMod, Nat.reduceMul, Nat.reduceAdd, Nat.zero_add, Nat.add_zero, Nat.mul_zero, decide_eq_true_eq, nv_inT, mk_k hM, mk_n hM, mk_r hM, mk_i hM, hX]
  refine X2_ways_w hM hFs _ fun b D hD hW => ?_
  have hMb := hM.ext hW.1 (B' := B) (fun _ _ => rfl)
  have hXb := hX.ext hW.1
  simp (disch := omega) only [↓w_bd, ↓w_rt, ↓w_bh, sm_l, sm_r, ↓w_okr, ↓w_nm, ↓w_ite, ↓reduceIte, not_true_eq_false, not_false_eq_true, and_true, true_and, and_self, Option.some.injEq, reduceCtorEq, eq_self, ↓w_rc, ↓w_gI, ↓w_gR, ↓w_aN, ↓w_aI, ↓w_aR, ↓w_ca, ↓w_ca0, nv_lit, nv_f, nv_add, nv_mul, nv_sub, nv_le, nv_lt, nv_eq, nv_cl, Nat.reduceMod, Nat.reduceMul, Nat.reduceAdd, Nat.zero_add, Nat.add_zero, Nat.mul_zero, decide_eq_true_eq, nv_inT, mk_k hMb, mk_r hMb, mk_i hMb, hXb]
  refine w_nA' (n := nH R) (by omega) fun c e1 z1 l1 k1 n1 i1 r1 => ?_
  have zb : hSz b = hSz a + 2 + nH R := hW.2.1
  have lb : hSl b = hSl a + 2 + nH R + nH R * nH R := hW.2.2.1
  have hWc := hW.2.2.2.e0 e1 (by omega)
  simp (disch := omega) only [↓w_bd, ↓w_rt, ↓w_bh, sm_l, sm_r, ↓w_okr, ↓w_nm, ↓w_ite, ↓reduceIte, not_true_eq_false, not_false_eq_true, and_true, true_and, and_self, Option.some.injEq, reduceCtorEq, eq_self, ↓w_rc, ↓w_gI, ↓w_gR, ↓w_aN, ↓w_aI, ↓w_aR, ↓w_ca, ↓w_ca0, nv_lit, nv_f, nv_add, nv_mul, nv_sub, nv_le, nv_lt, nv_eq, nv_cl, Nat.reduceMod, Nat.reduceMul, Nat.reduceAdd, Nat.zero_add, Nat.add_zero, Nat.mul_zero, decide_eq_true_eq, nv_inT, k1, n1]
  rw [← nv_sub (show 1 ≤ nH R by omega)]
  refine X1_lr_29 hM hX hFs hD (hW.1.tr e1) hWc (by omega) (by omega) k1 n1 (fun y => by rw [i1]) _ fun d hE z l => ?_
  have hTd := hT.e0 hE hs
  have hFd := hF.e0 hE hs
  have hF0 := hFd.th hG (nv 0)
  have n18 := fun i (hi : i < 22) (hn : i ≠ 18) => hG.ne (show 18 < 22 by omega) hi (Ne.symm hn)
  have l9 : ∀ (f k : Nat), k ≤ nH R → nH R - k < f → ∀ e, Sx G (th G d (nv 0)) e → (∀ y, y < k → hI e (G 18) y = nv 1) → Wp (X5_longestRow_9 f (G 10) (nv 1) (nv k)) e (fun w c => nv (mxs (len R) (nH R)) = w ∧ After G a c) := by
    refine loopUp _ (nH R) ?_ ?_
    · intro f e he h1
      have f0 := hF0.sx hG he
      simp (disch := omega) only [X5_longestRow_9, ↓w_bd, ↓w_rt, ↓w_bh, sm_l, sm_r, ↓w_okr, ↓w_nm, ↓w_ite, ↓reduceIte, not_true_eq_false, not_false_eq_true, and_true, true_and, and_self, Option.some.injEq, reduceCtorEq, eq_self, ↓w_rc, ↓w_gI, ↓w_gR, ↓w_aN, ↓w_aI, ↓w_aR, ↓w_aL, ↓w_pI, ↓w_pR, ↓w_sI, ↓w_sR, ↓w_sL, ↓w_nO, ↓w_nA, ↓w_nL, ↓w_ca, ↓w_ca0, ↓w_gS, ↓w_gK, ↓w_dv, ↓w_tw, ↓w_rz, ↓w_no, nv_lit, nv_f, nv_add, nv_mul, nv_sub, nv_le, nv_lt, nv_eq, nv_cl, Nat.reduceMod, Nat.reduceMul, Nat.reduceAdd, Nat.zero_add, Nat.add_zero, Nat.mul_zero, decide_eq_true_eq, nv_inT, f0.1, X5_get_w f0, sh_H hS, Nat.le_refl]
      refine X5_lr_33 hF0 hG hS hFs _ he h1 fun d2 hd2 => ⟨rfl, ?_⟩
      exact post_e hC hT hE (by omega) (by omega) hd2
    · intro f k hk ih e he h1
      have f0 := hF0.sx hG he
      simp (disch := omega) only [X5_longestRow_9, ↓w_bd, ↓w_rt, ↓w_bh, sm_l, sm_r, ↓w_okr, ↓w_nm, ↓w_ite, ↓reduceIte, not_true_eq_false, not_false_eq_true, and_true, true_and, and_self, Option.some.injEq, reduceCtorEq, eq_self, ↓w_rc, ↓w_gI, ↓w_gR, ↓w_aN, ↓w_aI, ↓w_aR, ↓w_aL, ↓w_pI, ↓w_pR, ↓w_sI, ↓w_sR, ↓w_sL, ↓w_nO, ↓w_nA, ↓w_nL, ↓w_ca, ↓w_ca0, ↓w_gS, ↓w_gK, ↓w_dv, ↓w_tw, ↓w_rz, ↓w_no, nv_lit, nv_f, nv_add, nv_mul, nv_sub, nv_le, nv_lt, nv_eq, nv_cl, Nat.reduceMod, Nat.reduceMul, Nat.reduceAdd, Nat.zero_add, Nat.add_zero, Nat.mul_zero, decide_eq_true_eq, nv_inT, f0.1, X5_get_w f0, sh_H hS, Nat.not_le.mpr hk, nr41]
      refine ih _ (he.w (.inr (.inr rfl)) _) (fun y hy => ?_)
      rw [hI_wI, up1_s]
      by_cases ey : y = k
      · rw [ey, up1_s]
      · rw [up1_n _ _ ey]; exact h1 y (by omega)
  have go := l9 FU 0 (by omega) (by unfold FU; omega) (th G d (nv 0)) (Sx.rf _ _) (fun y hy => by omega)
  simp (disch := omega) only [X5_longestRow, ↓w_bd, ↓w_rt, ↓w_bh, sm_l, sm_r, ↓w_okr, ↓w_nm, ↓w_ite, ↓reduceIte, not_true_eq_false, not_false_eq_true, and_true, true_and, and_self, Option.some.injEq, reduceCtorEq, eq_self, ↓w_rc, ↓w_gI, ↓w_gR, ↓w_aN, ↓w_aI, ↓w_aR, ↓w_aL, ↓w_pI, ↓w_pR, ↓w_sI, ↓w_sR, ↓w_sL, ↓w_nO, ↓w_nA, ↓w_nL, ↓w_ca, ↓w_ca0, ↓w_gS, ↓w_gK, ↓w_dv, ↓w_tw, ↓w_rz, ↓w_no, nv_lit, nv_f, nv_add, nv_mul, nv_sub, nv_le, nv_lt, nv_eq, nv_cl, Nat.reduceMod, Nat.reduceMul, Nat.reduceAdd, Nat.zero_add, Nat.add_zero, Nat.mul_zero, decide_eq_true_eq, nv_inT, th_f, hFd.1, okn]
  exact go
