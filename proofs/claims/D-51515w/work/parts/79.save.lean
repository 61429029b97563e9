/-- a command without an answer -/
def OpT (G : Nat → Nat) (a : Hp) (m : Mr Int32) (n : Mr Unit) : Prop := Wp m a (fun r b => Wp n b (fun _ c => hI c (G 10) 5 = r ∧ After G a c))
def sV (S : Gst) (j : Nat) (p : Mp) : Gst := ((up1 (gm S) (7 + j) (some p), gu S), S.2)
theorem nr43 : nrA 43 (nv 1) = nv 1 := by decide
theorem pq_fr {G : Nat → Nat} {B : Nat → Nat × Nat} {S : Gst} {a b : Hp} (hC : JC G B S a) (ep : EP (Pq G) a b) : Frm G B a b := ep.fr fun q hq _ => ⟨.inr (by
      rcases hq with e | e | e | e
      · exact ⟨0, by omega, e⟩
      · exact ⟨2, by omega, e⟩
      · exact ⟨3, by omega, e⟩
      · exact ⟨6, by omega, e⟩), pq_k hC q hq⟩
theorem op_save {G : Nat → Nat} {B : Nat → Nat × Nat} {S : Gst} {a : Hp} (hC : JC G B S a) (hT : JT G S a) (v : Int32) : OpT G a (X0_save (some (G 0)) v) (X5_save (G 10) v) := by
  obtain ⟨L, R, hM, hRo, hX, hF, h0⟩ := start hC hT
  have hG := hC.1.gd
  have hJ := hC.2.1
  have hs : ∀ i, i < 22 → G i < hSz a := fun i hi => (hC.1 i hi).1
  have n := fun i j (hi : i < 22) (hj : j < 22) (hn : i ≠ j) => hG.ne hi hj hn
  by_cases h : inr v 2
  · obtain ⟨j, rfl, hj⟩ := inr_k h
    have hb := bw_1' h (by omega) (show 2 = 1 + 1 from rfl)
    simp (disch := omega) only [OpT, X0_save, X1_save, ↓w_bd, ↓w_rt, ↓w_bh, sm_l, sm_r, ↓w_okr, ↓w_nm, ↓w_ite, ↓reduceIte, not_true_eq_false, not_false_eq_true, and_true, true_and, and_self, Option.some.injEq, reduceCtorEq, eq_self, ↓w_rc, ↓w_gI, ↓w_gR, ↓w_aN, ↓w_aI, ↓w_aR, ↓w_aL, ↓w_pI, ↓w_pR, ↓w_sI, ↓w_sR, ↓w_sL, ↓w_nA, ↓w_nL, ↓w_ca, ↓w_ca0, ↓w_gS, ↓w_gK, ↓w_dv, ↓w_tw, ↓w_rz, ↓w_no, nv_lit, nv_f, nv_add, nv_mul, nv_sub, nv_le, nv_lt, nv_eq, nv_cl, Nat.reduceMod, Nat.reduceMul, Nat.reduceAdd, Nat.zero_add, Nat.add_zero, Nat.mul_zero, decide_eq_true_eq, nv_inT, hX, hJ, X1_isBetween_w, hb, X1_requireArgument_1 n10]
    refine w_nO' fun c1 e1 z1 l1 k1 i1 r1 => ?_
    have o0 := e1.2.2 (G 0) (hs 0 (by omega))
    have k0 : hK c1 (G 0) = 1 := by rw [o0.1]; exact hJ.1.1
    have r4 : hR c1 (G 0) 4 = some (L 0) := by rw [o0.2.2.1]; exact hX.2.1
    simp (disch := omega) only [↓w_bd, ↓w_rt, ↓w_bh, sm_l, sm_r, ↓w_okr, ↓w_nm, ↓w_ite, ↓reduceIte, not_true_eq_false, not_false_eq_true, and_true, true_and, and_self, Option.some.injEq, reduceCtorEq, eq_self, ↓w_rc, ↓w_gI, ↓w_gR, ↓w_aN, ↓w_aI, ↓w_aR, ↓w_ca, ↓w_ca0, nv_lit, nv_f, nv_add, nv_mul, nv_sub, nv_le, nv_lt, nv_eq, nv_cl, Nat.reduceMod, Nat.reduceMul, Nat.reduceAdd, Nat.zero_add, Nat.add_zero, Nat.mul_zero, decide_eq_true_eq, nv_inT, k0, r4]
    refine X2_copy_w hM rfl z1 e1 k1 _ fun c B' Ln ec hB hNm en lve zc lc => ?_
    have oG := fun i hi => ec.2.2 (G i) (hs i hi)
    have kq : hK c (hSz a) = 2 := by
      rw [← en]
      exact (mk_k hNm).1.1
    have ok : okR c [2] (some (hSz a)) = true := by show [2].contains (hK c (hSz a)) = true; rw [kq]; decide
    have k3 : hK c (G 3) = 49 := by rw [(oG 3 (by omega)).1]; exact hJ.2.1.2.2.1
    have n3 : hN c (G 3) = 2 := by rw [(oG 3 (by omega)).2.1]; exact hJ.2.2.1.2.1
    simp (disch := omega) only [↓w_bd, ↓w_rt, ↓w_bh, sm_l, sm_r, ↓w_okr, ↓w_nm, ↓w_ite, ↓reduceIte, not_true_eq_false, not_false_eq_true, and_true, true_and, and_self, Option.some.injEq, reduceCtorEq, eq_self, ↓w_rc, ↓w_gI, ↓w_gR, ↓w_aN, ↓w_aI, ↓w_aR, ↓w_aL, ↓w_pI, ↓w_pR, ↓w_sI, ↓w_sR, ↓w_sL, ↓w_nO, ↓w_nA, ↓w_nL, ↓w_ca, ↓w_ca0, ↓w_gS, ↓w_gK, ↓w_dv, ↓w_tw, ↓w_rz, ↓w_no, nv_lit, nv_f, nv_add, nv_mul, nv_sub, nv_le, nv_lt, nv_eq, nv_cl, Nat.reduceMod, Nat.reduceMul, Nat.reduceAdd, Nat.zero_add, Nat.add_zero, Nat.mul_zero, decide_eq_true_eq, nv_inT, k3, n3, ok]
    obtain ⟨b, eb⟩ : ∃ b, b = hwR c (G 3) (up1 (hR c (G 3)) j (some (hSz a))) := ⟨_, rfl⟩
    rw [← eb]
    have ecb : EP (Pq G) c b := by rw [eb]; exact (EP.rf _ c).wR (.inl (.inr (.inr (.inl rfl)))) _
    have eab := (ec.ep (Pq G)).tr ecb
    have b3 : ∀ i, hR b (G 3) i = up1 (hR c (G 3)) j (some (hSz a)) i := fun i => by rw [eb, hR_wR, up1_s]
    have bo : ∀ i, i < 22 → i ≠ 3 → hR b (G i) = hR a (G i) := fun i hi hn => by rw [eb, hR_wR, up1_n _ _ (n i 3 hi (by omega) hn)]; exact (oG i hi).2.2.1
    have bI : ∀ i, i < 22 → hI b (G i) = hI a (G i) := fun i hi => by rw [eb, hI_wR]; exact (oG i hi).2.2.2.1
    have bK : ∀ i, i < 22 → hK b (G i) = hK a (G i) := fun i hi => by rw [eb]; exact (oG i hi).1
    have bN : ∀ i, i < 22 → hN b (G i) = hN a (G i) := fun i hi => by rw [eb]; exact (oG i hi).2.1
    have gmn : ∀ i, i ≠ 7 + j → gm (sV S j (Ln, R)) i = gm S i := fun i hi => up1_n (gm S) _ hi
    have gms : gm (sV S j (Ln, R)) (7 + j) = some (Ln, R) := up1_s (gm S) _ _
    obtain ⟨d1, d2, hd, d3, d4, d5, d6⟩ := hC.2.2.2.1
    have jb : JC G B' (sV S j (Ln, R)) b := by
      refine hC.gen eab hB rfl (fun j' _ => by rw [bo 0 (by omega) (by omega)]) (bI 0 (by omega)) (.inr ⟨by rw [bK 0 (by omega)]; exact hJ.1.1, by rw [bK 2 (by omega)]; exact hJ.2.1.2.1, by rw [bK 3 (by omega)]; exact hJ.2.1.2.2.1, by rw [bK 6 (by omega)]; exact hJ.2.1.2.2.2.2.2.1⟩) ⟨by rw [bN 3 (by omega)]; exact hJ.2.2.1.2.1, by rw [bN 6 (by omega)]; exact hJ.2.2.1.2.2.2.1⟩ (by rw [bo 2 (by omega) (by omega)]; exact hJ.2.2.2.1) ⟨⟨(L, R), by rw [gmn 0 (by omega)]; exact h0, by rw [bo 0 (by omega) (by omega)]; exact hX.2.1⟩, fun i p hp => ?_, fun i i' p q hij hp hq => ?_⟩ ⟨d1, fun i hi => by rw [gmn _ (by omega)]; exact d2 i hi, hd, d3, by rw [bI 2 (by omega)]; exact d4, by rw [bI 2 (by omega)]; exact d5, fun i p hi hp => ?_⟩ fun i hi => ?_
      · by_cases c1 : i = 7 + j
        · subst c1
          rw [gms] at hp
          cases hp
          refine ⟨by omega, hNm.ep ecb (fun q hq => ?_) (fun _ _ => rfl), hRo⟩
          have := pq_P hC (Ln 0) q hq
          rcases hq with rfl | rfl | rfl | rfl
          · rw [hB _ (hs 0 (by omega)), (oG 0 (by omega)).1]; exact this
          · rw [hB _ (hs 2 (by omega)), (oG 2 (by omega)).1]; exact this
          · rw [hB _ (hs 3 (by omega)), (oG 3 (by omega)).1]; exact this
          · rw [hB _ (hs 6 (by omega)), (oG 6 (by omega)).1]; exact this
        · rw [gmn i c1] at hp
          obtain ⟨m1, m2, m3, m4⟩ := JM.e hC hp
          exact ⟨m3, m1.ep eab (fun q hq => pq_P hC _ q hq) hB, m4⟩
      · by_cases c1 : i = 7 + j
        · subst c1
          rw [gms] at hp
          cases hp
          rw [gmn i' (Ne.symm hij)] at hq
          have := (JM.e hC hq).2.1
          show Ln 0 ≠ q.1 0
          omega
        · rw [gmn i c1] at hp
          by_cases c2 : i' = 7 + j
          · subst c2
            rw [gms] at hq
            cases hq
            have := (JM.e hC hp).2.1
            show p.1 0 ≠ Ln 0
            omega
          · rw [gmn i' c2] at hq
            exact hC.2.2.1.2.2 i i' p q hij hp hq
      · have hi' : i < gu S := hi
        rw [gmn _ (by omega)] at hp
        rw [bo 6 (by omega) (by omega)]
        exact d6 i p hi' hp
      · rw [b3]
        by_cases c1 : i = j
        · rw [c1, up1_s, gms, ← en]; rfl
        · rw [up1_n _ _ c1, gmn _ (by omega), (oG 3 (by omega)).2.2.1]
          exact hC.2.2.2.2.1 i hi
    have frb := pq_fr hC eab
    have hTb := frb.t hC.1 hT
    have t5 := th_5 G b (nv 0)
    have hTt := hTb.th hG (nv 0)
    have hF0 := hTt.1
    have kc : hK (cpw G (th G b (nv 0)) 0 (7 + j)) (G 10) = 5 := hF0.1.1
    have fc' : FT G (cpw G (th G b (nv 0)) 0 (7 + j)) := hF0
    have hk5 : hK (th G b (nv 0)) (G 10) = 5 := hF0.1.1
    simp (disch := omega) only [X5_save, ↓w_bd, ↓w_rt, ↓w_bh, sm_l, sm_r, ↓w_okr, ↓w_nm, ↓w_ite, ↓reduceIte, not_true_eq_false, not_false_eq_true, and_true, true_and, and_self, Option.some.injEq, reduceCtorEq, eq_self, ↓w_rc, ↓w_gI, ↓w_gR, ↓w_aN, ↓w_aI, ↓w_aR, ↓w_aL, ↓w_pI, ↓w_pR, ↓w_sI, ↓w_sR, ↓w_sL, ↓w_nO, ↓w_nA, ↓w_nL, ↓w_ca, ↓w_ca0, ↓w_gS, ↓w_gK, ↓w_dv, ↓w_tw, ↓w_rz, ↓w_no, nv_lit, nv_f, nv_add, nv_mul, nv_sub, nv_le, nv_lt, nv_eq, nv_cl, Nat.reduceMod, Nat.reduceMul, Nat.reduceAdd, Nat.zero_add, Nat.add_zero, Nat.mul_zero, decide_eq_true_eq, nv_inT, th_f, th_K, th_N, th_R, th_5, th_2, okn0, Nat.reduceEqDiff, hTb.1, hF0, X5_in_w, hb, X5_holds_1 hk5 t5 n10, n10, X5_copies_w hF0, fc', nr43]
    obtain ⟨w, ew⟩ : ∃ w, w = cpw G (th G b (nv 0)) 0 (7 + j) := ⟨_, rfl⟩
    rw [← ew]
    have n1110 := n 10 11 (by omega) (by omega) (by omega)
    have wo : ∀ q, q ≠ G 10 → q ≠ G 11 → hI w q = hI b q := fun q h1 h2 => by rw [ew, cpw_o G _ _ _ h2]; exact th_o G b _ h1
    have w10 : ∀ i, i ≠ 5 → hI w (G 10) i = hI b (G 10) i := fun i hi => by rw [ew, cpw_o G _ _ _ n1110]; exact th_n G b _ hi
    have w5 : hI w (G 10) 5 = nv 0 := by rw [ew, cpw_o G _ _ _ n1110]; exact t5
    have kw : w.1 = b.1 ∧ w.2.2 = b.2.2 := by rw [ew]; exact ⟨rfl, rfl⟩
    have n1210 := n 10 12 (by omega) (by omega) (by omega)
    have n1112 := n 11 12 (by omega) (by omega) (by omega)
    refine ⟨?_, after_g hC hT frb jb ?_ ?_ (JT.gen (c := hwI w (G 12) (up1 (hI w (G 12)) j (nv 1))) hG hTb ⟨kw.1, kw.2⟩ (fun q h1 h2 h3 => by rw [hI_wI, up1_n _ _ h3]; exact wo q h1 h2) (fun i h4 h5 => by rw [hI_wI, up1_n _ _ n1210]; exact w10 i h5) rfl ?_ (fun i p hp k hk => ?_) (fun i hi => ?_)) ⟨kw.1, kw.2, fun q h1 h2 h3 _ _ _ _ _ => by rw [hI_wI, up1_n _ _ h3]; exact wo q h1 h2, fun i h4 h5 _ => by rw [hI_wI, up1_n _ _ n1210]; exact w10 i h5⟩⟩
    · rw [hI_wI, up1_n _ _ n1210]; exact w5
    · rw [eb]; show hSz c ≤ _; omega
    · rw [eb]; show hSl c ≤ _; omega
    · rw [hI_wI, up1_n _ _ n1210, w10 _ (by omega)]; exact hTb.2.2.1
    · rw [hI_wI, up1_n _ _ n1112]
      by_cases c1 : i = 7 + j
      · subst c1
        rw [gms] at hp
        cases hp
        rw [ew, cpw_r G _ _ _ k hk, th_o G b _ (n 11 10 (by omega) (by omega) (by omega))]
        exact hTb.2.2.2.1 0 _ h0 k hk
      · rw [gmn i c1] at hp
        rw [ew, cpw_n G _ _ _ _ (by omega), th_o G b _ (n 11 10 (by omega) (by omega) (by omega))]
        exact hTb.2.2.2.1 i p hp k hk
    · rw [hI_wI, up1_s]
      by_cases c1 : i = j
      · rw [c1, up1_s, gms]; rfl
      · rw [up1_n _ _ c1, wo _ (n 12 10 (by omega) (by omega) (by omega)) (n 12 11 (by omega) (by omega) (by omega)), gmn _ (by omega)]
        exact hTb.2.2.2.2.1 i hi
  · have hb := bw_0' h (by omega) (show 2 = 1 + 1 from rfl)
    have hTb := hT.e0 (tw_e a) hs
    have t5 := th_5 G (tw_ a) (nv 0)
    have hk5 : hK (th G (tw_ a) (nv 0)) (G 10) = 5 := hTb.1.1.1
    simp (disch := omega) only [OpT, X0_save, X1_save, ↓w_bd, ↓w_rt, ↓w_bh, sm_l, sm_r, ↓w_okr, ↓w_nm, ↓w_ite, ↓reduceIte, not_true_eq_false, not_false_eq_true, and_true, true_and, and_self, Option.some.injEq, reduceCtorEq, eq_self, ↓w_rc, ↓w_gI, ↓w_gR, ↓w_aN, ↓w_aI, ↓w_aR, ↓w_aL, ↓w_pI, ↓w_pR, ↓w_sI, ↓w_sR, ↓w_sL, ↓w_nO, ↓w_nA, ↓w_nL, ↓w_ca, ↓w_ca0, ↓w_gS, ↓w_gK, ↓w_dv, ↓w_tw, ↓w_rz, ↓w_no, nv_lit, nv_f, nv_add, nv_mul, nv_sub, nv_le, nv_lt, nv_eq, nv_cl, Nat.reduceMod, Nat.reduceMul, Nat.reduceAdd, Nat.zero_add, Nat.add_zero, Nat.mul_zero, decide_eq_true_eq, nv_inT, hX, hJ, X1_isBetween_w, hb, X1_requireArgument_0, X5_save, th_f, th_K, th_N, th_R, th_5, th_2, okn0, Nat.reduceEqDiff, hTb.1, X5_in_w, X5_holds_0 hk5 t5]
    first | exact post_e hC hT (tw_e a) (by rw [tw_z]; omega) (by rw [tw_l]; omega) (Sx.rf _ _) | exact ⟨th_5 G _ _, post_e hC hT (tw_e a) (by rw [tw_z]; omega) (by rw [tw_l]; omega) (Sx.rf _ _)⟩
/-! the deque is emptied -/
theorem J1_circularClear_w {G : Nat → Nat} {a : Hp} (k6 : hK a (G 6) = 46) (n6 : hN a (G 6) = 17) {h t : Nat} (hh : h < 17) (ht : t < 17) (Q : Unit → Hp → Prop) (kk : ∀ f, Q () (hwR a (G 6) f)) : Wp (J1_circularClear (some (G 6)) (nv h) (nv t)) a Q := by
  have ok : ∀ z, okR z [4, 8, 2] none = true := fun _ => rfl
  have ph2 : ∀ (n k : Nat), k ≤ t → t - k < n → ∀ f, Wp (J1_circularClear_12 n (some (G 6)) (nv k) (nv t) (nv t)) (hwR a (G 6) f) Q := by
    refine loopUp _ t ?_ ?_
    · intro n f
      simp (disch := omega) only [J1_circularClear_12, ↓w_bd, ↓w_rt, ↓w_bh, sm_l, sm_r, ↓w_okr, ↓w_nm, ↓w_ite, ↓reduceIte, not_true_eq_false, not_false_eq_true, and_true, true_and, and_self, Option.some.injEq, reduceCtorEq, eq_self, ↓w_rc, ↓w_gI, ↓w_gR, ↓w_aN, ↓w_aI, ↓w_aR, ↓w_aL, ↓w_pI, ↓w_pR, ↓w_sI, ↓w_sR, ↓w_sL, ↓w_nO, ↓w_nA, ↓w_nL, ↓w_ca, ↓w_ca0, ↓w_gS, ↓w_gK, ↓w_dv, ↓w_tw, ↓w_rz, ↓w_no, nv_lit, nv_f, nv_add, nv_mul, nv_sub, nv_le, nv_lt, nv_eq, nv_cl, Nat.reduceMod, Nat.reduceMul, Nat.reduceAdd, Nat.zero_add, Nat.add_zero, Nat.mul_zero, decide_eq_true_eq, nv_inT, Nat.le_refl]
      exact kk f
    · intro n k hk ih f
      simp (disch := omega) only [J1_circularClear_12, ↓w_bd, ↓w_rt, ↓w_bh, sm_l, sm_r, ↓w_okr, ↓w_nm, ↓w_ite, ↓reduceIte, not_true_eq_false, not_false_eq_true, and_true, true_and, and_self, Option.some.injEq, reduceCtorEq, eq_self, ↓w_rc, ↓w_gI, ↓w_gR, ↓w_aN, ↓w_aI, ↓w_aR, ↓w_aL, ↓w_pI, ↓w_pR, ↓w_sI, ↓w_sR, ↓w_sL, ↓w_nO, ↓w_nA, ↓w_nL, ↓w_ca, ↓w_ca0, ↓w_gS, ↓w_gK, ↓w_dv, ↓w_tw, ↓w_rz, ↓w_no, nv_lit, nv_f, nv_add, nv_mul, nv_sub, nv_le, nv_lt, nv_eq, nv_cl, Nat.reduceMod, Nat.reduceMul, Nat.reduceAdd, Nat.zero_add, Nat.add_zero, Nat.mul_zero, decide_eq_true_eq, nv_inT, Nat.not_le.mpr hk, hK_wR, hN_wR, k6, n6, ok, hR_wR, up1_s, hwR_2]
      exact ih _
  have ph1 : ∀ (n k : Nat), k ≤ 17 → 17 - k < n → ∀ f, Wp (J1_circularClear_12 (n + 20) (some (G 6)) (nv k) (nv t) (nv 17)) (hwR a (G 6) f) Q := by
    refine loopUp _ 17 ?_ ?_
    · intro n f
      have ne : ¬ 17 = t := by omega
      rw [show n + 1 + 20 = (n + 20) + 1 by omega]
      have go := ph2 (n + 20) 0 (by omega) (by omega) f
      generalize n + 20 = m at go ⊢
      simp (disch := omega) only [J1_circularClear_12, ↓w_bd, ↓w_rt, ↓w_bh, sm_l, sm_r, ↓w_okr, ↓w_nm, ↓w_ite, ↓reduceIte, not_true_eq_false, not_false_eq_true, and_true, true_and, and_self, Option.some.injEq, reduceCtorEq, eq_self, ↓w_rc, ↓w_gI, ↓w_gR, ↓w_aN, ↓w_aI, ↓w_aR, ↓w_aL, ↓w_pI, ↓w_pR, ↓w_sI, ↓w_sR, ↓w_sL, ↓w_nO, ↓w_nA, ↓w_nL, ↓w_ca, ↓w_ca0, ↓w_gS, ↓w_gK, ↓w_dv, ↓w_tw, ↓w_rz, ↓w_no, nv_lit, nv_f, nv_add, nv_mul, nv_sub, nv_le, nv_lt, nv_eq, nv_cl, Nat.reduceMod, Nat.reduceMul, Nat.reduceAdd, Nat.zero_add, Nat.add_zero, Nat.mul_zero, decide_eq_true_eq, nv_inT, Nat.le_refl, ne]
      exact go
    · intro n k hk ih f
      rw [show n + 1 + 20 = (n + 20) + 1 by omega]
      generalize n + 20 = m at ih ⊢
      simp (disch := omega) only [J1_circularClear_12, ↓w_bd, ↓w_rt, ↓w_bh, sm_l, sm_r, ↓w_okr, ↓w_nm, ↓w_ite, ↓reduceIte, not_true_eq_false, not_false_eq_true, and_true, true_and, and_self, Option.some.injEq, reduceCtorEq, eq_self, ↓w_rc, ↓w_gI, ↓w_gR, ↓w_aN, ↓w_aI, ↓w_aR, ↓w_aL, ↓w_pI, ↓w_pR, ↓w_sI, ↓w_sR, ↓w_sL, ↓w_nO, ↓w_nA, ↓w_nL, ↓w_ca, ↓w_ca0, ↓w_gS, ↓w_gK, ↓w_dv, ↓w_tw, ↓w_rz, ↓w_no, nv_lit, nv_f, nv_add, nv_mul, nv_sub, nv_le, nv_lt, nv_eq, nv_cl, Nat.reduceMod, Nat.reduceMul, Nat.reduceAdd, Nat.zero_add, Nat.add_zero, Nat.mul_zero, decide_eq_true_eq, nv_inT, Nat.not_le.mpr hk, hK_wR, hN_wR, k6, n6, ok, hR_wR, up1_s, hwR_2]
      exact ih _
  have id0 : hwR a (G 6) (hR a (G 6)) = a := by
    unfold hwR
    rw [up1_id]
    rfl
  by_cases c : t < h
  · simp (disch := omega) only [J1_circularClear, J1_circularClear_11, ↓w_bd, ↓w_rt, ↓w_bh, sm_l, sm_r, ↓w_okr, ↓w_nm, ↓w_ite, ↓reduceIte, not_true_eq_false, not_false_eq_true, and_true, true_and, and_self, Option.some.injEq, reduceCtorEq, eq_self, ↓w_rc, ↓w_gI, ↓w_gR, ↓w_aN, ↓w_aI, ↓w_aR, ↓w_aL, ↓w_pI, ↓w_pR, ↓w_sI, ↓w_sR, ↓w_sL, ↓w_nO, ↓w_nA, ↓w_nL, ↓w_ca, ↓w_ca0, ↓w_gS, ↓w_gK, ↓w_dv, ↓w_tw, ↓w_rz, ↓w_no, nv_lit, nv_f, nv_add, nv_mul, nv_sub, nv_le, nv_lt, nv_eq, nv_cl, Nat.reduceMod, Nat.reduceMul, Nat.reduceAdd, Nat.zero_add, Nat.add_zero, Nat.mul_zero, decide_eq_true_eq, nv_inT, c, k6, n6]
    have := ph1 (FU - 20) h (by omega) (by unfold FU; omega) (hR a (G 6))
    rw [id0, show FU - 20 + 20 = FU by unfold FU; rfl] at this
    exact this
  · simp (disch := omega) only [J1_circularClear, J1_circularClear_11, ↓w_bd, ↓w_rt, ↓w_bh, sm_l, sm_r, ↓w_okr, ↓w_nm, ↓w_ite, ↓reduceIte, not_true_eq_false, not_false_eq_true, and_true, true_and, and_self, Option.some.injEq, reduceCtorEq, eq_self, ↓w_rc, ↓w_gI, ↓w_gR, ↓w_aN, ↓w_aI, ↓w_aR, ↓w_aL, ↓w_pI, ↓w_pR, ↓w_sI, ↓w_sR, ↓w_sL, ↓w_nO, ↓w_nA, ↓w_nL, ↓w_ca, ↓w_ca0, ↓w_gS, ↓w_gK, ↓w_dv, ↓w_tw, ↓w_rz, ↓w_no, nv_lit, nv_f, nv_add, nv_mul, nv_sub, nv_le, nv_lt, nv_eq, nv_cl, Nat.reduceMod, Nat.reduceMul, Nat.reduceAdd, Nat.zero_add, Nat.add_zero, Nat.mul_zero, decide_eq_true_eq, nv_inT, c]
    have := ph2 FU h (by omega) (by unfold FU; omega) (hR a (G 6))
    rw [id0] at this
    exact this
def sB (S : Gst) (p : Mp) : Gst := ((fun i => if i = 0 then some p else if 1 ≤ i ∧ i ≤ 6 then none else gm S i, 0), S.2)
def κr (e : Nat) : Nat := if e = 1 then 1 else if e = 3 then 2 else 0
theorem op_restore {G : Nat → Nat} {B : Nat → Nat × Nat} {S : Gst} {a : Hp} (hC : JC G B S a) (hT : JT G S a) (v : Int32) : OpT G a (X0_restore (some (G 0)) v) (X5_restore (G 10) v) := by
  obtain ⟨L, R, hM, hRo, hX, hF, h0⟩ := start hC hT
  have hG := hC.1.gd
  have hJ := hC.2.1
  have hs : ∀ i, i < 22 → G i < hSz a := fun i hi => (hC.1 i hi).1
  have n := fun i j (hi : i < 22) (hj : j < 22) (hn : i ≠ j) => hG.ne hi hj hn
  by_cases h : inr v 2
  · obtain ⟨j, rfl, hj⟩ := inr_k h
    have hb := bw_1' h (by omega) (show 2 = 1 + 1 from rfl)
    have hsv := hC.2.2.2.2.1 j hj
    cases hm : gm S (7 + j) with
    | none =>
      have hsn : hR a (G 3) j = none := by rw [hsv, hm]; rfl
      have hTb := hT.e0 (tw_e a) hs
      have t5 := th_5 G (tw_ a) (nv 0)
      have hTt := hTb.th hG (nv 0)
      have hk5 : hK (th G (tw_ a) (nv 0)) (G 10) = 5 := hTt.1.1.1
      have fl : hI (th G (tw_ a) (nv 0)) (G 12) j = nv 0 := by
        have := hTt.2.2.2.2.1 j hj
        rw [hm] at this
        exact this
      simp (disch := omega) only [OpT, X0_restore, X1_restore, ↓w_bd, ↓w_rt, ↓w_bh, sm_l, sm_r, ↓w_okr, ↓w_nm, ↓w_ite, ↓reduceIte, not_true_eq_false, not_false_eq_true, and_true, true_and, and_self, Option.some.injEq, reduceCtorEq, eq_self, ↓w_rc, ↓w_gI, ↓w_gR, ↓w_aN, ↓w_aI, ↓w_aR, ↓w_aL, ↓w_pI, ↓w_pR, ↓w_sI, ↓w_sR, ↓w_sL, ↓w_nA, ↓w_nL, ↓w_ca, ↓w_ca0, ↓w_gS, ↓w_gK, ↓w_dv, ↓w_tw, ↓w_rz, ↓w_no, nv_lit, nv_f, nv_add, nv_mul, nv_sub, nv_le, nv_lt, nv_eq, nv_cl, Nat.reduceMod, Nat.reduceMul, Nat.reduceAdd, Nat.zero_add, Nat.add_zero, Nat.mul_zero, decide_eq_true_eq, nv_inT, hX, hJ, X1_isBetween_w, hb, X1_requireArgument_1 n10, hsn]
      simp (disch := omega) only [X1_restore_23, ↓w_bd, ↓w_rt, ↓w_bh, sm_l, sm_r, ↓w_okr, ↓w_nm, ↓w_ite, ↓reduceIte, not_true_eq_false, not_false_eq_true, and_true, true_and, and_self, Option.some.injEq, reduceCtorEq, eq_self, ↓w_rc, ↓w_gI, ↓w_gR, ↓w_aN, ↓w_aI, ↓w_aR, ↓w_aL, ↓w_pI, ↓w_pR, ↓w_sI, ↓w_sR, ↓w_sL, ↓w_nO, ↓w_nA, ↓w_nL, ↓w_ca, ↓w_ca0, ↓w_gS, ↓w_gK, ↓w_dv, ↓w_tw, ↓w_rz, ↓w_no, nv_lit, nv_f, nv_add, nv_mul, nv_sub, nv_le, nv_lt, nv_eq, nv_cl, Nat.reduceMod, Nat.reduceMul, Nat.reduceAdd, Nat.zero_add, Nat.add_zero, Nat.mul_zero, decide_eq_true_eq, nv_inT, X1_requireState_0, Nat.reduceEqDiff]
      simp (disch := omega) only [X5_restore, X5_restore_35, ↓w_bd, ↓w_rt, ↓w_bh, sm_l, sm_r, ↓w_okr, ↓w_nm, ↓w_ite, ↓reduceIte, not_true_eq_false, not_false_eq_true, and_true, true_and, and_self, Option.some.injEq, reduceCtorEq, eq_self, ↓w_rc, ↓w_gI, ↓w_gR, ↓w_aN, ↓w_aI, ↓w_aR, ↓w_aL, ↓w_pI, ↓w_pR, ↓w_sI, ↓w_sR, ↓w_sL, ↓w_nO, ↓w_nA, ↓w_nL, ↓w_ca, ↓w_ca0, ↓w_gS, ↓w_gK, ↓w_dv, ↓w_tw, ↓w_rz, ↓w_no, nv_lit, nv_f, nv_add, nv_mul, nv_sub, nv_le, nv_lt, nv_eq, nv_cl, Nat.reduceMod, Nat.reduceMul, Nat.reduceAdd, Nat.zero_add, Nat.add_zero, Nat.mul_zero, decide_eq_true_eq, nv_inT, th_f, th_K, th_N, th_R, th_5, th_2, okn0, Nat.reduceEqDiff, hTb.1, hTt.1, X5_in_w, hb, X5_holds_1 hk5 t5 n10, n10, fl, X5_holds_0 hk5 t5]
      first | exact post_e hC hT (tw_e a) (by rw [tw_z]; omega) (by rw [tw_l]; omega) (Sx.rf _ _) | exact ⟨th_5 G _ _, post_e hC hT (tw_e a) (by rw [tw_z]; omega) (by rw [tw_l]; omega) (Sx.rf _ _)⟩
    | some p =>
      have hsn : hR a (G 3) j = some (p.1 0) := by rw [hsv, hm]; rfl
      have hMp : Mk B a p.1 p.2 := (JM.e hC hm).1
      have hRp : Ro p.2 := (JM.e hC hm).2.2.2
      simp (disch := omega) only [OpT, X0_restore, X1_restore, X1_restore_23, ↓w_bd, ↓w_rt, ↓w_bh, sm_l, sm_r, ↓w_okr, ↓w_nm, ↓w_ite, ↓reduceIte, not_true_eq_false, not_false_eq_true, and_true, true_and, and_self, Option.some.injEq, reduceCtorEq, eq_self, ↓w_rc, ↓w_gI, ↓w_gR, ↓w_aN, ↓w_aI, ↓w_aR, ↓w_aL, ↓w_pI, ↓w_pR, ↓w_sI, ↓w_sR, ↓w_sL, ↓w_nA, ↓w_nL, ↓w_ca, ↓w_ca0, ↓w_gS, ↓w_gK, ↓w_dv, ↓w_tw, ↓w_rz, ↓w_no, nv_lit, nv_f, nv_add, nv_mul, nv_sub, nv_le, nv_lt, nv_eq, nv_cl, Nat.reduceMod, Nat.reduceMul, Nat.reduceAdd, Nat.zero_add, Nat.add_zero, Nat.mul_zero, decide_eq_true_eq, nv_inT, hX, hJ, X1_isBetween_w, hb, X1_requireArgument_1 n10, hsn, X1_requireState_1 n10]
      refine w_nO' fun c1 e1 z1 l1 k1 i1 r1 => ?_
      have o0 := e1.2.2 (G 0) (hs 0 (by omega))
      have o3 := e1.2.2 (G 3) (hs 3 (by omega))
      have k0 : hK c1 (G 0) = 1 := by rw [o0.1]; exact hJ.1.1
      have r6 : hR c1 (G 0) 6 = some (G 3) := by rw [o0.2.2.1]; exact hJ.1.2.2.2.1
      have k3' : hK c1 (G 3) = 49 := by rw [o3.1]; exact hJ.2.1.2.2.1
      have n3' : hN c1 (G 3) = 2 := by rw [o3.2.1]; exact hJ.2.2.1.2.1
      have r3' : hR c1 (G 3) j = some (p.1 0) := by rw [o3.2.2.1]; exact hsn
      simp (disch := omega) only [↓w_bd, ↓w_rt, ↓w_bh, sm_l, sm_r, ↓w_okr, ↓w_nm, ↓w_ite, ↓reduceIte, not_true_eq_false, not_false_eq_true, and_true, true_and, and_self, Option.some.injEq, reduceCtorEq, eq_self, ↓w_rc, ↓w_gI, ↓w_gR, ↓w_aN, ↓w_aI, ↓w_aR, ↓w_aL, ↓w_pI, ↓w_pR, ↓w_sI, ↓w_sR, ↓w_sL, ↓w_nO, ↓w_nA, ↓w_nL, ↓w_ca, ↓w_ca0, ↓w_gS, ↓w_gK, ↓w_dv, ↓w_tw, ↓w_rz, ↓w_no, nv_lit, nv_f, nv_add, nv_mul, nv_sub, nv_le, nv_lt, nv_eq, nv_cl, Nat.reduceMod, Nat.reduceMul, Nat.reduceAdd, Nat.zero_add, Nat.add_zero, Nat.mul_zero, decide_eq_true_eq, nv_inT, k0, r6, k3', n3', r3']
      refine X2_copy_w hMp rfl z1 e1 k1 _ fun c B' Ln ec hB hNm en lve zc lc => ?_
      have oG := fun i hi => ec.2.2 (G i) (hs i hi)
      obtain ⟨d1, d2, hd, d3, d4, d5, d6⟩ := hC.2.2.2.1
      have h17 : (hd + gu S) % 17 < 17 := Nat.mod_lt _ (by omega)
      have ck0 : hK c (G 0) = 1 := by rw [(oG 0 (by omega)).1]; exact hJ.1.1
      have cr5 : hR c (G 0) 5 = some (G 2) := by rw [(oG 0 (by omega)).2.2.1]; exact hJ.1.2.2.1
      have ck2 : hK c (G 2) = 11 := by rw [(oG 2 (by omega)).1]; exact hJ.2.1.2.1
      have cr2 : hR c (G 2) 0 = some (G 6) := by rw [(oG 2 (by omega)).2.2.1]; exact hJ.2.2.2.1
      have ci1 : hI c (G 2) 1 = nv hd := by rw [(oG 2 (by omega)).2.2.2.1]; exact d4
      have ci2 : hI c (G 2) 2 = nv ((hd + gu S) % 17) := by rw [(oG 2 (by omega)).2.2.2.1]; exact d5
      have ck6 : hK c (G 6) = 46 := by rw [(oG 6 (by omega)).1]; exact hJ.2.1.2.2.2.2.2.1
      have cn6 : hN c (G 6) = 17 := by rw [(oG 6 (by omega)).2.1]; exact hJ.2.2.1.2.2.2.1
      obtain ⟨b1, eb1⟩ : ∃ b1, b1 = hwR c (G 0) (up1 (hR c (G 0)) 4 (some (hSz a))) := ⟨_, rfl⟩
      have q5 : hR b1 (G 0) 5 = some (G 2) := by rw [eb1, hR_wR, up1_s, up1_n _ _ (by omega)]; exact cr5
      have q2 : hR b1 (G 2) 0 = some (G 6) := by rw [eb1, hR_wR, up1_n _ _ (n 2 0 (by omega) (by omega) (by omega))]; exact cr2
      have qk : hK b1 = hK c ∧ hN b1 = hN c ∧ hI b1 = hI c := by rw [eb1]; exact ⟨rfl, rfl, rfl⟩
      simp (disch := omega) only [↓w_bd, ↓w_rt, ↓w_bh, sm_l, sm_r, ↓w_okr, ↓w_nm, ↓w_ite, ↓reduceIte, not_true_eq_false, not_false_eq_true, and_true, true_and, and_self, Option.some.injEq, reduceCtorEq, eq_self, ↓w_rc, ↓w_gI, ↓w_gR, ↓w_aN, ↓w_aI, ↓w_aR, ↓w_aL, ↓w_pI, ↓w_pR, ↓w_sI, ↓w_sR, ↓w_sL, ↓w_nO, ↓w_nA, ↓w_nL, ↓w_ca, ↓w_ca0, ↓w_gS, ↓w_gK, ↓w_dv, ↓w_tw, ↓w_rz, ↓w_no, nv_lit, nv_f, nv_add, nv_mul, nv_sub, nv_le, nv_lt, nv_eq, nv_cl, Nat.reduceMod, Nat.reduceMul, Nat.reduceAdd, Nat.zero_add, Nat.add_zero, Nat.mul_zero, decide_eq_true_eq, nv_inT, ck0]
      rw [← eb1]
      have qk0 : hK b1 (G 0) = 1 := by rw [qk.1]; exact ck0
      have qk2 : hK b1 (G 2) = 11 := by rw [qk.1]; exact ck2
      have qi1 : hI b1 (G 2) 1 = nv hd := by rw [qk.2.2]; exact ci1
      have qi2 : hI b1 (G 2) 2 = nv ((hd + gu S) % 17) := by rw [qk.2.2]; exact ci2
      simp (disch := omega) only [↓w_bd, ↓w_rt, ↓w_bh, sm_l, sm_r, ↓w_okr, ↓w_nm, ↓w_ite, ↓reduceIte, not_true_eq_false, not_false_eq_true, and_true, true_and, and_self, Option.some.injEq, reduceCtorEq, eq_self, ↓w_rc, ↓w_gI, ↓w_gR, ↓w_aN, ↓w_aI, ↓w_aR, ↓w_aL, ↓w_pI, ↓w_pR, ↓w_sI, ↓w_sR, ↓w_sL, ↓w_nO, ↓w_nA, ↓w_nL, ↓w_ca, ↓w_ca0, ↓w_gS, ↓w_gK, ↓w_dv, ↓w_tw, ↓w_rz, ↓w_no, nv_lit, nv_f, nv_add, nv_mul, nv_sub, nv_le, nv_lt, nv_eq, nv_cl, Nat.reduceMod, Nat.reduceMul, Nat.reduceAdd, Nat.zero_add, Nat.add_zero, Nat.mul_zero, decide_eq_true_eq, nv_inT, qk0, q5, qk2, J1_clear, q2, qi1, qi2]
      refine J1_circularClear_w (by rw [qk.1]; exact ck6) (by rw [qk.2.1]; exact cn6) d3 h17 _ fun f => ?_
      simp (disch := omega) only [↓w_bd, ↓w_rt, ↓w_bh, sm_l, sm_r, ↓w_okr, ↓w_nm, ↓w_ite, ↓reduceIte, not_true_eq_false, not_false_eq_true, and_true, true_and, and_self, Option.some.injEq, reduceCtorEq, eq_self, ↓w_rc, ↓w_gI, ↓w_gR, ↓w_aN, ↓w_aI, ↓w_aR, ↓w_aL, ↓w_pI, ↓w_pR, ↓w_sI, ↓w_sR, ↓w_sL, ↓w_nO, ↓w_nA, ↓w_nL, ↓w_ca, ↓w_ca0, ↓w_gS, ↓w_gK, ↓w_dv, ↓w_tw, ↓w_rz, ↓w_no, nv_lit, nv_f, nv_add, nv_mul, nv_sub, nv_le, nv_lt, nv_eq, nv_cl, Nat.reduceMod, Nat.reduceMul, Nat.reduceAdd, Nat.zero_add, Nat.add_zero, Nat.mul_zero, decide_eq_true_eq, nv_inT, hK_wR, hK_wI, hI_wR, hI_wI, up1_s, hwI_2, okn, qk2]
      obtain ⟨b, eb⟩ : ∃ b, b = hwI (hwR b1 (G 6) f) (G 2) (up1 (up1 (hI b1 (G 2)) 2 (nv 0)) 1 (nv 0)) := ⟨_, rfl⟩
      rw [← eb]
      have ecb : EP (Pq G) c b := by
        rw [eb, eb1]
        exact (((EP.rf _ c).wR (.inl (.inl rfl)) _).wR (.inl (.inr (.inr (.inr rfl)))) _).wI (.inl (.inr (.inl rfl))) _
      have eab := (ec.ep (Pq G)).tr ecb
      have b0 : ∀ i, hR b (G 0) i = up1 (hR c (G 0)) 4 (some (hSz a)) i := fun i => by rw [eb, hR_wI, hR_wR, up1_n _ _ (n 0 6 (by omega) (by omega) (by omega)), eb1, hR_wR, up1_s]
      have bo : ∀ i, i < 22 → i ≠ 0 → i ≠ 6 → hR b (G i) = hR a (G i) := fun i hi h1 h2 => by rw [eb, hR_wI, hR_wR, up1_n _ _ (n i 6 hi (by omega) h2), eb1, hR_wR, up1_n _ _ (n i 0 hi (by omega) h1)]; exact (oG i hi).2.2.1
      have bI : ∀ i, i < 22 → i ≠ 2 → hI b (G i) = hI a (G i) := fun i hi h1 => by rw [eb, hI_wI, up1_n _ _ (n i 2 hi (by omega) h1), hI_wR, eb1, hI_wR]; exact (oG i hi).2.2.2.1
      have bi2 : hI b (G 2) 1 = nv 0 ∧ hI b (G 2) 2 = nv 0 := by
        rw [eb, hI_wI, up1_s]
        exact ⟨up1_s _ _ _, by rw [up1_n _ _ (by omega), up1_s]⟩
      have bK : ∀ i, i < 22 → hK b (G i) = hK a (G i) := fun i hi => by rw [eb, eb1]; exact (oG i hi).1
      have bN : ∀ i, i < 22 → hN b (G i) = hN a (G i) := fun i hi => by rw [eb, eb1]; exact (oG i hi).2.1
      have gmi : ∀ i, gm (sB S (Ln, p.2)) i = if i = 0 then some (Ln, p.2) else if 1 ≤ i ∧ i ≤ 6 then none else gm S i := fun _ => rfl
      have gm0 : gm (sB S (Ln, p.2)) 0 = some (Ln, p.2) := by rw [gmi, if_pos rfl]
      have gmr : ∀ i q, i ≠ 0 → gm (sB S (Ln, p.2)) i = some q → gm S i = some q ∧ 7 ≤ i := by
        intro i q hi hq
        rw [gmi, if_neg hi] at hq
        split at hq
        · cases hq
        · exact ⟨hq, by omega⟩
      have jb : JC G B' (sB S (Ln, p.2)) b := by
        refine hC.gen eab hB rfl (fun j' hj' => by rw [b0, up1_n _ _ hj', (oG 0 (by omega)).2.2.1]) (bI 0 (by omega) (by omega)) (.inr ⟨by rw [bK 0 (by omega)]; exact hJ.1.1, by rw [bK 2 (by omega)]; exact hJ.2.1.2.1, by rw [bK 3 (by omega)]; exact hJ.2.1.2.2.1, by rw [bK 6 (by omega)]; exact hJ.2.1.2.2.2.2.2.1⟩) ⟨by rw [bN 3 (by omega)]; exact hJ.2.2.1.2.1, by rw [bN 6 (by omega)]; exact hJ.2.2.1.2.2.2.1⟩ (by rw [bo 2 (by omega) (by omega) (by omega)]; exact hJ.2.2.2.1) ⟨⟨(Ln, p.2), gm0, by rw [b0, up1_s, ← en]⟩, fun i q hq => ?_, fun i i' q q' hij hq hq' => ?_⟩ ⟨by show 0 ≤ 6; omega, fun i hi => ?_, 0, by omega, bi2.1, bi2.2, fun i q hi hq => absurd hi (Nat.not_lt_zero i)⟩ fun i hi => ?_
        · by_cases c1 : i = 0
          · subst c1
            rw [gm0] at hq
            cases hq
            refine ⟨by omega, hNm.ep ecb (fun z hz => ?_) (fun _ _ => rfl), hRp⟩
            have := pq_P hC (Ln 0) z hz
            rcases hz with rfl | rfl | rfl | rfl
            · rw [hB _ (hs 0 (by omega)), (oG 0 (by omega)).1]; exact this
            · rw [hB _ (hs 2 (by omega)), (oG 2 (by omega)).1]; exact this
            · rw [hB _ (hs 3 (by omega)), (oG 3 (by omega)).1]; exact this
            · rw [hB _ (hs 6 (by omega)), (oG 6 (by omega)).1]; exact this
          · obtain ⟨m1, m2, m3, m4⟩ := JM.e hC (gmr i q c1 hq).1
            exact ⟨m3, m1.ep eab (fun z hz => pq_P hC _ z hz) hB, m4⟩
        · by_cases c1 : i = 0
          · subst c1
            rw [gm0] at hq
            cases hq
            have := (JM.e hC (gmr i' q' (Ne.symm hij) hq').1).2.1
            show Ln 0 ≠ q'.1 0
            omega
          · by_cases c2 : i' = 0
            · subst c2
              rw [gm0] at hq'
              cases hq'
              have := (JM.e hC (gmr i q c1 hq).1).2.1
              show q.1 0 ≠ Ln 0
              omega
            · exact hC.2.2.1.2.2 i i' q q' hij (gmr i q c1 hq).1 (gmr i' q' c2 hq').1
        · rw [gmi, if_neg (by omega), if_pos (by omega)]
          exact ⟨fun _ => Nat.zero_le i, fun _ => rfl⟩
        · rw [gmi, if_neg (by omega), if_neg (by omega), bo 3 (by omega) (by omega) (by omega)]
          exact hC.2.2.2.2.1 i hi
      have frb := pq_fr hC eab
      have hTb := frb.t hC.1 hT
      have t5 := th_5 G b (nv 0)
      have hTt := hTb.th hG (nv 0)
      have hF0 := hTt.1
      have hk5 : hK (th G b (nv 0)) (G 10) = 5 := hF0.1.1
      have fl : hI (th G b (nv 0)) (G 12) j = nv 1 := by
        have := hTt.2.2.2.2.1 j hj
        rw [hm] at this
        exact this
      have kc : hK (cpw G (th G b (nv 0)) (7 + j) 0) (G 10) = 5 := hF0.1.1
      simp (disch := omega) only [X5_restore, X5_restore_35, ↓w_bd, ↓w_rt, ↓w_bh, sm_l, sm_r, ↓w_okr, ↓w_nm, ↓w_ite, ↓reduceIte, not_true_eq_false, not_false_eq_true, and_true, true_and, and_self, Option.some.injEq, reduceCtorEq, eq_self, ↓w_rc, ↓w_gI, ↓w_gR, ↓w_aN, ↓w_aI, ↓w_aR, ↓w_aL, ↓w_pI, ↓w_pR, ↓w_sI, ↓w_sR, ↓w_sL, ↓w_nO, ↓w_nA, ↓w_nL, ↓w_ca, ↓w_ca0, ↓w_gS, ↓w_gK, ↓w_dv, ↓w_tw, ↓w_rz, ↓w_no, nv_lit, nv_f, nv_add, nv_mul, nv_sub, nv_le, nv_lt, nv_eq, nv_cl, Nat.reduceMod, Nat.reduceMul, Nat.reduceAdd, Nat.zero_add, Nat.add_zero, Nat.mul_zero, decide_eq_true_eq, nv_inT, th_f, th_K, th_N, th_R, th_5, th_2, okn0, Nat.reduceEqDiff, hTb.1, hF0, X5_in_w, hb, X5_holds_1 hk5 t5 n10, n10, fl, X5_copies_w hF0, kc]
      obtain ⟨w, ew⟩ : ∃ w, w = cpw G (th G b (nv 0)) (7 + j) 0 := ⟨_, rfl⟩
      rw [← ew]
      have n1110 := n 10 11 (by omega) (by omega) (by omega)
      have wo : ∀ q, q ≠ G 10 → q ≠ G 11 → hI w q = hI b q := fun q h1 h2 => by rw [ew, cpw_o G _ _ _ h2]; exact th_o G b _ h1
      have w10 : ∀ i, i ≠ 5 → hI w (G 10) i = hI b (G 10) i := fun i hi => by rw [ew, cpw_o G _ _ _ n1110]; exact th_n G b _ hi
      have w5 : hI w (G 10) 5 = nv 0 := by rw [ew, cpw_o G _ _ _ n1110]; exact t5
      have kw : w.1 = b.1 ∧ w.2.2 = b.2.2 := by rw [ew]; exact ⟨rfl, rfl⟩
      refine ⟨?_, after_g hC hT frb jb ?_ ?_ (JT.gen (c := hwI w (G 10) (up1 (hI w (G 10)) 4 (nv 0))) hG hTb ⟨kw.1, kw.2⟩ (fun q h1 h2 h3 => by rw [hI_wI, up1_n _ _ h1]; exact wo q h1 h2) (fun i h4 h5 => by rw [hI_wI, up1_s, up1_n _ _ h4]; exact w10 i h5) rfl ?_ (fun i q hq k hk => ?_) (fun i hi => ?_)) ⟨kw.1, kw.2, fun q h1 h2 h3 _ _ _ _ _ => by rw [hI_wI, up1_n _ _ h1]; exact wo q h1 h2, fun i h4 h5 _ => by rw [hI_wI, up1_s, up1_n _ _ h4]; exact w10 i h5⟩⟩
      · rw [hI_wI, up1_s, up1_n _ _ (by omega)]; exact w5
      · rw [eb, eb1]; show hSz c ≤ _; omega
      · rw [eb, eb1]; show hSl c ≤ _; omega
      · rw [hI_wI, up1_s, up1_s]; rfl
      · rw [hI_wI, up1_n _ _ (Ne.symm n1110)]
        by_cases c1 : i = 0
        · subst c1
          rw [gm0] at hq
          cases hq
          rw [ew, cpw_r G _ _ _ k hk, th_o G b _ (n 11 10 (by omega) (by omega) (by omega))]
          exact hTb.2.2.2.1 (7 + j) _ hm k hk
        · rw [ew, cpw_n G _ _ _ _ (by omega), th_o G b _ (n 11 10 (by omega) (by omega) (by omega))]
          exact hTb.2.2.2.1 i q (gmr i q c1 hq).1 k hk
      · rw [hI_wI, up1_n _ _ (n 12 10 (by omega) (by omega) (by omega)), wo _ (n 12 10 (by omega) (by omega) (by omega)) (n 12 11 (by omega) (by omega) (by omega)), show gm (sB S (Ln, p.2)) (7 + i) = gm S (7 + i) by rw [gmi, if_neg (by omega), if_neg (by omega)]]
        exact hTb.2.2.2.2.1 i hi
  · have hb := bw_0' h (by omega) (show 2 = 1 + 1 from rfl)
    have hTb := hT.e0 (tw_e a) hs
    have t5 := th_5 G (tw_ a) (nv 0)
    have hk5 : hK (th G (tw_ a) (nv 0)) (G 10) = 5 := hTb.1.1.1
    simp (disch := omega) only [OpT, X0_restore, X1_restore, ↓w_bd, ↓w_rt, ↓w_bh, sm_l, sm_r, ↓w_okr, ↓w_nm, ↓w_ite, ↓reduceIte, not_true_eq_false, not_false_eq_true, and_true, true_and, and_self, Option.some.injEq, reduceCtorEq, eq_self, ↓w_rc, ↓w_gI, ↓w_gR, ↓w_aN, ↓w_aI, ↓w_aR, ↓w_aL, ↓w_pI, ↓w_pR, ↓w_sI, ↓w_sR, ↓w_sL, ↓w_nO, ↓w_nA, ↓w_nL, ↓w_ca, ↓w_ca0, ↓w_gS, ↓w_gK, ↓w_dv, ↓w_tw, ↓w_rz, ↓w_no, nv_lit, nv_f, nv_add, nv_mul, nv_sub, nv_le, nv_lt, nv_eq, nv_cl, Nat.reduceMod, Nat.reduceMul, Nat.reduceAdd, Nat.zero_add, Nat.add_zero, Nat.mul_zero, decide_eq_true_eq, nv_inT, hX, hJ, X1_isBetween_w, hb, X1_requireArgument_0, X5_restore, X5_restore_35, th_f, th_K, th_N, th_R, th_5, th_2, okn0, Nat.reduceEqDiff, hTb.1, X5_in_w, X5_holds_0 hk5 t5]
    first | exact post_e hC hT (tw_e a) (by rw [tw_z]; omega) (by rw [tw_l]; omega) (Sx.rf _ _) | exact ⟨th_5 G _ _, post_e hC hT (tw_e a) (by rw [tw_z]; omega) (by rw [tw_l]; omega) (Sx.rf _ _)⟩
