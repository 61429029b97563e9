/-! THE HEAPS COPIED -/
def CpI (a : Hp) (q : Nat) (B : Nat → Nat × Nat) (kH kC : Nat) (R : Nat → Int32) (c : Hp) (z l : Nat) : Prop := ∃ B' Ln Rn, E0 a c ∧ (∀ x, x < hSz a → B' x = B x) ∧ Mk B' c Ln Rn ∧ Ln 0 = q ∧ nH Rn = kH ∧ nC Rn = kC ∧ (Rn 0 = R 0 ∧ Rn 2 = R 2) ∧ (∀ x y, x < 10 → y < 10 → fc Rn x y = -1) ∧ (∀ i, 15 ≤ i → i < 15 + 7 * kH → Rn i = R i) ∧ (∀ i, 185 ≤ i → i < 185 + 18 * kC → Rn i = R i) ∧ (∀ r, lv Rn r → hSz a ≤ Ln r) ∧ hSz c ≤ z ∧ hSl c ≤ l
theorem copy_heaps {B : Nat → Nat × Nat} {a : Hp} {L : Nat → Nat} {R : Nat → Int32} (hM : Mk B a L R) {q z l : Nat} (Q : Unit → Hp → Prop) (hk : ∀ c, CpI a q B (nH R) 0 R c (z + 20) (l + 80) → Wp (X2_init_2_59 FU q (some (L 0)) (nv 0)) c Q) : ∀ c, CpI a q B 0 0 R c z l → Wp (X2_init_2_15 FU q (some (L 0)) (nv 0)) c Q := by
  have h10 := (mk_w hM).2.1.2
  have lp : ∀ (f k : Nat), k ≤ nH R → nH R - k < f → ∀ c, CpI a q B k 0 R c (z + 2 * k) (l + 8 * k) → Wp (X2_init_2_15 f q (some (L 0)) (nv k)) c Q := by
    refine loopUp _ (nH R) ?_ ?_
    · intro f c hc
      obtain ⟨B', Ln, Rn, hE, hB, hN, rest⟩ := id hc
      have hMc := hM.ext hE hB
      simp (disch := omega) only [X2_init_2_15, ↓w_bd, ↓w_rt, ↓w_bh, sm_l, sm_r, ↓w_okr, ↓w_nm, ↓w_ite, ↓reduceIte, not_true_eq_false, not_false_eq_true, and_true, true_and, and_self, Option.some.injEq, reduceCtorEq, eq_self, ↓w_rc, ↓w_gI, ↓w_gR, ↓w_aN, ↓w_aI, ↓w_aR, ↓w_ca, ↓w_ca0, nv_lit, nv_f, nv_add, nv_mul, nv_sub, nv_le, nv_lt, nv_eq, nv_cl, Nat.reduceMod, Nat.reduceMul, Nat.reduceAdd, Nat.zero_add, Nat.add_zero, Nat.mul_zero, decide_eq_true_eq, nv_inT, mk_k hMc, mk_r hMc, mk_i hMc, Nat.le_refl]
      refine hk c ?_
      obtain ⟨B1, L1, R1, g1, g2, g3, g4, g5, g6, g7, g8, g9, g10, g11, g12, g13⟩ := hc
      exact ⟨B1, L1, R1, g1, g2, g3, g4, g5, g6, g7, g8, g9, g10, g11, by omega, by omega⟩
    · intro f k hk2 ih c hc
      obtain ⟨B', Ln, Rn, hE, hB, hN, hq, eH, eC, ⟨e0, e2⟩, ef, eh, ec, lve, hz, hl⟩ := hc
      have hMc := hM.ext hE hB
      have kk := mk_k hN
      have rr : hR c q 0 = some (Ln 1) ∧ hR c q 1 = some (Ln 2) := by
        have := mk_r hN
        unfold MkR at this
        rw [hq] at this
        exact ⟨this.1.1, this.1.2.1⟩
      rw [hq] at kk
      simp (disch := omega) only [X2_init_2_15, ↓w_bd, ↓w_rt, ↓w_bh, sm_l, sm_r, ↓w_okr, ↓w_nm, ↓w_ite, ↓reduceIte, not_true_eq_false, not_false_eq_true, and_true, true_and, and_self, Option.some.injEq, reduceCtorEq, eq_self, ↓w_rc, ↓w_gI, ↓w_gR, ↓w_aN, ↓w_aI, ↓w_aR, ↓w_ca, ↓w_ca0, nv_lit, nv_f, nv_add, nv_mul, nv_sub, nv_le, nv_lt, nv_eq, nv_cl, Nat.reduceMod, Nat.reduceMul, Nat.reduceAdd, Nat.zero_add, Nat.add_zero, Nat.mul_zero, decide_eq_true_eq, nv_inT, mk_k hMc, mk_r hMc, mk_i hMc, Nat.not_le.mpr hk2, kk, rr]
      refine w_nO' fun c1 e1 z1 l1 k1 i1 r1 => ?_
      have hM1 := hMc.ext e1 (B' := B') (fun _ _ => rfl)
      simp (disch := omega) only [↓w_bd, ↓w_rt, ↓w_bh, sm_l, sm_r, ↓w_okr, ↓w_nm, ↓w_ite, ↓reduceIte, not_true_eq_false, not_false_eq_true, and_true, true_and, and_self, Option.some.injEq, reduceCtorEq, eq_self, ↓w_rc, ↓w_gI, ↓w_gR, ↓w_aN, ↓w_aI, ↓w_aR, ↓w_ca, ↓w_ca0, nv_lit, nv_f, nv_add, nv_mul, nv_sub, nv_le, nv_lt, nv_eq, nv_cl, Nat.reduceMod, Nat.reduceMul, Nat.reduceAdd, Nat.zero_add, Nat.add_zero, Nat.mul_zero, decide_eq_true_eq, nv_inT, mk_k hM1, mk_r hM1, X3_at_h hM1, ct_44]
      refine X4_copy_w hMc hk2 _ rfl z1 e1 k1 fun d ed zd ld kp kq nq rp ip iw ist => ?_
      have hNd := hN.ext ed (B' := B') (fun _ _ => rfl)
      have h5 := ((mk_w hM).2.2.2 k hk2).2
      have hp := fun r (hr : lv Rn r) => (hN.2.1 r hr).1
      simp (disch := omega) only [↓w_bd, ↓w_rt, ↓w_bh, sm_l, sm_r, ↓w_okr, ↓w_nm, ↓w_ite, ↓reduceIte, not_true_eq_false, not_false_eq_true, and_true, true_and, and_self, Option.some.injEq, reduceCtorEq, eq_self, ↓w_rc, ↓w_gI, ↓w_gR, ↓w_aN, ↓w_aI, ↓w_aR, ↓w_ca, ↓w_ca0, nv_lit, nv_f, nv_add, nv_mul, nv_sub, nv_le, nv_lt, nv_eq, nv_cl, Nat.reduceMod, Nat.reduceMul, Nat.reduceAdd, Nat.zero_add, Nat.add_zero, Nat.mul_zero, decide_eq_true_eq, nv_inT, mk_k hNd, X3_add_h hNd eH (by omega) kp]
      refine ih _ ⟨up1 (up1 B' (hSz c) (Ln 0 + 1, 20 + k)) (hSz c + 1) (Ln 0 + 1, 30 + k), up1 (up1 Ln (20 + k) (hSz c)) (30 + k) (hSz c + 1), rH Rn R k, ?_, ?_, ?_, ?_, ?_, ?_, ⟨?_, ?_⟩, ?_, ?_, ?_, ?_, ?_, ?_⟩
      · exact ((hE.tr ed).wR (lve 3 (lv_0 (by omega))) _).wI (lve 1 (lv_0 (by omega))) _
      · intro x hx
        have := hE.1
        rw [up1_n _ _ (by omega), up1_n _ _ (by omega)]
        exact hB x hx
      · refine hNd.addHeap (n := nR R k) eH.symm (by omega) ⟨by omega, by omega⟩ (fun r hr => ⟨by have := hp r hr; omega, by have := hp r hr; omega⟩) (by omega) kp kq nq h5 rp ip ?_ ?_ ?_ ?_ ?_ ?_ ?_ ?_
        · intro i h1 h2
          unfold rH
          rw [if_neg h1, if_neg (by omega)]
        · exact if_pos rfl
        · unfold rH
          rw [if_neg (by omega), if_pos (by omega)]; exact iw.symm
        · unfold rH
          rw [if_neg (by omega), if_pos (by omega)]; exact ((mk_w hM).2.2.2 k hk2).1
        · intro r hr
          unfold rH
          rw [if_neg (by omega), if_pos (by omega)]; exact (ist r hr).symm
        · intro x h1 h2
          rw [up1_n _ _ h2, up1_n _ _ h1]
        · rw [up1_n _ _ (by omega), up1_s]
        · rw [up1_s]
      · rw [up1_n _ _ (by omega), up1_n _ _ (by omega)]; exact hq
      · unfold nH rH; rw [if_pos rfl]; exact nv_cl (by omega)
      · unfold nC rH; rw [if_neg (by omega), if_neg (by omega)]; exact eC
      · unfold rH; rw [if_neg (by omega), if_neg (by omega)]; exact e0
      · unfold rH; rw [if_neg (by omega), if_neg (by omega)]; exact e2
      · intro x y hx hy
        have := ef x y hx hy
        unfold fc rH at *
        rw [if_neg (by omega), if_neg (by omega)]; exact this
      · intro i h1 h2
        unfold rH
        rw [if_neg (by omega)]
        split
        · rfl
        · exact eh i h1 (by omega)
      · intro i h1 h2; omega
      · intro r hr
        by_cases d1 : r = 30 + k
        · rw [d1, up1_s]; have := hE.1; omega
        · by_cases d2 : r = 20 + k
          · rw [d2, up1_n _ _ (by omega), up1_s]; exact hE.1
          · rw [up1_n _ _ d1, up1_n _ _ d2]
            refine lve r ?_
            have e1 : nH (rH Rn R k) = k + 1 := by unfold nH rH; rw [if_pos rfl]; exact nv_cl (by omega)
            have e2 : nC (rH Rn R k) = 0 := by unfold nC rH; rw [if_neg (by omega), if_neg (by omega)]; exact eC
            unfold lv at *
            rw [e1, e2] at hr
            rw [eH, eC]
            omega
      · show hSz d ≤ _; omega
      · show hSl d ≤ _; omega
  intro c hc
  exact lp FU 0 (by omega) (by unfold FU; omega) c hc
