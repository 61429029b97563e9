theorem least {P : Nat → Prop} : ∀ {n : Nat}, (∃ z, z < n ∧ P z) → ∃ z, z < n ∧ P z ∧ ∀ u, u < z → ¬ P u := by
  intro n
  induction n with
  | zero => rintro ⟨z, hz, -⟩; omega
  | succ n ih =>
    rintro ⟨z, hz, hp⟩
    by_cases c : ∃ u, u < n ∧ P u
    · obtain ⟨u, h1, h2⟩ := ih c
      exact ⟨u, by omega, h2⟩
    · have : z = n := Decidable.byContradiction fun e => c ⟨z, by omega, hp⟩
      subst this
      exact ⟨z, hz, hp, fun u hu hpu => c ⟨u, hu, hpu⟩⟩
noncomputable def rs (R : Nat → Int32) (x y : Nat) : Nat := if x = y then 1 else if fc R x y = -nv 1 then (if kn R x y = -nv 1 then 4 else 3) else 2
theorem X1_reasonOf_w {B : Nat → Nat × Nat} {a : Hp} {L : Nat → Nat} {R : Nat → Int32} (hM : Mk B a L R) {G : Nat → Nat} (hX : FX G a L) (hFs : Fs R) {x y : Nat} (hx : x < nH R) (hy : y < nH R) (Q : Int32 → Hp → Prop) (kk : ∀ b, E0 a b → hSz b ≤ hSz a + 12 → hSl b ≤ hSl a + 112 → Q (nv (rs R x y)) b) : Wp (X1_reasonOf (G 0) (nv x) (nv y)) a Q := by
  have h10 := (mk_w hM).2.1.2
  have hmul := Nat.mul_le_mul h10 h10
  unfold rs at kk
  by_cases e1 : x = y
  · rw [if_pos e1] at kk
    simp (disch := omega) only [X1_reasonOf, X1_reasonOf_45, ↓w_bd, ↓w_rt, ↓w_bh, sm_l, sm_r, ↓w_okr, ↓w_nm, ↓w_ite, ↓reduceIte, not_true_eq_false, not_false_eq_true, and_true, true_and, and_self, Option.some.injEq, reduceCtorEq, eq_self, ↓w_rc, ↓w_gI, ↓w_gR, ↓w_aN, ↓w_aI, ↓w_aR, ↓w_aL, ↓w_pI, ↓w_pR, ↓w_sI, ↓w_sR, ↓w_sL, ↓w_nO, ↓w_nA, ↓w_nL, ↓w_ca, ↓w_ca0, ↓w_gS, ↓w_gK, ↓w_dv, ↓w_tw, ↓w_rz, ↓w_no, nv_lit, nv_f, nv_add, nv_mul, nv_sub, nv_le, nv_lt, nv_eq, nv_cl, Nat.reduceMod, Nat.reduceMul, Nat.reduceAdd, Nat.zero_add, Nat.add_zero, Nat.mul_zero, decide_eq_true_eq, nv_inT, e1]
    exact kk a (E0.rf a) (by omega) (by omega)
  · rw [if_neg e1] at kk
    by_cases e2 : fc R x y = -nv 1
    · rw [if_pos e2] at kk
      simp (disch := omega) only [X1_reasonOf, X1_reasonOf_45, ↓w_bd, ↓w_rt, ↓w_bh, sm_l, sm_r, ↓w_okr, ↓w_nm, ↓w_ite, ↓reduceIte, not_true_eq_false, not_false_eq_true, and_true, true_and, and_self, Option.some.injEq, reduceCtorEq, eq_self, ↓w_rc, ↓w_gI, ↓w_gR, ↓w_aN, ↓w_aI, ↓w_aR, ↓w_aL, ↓w_pI, ↓w_pR, ↓w_sI, ↓w_sR, ↓w_sL, ↓w_nO, ↓w_nA, ↓w_nL, ↓w_ca, ↓w_ca0, ↓w_gS, ↓w_gK, ↓w_dv, ↓w_tw, ↓w_rz, ↓w_no, nv_lit, nv_f, nv_add, nv_mul, nv_sub, nv_le, nv_lt, nv_eq, nv_cl, Nat.reduceMod, Nat.reduceMul, Nat.reduceAdd, Nat.zero_add, Nat.add_zero, Nat.mul_zero, decide_eq_true_eq, nv_inT, mk_k hM, mk_n hM, mk_r hM, mk_i hM, hX, e1, X2_factWord_w hM, e2]
      refine X2_ways_w hM hFs _ fun b D hD hW => ?_
      by_cases e3 : kn R x y = -nv 1
      · rw [if_pos e3] at kk
        simp (disch := omega) only [↓w_bd, ↓w_rt, ↓w_bh, sm_l, sm_r, ↓w_okr, ↓w_nm, ↓w_ite, ↓reduceIte, not_true_eq_false, not_false_eq_true, and_true, true_and, and_self, Option.some.injEq, reduceCtorEq, eq_self, ↓w_rc, ↓w_gI, ↓w_gR, ↓w_aN, ↓w_aI, ↓w_aR, ↓w_aL, ↓w_pI, ↓w_pR, ↓w_sI, ↓w_sR, ↓w_sL, ↓w_nO, ↓w_nA, ↓w_nL, ↓w_ca, ↓w_ca0, ↓w_gS, ↓w_gK, ↓w_dv, ↓w_tw, ↓w_rz, ↓w_no, nv_lit, nv_f, nv_add, nv_mul, nv_sub, nv_le, nv_lt, nv_eq, nv_cl, Nat.reduceMod, Nat.reduceMul, Nat.reduceAdd, Nat.zero_add, Nat.add_zero, Nat.mul_zero, decide_eq_true_eq, nv_inT, hW.2.2.2.r, X9_known_w hFs h10 hD hW.2.2.2, e3]
        exact kk b hW.1 (by rw [hW.2.1]; omega) (by rw [hW.2.2.1]; omega)
      · rw [if_neg e3] at kk
        simp (disch := omega) only [↓w_bd, ↓w_rt, ↓w_bh, sm_l, sm_r, ↓w_okr, ↓w_nm, ↓w_ite, ↓reduceIte, not_true_eq_false, not_false_eq_true, and_true, true_and, and_self, Option.some.injEq, reduceCtorEq, eq_self, ↓w_rc, ↓w_gI, ↓w_gR, ↓w_aN, ↓w_aI, ↓w_aR, ↓w_aL, ↓w_pI, ↓w_pR, ↓w_sI, ↓w_sR, ↓w_sL, ↓w_nO, ↓w_nA, ↓w_nL, ↓w_ca, ↓w_ca0, ↓w_gS, ↓w_gK, ↓w_dv, ↓w_tw, ↓w_rz, ↓w_no, nv_lit, nv_f, nv_add, nv_mul, nv_sub, nv_le, nv_lt, nv_eq, nv_cl, Nat.reduceMod, Nat.reduceMul, Nat.reduceAdd, Nat.zero_add, Nat.add_zero, Nat.mul_zero, decide_eq_true_eq, nv_inT, hW.2.2.2.r, X9_known_w hFs h10 hD hW.2.2.2, e3]
        exact kk b hW.1 (by rw [hW.2.1]; omega) (by rw [hW.2.2.1]; omega)
    · rw [if_neg e2] at kk
      simp (disch := omega) only [X1_reasonOf, X1_reasonOf_45, ↓w_bd, ↓w_rt, ↓w_bh, sm_l, sm_r, ↓w_okr, ↓w_nm, ↓w_ite, ↓reduceIte, not_true_eq_false, not_false_eq_true, and_true, true_and, and_self, Option.some.injEq, reduceCtorEq, eq_self, ↓w_rc, ↓w_gI, ↓w_gR, ↓w_aN, ↓w_aI, ↓w_aR, ↓w_aL, ↓w_pI, ↓w_pR, ↓w_sI, ↓w_sR, ↓w_sL, ↓w_nO, ↓w_nA, ↓w_nL, ↓w_ca, ↓w_ca0, ↓w_gS, ↓w_gK, ↓w_dv, ↓w_tw, ↓w_rz, ↓w_no, nv_lit, nv_f, nv_add, nv_mul, nv_sub, nv_le, nv_lt, nv_eq, nv_cl, Nat.reduceMod, Nat.reduceMul, Nat.reduceAdd, Nat.zero_add, Nat.add_zero, Nat.mul_zero, decide_eq_true_eq, nv_inT, mk_k hM, mk_n hM, mk_r hM, mk_i hM, hX, e1, X2_factWord_w hM, e2]
      exact kk a (E0.rf a) (by omega) (by omega)
theorem X1_secondOf_w {B : Nat → Nat × Nat} {a : Hp} {L : Nat → Nat} {R : Nat → Int32} (hM : Mk B a L R) {G : Nat → Nat} (hX : FX G a L) {x t z0 d : Nat} {w : Int32} (hx : x < nH R) (ht : t < nH R) (hd : d < nH R) (h0 : 0 < d) (hdx : dd (El R w) (nH R) x t = some d) (hz : z0 < nH R) (hP : El R w x z0 ∧ dd (El R w) (nH R) z0 t = some (d - 1)) (hN : ∀ u, u < z0 → ¬ (El R w x u ∧ dd (El R w) (nH R) u t = some (d - 1))) (Q : Int32 → Hp → Prop) (kk : ∀ b, E0 a b → hSz b = hSz a + 1 → hSl b = hSl a + nH R → Q (nv z0) b) : Wp (X1_secondOf (G 0) (nv x) (nv t) w) a Q := by
  have h10 := (mk_w hM).2.1.2
  simp (disch := omega) only [X1_secondOf, ↓w_bd, ↓w_rt, ↓w_bh, sm_l, sm_r, ↓w_okr, ↓w_nm, ↓w_ite, ↓reduceIte, not_true_eq_false, not_false_eq_true, and_true, true_and, and_self, Option.some.injEq, reduceCtorEq, eq_self, ↓w_rc, ↓w_gI, ↓w_gR, ↓w_aN, ↓w_aI, ↓w_aR, ↓w_aL, ↓w_pI, ↓w_pR, ↓w_sI, ↓w_sR, ↓w_sL, ↓w_nO, ↓w_nA, ↓w_nL, ↓w_ca, ↓w_ca0, ↓w_gS, ↓w_gK, ↓w_dv, ↓w_tw, ↓w_rz, ↓w_no, nv_lit, nv_f, nv_add, nv_mul, nv_sub, nv_le, nv_lt, nv_eq, nv_cl, Nat.reduceMod, Nat.reduceMul, Nat.reduceAdd, Nat.zero_add, Nat.add_zero, Nat.mul_zero, decide_eq_true_eq, nv_inT, mk_k hM, mk_n hM, mk_r hM, mk_i hM, hX]
  refine X2_waysTo_w hM ht _ fun b q hE hz1 hl1 kq nq hq => ?_
  have hMb := hM.ext hE (B' := B) (fun _ _ => rfl)
  have hXb := hX.ext hE
  have ex : dw R w t x = d := by unfold dw; rw [hdx]
  have lt11 : ∀ y, y < nH R → dw R w t y ≤ 11 := fun y hy => by
    unfold dw
    cases q1 : dd (El R w) (nH R) y t with
    | none => exact Nat.le_refl _
    | some k =>
      have := dd_lt hy q1
      show k ≤ 11
      omega
  have l : ∀ (f k : Nat), k ≤ z0 → z0 - k < f → (Wp (X1_secondOf_14 f (G 0) (nv x) w (some q) (nv k)) b Q ↔ Q (nv z0) b) := by
    refine loopUp _ z0 ?_ ?_
    · intro f
      have ez : dw R w t z0 + 1 = d := by unfold dw; rw [hP.2]; show d - 1 + 1 = d; omega
      simp (disch := omega) only [X1_secondOf_14, X1_secondOf_53, ↓w_bd, ↓w_rt, ↓w_bh, sm_l, sm_r, ↓w_okr, ↓w_nm, ↓w_ite, ↓reduceIte, not_true_eq_false, not_false_eq_true, and_true, true_and, and_self, Option.some.injEq, reduceCtorEq, eq_self, ↓w_rc, ↓w_gI, ↓w_gR, ↓w_aN, ↓w_aI, ↓w_aR, ↓w_aL, ↓w_pI, ↓w_pR, ↓w_sI, ↓w_sR, ↓w_sL, ↓w_nO, ↓w_nA, ↓w_nL, ↓w_ca, ↓w_ca0, ↓w_gS, ↓w_gK, ↓w_dv, ↓w_tw, ↓w_rz, ↓w_no, nv_lit, nv_f, nv_add, nv_mul, nv_sub, nv_le, nv_lt, nv_eq, nv_cl, Nat.reduceMod, Nat.reduceMul, Nat.reduceAdd, Nat.zero_add, Nat.add_zero, Nat.mul_zero, decide_eq_true_eq, nv_inT, kq, nq, hXb, mk_k hMb, Nat.not_le.mpr hz, X2_leads_w hMb, ld_1 hP.1, n10, hq, ex, ez]
    · intro f k hk ih
      by_cases c : El R w x k
      · have ek : ¬ dw R w t k + 1 = d := fun e => by
          refine hN k hk ⟨c, ?_⟩
          unfold dw at e
          cases q1 : dd (El R w) (nH R) k t with
          | none =>
            rw [q1] at e
            have e : 11 + 1 = d := e
            omega
          | some m =>
            rw [q1] at e
            have e : m + 1 = d := e
            rw [← e]
            rfl
        have bk := lt11 k (by omega)
        simp (disch := omega) only [X1_secondOf_14, X1_secondOf_53, ↓w_bd, ↓w_rt, ↓w_bh, sm_l, sm_r, ↓w_okr, ↓w_nm, ↓w_ite, ↓reduceIte, not_true_eq_false, not_false_eq_true, and_true, true_and, and_self, Option.some.injEq, reduceCtorEq, eq_self, ↓w_rc, ↓w_gI, ↓w_gR, ↓w_aN, ↓w_aI, ↓w_aR, ↓w_aL, ↓w_pI, ↓w_pR, ↓w_sI, ↓w_sR, ↓w_sL, ↓w_nO, ↓w_nA, ↓w_nL, ↓w_ca, ↓w_ca0, ↓w_gS, ↓w_gK, ↓w_dv, ↓w_tw, ↓w_rz, ↓w_no, nv_lit, nv_f, nv_add, nv_mul, nv_sub, nv_le, nv_lt, nv_eq, nv_cl, Nat.reduceMod, Nat.reduceMul, Nat.reduceAdd, Nat.zero_add, Nat.add_zero, Nat.mul_zero, decide_eq_true_eq, nv_inT, kq, nq, hXb, mk_k hMb, show ¬ nH R ≤ k by omega, X2_leads_w hMb, ld_1 c, n10, hq, ex, ek]
        exact ih
      · simp (disch := omega) only [X1_secondOf_14, X1_secondOf_53, ↓w_bd, ↓w_rt, ↓w_bh, sm_l, sm_r, ↓w_okr, ↓w_nm, ↓w_ite, ↓reduceIte, not_true_eq_false, not_false_eq_true, and_true, true_and, and_self, Option.some.injEq, reduceCtorEq, eq_self, ↓w_rc, ↓w_gI, ↓w_gR, ↓w_aN, ↓w_aI, ↓w_aR, ↓w_aL, ↓w_pI, ↓w_pR, ↓w_sI, ↓w_sR, ↓w_sL, ↓w_nO, ↓w_nA, ↓w_nL, ↓w_ca, ↓w_ca0, ↓w_gS, ↓w_gK, ↓w_dv, ↓w_tw, ↓w_rz, ↓w_no, nv_lit, nv_f, nv_add, nv_mul, nv_sub, nv_le, nv_lt, nv_eq, nv_cl, Nat.reduceMod, Nat.reduceMul, Nat.reduceAdd, Nat.zero_add, Nat.add_zero, Nat.mul_zero, decide_eq_true_eq, nv_inT, kq, nq, hXb, mk_k hMb, show ¬ nH R ≤ k by omega, X2_leads_w hMb, ld_0 c]
        exact ih
  rw [l FU 0 (by omega) (by unfold FU; omega)]
  exact kk b hE hz1 hl1
theorem fl_s {d : Option Nat} {k n : Nat} (h : d = some k) (hk : k ≤ n) : fl d n = nv k := by
  rw [h]
  exact if_pos hk
theorem X5_secondOn_w {G : Nat → Nat} {a : Hp} {o : Nat} {R : Nat → Int32} (hF : FO G a o R) (hG : GD G) {x t z0 d b : Nat} (hH : nH R ≤ 10) (hx : x < nH R) (hd : d < nH R) (h0 : 0 < d) (h14 : ∀ y, y < nH R → hI a (G 14) y = fl (dd (Ed R (nv b)) (nH R) y t) (nH R)) (hdx : dd (Ed R (nv b)) (nH R) x t = some d) (hz : z0 < nH R) (hP : Ed R (nv b) x z0 ∧ dd (Ed R (nv b)) (nH R) z0 t = some (d - 1)) (hN : ∀ u, u < z0 → ¬ (Ed R (nv b) x u ∧ dd (Ed R (nv b)) (nH R) u t = some (d - 1))) (Q : Int32 → Hp → Prop) : Wp (X5_secondOn (G 10) (nv x) (nv b)) a Q ↔ Q (nv z0) a := by
  have hGu := hG
  have e14x : hI a (G 14) x = nv d := by rw [h14 x hx]; exact fl_s hdx (by omega)
  have l : ∀ (f k : Nat), k ≤ z0 → z0 - k < f → (Wp (X5_secondOn_2 f (G 10) (nv x) (nv b) (nv k)) a Q ↔ Q (nv z0) a) := by
    refine loopUp _ z0 ?_ ?_
    · intro f
      have ez : hI a (G 14) z0 = nv (d - 1) := by rw [h14 z0 hz]; exact fl_s hP.2 (by omega)
      have f1 : ¬ fc R x z0 = -nv 1 := hP.1.1
      have f2 : ¬ fc R x z0 = nv b := hP.1.2
      simp (disch := omega) only [X5_secondOn_2, X5_secondOn_39, ↓w_bd, ↓w_rt, ↓w_bh, sm_l, sm_r, ↓w_okr, ↓w_nm, ↓w_ite, ↓reduceIte, not_true_eq_false, not_false_eq_true, and_true, true_and, and_self, Option.some.injEq, reduceCtorEq, eq_self, ↓w_rc, ↓w_gI, ↓w_gR, ↓w_aN, ↓w_aI, ↓w_aR, ↓w_aL, ↓w_pI, ↓w_pR, ↓w_sI, ↓w_sR, ↓w_sL, ↓w_nO, ↓w_nA, ↓w_nL, ↓w_ca, ↓w_ca0, ↓w_gS, ↓w_gK, ↓w_dv, ↓w_tw, ↓w_rz, ↓w_no, nv_lit, nv_f, nv_add, nv_mul, nv_sub, nv_le, nv_lt, nv_eq, nv_cl, Nat.reduceMod, Nat.reduceMul, Nat.reduceAdd, Nat.zero_add, Nat.add_zero, Nat.mul_zero, decide_eq_true_eq, nv_inT, hF.1, e14x, ez, X5_factOf_w hF, f1, f2]
    · intro f k hk ih
      by_cases c : hI a (G 14) k = nv (d - 1)
      · have ek : dd (Ed R (nv b)) (nH R) k t = some (d - 1) := by
          rw [h14 k (by omega)] at c
          cases q1 : dd (Ed R (nv b)) (nH R) k t with
          | none =>
            rw [q1] at c
            have c : -nv 1 = nv (d - 1) := c
            have hf : ∀ j : Fin 10, ¬ -nv 1 = nv j.val := by decide
            exact absurd c (hf ⟨d - 1, by omega⟩)
          | some m =>
            have hm := dd_lt (show k < nH R by omega) q1
            rw [fl_s q1 (by omega), nv_eq (by omega) (by omega)] at c
            rw [c]
        by_cases f1 : fc R x k = -nv 1
        · simp (disch := omega) only [X5_secondOn_2, X5_secondOn_39, ↓w_bd, ↓w_rt, ↓w_bh, sm_l, sm_r, ↓w_okr, ↓w_nm, ↓w_ite, ↓reduceIte, not_true_eq_false, not_false_eq_true, and_true, true_and, and_self, Option.some.injEq, reduceCtorEq, eq_self, ↓w_rc, ↓w_gI, ↓w_gR, ↓w_aN, ↓w_aI, ↓w_aR, ↓w_aL, ↓w_pI, ↓w_pR, ↓w_sI, ↓w_sR, ↓w_sL, ↓w_nO, ↓w_nA, ↓w_nL, ↓w_ca, ↓w_ca0, ↓w_gS, ↓w_gK, ↓w_dv, ↓w_tw, ↓w_rz, ↓w_no, nv_lit, nv_f, nv_add, nv_mul, nv_sub, nv_le, nv_lt, nv_eq, nv_cl, Nat.reduceMod, Nat.reduceMul, Nat.reduceAdd, Nat.zero_add, Nat.add_zero, Nat.mul_zero, decide_eq_true_eq, nv_inT, hF.1, e14x, c, X5_factOf_w hF, f1]
          exact ih
        · have f2 : fc R x k = nv b := Decidable.byContradiction fun e => hN k hk ⟨⟨f1, e⟩, ek⟩
          have f1' : ¬ nv b = -nv 1 := by rw [← f2]; exact f1
          simp (disch := omega) only [X5_secondOn_2, X5_secondOn_39, ↓w_bd, ↓w_rt, ↓w_bh, sm_l, sm_r, ↓w_okr, ↓w_nm, ↓w_ite, ↓reduceIte, not_true_eq_false, not_false_eq_true, and_true, true_and, and_self, Option.some.injEq, reduceCtorEq, eq_self, ↓w_rc, ↓w_gI, ↓w_gR, ↓w_aN, ↓w_aI, ↓w_aR, ↓w_aL, ↓w_pI, ↓w_pR, ↓w_sI, ↓w_sR, ↓w_sL, ↓w_nO, ↓w_nA, ↓w_nL, ↓w_ca, ↓w_ca0, ↓w_gS, ↓w_gK, ↓w_dv, ↓w_tw, ↓w_rz, ↓w_no, nv_lit, nv_f, nv_add, nv_mul, nv_sub, nv_le, nv_lt, nv_eq, nv_cl, Nat.reduceMod, Nat.reduceMul, Nat.reduceAdd, Nat.zero_add, Nat.add_zero, Nat.mul_zero, decide_eq_true_eq, nv_inT, hF.1, e14x, c, X5_factOf_w hF, f2, f1']
          exact ih
      · simp (disch := omega) only [X5_secondOn_2, X5_secondOn_39, ↓w_bd, ↓w_rt, ↓w_bh, sm_l, sm_r, ↓w_okr, ↓w_nm, ↓w_ite, ↓reduceIte, not_true_eq_false, not_false_eq_true, and_true, true_and, and_self, Option.some.injEq, reduceCtorEq, eq_self, ↓w_rc, ↓w_gI, ↓w_gR, ↓w_aN, ↓w_aI, ↓w_aR, ↓w_aL, ↓w_pI, ↓w_pR, ↓w_sI, ↓w_sR, ↓w_sL, ↓w_nO, ↓w_nA, ↓w_nL, ↓w_ca, ↓w_ca0, ↓w_gS, ↓w_gK, ↓w_dv, ↓w_tw, ↓w_rz, ↓w_no, nv_lit, nv_f, nv_add, nv_mul, nv_sub, nv_le, nv_lt, nv_eq, nv_cl, Nat.reduceMod, Nat.reduceMul, Nat.reduceAdd, Nat.zero_add, Nat.add_zero, Nat.mul_zero, decide_eq_true_eq, nv_inT, hF.1, e14x, c]
        exact ih
  exact l FU 0 (by omega) (by unfold FU; omega)
