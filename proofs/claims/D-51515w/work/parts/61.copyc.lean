/-! THE CLAIMS COPIED -/
/-- rows with one claim more -/
def rC (Rn R : Nat → Int32) (k i : Nat) : Int32 := if i = 3 then nv (k + 1) else if 185 + 18 * k ≤ i ∧ i < 185 + 18 * k + 18 then R i else Rn i
def lC (Ln : Nat → Nat) (k p r : Nat) : Nat := if r = 40 + k then p else if r = 60 + k then p + 1 else if r = 80 + k then p + 4 else if r = 100 + 2 * k then p + 2 else if r = 101 + 2 * k then p + 3 else Ln r
def bC (B : Nat → Nat × Nat) (l k p z : Nat) : Nat × Nat := if z = p then (l, 40 + k) else if z = p + 1 then (l, 60 + k) else if z = p + 2 then (l, 100 + 2 * k) else if z = p + 3 then (l, 101 + 2 * k) else if z = p + 4 then (l, 80 + k) else B z
theorem lC_n (Ln : Nat → Nat) (k p : Nat) : ∀ r, r ≠ 40 + k → r ≠ 60 + k → r ≠ 80 + k → r ≠ 100 + 2 * k → r ≠ 101 + 2 * k → lC Ln k p r = Ln r := by
  intro r h1 h2 h3 h4 h5
  unfold lC
  rw [if_neg h1, if_neg h2, if_neg h3, if_neg h4, if_neg h5]
theorem lC_s (Ln : Nat → Nat) {k : Nat} (p : Nat) (hk : k < 20) : lC Ln k p (40 + k) = p ∧ lC Ln k p (60 + k) = p + 1 ∧ lC Ln k p (80 + k) = p + 4 ∧ lC Ln k p (100 + 2 * k) = p + 2 ∧ lC Ln k p (101 + 2 * k) = p + 3 := by
  unfold lC
  refine ⟨if_pos rfl, ?_, ?_, ?_, ?_⟩
  · rw [if_neg (by omega), if_pos rfl]
  · rw [if_neg (by omega), if_neg (by omega), if_pos rfl]
  · rw [if_neg (by omega), if_neg (by omega), if_neg (by omega), if_pos rfl]
  · rw [if_neg (by omega), if_neg (by omega), if_neg (by omega), if_neg (by omega), if_pos rfl]
theorem bC_n (B : Nat → Nat × Nat) (l k p : Nat) : ∀ z, z ≠ p → z ≠ p + 1 → z ≠ p + 2 → z ≠ p + 3 → z ≠ p + 4 → bC B l k p z = B z := by
  intro z h1 h2 h3 h4 h5
  unfold bC
  rw [if_neg h1, if_neg h2, if_neg h3, if_neg h4, if_neg h5]
theorem bC_s (B : Nat → Nat × Nat) (l k p : Nat) : bC B l k p p = (l, 40 + k) ∧ bC B l k p (p + 1) = (l, 60 + k) ∧ bC B l k p (p + 2) = (l, 100 + 2 * k) ∧ bC B l k p (p + 3) = (l, 101 + 2 * k) ∧ bC B l k p (p + 4) = (l, 80 + k) := by
  unfold bC
  refine ⟨if_pos rfl, ?_, ?_, ?_, ?_⟩
  · rw [if_neg (by omega), if_pos rfl]
  · rw [if_neg (by omega), if_neg (by omega), if_pos rfl]
  · rw [if_neg (by omega), if_neg (by omega), if_neg (by omega), if_pos rfl]
  · rw [if_neg (by omega), if_neg (by omega), if_neg (by omega), if_neg (by omega), if_pos rfl]
theorem copy_claims {B : Nat → Nat × Nat} {a : Hp} {L : Nat → Nat} {R : Nat → Int32} (hM : Mk B a L R) {q z l : Nat} (Q : Unit → Hp → Prop) (hk : ∀ c, CpI a q B (nH R) (nC R) R c (z + 100) (l + 460) → Wp (X2_init_2_103 FU q (some (L 0)) (nv 0)) c Q) : ∀ c, CpI a q B (nH R) 0 R c z l → Wp (X2_init_2_59 FU q (some (L 0)) (nv 0)) c Q := by
  have h10 := (mk_w hM).2.1.2
  have h20 := (mk_w hM).2.2.1.2
  have lp : ∀ (f k : Nat), k ≤ nC R → nC R - k < f → ∀ c, CpI a q B (nH R) k R c (z + 5 * k) (l + 23 * k) → Wp (X2_init_2_59 f q (some (L 0)) (nv k)) c Q := by
    refine loopUp _ (nC R) ?_ ?_
    · intro f c hc
      obtain ⟨B', Ln, Rn, hE, hB, hN, rest⟩ := id hc
      have hMc := hM.ext hE hB
      simp (disch := omega) only [X2_init_2_59, ↓w_bd, ↓w_rt, ↓w_bh, sm_l, sm_r, ↓w_okr, ↓w_nm, ↓w_ite, ↓reduceIte, not_true_eq_false, not_false_eq_true, and_true, true_and, and_self, Option.some.injEq, reduceCtorEq, eq_self, ↓w_rc, ↓w_gI, ↓w_gR, ↓w_aN, ↓w_aI, ↓w_aR, ↓w_ca, ↓w_ca0, nv_lit, nv_f, nv_add, nv_mul, nv_sub, nv_le, nv_lt, nv_eq, nv_cl, Nat.reduceMod, Nat.reduceMul, Nat.reduceAdd, Nat.zero_add, Nat.add_zero, Nat.mul_zero, decide_eq_true_eq, nv_inT, mk_k hMc, mk_r hMc, mk_i hMc, Nat.le_refl]
      refine hk c ?_
      obtain ⟨B1, L1, R1, g1, g2, g3, g4, g5, g6, g7, g8, g9, g10, g11, g12, g13⟩ := hc
      exact ⟨B1, L1, R1, g1, g2, g3, g4, g5, g6, g7, g8, g9, g10, g11, by omega, by omega⟩
    · intro f k hk2 ih c hc
      obtain ⟨B', Ln, Rn, hE, hB, hN, hq, eH, eC, ⟨e0, e2⟩, ef, eh, ec, lve, hz, hl⟩ := hc
      have hMc := hM.ext hE hB
      have kk := mk_k hN
      have rr : hR c q 0 = some (Ln 1) ∧ hR c q 1 = some (Ln 2) := by
        have := mk_r hN
        unfold MkR at this
        rw [hq] at this
        exact ⟨this.1.1, this.1.2.1⟩
      rw [hq] at kk
      simp (disch := omega) only [X2_init_2_59, ↓w_bd, ↓w_rt, ↓w_bh, sm_l, sm_r, ↓w_okr, ↓w_nm, ↓w_ite, ↓reduceIte, not_true_eq_false, not_false_eq_true, and_true, true_and, and_self, Option.some.injEq, reduceCtorEq, eq_self, ↓w_rc, ↓w_gI, ↓w_gR, ↓w_aN, ↓w_aI, ↓w_aR, ↓w_ca, ↓w_ca0, nv_lit, nv_f, nv_add, nv_mul, nv_sub, nv_le, nv_lt, nv_eq, nv_cl, Nat.reduceMod, Nat.reduceMul, Nat.reduceAdd, Nat.zero_add, Nat.add_zero, Nat.mul_zero, decide_eq_true_eq, nv_inT, mk_k hMc, mk_r hMc, mk_i hMc, Nat.not_le.mpr hk2, kk, rr]
      refine w_nO' fun c1 e1 z1 l1 k1 i1 r1 => ?_
      have hM1 := hMc.ext e1 (B' := B') (fun _ _ => rfl)
      simp (disch := omega) only [↓w_bd, ↓w_rt, ↓w_bh, sm_l, sm_r, ↓w_okr, ↓w_nm, ↓w_ite, ↓reduceIte, not_true_eq_false, not_false_eq_true, and_true, true_and, and_self, Option.some.injEq, reduceCtorEq, eq_self, ↓w_rc, ↓w_gI, ↓w_gR, ↓w_aN, ↓w_aI, ↓w_aR, ↓w_ca, ↓w_ca0, nv_lit, nv_f, nv_add, nv_mul, nv_sub, nv_le, nv_lt, nv_eq, nv_cl, Nat.reduceMod, Nat.reduceMul, Nat.reduceAdd, Nat.zero_add, Nat.add_zero, Nat.mul_zero, decide_eq_true_eq, nv_inT, mk_k hM1, mk_r hM1, X3_at_c hM1, ct_88]
      refine X8_copy_w hMc hk2 _ rfl z1 e1 k1 i1 fun d ed zd ld cm fl tl ul vl => ?_
      have hNd := hN.ext ed (B' := B') (fun _ _ => rfl)
      have hp := fun r (hr : lv Rn r) => (hN.2.1 r hr).1
      have cm' := id cm
      obtain ⟨⟨ck0, ck1, ck2, ck3, ck4⟩, ⟨cn1, cn4, cn2, cn3⟩, cr5, cr6, cr0, cr1⟩ := cm
      simp (disch := omega) only [↓w_bd, ↓w_rt, ↓w_bh, sm_l, sm_r, ↓w_okr, ↓w_nm, ↓w_ite, ↓reduceIte, not_true_eq_false, not_false_eq_true, and_true, true_and, and_self, Option.some.injEq, reduceCtorEq, eq_self, ↓w_rc, ↓w_gI, ↓w_gR, ↓w_aN, ↓w_aI, ↓w_aR, ↓w_ca, ↓w_ca0, nv_lit, nv_f, nv_add, nv_mul, nv_sub, nv_le, nv_lt, nv_eq, nv_cl, Nat.reduceMod, Nat.reduceMul, Nat.reduceAdd, Nat.zero_add, Nat.add_zero, Nat.mul_zero, decide_eq_true_eq, nv_inT, mk_k hNd, X3_add_c hNd eC (by omega) ck0]
      have ls := lC_s Ln (hSz c) (show k < 20 by omega)
      have bs := bC_s B' (Ln 0 + 1) k (hSz c)
      have rO : ∀ i, i ≠ 3 → (i < 185 + 18 * k ∨ 185 + 18 * k + 18 ≤ i) → rC Rn R k i = Rn i := by
        intro i h1 h2
        unfold rC
        rw [if_neg h1, if_neg (by omega)]
      have rI : ∀ j, j < 18 → rC Rn R k (185 + 18 * k + j) = cs R k j := by
        intro j hj
        unfold rC
        rw [if_neg (by omega), if_pos (by omega)]
        rfl
      have r3 : rC Rn R k 3 = nv (k + 1) := if_pos rfl
      have nHr : nH (rC Rn R k) = nH R := by unfold nH; rw [rO _ (by omega) (by omega)]; exact eH
      have nCr : nC (rC Rn R k) = k + 1 := by unfold nC; rw [r3]; exact nv_cl (by omega)
      refine ih _ ⟨bC B' (Ln 0 + 1) k (hSz c), lC Ln k (hSz c), rC Rn R k, ?_, ?_, ?_, ?_, nHr, nCr, ⟨?_, ?_⟩, ?_, ?_, ?_, ?_, ?_, ?_⟩
      · exact ((hE.tr ed).wR (lve 4 (lv_0 (by omega))) _).wI (lve 2 (lv_0 (by omega))) _
      · intro x hx
        have := hE.1
        rw [bC_n _ _ _ _ _ (by omega) (by omega) (by omega) (by omega) (by omega)]
        exact hB x hx
      · refine hNd.addClaim (t := hSz c + 4) (o := hSz c + 1) (u0 := hSz c + 2) (u1 := hSz c + 3) eC.symm (by omega) ⟨by omega, by omega, by omega, by omega, by omega⟩ (fun r hr => by have := hp r hr; exact ⟨by omega, by omega, by omega, by omega, by omega⟩) ⟨ck0, ck1, ck2, ck3, ck4⟩ ⟨cn1, cn4, cn2, cn3⟩ ⟨cr5, cr6, cr0, cr1⟩ fl.1 rO r3 ?_ ?_ ?_ ?_ (lC_n Ln k (hSz c)) ls.1 ls.2.1 ls.2.2.1 ls.2.2.2.1 ls.2.2.2.2 (fun x g1 g2 g3 g4 g5 => bC_n _ _ _ _ x g1 g2 g3 g4 g5) bs.1 bs.2.1 bs.2.2.2.2 bs.2.2.1 bs.2.2.2.1
        · rw [show 185 + 18 * k = 185 + 18 * k + 0 from rfl, show 186 + 18 * k = 185 + 18 * k + 1 by omega, show 187 + 18 * k = 185 + 18 * k + 2 by omega, show 188 + 18 * k = 185 + 18 * k + 3 by omega, show 189 + 18 * k = 185 + 18 * k + 4 by omega, show 190 + 18 * k = 185 + 18 * k + 5 by omega, rI _ (by omega), rI _ (by omega), rI _ (by omega), rI _ (by omega), rI _ (by omega), rI _ (by omega)]
          exact fl.2
        · intro j hj
          rw [show 191 + 18 * k + j = 185 + 18 * k + (6 + j) by omega, rI _ (by omega)]
          exact tl j hj
        · intro j hj
          rw [show 193 + 18 * k + j = 185 + 18 * k + (8 + j) by omega, rI _ (by omega)]
          exact ul j hj
        · intro j hj
          rw [show 198 + 18 * k + j = 185 + 18 * k + (13 + j) by omega, rI _ (by omega)]
          exact vl j hj
      · rw [lC_n _ _ _ _ (by omega) (by omega) (by omega) (by omega) (by omega)]; exact hq
      · rw [rO _ (by omega) (by omega)]; exact e0
      · rw [rO _ (by omega) (by omega)]; exact e2
      · intro x y hx hy
        have := ef x y hx hy
        unfold fc at *
        rw [rO _ (by omega) (by omega)]; exact this
      · intro i h1 h2
        rw [rO _ (by omega) (by omega)]
        exact eh i h1 h2
      · intro i h1 h2
        unfold rC
        rw [if_neg (by omega)]
        split
        · rfl
        · exact ec i h1 (by omega)
      · intro r hr
        by_cases d : r = 40 + k ∨ r = 60 + k ∨ r = 80 + k ∨ r = 100 + 2 * k ∨ r = 101 + 2 * k
        · have := hE.1
          rcases d with rfl | rfl | rfl | rfl | rfl <;> omega
        · rw [lC_n _ _ _ _ (by omega) (by omega) (by omega) (by omega) (by omega)]
          refine lve r ?_
          unfold lv at *
          rw [nHr, nCr] at hr
          rw [eH, eC]
          omega
      · show hSz d ≤ _; omega
      · show hSl d ≤ _; omega
  intro c hc
  exact lp FU 0 (by omega) (by unfold FU; omega) c hc
