theorem nv_inT {k n : Nat} (h : k < n) (g : k < 2147483648) : inI (nv k) n = true := by
  rw [nv_in g]
  exact decide_eq_true h
/-! THE COMPONENT'S READING METHODS OF A MARKET -/
theorem X1_wordOf_w (x y : Int32) (a : Hp) (Q : Int32 → Hp → Prop) : Wp (X1_wordOf x y) a Q ↔ Q (wd x y) a := by
  simp only [X1_wordOf, X1_wordOf_19, ↓w_bd, ↓w_rt, ↓w_bh, sm_l, sm_r, ↓w_okr, ↓w_nm, ↓w_ite, ↓reduceIte, not_true_eq_false, not_false_eq_true, and_true, true_and, and_self, Option.some.injEq, reduceCtorEq, eq_self, wd]; split <;> (try split) <;> rfl
theorem ct_4 : List.contains [4, 8, 12, 13] 4 = true := by decide
theorem ct_8 : List.contains [4, 8, 12, 13] 8 = true := by decide
theorem ct_44 : List.contains [4] 4 = true := by decide
theorem ct_88 : List.contains [8] 8 = true := by decide
theorem X3_at_h {B : Nat → Nat × Nat} {a : Hp} {L : Nat → Nat} {R : Nat → Int32} (hM : Mk B a L R) {k : Nat} (hk : k < nH R) (Q : Option Nat → Hp → Prop) : Wp (X3_at (L 1) (nv k)) a Q ↔ Q (some (L (20 + k))) a := by
  have h10 := (mk_w hM).2.1.2
  simp (disch := omega) only [X3_at, ↓w_bd, ↓w_rt, ↓w_bh, sm_l, sm_r, ↓w_okr, ↓w_nm, ↓w_ite, ↓reduceIte, not_true_eq_false, not_false_eq_true, and_true, true_and, and_self, Option.some.injEq, reduceCtorEq, eq_self, ↓w_rc, ↓w_gI, ↓w_gR, ↓w_aN, ↓w_aI, ↓w_aR, ↓w_aL, ↓w_pI, ↓w_pR, ↓w_sI, ↓w_sR, ↓w_sL, ↓w_nO, ↓w_nA, ↓w_nL, ↓w_ca, ↓w_ca0, ↓w_gS, ↓w_gK, ↓w_dv, ↓w_tw, ↓w_rz, ↓w_no, nv_lit, nv_f, nv_add, nv_mul, nv_sub, nv_le, nv_lt, nv_eq, nv_cl, Nat.reduceMod, Nat.reduceMul, Nat.reduceAdd, Nat.zero_add, Nat.add_zero, Nat.mul_zero, decide_eq_true_eq, nv_inT, mk_k hM, mk_n hM, mk_r hM, mk_i hM, ct_4]
theorem X3_at_c {B : Nat → Nat × Nat} {a : Hp} {L : Nat → Nat} {R : Nat → Int32} (hM : Mk B a L R) {k : Nat} (hk : k < nC R) (Q : Option Nat → Hp → Prop) : Wp (X3_at (L 2) (nv k)) a Q ↔ Q (some (L (40 + k))) a := by
  have h10 := (mk_w hM).2.2.1.2
  simp (disch := omega) only [X3_at, ↓w_bd, ↓w_rt, ↓w_bh, sm_l, sm_r, ↓w_okr, ↓w_nm, ↓w_ite, ↓reduceIte, not_true_eq_false, not_false_eq_true, and_true, true_and, and_self, Option.some.injEq, reduceCtorEq, eq_self, ↓w_rc, ↓w_gI, ↓w_gR, ↓w_aN, ↓w_aI, ↓w_aR, ↓w_aL, ↓w_pI, ↓w_pR, ↓w_sI, ↓w_sR, ↓w_sL, ↓w_nO, ↓w_nA, ↓w_nL, ↓w_ca, ↓w_ca0, ↓w_gS, ↓w_gK, ↓w_dv, ↓w_tw, ↓w_rz, ↓w_no, nv_lit, nv_f, nv_add, nv_mul, nv_sub, nv_le, nv_lt, nv_eq, nv_cl, Nat.reduceMod, Nat.reduceMul, Nat.reduceAdd, Nat.zero_add, Nat.add_zero, Nat.mul_zero, decide_eq_true_eq, nv_inT, mk_k hM, mk_n hM, mk_r hM, mk_i hM, ct_8]
theorem X4_size_w {B : Nat → Nat × Nat} {a : Hp} {L : Nat → Nat} {R : Nat → Int32} (hM : Mk B a L R) {h : Nat} (hk : h < nH R) (Q : Int32 → Hp → Prop) : Wp (X4_size (L (20 + h))) a Q ↔ Q (sz R h) a := by
  have h10 := (mk_w hM).2.1.2
  have h5 := ((mk_w hM).2.2.2 h hk).2
  have l : ∀ (f k : Nat), k ≤ nR R h → nR R h - k < f → (Wp (X4_size_13 f (su (fun r => st R h r) k) (some (L (30 + h))) (nv (nR R h)) (nv k)) a Q ↔ Q (su (fun r => st R h r) (nR R h)) a) := by
    refine loopUp _ (nR R h) ?_ ?_
    · intro f
      simp (disch := omega) only [X4_size_13, ↓w_bd, ↓w_rt, ↓w_bh, sm_l, sm_r, ↓w_okr, ↓w_nm, ↓w_ite, ↓reduceIte, not_true_eq_false, not_false_eq_true, and_true, true_and, and_self, Option.some.injEq, reduceCtorEq, eq_self, ↓w_rc, ↓w_gI, ↓w_gR, ↓w_aN, ↓w_aI, ↓w_aR, ↓w_aL, ↓w_pI, ↓w_pR, ↓w_sI, ↓w_sR, ↓w_sL, ↓w_nO, ↓w_nA, ↓w_nL, ↓w_ca, ↓w_ca0, ↓w_gS, ↓w_gK, ↓w_dv, ↓w_tw, ↓w_rz, ↓w_no, nv_lit, nv_f, nv_add, nv_mul, nv_sub, nv_le, nv_lt, nv_eq, nv_cl, Nat.reduceMod, Nat.reduceMul, Nat.reduceAdd, Nat.zero_add, Nat.add_zero, Nat.mul_zero, decide_eq_true_eq, nv_inT, mk_k hM, mk_n hM, mk_r hM, mk_i hM, Nat.le_refl]
      all_goals rfl
    · intro f k hk2 ih
      simp (disch := omega) only [su, nv_lit, nv_f, nv_add, nv_mul, nv_sub, nv_le, nv_lt, nv_eq, nv_cl, Nat.reduceMod, Nat.reduceMul, Nat.reduceAdd, Nat.zero_add, Nat.add_zero, Nat.mul_zero, decide_eq_true_eq, nv_in] at ih
      simp (disch := omega) only [X4_size_13, ↓w_bd, ↓w_rt, ↓w_bh, sm_l, sm_r, ↓w_okr, ↓w_nm, ↓w_ite, ↓reduceIte, not_true_eq_false, not_false_eq_true, and_true, true_and, and_self, Option.some.injEq, reduceCtorEq, eq_self, ↓w_rc, ↓w_gI, ↓w_gR, ↓w_aN, ↓w_aI, ↓w_aR, ↓w_aL, ↓w_pI, ↓w_pR, ↓w_sI, ↓w_sR, ↓w_sL, ↓w_nO, ↓w_nA, ↓w_nL, ↓w_ca, ↓w_ca0, ↓w_gS, ↓w_gK, ↓w_dv, ↓w_tw, ↓w_rz, ↓w_no, nv_lit, nv_f, nv_add, nv_mul, nv_sub, nv_le, nv_lt, nv_eq, nv_cl, Nat.reduceMod, Nat.reduceMul, Nat.reduceAdd, Nat.zero_add, Nat.add_zero, Nat.mul_zero, decide_eq_true_eq, nv_inT, mk_k hM, mk_n hM, mk_r hM, mk_i hM, Nat.not_le.mpr hk2]
      first
        | exact ih
        | ((repeat' split) <;> simp only [↓reduceIte, not_true_eq_false, not_false_eq_true, Int32.lt_irrefl, *] at ih <;> exact ih)
        | ((repeat' split) <;> simp only [↓reduceIte, not_true_eq_false, not_false_eq_true, Int32.lt_irrefl, *] at ih ⊢ <;> exact ih)
  rw [sz, ← l FU 0 (by omega) (by unfold FU; omega)]
  simp (disch := omega) only [X4_size, ↓w_bd, ↓w_rt, ↓w_bh, sm_l, sm_r, ↓w_okr, ↓w_nm, ↓w_ite, ↓reduceIte, not_true_eq_false, not_false_eq_true, and_true, true_and, and_self, Option.some.injEq, reduceCtorEq, eq_self, ↓w_rc, ↓w_gI, ↓w_gR, ↓w_aN, ↓w_aI, ↓w_aR, ↓w_aL, ↓w_pI, ↓w_pR, ↓w_sI, ↓w_sR, ↓w_sL, ↓w_nO, ↓w_nA, ↓w_nL, ↓w_ca, ↓w_ca0, ↓w_gS, ↓w_gK, ↓w_dv, ↓w_tw, ↓w_rz, ↓w_no, nv_lit, nv_f, nv_add, nv_mul, nv_sub, nv_le, nv_lt, nv_eq, nv_cl, Nat.reduceMod, Nat.reduceMul, Nat.reduceAdd, Nat.zero_add, Nat.add_zero, Nat.mul_zero, decide_eq_true_eq, nv_inT, mk_k hM, mk_n hM, mk_r hM, mk_i hM, su_0]
theorem X4_look_w {B : Nat → Nat × Nat} {a : Hp} {L : Nat → Nat} {R : Nat → Int32} (hM : Mk B a L R) {h : Nat} (hk : h < nH R) (e : Int32) (Q : Int32 → Hp → Prop) : Wp (X4_look (L (20 + h)) e) a Q ↔ Q (lk R e h) a := by
  have h10 := (mk_w hM).2.1.2
  have h5 := ((mk_w hM).2.2.2 h hk).2
  have l : ∀ (f k : Nat), k ≤ nR R h → nR R h - k < f → (Wp (X4_look_14 f e (su (fun r => sg (st R h r) e) k) (some (L (30 + h))) (nv (nR R h)) (nv k)) a Q ↔ Q (su (fun r => sg (st R h r) e) (nR R h)) a) := by
    refine loopUp _ (nR R h) ?_ ?_
    · intro f
      simp (disch := omega) only [X4_look_14, ↓w_bd, ↓w_rt, ↓w_bh, sm_l, sm_r, ↓w_okr, ↓w_nm, ↓w_ite, ↓reduceIte, not_true_eq_false, not_false_eq_true, and_true, true_and, and_self, Option.some.injEq, reduceCtorEq, eq_self, ↓w_rc, ↓w_gI, ↓w_gR, ↓w_aN, ↓w_aI, ↓w_aR, ↓w_aL, ↓w_pI, ↓w_pR, ↓w_sI, ↓w_sR, ↓w_sL, ↓w_nO, ↓w_nA, ↓w_nL, ↓w_ca, ↓w_ca0, ↓w_gS, ↓w_gK, ↓w_dv, ↓w_tw, ↓w_rz, ↓w_no, nv_lit, nv_f, nv_add, nv_mul, nv_sub, nv_le, nv_lt, nv_eq, nv_cl, Nat.reduceMod, Nat.reduceMul, Nat.reduceAdd, Nat.zero_add, Nat.add_zero, Nat.mul_zero, decide_eq_true_eq, nv_inT, mk_k hM, mk_n hM, mk_r hM, mk_i hM, X1_sight_w, Nat.le_refl]
      all_goals rfl
    · intro f k hk2 ih
      simp (disch := omega) only [su, nv_lit, nv_f, nv_add, nv_mul, nv_sub, nv_le, nv_lt, nv_eq, nv_cl, Nat.reduceMod, Nat.reduceMul, Nat.reduceAdd, Nat.zero_add, Nat.add_zero, Nat.mul_zero, decide_eq_true_eq, nv_in] at ih
      simp (disch := omega) only [X4_look_14, ↓w_bd, ↓w_rt, ↓w_bh, sm_l, sm_r, ↓w_okr, ↓w_nm, ↓w_ite, ↓reduceIte, not_true_eq_false, not_false_eq_true, and_true, true_and, and_self, Option.some.injEq, reduceCtorEq, eq_self, ↓w_rc, ↓w_gI, ↓w_gR, ↓w_aN, ↓w_aI, ↓w_aR, ↓w_aL, ↓w_pI, ↓w_pR, ↓w_sI, ↓w_sR, ↓w_sL, ↓w_nO, ↓w_nA, ↓w_nL, ↓w_ca, ↓w_ca0, ↓w_gS, ↓w_gK, ↓w_dv, ↓w_tw, ↓w_rz, ↓w_no, nv_lit, nv_f, nv_add, nv_mul, nv_sub, nv_le, nv_lt, nv_eq, nv_cl, Nat.reduceMod, Nat.reduceMul, Nat.reduceAdd, Nat.zero_add, Nat.add_zero, Nat.mul_zero, decide_eq_true_eq, nv_inT, mk_k hM, mk_n hM, mk_r hM, mk_i hM, X1_sight_w, Nat.not_le.mpr hk2]
      first
        | exact ih
        | ((repeat' split) <;> simp only [↓reduceIte, not_true_eq_false, not_false_eq_true, Int32.lt_irrefl, *] at ih <;> exact ih)
        | ((repeat' split) <;> simp only [↓reduceIte, not_true_eq_false, not_false_eq_true, Int32.lt_irrefl, *] at ih ⊢ <;> exact ih)
  rw [lk, ← l FU 0 (by omega) (by unfold FU; omega)]
  simp (disch := omega) only [X4_look, ↓w_bd, ↓w_rt, ↓w_bh, sm_l, sm_r, ↓w_okr, ↓w_nm, ↓w_ite, ↓reduceIte, not_true_eq_false, not_false_eq_true, and_true, true_and, and_self, Option.some.injEq, reduceCtorEq, eq_self, ↓w_rc, ↓w_gI, ↓w_gR, ↓w_aN, ↓w_aI, ↓w_aR, ↓w_aL, ↓w_pI, ↓w_pR, ↓w_sI, ↓w_sR, ↓w_sL, ↓w_nO, ↓w_nA, ↓w_nL, ↓w_ca, ↓w_ca0, ↓w_gS, ↓w_gK, ↓w_dv, ↓w_tw, ↓w_rz, ↓w_no, nv_lit, nv_f, nv_add, nv_mul, nv_sub, nv_le, nv_lt, nv_eq, nv_cl, Nat.reduceMod, Nat.reduceMul, Nat.reduceAdd, Nat.zero_add, Nat.add_zero, Nat.mul_zero, decide_eq_true_eq, nv_inT, mk_k hM, mk_n hM, mk_r hM, mk_i hM, su_0]
theorem X4_greatestRow_w {B : Nat → Nat × Nat} {a : Hp} {L : Nat → Nat} {R : Nat → Int32} (hM : Mk B a L R) {h : Nat} (hk : h < nH R) (Q : Int32 → Hp → Prop) : Wp (X4_greatestRow (L (20 + h))) a Q ↔ Q (gr_ R h) a := by
  have h10 := (mk_w hM).2.1.2
  have h5 := ((mk_w hM).2.2.2 h hk).2
  have l : ∀ (f k : Nat), k ≤ nR R h → nR R h - k < f → (Wp (X4_greatestRow_13 f (gr (fun r => st R h r) k) (some (L (30 + h))) (nv (nR R h)) (nv k)) a Q ↔ Q (gr_ R h) a) := by
    refine loopUp _ (nR R h) ?_ ?_
    · intro f
      simp (disch := omega) only [X4_greatestRow_13, ↓w_bd, ↓w_rt, ↓w_bh, sm_l, sm_r, ↓w_okr, ↓w_nm, ↓w_ite, ↓reduceIte, not_true_eq_false, not_false_eq_true, and_true, true_and, and_self, Option.some.injEq, reduceCtorEq, eq_self, ↓w_rc, ↓w_gI, ↓w_gR, ↓w_aN, ↓w_aI, ↓w_aR, ↓w_aL, ↓w_pI, ↓w_pR, ↓w_sI, ↓w_sR, ↓w_sL, ↓w_nO, ↓w_nA, ↓w_nL, ↓w_ca, ↓w_ca0, ↓w_gS, ↓w_gK, ↓w_dv, ↓w_tw, ↓w_rz, ↓w_no, nv_lit, nv_f, nv_add, nv_mul, nv_sub, nv_le, nv_lt, nv_eq, nv_cl, Nat.reduceMod, Nat.reduceMul, Nat.reduceAdd, Nat.zero_add, Nat.add_zero, Nat.mul_zero, decide_eq_true_eq, nv_inT, Nat.le_refl, gr_]
    · intro f k hk2 ih
      simp (disch := omega) only [X4_greatestRow_13, ↓w_bd, ↓w_rt, ↓w_bh, sm_l, sm_r, ↓w_okr, ↓w_nm, ↓w_ite, ↓reduceIte, not_true_eq_false, not_false_eq_true, and_true, true_and, and_self, Option.some.injEq, reduceCtorEq, eq_self, ↓w_rc, ↓w_gI, ↓w_gR, ↓w_aN, ↓w_aI, ↓w_aR, ↓w_aL, ↓w_pI, ↓w_pR, ↓w_sI, ↓w_sR, ↓w_sL, ↓w_nO, ↓w_nA, ↓w_nL, ↓w_ca, ↓w_ca0, ↓w_gS, ↓w_gK, ↓w_dv, ↓w_tw, ↓w_rz, ↓w_no, nv_lit, nv_f, nv_add, nv_mul, nv_sub, nv_le, nv_lt, nv_eq, nv_cl, Nat.reduceMod, Nat.reduceMul, Nat.reduceAdd, Nat.zero_add, Nat.add_zero, Nat.mul_zero, decide_eq_true_eq, nv_inT, mk_k hM, mk_n hM, mk_r hM, mk_i hM, J12_max_w, Nat.not_le.mpr hk2, gr_s, ih]
  rw [← l FU 0 (by omega) (by unfold FU; omega)]
  simp (disch := omega) only [X4_greatestRow, ↓w_bd, ↓w_rt, ↓w_bh, sm_l, sm_r, ↓w_okr, ↓w_nm, ↓w_ite, ↓reduceIte, not_true_eq_false, not_false_eq_true, and_true, true_and, and_self, Option.some.injEq, reduceCtorEq, eq_self, ↓w_rc, ↓w_gI, ↓w_gR, ↓w_aN, ↓w_aI, ↓w_aR, ↓w_aL, ↓w_pI, ↓w_pR, ↓w_sI, ↓w_sR, ↓w_sL, ↓w_nO, ↓w_nA, ↓w_nL, ↓w_ca, ↓w_ca0, ↓w_gS, ↓w_gK, ↓w_dv, ↓w_tw, ↓w_rz, ↓w_no, nv_lit, nv_f, nv_add, nv_mul, nv_sub, nv_le, nv_lt, nv_eq, nv_cl, Nat.reduceMod, Nat.reduceMul, Nat.reduceAdd, Nat.zero_add, Nat.add_zero, Nat.mul_zero, decide_eq_true_eq, nv_inT, mk_k hM, mk_n hM, mk_r hM, mk_i hM, gr]
theorem X2_sizeWord_w {B : Nat → Nat × Nat} {a : Hp} {L : Nat → Nat} {R : Nat → Int32} (hM : Mk B a L R) {h k : Nat} (hh : h < nH R) (hk : k < nH R) (Q : Int32 → Hp → Prop) : Wp (X2_sizeWord (L 0) (nv h) (nv k)) a Q ↔ Q (ws R h k) a := by
  simp (disch := omega) only [X2_sizeWord, ↓w_bd, ↓w_rt, ↓w_bh, sm_l, sm_r, ↓w_okr, ↓w_nm, ↓w_ite, ↓reduceIte, not_true_eq_false, not_false_eq_true, and_true, true_and, and_self, Option.some.injEq, reduceCtorEq, eq_self, ↓w_rc, ↓w_gI, ↓w_gR, ↓w_aN, ↓w_aI, ↓w_aR, ↓w_aL, ↓w_pI, ↓w_pR, ↓w_sI, ↓w_sR, ↓w_sL, ↓w_nO, ↓w_nA, ↓w_nL, ↓w_ca, ↓w_ca0, ↓w_gS, ↓w_gK, ↓w_dv, ↓w_tw, ↓w_rz, ↓w_no, nv_lit, nv_f, nv_add, nv_mul, nv_sub, nv_le, nv_lt, nv_eq, nv_cl, Nat.reduceMod, Nat.reduceMul, Nat.reduceAdd, Nat.zero_add, Nat.add_zero, Nat.mul_zero, decide_eq_true_eq, nv_inT, mk_k hM, mk_n hM, mk_r hM, mk_i hM, X3_at_h hM, ct_44, X4_size_w hM, X1_wordOf_w, ws]
theorem X2_eyeWord_w {B : Nat → Nat × Nat} {a : Hp} {L : Nat → Nat} {R : Nat → Int32} (hM : Mk B a L R) {h k : Nat} (hh : h < nH R) (hk : k < nH R) (e : Int32) (Q : Int32 → Hp → Prop) : Wp (X2_eyeWord (L 0) (nv h) (nv k) e) a Q ↔ Q (we R e h k) a := by
  simp (disch := omega) only [X2_eyeWord, ↓w_bd, ↓w_rt, ↓w_bh, sm_l, sm_r, ↓w_okr, ↓w_nm, ↓w_ite, ↓reduceIte, not_true_eq_false, not_false_eq_true, and_true, true_and, and_self, Option.some.injEq, reduceCtorEq, eq_self, ↓w_rc, ↓w_gI, ↓w_gR, ↓w_aN, ↓w_aI, ↓w_aR, ↓w_aL, ↓w_pI, ↓w_pR, ↓w_sI, ↓w_sR, ↓w_sL, ↓w_nO, ↓w_nA, ↓w_nL, ↓w_ca, ↓w_ca0, ↓w_gS, ↓w_gK, ↓w_dv, ↓w_tw, ↓w_rz, ↓w_no, nv_lit, nv_f, nv_add, nv_mul, nv_sub, nv_le, nv_lt, nv_eq, nv_cl, Nat.reduceMod, Nat.reduceMul, Nat.reduceAdd, Nat.zero_add, Nat.add_zero, Nat.mul_zero, decide_eq_true_eq, nv_inT, mk_k hM, mk_n hM, mk_r hM, mk_i hM, X3_at_h hM, ct_44, X4_look_w hM, X1_wordOf_w, we]
theorem X2_errors_w {B : Nat → Nat × Nat} {a : Hp} {L : Nat → Nat} {R : Nat → Int32} (hM : Mk B a L R) (e : Int32) (Q : Int32 → Hp → Prop) : Wp (X2_errors (L 0) e) a Q ↔ Q (er R e) a := by
  have h10 := (mk_w hM).2.1.2
  have hm : ∀ (k4 : Nat → Int32 → Int32 → Int32 → Mr Int32) (v : Int32) (m : Nat), m < nH R → (Wp (X2_errors_18 k4 FU (L 0) e v (nv m) (nv 0)) a Q ↔ Wp (k4 (L 0) e (v + su (fun b => if ws R m b = we R e m b then 0 else 1) m) (nv (m + 1))) a Q) := by
    intro k4 v m hm
    have l : ∀ (f k : Nat), k ≤ m → m - k < f → (Wp (X2_errors_18 k4 f (L 0) e (v + su (fun b => if we R e m b = ws R m b then 0 else 1) k) (nv m) (nv k)) a Q ↔ Wp (k4 (L 0) e (v + su (fun b => if we R e m b = ws R m b then 0 else 1) m) (nv (m + 1))) a Q) := by
      refine loopUp _ (m) ?_ ?_
      · intro f
        simp (disch := omega) only [X2_errors_18, X2_errors_48, ↓w_bd, ↓w_rt, ↓w_bh, sm_l, sm_r, ↓w_okr, ↓w_nm, ↓w_ite, ↓reduceIte, not_true_eq_false, not_false_eq_true, and_true, true_and, and_self, Option.some.injEq, reduceCtorEq, eq_self, ↓w_rc, ↓w_gI, ↓w_gR, ↓w_aN, ↓w_aI, ↓w_aR, ↓w_aL, ↓w_pI, ↓w_pR, ↓w_sI, ↓w_sR, ↓w_sL, ↓w_nO, ↓w_nA, ↓w_nL, ↓w_ca, ↓w_ca0, ↓w_gS, ↓w_gK, ↓w_dv, ↓w_tw, ↓w_rz, ↓w_no, nv_lit, nv_f, nv_add, nv_mul, nv_sub, nv_le, nv_lt, nv_eq, nv_cl, Nat.reduceMod, Nat.reduceMul, Nat.reduceAdd, Nat.zero_add, Nat.add_zero, Nat.mul_zero, decide_eq_true_eq, nv_inT, mk_k hM, mk_n hM, mk_r hM, mk_i hM, X2_sizeWord_w hM, X2_eyeWord_w hM, X5_one_0, X5_one_1, X1_bit_0, X1_bit_1, ite_not, Int32.add_assoc, Nat.le_refl]
        all_goals rfl
      · intro f k hk2 ih
        simp (disch := omega) only [su, nv_lit, nv_f, nv_add, nv_mul, nv_sub, nv_le, nv_lt, nv_eq, nv_cl, Nat.reduceMod, Nat.reduceMul, Nat.reduceAdd, Nat.zero_add, Nat.add_zero, Nat.mul_zero, decide_eq_true_eq, nv_in, Int32.add_assoc] at ih
        simp (disch := omega) only [X2_errors_18, X2_errors_48, ↓w_bd, ↓w_rt, ↓w_bh, sm_l, sm_r, ↓w_okr, ↓w_nm, ↓w_ite, ↓reduceIte, not_true_eq_false, not_false_eq_true, and_true, true_and, and_self, Option.some.injEq, reduceCtorEq, eq_self, ↓w_rc, ↓w_gI, ↓w_gR, ↓w_aN, ↓w_aI, ↓w_aR, ↓w_aL, ↓w_pI, ↓w_pR, ↓w_sI, ↓w_sR, ↓w_sL, ↓w_nO, ↓w_nA, ↓w_nL, ↓w_ca, ↓w_ca0, ↓w_gS, ↓w_gK, ↓w_dv, ↓w_tw, ↓w_rz, ↓w_no, nv_lit, nv_f, nv_add, nv_mul, nv_sub, nv_le, nv_lt, nv_eq, nv_cl, Nat.reduceMod, Nat.reduceMul, Nat.reduceAdd, Nat.zero_add, Nat.add_zero, Nat.mul_zero, decide_eq_true_eq, nv_inT, mk_k hM, mk_n hM, mk_r hM, mk_i hM, X2_sizeWord_w hM, X2_eyeWord_w hM, X5_one_0, X5_one_1, X1_bit_0, X1_bit_1, ite_not, Int32.add_assoc, Nat.not_le.mpr hk2]
        first
          | exact ih
          | ((repeat' split) <;> simp only [↓reduceIte, not_true_eq_false, not_false_eq_true, Int32.lt_irrefl, *] at ih <;> exact ih)
          | ((repeat' split) <;> simp only [↓reduceIte, not_true_eq_false, not_false_eq_true, Int32.lt_irrefl, *] at ih ⊢ <;> exact ih)
    have := l FU 0 (by omega) (by unfold FU; omega)
    rw [su_0, Int32.add_zero] at this
    rw [su_cg (g := fun b => if we R e m b = ws R m b then 0 else 1) (fun b _ => by simp only [eq_comm])]
    exact this
  have l : ∀ (f k : Nat), k ≤ nH R → nH R - k < f → (Wp (X2_errors_4 f (L 0) e (su (fun m => su (fun b => if ws R m b = we R e m b then 0 else 1) m) k) (nv k)) a Q ↔ Q (su (fun m => su (fun b => if ws R m b = we R e m b then 0 else 1) m) (nH R)) a) := by
    refine loopUp _ (nH R) ?_ ?_
    · intro f
      simp (disch := omega) only [X2_errors_4, ↓w_bd, ↓w_rt, ↓w_bh, sm_l, sm_r, ↓w_okr, ↓w_nm, ↓w_ite, ↓reduceIte, not_true_eq_false, not_false_eq_true, and_true, true_and, and_self, Option.some.injEq, reduceCtorEq, eq_self, ↓w_rc, ↓w_gI, ↓w_gR, ↓w_aN, ↓w_aI, ↓w_aR, ↓w_aL, ↓w_pI, ↓w_pR, ↓w_sI, ↓w_sR, ↓w_sL, ↓w_nO, ↓w_nA, ↓w_nL, ↓w_ca, ↓w_ca0, ↓w_gS, ↓w_gK, ↓w_dv, ↓w_tw, ↓w_rz, ↓w_no, nv_lit, nv_f, nv_add, nv_mul, nv_sub, nv_le, nv_lt, nv_eq, nv_cl, Nat.reduceMod, Nat.reduceMul, Nat.reduceAdd, Nat.zero_add, Nat.add_zero, Nat.mul_zero, decide_eq_true_eq, nv_inT, mk_k hM, mk_n hM, mk_r hM, mk_i hM, hm, Nat.le_refl]
      all_goals rfl
    · intro f k hk2 ih
      simp (disch := omega) only [su, nv_lit, nv_f, nv_add, nv_mul, nv_sub, nv_le, nv_lt, nv_eq, nv_cl, Nat.reduceMod, Nat.reduceMul, Nat.reduceAdd, Nat.zero_add, Nat.add_zero, Nat.mul_zero, decide_eq_true_eq, nv_in] at ih
      simp (disch := omega) only [X2_errors_4, ↓w_bd, ↓w_rt, ↓w_bh, sm_l, sm_r, ↓w_okr, ↓w_nm, ↓w_ite, ↓reduceIte, not_true_eq_false, not_false_eq_true, and_true, true_and, and_self, Option.some.injEq, reduceCtorEq, eq_self, ↓w_rc, ↓w_gI, ↓w_gR, ↓w_aN, ↓w_aI, ↓w_aR, ↓w_aL, ↓w_pI, ↓w_pR, ↓w_sI, ↓w_sR, ↓w_sL, ↓w_nO, ↓w_nA, ↓w_nL, ↓w_ca, ↓w_ca0, ↓w_gS, ↓w_gK, ↓w_dv, ↓w_tw, ↓w_rz, ↓w_no, nv_lit, nv_f, nv_add, nv_mul, nv_sub, nv_le, nv_lt, nv_eq, nv_cl, Nat.reduceMod, Nat.reduceMul, Nat.reduceAdd, Nat.zero_add, Nat.add_zero, Nat.mul_zero, decide_eq_true_eq, nv_inT, mk_k hM, mk_n hM, mk_r hM, mk_i hM, hm, Nat.not_le.mpr hk2]
      first
        | exact ih
        | ((repeat' split) <;> simp only [↓reduceIte, not_true_eq_false, not_false_eq_true, Int32.lt_irrefl, *] at ih <;> exact ih)
        | ((repeat' split) <;> simp only [↓reduceIte, not_true_eq_false, not_false_eq_true, Int32.lt_irrefl, *] at ih ⊢ <;> exact ih)
  exact l FU 0 (by omega) (by unfold FU; omega)
/-! claims -/
theorem X8_isOpen_c1 {B : Nat → Nat × Nat} {a : Hp} {L : Nat → Nat} {R : Nat → Int32} (hM : Mk B a L R) {c : Nat} (hc : c < nC R) (ho : cs R c 4 = nv 0) (Q : Int32 → Hp → Prop) : Wp (X8_isOpen (L (40 + c))) a Q ↔ Q (nv 1) a := by
  simp (disch := omega) only [X8_isOpen, X8_isOpen_12, ↓w_bd, ↓w_rt, ↓w_bh, sm_l, sm_r, ↓w_okr, ↓w_nm, ↓w_ite, ↓reduceIte, not_true_eq_false, not_false_eq_true, and_true, true_and, and_self, Option.some.injEq, reduceCtorEq, eq_self, ↓w_rc, ↓w_gI, ↓w_gR, ↓w_aN, ↓w_aI, ↓w_aR, ↓w_aL, ↓w_pI, ↓w_pR, ↓w_sI, ↓w_sR, ↓w_sL, ↓w_nO, ↓w_nA, ↓w_nL, ↓w_ca, ↓w_ca0, ↓w_gS, ↓w_gK, ↓w_dv, ↓w_tw, ↓w_rz, ↓w_no, nv_lit, nv_f, nv_add, nv_mul, nv_sub, nv_le, nv_lt, nv_eq, nv_cl, Nat.reduceMod, Nat.reduceMul, Nat.reduceAdd, Nat.zero_add, Nat.add_zero, Nat.mul_zero, decide_eq_true_eq, nv_inT, mk_k hM, mk_n hM, mk_r hM, mk_i hM, ho, show nrk 2 (nv 1) = true by decide]
theorem X8_isOpen_c0 {B : Nat → Nat × Nat} {a : Hp} {L : Nat → Nat} {R : Nat → Int32} (hM : Mk B a L R) {c : Nat} (hc : c < nC R) (ho : ¬ cs R c 4 = nv 0) (Q : Int32 → Hp → Prop) : Wp (X8_isOpen (L (40 + c))) a Q ↔ Q (nv 0) a := by
  simp (disch := omega) only [X8_isOpen, X8_isOpen_12, ↓w_bd, ↓w_rt, ↓w_bh, sm_l, sm_r, ↓w_okr, ↓w_nm, ↓w_ite, ↓reduceIte, not_true_eq_false, not_false_eq_true, and_true, true_and, and_self, Option.some.injEq, reduceCtorEq, eq_self, ↓w_rc, ↓w_gI, ↓w_gR, ↓w_aN, ↓w_aI, ↓w_aR, ↓w_aL, ↓w_pI, ↓w_pR, ↓w_sI, ↓w_sR, ↓w_sL, ↓w_nO, ↓w_nA, ↓w_nL, ↓w_ca, ↓w_ca0, ↓w_gS, ↓w_gK, ↓w_dv, ↓w_tw, ↓w_rz, ↓w_no, nv_lit, nv_f, nv_add, nv_mul, nv_sub, nv_le, nv_lt, nv_eq, nv_cl, Nat.reduceMod, Nat.reduceMul, Nat.reduceAdd, Nat.zero_add, Nat.add_zero, Nat.mul_zero, decide_eq_true_eq, nv_inT, mk_k hM, mk_n hM, mk_r hM, mk_i hM, ho, show nrk 2 (nv 0) = true by decide]
theorem sd2 {R : Nat → Int32} (hS : Sh R) {c s : Nat} (hc : c < nC R) (hs : s < 2) : (if s = 0 then cs R c 1 else cs R c 2) = nv (sd R c s) := by
  have : s = 0 ∨ s = 1 := by omega
  rcases this with rfl | rfl
  · exact sh_S0 hS hc
  · exact sh_S1 hS hc
theorem X8_heapOf_w {B : Nat → Nat × Nat} {a : Hp} {L : Nat → Nat} {R : Nat → Int32} (hM : Mk B a L R) (hS : Sh R) {c s : Nat} (hc : c < nC R) (hs : s < 2) (Q : Int32 → Hp → Prop) : Wp (X8_heapOf (L (40 + c)) (nv s)) a Q ↔ Q (nv (sd R c s)) a := by
  rw [← sd2 hS hc hs]
  by_cases h : s = 0
  · simp (disch := omega) only [X8_heapOf, X8_heapOf_15, ↓w_bd, ↓w_rt, ↓w_bh, sm_l, sm_r, ↓w_okr, ↓w_nm, ↓w_ite, ↓reduceIte, not_true_eq_false, not_false_eq_true, and_true, true_and, and_self, Option.some.injEq, reduceCtorEq, eq_self, ↓w_rc, ↓w_gI, ↓w_gR, ↓w_aN, ↓w_aI, ↓w_aR, ↓w_aL, ↓w_pI, ↓w_pR, ↓w_sI, ↓w_sR, ↓w_sL, ↓w_nO, ↓w_nA, ↓w_nL, ↓w_ca, ↓w_ca0, ↓w_gS, ↓w_gK, ↓w_dv, ↓w_tw, ↓w_rz, ↓w_no, nv_lit, nv_f, nv_add, nv_mul, nv_sub, nv_le, nv_lt, nv_eq, nv_cl, Nat.reduceMod, Nat.reduceMul, Nat.reduceAdd, Nat.zero_add, Nat.add_zero, Nat.mul_zero, decide_eq_true_eq, nv_inT, mk_k hM, mk_n hM, mk_r hM, mk_i hM, h]
  · simp (disch := omega) only [X8_heapOf, X8_heapOf_15, ↓w_bd, ↓w_rt, ↓w_bh, sm_l, sm_r, ↓w_okr, ↓w_nm, ↓w_ite, ↓reduceIte, not_true_eq_false, not_false_eq_true, and_true, true_and, and_self, Option.some.injEq, reduceCtorEq, eq_self, ↓w_rc, ↓w_gI, ↓w_gR, ↓w_aN, ↓w_aI, ↓w_aR, ↓w_aL, ↓w_pI, ↓w_pR, ↓w_sI, ↓w_sR, ↓w_sL, ↓w_nO, ↓w_nA, ↓w_nL, ↓w_ca, ↓w_ca0, ↓w_gS, ↓w_gK, ↓w_dv, ↓w_tw, ↓w_rz, ↓w_no, nv_lit, nv_f, nv_add, nv_mul, nv_sub, nv_le, nv_lt, nv_eq, nv_cl, Nat.reduceMod, Nat.reduceMul, Nat.reduceAdd, Nat.zero_add, Nat.add_zero, Nat.mul_zero, decide_eq_true_eq, nv_inT, mk_k hM, mk_n hM, mk_r hM, mk_i hM, h]
theorem X2_left_w {B : Nat → Nat × Nat} {a : Hp} {L : Nat → Nat} {R : Nat → Int32} (hM : Mk B a L R) (hS : Sh R) {c s r : Nat} (hc : c < nC R) (hs : s < 2) (hr : r < nR R (sd R c s)) (Q : Int32 → Hp → Prop) : Wp (X2_left (L 0) (some (L (40 + c))) (nv s) (nv r)) a Q ↔ Q (li R c s r) a := by
  have hh := sh_SH hS hc hs
  have h5 := sh_R5 hS hh
  have r5 : r < 5 := by omega
  simp (disch := omega) only [X2_left, ↓w_bd, ↓w_rt, ↓w_bh, sm_l, sm_r, ↓w_okr, ↓w_nm, ↓w_ite, ↓reduceIte, not_true_eq_false, not_false_eq_true, and_true, true_and, and_self, Option.some.injEq, reduceCtorEq, eq_self, ↓w_rc, ↓w_gI, ↓w_gR, ↓w_aN, ↓w_aI, ↓w_aR, ↓w_aL, ↓w_pI, ↓w_pR, ↓w_sI, ↓w_sR, ↓w_sL, ↓w_nO, ↓w_nA, ↓w_nL, ↓w_ca, ↓w_ca0, ↓w_gS, ↓w_gK, ↓w_dv, ↓w_tw, ↓w_rz, ↓w_no, nv_lit, nv_f, nv_add, nv_mul, nv_sub, nv_le, nv_lt, nv_eq, nv_cl, Nat.reduceMod, Nat.reduceMul, Nat.reduceAdd, Nat.zero_add, Nat.add_zero, Nat.mul_zero, decide_eq_true_eq, nv_inT, mk_k hM, mk_n hM, mk_r hM, mk_i hM, X8_heapOf_w hM hS, X3_at_h hM, ct_44, li]
theorem su_sub (f g : Nat → Int32) : ∀ n, su (fun r => f r - g r) n = su f n - su g n
  | 0 => (Int32.sub_self 0).symm
  | n + 1 => by
    rw [su, su, su, su_sub f g n]
    simp only [Int32.sub_eq_add_neg, Int32.neg_add]
    ac_rfl
theorem su_z (f : Nat → Int32) {n : Nat} : ∀ m, (∀ r, n ≤ r → r < n + m → f r = 0) → su f (n + m) = su f n
  | 0, _ => rfl
  | m + 1, h => by
    rw [← Nat.add_assoc, su, su_z f m (fun r h1 h2 => h r h1 (by omega)), h (n + m) (by omega) (by omega), Int32.add_zero]
/-- nothing is paired beyond a heap's rows -/
def Pz (R : Nat → Int32) : Prop := ∀ c s r, c < nC R → s < 2 → r < 5 → nR R (sd R c s) ≤ r → cs R c (8 + 5 * s + r) = 0
theorem lf_eq {R : Nat → Int32} (hS : Sh R) (hP : Pz R) {c s : Nat} (hc : c < nC R) (hs : s < 2) : sz R (sd R c s) - su (fun r => cs R c (8 + 5 * s + r)) 5 = su (fun r => li R c s r) (nR R (sd R c s)) := by
  have hh := sh_SH hS hc hs
  have h5 := sh_R5 hS hh
  have e : su (fun r => cs R c (8 + 5 * s + r)) 5 = su (fun r => cs R c (8 + 5 * s + r)) (nR R (sd R c s)) := by
    have := su_z (fun r => cs R c (8 + 5 * s + r)) (n := nR R (sd R c s)) (5 - nR R (sd R c s)) (fun r h1 h2 => hP c s r hc hs (by omega) h1)
    rwa [show nR R (sd R c s) + (5 - nR R (sd R c s)) = 5 by omega] at this
  rw [e, sz, ← su_sub]
  rfl
theorem X8_sum_w {B : Nat → Nat × Nat} {a : Hp} {L : Nat → Nat} {R : Nat → Int32} (hM : Mk B a L R) {c s : Nat} (hc : c < nC R) (hs : s < 2) (Q : Int32 → Hp → Prop) : Wp (X8_sum (L (40 + c)) (nv s)) a Q ↔ Q (su (fun r => cs R c (8 + 5 * s + r)) 5) a := by
  have l : ∀ (f k : Nat), k ≤ 5 → 5 - k < f → (Wp (X8_sum_16 f (su (fun r => cs R c (8 + 5 * s + r)) k) (some (L (100 + 2 * c + s))) (nv 5) (nv k)) a Q ↔ Q (su (fun r => cs R c (8 + 5 * s + r)) (5)) a) := by
    refine loopUp _ (5) ?_ ?_
    · intro f
      simp (disch := omega) only [X8_sum_16, ↓w_bd, ↓w_rt, ↓w_bh, sm_l, sm_r, ↓w_okr, ↓w_nm, ↓w_ite, ↓reduceIte, not_true_eq_false, not_false_eq_true, and_true, true_and, and_self, Option.some.injEq, reduceCtorEq, eq_self, ↓w_rc, ↓w_gI, ↓w_gR, ↓w_aN, ↓w_aI, ↓w_aR, ↓w_aL, ↓w_pI, ↓w_pR, ↓w_sI, ↓w_sR, ↓w_sL, ↓w_nO, ↓w_nA, ↓w_nL, ↓w_ca, ↓w_ca0, ↓w_gS, ↓w_gK, ↓w_dv, ↓w_tw, ↓w_rz, ↓w_no, nv_lit, nv_f, nv_add, nv_mul, nv_sub, nv_le, nv_lt, nv_eq, nv_cl, Nat.reduceMod, Nat.reduceMul, Nat.reduceAdd, Nat.zero_add, Nat.add_zero, Nat.mul_zero, decide_eq_true_eq, nv_inT, mk_k hM, mk_n hM, mk_r hM, mk_i hM, Nat.le_refl]
      all_goals rfl
    · intro f k hk2 ih
      simp (disch := omega) only [su, nv_lit, nv_f, nv_add, nv_mul, nv_sub, nv_le, nv_lt, nv_eq, nv_cl, Nat.reduceMod, Nat.reduceMul, Nat.reduceAdd, Nat.zero_add, Nat.add_zero, Nat.mul_zero, decide_eq_true_eq, nv_in] at ih
      simp (disch := omega) only [X8_sum_16, ↓w_bd, ↓w_rt, ↓w_bh, sm_l, sm_r, ↓w_okr, ↓w_nm, ↓w_ite, ↓reduceIte, not_true_eq_false, not_false_eq_true, and_true, true_and, and_self, Option.some.injEq, reduceCtorEq, eq_self, ↓w_rc, ↓w_gI, ↓w_gR, ↓w_aN, ↓w_aI, ↓w_aR, ↓w_aL, ↓w_pI, ↓w_pR, ↓w_sI, ↓w_sR, ↓w_sL, ↓w_nO, ↓w_nA, ↓w_nL, ↓w_ca, ↓w_ca0, ↓w_gS, ↓w_gK, ↓w_dv, ↓w_tw, ↓w_rz, ↓w_no, nv_lit, nv_f, nv_add, nv_mul, nv_sub, nv_le, nv_lt, nv_eq, nv_cl, Nat.reduceMod, Nat.reduceMul, Nat.reduceAdd, Nat.zero_add, Nat.add_zero, Nat.mul_zero, decide_eq_true_eq, nv_inT, mk_k hM, mk_n hM, mk_r hM, mk_i hM, Nat.not_le.mpr hk2]
      first
        | exact ih
        | ((repeat' split) <;> simp only [↓reduceIte, not_true_eq_false, not_false_eq_true, Int32.lt_irrefl, *] at ih <;> exact ih)
        | ((repeat' split) <;> simp only [↓reduceIte, not_true_eq_false, not_false_eq_true, Int32.lt_irrefl, *] at ih ⊢ <;> exact ih)
  rw [← l FU 0 (by omega) (by unfold FU; omega)]
  simp (disch := omega) only [X8_sum, ↓w_bd, ↓w_rt, ↓w_bh, sm_l, sm_r, ↓w_okr, ↓w_nm, ↓w_ite, ↓reduceIte, not_true_eq_false, not_false_eq_true, and_true, true_and, and_self, Option.some.injEq, reduceCtorEq, eq_self, ↓w_rc, ↓w_gI, ↓w_gR, ↓w_aN, ↓w_aI, ↓w_aR, ↓w_aL, ↓w_pI, ↓w_pR, ↓w_sI, ↓w_sR, ↓w_sL, ↓w_nO, ↓w_nA, ↓w_nL, ↓w_ca, ↓w_ca0, ↓w_gS, ↓w_gK, ↓w_dv, ↓w_tw, ↓w_rz, ↓w_no, nv_lit, nv_f, nv_add, nv_mul, nv_sub, nv_le, nv_lt, nv_eq, nv_cl, Nat.reduceMod, Nat.reduceMul, Nat.reduceAdd, Nat.zero_add, Nat.add_zero, Nat.mul_zero, decide_eq_true_eq, nv_inT, mk_k hM, mk_n hM, mk_r hM, mk_i hM, su_0]
theorem X2_left_2_w {B : Nat → Nat × Nat} {a : Hp} {L : Nat → Nat} {R : Nat → Int32} (hM : Mk B a L R) (hS : Sh R) (hP : Pz R) {c s : Nat} (hc : c < nC R) (hs : s < 2) (Q : Int32 → Hp → Prop) : Wp (X2_left_2 (L 0) (some (L (40 + c))) (nv s)) a Q ↔ Q (lf R c s) a := by
  have hh := sh_SH hS hc hs
  by_cases h0 : cs R c 4 = nv 0
  · have e : lf R c s = su (fun r => li R c s r) (nR R (sd R c s)) := by rw [lf, if_pos (show cs R c 4 = 0 from h0)]
    rw [e, ← lf_eq hS hP hc hs]
    simp (disch := omega) only [X2_left_2, X2_left_2_40, ↓w_bd, ↓w_rt, ↓w_bh, sm_l, sm_r, ↓w_okr, ↓w_nm, ↓w_ite, ↓reduceIte, not_true_eq_false, not_false_eq_true, and_true, true_and, and_self, Option.some.injEq, reduceCtorEq, eq_self, ↓w_rc, ↓w_gI, ↓w_gR, ↓w_aN, ↓w_aI, ↓w_aR, ↓w_aL, ↓w_pI, ↓w_pR, ↓w_sI, ↓w_sR, ↓w_sL, ↓w_nO, ↓w_nA, ↓w_nL, ↓w_ca, ↓w_ca0, ↓w_gS, ↓w_gK, ↓w_dv, ↓w_tw, ↓w_rz, ↓w_no, nv_lit, nv_f, nv_add, nv_mul, nv_sub, nv_le, nv_lt, nv_eq, nv_cl, Nat.reduceMod, Nat.reduceMul, Nat.reduceAdd, Nat.zero_add, Nat.add_zero, Nat.mul_zero, decide_eq_true_eq, nv_inT, mk_k hM, mk_n hM, mk_r hM, mk_i hM, X8_isOpen_c1 hM hc h0, X8_heapOf_w hM hS, X3_at_h hM, ct_44, X4_size_w hM, X8_sum_w hM]
  · have e : lf R c s = cs R c (6 + s) := by rw [lf, if_neg (show ¬ cs R c 4 = 0 from h0)]
    rw [e]
    simp (disch := omega) only [X2_left_2, X2_left_2_40, ↓w_bd, ↓w_rt, ↓w_bh, sm_l, sm_r, ↓w_okr, ↓w_nm, ↓w_ite, ↓reduceIte, not_true_eq_false, not_false_eq_true, and_true, true_and, and_self, Option.some.injEq, reduceCtorEq, eq_self, ↓w_rc, ↓w_gI, ↓w_gR, ↓w_aN, ↓w_aI, ↓w_aR, ↓w_aL, ↓w_pI, ↓w_pR, ↓w_sI, ↓w_sR, ↓w_sL, ↓w_nO, ↓w_nA, ↓w_nL, ↓w_ca, ↓w_ca0, ↓w_gS, ↓w_gK, ↓w_dv, ↓w_tw, ↓w_rz, ↓w_no, nv_lit, nv_f, nv_add, nv_mul, nv_sub, nv_le, nv_lt, nv_eq, nv_cl, Nat.reduceMod, Nat.reduceMul, Nat.reduceAdd, Nat.zero_add, Nat.add_zero, Nat.mul_zero, decide_eq_true_eq, nv_inT, mk_k hM, mk_n hM, mk_r hM, mk_i hM, X8_isOpen_c0 hM hc h0]
theorem X2_isEnded_1 {B : Nat → Nat × Nat} {a : Hp} {L : Nat → Nat} {R : Nat → Int32} (hM : Mk B a L R) (hS : Sh R) (hP : Pz R) {c : Nat} (hc : c < nC R) (he : en R c) (Q : Int32 → Hp → Prop) : Wp (X2_isEnded (L 0) (some (L (40 + c)))) a Q ↔ Q (nv 1) a := by
  rcases he with he | he
  · have he : lf R c 0 = nv 0 := he
    simp (disch := omega) only [X2_isEnded, X2_isEnded_23, X2_isEnded_18, ↓w_bd, ↓w_rt, ↓w_bh, sm_l, sm_r, ↓w_okr, ↓w_nm, ↓w_ite, ↓reduceIte, not_true_eq_false, not_false_eq_true, and_true, true_and, and_self, Option.some.injEq, reduceCtorEq, eq_self, ↓w_rc, ↓w_gI, ↓w_gR, ↓w_aN, ↓w_aI, ↓w_aR, ↓w_aL, ↓w_pI, ↓w_pR, ↓w_sI, ↓w_sR, ↓w_sL, ↓w_nO, ↓w_nA, ↓w_nL, ↓w_ca, ↓w_ca0, ↓w_gS, ↓w_gK, ↓w_dv, ↓w_tw, ↓w_rz, ↓w_no, nv_lit, nv_f, nv_add, nv_mul, nv_sub, nv_le, nv_lt, nv_eq, nv_cl, Nat.reduceMod, Nat.reduceMul, Nat.reduceAdd, Nat.zero_add, Nat.add_zero, Nat.mul_zero, decide_eq_true_eq, nv_inT, mk_k hM, mk_n hM, mk_r hM, mk_i hM, X2_left_2_w hM hS hP, show nrk 2 (nv 1) = true by decide, he]
  · have he : lf R c 1 = nv 0 := he
    by_cases h0 : lf R c 0 = nv 0
    · simp (disch := omega) only [X2_isEnded, X2_isEnded_23, X2_isEnded_18, ↓w_bd, ↓w_rt, ↓w_bh, sm_l, sm_r, ↓w_okr, ↓w_nm, ↓w_ite, ↓reduceIte, not_true_eq_false, not_false_eq_true, and_true, true_and, and_self, Option.some.injEq, reduceCtorEq, eq_self, ↓w_rc, ↓w_gI, ↓w_gR, ↓w_aN, ↓w_aI, ↓w_aR, ↓w_aL, ↓w_pI, ↓w_pR, ↓w_sI, ↓w_sR, ↓w_sL, ↓w_nO, ↓w_nA, ↓w_nL, ↓w_ca, ↓w_ca0, ↓w_gS, ↓w_gK, ↓w_dv, ↓w_tw, ↓w_rz, ↓w_no, nv_lit, nv_f, nv_add, nv_mul, nv_sub, nv_le, nv_lt, nv_eq, nv_cl, Nat.reduceMod, Nat.reduceMul, Nat.reduceAdd, Nat.zero_add, Nat.add_zero, Nat.mul_zero, decide_eq_true_eq, nv_inT, mk_k hM, mk_n hM, mk_r hM, mk_i hM, X2_left_2_w hM hS hP, show nrk 2 (nv 1) = true by decide, h0]
    · simp (disch := omega) only [X2_isEnded, X2_isEnded_23, X2_isEnded_18, ↓w_bd, ↓w_rt, ↓w_bh, sm_l, sm_r, ↓w_okr, ↓w_nm, ↓w_ite, ↓reduceIte, not_true_eq_false, not_false_eq_true, and_true, true_and, and_self, Option.some.injEq, reduceCtorEq, eq_self, ↓w_rc, ↓w_gI, ↓w_gR, ↓w_aN, ↓w_aI, ↓w_aR, ↓w_aL, ↓w_pI, ↓w_pR, ↓w_sI, ↓w_sR, ↓w_sL, ↓w_nO, ↓w_nA, ↓w_nL, ↓w_ca, ↓w_ca0, ↓w_gS, ↓w_gK, ↓w_dv, ↓w_tw, ↓w_rz, ↓w_no, nv_lit, nv_f, nv_add, nv_mul, nv_sub, nv_le, nv_lt, nv_eq, nv_cl, Nat.reduceMod, Nat.reduceMul, Nat.reduceAdd, Nat.zero_add, Nat.add_zero, Nat.mul_zero, decide_eq_true_eq, nv_inT, mk_k hM, mk_n hM, mk_r hM, mk_i hM, X2_left_2_w hM hS hP, show nrk 2 (nv 1) = true by decide, he, h0]
theorem X2_isEnded_0 {B : Nat → Nat × Nat} {a : Hp} {L : Nat → Nat} {R : Nat → Int32} (hM : Mk B a L R) (hS : Sh R) (hP : Pz R) {c : Nat} (hc : c < nC R) (he : ¬ en R c) (Q : Int32 → Hp → Prop) : Wp (X2_isEnded (L 0) (some (L (40 + c)))) a Q ↔ Q (nv 0) a := by
  have h0 : ¬ lf R c 0 = nv 0 := fun h => he (.inl h)
  have h1 : ¬ lf R c 1 = nv 0 := fun h => he (.inr h)
  simp (disch := omega) only [X2_isEnded, X2_isEnded_23, X2_isEnded_18, ↓w_bd, ↓w_rt, ↓w_bh, sm_l, sm_r, ↓w_okr, ↓w_nm, ↓w_ite, ↓reduceIte, not_true_eq_false, not_false_eq_true, and_true, true_and, and_self, Option.some.injEq, reduceCtorEq, eq_self, ↓w_rc, ↓w_gI, ↓w_gR, ↓w_aN, ↓w_aI, ↓w_aR, ↓w_aL, ↓w_pI, ↓w_pR, ↓w_sI, ↓w_sR, ↓w_sL, ↓w_nO, ↓w_nA, ↓w_nL, ↓w_ca, ↓w_ca0, ↓w_gS, ↓w_gK, ↓w_dv, ↓w_tw, ↓w_rz, ↓w_no, nv_lit, nv_f, nv_add, nv_mul, nv_sub, nv_le, nv_lt, nv_eq, nv_cl, Nat.reduceMod, Nat.reduceMul, Nat.reduceAdd, Nat.zero_add, Nat.add_zero, Nat.mul_zero, decide_eq_true_eq, nv_inT, mk_k hM, mk_n hM, mk_r hM, mk_i hM, X2_left_2_w hM hS hP, show nrk 2 (nv 0) = true by decide, h0, h1]
theorem X2_shows_w {B : Nat → Nat × Nat} {a : Hp} {L : Nat → Nat} {R : Nat → Int32} (hM : Mk B a L R) (hS : Sh R) (hP : Pz R) {c : Nat} (hc : c < nC R) (Q : Int32 → Hp → Prop) : Wp (X2_shows (L 0) (some (L (40 + c)))) a Q ↔ Q (wd (lf R c 0) (lf R c 1)) a := by
  simp (disch := omega) only [X2_shows, ↓w_bd, ↓w_rt, ↓w_bh, sm_l, sm_r, ↓w_okr, ↓w_nm, ↓w_ite, ↓reduceIte, not_true_eq_false, not_false_eq_true, and_true, true_and, and_self, Option.some.injEq, reduceCtorEq, eq_self, ↓w_rc, ↓w_gI, ↓w_gR, ↓w_aN, ↓w_aI, ↓w_aR, ↓w_aL, ↓w_pI, ↓w_pR, ↓w_sI, ↓w_sR, ↓w_sL, ↓w_nO, ↓w_nA, ↓w_nL, ↓w_ca, ↓w_ca0, ↓w_gS, ↓w_gK, ↓w_dv, ↓w_tw, ↓w_rz, ↓w_no, nv_lit, nv_f, nv_add, nv_mul, nv_sub, nv_le, nv_lt, nv_eq, nv_cl, Nat.reduceMod, Nat.reduceMul, Nat.reduceAdd, Nat.zero_add, Nat.add_zero, Nat.mul_zero, decide_eq_true_eq, nv_inT, mk_k hM, mk_n hM, mk_r hM, mk_i hM, X2_left_2_w hM hS hP, X1_wordOf_w]
