/-! THE TWIN LAYS -/
def ly (G : Nat → Nat) (a : Hp) (o k : Nat) (v : Int32) : Hp := hwI a (G 11) (up1 (hI a (G 11)) (545 * o + k) v)
theorem ly_K (G : Nat → Nat) (a : Hp) (o k : Nat) (v : Int32) : hK (ly G a o k v) = hK a := rfl
theorem FO.ly {G : Nat → Nat} {a : Hp} {o : Nat} {R : Nat → Int32} (hG : GD G) (h : FO G a o R) {k : Nat} (hk : k < 545) (v : Int32) : FO G (ly G a o k v) o (up1 R k v) := by
  obtain ⟨h1, h2, h3, h4⟩ := h
  refine ⟨h1, ?_, h3, fun j hj => ?_⟩
  · show hI (hwI a (G 11) _) (G 10) 3 = nv o
    rw [hI_wI, up1_n _ _ (hG.ne (by omega) (by omega) (by omega))]
    exact h2
  · show hI (hwI a (G 11) _) (G 11) (545 * o + j) = up1 R k v j
    rw [hI_wI, up1_s]
    by_cases c : j = k
    · rw [c, up1_s, up1_s]
    · rw [up1_n _ _ (by omega), up1_n _ _ c]
      exact h4 j hj
theorem X5_lay_w {G : Nat → Nat} {a : Hp} {o : Nat} {R : Nat → Int32} (hF : FO G a o R) {k : Nat} (hk : k < 545) (v : Int32) (Q : Unit → Hp → Prop) : Wp (X5_lay (G 10) (nv k) v) a Q ↔ Q () (ly G a o k v) := by
  obtain ⟨hF, ho, ho2, hR⟩ := hF
  simp (disch := omega) only [X5_lay, ↓w_bd, ↓w_rt, ↓w_bh, sm_l, sm_r, ↓w_okr, ↓w_nm, ↓w_ite, ↓reduceIte, not_true_eq_false, not_false_eq_true, and_true, true_and, and_self, Option.some.injEq, reduceCtorEq, eq_self, ↓w_rc, ↓w_gI, ↓w_gR, ↓w_aN, ↓w_aI, ↓w_aR, ↓w_aL, ↓w_pI, ↓w_pR, ↓w_sI, ↓w_sR, ↓w_sL, ↓w_nO, ↓w_nA, ↓w_nL, ↓w_ca, ↓w_ca0, ↓w_gS, ↓w_gK, ↓w_dv, ↓w_tw, ↓w_rz, ↓w_no, nv_lit, nv_f, nv_add, nv_mul, nv_sub, nv_le, nv_lt, nv_eq, nv_cl, Nat.reduceMod, Nat.reduceMul, Nat.reduceAdd, Nat.zero_add, Nat.add_zero, Nat.mul_zero, decide_eq_true_eq, nv_inT, hF, ho]
  rfl
theorem X5_layHeap_w {G : Nat → Nat} {a : Hp} {o : Nat} {R : Nat → Int32} (hF : FO G a o R) {h j : Nat} (hh : h < 10) (hj : j < 7) (v : Int32) (Q : Unit → Hp → Prop) : Wp (X5_layHeap (G 10) (nv h) (nv j) v) a Q ↔ Q () (ly G a o (15 + 7 * h + j) v) := by
  simp (disch := omega) only [X5_layHeap, ↓w_bd, ↓w_rt, ↓w_bh, sm_l, sm_r, ↓w_okr, ↓w_nm, ↓w_ite, ↓reduceIte, not_true_eq_false, not_false_eq_true, and_true, true_and, and_self, Option.some.injEq, reduceCtorEq, eq_self, ↓w_rc, ↓w_gI, ↓w_gR, ↓w_aN, ↓w_aI, ↓w_aR, ↓w_aL, ↓w_pI, ↓w_pR, ↓w_sI, ↓w_sR, ↓w_sL, ↓w_nO, ↓w_nA, ↓w_nL, ↓w_ca, ↓w_ca0, ↓w_gS, ↓w_gK, ↓w_dv, ↓w_tw, ↓w_rz, ↓w_no, nv_lit, nv_f, nv_add, nv_mul, nv_sub, nv_le, nv_lt, nv_eq, nv_cl, Nat.reduceMod, Nat.reduceMul, Nat.reduceAdd, Nat.zero_add, Nat.add_zero, Nat.mul_zero, decide_eq_true_eq, nv_inT, hF.1, X5_lay_w hF]
theorem X5_layClaim_w {G : Nat → Nat} {a : Hp} {o : Nat} {R : Nat → Int32} (hF : FO G a o R) {c j : Nat} (hh : c < 20) (hj : j < 18) (v : Int32) (Q : Unit → Hp → Prop) : Wp (X5_layClaim (G 10) (nv c) (nv j) v) a Q ↔ Q () (ly G a o (185 + 18 * c + j) v) := by
  simp (disch := omega) only [X5_layClaim, ↓w_bd, ↓w_rt, ↓w_bh, sm_l, sm_r, ↓w_okr, ↓w_nm, ↓w_ite, ↓reduceIte, not_true_eq_false, not_false_eq_true, and_true, true_and, and_self, Option.some.injEq, reduceCtorEq, eq_self, ↓w_rc, ↓w_gI, ↓w_gR, ↓w_aN, ↓w_aI, ↓w_aR, ↓w_aL, ↓w_pI, ↓w_pR, ↓w_sI, ↓w_sR, ↓w_sL, ↓w_nO, ↓w_nA, ↓w_nL, ↓w_ca, ↓w_ca0, ↓w_gS, ↓w_gK, ↓w_dv, ↓w_tw, ↓w_rz, ↓w_no, nv_lit, nv_f, nv_add, nv_mul, nv_sub, nv_le, nv_lt, nv_eq, nv_cl, Nat.reduceMod, Nat.reduceMul, Nat.reduceAdd, Nat.zero_add, Nat.add_zero, Nat.mul_zero, decide_eq_true_eq, nv_inT, hF.1, X5_lay_w hF]
theorem X5_adds_w {G : Nat → Nat} {a : Hp} {o : Nat} {R : Nat → Int32} (hF : FO G a o R) {k : Nat} (hk : k < 545) (v : Int32) (Q : Unit → Hp → Prop) : Wp (X5_adds (G 10) (nv k) v) a Q ↔ Q () (ly G a o k (R k + v)) := by
  obtain ⟨hF, ho, ho2, hR⟩ := hF
  simp (disch := omega) only [X5_adds, ↓w_bd, ↓w_rt, ↓w_bh, sm_l, sm_r, ↓w_okr, ↓w_nm, ↓w_ite, ↓reduceIte, not_true_eq_false, not_false_eq_true, and_true, true_and, and_self, Option.some.injEq, reduceCtorEq, eq_self, ↓w_rc, ↓w_gI, ↓w_gR, ↓w_aN, ↓w_aI, ↓w_aR, ↓w_aL, ↓w_pI, ↓w_pR, ↓w_sI, ↓w_sR, ↓w_sL, ↓w_nO, ↓w_nA, ↓w_nL, ↓w_ca, ↓w_ca0, ↓w_gS, ↓w_gK, ↓w_dv, ↓w_tw, ↓w_rz, ↓w_no, nv_lit, nv_f, nv_add, nv_mul, nv_sub, nv_le, nv_lt, nv_eq, nv_cl, Nat.reduceMod, Nat.reduceMul, Nat.reduceAdd, Nat.zero_add, Nat.add_zero, Nat.mul_zero, decide_eq_true_eq, nv_inT, hF, ho, hR]
  rfl
theorem X5_addsClaim_w {G : Nat → Nat} {a : Hp} {o : Nat} {R : Nat → Int32} (hF : FO G a o R) {c j : Nat} (hh : c < 20) (hj : j < 18) (v : Int32) (Q : Unit → Hp → Prop) : Wp (X5_addsClaim (G 10) (nv c) (nv j) v) a Q ↔ Q () (ly G a o (185 + 18 * c + j) (R (185 + 18 * c + j) + v)) := by
  simp (disch := omega) only [X5_addsClaim, ↓w_bd, ↓w_rt, ↓w_bh, sm_l, sm_r, ↓w_okr, ↓w_nm, ↓w_ite, ↓reduceIte, not_true_eq_false, not_false_eq_true, and_true, true_and, and_self, Option.some.injEq, reduceCtorEq, eq_self, ↓w_rc, ↓w_gI, ↓w_gR, ↓w_aN, ↓w_aI, ↓w_aR, ↓w_aL, ↓w_pI, ↓w_pR, ↓w_sI, ↓w_sR, ↓w_sL, ↓w_nO, ↓w_nA, ↓w_nL, ↓w_ca, ↓w_ca0, ↓w_gS, ↓w_gK, ↓w_dv, ↓w_tw, ↓w_rz, ↓w_no, nv_lit, nv_f, nv_add, nv_mul, nv_sub, nv_le, nv_lt, nv_eq, nv_cl, Nat.reduceMod, Nat.reduceMul, Nat.reduceAdd, Nat.zero_add, Nat.add_zero, Nat.mul_zero, decide_eq_true_eq, nv_inT, hF.1, X5_adds_w hF]
theorem X5_tallies_w {G : Nat → Nat} {a : Hp} {o : Nat} {R : Nat → Int32} (hF : FO G a o R) {k : Nat} (hk : k < 7) (v : Int32) (Q : Unit → Hp → Prop) : Wp (X5_tallies (G 10) (nv k) v) a Q ↔ Q () (ly G a o (4 + k) (R (4 + k) + v)) := by
  simp (disch := omega) only [X5_tallies, ↓w_bd, ↓w_rt, ↓w_bh, sm_l, sm_r, ↓w_okr, ↓w_nm, ↓w_ite, ↓reduceIte, not_true_eq_false, not_false_eq_true, and_true, true_and, and_self, Option.some.injEq, reduceCtorEq, eq_self, ↓w_rc, ↓w_gI, ↓w_gR, ↓w_aN, ↓w_aI, ↓w_aR, ↓w_aL, ↓w_pI, ↓w_pR, ↓w_sI, ↓w_sR, ↓w_sL, ↓w_nO, ↓w_nA, ↓w_nL, ↓w_ca, ↓w_ca0, ↓w_gS, ↓w_gK, ↓w_dv, ↓w_tw, ↓w_rz, ↓w_no, nv_lit, nv_f, nv_add, nv_mul, nv_sub, nv_le, nv_lt, nv_eq, nv_cl, Nat.reduceMod, Nat.reduceMul, Nat.reduceAdd, Nat.zero_add, Nat.add_zero, Nat.mul_zero, decide_eq_true_eq, nv_inT, hF.1, X5_adds_w hF]
theorem X5_layFact_w {G : Nat → Nat} {a : Hp} {o : Nat} {R : Nat → Int32} (hF : FO G a o R) (hG : GD G) {x y : Nat} (hx : x < 10) (hy : y < 10) {v : Int32} (hv : ¬ v = -nv 1) (Q : Unit → Hp → Prop) : Wp (X5_layFact (G 10) (nv x) (nv y) v) a Q ↔ Q () (ly G (ly G a o (85 + 10 * x + y) v) o (85 + 10 * y + x) (tn v)) := by
  have hF2 := hF.ly hG (k := 85 + 10 * x + y) (by omega) v
  simp (disch := omega) only [X5_layFact, X5_layFact_37, ↓w_bd, ↓w_rt, ↓w_bh, sm_l, sm_r, ↓w_okr, ↓w_nm, ↓w_ite, ↓reduceIte, not_true_eq_false, not_false_eq_true, and_true, true_and, and_self, Option.some.injEq, reduceCtorEq, eq_self, ↓w_rc, ↓w_gI, ↓w_gR, ↓w_aN, ↓w_aI, ↓w_aR, ↓w_aL, ↓w_pI, ↓w_pR, ↓w_sI, ↓w_sR, ↓w_sL, ↓w_nO, ↓w_nA, ↓w_nL, ↓w_ca, ↓w_ca0, ↓w_gS, ↓w_gK, ↓w_dv, ↓w_tw, ↓w_rz, ↓w_no, nv_lit, nv_f, nv_add, nv_mul, nv_sub, nv_le, nv_lt, nv_eq, nv_cl, Nat.reduceMod, Nat.reduceMul, Nat.reduceAdd, Nat.zero_add, Nat.add_zero, Nat.mul_zero, decide_eq_true_eq, nv_inT, hF.1, X5_lay_w hF, hv, X5_turned_w, ly_K, X5_lay_w hF2]
theorem X5_layFact_0 {G : Nat → Nat} {a : Hp} {o : Nat} {R : Nat → Int32} (hF : FO G a o R) (hG : GD G) {x y : Nat} (hx : x < 10) (hy : y < 10) (Q : Unit → Hp → Prop) : Wp (X5_layFact (G 10) (nv x) (nv y) (-nv 1)) a Q ↔ Q () (ly G (ly G a o (85 + 10 * x + y) (-nv 1)) o (85 + 10 * y + x) (-nv 1)) := by
  have hF2 := hF.ly hG (k := 85 + 10 * x + y) (by omega) (-nv 1)
  simp (disch := omega) only [X5_layFact, X5_layFact_37, ↓w_bd, ↓w_rt, ↓w_bh, sm_l, sm_r, ↓w_okr, ↓w_nm, ↓w_ite, ↓reduceIte, not_true_eq_false, not_false_eq_true, and_true, true_and, and_self, Option.some.injEq, reduceCtorEq, eq_self, ↓w_rc, ↓w_gI, ↓w_gR, ↓w_aN, ↓w_aI, ↓w_aR, ↓w_aL, ↓w_pI, ↓w_pR, ↓w_sI, ↓w_sR, ↓w_sL, ↓w_nO, ↓w_nA, ↓w_nL, ↓w_ca, ↓w_ca0, ↓w_gS, ↓w_gK, ↓w_dv, ↓w_tw, ↓w_rz, ↓w_no, nv_lit, nv_f, nv_add, nv_mul, nv_sub, nv_le, nv_lt, nv_eq, nv_cl, Nat.reduceMod, Nat.reduceMul, Nat.reduceAdd, Nat.zero_add, Nat.add_zero, Nat.mul_zero, decide_eq_true_eq, nv_inT, hF.1, X5_lay_w hF, ly_K, X5_lay_w hF2]
/-- a row copied -/
def cpw (G : Nat → Nat) (a : Hp) (i j : Nat) : Hp := hwI a (G 11) (fun q => if 545 * j ≤ q ∧ q < 545 * j + 545 then hI a (G 11) (545 * i + (q - 545 * j)) else hI a (G 11) q)
theorem X5_copies_w {G : Nat → Nat} {a : Hp} (hF : FT G a) {i j : Nat} (hi : i < 11) (hj : j < 11) (hij : i ≠ j) (Q : Unit → Hp → Prop) : Wp (X5_copies (G 10) (nv i) (nv j)) a Q ↔ Q () (cpw G a i j) := by
  have l : ∀ (f k : Nat), k ≤ 545 → 545 - k < f → (Wp (X5_copies_2 f (G 10) (nv i) (nv j) (nv k)) (hwI a (G 11) (fun q => if 545 * j ≤ q ∧ q < 545 * j + k then hI a (G 11) (545 * i + (q - 545 * j)) else hI a (G 11) q)) Q ↔ Q () (cpw G a i j)) := by
    refine loopUp _ 545 ?_ ?_
    · intro f
      simp (disch := omega) only [X5_copies_2, ↓w_bd, ↓w_rt, ↓w_bh, sm_l, sm_r, ↓w_okr, ↓w_nm, ↓w_ite, ↓reduceIte, not_true_eq_false, not_false_eq_true, and_true, true_and, and_self, Option.some.injEq, reduceCtorEq, eq_self, ↓w_rc, ↓w_gI, ↓w_gR, ↓w_aN, ↓w_aI, ↓w_aR, ↓w_aL, ↓w_pI, ↓w_pR, ↓w_sI, ↓w_sR, ↓w_sL, ↓w_nO, ↓w_nA, ↓w_nL, ↓w_ca, ↓w_ca0, ↓w_gS, ↓w_gK, ↓w_dv, ↓w_tw, ↓w_rz, ↓w_no, nv_lit, nv_f, nv_add, nv_mul, nv_sub, nv_le, nv_lt, nv_eq, nv_cl, Nat.reduceMod, Nat.reduceMul, Nat.reduceAdd, Nat.zero_add, Nat.add_zero, Nat.mul_zero, decide_eq_true_eq, nv_inT, Nat.le_refl]
      rfl
    · intro f k hk2 ih
      have e1 : hI (hwI a (G 11) (fun q => if 545 * j ≤ q ∧ q < 545 * j + k then hI a (G 11) (545 * i + (q - 545 * j)) else hI a (G 11) q)) (G 11) (545 * i + k) = hI a (G 11) (545 * i + k) := by
        rw [hI_wI, up1_s, if_neg (by omega)]
      simp (disch := omega) only [X5_copies_2, ↓w_bd, ↓w_rt, ↓w_bh, sm_l, sm_r, ↓w_okr, ↓w_nm, ↓w_ite, ↓reduceIte, not_true_eq_false, not_false_eq_true, and_true, true_and, and_self, Option.some.injEq, reduceCtorEq, eq_self, ↓w_rc, ↓w_gI, ↓w_gR, ↓w_aN, ↓w_aI, ↓w_aR, ↓w_aL, ↓w_pI, ↓w_pR, ↓w_sI, ↓w_sR, ↓w_sL, ↓w_nO, ↓w_nA, ↓w_nL, ↓w_ca, ↓w_ca0, ↓w_gS, ↓w_gK, ↓w_dv, ↓w_tw, ↓w_rz, ↓w_no, nv_lit, nv_f, nv_add, nv_mul, nv_sub, nv_le, nv_lt, nv_eq, nv_cl, Nat.reduceMod, Nat.reduceMul, Nat.reduceAdd, Nat.zero_add, Nat.add_zero, Nat.mul_zero, decide_eq_true_eq, nv_inT, Nat.not_le.mpr hk2, hF, hK_wI, hR_wI, hN_wI, e1, nr41, hI_wI, up1_s, hwI_2]
      have e2 : up1 (fun q => if 545 * j ≤ q ∧ q < 545 * j + k then hI a (G 11) (545 * i + (q - 545 * j)) else hI a (G 11) q) (545 * j + k) (hI a (G 11) (545 * i + k)) = fun q => if 545 * j ≤ q ∧ q < 545 * j + (k + 1) then hI a (G 11) (545 * i + (q - 545 * j)) else hI a (G 11) q := by
        funext q
        unfold up1
        by_cases c : q = 545 * j + k
        · rw [if_pos c, if_pos (by omega), c, show 545 * j + k - 545 * j = k by omega]
        · rw [if_neg c]
          have : (545 * j ≤ q ∧ q < 545 * j + k) = (545 * j ≤ q ∧ q < 545 * j + (k + 1)) := by apply propext; omega
          simp only [this]
      rw [e2]
      exact ih
  have := l FU 0 (by omega) (by unfold FU; omega)
  rw [← this]
  have e : hwI a (G 11) (fun q => if 545 * j ≤ q ∧ q < 545 * j + 0 then hI a (G 11) (545 * i + (q - 545 * j)) else hI a (G 11) q) = a := by
    have : (fun q => if 545 * j ≤ q ∧ q < 545 * j + 0 then hI a (G 11) (545 * i + (q - 545 * j)) else hI a (G 11) q) = hI a (G 11) := by
      funext q
      rw [if_neg (by omega)]
    rw [this]
    unfold hwI
    have : up1 (hI a) (G 11) (hI a (G 11)) = hI a := by
      funext q
      unfold up1
      split
      · rename_i c; rw [c]
      · rfl
    rw [this]
    rfl
  rw [e]
  rfl
theorem cpw_r (G : Nat → Nat) (a : Hp) (i j k : Nat) (hk : k < 545) : hI (cpw G a i j) (G 11) (545 * j + k) = hI a (G 11) (545 * i + k) := by
  unfold cpw
  rw [hI_wI, up1_s, if_pos (by omega), show 545 * j + k - 545 * j = k by omega]
theorem cpw_n (G : Nat → Nat) (a : Hp) (i j q : Nat) (h : q < 545 * j ∨ 545 * j + 545 ≤ q) : hI (cpw G a i j) (G 11) q = hI a (G 11) q := by
  unfold cpw
  rw [hI_wI, up1_s, if_neg (by omega)]
theorem cpw_o (G : Nat → Nat) (a : Hp) (i j : Nat) {q : Nat} (h : q ≠ G 11) : hI (cpw G a i j) q = hI a q := by
  unfold cpw
  rw [hI_wI, up1_n _ _ h]
/-! tries: work done in row 9 -/
/-- scratch and row 9, 10 alone have changed -/
def Sy (G : Nat → Nat) (a b : Hp) : Prop := b.1 = a.1 ∧ b.2.2 = a.2.2 ∧ ∀ q j, q ≠ G 14 → q ≠ G 15 → q ≠ G 18 → ¬ (q = G 11 ∧ 4905 ≤ j) → hI b q j = hI a q j
theorem Sx.sy {G : Nat → Nat} {a b : Hp} (h : Sx G a b) : Sy G a b := ⟨h.1, h.2.1, fun q j h1 h2 h3 _ => congrFun (h.2.2 q h1 h2 h3) j⟩
theorem Sy.k {G : Nat → Nat} {a b : Hp} (h : Sy G a b) : hK b = hK a := congrArg (fun x => x.1.2.1) h.1
theorem Sy.n {G : Nat → Nat} {a b : Hp} (h : Sy G a b) : hN b = hN a := congrArg (fun x => x.1.2.2) h.1
theorem Sy.r {G : Nat → Nat} {a b : Hp} (h : Sy G a b) : hR b = hR a := congrArg (fun x => x.1) h.2.1
theorem Sy.sz {G : Nat → Nat} {a b : Hp} (h : Sy G a b) : hSz b = hSz a := congrArg (fun x => x.1.1.1) h.1
theorem Sy.sl {G : Nat → Nat} {a b : Hp} (h : Sy G a b) : hSl b = hSl a := congrArg (fun x => x.1.1.2) h.1
theorem Sy.l {G : Nat → Nat} {a b : Hp} (h : Sy G a b) : hL b = hL a := congrArg (fun x => x.2) h.2.1
theorem Sy.ep {G : Nat → Nat} {a b : Hp} (h : Sy G a b) : EP (tG G) a b := ⟨by rw [h.sz]; omega, congrArg (fun x => x.2) h.1, fun q _ hn => by
  rw [h.k, h.n, h.r]
  refine ⟨rfl, rfl, rfl, ?_⟩
  funext j
  exact h.2.2 q j (fun e => hn ⟨14, by omega, by omega, e⟩) (fun e => hn ⟨15, by omega, by omega, e⟩) (fun e => hn ⟨18, by omega, by omega, e⟩) (fun e => hn ⟨11, by omega, by omega, e.1⟩)⟩
theorem JT.sy {G : Nat → Nat} {S : Gst} {a b : Hp} (hG : GD G) (hm : ∀ i p, gm S i = some p → i < 9) (h : JT G S a) (g : Sy G a b) : JT G S b := by
  have n := fun i (h1 : i < 22) (h2 : i ≠ 14 ∧ i ≠ 15 ∧ i ≠ 18 ∧ i ≠ 11) (j : Nat) => g.2.2 (G i) j (hG.ne h1 (by omega) h2.1) (hG.ne h1 (by omega) h2.2.1) (hG.ne h1 (by omega) h2.2.2.1) (fun e => hG.ne h1 (by omega) h2.2.2.2 e.1)
  have n11 := fun j (hj : j < 4905) => g.2.2 (G 11) j (hG.ne (by omega) (by omega) (by omega)) (hG.ne (by omega) (by omega) (by omega)) (hG.ne (by omega) (by omega) (by omega)) (by omega)
  obtain ⟨h1, h2, h3, h4, h5, h6, ⟨h7, h8⟩, ⟨h9, h10⟩, h11, h12⟩ := h
  refine ⟨?_, ?_, ?_, ?_, ?_, ?_, ⟨?_, ?_⟩, ⟨?_, ?_⟩, ?_, ?_⟩
  · unfold FT at *
    rw [g.k, g.n, g.r]
    exact h1
  · rw [n 10 (by omega) (by omega)]; exact h2
  · rw [n 10 (by omega) (by omega)]; exact h3
  · intro i p hp k hk
    have := hm i p hp
    rw [n11 _ (by omega)]
    exact h4 i p hp k hk
  · intro j hj; rw [n 12 (by omega) (by omega)]; exact h5 j hj
  · intro j hj; rw [n 13 (by omega) (by omega)]; exact h6 j hj
  · rw [n 10 (by omega) (by omega)]; exact h7
  · intro j hj; rw [n 16 (by omega) (by omega)]; exact h8 j hj
  · rw [n 10 (by omega) (by omega)]; exact h9
  · rw [n 10 (by omega) (by omega)]; exact h10
  · rw [n 10 (by omega) (by omega)]; exact h11
  · intro j hj; rw [n 19 (by omega) (by omega)]; exact h12 j hj
theorem afterY {G : Nat → Nat} {B : Nat → Nat × Nat} {S : Gst} {a b1 b c : Hp} {x : Int32} (hC : JC G B S a) (hT : JT G S a) (hE : E0 a b1) (hz : hSz b1 ≤ hSz a + 50000) (hl : hSl b1 ≤ hSl a + 228000) (hb : b = b1 ∨ ∃ f, b = hwL b1 (G 20) f ∨ b = hwL b1 (G 21) f) (hc : Sy G (th G b x) c) : After G a c := by
  have hG := hC.1.gd
  have hs : ∀ i, i < 22 → G i < hSz a := fun i hi => (hC.1 i hi).1
  have hCb : JC G B S b := by
    rcases hb with rfl | ⟨f, rfl | rfl⟩
    · exact hC.e0 hE
    · exact (hC.e0 hE).wL _ _
    · exact (hC.e0 hE).wL _ _
  have hTb : JT G S b := by
    rcases hb with rfl | ⟨f, rfl | rfl⟩
    · exact hT.e0 hE hs
    · exact (hT.e0 hE hs).wL _ _
    · exact (hT.e0 hE hs).wL _ _
  have ep : EP (tG G) b c := (th_ep G b x).tr hc.ep
  have hz2 : hSz c = hSz b1 := by rw [hc.sz, th_sz]; rcases hb with rfl | ⟨f, rfl | rfl⟩ <;> rfl
  have hl2 : hSl c = hSl b1 := by rw [hc.sl, th_sl]; rcases hb with rfl | ⟨f, rfl | rfl⟩ <;> rfl
  have epa : EP (tG G) a c := by
    refine (EP.tr (hE.ep _) ?_).tr ep
    rcases hb with rfl | ⟨f, rfl | rfl⟩ <;> exact EP.rf _ _
  refine ⟨⟨B, S, hCb.tw hTb.1 ep, (hTb.th hG x).sy hG (fun i p hp => (hC.2.2.1.2.1 i p hp).1) hc⟩, ⟨by omega, by omega⟩, fun q hq hk => ?_⟩
  have := epa.2.2 q hq (fun hp => by
    obtain ⟨j, j1, j2, rfl⟩ := hp
    obtain ⟨⟨k10, -⟩, ⟨k11, k12, k13, k14, k15, k16, k17, k18, k19⟩, -⟩ := hT.1
    have : j = 10 ∨ j = 11 ∨ j = 12 ∨ j = 13 ∨ j = 14 ∨ j = 15 ∨ j = 16 ∨ j = 17 ∨ j = 18 ∨ j = 19 := by omega
    rcases this with rfl | rfl | rfl | rfl | rfl | rfl | rfl | rfl | rfl | rfl <;> omega)
  exact ⟨this.1, this.2.1, this.2.2.2⟩
theorem postY {G : Nat → Nat} {B : Nat → Nat × Nat} {S : Gst} {a b1 c : Hp} (hC : JC G B S a) (hT : JT G S a) (hE : E0 a b1) (hz : hSz b1 ≤ hSz a + 50000) (hl : hSl b1 ≤ hSl a + 228000) {w : Int32} (hc : Sy G (th G (ol G b1 w) (nv 0)) c) : Post G a (nv 0) w c := by
  have hG := hC.1.gd
  refine ⟨?_, fun e => ?_, afterY hC hT hE hz hl (.inr ⟨_, .inl rfl⟩) hc⟩
  · rw [hc.2.2 (G 10) 5 (hG.ne (by omega) (by omega) (by omega)) (hG.ne (by omega) (by omega) (by omega)) (hG.ne (by omega) (by omega) (by omega)) (fun e => hG.ne (by omega) (by omega) (by omega) e.1), th_5]
  · rw [hc.l, th_L]
    exact ol_0 G b1 w
