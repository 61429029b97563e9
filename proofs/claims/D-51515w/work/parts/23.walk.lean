theorem X9_known_w {R : Nat → Int32} (hF : Fs R) (h10 : nH R ≤ 10) {b : Hp} {s : Nat} {D : Nat → Nat → Int32} (hD : CD R D) (hW : Wm s (nH R) b D) {x y : Nat} (hx : x < nH R) (hy : y < nH R) (Q : Int32 → Hp → Prop) : Wp (X9_known s (nv x) (nv y)) b Q ↔ Q (kn R x y) b := by
  have hr := hW.r
  rw [← kn_D hF h10 hD hx hy]
  by_cases c0 : x = y
  · simp (disch := omega) only [X9_known, X9_known_56, ↓w_bd, ↓w_rt, ↓w_bh, sm_l, sm_r, ↓w_okr, ↓w_nm, ↓w_ite, ↓reduceIte, not_true_eq_false, not_false_eq_true, and_true, true_and, and_self, Option.some.injEq, reduceCtorEq, eq_self, ↓w_rc, ↓w_gI, ↓w_gR, ↓w_aN, ↓w_aI, ↓w_aR, ↓w_aL, ↓w_pI, ↓w_pR, ↓w_sI, ↓w_sR, ↓w_sL, ↓w_nO, ↓w_nA, ↓w_nL, ↓w_ca, ↓w_ca0, ↓w_gS, ↓w_gK, ↓w_dv, ↓w_tw, ↓w_rz, ↓w_no, nv_lit, nv_f, nv_add, nv_mul, nv_sub, nv_le, nv_lt, nv_eq, nv_cl, Nat.reduceMod, Nat.reduceMul, Nat.reduceAdd, Nat.zero_add, Nat.add_zero, Nat.mul_zero, decide_eq_true_eq, nv_inT, hr, c0]
  · by_cases c1 : D x y = nv 2
    · simp (disch := omega) only [X9_known, X9_known_56, ↓w_bd, ↓w_rt, ↓w_bh, sm_l, sm_r, ↓w_okr, ↓w_nm, ↓w_ite, ↓reduceIte, not_true_eq_false, not_false_eq_true, and_true, true_and, and_self, Option.some.injEq, reduceCtorEq, eq_self, ↓w_rc, ↓w_gI, ↓w_gR, ↓w_aN, ↓w_aI, ↓w_aR, ↓w_aL, ↓w_pI, ↓w_pR, ↓w_sI, ↓w_sR, ↓w_sL, ↓w_nO, ↓w_nA, ↓w_nL, ↓w_ca, ↓w_ca0, ↓w_gS, ↓w_gK, ↓w_dv, ↓w_tw, ↓w_rz, ↓w_no, nv_lit, nv_f, nv_add, nv_mul, nv_sub, nv_le, nv_lt, nv_eq, nv_cl, Nat.reduceMod, Nat.reduceMul, Nat.reduceAdd, Nat.zero_add, Nat.add_zero, Nat.mul_zero, decide_eq_true_eq, nv_inT, hr, c0, c1]
    · by_cases c2 : D y x = nv 2
      · simp (disch := omega) only [X9_known, X9_known_56, ↓w_bd, ↓w_rt, ↓w_bh, sm_l, sm_r, ↓w_okr, ↓w_nm, ↓w_ite, ↓reduceIte, not_true_eq_false, not_false_eq_true, and_true, true_and, and_self, Option.some.injEq, reduceCtorEq, eq_self, ↓w_rc, ↓w_gI, ↓w_gR, ↓w_aN, ↓w_aI, ↓w_aR, ↓w_aL, ↓w_pI, ↓w_pR, ↓w_sI, ↓w_sR, ↓w_sL, ↓w_nO, ↓w_nA, ↓w_nL, ↓w_ca, ↓w_ca0, ↓w_gS, ↓w_gK, ↓w_dv, ↓w_tw, ↓w_rz, ↓w_no, nv_lit, nv_f, nv_add, nv_mul, nv_sub, nv_le, nv_lt, nv_eq, nv_cl, Nat.reduceMod, Nat.reduceMul, Nat.reduceAdd, Nat.zero_add, Nat.add_zero, Nat.mul_zero, decide_eq_true_eq, nv_inT, hr, c0, c1, c2]
      · by_cases c3 : D x y = nv 1
        · simp (disch := omega) only [X9_known, X9_known_56, ↓w_bd, ↓w_rt, ↓w_bh, sm_l, sm_r, ↓w_okr, ↓w_nm, ↓w_ite, ↓reduceIte, not_true_eq_false, not_false_eq_true, and_true, true_and, and_self, Option.some.injEq, reduceCtorEq, eq_self, ↓w_rc, ↓w_gI, ↓w_gR, ↓w_aN, ↓w_aI, ↓w_aR, ↓w_aL, ↓w_pI, ↓w_pR, ↓w_sI, ↓w_sR, ↓w_sL, ↓w_nO, ↓w_nA, ↓w_nL, ↓w_ca, ↓w_ca0, ↓w_gS, ↓w_gK, ↓w_dv, ↓w_tw, ↓w_rz, ↓w_no, nv_lit, nv_f, nv_add, nv_mul, nv_sub, nv_le, nv_lt, nv_eq, nv_cl, Nat.reduceMod, Nat.reduceMul, Nat.reduceAdd, Nat.zero_add, Nat.add_zero, Nat.mul_zero, decide_eq_true_eq, nv_inT, hr, c0, c1, c2, c3, show ¬ nv 1 = nv 2 by decide]
        · simp (disch := omega) only [X9_known, X9_known_56, ↓w_bd, ↓w_rt, ↓w_bh, sm_l, sm_r, ↓w_okr, ↓w_nm, ↓w_ite, ↓reduceIte, not_true_eq_false, not_false_eq_true, and_true, true_and, and_self, Option.some.injEq, reduceCtorEq, eq_self, ↓w_rc, ↓w_gI, ↓w_gR, ↓w_aN, ↓w_aI, ↓w_aR, ↓w_aL, ↓w_pI, ↓w_pR, ↓w_sI, ↓w_sR, ↓w_sL, ↓w_nO, ↓w_nA, ↓w_nL, ↓w_ca, ↓w_ca0, ↓w_gS, ↓w_gK, ↓w_dv, ↓w_tw, ↓w_rz, ↓w_no, nv_lit, nv_f, nv_add, nv_mul, nv_sub, nv_le, nv_lt, nv_eq, nv_cl, Nat.reduceMod, Nat.reduceMul, Nat.reduceAdd, Nat.zero_add, Nat.add_zero, Nat.mul_zero, decide_eq_true_eq, nv_inT, hr, c0, c1, c2, c3]
theorem X9_knownOf_w {R : Nat → Int32} (hF : Fs R) (h10 : nH R ≤ 10) {a : Hp} {s : Nat} {D : Nat → Nat → Int32} (hD : CD R D) (hW : Wm s (nH R) a D) {x : Nat} (hx : x < nH R) (Q : Int32 → Hp → Prop) : Wp (X9_knownOf s (nv x)) a Q ↔ Q (kt R x) a := by
  have hr := hW.r
  have l : ∀ (f k : Nat), k ≤ nH R → nH R - k < f → (Wp (X9_knownOf_4 f s (nv x) (su (fun k => if k = x then 0 else if kn R x k = -1 then 0 else 1) k) (nv k)) a Q ↔ Q (su (fun k => if k = x then 0 else if kn R x k = -1 then 0 else 1) (nH R)) a) := by
    refine loopUp _ (nH R) ?_ ?_
    · intro f
      simp (disch := omega) only [X9_knownOf_4, X9_knownOf_33, X9_knownOf_32, ↓w_bd, ↓w_rt, ↓w_bh, sm_l, sm_r, ↓w_okr, ↓w_nm, ↓w_ite, ↓reduceIte, not_true_eq_false, not_false_eq_true, and_true, true_and, and_self, Option.some.injEq, reduceCtorEq, eq_self, ↓w_rc, ↓w_gI, ↓w_gR, ↓w_aN, ↓w_aI, ↓w_aR, ↓w_aL, ↓w_pI, ↓w_pR, ↓w_sI, ↓w_sR, ↓w_sL, ↓w_nO, ↓w_nA, ↓w_nL, ↓w_ca, ↓w_ca0, ↓w_gS, ↓w_gK, ↓w_dv, ↓w_tw, ↓w_rz, ↓w_no, nv_lit, nv_f, nv_add, nv_mul, nv_sub, nv_le, nv_lt, nv_eq, nv_cl, Nat.reduceMod, Nat.reduceMul, Nat.reduceAdd, Nat.zero_add, Nat.add_zero, Nat.mul_zero, decide_eq_true_eq, nv_inT, hr, X9_known_w hF h10 hD hW, X5_one_0, X5_one_1, X1_bit_0, X1_bit_1, ite_not, Nat.le_refl]
      all_goals rfl
    · intro f k hk2 ih
      simp (disch := omega) only [su, nv_lit, nv_f, nv_add, nv_mul, nv_sub, nv_le, nv_lt, nv_eq, nv_cl, Nat.reduceMod, Nat.reduceMul, Nat.reduceAdd, Nat.zero_add, Nat.add_zero, Nat.mul_zero, decide_eq_true_eq, nv_in] at ih
      simp (disch := omega) only [X9_knownOf_4, X9_knownOf_33, X9_knownOf_32, ↓w_bd, ↓w_rt, ↓w_bh, sm_l, sm_r, ↓w_okr, ↓w_nm, ↓w_ite, ↓reduceIte, not_true_eq_false, not_false_eq_true, and_true, true_and, and_self, Option.some.injEq, reduceCtorEq, eq_self, ↓w_rc, ↓w_gI, ↓w_gR, ↓w_aN, ↓w_aI, ↓w_aR, ↓w_aL, ↓w_pI, ↓w_pR, ↓w_sI, ↓w_sR, ↓w_sL, ↓w_nO, ↓w_nA, ↓w_nL, ↓w_ca, ↓w_ca0, ↓w_gS, ↓w_gK, ↓w_dv, ↓w_tw, ↓w_rz, ↓w_no, nv_lit, nv_f, nv_add, nv_mul, nv_sub, nv_le, nv_lt, nv_eq, nv_cl, Nat.reduceMod, Nat.reduceMul, Nat.reduceAdd, Nat.zero_add, Nat.add_zero, Nat.mul_zero, decide_eq_true_eq, nv_inT, hr, X9_known_w hF h10 hD hW, X5_one_0, X5_one_1, X1_bit_0, X1_bit_1, ite_not, Nat.not_le.mpr hk2]
      first
        | exact ih
        | ((repeat' split) <;> simp only [↓reduceIte, not_true_eq_false, not_false_eq_true, Int32.lt_irrefl, *] at ih <;> exact ih)
        | ((repeat' split) <;> simp only [↓reduceIte, not_true_eq_false, not_false_eq_true, Int32.lt_irrefl, *] at ih ⊢ <;> exact ih)
  exact l FU 0 (by omega) (by unfold FU; omega)
theorem X9_knownPairs_w {R : Nat → Int32} (hF : Fs R) (h10 : nH R ≤ 10) {a : Hp} {s : Nat} {D : Nat → Nat → Int32} (hD : CD R D) (hW : Wm s (nH R) a D) (Q : Int32 → Hp → Prop) : Wp (X9_knownPairs s) a Q ↔ Q (ka R) a := by
  have hr := hW.r
  have i2 : ¬ nv 2 = 0 := by decide
  have l : ∀ (f k : Nat), k ≤ nH R → nH R - k < f → (Wp (X9_knownPairs_4 f s (su (fun k => kt R k) k) (nv k)) a Q ↔ Q (ka R) a) := by
    refine loopUp _ (nH R) ?_ ?_
    · intro f
      simp (disch := omega) only [X9_knownPairs_4, ↓w_bd, ↓w_rt, ↓w_bh, sm_l, sm_r, ↓w_okr, ↓w_nm, ↓w_ite, ↓reduceIte, not_true_eq_false, not_false_eq_true, and_true, true_and, and_self, Option.some.injEq, reduceCtorEq, eq_self, ↓w_rc, ↓w_gI, ↓w_gR, ↓w_aN, ↓w_aI, ↓w_aR, ↓w_aL, ↓w_pI, ↓w_pR, ↓w_sI, ↓w_sR, ↓w_sL, ↓w_nO, ↓w_nA, ↓w_nL, ↓w_ca, ↓w_ca0, ↓w_gS, ↓w_gK, ↓w_dv, ↓w_tw, ↓w_rz, ↓w_no, nv_lit, nv_f, nv_add, nv_mul, nv_sub, nv_le, nv_lt, nv_eq, nv_cl, Nat.reduceMod, Nat.reduceMul, Nat.reduceAdd, Nat.zero_add, Nat.add_zero, Nat.mul_zero, decide_eq_true_eq, nv_inT, hr, X9_knownOf_w hF h10 hD hW, i2, ka, Nat.le_refl]
      all_goals rfl
    · intro f k hk2 ih
      simp (disch := omega) only [su, nv_lit, nv_f, nv_add, nv_mul, nv_sub, nv_le, nv_lt, nv_eq, nv_cl, Nat.reduceMod, Nat.reduceMul, Nat.reduceAdd, Nat.zero_add, Nat.add_zero, Nat.mul_zero, decide_eq_true_eq, nv_in, ka] at ih
      simp (disch := omega) only [X9_knownPairs_4, ↓w_bd, ↓w_rt, ↓w_bh, sm_l, sm_r, ↓w_okr, ↓w_nm, ↓w_ite, ↓reduceIte, not_true_eq_false, not_false_eq_true, and_true, true_and, and_self, Option.some.injEq, reduceCtorEq, eq_self, ↓w_rc, ↓w_gI, ↓w_gR, ↓w_aN, ↓w_aI, ↓w_aR, ↓w_aL, ↓w_pI, ↓w_pR, ↓w_sI, ↓w_sR, ↓w_sL, ↓w_nO, ↓w_nA, ↓w_nL, ↓w_ca, ↓w_ca0, ↓w_gS, ↓w_gK, ↓w_dv, ↓w_tw, ↓w_rz, ↓w_no, nv_lit, nv_f, nv_add, nv_mul, nv_sub, nv_le, nv_lt, nv_eq, nv_cl, Nat.reduceMod, Nat.reduceMul, Nat.reduceAdd, Nat.zero_add, Nat.add_zero, Nat.mul_zero, decide_eq_true_eq, nv_inT, hr, X9_knownOf_w hF h10 hD hW, i2, ka, Nat.not_le.mpr hk2]
      first
        | exact ih
        | ((repeat' split) <;> simp only [↓reduceIte, not_true_eq_false, not_false_eq_true, Int32.lt_irrefl, *] at ih <;> exact ih)
        | ((repeat' split) <;> simp only [↓reduceIte, not_true_eq_false, not_false_eq_true, Int32.lt_irrefl, *] at ih ⊢ <;> exact ih)
  exact l FU 0 (by omega) (by unfold FU; omega)
/-! THE TWIN'S WALKS -/
/-- the fixed addresses are apart -/
def GD (G : Nat → Nat) : Prop := ∀ i j, i < 22 → j < 22 → G i = G j → i = j
theorem GD.ne {G : Nat → Nat} (h : GD G) {i j : Nat} (hi : i < 22) (hj : j < 22) (g : i ≠ j) : G i ≠ G j := fun e => g (h i j hi hj e)
/-- nothing but scratch has changed -/
def Sx (G : Nat → Nat) (a b : Hp) : Prop := b.1 = a.1 ∧ b.2.2 = a.2.2 ∧ ∀ q, q ≠ G 14 → q ≠ G 15 → q ≠ G 18 → hI b q = hI a q
theorem Sx.rf (G : Nat → Nat) (a : Hp) : Sx G a a := ⟨rfl, rfl, fun _ _ _ _ => rfl⟩
theorem Sx.tr {G : Nat → Nat} {a b c : Hp} (h : Sx G a b) (g : Sx G b c) : Sx G a c := ⟨g.1.trans h.1, g.2.1.trans h.2.1, fun q h1 h2 h3 => (g.2.2 q h1 h2 h3).trans (h.2.2 q h1 h2 h3)⟩
theorem Sx.w {G : Nat → Nat} {a b : Hp} (h : Sx G a b) {q : Nat} (hq : q = G 14 ∨ q = G 15 ∨ q = G 18) (f : Nat → Int32) : Sx G a (hwI b q f) := by
  refine ⟨h.1, h.2.1, fun p h1 h2 h3 => ?_⟩
  rw [hI_wI, up1_n _ _ (by rcases hq with e | e | e <;> rw [e] <;> assumption)]
  exact h.2.2 p h1 h2 h3
theorem Sx.k {G : Nat → Nat} {a b : Hp} (h : Sx G a b) : hK b = hK a := congrArg (fun x => x.1.2.1) h.1
theorem Sx.n {G : Nat → Nat} {a b : Hp} (h : Sx G a b) : hN b = hN a := congrArg (fun x => x.1.2.2) h.1
theorem Sx.r {G : Nat → Nat} {a b : Hp} (h : Sx G a b) : hR b = hR a := congrArg (fun x => x.1) h.2.1
theorem FO.sx {G : Nat → Nat} {a b : Hp} {o : Nat} {R : Nat → Int32} (hG : GD G) (h : FO G a o R) (g : Sx G a b) : FO G b o R := by
  have e10 := g.2.2 (G 10) (hG.ne (by omega) (by omega) (by omega)) (hG.ne (by omega) (by omega) (by omega)) (hG.ne (by omega) (by omega) (by omega))
  have e11 := g.2.2 (G 11) (hG.ne (by omega) (by omega) (by omega)) (hG.ne (by omega) (by omega) (by omega)) (hG.ne (by omega) (by omega) (by omega))
  unfold FO FT at *
  rw [g.k, g.n, g.r, e10, e11]
  exact h
def fl (d : Option Nat) (m : Nat) : Int32 := match d with
  | none => -1
  | some k => if k ≤ m then nv k else -1
def sl (d : Option Nat) (m : Nat) (s : Int32) : Int32 := match d with
  | none => 0
  | some k => if k ≤ m then s else 0
def sv (R : Nat → Int32) (t x : Nat) : Int32 := if sz R t < sz R x then 1 else 0
/-- the levels that are walked: node x up to m x -/
def Wl (G : Nat → Nat) (R : Nat → Int32) (w t : Nat) (a b : Hp) (m : Nat → Nat) : Prop :=
  Sx G a b ∧ (∀ x, x < nH R → hI b (G 14) x = fl (dd (Ed R (nv w)) (nH R) x t) (m x)) ∧ (w = 1 → ∀ x, x < nH R → hI b (G 15) x = sl (dd (Ed R (nv w)) (nH R) x t) (m x) (sv R t x))
theorem Wl.cg {G : Nat → Nat} {R : Nat → Int32} {w t : Nat} {a b : Hp} {m m' : Nat → Nat} (h : Wl G R w t a b m) (g : ∀ x, x < nH R → m x = m' x ∨ ∀ k, dd (Ed R (nv w)) (nH R) x t = some k → (k ≤ m x ↔ k ≤ m' x)) : Wl G R w t a b m' := by
  have e : ∀ x, x < nH R → fl (dd (Ed R (nv w)) (nH R) x t) (m x) = fl (dd (Ed R (nv w)) (nH R) x t) (m' x) ∧ ∀ s, sl (dd (Ed R (nv w)) (nH R) x t) (m x) s = sl (dd (Ed R (nv w)) (nH R) x t) (m' x) s := by
    intro x hx
    rcases g x hx with e | e
    · rw [e]; exact ⟨rfl, fun _ => rfl⟩
    · cases q : dd (Ed R (nv w)) (nH R) x t with
      | none => exact ⟨rfl, fun _ => rfl⟩
      | some k =>
        have := e k q
        simp only [fl, sl, this]
        exact ⟨trivial, fun _ => trivial⟩
  exact ⟨h.1, fun x hx => (h.2.1 x hx).trans (e x hx).1, fun h1 x hx => (h.2.2 h1 x hx).trans ((e x hx).2 _)⟩
theorem nv_m1 {k : Nat} (hk : k < 2147483648) : ¬ nv k = -nv 1 := by
  intro e
  have := congrArg Int32.toInt e
  rw [nv_int hk, show (-nv 1).toInt = -1 by decide] at this
  omega
theorem fl_m1 (d : Option Nat) (m : Nat) (hd : ∀ k, d = some k → k < 1000) : (fl d m = -nv 1) = ∀ k, d = some k → m < k := by
  apply propext
  cases d with
  | none => exact ⟨fun _ k h => (by cases h), fun _ => rfl⟩
  | some j =>
    have := hd j rfl
    unfold fl
    by_cases c : j ≤ m
    · simp only [c, if_true]
      exact ⟨fun e => absurd e (nv_m1 (by omega)), fun e => absurd (e j rfl) (by omega)⟩
    · simp only [c, if_false]
      exact ⟨fun _ k h => by cases h; omega, fun _ => rfl⟩
theorem fl_eq (d : Option Nat) (m n : Nat) (hm : m ≤ n) (hm2 : m < 1000) (hd : ∀ k, d = some k → k < 1000) : (fl d n = nv m) = (d = some m) := by
  apply propext
  cases d with
  | none => exact ⟨fun e => absurd e.symm (nv_m1 (by omega)), fun e => by cases e⟩
  | some j =>
    have := hd j rfl
    unfold fl
    by_cases c : j ≤ n
    · simp only [c, if_true]
      rw [nv_eq (by omega) (by omega)]
      exact ⟨fun e => by rw [e], fun e => by cases e; rfl⟩
    · simp only [c, if_false]
      exact ⟨fun e => absurd e.symm (nv_m1 (by omega)), fun e => by cases e; omega⟩
/-- the step over one node's neighbours -/
theorem X5_walks_93_w {G : Nat → Nat} {a : Hp} {o : Nat} {R : Nat → Int32} (hF : FO G a o R) (hG : GD G) (hS : Sh R) (hFs : Fs R) {w t m x : Nat} (hw : w < 2) (ht : t < nH R) (hx : x < nH R) (hm : m < nH R) (k53 : Nat → Int32 → Int32 → Int32 → Int32 → Mr Unit) (k70 : Nat → Int32 → Int32 → Int32 → Int32 → Int32 → Mr Unit) (Q : Unit → Hp → Prop)
    (hx0 : ∀ k, dd (Ed R (nv w)) (nH R) x t = some k → m < k) (z : Nat) (hz : z < 2) (hzn : z = 0 → ∀ u, u < x → dd (Ed R (nv w)) (nH R) u t ≠ some (m + 1))
    (hk : ∀ b z, z < 2 → (z = 0 → ∀ u, u < x + 1 → dd (Ed R (nv w)) (nH R) u t ≠ some (m + 1)) → Wl G R w t a b (fun u => if u < x + 1 then m + 1 else m) → Wp (k70 (G 10) (nv w) (nv (nH R)) (nv z) (nv m) (nv (x + 1))) b Q) :
    ∀ b, Wl G R w t a b (fun u => if u < x then m + 1 else m) → Wp (X5_walks_93 k53 k70 FU (G 10) (nv w) (nv (nH R)) (nv z) (nv m) (nv x) (nv 0)) b Q := by
  have h10 := sh_H10 hS
  have hdl : ∀ u, u < nH R → ∀ k, dd (Ed R (nv w)) (nH R) u t = some k → k < 1000 := fun u hu k hk => by have := dd_lt hu hk; omega
  have hwm : ¬ nv w = -nv 1 := nv_m1 (by omega)
  have n14 : G 15 ≠ G 14 := hG.ne (by omega) (by omega) (by omega)
  have l : ∀ (f k : Nat), k ≤ nH R → nH R - k < f → ∀ b z, z < 2 →
      (((z = 0 → ∀ u, u < x → dd (Ed R (nv w)) (nH R) u t ≠ some (m + 1)) ∧ (∀ i, i < k → ¬ (dd (Ed R (nv w)) (nH R) i t = some m ∧ Ed R (nv w) x i)) ∧ Wl G R w t a b (fun u => if u < x then m + 1 else m)) ∨ (z = 1 ∧ dd (Ed R (nv w)) (nH R) x t = some (m + 1) ∧ Wl G R w t a b (fun u => if u < x + 1 then m + 1 else m))) →
      Wp (X5_walks_93 k53 k70 f (G 10) (nv w) (nv (nH R)) (nv z) (nv m) (nv x) (nv k)) b Q := by
    refine loopUp _ (nH R) ?_ ?_
    · intro f b z hz h
      simp (disch := omega) only [X5_walks_93, X5_walks_195, ↓w_bd, ↓w_rt, ↓w_bh, sm_l, sm_r, ↓w_okr, ↓w_nm, ↓w_ite, ↓reduceIte, not_true_eq_false, not_false_eq_true, and_true, true_and, and_self, Option.some.injEq, reduceCtorEq, eq_self, ↓w_rc, ↓w_gI, ↓w_gR, ↓w_aN, ↓w_aI, ↓w_aR, ↓w_aL, ↓w_pI, ↓w_pR, ↓w_sI, ↓w_sR, ↓w_sL, ↓w_nO, ↓w_nA, ↓w_nL, ↓w_ca, ↓w_ca0, ↓w_gS, ↓w_gK, ↓w_dv, ↓w_tw, ↓w_rz, ↓w_no, nv_lit, nv_f, nv_add, nv_mul, nv_sub, nv_le, nv_lt, nv_eq, nv_cl, Nat.reduceMod, Nat.reduceMul, Nat.reduceAdd, Nat.zero_add, Nat.add_zero, Nat.mul_zero, decide_eq_true_eq, nv_inT, Nat.le_refl]
      rcases h with ⟨h1, h2, h3⟩ | ⟨h1, h2, h3⟩
      · have hne : dd (Ed R (nv w)) (nH R) x t ≠ some (m + 1) := by
          intro e
          obtain ⟨i, i1, i2, i3⟩ := (dd_step hx0).mp e
          exact h2 i i1 ⟨i2, i3⟩
        refine hk b z hz (fun g u hu => ?_) (h3.cg fun u hu => ?_)
        · by_cases c : u = x
          · rw [c]; exact hne
          · exact h1 g u (by omega)
        · by_cases c : u = x
          · right
            intro j hj
            rw [c] at hj
            have g1 := hx0 j hj
            have g2 : j ≠ m + 1 := fun e => hne (e ▸ hj)
            simp only [c, Nat.lt_irrefl, if_false, Nat.lt_succ_self, if_true]
            omega
          · left
            have : (u < x) = (u < x + 1) := by apply propext; omega
            simp only [this]
      · refine hk b z hz (fun g => by omega) h3
    · intro f k hk2 ih b z hz h
      have hWb : ∃ mm : Nat → Nat, (∀ u, m ≤ mm u) ∧ Wl G R w t a b mm := by
        rcases h with ⟨-, -, h3⟩ | ⟨-, -, h3⟩
        · exact ⟨_, fun u => by (try dsimp only); split <;> omega, h3⟩
        · exact ⟨_, fun u => by (try dsimp only); split <;> omega, h3⟩
      obtain ⟨mm, hmm, hWb⟩ := hWb
      have hFb := hF.sx hG hWb.1
      have hfk := hWb.2.1 k hk2
      have hq := fl_eq (dd (Ed R (nv w)) (nH R) k t) m (mm k) (hmm k) (by omega) (hdl k hk2)
      have skip : ¬ (dd (Ed R (nv w)) (nH R) k t = some m ∧ Ed R (nv w) x k) → Wp (X5_walks_93 k53 k70 f (G 10) (nv w) (nv (nH R)) (nv z) (nv m) (nv x) (nv (k + 1))) b Q := by
        intro hn
        refine ih b z hz ?_
        rcases h with ⟨h1, h2, h3⟩ | h3
        · refine .inl ⟨h1, fun i hi => ?_, h3⟩
          by_cases c : i = k
          · rw [c]; exact hn
          · exact h2 i (by omega)
        · exact .inr h3
      by_cases c1 : dd (Ed R (nv w)) (nH R) k t = some m
      · have q1 : hI b (G 14) k = nv m := by rw [hfk, hq]; exact c1
        by_cases c2 : fc R x k = -nv 1
        · simp (disch := omega) only [X5_walks_93, X5_walks_189, ↓w_bd, ↓w_rt, ↓w_bh, sm_l, sm_r, ↓w_okr, ↓w_nm, ↓w_ite, ↓reduceIte, not_true_eq_false, not_false_eq_true, and_true, true_and, and_self, Option.some.injEq, reduceCtorEq, eq_self, ↓w_rc, ↓w_gI, ↓w_gR, ↓w_aN, ↓w_aI, ↓w_aR, ↓w_aL, ↓w_pI, ↓w_pR, ↓w_sI, ↓w_sR, ↓w_sL, ↓w_nO, ↓w_nA, ↓w_nL, ↓w_ca, ↓w_ca0, ↓w_gS, ↓w_gK, ↓w_dv, ↓w_tw, ↓w_rz, ↓w_no, nv_lit, nv_f, nv_add, nv_mul, nv_sub, nv_le, nv_lt, nv_eq, nv_cl, Nat.reduceMod, Nat.reduceMul, Nat.reduceAdd, Nat.zero_add, Nat.add_zero, Nat.mul_zero, decide_eq_true_eq, nv_inT, Nat.not_le.mpr hk2, hFb.1, q1, X5_factOf_w hFb, c2]
          exact skip fun g => g.2.1 c2
        · by_cases c3 : fc R x k = nv w
          · simp (disch := omega) only [X5_walks_93, X5_walks_189, ↓w_bd, ↓w_rt, ↓w_bh, sm_l, sm_r, ↓w_okr, ↓w_nm, ↓w_ite, ↓reduceIte, not_true_eq_false, not_false_eq_true, and_true, true_and, and_self, Option.some.injEq, reduceCtorEq, eq_self, ↓w_rc, ↓w_gI, ↓w_gR, ↓w_aN, ↓w_aI, ↓w_aR, ↓w_aL, ↓w_pI, ↓w_pR, ↓w_sI, ↓w_sR, ↓w_sL, ↓w_nO, ↓w_nA, ↓w_nL, ↓w_ca, ↓w_ca0, ↓w_gS, ↓w_gK, ↓w_dv, ↓w_tw, ↓w_rz, ↓w_no, nv_lit, nv_f, nv_add, nv_mul, nv_sub, nv_le, nv_lt, nv_eq, nv_cl, Nat.reduceMod, Nat.reduceMul, Nat.reduceAdd, Nat.zero_add, Nat.add_zero, Nat.mul_zero, decide_eq_true_eq, nv_inT, Nat.not_le.mpr hk2, hFb.1, q1, X5_factOf_w hFb, hwm, c3]
            exact skip fun g => g.2.2 c3
          · have hE : Ed R (nv w) x k := ⟨c2, c3⟩
            have hdx : dd (Ed R (nv w)) (nH R) x t = some (m + 1) := (dd_step hx0).mpr ⟨k, hk2, c1, hE⟩
            have h2m : ¬ nv 2 = -nv 1 := by decide
            have h2w : ¬ 2 = w := by omega
            have hFf : ∀ f, FO G (hwI b (G 14) f) o R := fun f => hFb.sx hG ((Sx.rf G b).w (.inl rfl) f)
            have hfF : ∀ f Q, Wp (X5_factOf (G 10) (nv x) (nv k)) (hwI b (G 14) f) Q ↔ Q (fc R x k) (hwI b (G 14) f) := fun f Q => X5_factOf_w (hFf f) (by omega) (by omega) Q
            have u15 : ∀ f, hI (hwI b (G 14) f) (G 15) = hI b (G 15) := fun f => by rw [hI_wI, up1_n _ _ n14]
            -- what is laid
            have fin : ∀ s, (w = 1 → s = sv R t x) → Wp (X5_walks_93 k53 k70 f (G 10) (nv w) (nv (nH R)) (nv 1) (nv m) (nv x) (nv (k + 1))) (hwI (hwI b (G 14) (up1 (hI b (G 14)) x (nv (m + 1)))) (G 15) (up1 (hI b (G 15)) x s)) Q := by
              intro s hs
              refine ih _ 1 (by omega) (.inr ⟨rfl, hdx, ?_⟩)
              refine ⟨(hWb.1.w (.inl rfl) _).w (.inr (.inl rfl)) _, fun u hu => ?_, fun g u hu => ?_⟩
              · rw [hI_wI, up1_n _ _ (Ne.symm n14), hI_wI, up1_s]
                by_cases c : u = x
                · subst c
                  rw [up1_s, hdx]
                  simp only [fl, Nat.lt_succ_self, if_true, Nat.le_refl]
                · rw [up1_n _ _ c]
                  rcases h with ⟨-, -, h3⟩ | ⟨-, -, h3⟩
                  · rw [h3.2.1 u hu]
                    have : (u < x) = (u < x + 1) := by apply propext; omega
                    simp only [this]
                  · rw [h3.2.1 u hu]
              · rw [hI_wI, up1_s]
                by_cases c : u = x
                · subst c
                  rw [up1_s, hdx, hs g]
                  simp only [sl, Nat.lt_succ_self, if_true, Nat.le_refl]
                · rw [up1_n _ _ c]
                  rcases h with ⟨-, -, h3⟩ | ⟨-, -, h3⟩
                  · rw [h3.2.2 g u hu]
                    have : (u < x) = (u < x + 1) := by apply propext; omega
                    simp only [this]
                  · rw [h3.2.2 g u hu]
            -- the flags
            have fx : w = 1 → hI b (G 15) x = 0 ∨ hI b (G 15) x = sv R t x := by
              intro g
              rcases h with ⟨-, -, h3⟩ | ⟨-, -, h3⟩
              · left
                rw [h3.2.2 g x hx, hdx]
                simp only [sl, Nat.lt_irrefl, if_false]
                rw [if_neg (by omega)]
              · right
                rw [h3.2.2 g x hx, hdx]
                simp only [sl, Nat.lt_succ_self, if_true, Nat.le_refl]
            have fk : w = 1 → hI b (G 15) k = sv R t k := by
              intro g
              rw [hWb.2.2 g k hk2, c1]
              simp only [sl, hmm k, if_true]
            have key : w = 1 → sz R t ≤ sz R k ∧ sz R k ≤ sz R x ∧ (fc R x k = nv 2 ↔ sz R x = sz R k) := by
              intro g
              subst g
              exact ⟨(pth_le hFs h10 hk2 (dd_some.mp c1).1).1, ed_le hFs h10 hx hk2 hE, (ed_2 hFs h10 hx hk2 hE).1⟩
            by_cases c4 : hI b (G 15) k = nv 0
            · by_cases c5 : fc R x k = nv 2
              · simp (disch := omega) only [X5_walks_93, X5_walks_182, X5_walks_187, X5_walks_189, ↓w_bd, ↓w_rt, ↓w_bh, sm_l, sm_r, ↓w_okr, ↓w_nm, ↓w_ite, ↓reduceIte, not_true_eq_false, not_false_eq_true, and_true, true_and, and_self, Option.some.injEq, reduceCtorEq, eq_self, ↓w_rc, ↓w_gI, ↓w_gR, ↓w_aN, ↓w_aI, ↓w_aR, ↓w_aL, ↓w_pI, ↓w_pR, ↓w_sI, ↓w_sR, ↓w_sL, ↓w_nO, ↓w_nA, ↓w_nL, ↓w_ca, ↓w_ca0, ↓w_gS, ↓w_gK, ↓w_dv, ↓w_tw, ↓w_rz, ↓w_no, nv_lit, nv_f, nv_add, nv_mul, nv_sub, nv_le, nv_lt, nv_eq, nv_cl, Nat.reduceMod, Nat.reduceMul, Nat.reduceAdd, Nat.zero_add, Nat.add_zero, Nat.mul_zero, decide_eq_true_eq, nv_inT, Nat.not_le.mpr hk2, hFb.1, q1, X5_factOf_w hFb, h2m, h2w, c4, hK_wI, hR_wI, hN_wI, u15, hfF, c5, show nrA 41 (nv (m + 1)) = nv (m + 1) from rfl]
                refine fin _ fun g => ?_
                obtain ⟨k1, k2, k3⟩ := key g
                have e1 : sv R t x = 0 := by
                  have := fk g
                  rw [c4] at this
                  unfold sv at *
                  rw [k3.mp c5]
                  exact this.symm
                rcases fx g with e | e <;> rw [e]
                · rw [e1]; rfl
                · rw [e1]; rfl
              · simp (disch := omega) only [X5_walks_93, X5_walks_182, X5_walks_187, X5_walks_189, ↓w_bd, ↓w_rt, ↓w_bh, sm_l, sm_r, ↓w_okr, ↓w_nm, ↓w_ite, ↓reduceIte, not_true_eq_false, not_false_eq_true, and_true, true_and, and_self, Option.some.injEq, reduceCtorEq, eq_self, ↓w_rc, ↓w_gI, ↓w_gR, ↓w_aN, ↓w_aI, ↓w_aR, ↓w_aL, ↓w_pI, ↓w_pR, ↓w_sI, ↓w_sR, ↓w_sL, ↓w_nO, ↓w_nA, ↓w_nL, ↓w_ca, ↓w_ca0, ↓w_gS, ↓w_gK, ↓w_dv, ↓w_tw, ↓w_rz, ↓w_no, nv_lit, nv_f, nv_add, nv_mul, nv_sub, nv_le, nv_lt, nv_eq, nv_cl, Nat.reduceMod, Nat.reduceMul, Nat.reduceAdd, Nat.zero_add, Nat.add_zero, Nat.mul_zero, decide_eq_true_eq, nv_inT, Nat.not_le.mpr hk2, hFb.1, q1, X5_factOf_w hFb, c2, c3, c4, hK_wI, hR_wI, hN_wI, u15, hfF, c5, show nrA 41 (nv (m + 1)) = nv (m + 1) from rfl]
                refine fin _ fun g => ?_
                obtain ⟨k1, k2, k3⟩ := key g
                have e1 : sv R t x = 1 := by
                  unfold sv
                  rw [if_pos]
                  have : sz R x ≠ sz R k := fun e => c5 (k3.mpr e)
                  simp only [Int32.le_iff_toInt_le, Int32.lt_iff_toInt_lt, ne_eq, ← Int32.toInt_inj] at *
                  omega
                rcases fx g with e | e <;> rw [e]
                · rw [e1]; rfl
                · rw [e1]; rfl
            · simp (disch := omega) only [X5_walks_93, X5_walks_182, X5_walks_187, X5_walks_189, ↓w_bd, ↓w_rt, ↓w_bh, sm_l, sm_r, ↓w_okr, ↓w_nm, ↓w_ite, ↓reduceIte, not_true_eq_false, not_false_eq_true, and_true, true_and, and_self, Option.some.injEq, reduceCtorEq, eq_self, ↓w_rc, ↓w_gI, ↓w_gR, ↓w_aN, ↓w_aI, ↓w_aR, ↓w_aL, ↓w_pI, ↓w_pR, ↓w_sI, ↓w_sR, ↓w_sL, ↓w_nO, ↓w_nA, ↓w_nL, ↓w_ca, ↓w_ca0, ↓w_gS, ↓w_gK, ↓w_dv, ↓w_tw, ↓w_rz, ↓w_no, nv_lit, nv_f, nv_add, nv_mul, nv_sub, nv_le, nv_lt, nv_eq, nv_cl, Nat.reduceMod, Nat.reduceMul, Nat.reduceAdd, Nat.zero_add, Nat.add_zero, Nat.mul_zero, decide_eq_true_eq, nv_inT, Nat.not_le.mpr hk2, hFb.1, q1, X5_factOf_w hFb, c2, c3, c4, hK_wI, hR_wI, hN_wI, u15, show nrA 41 (nv (m + 1)) = nv (m + 1) from rfl]
              refine fin _ fun g => ?_
              obtain ⟨k1, k2, k3⟩ := key g
              have e1 : sv R t x = 1 := by
                have hk := fk g
                unfold sv at *
                rw [if_pos]
                by_cases q : sz R t < sz R k
                · simp only [Int32.le_iff_toInt_le, Int32.lt_iff_toInt_lt] at *
                  omega
                · rw [if_neg q] at hk
                  exact absurd hk c4
              rcases fx g with e | e <;> rw [e]
              · rw [e1]; rfl
              · rw [e1]; rfl
      · have q0 : ¬ hI b (G 14) k = nv m := by rw [hfk, hq]; exact c1
        simp (disch := omega) only [X5_walks_93, X5_walks_189, ↓w_bd, ↓w_rt, ↓w_bh, sm_l, sm_r, ↓w_okr, ↓w_nm, ↓w_ite, ↓reduceIte, not_true_eq_false, not_false_eq_true, and_true, true_and, and_self, Option.some.injEq, reduceCtorEq, eq_self, ↓w_rc, ↓w_gI, ↓w_gR, ↓w_aN, ↓w_aI, ↓w_aR, ↓w_aL, ↓w_pI, ↓w_pR, ↓w_sI, ↓w_sR, ↓w_sL, ↓w_nO, ↓w_nA, ↓w_nL, ↓w_ca, ↓w_ca0, ↓w_gS, ↓w_gK, ↓w_dv, ↓w_tw, ↓w_rz, ↓w_no, nv_lit, nv_f, nv_add, nv_mul, nv_sub, nv_le, nv_lt, nv_eq, nv_cl, Nat.reduceMod, Nat.reduceMul, Nat.reduceAdd, Nat.zero_add, Nat.add_zero, Nat.mul_zero, decide_eq_true_eq, nv_inT, Nat.not_le.mpr hk2, hFb.1, q0]
        exact skip fun g => c1 g.1
  intro b hb
  exact l FU 0 (by omega) (by unfold FU; omega) b z hz (.inl ⟨hzn, fun i hi => absurd hi (by omega), hb⟩)
