/-! THE ACTS OF A PLAY, by both -/
theorem kd_c (r : Nat) : kd r % 100 ≠ 42 ∧ kd r % 100 ≠ 13 := by
  unfold kd
  (repeat' split) <;> omega
theorem JC.cb {G : Nat → Nat} {B B' : Nat → Nat × Nat} {S : Gst} {a : Hp} (h : JC G B S a) (hg : ∀ i, i < 22 → B' (G i) = B (G i)) (hm : ∀ q, q < hSz a → hK a q % 100 ≠ 42 → hK a q % 100 ≠ 13 → B' q = B q) : JC G B' S a := by
  obtain ⟨j1, j2, ⟨j3, j4, j5⟩, j6⟩ := h
  refine ⟨fun i hi => ⟨(j1 i hi).1, by rw [hg i hi]; exact (j1 i hi).2⟩, j2, ⟨j3, fun i p hp => ?_, j5⟩, j6⟩
  obtain ⟨q1, ⟨m1, m2, m3⟩, q3⟩ := j4 i p hp
  refine ⟨q1, ⟨m1, fun r hr => ⟨(m2 r hr).1, ?_, (m2 r hr).2.2⟩, m3⟩, q3⟩
  obtain ⟨x1, x2, x3⟩ := m2 r hr
  have k := kd_c r
  rw [hm _ x1 (by rw [x3]; exact k.1) (by rw [x3]; exact k.2)]
  exact x2
theorem frm_tr2 {G : Nat → Nat} {B B' : Nat → Nat × Nat} {a b c : Hp} (h : Frm G B a b) (hB : ∀ q, q < hSz a → (B q).1 = 0 → (B' q).1 = 0) (g : Frm G B' b c) : Frm G B a c := ⟨⟨Nat.le_trans h.1.1 g.1.1, g.1.2.trans h.1.2⟩, h.2.1.tr h.1.1 g.2.1, fun q hq h0 hi => by
  have e1 := h.2.2 q hq h0 hi
  have e2 := g.2.2 q (Nat.lt_of_lt_of_le hq h.1.1) (hB q hq h0) hi
  exact ⟨e2.1.trans e1.1, e2.2.1.trans e1.2.1, e2.2.2.1.trans e1.2.2.1, e2.2.2.2.trans e1.2.2.2⟩⟩
/-- a cell that the acts spare -/
def Sf (G : Nat → Nat) (B : Nat → Nat × Nat) (a : Hp) (q : Nat) : Prop := q < hSz a ∧ (B q).1 = 0 ∧ ∀ i, i < 8 → q ≠ G i
theorem Sf.fr {G : Nat → Nat} {B B' : Nat → Nat × Nat} {a b : Hp} {q : Nat} (h : Sf G B a q) (g : Frm G B a b) (hB : ∀ q, q < hSz a → B' q = B q) : Sf G B' b q ∧ hK b q = hK a q ∧ hN b q = hN a q ∧ hR b q = hR a q ∧ hI b q = hI a q :=
  ⟨⟨Nat.lt_of_lt_of_le h.1 g.1.1, by rw [hB q h.1]; exact h.2.1, h.2.2⟩, g.2.2 q h.1 h.2.1 h.2.2⟩
def LamS (G : Nat → Nat) (B : Nat → Nat × Nat) (rq : Nat) (a : Hp) (q c : Nat) (ts : List Nat) : Prop :=
  (hK a q = lK c ∧ hI a q = lI c (ts.map nv) ∧ Sf G B a q) ∧ ∃ w v, hR a q = lR c rq w ∧ (Sf G B a w ∧ Sf G B a v) ∧ (hK a w % 100 = 13 ∧ hI a w 1 = nv 0 ∧ hR a w 0 = some v ∧ w ≠ v) ∧ hK a v % 100 = 42 ∧ hN a v = wn (4 + c) ∧ ∀ i, i < wn (4 + c) → hI a v i = nv (wl (4 + c) i)
theorem LamS.c {G : Nat → Nat} {B : Nat → Nat × Nat} {rq : Nat} {a : Hp} {q c : Nat} {ts : List Nat} (h : LamS G B rq a q c ts) : LamC 0 rq a q c ts := by
  obtain ⟨⟨h1, h2, -⟩, w, v, h3, ⟨h4, h5⟩, ⟨h6, h7, h8, h9⟩, h10, h11, h12⟩ := h
  exact ⟨h1, h2, w, h3, Nat.zero_le _, h6, h7, v, h8, h10, h11, h12, h4.1, h5.1, h9⟩
theorem LamS.fr {G : Nat → Nat} {B B' : Nat → Nat × Nat} {rq : Nat} {a b : Hp} {q c : Nat} {ts : List Nat} (h : LamS G B rq a q c ts) (g : Frm G B a b) (hB : ∀ q, q < hSz a → B' q = B q) : LamS G B' rq b q c ts := by
  obtain ⟨⟨h1, h2, hs⟩, w, v, h3, ⟨h4, h5⟩, ⟨h6, h7, h8, h9⟩, h10, h11, h12⟩ := h
  obtain ⟨s1, s2, s3, s4, s5⟩ := hs.fr g hB
  obtain ⟨w1, w2, w3, w4, w5⟩ := h4.fr g hB
  obtain ⟨v1, v2, v3, v4, v5⟩ := h5.fr g hB
  exact ⟨⟨by rw [s2]; exact h1, by rw [s5]; exact h2, s1⟩, w, v, by rw [s4]; exact h3, ⟨w1, v1⟩, ⟨by rw [w2]; exact h6, by rw [w5]; exact h7, by rw [w4]; exact h8, h9⟩, by rw [v2]; exact h10, by rw [v3]; exact h11, fun i hi => by rw [v5]; exact h12 i hi⟩
/-- the play's cells -/
def PlS (G : Nat → Nat) (B : Nat → Nat × Nat) (a : Hp) (rq q5 n : Nat) (K : Nat → Cmd) : Prop :=
  (Sf G B a rq ∧ hK a rq = 6 ∧ hR a rq 5 = some (G 0)) ∧ (Sf G B a q5 ∧ hK a q5 = 50 ∧ hN a q5 = 26) ∧ (∀ i, i < n → ∃ q, hR a q5 i = some q ∧ LamS G B rq a q (K i).1 (K i).2) ∧ ∀ i, n ≤ i → i < 26 → hR a q5 i = none
theorem PlS.fr {G : Nat → Nat} {B B' : Nat → Nat × Nat} {a b : Hp} {rq q5 n : Nat} {K : Nat → Cmd} (h : PlS G B a rq q5 n K) (g : Frm G B a b) (hB : ∀ q, q < hSz a → B' q = B q) : PlS G B' b rq q5 n K := by
  obtain ⟨⟨h1, h2, h3⟩, ⟨h4, h5, h6⟩, h7, h8⟩ := h
  obtain ⟨s1, s2, s3, s4, s5⟩ := h1.fr g hB
  obtain ⟨w1, w2, w3, w4, w5⟩ := h4.fr g hB
  refine ⟨⟨s1, by rw [s2]; exact h2, by rw [s4]; exact h3⟩, ⟨w1, by rw [w2]; exact h5, by rw [w3]; exact h6⟩, fun i hi => ?_, fun i hi hi2 => by rw [w4]; exact h8 i hi hi2⟩
  obtain ⟨q, q1, q2⟩ := h7 i hi
  exact ⟨q, by rw [w4]; exact q1, q2.fr g hB⟩
theorem gm_nv : ∀ (ts : List Nat) (i : Nat), (ts.map nv).getD i 0 = nv (ts.getD i 0) := by
  intro ts
  induction ts with
  | nil => intro i; rfl
  | cons t ts ih =>
    intro i
    cases i with
    | zero => rfl
    | succ i => exact ih i
def act8 (G : Nat → Nat) (c : Nat) (ts : List Nat) : Mr Int32 := if c = 0 then X5_say (G 10) (nv (ts.getD 0 0)) (nv (ts.getD 1 0)) (nv (ts.getD 2 0)) (nv (ts.getD 3 0)) else if c = 1 then X5_pair (G 10) (nv (ts.getD 0 0)) (nv (ts.getD 1 0)) (nv (ts.getD 2 0)) else if c = 5 then X5_put (G 10) (nv (ts.getD 0 0)) (nv (ts.getD 1 0)) (nv (ts.getD 2 0)) else if c = 6 then X5_swap (G 10) (nv (ts.getD 0 0)) (nv (ts.getD 1 0)) else if c = 7 then X5_setEye (G 10) (nv (ts.getD 0 0)) else act3 G c (ts.getD 0 0)
theorem nrk_0 (x : Int32) : nrk 0 x = true := rfl
theorem does_j {G : Nat → Nat} {B : Nat → Nat × Nat} {S : Gst} {a : Hp} (hC : JC G B S a) {z rq q c : Nat} {ts : List Nat} (hq : Rq G a rq) (hl : LamC z rq a q c ts) (hv : Vld (c, ts)) : Wp (IF_does (some q)) a (PlQ G B S a (act8 G c ts)) := by
  obtain ⟨v1, v2, v3⟩ := hv
  have v1' : c < 8 := v1
  have v3' : ∀ i, i < (sp c).length → ts.getD i 0 ≤ ub ((sp c).getD i 0) := v3
  obtain ⟨h1, h2, w, h3, -, h4⟩ := hl
  have g0 := gm_nv ts 0
  have g1 := gm_nv ts 1
  have g2 := gm_nv ts 2
  have g3 := gm_nv ts 3
  have three : (c = 2 ∨ c = 3 ∨ c = 4) → Wp (IF_does (some q)) a (PlQ G B S a (act8 G c ts)) := by
    intro h234
    have b0 : ts.getD 0 0 ≤ 19 := by
      have := v3' 0
      rcases h234 with rfl | rfl | rfl
      · exact this (by decide)
      · exact this (by decide)
      · exact this (by decide)
    have k : hK a q = 78 := by
      rcases h234 with rfl | rfl | rfl
      · exact h1
      · exact h1
      · exact h1
    have r0 : hR a q 0 = some rq := by
      rw [h3]; unfold lR; rw [if_pos h234, if_pos rfl]
    have r2 : hR a q 2 = some w := by
      rw [h3]; unfold lR; rw [if_pos h234, if_neg (by decide), if_pos rfl]
    have i1 : hI a q 1 = nv (ts.getD 0 0) := by
      rw [h2, ← g0]
      rcases h234 with rfl | rfl | rfl
      · rfl
      · rfl
      · rfl
    have e : act8 G c ts = act3 G c (ts.getD 0 0) := by
      rcases h234 with rfl | rfl | rfl
      · rfl
      · rfl
      · rfl
    rw [e]
    simp (disch := omega) only [IF_does, ↓w_bd, ↓w_rt, ↓w_bh, sm_l, sm_r, ↓w_okr, ↓w_nm, ↓w_ite, ↓reduceIte, not_true_eq_false, not_false_eq_true, and_true, true_and, and_self, Option.some.injEq, reduceCtorEq, eq_self, ↓w_rc, ↓w_gI, ↓w_gR, ↓w_aN, ↓w_aI, ↓w_aR, ↓w_aL, ↓w_pI, ↓w_pR, ↓w_sI, ↓w_sR, ↓w_sL, ↓w_nO, ↓w_nA, ↓w_nL, ↓w_ca, ↓w_ca0, ↓w_gS, ↓w_gK, ↓w_dv, ↓w_tw, ↓w_rz, ↓w_no, nv_lit, nv_f, nv_add, nv_mul, nv_sub, nv_le, nv_lt, nv_eq, nv_cl, Nat.reduceMod, Nat.reduceMul, Nat.reduceAdd, Nat.zero_add, Nat.add_zero, Nat.mul_zero, decide_eq_true_eq, nv_inT, k, r0, r2, i1, hq.1, nrk_0, Nat.reduceEqDiff]
    exact pl_three hC hq h234 b0 h4
  have : c = 0 ∨ c = 1 ∨ (c = 2 ∨ c = 3 ∨ c = 4) ∨ c = 5 ∨ c = 6 ∨ c = 7 := by omega
  rcases this with rfl | rfl | h234 | rfl | rfl | rfl
  · have b0 : ts.getD 0 0 ≤ 3 := v3' 0 (by decide)
    have b1 : ts.getD 1 0 ≤ 9 := v3' 1 (by decide)
    have b2 : ts.getD 2 0 ≤ 2 := v3' 2 (by decide)
    have b3 : ts.getD 3 0 ≤ 9 := v3' 3 (by decide)
    have k : hK a q = 73 := h1
    have r0 : hR a q 0 = some rq := by rw [h3]; rfl
    have i1 : hI a q 1 = nv (ts.getD 0 0) := by rw [h2, ← g0]; rfl
    have i2 : hI a q 2 = nv (ts.getD 1 0) := by rw [h2, ← g1]; rfl
    have i3 : hI a q 3 = nv (ts.getD 3 0) := by rw [h2, ← g3]; rfl
    have i4 : hI a q 4 = nv (ts.getD 2 0) := by rw [h2, ← g2]; rfl
    simp (disch := omega) only [IF_does, ↓w_bd, ↓w_rt, ↓w_bh, sm_l, sm_r, ↓w_okr, ↓w_nm, ↓w_ite, ↓reduceIte, not_true_eq_false, not_false_eq_true, and_true, true_and, and_self, Option.some.injEq, reduceCtorEq, eq_self, ↓w_rc, ↓w_gI, ↓w_gR, ↓w_aN, ↓w_aI, ↓w_aR, ↓w_aL, ↓w_pI, ↓w_pR, ↓w_sI, ↓w_sR, ↓w_sL, ↓w_nO, ↓w_nA, ↓w_nL, ↓w_ca, ↓w_ca0, ↓w_gS, ↓w_gK, ↓w_dv, ↓w_tw, ↓w_rz, ↓w_no, nv_lit, nv_f, nv_add, nv_mul, nv_sub, nv_le, nv_lt, nv_eq, nv_cl, Nat.reduceMod, Nat.reduceMul, Nat.reduceAdd, Nat.zero_add, Nat.add_zero, Nat.mul_zero, decide_eq_true_eq, nv_inT, k, r0, i1, i2, i3, i4, hq.1, nrk_0, Nat.reduceEqDiff]
    exact pl_say hC hq b0 b1 b2 b3
  · have b0 : ts.getD 0 0 ≤ 19 := v3' 0 (by decide)
    have b1 : ts.getD 1 0 ≤ 4 := v3' 1 (by decide)
    have b2 : ts.getD 2 0 ≤ 4 := v3' 2 (by decide)
    have k : hK a q = 74 := h1
    have r0 : hR a q 0 = some rq := by rw [h3]; rfl
    have i1 : hI a q 1 = nv (ts.getD 0 0) := by rw [h2, ← g0]; rfl
    have i2 : hI a q 2 = nv (ts.getD 1 0) := by rw [h2, ← g1]; rfl
    have i3 : hI a q 3 = nv (ts.getD 2 0) := by rw [h2, ← g2]; rfl
    simp (disch := omega) only [IF_does, ↓w_bd, ↓w_rt, ↓w_bh, sm_l, sm_r, ↓w_okr, ↓w_nm, ↓w_ite, ↓reduceIte, not_true_eq_false, not_false_eq_true, and_true, true_and, and_self, Option.some.injEq, reduceCtorEq, eq_self, ↓w_rc, ↓w_gI, ↓w_gR, ↓w_aN, ↓w_aI, ↓w_aR, ↓w_aL, ↓w_pI, ↓w_pR, ↓w_sI, ↓w_sR, ↓w_sL, ↓w_nO, ↓w_nA, ↓w_nL, ↓w_ca, ↓w_ca0, ↓w_gS, ↓w_gK, ↓w_dv, ↓w_tw, ↓w_rz, ↓w_no, nv_lit, nv_f, nv_add, nv_mul, nv_sub, nv_le, nv_lt, nv_eq, nv_cl, Nat.reduceMod, Nat.reduceMul, Nat.reduceAdd, Nat.zero_add, Nat.add_zero, Nat.mul_zero, decide_eq_true_eq, nv_inT, k, r0, i1, i2, i3, hq.1, nrk_0, Nat.reduceEqDiff]
    exact pl_pair hC hq b0 b1 b2
  · exact three h234
  · have b0 : ts.getD 0 0 ≤ 9 := v3' 0 (by decide)
    have b1 : ts.getD 1 0 ≤ 4 := v3' 1 (by decide)
    have b2 : ts.getD 2 0 ≤ 9 := v3' 2 (by decide)
    have k : hK a q = 75 := h1
    have r0 : hR a q 0 = some rq := by rw [h3]; rfl
    have i1 : hI a q 1 = nv (ts.getD 0 0) := by rw [h2, ← g0]; rfl
    have i2 : hI a q 2 = nv (ts.getD 1 0) := by rw [h2, ← g1]; rfl
    have i3 : hI a q 3 = nv (ts.getD 2 0) := by rw [h2, ← g2]; rfl
    simp (disch := omega) only [IF_does, ↓w_bd, ↓w_rt, ↓w_bh, sm_l, sm_r, ↓w_okr, ↓w_nm, ↓w_ite, ↓reduceIte, not_true_eq_false, not_false_eq_true, and_true, true_and, and_self, Option.some.injEq, reduceCtorEq, eq_self, ↓w_rc, ↓w_gI, ↓w_gR, ↓w_aN, ↓w_aI, ↓w_aR, ↓w_aL, ↓w_pI, ↓w_pR, ↓w_sI, ↓w_sR, ↓w_sL, ↓w_nO, ↓w_nA, ↓w_nL, ↓w_ca, ↓w_ca0, ↓w_gS, ↓w_gK, ↓w_dv, ↓w_tw, ↓w_rz, ↓w_no, nv_lit, nv_f, nv_add, nv_mul, nv_sub, nv_le, nv_lt, nv_eq, nv_cl, Nat.reduceMod, Nat.reduceMul, Nat.reduceAdd, Nat.zero_add, Nat.add_zero, Nat.mul_zero, decide_eq_true_eq, nv_inT, k, r0, i1, i2, i3, hq.1, nrk_0, Nat.reduceEqDiff]
    exact pl_put hC hq b0 b1 b2
  · have b0 : ts.getD 0 0 ≤ 9 := v3' 0 (by decide)
    have b1 : ts.getD 1 0 ≤ 9 := v3' 1 (by decide)
    have k : hK a q = 76 := h1
    have r0 : hR a q 0 = some rq := by rw [h3]; rfl
    have i1 : hI a q 1 = nv (ts.getD 0 0) := by rw [h2, ← g0]; rfl
    have i2 : hI a q 2 = nv (ts.getD 1 0) := by rw [h2, ← g1]; rfl
    simp (disch := omega) only [IF_does, ↓w_bd, ↓w_rt, ↓w_bh, sm_l, sm_r, ↓w_okr, ↓w_nm, ↓w_ite, ↓reduceIte, not_true_eq_false, not_false_eq_true, and_true, true_and, and_self, Option.some.injEq, reduceCtorEq, eq_self, ↓w_rc, ↓w_gI, ↓w_gR, ↓w_aN, ↓w_aI, ↓w_aR, ↓w_aL, ↓w_pI, ↓w_pR, ↓w_sI, ↓w_sR, ↓w_sL, ↓w_nO, ↓w_nA, ↓w_nL, ↓w_ca, ↓w_ca0, ↓w_gS, ↓w_gK, ↓w_dv, ↓w_tw, ↓w_rz, ↓w_no, nv_lit, nv_f, nv_add, nv_mul, nv_sub, nv_le, nv_lt, nv_eq, nv_cl, Nat.reduceMod, Nat.reduceMul, Nat.reduceAdd, Nat.zero_add, Nat.add_zero, Nat.mul_zero, decide_eq_true_eq, nv_inT, k, r0, i1, i2, hq.1, nrk_0, Nat.reduceEqDiff]
    exact pl_swap hC hq b0 b1
  · have b0 : ts.getD 0 0 ≤ 9 := v3' 0 (by decide)
    have k : hK a q = 77 := h1
    have r0 : hR a q 0 = some rq := by rw [h3]; rfl
    have i1 : hI a q 1 = nv (ts.getD 0 0) := by rw [h2, ← g0]; rfl
    simp (disch := omega) only [IF_does, ↓w_bd, ↓w_rt, ↓w_bh, sm_l, sm_r, ↓w_okr, ↓w_nm, ↓w_ite, ↓reduceIte, not_true_eq_false, not_false_eq_true, and_true, true_and, and_self, Option.some.injEq, reduceCtorEq, eq_self, ↓w_rc, ↓w_gI, ↓w_gR, ↓w_aN, ↓w_aI, ↓w_aR, ↓w_aL, ↓w_pI, ↓w_pR, ↓w_sI, ↓w_sR, ↓w_sL, ↓w_nO, ↓w_nA, ↓w_nL, ↓w_ca, ↓w_ca0, ↓w_gS, ↓w_gK, ↓w_dv, ↓w_tw, ↓w_rz, ↓w_no, nv_lit, nv_f, nv_add, nv_mul, nv_sub, nv_le, nv_lt, nv_eq, nv_cl, Nat.reduceMod, Nat.reduceMul, Nat.reduceAdd, Nat.zero_add, Nat.add_zero, Nat.mul_zero, decide_eq_true_eq, nv_inT, k, r0, i1, hq.1, nrk_0, Nat.reduceEqDiff]
    exact pl_eye hC hq b0
theorem s6v (v : Nat) (h : v < 7) : ((nv v).toInt < 0 ∨ 6 < (nv v).toInt) = False := eq_false (by
  rw [nv_int (by omega)]
  omega)
theorem s67 : ((nv 7).toInt < 0 ∨ 6 < (nv 7).toInt) = True := eq_true (by decide)
theorem acts_w {G : Nat → Nat} {c : Hp} (hF : FT G c) {i x : Nat} {ts : List Nat} (hi : i < 25) (hx : x < 8) (hl : ts.length = (sp x).length) (h0 : hI c (G 17) (5 * i) = nv x) (h1 : ∀ j, j < ts.length → hI c (G 17) (5 * i + 1 + j) = nv (ts.getD j 0)) (Q : Int32 → Hp → Prop) : Wp (X5_acts (G 10) (nv (5 * i))) c Q ↔ Wp (act8 G x ts) c Q := by
  have this : x = 0 ∨ x = 1 ∨ x = 2 ∨ x = 3 ∨ x = 4 ∨ x = 5 ∨ x = 6 ∨ x = 7 := by omega
  rw [hl] at h1
  rcases this with rfl | rfl | rfl | rfl | rfl | rfl | rfl | rfl
  · have e0 : hI c (G 17) (5 * i + 1) = nv (ts.getD 0 0) := h1 0 (by decide)
    have e1 : hI c (G 17) (5 * i + 2) = nv (ts.getD 1 0) := h1 1 (by decide)
    have e2 : hI c (G 17) (5 * i + 3) = nv (ts.getD 2 0) := h1 2 (by decide)
    have e3 : hI c (G 17) (5 * i + 4) = nv (ts.getD 3 0) := h1 3 (by decide)
    simp (disch := omega) only [X5_acts, ↓w_bd, ↓w_rt, ↓w_bh, sm_l, sm_r, ↓w_okr, ↓w_nm, ↓w_ite, ↓reduceIte, not_true_eq_false, not_false_eq_true, and_true, true_and, and_self, Option.some.injEq, reduceCtorEq, eq_self, ↓w_rc, ↓w_gI, ↓w_gR, ↓w_aN, ↓w_aI, ↓w_aR, ↓w_aL, ↓w_pI, ↓w_pR, ↓w_sI, ↓w_sR, ↓w_sL, ↓w_nO, ↓w_nA, ↓w_nL, ↓w_ca, ↓w_ca0, ↓w_gS, ↓w_gK, ↓w_dv, ↓w_tw, ↓w_rz, ↓w_no, nv_lit, nv_f, nv_add, nv_mul, nv_sub, nv_le, nv_lt, nv_eq, nv_cl, Nat.reduceMod, Nat.reduceMul, Nat.reduceAdd, Nat.zero_add, Nat.add_zero, Nat.mul_zero, decide_eq_true_eq, nv_inT, hF, h0, e0, e1, e2, e3, s6v, Nat.reduceEqDiff]
    rfl
  · have e0 : hI c (G 17) (5 * i + 1) = nv (ts.getD 0 0) := h1 0 (by decide)
    have e1 : hI c (G 17) (5 * i + 2) = nv (ts.getD 1 0) := h1 1 (by decide)
    have e2 : hI c (G 17) (5 * i + 3) = nv (ts.getD 2 0) := h1 2 (by decide)
    simp (disch := omega) only [X5_acts, ↓w_bd, ↓w_rt, ↓w_bh, sm_l, sm_r, ↓w_okr, ↓w_nm, ↓w_ite, ↓reduceIte, not_true_eq_false, not_false_eq_true, and_true, true_and, and_self, Option.some.injEq, reduceCtorEq, eq_self, ↓w_rc, ↓w_gI, ↓w_gR, ↓w_aN, ↓w_aI, ↓w_aR, ↓w_aL, ↓w_pI, ↓w_pR, ↓w_sI, ↓w_sR, ↓w_sL, ↓w_nO, ↓w_nA, ↓w_nL, ↓w_ca, ↓w_ca0, ↓w_gS, ↓w_gK, ↓w_dv, ↓w_tw, ↓w_rz, ↓w_no, nv_lit, nv_f, nv_add, nv_mul, nv_sub, nv_le, nv_lt, nv_eq, nv_cl, Nat.reduceMod, Nat.reduceMul, Nat.reduceAdd, Nat.zero_add, Nat.add_zero, Nat.mul_zero, decide_eq_true_eq, nv_inT, hF, h0, e0, e1, e2, s6v, Nat.reduceEqDiff]
    rfl
  · have e0 : hI c (G 17) (5 * i + 1) = nv (ts.getD 0 0) := h1 0 (by decide)
    simp (disch := omega) only [X5_acts, ↓w_bd, ↓w_rt, ↓w_bh, sm_l, sm_r, ↓w_okr, ↓w_nm, ↓w_ite, ↓reduceIte, not_true_eq_false, not_false_eq_true, and_true, true_and, and_self, Option.some.injEq, reduceCtorEq, eq_self, ↓w_rc, ↓w_gI, ↓w_gR, ↓w_aN, ↓w_aI, ↓w_aR, ↓w_aL, ↓w_pI, ↓w_pR, ↓w_sI, ↓w_sR, ↓w_sL, ↓w_nO, ↓w_nA, ↓w_nL, ↓w_ca, ↓w_ca0, ↓w_gS, ↓w_gK, ↓w_dv, ↓w_tw, ↓w_rz, ↓w_no, nv_lit, nv_f, nv_add, nv_mul, nv_sub, nv_le, nv_lt, nv_eq, nv_cl, Nat.reduceMod, Nat.reduceMul, Nat.reduceAdd, Nat.zero_add, Nat.add_zero, Nat.mul_zero, decide_eq_true_eq, nv_inT, hF, h0, e0, s6v, Nat.reduceEqDiff]
    rfl
  · have e0 : hI c (G 17) (5 * i + 1) = nv (ts.getD 0 0) := h1 0 (by decide)
    simp (disch := omega) only [X5_acts, ↓w_bd, ↓w_rt, ↓w_bh, sm_l, sm_r, ↓w_okr, ↓w_nm, ↓w_ite, ↓reduceIte, not_true_eq_false, not_false_eq_true, and_true, true_and, and_self, Option.some.injEq, reduceCtorEq, eq_self, ↓w_rc, ↓w_gI, ↓w_gR, ↓w_aN, ↓w_aI, ↓w_aR, ↓w_aL, ↓w_pI, ↓w_pR, ↓w_sI, ↓w_sR, ↓w_sL, ↓w_nO, ↓w_nA, ↓w_nL, ↓w_ca, ↓w_ca0, ↓w_gS, ↓w_gK, ↓w_dv, ↓w_tw, ↓w_rz, ↓w_no, nv_lit, nv_f, nv_add, nv_mul, nv_sub, nv_le, nv_lt, nv_eq, nv_cl, Nat.reduceMod, Nat.reduceMul, Nat.reduceAdd, Nat.zero_add, Nat.add_zero, Nat.mul_zero, decide_eq_true_eq, nv_inT, hF, h0, e0, s6v, Nat.reduceEqDiff]
    rfl
  · have e0 : hI c (G 17) (5 * i + 1) = nv (ts.getD 0 0) := h1 0 (by decide)
    simp (disch := omega) only [X5_acts, ↓w_bd, ↓w_rt, ↓w_bh, sm_l, sm_r, ↓w_okr, ↓w_nm, ↓w_ite, ↓reduceIte, not_true_eq_false, not_false_eq_true, and_true, true_and, and_self, Option.some.injEq, reduceCtorEq, eq_self, ↓w_rc, ↓w_gI, ↓w_gR, ↓w_aN, ↓w_aI, ↓w_aR, ↓w_aL, ↓w_pI, ↓w_pR, ↓w_sI, ↓w_sR, ↓w_sL, ↓w_nO, ↓w_nA, ↓w_nL, ↓w_ca, ↓w_ca0, ↓w_gS, ↓w_gK, ↓w_dv, ↓w_tw, ↓w_rz, ↓w_no, nv_lit, nv_f, nv_add, nv_mul, nv_sub, nv_le, nv_lt, nv_eq, nv_cl, Nat.reduceMod, Nat.reduceMul, Nat.reduceAdd, Nat.zero_add, Nat.add_zero, Nat.mul_zero, decide_eq_true_eq, nv_inT, hF, h0, e0, s6v, Nat.reduceEqDiff]
    rfl
  · have e0 : hI c (G 17) (5 * i + 1) = nv (ts.getD 0 0) := h1 0 (by decide)
    have e1 : hI c (G 17) (5 * i + 2) = nv (ts.getD 1 0) := h1 1 (by decide)
    have e2 : hI c (G 17) (5 * i + 3) = nv (ts.getD 2 0) := h1 2 (by decide)
    simp (disch := omega) only [X5_acts, ↓w_bd, ↓w_rt, ↓w_bh, sm_l, sm_r, ↓w_okr, ↓w_nm, ↓w_ite, ↓reduceIte, not_true_eq_false, not_false_eq_true, and_true, true_and, and_self, Option.some.injEq, reduceCtorEq, eq_self, ↓w_rc, ↓w_gI, ↓w_gR, ↓w_aN, ↓w_aI, ↓w_aR, ↓w_aL, ↓w_pI, ↓w_pR, ↓w_sI, ↓w_sR, ↓w_sL, ↓w_nO, ↓w_nA, ↓w_nL, ↓w_ca, ↓w_ca0, ↓w_gS, ↓w_gK, ↓w_dv, ↓w_tw, ↓w_rz, ↓w_no, nv_lit, nv_f, nv_add, nv_mul, nv_sub, nv_le, nv_lt, nv_eq, nv_cl, Nat.reduceMod, Nat.reduceMul, Nat.reduceAdd, Nat.zero_add, Nat.add_zero, Nat.mul_zero, decide_eq_true_eq, nv_inT, hF, h0, e0, e1, e2, s6v, Nat.reduceEqDiff]
    rfl
  · have e0 : hI c (G 17) (5 * i + 1) = nv (ts.getD 0 0) := h1 0 (by decide)
    have e1 : hI c (G 17) (5 * i + 2) = nv (ts.getD 1 0) := h1 1 (by decide)
    simp (disch := omega) only [X5_acts, ↓w_bd, ↓w_rt, ↓w_bh, sm_l, sm_r, ↓w_okr, ↓w_nm, ↓w_ite, ↓reduceIte, not_true_eq_false, not_false_eq_true, and_true, true_and, and_self, Option.some.injEq, reduceCtorEq, eq_self, ↓w_rc, ↓w_gI, ↓w_gR, ↓w_aN, ↓w_aI, ↓w_aR, ↓w_aL, ↓w_pI, ↓w_pR, ↓w_sI, ↓w_sR, ↓w_sL, ↓w_nO, ↓w_nA, ↓w_nL, ↓w_ca, ↓w_ca0, ↓w_gS, ↓w_gK, ↓w_dv, ↓w_tw, ↓w_rz, ↓w_no, nv_lit, nv_f, nv_add, nv_mul, nv_sub, nv_le, nv_lt, nv_eq, nv_cl, Nat.reduceMod, Nat.reduceMul, Nat.reduceAdd, Nat.zero_add, Nat.add_zero, Nat.mul_zero, decide_eq_true_eq, nv_inT, hF, h0, e0, e1, s6v, Nat.reduceEqDiff]
    rfl
  · have e0 : hI c (G 17) (5 * i + 1) = nv (ts.getD 0 0) := h1 0 (by decide)
    simp (disch := omega) only [X5_acts, ↓w_bd, ↓w_rt, ↓w_bh, sm_l, sm_r, ↓w_okr, ↓w_nm, ↓w_ite, ↓reduceIte, not_true_eq_false, not_false_eq_true, and_true, true_and, and_self, Option.some.injEq, reduceCtorEq, eq_self, ↓w_rc, ↓w_gI, ↓w_gR, ↓w_aN, ↓w_aI, ↓w_aR, ↓w_aL, ↓w_pI, ↓w_pR, ↓w_sI, ↓w_sR, ↓w_sL, ↓w_nO, ↓w_nA, ↓w_nL, ↓w_ca, ↓w_ca0, ↓w_gS, ↓w_gK, ↓w_dv, ↓w_tw, ↓w_rz, ↓w_no, nv_lit, nv_f, nv_add, nv_mul, nv_sub, nv_le, nv_lt, nv_eq, nv_cl, Nat.reduceMod, Nat.reduceMul, Nat.reduceAdd, Nat.zero_add, Nat.add_zero, Nat.mul_zero, decide_eq_true_eq, nv_inT, hF, h0, e0, s67]
    rfl
/-- the twin's play ends -/
theorem p103_w {G : Nat → Nat} {S : Gst} {c : Hp} (hG : GD G) (h : JT G S c) (v : Int32) (Q : Int32 → Hp → Prop) (kk : ∀ d, JT G S d → Tf G c d → Q v d) : Wp (X5_play_103 (G 10) v) c Q := by
  have hF := h.1
  simp (disch := omega) only [X5_play_103, ↓w_bd, ↓w_rt, ↓w_bh, sm_l, sm_r, ↓w_okr, ↓w_nm, ↓w_ite, ↓reduceIte, not_true_eq_false, not_false_eq_true, and_true, true_and, and_self, Option.some.injEq, reduceCtorEq, eq_self, ↓w_rc, ↓w_gI, ↓w_gR, ↓w_aN, ↓w_aI, ↓w_aR, ↓w_aL, ↓w_pI, ↓w_pR, ↓w_sI, ↓w_sR, ↓w_sL, ↓w_nO, ↓w_nA, ↓w_nL, ↓w_ca, ↓w_ca0, ↓w_gS, ↓w_gK, ↓w_dv, ↓w_tw, ↓w_rz, ↓w_no, nv_lit, nv_f, nv_add, nv_mul, nv_sub, nv_le, nv_lt, nv_eq, nv_cl, Nat.reduceMod, Nat.reduceMul, Nat.reduceAdd, Nat.zero_add, Nat.add_zero, Nat.mul_zero, decide_eq_true_eq, nv_inT, hF, okn, th_f]
  exact kk _ (h.th hG (nv 0)) (Tf.thr G c (nv 0))
theorem p55_e {G : Nat → Nat} {S : Gst} {c : Hp} {f n i : Nat} (hG : GD G) (h : JT G S c) (h17 : hI c (G 10) 17 = nv n) (hn : n < 1000) (hi : i < 1000) (v w : Int32) (hv : n ≤ i ∨ w = nv 0) (Q : Int32 → Hp → Prop) (kk : ∀ d, JT G S d → Tf G c d → Q v d) : Wp (X5_play_55 (f + 1) (G 10) v w (nv i)) c Q := by
  have hF := h.1
  have := p103_w hG h v Q kk
  by_cases c1 : n ≤ i
  · simp (disch := omega) only [X5_play_55, ↓w_bd, ↓w_rt, ↓w_bh, sm_l, sm_r, ↓w_okr, ↓w_nm, ↓w_ite, ↓reduceIte, not_true_eq_false, not_false_eq_true, and_true, true_and, and_self, Option.some.injEq, reduceCtorEq, eq_self, ↓w_rc, ↓w_gI, ↓w_gR, ↓w_aN, ↓w_aI, ↓w_aR, ↓w_ca, ↓w_ca0, nv_lit, nv_f, nv_add, nv_mul, nv_sub, nv_le, nv_lt, nv_eq, nv_cl, Nat.reduceMod, Nat.reduceMul, Nat.reduceAdd, Nat.zero_add, Nat.add_zero, Nat.mul_zero, decide_eq_true_eq, nv_inT, hF, h17, c1]
    exact this
  · have hw : w = nv 0 := by omega
    simp (disch := omega) only [X5_play_55, ↓w_bd, ↓w_rt, ↓w_bh, sm_l, sm_r, ↓w_okr, ↓w_nm, ↓w_ite, ↓reduceIte, not_true_eq_false, not_false_eq_true, and_true, true_and, and_self, Option.some.injEq, reduceCtorEq, eq_self, ↓w_rc, ↓w_gI, ↓w_gR, ↓w_aN, ↓w_aI, ↓w_aR, ↓w_ca, ↓w_ca0, nv_lit, nv_f, nv_add, nv_mul, nv_sub, nv_le, nv_lt, nv_eq, nv_cl, Nat.reduceMod, Nat.reduceMul, Nat.reduceAdd, Nat.zero_add, Nat.add_zero, Nat.mul_zero, decide_eq_true_eq, nv_inT, hF, h17, c1, hw]
    exact this
def AcQ (G : Nat → Nat) (B : Nat → Nat × Nat) (S : Gst) (a : Hp) (n : Nat) (K : Nat → Cmd) (m f2 i : Nat) (r : Int32) (b : Hp) : Prop :=
  ∃ B' S', (JC G B' S' b ∧ Frm G B a b ∧ hSz b ≤ hSz a + 405 * m ∧ hSl b ≤ hSl a + 2510 * m) ∧ ∀ c, JT G S c → hI c (G 10) 17 = nv n → Ent (hI c (G 17)) n K → Wp (X5_play_55 f2 (G 10) (nv i) (nv 1) (nv i)) c (fun w d => w = r ∧ JT G S' d ∧ Tf G c d)
theorem acts_j {G : Nat → Nat} {rq q5 n : Nat} {K : Nat → Cmd} (hn : n ≤ 25) (hv : ∀ i, i < n → Vld (K i)) :
    ∀ (m i f f2 : Nat) (B : Nat → Nat × Nat) (S : Gst) (a : Hp), n - i = m → i ≤ n → m < f → m + 1 < f2 → JC G B S a → PlS G B a rq q5 n K → Wp (X1_play_56 f (some q5) (nv i)) a (AcQ G B S a n K m f2 i) := by
  intro m
  induction m with
  | zero =>
    intro i f f2 B S a e hi hf hf2 hC hP
    obtain ⟨f, rfl⟩ : ∃ g, f = g + 1 := ⟨f - 1, by omega⟩
    obtain ⟨f2, rfl⟩ : ∃ g, f2 = g + 1 := ⟨f2 - 1, by omega⟩
    obtain ⟨⟨h1, h2, h3⟩, ⟨h4, h5, h6⟩, h7, h8⟩ := hP
    have r := h8 i (by omega) (by omega)
    simp (disch := omega) only [X1_play_56, X1_play_79, ↓w_bd, ↓w_rt, ↓w_bh, sm_l, sm_r, ↓w_okr, ↓w_nm, ↓w_ite, ↓reduceIte, not_true_eq_false, not_false_eq_true, and_true, true_and, and_self, Option.some.injEq, reduceCtorEq, eq_self, ↓w_rc, ↓w_gI, ↓w_gR, ↓w_aN, ↓w_aI, ↓w_aR, ↓w_aL, ↓w_pI, ↓w_pR, ↓w_sI, ↓w_sR, ↓w_sL, ↓w_nO, ↓w_nA, ↓w_nL, ↓w_ca, ↓w_ca0, ↓w_gS, ↓w_gK, ↓w_dv, ↓w_tw, ↓w_rz, ↓w_no, nv_lit, nv_f, nv_add, nv_mul, nv_sub, nv_le, nv_lt, nv_eq, nv_cl, Nat.reduceMod, Nat.reduceMul, Nat.reduceAdd, Nat.zero_add, Nat.add_zero, Nat.mul_zero, decide_eq_true_eq, nv_inT, h5, h6, r]
    refine ⟨B, S, ⟨hC, (E0.rf a).fr G B, by omega, by omega⟩, fun c hc h17 hE => ?_⟩
    exact p55_e hC.1.gd hc h17 (by omega) (by omega) _ _ (.inl (by omega)) _ fun d hd ht => ⟨rfl, hd, ht⟩
  | succ m ih =>
    intro i f f2 B S a e hi hf hf2 hC hP
    obtain ⟨f, rfl⟩ : ∃ g, f = g + 1 := ⟨f - 1, by omega⟩
    obtain ⟨f2, rfl⟩ : ∃ g, f2 = g + 1 := ⟨f2 - 1, by omega⟩
    have hG := hC.1.gd
    have hP' := hP
    obtain ⟨⟨h1, h2, h3⟩, ⟨h4, h5, h6⟩, h7, h8⟩ := hP'
    obtain ⟨q, r, hls⟩ := h7 i (by omega)
    have hvi := hv i (by omega)
    simp (disch := omega) only [X1_play_56, X1_play_79, ↓w_bd, ↓w_rt, ↓w_bh, sm_l, sm_r, ↓w_okr, ↓w_nm, ↓w_ite, ↓reduceIte, not_true_eq_false, not_false_eq_true, and_true, true_and, and_self, Option.some.injEq, reduceCtorEq, eq_self, ↓w_rc, ↓w_gI, ↓w_gR, ↓w_aN, ↓w_aI, ↓w_aR, ↓w_ca, ↓w_ca0, nv_lit, nv_f, nv_add, nv_mul, nv_sub, nv_le, nv_lt, nv_eq, nv_cl, Nat.reduceMod, Nat.reduceMul, Nat.reduceAdd, Nat.zero_add, Nat.add_zero, Nat.mul_zero, decide_eq_true_eq, nv_inT, h5, h6, r]
    refine w_mono (does_j hC ⟨h2, h3, h1.1⟩ hls.c hvi) fun x b hb => ?_
    obtain ⟨B1, S1, ⟨jc, fr, hB, hz, hl⟩, tw⟩ := hb
    have twin : ∀ c, JT G S c → hI c (G 10) 17 = nv n → Ent (hI c (G 17)) n K → ∀ Q : Int32 → Hp → Prop, (∀ d, JT G S1 d → Tf G c d → (x < nv 0 → Wp (X5_play_55 f2 (G 10) (nv i) (nv 0) (nv (i + 1))) d Q) ∧ (¬ x < nv 0 → Wp (X5_play_55 f2 (G 10) (nv (i + 1)) (nv 1) (nv (i + 1))) d Q)) → Wp (X5_play_55 (f2 + 1) (G 10) (nv i) (nv 1) (nv i)) c Q := by
      intro c hc h17 hE Q hQ
      have hF := hc.1
      have hEi := hE i (by omega)
      have aw := fun Q => acts_w hF (i := i) (x := (K i).1) (ts := (K i).2) (by omega) hvi.1 hvi.2.1 hEi.1 hEi.2 (Q := Q)
      simp (disch := omega) only [X5_play_55, X5_play_88, X5_play_89, ↓w_bd, ↓w_rt, ↓w_bh, sm_l, sm_r, ↓w_okr, ↓w_nm, ↓w_ite, ↓reduceIte, not_true_eq_false, not_false_eq_true, and_true, true_and, and_self, Option.some.injEq, reduceCtorEq, eq_self, ↓w_rc, ↓w_gI, ↓w_gR, ↓w_aN, ↓w_aI, ↓w_aR, ↓w_ca, ↓w_ca0, nv_lit, nv_f, nv_add, nv_mul, nv_sub, nv_le, nv_lt, nv_eq, nv_cl, Nat.reduceMod, Nat.reduceMul, Nat.reduceAdd, Nat.zero_add, Nat.add_zero, Nat.mul_zero, decide_eq_true_eq, nv_inT, hF, h17, n10, show ¬ n ≤ i by omega, aw]
      refine w_mono (tw c hc) fun w d hd => ?_
      obtain ⟨jd, td, hx⟩ := hd
      have hFd := jd.1
      obtain ⟨q1, q2⟩ := hQ d jd td
      rcases hx with ⟨x5, rfl⟩ | ⟨x5, rfl⟩
      · by_cases c1 : w < nv 0
        · have := q1 c1
          simp (disch := omega) only [↓w_bd, ↓w_rt, ↓w_bh, sm_l, sm_r, ↓w_okr, ↓w_nm, ↓w_ite, ↓reduceIte, not_true_eq_false, not_false_eq_true, and_true, true_and, and_self, Option.some.injEq, reduceCtorEq, eq_self, ↓w_rc, ↓w_gI, ↓w_gR, ↓w_aN, ↓w_aI, ↓w_aR, ↓w_ca, ↓w_ca0, nv_lit, nv_f, nv_add, nv_mul, nv_sub, nv_le, nv_lt, nv_eq, nv_cl, Nat.reduceMod, Nat.reduceMul, Nat.reduceAdd, Nat.zero_add, Nat.add_zero, Nat.mul_zero, decide_eq_true_eq, nv_inT, c1, X5_one_0]
          exact this
        · have := q2 c1
          simp (disch := omega) only [↓w_bd, ↓w_rt, ↓w_bh, sm_l, sm_r, ↓w_okr, ↓w_nm, ↓w_ite, ↓reduceIte, not_true_eq_false, not_false_eq_true, and_true, true_and, and_self, Option.some.injEq, reduceCtorEq, eq_self, ↓w_rc, ↓w_gI, ↓w_gR, ↓w_aN, ↓w_aI, ↓w_aR, ↓w_ca, ↓w_ca0, nv_lit, nv_f, nv_add, nv_mul, nv_sub, nv_le, nv_lt, nv_eq, nv_cl, Nat.reduceMod, Nat.reduceMul, Nat.reduceAdd, Nat.zero_add, Nat.add_zero, Nat.mul_zero, decide_eq_true_eq, nv_inT, c1, hFd, x5, X5_one_1]
          exact this
      · have := q1 (by decide)
        by_cases c1 : w < nv 0
        · simp (disch := omega) only [↓w_bd, ↓w_rt, ↓w_bh, sm_l, sm_r, ↓w_okr, ↓w_nm, ↓w_ite, ↓reduceIte, not_true_eq_false, not_false_eq_true, and_true, true_and, and_self, Option.some.injEq, reduceCtorEq, eq_self, ↓w_rc, ↓w_gI, ↓w_gR, ↓w_aN, ↓w_aI, ↓w_aR, ↓w_ca, ↓w_ca0, nv_lit, nv_f, nv_add, nv_mul, nv_sub, nv_le, nv_lt, nv_eq, nv_cl, Nat.reduceMod, Nat.reduceMul, Nat.reduceAdd, Nat.zero_add, Nat.add_zero, Nat.mul_zero, decide_eq_true_eq, nv_inT, c1, X5_one_0]
          exact this
        · simp (disch := omega) only [↓w_bd, ↓w_rt, ↓w_bh, sm_l, sm_r, ↓w_okr, ↓w_nm, ↓w_ite, ↓reduceIte, not_true_eq_false, not_false_eq_true, and_true, true_and, and_self, Option.some.injEq, reduceCtorEq, eq_self, ↓w_rc, ↓w_gI, ↓w_gR, ↓w_aN, ↓w_aI, ↓w_aR, ↓w_ca, ↓w_ca0, nv_lit, nv_f, nv_add, nv_mul, nv_sub, nv_le, nv_lt, nv_eq, nv_cl, Nat.reduceMod, Nat.reduceMul, Nat.reduceAdd, Nat.zero_add, Nat.add_zero, Nat.mul_zero, decide_eq_true_eq, nv_inT, c1, hFd, x5, X5_one_0]
          exact this
    by_cases c1 : x < nv 0
    · simp (disch := omega) only [↓w_bd, ↓w_rt, ↓w_bh, sm_l, sm_r, ↓w_okr, ↓w_nm, ↓w_ite, ↓reduceIte, not_true_eq_false, not_false_eq_true, and_true, true_and, and_self, Option.some.injEq, reduceCtorEq, eq_self, ↓w_rc, ↓w_gI, ↓w_gR, ↓w_aN, ↓w_aI, ↓w_aR, ↓w_ca, ↓w_ca0, nv_lit, nv_f, nv_add, nv_mul, nv_sub, nv_le, nv_lt, nv_eq, nv_cl, Nat.reduceMod, Nat.reduceMul, Nat.reduceAdd, Nat.zero_add, Nat.add_zero, Nat.mul_zero, decide_eq_true_eq, nv_inT, c1]
      refine ⟨B1, S1, ⟨jc, fr, by omega, by omega⟩, fun c hc h17 hE => twin c hc h17 hE _ fun d jd td => ⟨fun _ => ?_, fun h => absurd c1 h⟩⟩
      obtain ⟨f2, rfl⟩ : ∃ g, f2 = g + 1 := ⟨f2 - 1, by omega⟩
      refine p55_e hG jd (by rw [td.2.2.2 17 (by omega) (by omega) (by omega)]; exact h17) (by omega) (by omega) _ _ (.inr rfl) _ fun d2 jd2 td2 => ⟨rfl, jd2, td.tr td2⟩
    · simp (disch := omega) only [↓w_bd, ↓w_rt, ↓w_bh, sm_l, sm_r, ↓w_okr, ↓w_nm, ↓w_ite, ↓reduceIte, not_true_eq_false, not_false_eq_true, and_true, true_and, and_self, Option.some.injEq, reduceCtorEq, eq_self, ↓w_rc, ↓w_gI, ↓w_gR, ↓w_aN, ↓w_aI, ↓w_aR, ↓w_ca, ↓w_ca0, nv_lit, nv_f, nv_add, nv_mul, nv_sub, nv_le, nv_lt, nv_eq, nv_cl, Nat.reduceMod, Nat.reduceMul, Nat.reduceAdd, Nat.zero_add, Nat.add_zero, Nat.mul_zero, decide_eq_true_eq, nv_inT, c1]
      refine w_mono (ih (i + 1) f f2 B1 S1 b (by omega) (by omega) (by omega) (by omega) jc (hP.fr fr hB)) fun r b2 hb2 => ?_
      obtain ⟨B2, S2, ⟨jc2, fr2, hz2, hl2⟩, tw2⟩ := hb2
      refine ⟨B2, S2, ⟨jc2, fr.tr hB fr2, by omega, by omega⟩, fun c hc h17 hE => twin c hc h17 hE _ fun d jd td => ⟨fun h => absurd h c1, fun _ => ?_⟩⟩
      have n17 : hI d (G 17) = hI c (G 17) := td.2.2.1 (G 17) (hG.ne (by omega) (by omega) (by omega)) (hG.ne (by omega) (by omega) (by omega)) (hG.ne (by omega) (by omega) (by omega)) (hG.ne (by omega) (by omega) (by omega)) (hG.ne (by omega) (by omega) (by omega)) (hG.ne (by omega) (by omega) (by omega)) (hG.ne (by omega) (by omega) (by omega)) (hG.ne (by omega) (by omega) (by omega))
      refine w_mono (tw2 d jd (by rw [td.2.2.2 17 (by omega) (by omega) (by omega)]; exact h17) (by rw [n17]; exact hE)) fun w d2 hd2 => ⟨hd2.1, hd2.2.1, td.tr hd2.2.2⟩
