/-! A COMMAND ACTS, in a play -/
def PlQ (G : Nat → Nat) (B : Nat → Nat × Nat) (S : Gst) (a : Hp) (n : Mr Int32) (x : Int32) (b : Hp) : Prop :=
  ∃ B' S', (JC G B' S' b ∧ Frm G B a b ∧ (∀ q, q < hSz a → B' q = B q) ∧ hSz b ≤ hSz a + 405 ∧ hSl b ≤ hSl a + 2510) ∧ ∀ c, JT G S c → Wp n c (fun w d => JT G S' d ∧ Tf G c d ∧ ((hI d (G 10) 5 = nv 0 ∧ w = x) ∨ (¬ hI d (G 10) 5 = nv 0 ∧ x = -nv 1)))
theorem pl_of {κ : Nat → Nat} {G : Nat → Nat} {B : Nat → Nat × Nat} {S : Gst} {a b : Hp} {m : Mr (Ex ⊕ Int32)} {n : Mr Int32} (hE : E0 a b) (hz : hSz b ≤ hSz a + 5) (hl : hSl b ≤ hSl a + 10) (hA : Act κ G B S b m n) (hN : ¬ Wp m b Thw) : Wp m b (fun r b' => Sm r (fun _ => False) (fun x => PlQ G B S a n x b')) := by
  obtain ⟨r, b', hr, B', S', ⟨jc, fr, hB, hz', hl'⟩, tw⟩ := hA
  refine ⟨r, b', hr, ?_⟩
  cases r with
  | inl e => exact absurd ⟨_, _, hr, e, rfl⟩ hN
  | inr x =>
    rw [sm_r]
    refine ⟨B', S', ⟨jc, (hE.fr G B).tr (fun _ _ => rfl) fr, fun q hq => hB q (Nat.lt_of_lt_of_le hq hE.1), by omega, by omega⟩, fun c hc => w_mono (tw c hc) fun w d hd => ⟨hd.1, hd.2.1, .inl hd.2.2⟩⟩
theorem pl_x {G : Nat → Nat} {B : Nat → Nat × Nat} {S : Gst} {a b : Hp} {n : Mr Int32} (hC : JC G B S a) (hE : E0 a b) (hz : hSz b ≤ hSz a + 5) (hl : hSl b ≤ hSl a + 10) {k : Nat} (h0 : k ≠ 0) (h1 : k < 100) (hn : ∀ c, JT G S c → ∀ Q, (∀ w, Q w (th G c (nv k))) → Wp n c Q) : PlQ G B S a n (-nv 1) b := by
  have hG := hC.1.gd
  refine ⟨B, S, ⟨hC.e0 hE, hE.fr G B, fun _ _ => rfl, by omega, by omega⟩, fun c hc => hn c hc _ fun w => ⟨hc.th hG _, Tf.thr G c _, .inr ⟨?_, rfl⟩⟩⟩
  rw [th_5, nv_eq (by omega) (by omega)]
  exact h0
theorem inr_lt {k n : Nat} (hk : k < 1000000) (h : inr (nv k) n) : k < n := by
  have := h.2
  rw [nv_int (by omega)] at this
  omega
/-- the reader, as the lambdas see it -/
def Rq (G : Nat → Nat) (a : Hp) (rq : Nat) : Prop := hK a rq = 6 ∧ hR a rq 5 = some (G 0) ∧ rq < hSz a
theorem Rq.e0 {G : Nat → Nat} {a b : Hp} {rq : Nat} (h : Rq G a rq) (g : E0 a b) : Rq G b rq := by
  have o := g.2.2 rq h.2.2
  exact ⟨by rw [o.1]; exact h.1, by rw [o.2.2.1]; exact h.2.1, Nat.lt_of_lt_of_le h.2.2 g.1⟩
theorem X6_areHeaps_11 {G : Nat → Nat} {B : Nat → Nat × Nat} {a : Hp} {L : Nat → Nat} {R : Nat → Int32} (hM : Mk B a L R) (hX : FX G a L) {rq : Nat} (hq : Rq G a rq) {v w : Int32} (hv : inr v (nH R)) (hw : inr w (nH R)) {q : Nat} (h : hK a q = 41 ∧ hN a q = 2 ∧ hI a q 0 = v ∧ hI a q 1 = w) (Q : Int32 → Hp → Prop) : Wp (X6_areHeaps rq (some q)) a Q ↔ Q (nv 1) a := by
  obtain ⟨k1, k2, k3⟩ := hq
  have key : ∀ f, Wp (X6_areHeaps_8 (f + 1 + 1 + 1) rq (some q) (nv 2) (nv 0)) a Q ↔ Q (nv 1) a := by
    intro f
    simp (disch := omega) only [X6_areHeaps_8, ↓w_bd, ↓w_rt, ↓w_bh, sm_l, sm_r, ↓w_okr, ↓w_nm, ↓w_ite, ↓reduceIte, not_true_eq_false, not_false_eq_true, and_true, true_and, and_self, Option.some.injEq, reduceCtorEq, eq_self, ↓w_rc, ↓w_gI, ↓w_gR, ↓w_aN, ↓w_aI, ↓w_aR, ↓w_aL, ↓w_pI, ↓w_pR, ↓w_sI, ↓w_sR, ↓w_sL, ↓w_nO, ↓w_nA, ↓w_nL, ↓w_ca, ↓w_ca0, ↓w_gS, ↓w_gK, ↓w_dv, ↓w_tw, ↓w_rz, ↓w_no, nv_lit, nv_f, nv_add, nv_mul, nv_sub, nv_le, nv_lt, nv_eq, nv_cl, Nat.reduceMod, Nat.reduceMul, Nat.reduceAdd, Nat.zero_add, Nat.add_zero, Nat.mul_zero, decide_eq_true_eq, nv_inT, mk_k hM, mk_n hM, mk_r hM, mk_i hM, hX, h, k1, k2, X3_has_1 hM hv, X3_has_1 hM hw, n10, Nat.reduceLeDiff, nrk21]
  rw [← key 99997]
  simp (disch := omega) only [X6_areHeaps, ↓w_bd, ↓w_rt, ↓w_bh, sm_l, sm_r, ↓w_okr, ↓w_nm, ↓w_ite, ↓reduceIte, not_true_eq_false, not_false_eq_true, and_true, true_and, and_self, Option.some.injEq, reduceCtorEq, eq_self, ↓w_rc, ↓w_gI, ↓w_gR, ↓w_aN, ↓w_aI, ↓w_aR, ↓w_aL, ↓w_pI, ↓w_pR, ↓w_sI, ↓w_sR, ↓w_sL, ↓w_nO, ↓w_nA, ↓w_nL, ↓w_ca, ↓w_ca0, ↓w_gS, ↓w_gK, ↓w_dv, ↓w_tw, ↓w_rz, ↓w_no, nv_lit, nv_f, nv_add, nv_mul, nv_sub, nv_le, nv_lt, nv_eq, nv_cl, Nat.reduceMod, Nat.reduceMul, Nat.reduceAdd, Nat.zero_add, Nat.add_zero, Nat.mul_zero, decide_eq_true_eq, nv_inT, h]
  rfl
theorem X6_areHeaps_0 {G : Nat → Nat} {B : Nat → Nat × Nat} {a : Hp} {L : Nat → Nat} {R : Nat → Int32} (hM : Mk B a L R) (hX : FX G a L) {rq : Nat} (hq : Rq G a rq) (hp : 1 ≤ nH R) {v w : Int32} (hv : ¬ (inr v (nH R) ∧ inr w (nH R))) {q : Nat} (h : hK a q = 41 ∧ hN a q = 2 ∧ hI a q 0 = v ∧ hI a q 1 = w) (Q : Int32 → Hp → Prop) : Wp (X6_areHeaps rq (some q)) a Q ↔ Q (nv 0) a := by
  obtain ⟨k1, k2, k3⟩ := hq
  have key : ∀ f, Wp (X6_areHeaps_8 (f + 1 + 1 + 1) rq (some q) (nv 2) (nv 0)) a Q ↔ Q (nv 0) a := by
    intro f
    by_cases h1 : inr v (nH R)
    · have h2 : ¬ inr w (nH R) := fun h => hv ⟨h1, h⟩
      simp (disch := omega) only [X6_areHeaps_8, ↓w_bd, ↓w_rt, ↓w_bh, sm_l, sm_r, ↓w_okr, ↓w_nm, ↓w_ite, ↓reduceIte, not_true_eq_false, not_false_eq_true, and_true, true_and, and_self, Option.some.injEq, reduceCtorEq, eq_self, ↓w_rc, ↓w_gI, ↓w_gR, ↓w_aN, ↓w_aI, ↓w_aR, ↓w_aL, ↓w_pI, ↓w_pR, ↓w_sI, ↓w_sR, ↓w_sL, ↓w_nO, ↓w_nA, ↓w_nL, ↓w_ca, ↓w_ca0, ↓w_gS, ↓w_gK, ↓w_dv, ↓w_tw, ↓w_rz, ↓w_no, nv_lit, nv_f, nv_add, nv_mul, nv_sub, nv_le, nv_lt, nv_eq, nv_cl, Nat.reduceMod, Nat.reduceMul, Nat.reduceAdd, Nat.zero_add, Nat.add_zero, Nat.mul_zero, decide_eq_true_eq, nv_inT, mk_k hM, mk_n hM, mk_r hM, mk_i hM, hX, h, k1, k2, X3_has_1 hM h1, X3_has_0 hM hp h2, n10, Nat.reduceLeDiff, nrk20]
    · simp (disch := omega) only [X6_areHeaps_8, ↓w_bd, ↓w_rt, ↓w_bh, sm_l, sm_r, ↓w_okr, ↓w_nm, ↓w_ite, ↓reduceIte, not_true_eq_false, not_false_eq_true, and_true, true_and, and_self, Option.some.injEq, reduceCtorEq, eq_self, ↓w_rc, ↓w_gI, ↓w_gR, ↓w_aN, ↓w_aI, ↓w_aR, ↓w_aL, ↓w_pI, ↓w_pR, ↓w_sI, ↓w_sR, ↓w_sL, ↓w_nO, ↓w_nA, ↓w_nL, ↓w_ca, ↓w_ca0, ↓w_gS, ↓w_gK, ↓w_dv, ↓w_tw, ↓w_rz, ↓w_no, nv_lit, nv_f, nv_add, nv_mul, nv_sub, nv_le, nv_lt, nv_eq, nv_cl, Nat.reduceMod, Nat.reduceMul, Nat.reduceAdd, Nat.zero_add, Nat.add_zero, Nat.mul_zero, decide_eq_true_eq, nv_inT, mk_k hM, mk_n hM, mk_r hM, mk_i hM, hX, h, k1, k2, X3_has_0 hM hp h1, n10, Nat.reduceLeDiff, nrk20]
  rw [← key 99997]
  simp (disch := omega) only [X6_areHeaps, ↓w_bd, ↓w_rt, ↓w_bh, sm_l, sm_r, ↓w_okr, ↓w_nm, ↓w_ite, ↓reduceIte, not_true_eq_false, not_false_eq_true, and_true, true_and, and_self, Option.some.injEq, reduceCtorEq, eq_self, ↓w_rc, ↓w_gI, ↓w_gR, ↓w_aN, ↓w_aI, ↓w_aR, ↓w_aL, ↓w_pI, ↓w_pR, ↓w_sI, ↓w_sR, ↓w_sL, ↓w_nO, ↓w_nA, ↓w_nL, ↓w_ca, ↓w_ca0, ↓w_gS, ↓w_gK, ↓w_dv, ↓w_tw, ↓w_rz, ↓w_no, nv_lit, nv_f, nv_add, nv_mul, nv_sub, nv_le, nv_lt, nv_eq, nv_cl, Nat.reduceMod, Nat.reduceMul, Nat.reduceAdd, Nat.zero_add, Nat.add_zero, Nat.mul_zero, decide_eq_true_eq, nv_inT, h]
  rfl
theorem X6_areHeaps_1 {G : Nat → Nat} {B : Nat → Nat × Nat} {a : Hp} {L : Nat → Nat} {R : Nat → Int32} (hM : Mk B a L R) (hX : FX G a L) {rq : Nat} (hq : Rq G a rq) {v : Int32} (hv : inr v (nH R)) {q : Nat} (h : hK a q = 41 ∧ hN a q = 1 ∧ hI a q 0 = v) (Q : Int32 → Hp → Prop) : Wp (X6_areHeaps rq (some q)) a Q ↔ Q (nv 1) a := by
  obtain ⟨k1, k2, k3⟩ := hq
  have key : ∀ f, Wp (X6_areHeaps_8 (f + 1 + 1) rq (some q) (nv 1) (nv 0)) a Q ↔ Q (nv 1) a := by
    intro f
    simp (disch := omega) only [X6_areHeaps_8, ↓w_bd, ↓w_rt, ↓w_bh, sm_l, sm_r, ↓w_okr, ↓w_nm, ↓w_ite, ↓reduceIte, not_true_eq_false, not_false_eq_true, and_true, true_and, and_self, Option.some.injEq, reduceCtorEq, eq_self, ↓w_rc, ↓w_gI, ↓w_gR, ↓w_aN, ↓w_aI, ↓w_aR, ↓w_aL, ↓w_pI, ↓w_pR, ↓w_sI, ↓w_sR, ↓w_sL, ↓w_nO, ↓w_nA, ↓w_nL, ↓w_ca, ↓w_ca0, ↓w_gS, ↓w_gK, ↓w_dv, ↓w_tw, ↓w_rz, ↓w_no, nv_lit, nv_f, nv_add, nv_mul, nv_sub, nv_le, nv_lt, nv_eq, nv_cl, Nat.reduceMod, Nat.reduceMul, Nat.reduceAdd, Nat.zero_add, Nat.add_zero, Nat.mul_zero, decide_eq_true_eq, nv_inT, mk_k hM, mk_n hM, mk_r hM, mk_i hM, hX, h, k1, k2, X3_has_1 hM hv, n10, Nat.reduceLeDiff, nrk21]
  rw [← key 99998]
  simp (disch := omega) only [X6_areHeaps, ↓w_bd, ↓w_rt, ↓w_bh, sm_l, sm_r, ↓w_okr, ↓w_nm, ↓w_ite, ↓reduceIte, not_true_eq_false, not_false_eq_true, and_true, true_and, and_self, Option.some.injEq, reduceCtorEq, eq_self, ↓w_rc, ↓w_gI, ↓w_gR, ↓w_aN, ↓w_aI, ↓w_aR, ↓w_aL, ↓w_pI, ↓w_pR, ↓w_sI, ↓w_sR, ↓w_sL, ↓w_nO, ↓w_nA, ↓w_nL, ↓w_ca, ↓w_ca0, ↓w_gS, ↓w_gK, ↓w_dv, ↓w_tw, ↓w_rz, ↓w_no, nv_lit, nv_f, nv_add, nv_mul, nv_sub, nv_le, nv_lt, nv_eq, nv_cl, Nat.reduceMod, Nat.reduceMul, Nat.reduceAdd, Nat.zero_add, Nat.add_zero, Nat.mul_zero, decide_eq_true_eq, nv_inT, h]
  rfl
theorem X6_areHeaps_x {G : Nat → Nat} {B : Nat → Nat × Nat} {a : Hp} {L : Nat → Nat} {R : Nat → Int32} (hM : Mk B a L R) (hX : FX G a L) {rq : Nat} (hq : Rq G a rq) (hp : 1 ≤ nH R) {v : Int32} (hv : ¬ inr v (nH R)) {q : Nat} (h : hK a q = 41 ∧ hN a q = 1 ∧ hI a q 0 = v) (Q : Int32 → Hp → Prop) : Wp (X6_areHeaps rq (some q)) a Q ↔ Q (nv 0) a := by
  obtain ⟨k1, k2, k3⟩ := hq
  have key : ∀ f, Wp (X6_areHeaps_8 (f + 1 + 1) rq (some q) (nv 1) (nv 0)) a Q ↔ Q (nv 0) a := by
    intro f
    simp (disch := omega) only [X6_areHeaps_8, ↓w_bd, ↓w_rt, ↓w_bh, sm_l, sm_r, ↓w_okr, ↓w_nm, ↓w_ite, ↓reduceIte, not_true_eq_false, not_false_eq_true, and_true, true_and, and_self, Option.some.injEq, reduceCtorEq, eq_self, ↓w_rc, ↓w_gI, ↓w_gR, ↓w_aN, ↓w_aI, ↓w_aR, ↓w_aL, ↓w_pI, ↓w_pR, ↓w_sI, ↓w_sR, ↓w_sL, ↓w_nO, ↓w_nA, ↓w_nL, ↓w_ca, ↓w_ca0, ↓w_gS, ↓w_gK, ↓w_dv, ↓w_tw, ↓w_rz, ↓w_no, nv_lit, nv_f, nv_add, nv_mul, nv_sub, nv_le, nv_lt, nv_eq, nv_cl, Nat.reduceMod, Nat.reduceMul, Nat.reduceAdd, Nat.zero_add, Nat.add_zero, Nat.mul_zero, decide_eq_true_eq, nv_inT, mk_k hM, mk_n hM, mk_r hM, mk_i hM, hX, h, k1, k2, X3_has_0 hM hp hv, n10, Nat.reduceLeDiff, nrk20]
  rw [← key 99998]
  simp (disch := omega) only [X6_areHeaps, ↓w_bd, ↓w_rt, ↓w_bh, sm_l, sm_r, ↓w_okr, ↓w_nm, ↓w_ite, ↓reduceIte, not_true_eq_false, not_false_eq_true, and_true, true_and, and_self, Option.some.injEq, reduceCtorEq, eq_self, ↓w_rc, ↓w_gI, ↓w_gR, ↓w_aN, ↓w_aI, ↓w_aR, ↓w_aL, ↓w_pI, ↓w_pR, ↓w_sI, ↓w_sR, ↓w_sL, ↓w_nO, ↓w_nA, ↓w_nL, ↓w_ca, ↓w_ca0, ↓w_gS, ↓w_gK, ↓w_dv, ↓w_tw, ↓w_rz, ↓w_no, nv_lit, nv_f, nv_add, nv_mul, nv_sub, nv_le, nv_lt, nv_eq, nv_cl, Nat.reduceMod, Nat.reduceMul, Nat.reduceAdd, Nat.zero_add, Nat.add_zero, Nat.mul_zero, decide_eq_true_eq, nv_inT, h]
  rfl
/-- a row of a heap: a new array, then told -/
theorem X6_hasRow_1 {G : Nat → Nat} {B : Nat → Nat × Nat} {a : Hp} {L : Nat → Nat} {R : Nat → Int32} (hM : Mk B a L R) (hX : FX G a L) {rq : Nat} (hq : Rq G a rq) {x r : Nat} (hx : x < nH R) (hr : r < nR R x) (Q : Int32 → Hp → Prop) : Wp (X6_hasRow rq (nv x) (nv r)) a Q ↔ Q (nv 1) (va1 a (nv x)) := by
  have h10 := (mk_w hM).2.1.2
  have h5 := ((mk_w hM).2.2.2 x hx).2
  have hX1 := hX.ext (va1_e a (nv x))
  have hM1 := hM.ext (va1_e a (nv x)) (B' := B) (fun _ _ => rfl)
  have hq1 := hq.e0 (va1_e a (nv x))
  have hv := inr_nv hx (by omega)
  simp (disch := omega) only [X6_hasRow, X6_hasRow_43, X6_hasRow_44, ↓w_bd, ↓w_rt, ↓w_bh, sm_l, sm_r, ↓w_okr, ↓w_nm, ↓w_ite, ↓reduceIte, not_true_eq_false, not_false_eq_true, and_true, true_and, and_self, Option.some.injEq, reduceCtorEq, eq_self, ↓w_rc, ↓w_gI, ↓w_gR, ↓w_aN, ↓w_aI, ↓w_aR, ↓w_aL, ↓w_pI, ↓w_pR, ↓w_sI, ↓w_sR, ↓w_sL, ↓w_nO, ↓w_nA, ↓w_nL, ↓w_ca, ↓w_ca0, ↓w_gS, ↓w_gK, ↓w_dv, ↓w_tw, ↓w_rz, ↓w_no, nv_lit, nv_f, nv_add, nv_mul, nv_sub, nv_le, nv_lt, nv_eq, nv_cl, Nat.reduceMod, Nat.reduceMul, Nat.reduceAdd, Nat.zero_add, Nat.add_zero, Nat.mul_zero, decide_eq_true_eq, nv_inT, hq.1, hq1.1, hq1.2.1, va1_f, va2_f, hK_new, hN_new, hK_wI, hN_wI, up1_s, Nat.reduceLeDiff, Nat.not_lt_zero, X6_areHeaps_1 hM1 hX1 hq1 hv (va1_q a _), n10, mk_k hM1, mk_r hM1, mk_n hM1, hX1, X3_at_h hM1, List.contains_cons, List.contains_nil, Nat.reduceBEq, Bool.or_true, Bool.true_or, Bool.or_false, BEq.rfl, ct_44, show ¬ nR R x ≤ r by omega, nrk21]
theorem X6_hasRow_0 {G : Nat → Nat} {B : Nat → Nat × Nat} {a : Hp} {L : Nat → Nat} {R : Nat → Int32} (hM : Mk B a L R) (hX : FX G a L) {rq : Nat} (hq : Rq G a rq) (hp : 1 ≤ nH R) {x r : Nat} (h20 : x < 1000) (hr20 : r < 1000) (h : ¬ (x < nH R ∧ r < nR R x)) (Q : Int32 → Hp → Prop) : Wp (X6_hasRow rq (nv x) (nv r)) a Q ↔ Q (nv 0) (va1 a (nv x)) := by
  have h10 := (mk_w hM).2.1.2
  have hX1 := hX.ext (va1_e a (nv x))
  have hM1 := hM.ext (va1_e a (nv x)) (B' := B) (fun _ _ => rfl)
  have hq1 := hq.e0 (va1_e a (nv x))
  by_cases hx : x < nH R
  · have h5 := ((mk_w hM).2.2.2 x hx).2
    have hv := inr_nv hx (by omega)
    simp (disch := omega) only [X6_hasRow, X6_hasRow_43, X6_hasRow_44, ↓w_bd, ↓w_rt, ↓w_bh, sm_l, sm_r, ↓w_okr, ↓w_nm, ↓w_ite, ↓reduceIte, not_true_eq_false, not_false_eq_true, and_true, true_and, and_self, Option.some.injEq, reduceCtorEq, eq_self, ↓w_rc, ↓w_gI, ↓w_gR, ↓w_aN, ↓w_aI, ↓w_aR, ↓w_aL, ↓w_pI, ↓w_pR, ↓w_sI, ↓w_sR, ↓w_sL, ↓w_nO, ↓w_nA, ↓w_nL, ↓w_ca, ↓w_ca0, ↓w_gS, ↓w_gK, ↓w_dv, ↓w_tw, ↓w_rz, ↓w_no, nv_lit, nv_f, nv_add, nv_mul, nv_sub, nv_le, nv_lt, nv_eq, nv_cl, Nat.reduceMod, Nat.reduceMul, Nat.reduceAdd, Nat.zero_add, Nat.add_zero, Nat.mul_zero, decide_eq_true_eq, nv_inT, hq.1, hq1.1, hq1.2.1, va1_f, va2_f, hK_new, hN_new, hK_wI, hN_wI, up1_s, Nat.reduceLeDiff, Nat.not_lt_zero, X6_areHeaps_1 hM1 hX1 hq1 hv (va1_q a _), n10, mk_k hM1, mk_r hM1, mk_n hM1, hX1, X3_at_h hM1, List.contains_cons, List.contains_nil, Nat.reduceBEq, Bool.or_true, Bool.true_or, Bool.or_false, BEq.rfl, ct_44, show nR R x ≤ r by omega, nrk20]
  · have hv : ¬ inr (nv x) (nH R) := fun g => hx (inr_lt (by omega) g)
    simp (disch := omega) only [X6_hasRow, X6_hasRow_43, X6_hasRow_44, ↓w_bd, ↓w_rt, ↓w_bh, sm_l, sm_r, ↓w_okr, ↓w_nm, ↓w_ite, ↓reduceIte, not_true_eq_false, not_false_eq_true, and_true, true_and, and_self, Option.some.injEq, reduceCtorEq, eq_self, ↓w_rc, ↓w_gI, ↓w_gR, ↓w_aN, ↓w_aI, ↓w_aR, ↓w_aL, ↓w_pI, ↓w_pR, ↓w_sI, ↓w_sR, ↓w_sL, ↓w_nO, ↓w_nA, ↓w_nL, ↓w_ca, ↓w_ca0, ↓w_gS, ↓w_gK, ↓w_dv, ↓w_tw, ↓w_rz, ↓w_no, nv_lit, nv_f, nv_add, nv_mul, nv_sub, nv_le, nv_lt, nv_eq, nv_cl, Nat.reduceMod, Nat.reduceMul, Nat.reduceAdd, Nat.zero_add, Nat.add_zero, Nat.mul_zero, decide_eq_true_eq, nv_inT, hq.1, hq1.1, hq1.2.1, va1_f, va2_f, hK_new, hN_new, hK_wI, hN_wI, up1_s, Nat.reduceLeDiff, Nat.not_lt_zero, X6_areHeaps_x hM1 hX1 hq1 hp hv (va1_q a _), nrk20]
theorem pl_eye {G : Nat → Nat} {B : Nat → Nat × Nat} {S : Gst} {a : Hp} (hC : JC G B S a) {rq : Nat} (hq : Rq G a rq) {x : Nat} (hx : x ≤ 9) : Wp (X6_lambda_command_4 rq (nv x)) a (PlQ G B S a (X5_setEye (G 10) (nv x))) := by
  have hJ := hC.2.1
  have := pl_of (E0.rf a) (by omega) (by omega) (act_setEye hC (nv x)) (nt_eye G hx a)
  simp (disch := omega) only [X6_lambda_command_4, ↓w_bd, ↓w_rt, ↓w_bh, sm_l, sm_r, ↓w_okr, ↓w_nm, ↓w_ite, ↓reduceIte, not_true_eq_false, not_false_eq_true, and_true, true_and, and_self, Option.some.injEq, reduceCtorEq, eq_self, ↓w_rc, ↓w_gI, ↓w_gR, ↓w_aN, ↓w_aI, ↓w_aR, ↓w_aL, ↓w_pI, ↓w_pR, ↓w_sI, ↓w_sR, ↓w_sL, ↓w_nO, ↓w_nA, ↓w_nL, ↓w_ca, ↓w_ca0, ↓w_gS, ↓w_gK, ↓w_dv, ↓w_tw, ↓w_rz, ↓w_no, nv_lit, nv_f, nv_add, nv_mul, nv_sub, nv_le, nv_lt, nv_eq, nv_cl, Nat.reduceMod, Nat.reduceMul, Nat.reduceAdd, Nat.zero_add, Nat.add_zero, Nat.mul_zero, decide_eq_true_eq, nv_inT, hq.1, hq.2.1, hJ]
  exact this
theorem pl_swap {G : Nat → Nat} {B : Nat → Nat × Nat} {S : Gst} {a : Hp} (hC : JC G B S a) {rq : Nat} (hq : Rq G a rq) {x y : Nat} (hx : x ≤ 9) (hy : y ≤ 9) : Wp (X6_lambda_command_3 rq (nv x) (nv y)) a (PlQ G B S a (X5_swap (G 10) (nv x) (nv y))) := by
  obtain ⟨L, R, hM0, hRo, hX0, h0⟩ := startC hC
  have hG := hC.1.gd
  have hS := hRo.1
  have h2 := sh_H2 hS
  have hE := va2_e a (nv x) (nv y)
  have hX := hX0.ext hE
  have hM := hM0.ext hE (B' := B) (fun _ _ => rfl)
  have hCb := hC.e0 hE
  have hJ := hCb.2.1
  have hqb := hq.e0 hE
  by_cases h : inr (nv x) (nH R) ∧ inr (nv y) (nH R)
  · have := pl_of hE (by rw [va2_z]; omega) (by rw [va2_l]; omega) (act_swap hCb (nv x) (nv y)) (nt_swap hM hX (inr_lt (by omega) h.1) (inr_lt (by omega) h.2))
    simp (disch := omega) only [X6_lambda_command_3, X6_lambda_command_3_31, ↓w_bd, ↓w_rt, ↓w_bh, sm_l, sm_r, ↓w_okr, ↓w_nm, ↓w_ite, ↓reduceIte, not_true_eq_false, not_false_eq_true, and_true, true_and, and_self, Option.some.injEq, reduceCtorEq, eq_self, ↓w_rc, ↓w_gI, ↓w_gR, ↓w_aN, ↓w_aI, ↓w_aR, ↓w_aL, ↓w_pI, ↓w_pR, ↓w_sI, ↓w_sR, ↓w_sL, ↓w_nO, ↓w_nA, ↓w_nL, ↓w_ca, ↓w_ca0, ↓w_gS, ↓w_gK, ↓w_dv, ↓w_tw, ↓w_rz, ↓w_no, nv_lit, nv_f, nv_add, nv_mul, nv_sub, nv_le, nv_lt, nv_eq, nv_cl, Nat.reduceMod, Nat.reduceMul, Nat.reduceAdd, Nat.zero_add, Nat.add_zero, Nat.mul_zero, decide_eq_true_eq, nv_inT, va1_f, va2_f, hK_new, hN_new, hK_wI, hN_wI, up1_s, Nat.reduceLeDiff, Nat.not_lt_zero, hq.1, hqb.1, hqb.2.1, hJ, X6_areHeaps_11 hM hX hqb h.1 h.2 (va2_q a _ _), n10]
    exact this
  · simp (disch := omega) only [X6_lambda_command_3, X6_lambda_command_3_31, ↓w_bd, ↓w_rt, ↓w_bh, sm_l, sm_r, ↓w_okr, ↓w_nm, ↓w_ite, ↓reduceIte, not_true_eq_false, not_false_eq_true, and_true, true_and, and_self, Option.some.injEq, reduceCtorEq, eq_self, ↓w_rc, ↓w_gI, ↓w_gR, ↓w_aN, ↓w_aI, ↓w_aR, ↓w_aL, ↓w_pI, ↓w_pR, ↓w_sI, ↓w_sR, ↓w_sL, ↓w_nO, ↓w_nA, ↓w_nL, ↓w_ca, ↓w_ca0, ↓w_gS, ↓w_gK, ↓w_dv, ↓w_tw, ↓w_rz, ↓w_no, nv_lit, nv_f, nv_add, nv_mul, nv_sub, nv_le, nv_lt, nv_eq, nv_cl, Nat.reduceMod, Nat.reduceMul, Nat.reduceAdd, Nat.zero_add, Nat.add_zero, Nat.mul_zero, decide_eq_true_eq, nv_inT, va1_f, va2_f, hK_new, hN_new, hK_wI, hN_wI, up1_s, Nat.reduceLeDiff, Nat.not_lt_zero, hq.1, hqb.1, X6_areHeaps_0 hM hX hqb (by omega) h (va2_q a _ _)]
    refine pl_x hC hE (by rw [va2_z]; omega) (by rw [va2_l]; omega) (k := 1) (by omega) (by omega) fun c hc Q hq => ?_
    obtain ⟨hF, hF0⟩ := jt_f0 hG hc h0
    have t5 := th_5 G c (nv 0)
    by_cases hv : inr (nv x) (nH R)
    · have hw : ¬ inr (nv y) (nH R) := fun g => h ⟨hv, g⟩
      simp (disch := omega) only [X5_swap, X5_swap_26, X5_swap_27, ↓w_bd, ↓w_rt, ↓w_bh, sm_l, sm_r, ↓w_okr, ↓w_nm, ↓w_ite, ↓reduceIte, not_true_eq_false, not_false_eq_true, and_true, true_and, and_self, Option.some.injEq, reduceCtorEq, eq_self, ↓w_rc, ↓w_gI, ↓w_gR, ↓w_aN, ↓w_aI, ↓w_aR, ↓w_aL, ↓w_pI, ↓w_pR, ↓w_sI, ↓w_sR, ↓w_sL, ↓w_nO, ↓w_nA, ↓w_nL, ↓w_ca, ↓w_ca0, ↓w_gS, ↓w_gK, ↓w_dv, ↓w_tw, ↓w_rz, ↓w_no, nv_lit, nv_f, nv_add, nv_mul, nv_sub, nv_le, nv_lt, nv_eq, nv_cl, Nat.reduceMod, Nat.reduceMul, Nat.reduceAdd, Nat.zero_add, Nat.add_zero, Nat.mul_zero, decide_eq_true_eq, nv_inT, th_f, th_K, th_N, th_R, th_5, th_2, okn0, Nat.reduceEqDiff, hF.1, hF0.1, X5_in_w, X5_holds_1 hF0.1.1.1 t5 n10, X5_holds_0 hF0.1.1.1 t5, n10, X5_isHeap_1 hF0 hS hv, X5_isHeap_0 hF0 hS hw]
      exact hq _
    · simp (disch := omega) only [X5_swap, X5_swap_26, X5_swap_27, ↓w_bd, ↓w_rt, ↓w_bh, sm_l, sm_r, ↓w_okr, ↓w_nm, ↓w_ite, ↓reduceIte, not_true_eq_false, not_false_eq_true, and_true, true_and, and_self, Option.some.injEq, reduceCtorEq, eq_self, ↓w_rc, ↓w_gI, ↓w_gR, ↓w_aN, ↓w_aI, ↓w_aR, ↓w_aL, ↓w_pI, ↓w_pR, ↓w_sI, ↓w_sR, ↓w_sL, ↓w_nO, ↓w_nA, ↓w_nL, ↓w_ca, ↓w_ca0, ↓w_gS, ↓w_gK, ↓w_dv, ↓w_tw, ↓w_rz, ↓w_no, nv_lit, nv_f, nv_add, nv_mul, nv_sub, nv_le, nv_lt, nv_eq, nv_cl, Nat.reduceMod, Nat.reduceMul, Nat.reduceAdd, Nat.zero_add, Nat.add_zero, Nat.mul_zero, decide_eq_true_eq, nv_inT, th_f, th_K, th_N, th_R, th_5, th_2, okn0, Nat.reduceEqDiff, hF.1, hF0.1, X5_in_w, X5_holds_1 hF0.1.1.1 t5 n10, X5_holds_0 hF0.1.1.1 t5, X5_isHeap_0 hF0 hS hv]
      exact hq _
theorem pl_put {G : Nat → Nat} {B : Nat → Nat × Nat} {S : Gst} {a : Hp} (hC : JC G B S a) {rq : Nat} (hq : Rq G a rq) {x r s : Nat} (hx : x ≤ 9) (hr : r ≤ 4) (hs : s ≤ 9) : Wp (X6_lambda_command_2 rq (nv x) (nv r) (nv s)) a (PlQ G B S a (X5_put (G 10) (nv x) (nv r) (nv s))) := by
  obtain ⟨L, R, hM0, hRo, hX0, h0⟩ := startC hC
  have hG := hC.1.gd
  have hS := hRo.1
  have h2 := sh_H2 hS
  have h10 := sh_H10 hS
  have hE := va1_e a (nv x)
  have hX := hX0.ext hE
  have hM := hM0.ext hE (B' := B) (fun _ _ => rfl)
  have hCb := hC.e0 hE
  have hJ := hCb.2.1
  have hqb := hq.e0 hE
  by_cases h : x < nH R ∧ r < nR R x
  · have h5 := sh_R5 hS h.1
    have := pl_of hE (by rw [va1_z]; omega) (by rw [va1_l]; omega) (act_put hCb (nv x) (nv r) (nv s)) (nt_put hM hX h.1 (inr_nv h.2 (by omega)) hs)
    simp (disch := omega) only [X6_lambda_command_2, X6_lambda_command_2_23, ↓w_bd, ↓w_rt, ↓w_bh, sm_l, sm_r, ↓w_okr, ↓w_nm, ↓w_ite, ↓reduceIte, not_true_eq_false, not_false_eq_true, and_true, true_and, and_self, Option.some.injEq, reduceCtorEq, eq_self, ↓w_rc, ↓w_gI, ↓w_gR, ↓w_aN, ↓w_aI, ↓w_aR, ↓w_aL, ↓w_pI, ↓w_pR, ↓w_sI, ↓w_sR, ↓w_sL, ↓w_nO, ↓w_nA, ↓w_nL, ↓w_ca, ↓w_ca0, ↓w_gS, ↓w_gK, ↓w_dv, ↓w_tw, ↓w_rz, ↓w_no, nv_lit, nv_f, nv_add, nv_mul, nv_sub, nv_le, nv_lt, nv_eq, nv_cl, Nat.reduceMod, Nat.reduceMul, Nat.reduceAdd, Nat.zero_add, Nat.add_zero, Nat.mul_zero, decide_eq_true_eq, nv_inT, hq.1, hqb.1, hqb.2.1, hJ, X6_hasRow_1 hM0 hX0 hq h.1 h.2, n10]
    exact this
  · simp (disch := omega) only [X6_lambda_command_2, X6_lambda_command_2_23, ↓w_bd, ↓w_rt, ↓w_bh, sm_l, sm_r, ↓w_okr, ↓w_nm, ↓w_ite, ↓reduceIte, not_true_eq_false, not_false_eq_true, and_true, true_and, and_self, Option.some.injEq, reduceCtorEq, eq_self, ↓w_rc, ↓w_gI, ↓w_gR, ↓w_aN, ↓w_aI, ↓w_aR, ↓w_aL, ↓w_pI, ↓w_pR, ↓w_sI, ↓w_sR, ↓w_sL, ↓w_nO, ↓w_nA, ↓w_nL, ↓w_ca, ↓w_ca0, ↓w_gS, ↓w_gK, ↓w_dv, ↓w_tw, ↓w_rz, ↓w_no, nv_lit, nv_f, nv_add, nv_mul, nv_sub, nv_le, nv_lt, nv_eq, nv_cl, Nat.reduceMod, Nat.reduceMul, Nat.reduceAdd, Nat.zero_add, Nat.add_zero, Nat.mul_zero, decide_eq_true_eq, nv_inT, hq.1, X6_hasRow_0 hM0 hX0 hq (by omega) (show x < 1000 by omega) (show r < 1000 by omega) h]
    refine pl_x hC hE (by rw [va1_z]; omega) (by rw [va1_l]; omega) (k := 1) (by omega) (by omega) fun c hc Q hq => ?_
    obtain ⟨hF, hF0⟩ := jt_f0 hG hc h0
    have t5 := th_5 G c (nv 0)
    by_cases hk : x < nH R
    · have hr0 : ¬ inr (nv r) (nR R x) := fun g => h ⟨hk, inr_lt (by omega) g⟩
      simp (disch := omega) only [X5_put, X5_put_34, ↓w_bd, ↓w_rt, ↓w_bh, sm_l, sm_r, ↓w_okr, ↓w_nm, ↓w_ite, ↓reduceIte, not_true_eq_false, not_false_eq_true, and_true, true_and, and_self, Option.some.injEq, reduceCtorEq, eq_self, ↓w_rc, ↓w_gI, ↓w_gR, ↓w_aN, ↓w_aI, ↓w_aR, ↓w_aL, ↓w_pI, ↓w_pR, ↓w_sI, ↓w_sR, ↓w_sL, ↓w_nO, ↓w_nA, ↓w_nL, ↓w_ca, ↓w_ca0, ↓w_gS, ↓w_gK, ↓w_dv, ↓w_tw, ↓w_rz, ↓w_no, nv_lit, nv_f, nv_add, nv_mul, nv_sub, nv_le, nv_lt, nv_eq, nv_cl, Nat.reduceMod, Nat.reduceMul, Nat.reduceAdd, Nat.zero_add, Nat.add_zero, Nat.mul_zero, decide_eq_true_eq, nv_inT, th_f, th_K, th_N, th_R, th_5, th_2, okn0, Nat.reduceEqDiff, hF.1, hF0.1, X5_in_w, X5_holds_1 hF0.1.1.1 t5 n10, X5_holds_0 hF0.1.1.1 t5, X5_isRow_0 hF0 hS hk hr0]
      exact hq _
    · have hv : ¬ inr (nv x) (nH R) := fun g => hk (inr_lt (by omega) g)
      simp (disch := omega) only [X5_put, X5_put_34, ↓w_bd, ↓w_rt, ↓w_bh, sm_l, sm_r, ↓w_okr, ↓w_nm, ↓w_ite, ↓reduceIte, not_true_eq_false, not_false_eq_true, and_true, true_and, and_self, Option.some.injEq, reduceCtorEq, eq_self, ↓w_rc, ↓w_gI, ↓w_gR, ↓w_aN, ↓w_aI, ↓w_aR, ↓w_aL, ↓w_pI, ↓w_pR, ↓w_sI, ↓w_sR, ↓w_sL, ↓w_nO, ↓w_nA, ↓w_nL, ↓w_ca, ↓w_ca0, ↓w_gS, ↓w_gK, ↓w_dv, ↓w_tw, ↓w_rz, ↓w_no, nv_lit, nv_f, nv_add, nv_mul, nv_sub, nv_le, nv_lt, nv_eq, nv_cl, Nat.reduceMod, Nat.reduceMul, Nat.reduceAdd, Nat.zero_add, Nat.add_zero, Nat.mul_zero, decide_eq_true_eq, nv_inT, th_f, th_K, th_N, th_R, th_5, th_2, okn0, Nat.reduceEqDiff, hF.1, hF0.1, X5_in_w, X5_holds_1 hF0.1.1.1 t5 n10, X5_holds_0 hF0.1.1.1 t5, X5_isRow_h hF0 hS hv]
      exact hq _
theorem pl_say {G : Nat → Nat} {B : Nat → Nat × Nat} {S : Gst} {a : Hp} (hC : JC G B S a) {rq : Nat} (hq : Rq G a rq) {t x w y : Nat} (ht : t ≤ 3) (hx : x ≤ 9) (hw : w ≤ 2) (hy : y ≤ 9) : Wp (X6_lambda_command_0 rq (nv t) (nv x) (nv y) (nv w)) a (PlQ G B S a (X5_say (G 10) (nv t) (nv x) (nv w) (nv y))) := by
  obtain ⟨L, R, hM0, hRo, hX0, h0⟩ := startC hC
  have hG := hC.1.gd
  have hS := hRo.1
  have h2 := sh_H2 hS
  have hT1 := sh_T1 hS
  have hT4 := sh_T4 hS
  have hE := va2_e a (nv x) (nv y)
  have hX := hX0.ext hE
  have hM := hM0.ext hE (B' := B) (fun _ _ => rfl)
  have hCb := hC.e0 hE
  have hJ0 := hC.2.1
  have hJ := hCb.2.1
  have hqb := hq.e0 hE
  by_cases ht2 : t < nT R
  · have hv := inr_nv ht2 (by omega)
    by_cases h : inr (nv x) (nH R) ∧ inr (nv y) (nH R)
    · have := pl_of hE (by rw [va2_z]; omega) (by rw [va2_l]; omega) (act_say hCb (nv t) (nv x) (nv w) (nv y)) (nt_say hM hX hv h.1 h.2 hw)
      simp (disch := omega) only [X6_lambda_command_0, X6_lambda_command_0_48, X6_lambda_command_0_49, ↓w_bd, ↓w_rt, ↓w_bh, sm_l, sm_r, ↓w_okr, ↓w_nm, ↓w_ite, ↓reduceIte, not_true_eq_false, not_false_eq_true, and_true, true_and, and_self, Option.some.injEq, reduceCtorEq, eq_self, ↓w_rc, ↓w_gI, ↓w_gR, ↓w_aN, ↓w_aI, ↓w_aR, ↓w_aL, ↓w_pI, ↓w_pR, ↓w_sI, ↓w_sR, ↓w_sL, ↓w_nO, ↓w_nA, ↓w_nL, ↓w_ca, ↓w_ca0, ↓w_gS, ↓w_gK, ↓w_dv, ↓w_tw, ↓w_rz, ↓w_no, nv_lit, nv_f, nv_add, nv_mul, nv_sub, nv_le, nv_lt, nv_eq, nv_cl, Nat.reduceMod, Nat.reduceMul, Nat.reduceAdd, Nat.zero_add, Nat.add_zero, Nat.mul_zero, decide_eq_true_eq, nv_inT, va1_f, va2_f, hK_new, hN_new, hK_wI, hN_wI, up1_s, Nat.reduceLeDiff, Nat.not_lt_zero, mk_k hM0, mk_r hM0, mk_n hM0, hX0, hJ0, hq.1, hq.2.1, hqb.1, hqb.2.1, hJ, X6_areHeaps_11 hM hX hqb h.1 h.2 (va2_q a _ _), n10, show ¬ nT R ≤ t by omega]
      exact this
    · simp (disch := omega) only [X6_lambda_command_0, X6_lambda_command_0_48, X6_lambda_command_0_49, ↓w_bd, ↓w_rt, ↓w_bh, sm_l, sm_r, ↓w_okr, ↓w_nm, ↓w_ite, ↓reduceIte, not_true_eq_false, not_false_eq_true, and_true, true_and, and_self, Option.some.injEq, reduceCtorEq, eq_self, ↓w_rc, ↓w_gI, ↓w_gR, ↓w_aN, ↓w_aI, ↓w_aR, ↓w_aL, ↓w_pI, ↓w_pR, ↓w_sI, ↓w_sR, ↓w_sL, ↓w_nO, ↓w_nA, ↓w_nL, ↓w_ca, ↓w_ca0, ↓w_gS, ↓w_gK, ↓w_dv, ↓w_tw, ↓w_rz, ↓w_no, nv_lit, nv_f, nv_add, nv_mul, nv_sub, nv_le, nv_lt, nv_eq, nv_cl, Nat.reduceMod, Nat.reduceMul, Nat.reduceAdd, Nat.zero_add, Nat.add_zero, Nat.mul_zero, decide_eq_true_eq, nv_inT, va1_f, va2_f, hK_new, hN_new, hK_wI, hN_wI, up1_s, Nat.reduceLeDiff, Nat.not_lt_zero, mk_k hM0, mk_r hM0, mk_n hM0, hX0, hJ0, hq.1, hq.2.1, hqb.1, X6_areHeaps_0 hM hX hqb (by omega) h (va2_q a _ _), show ¬ nT R ≤ t by omega]
      refine pl_x hC hE (by rw [va2_z]; omega) (by rw [va2_l]; omega) (k := 1) (by omega) (by omega) fun c hc Q hq => ?_
      obtain ⟨hF, hF0⟩ := jt_f0 hG hc h0
      have t5 := th_5 G c (nv 0)
      by_cases h1 : inr (nv x) (nH R)
      · have h1' : ¬ inr (nv y) (nH R) := fun e => h ⟨h1, e⟩
        simp (disch := omega) only [X5_say, ↓w_bd, ↓w_rt, ↓w_bh, sm_l, sm_r, ↓w_okr, ↓w_nm, ↓w_ite, ↓reduceIte, not_true_eq_false, not_false_eq_true, and_true, true_and, and_self, Option.some.injEq, reduceCtorEq, eq_self, ↓w_rc, ↓w_gI, ↓w_gR, ↓w_aN, ↓w_aI, ↓w_aR, ↓w_aL, ↓w_pI, ↓w_pR, ↓w_sI, ↓w_sR, ↓w_sL, ↓w_nO, ↓w_nA, ↓w_nL, ↓w_ca, ↓w_ca0, ↓w_gS, ↓w_gK, ↓w_dv, ↓w_tw, ↓w_rz, ↓w_no, nv_lit, nv_f, nv_add, nv_mul, nv_sub, nv_le, nv_lt, nv_eq, nv_cl, Nat.reduceMod, Nat.reduceMul, Nat.reduceAdd, Nat.zero_add, Nat.add_zero, Nat.mul_zero, decide_eq_true_eq, nv_inT, th_f, th_K, th_N, th_R, th_5, th_2, okn0, Nat.reduceEqDiff, hF.1, hF0.1, X5_in_w, X5_holds_1 hF0.1.1.1 t5 n10, X5_holds_0 hF0.1.1.1 t5, n10, X5_isTrader_1 hF0 hS hv, X5_isHeap_1 hF0 hS h1, X5_isHeap_0 hF0 hS h1']
        simp (disch := omega) only [X5_say_35, X5_say_36, X5_say_57, ↓w_bd, ↓w_rt, ↓w_bh, sm_l, sm_r, ↓w_okr, ↓w_nm, ↓w_ite, ↓reduceIte, not_true_eq_false, not_false_eq_true, and_true, true_and, and_self, Option.some.injEq, reduceCtorEq, eq_self, ↓w_rc, ↓w_gI, ↓w_gR, ↓w_aN, ↓w_aI, ↓w_aR, ↓w_aL, ↓w_pI, ↓w_pR, ↓w_sI, ↓w_sR, ↓w_sL, ↓w_nO, ↓w_nA, ↓w_nL, ↓w_ca, ↓w_ca0, ↓w_gS, ↓w_gK, ↓w_dv, ↓w_tw, ↓w_rz, ↓w_no, nv_lit, nv_f, nv_add, nv_mul, nv_sub, nv_le, nv_lt, nv_eq, nv_cl, Nat.reduceMod, Nat.reduceMul, Nat.reduceAdd, Nat.zero_add, Nat.add_zero, Nat.mul_zero, decide_eq_true_eq, nv_inT, th_f, th_K, th_N, th_R, th_5, th_2, okn0, Nat.reduceEqDiff, hF.1, hF0.1, X5_in_w, X5_holds_1 hF0.1.1.1 t5 n10, X5_holds_0 hF0.1.1.1 t5]
        exact hq _
      · simp (disch := omega) only [X5_say, ↓w_bd, ↓w_rt, ↓w_bh, sm_l, sm_r, ↓w_okr, ↓w_nm, ↓w_ite, ↓reduceIte, not_true_eq_false, not_false_eq_true, and_true, true_and, and_self, Option.some.injEq, reduceCtorEq, eq_self, ↓w_rc, ↓w_gI, ↓w_gR, ↓w_aN, ↓w_aI, ↓w_aR, ↓w_aL, ↓w_pI, ↓w_pR, ↓w_sI, ↓w_sR, ↓w_sL, ↓w_nO, ↓w_nA, ↓w_nL, ↓w_ca, ↓w_ca0, ↓w_gS, ↓w_gK, ↓w_dv, ↓w_tw, ↓w_rz, ↓w_no, nv_lit, nv_f, nv_add, nv_mul, nv_sub, nv_le, nv_lt, nv_eq, nv_cl, Nat.reduceMod, Nat.reduceMul, Nat.reduceAdd, Nat.zero_add, Nat.add_zero, Nat.mul_zero, decide_eq_true_eq, nv_inT, th_f, th_K, th_N, th_R, th_5, th_2, okn0, Nat.reduceEqDiff, hF.1, hF0.1, X5_in_w, X5_holds_1 hF0.1.1.1 t5 n10, X5_holds_0 hF0.1.1.1 t5, n10, X5_isTrader_1 hF0 hS hv, X5_isHeap_0 hF0 hS h1]
        simp (disch := omega) only [X5_say_35, X5_say_36, X5_say_57, ↓w_bd, ↓w_rt, ↓w_bh, sm_l, sm_r, ↓w_okr, ↓w_nm, ↓w_ite, ↓reduceIte, not_true_eq_false, not_false_eq_true, and_true, true_and, and_self, Option.some.injEq, reduceCtorEq, eq_self, ↓w_rc, ↓w_gI, ↓w_gR, ↓w_aN, ↓w_aI, ↓w_aR, ↓w_aL, ↓w_pI, ↓w_pR, ↓w_sI, ↓w_sR, ↓w_sL, ↓w_nO, ↓w_nA, ↓w_nL, ↓w_ca, ↓w_ca0, ↓w_gS, ↓w_gK, ↓w_dv, ↓w_tw, ↓w_rz, ↓w_no, nv_lit, nv_f, nv_add, nv_mul, nv_sub, nv_le, nv_lt, nv_eq, nv_cl, Nat.reduceMod, Nat.reduceMul, Nat.reduceAdd, Nat.zero_add, Nat.add_zero, Nat.mul_zero, decide_eq_true_eq, nv_inT, th_f, th_K, th_N, th_R, th_5, th_2, okn0, Nat.reduceEqDiff, hF.1, hF0.1, X5_in_w, X5_holds_1 hF0.1.1.1 t5 n10, X5_holds_0 hF0.1.1.1 t5]
        exact hq _
  · have hv : ¬ inr (nv t) (nT R) := fun g => ht2 (inr_lt (by omega) g)
    simp (disch := omega) only [X6_lambda_command_0, X6_lambda_command_0_48, X6_lambda_command_0_49, ↓w_bd, ↓w_rt, ↓w_bh, sm_l, sm_r, ↓w_okr, ↓w_nm, ↓w_ite, ↓reduceIte, not_true_eq_false, not_false_eq_true, and_true, true_and, and_self, Option.some.injEq, reduceCtorEq, eq_self, ↓w_rc, ↓w_gI, ↓w_gR, ↓w_aN, ↓w_aI, ↓w_aR, ↓w_aL, ↓w_pI, ↓w_pR, ↓w_sI, ↓w_sR, ↓w_sL, ↓w_nO, ↓w_nA, ↓w_nL, ↓w_ca, ↓w_ca0, ↓w_gS, ↓w_gK, ↓w_dv, ↓w_tw, ↓w_rz, ↓w_no, nv_lit, nv_f, nv_add, nv_mul, nv_sub, nv_le, nv_lt, nv_eq, nv_cl, Nat.reduceMod, Nat.reduceMul, Nat.reduceAdd, Nat.zero_add, Nat.add_zero, Nat.mul_zero, decide_eq_true_eq, nv_inT, mk_k hM0, mk_r hM0, mk_n hM0, hX0, hJ0, hq.1, hq.2.1, show nT R ≤ t by omega]
    refine pl_x hC (E0.rf a) (by omega) (by omega) (k := 1) (by omega) (by omega) fun c hc Q hq => ?_
    obtain ⟨hF, hF0⟩ := jt_f0 hG hc h0
    have t5 := th_5 G c (nv 0)
    simp (disch := omega) only [X5_say, ↓w_bd, ↓w_rt, ↓w_bh, sm_l, sm_r, ↓w_okr, ↓w_nm, ↓w_ite, ↓reduceIte, not_true_eq_false, not_false_eq_true, and_true, true_and, and_self, Option.some.injEq, reduceCtorEq, eq_self, ↓w_rc, ↓w_gI, ↓w_gR, ↓w_aN, ↓w_aI, ↓w_aR, ↓w_aL, ↓w_pI, ↓w_pR, ↓w_sI, ↓w_sR, ↓w_sL, ↓w_nO, ↓w_nA, ↓w_nL, ↓w_ca, ↓w_ca0, ↓w_gS, ↓w_gK, ↓w_dv, ↓w_tw, ↓w_rz, ↓w_no, nv_lit, nv_f, nv_add, nv_mul, nv_sub, nv_le, nv_lt, nv_eq, nv_cl, Nat.reduceMod, Nat.reduceMul, Nat.reduceAdd, Nat.zero_add, Nat.add_zero, Nat.mul_zero, decide_eq_true_eq, nv_inT, th_f, th_K, th_N, th_R, th_5, th_2, okn0, Nat.reduceEqDiff, hF.1, hF0.1, X5_in_w, X5_holds_1 hF0.1.1.1 t5 n10, X5_holds_0 hF0.1.1.1 t5, X5_isTrader_0 hF0 hS hv]
    simp (disch := omega) only [X5_say_35, X5_say_36, X5_say_57, ↓w_bd, ↓w_rt, ↓w_bh, sm_l, sm_r, ↓w_okr, ↓w_nm, ↓w_ite, ↓reduceIte, not_true_eq_false, not_false_eq_true, and_true, true_and, and_self, Option.some.injEq, reduceCtorEq, eq_self, ↓w_rc, ↓w_gI, ↓w_gR, ↓w_aN, ↓w_aI, ↓w_aR, ↓w_aL, ↓w_pI, ↓w_pR, ↓w_sI, ↓w_sR, ↓w_sL, ↓w_nO, ↓w_nA, ↓w_nL, ↓w_ca, ↓w_ca0, ↓w_gS, ↓w_gK, ↓w_dv, ↓w_tw, ↓w_rz, ↓w_no, nv_lit, nv_f, nv_add, nv_mul, nv_sub, nv_le, nv_lt, nv_eq, nv_cl, Nat.reduceMod, Nat.reduceMul, Nat.reduceAdd, Nat.zero_add, Nat.add_zero, Nat.mul_zero, decide_eq_true_eq, nv_inT, th_f, th_K, th_N, th_R, th_5, th_2, okn0, Nat.reduceEqDiff, hF.1, hF0.1, X5_in_w, X5_holds_1 hF0.1.1.1 t5 n10, X5_holds_0 hF0.1.1.1 t5]
    exact hq _
theorem pl_pair {G : Nat → Nat} {B : Nat → Nat × Nat} {S : Gst} {a : Hp} (hC : JC G B S a) {rq : Nat} (hq : Rq G a rq) {v r u : Nat} (hv : v ≤ 19) (hr : r ≤ 4) (hu : u ≤ 4) : Wp (X6_lambda_command_1 rq (nv v) (nv r) (nv u)) a (PlQ G B S a (X5_pair (G 10) (nv v) (nv r) (nv u))) := by
  obtain ⟨L, R, hM0, hRo, hX0, h0⟩ := startC hC
  have hG := hC.1.gd
  have hS := hRo.1
  have h2 := sh_H2 hS
  have h10 := sh_H10 hS
  have h20 := sh_C20 hS
  have hJ0 := hC.2.1
  by_cases hc : v < nC R
  · have hvi := inr_nv hc (by omega)
    have sh0 := sh_SH hS hc (show 0 < 2 by omega)
    have sh1 := sh_SH hS hc (show 1 < 2 by omega)
    have ea0 : cs R v 1 = nv (sd R v 0) := sh_S hS hc (s := 0) (by omega)
    have ea1 : cs R v 2 = nv (sd R v 1) := sh_S hS hc (s := 1) (by omega)
    have hE1 := va1_e a (nv (sd R v 0))
    have hX1 := hX0.ext hE1
    have hM1 := hM0.ext hE1 (B' := B) (fun _ _ => rfl)
    have hC1 := hC.e0 hE1
    have hJ1 := hC1.2.1
    have hq1 := hq.e0 hE1
    have r5 := sh_R5 hS sh0
    have q5 := sh_R5 hS sh1
    by_cases h1 : r < nR R (sd R v 0)
    · have hE2 := va1_e (va1 a (nv (sd R v 0))) (nv (sd R v 1))
      have hE := hE1.tr hE2
      have hX := hX1.ext hE2
      have hM := hM1.ext hE2 (B' := B) (fun _ _ => rfl)
      have hCb := hC1.e0 hE2
      have hJ := hCb.2.1
      have hqb := hq1.e0 hE2
      by_cases h3 : u < nR R (sd R v 1)
      · have := pl_of hE (by rw [va1_z, va1_z]; omega) (by rw [va1_l, va1_l]; omega) (act_pair hCb (nv v) (nv r) (nv u)) (nt_pair hM hX hS hc (inr_nv h1 (by omega)) (inr_nv h3 (by omega)))
        simp (disch := omega) only [X6_lambda_command_1, X6_lambda_command_1_86, X6_lambda_command_1_87, ↓w_bd, ↓w_rt, ↓w_bh, sm_l, sm_r, ↓w_okr, ↓w_nm, ↓w_ite, ↓reduceIte, not_true_eq_false, not_false_eq_true, and_true, true_and, and_self, Option.some.injEq, reduceCtorEq, eq_self, ↓w_rc, ↓w_gI, ↓w_gR, ↓w_aN, ↓w_aI, ↓w_aR, ↓w_aL, ↓w_pI, ↓w_pR, ↓w_sI, ↓w_sR, ↓w_sL, ↓w_nO, ↓w_nA, ↓w_nL, ↓w_ca, ↓w_ca0, ↓w_gS, ↓w_gK, ↓w_dv, ↓w_tw, ↓w_rz, ↓w_no, nv_lit, nv_f, nv_add, nv_mul, nv_sub, nv_le, nv_lt, nv_eq, nv_cl, Nat.reduceMod, Nat.reduceMul, Nat.reduceAdd, Nat.zero_add, Nat.add_zero, Nat.mul_zero, decide_eq_true_eq, nv_inT, mk_k hM0, mk_r hM0, mk_i hM0, mk_k hM1, mk_r hM1, mk_i hM1, hX0, hX1, hJ0, hJ1, hq.1, hq.2.1, hq1.1, hq1.2.1, hqb.1, hqb.2.1, hJ, X3_has_c1 hM0 hvi, X3_at_c hM0, X3_at_c hM1, ea0, ea1, List.contains_cons, List.contains_nil, Nat.reduceBEq, Bool.or_true, Bool.true_or, Bool.or_false, BEq.rfl, ct_88, X6_hasRow_1 hM0 hX0 hq sh0 h1, X6_hasRow_1 hM1 hX1 hq1 sh1 h3, n10]
        exact this
      · simp (disch := omega) only [X6_lambda_command_1, X6_lambda_command_1_86, X6_lambda_command_1_87, ↓w_bd, ↓w_rt, ↓w_bh, sm_l, sm_r, ↓w_okr, ↓w_nm, ↓w_ite, ↓reduceIte, not_true_eq_false, not_false_eq_true, and_true, true_and, and_self, Option.some.injEq, reduceCtorEq, eq_self, ↓w_rc, ↓w_gI, ↓w_gR, ↓w_aN, ↓w_aI, ↓w_aR, ↓w_aL, ↓w_pI, ↓w_pR, ↓w_sI, ↓w_sR, ↓w_sL, ↓w_nO, ↓w_nA, ↓w_nL, ↓w_ca, ↓w_ca0, ↓w_gS, ↓w_gK, ↓w_dv, ↓w_tw, ↓w_rz, ↓w_no, nv_lit, nv_f, nv_add, nv_mul, nv_sub, nv_le, nv_lt, nv_eq, nv_cl, Nat.reduceMod, Nat.reduceMul, Nat.reduceAdd, Nat.zero_add, Nat.add_zero, Nat.mul_zero, decide_eq_true_eq, nv_inT, mk_k hM0, mk_r hM0, mk_i hM0, mk_k hM1, mk_r hM1, mk_i hM1, hX0, hX1, hJ0, hJ1, hq.1, hq.2.1, hq1.1, hq1.2.1, X3_has_c1 hM0 hvi, X3_at_c hM0, X3_at_c hM1, ea0, ea1, List.contains_cons, List.contains_nil, Nat.reduceBEq, Bool.or_true, Bool.true_or, Bool.or_false, BEq.rfl, ct_88, X6_hasRow_1 hM0 hX0 hq sh0 h1, X6_hasRow_0 hM1 hX1 hq1 (by omega) (show sd R v 1 < 1000 by omega) (show u < 1000 by omega) (fun g => h3 g.2), n10]
        refine pl_x hC hE (by rw [va1_z, va1_z]; omega) (by rw [va1_l, va1_l]; omega) (k := 1) (by omega) (by omega) fun c' hc' Q hQ => ?_
        obtain ⟨hF, hF0⟩ := jt_f0 hG hc' h0
        have t5 := th_5 G c' (nv 0)
        have hu0 : ¬ inr (nv u) (nR R (sd R v 1)) := fun g => h3 (inr_lt (by omega) g)
        simp (disch := omega) only [X5_pair, X5_pair_46, X5_pair_47, ↓w_bd, ↓w_rt, ↓w_bh, sm_l, sm_r, ↓w_okr, ↓w_nm, ↓w_ite, ↓reduceIte, not_true_eq_false, not_false_eq_true, and_true, true_and, and_self, Option.some.injEq, reduceCtorEq, eq_self, ↓w_rc, ↓w_gI, ↓w_gR, ↓w_aN, ↓w_aI, ↓w_aR, ↓w_aL, ↓w_pI, ↓w_pR, ↓w_sI, ↓w_sR, ↓w_sL, ↓w_nO, ↓w_nA, ↓w_nL, ↓w_ca, ↓w_ca0, ↓w_gS, ↓w_gK, ↓w_dv, ↓w_tw, ↓w_rz, ↓w_no, nv_lit, nv_f, nv_add, nv_mul, nv_sub, nv_le, nv_lt, nv_eq, nv_cl, Nat.reduceMod, Nat.reduceMul, Nat.reduceAdd, Nat.zero_add, Nat.add_zero, Nat.mul_zero, decide_eq_true_eq, nv_inT, th_f, th_K, th_N, th_R, th_5, th_2, okn0, Nat.reduceEqDiff, hF.1, hF0.1, X5_in_w, X5_holds_1 hF0.1.1.1 t5 n10, X5_holds_0 hF0.1.1.1 t5, n10, X5_isClaim_1 hF0 hS hvi, X5_sideOf_w hF0 hS, X5_isRow_1 hF0 hS sh0 (inr_nv h1 (by omega)), X5_isRow_0 hF0 hS sh1 hu0]
        exact hQ _
    · simp (disch := omega) only [X6_lambda_command_1, X6_lambda_command_1_86, X6_lambda_command_1_87, ↓w_bd, ↓w_rt, ↓w_bh, sm_l, sm_r, ↓w_okr, ↓w_nm, ↓w_ite, ↓reduceIte, not_true_eq_false, not_false_eq_true, and_true, true_and, and_self, Option.some.injEq, reduceCtorEq, eq_self, ↓w_rc, ↓w_gI, ↓w_gR, ↓w_aN, ↓w_aI, ↓w_aR, ↓w_aL, ↓w_pI, ↓w_pR, ↓w_sI, ↓w_sR, ↓w_sL, ↓w_nO, ↓w_nA, ↓w_nL, ↓w_ca, ↓w_ca0, ↓w_gS, ↓w_gK, ↓w_dv, ↓w_tw, ↓w_rz, ↓w_no, nv_lit, nv_f, nv_add, nv_mul, nv_sub, nv_le, nv_lt, nv_eq, nv_cl, Nat.reduceMod, Nat.reduceMul, Nat.reduceAdd, Nat.zero_add, Nat.add_zero, Nat.mul_zero, decide_eq_true_eq, nv_inT, mk_k hM0, mk_r hM0, mk_i hM0, hX0, hJ0, hq.1, hq.2.1, X3_has_c1 hM0 hvi, X3_at_c hM0, ea0, List.contains_cons, List.contains_nil, Nat.reduceBEq, Bool.or_true, Bool.true_or, Bool.or_false, BEq.rfl, ct_88, X6_hasRow_0 hM0 hX0 hq (by omega) (show sd R v 0 < 1000 by omega) (show r < 1000 by omega) (fun g => h1 g.2), n10]
      refine pl_x hC hE1 (by rw [va1_z]; omega) (by rw [va1_l]; omega) (k := 1) (by omega) (by omega) fun c' hc' Q hQ => ?_
      obtain ⟨hF, hF0⟩ := jt_f0 hG hc' h0
      have t5 := th_5 G c' (nv 0)
      have hr0 : ¬ inr (nv r) (nR R (sd R v 0)) := fun g => h1 (inr_lt (by omega) g)
      simp (disch := omega) only [X5_pair, X5_pair_46, X5_pair_47, ↓w_bd, ↓w_rt, ↓w_bh, sm_l, sm_r, ↓w_okr, ↓w_nm, ↓w_ite, ↓reduceIte, not_true_eq_false, not_false_eq_true, and_true, true_and, and_self, Option.some.injEq, reduceCtorEq, eq_self, ↓w_rc, ↓w_gI, ↓w_gR, ↓w_aN, ↓w_aI, ↓w_aR, ↓w_aL, ↓w_pI, ↓w_pR, ↓w_sI, ↓w_sR, ↓w_sL, ↓w_nO, ↓w_nA, ↓w_nL, ↓w_ca, ↓w_ca0, ↓w_gS, ↓w_gK, ↓w_dv, ↓w_tw, ↓w_rz, ↓w_no, nv_lit, nv_f, nv_add, nv_mul, nv_sub, nv_le, nv_lt, nv_eq, nv_cl, Nat.reduceMod, Nat.reduceMul, Nat.reduceAdd, Nat.zero_add, Nat.add_zero, Nat.mul_zero, decide_eq_true_eq, nv_inT, th_f, th_K, th_N, th_R, th_5, th_2, okn0, Nat.reduceEqDiff, hF.1, hF0.1, X5_in_w, X5_holds_1 hF0.1.1.1 t5 n10, X5_holds_0 hF0.1.1.1 t5, n10, X5_isClaim_1 hF0 hS hvi, X5_sideOf_w hF0 hS, X5_isRow_0 hF0 hS sh0 hr0]
      exact hQ _
  · have hv0 : ¬ inr (nv v) (nC R) := fun g => hc (inr_lt (by omega) g)
    simp (disch := omega) only [X6_lambda_command_1, X6_lambda_command_1_86, X6_lambda_command_1_87, ↓w_bd, ↓w_rt, ↓w_bh, sm_l, sm_r, ↓w_okr, ↓w_nm, ↓w_ite, ↓reduceIte, not_true_eq_false, not_false_eq_true, and_true, true_and, and_self, Option.some.injEq, reduceCtorEq, eq_self, ↓w_rc, ↓w_gI, ↓w_gR, ↓w_aN, ↓w_aI, ↓w_aR, ↓w_aL, ↓w_pI, ↓w_pR, ↓w_sI, ↓w_sR, ↓w_sL, ↓w_nO, ↓w_nA, ↓w_nL, ↓w_ca, ↓w_ca0, ↓w_gS, ↓w_gK, ↓w_dv, ↓w_tw, ↓w_rz, ↓w_no, nv_lit, nv_f, nv_add, nv_mul, nv_sub, nv_le, nv_lt, nv_eq, nv_cl, Nat.reduceMod, Nat.reduceMul, Nat.reduceAdd, Nat.zero_add, Nat.add_zero, Nat.mul_zero, decide_eq_true_eq, nv_inT, mk_k hM0, mk_r hM0, hX0, hJ0, hq.1, hq.2.1, X3_has_c0 hM0 hv0]
    refine pl_x hC (E0.rf a) (by omega) (by omega) (k := 1) (by omega) (by omega) fun c' hc' Q hQ => ?_
    obtain ⟨hF, hF0⟩ := jt_f0 hG hc' h0
    have t5 := th_5 G c' (nv 0)
    simp (disch := omega) only [X5_pair, X5_pair_46, X5_pair_47, ↓w_bd, ↓w_rt, ↓w_bh, sm_l, sm_r, ↓w_okr, ↓w_nm, ↓w_ite, ↓reduceIte, not_true_eq_false, not_false_eq_true, and_true, true_and, and_self, Option.some.injEq, reduceCtorEq, eq_self, ↓w_rc, ↓w_gI, ↓w_gR, ↓w_aN, ↓w_aI, ↓w_aR, ↓w_aL, ↓w_pI, ↓w_pR, ↓w_sI, ↓w_sR, ↓w_sL, ↓w_nO, ↓w_nA, ↓w_nL, ↓w_ca, ↓w_ca0, ↓w_gS, ↓w_gK, ↓w_dv, ↓w_tw, ↓w_rz, ↓w_no, nv_lit, nv_f, nv_add, nv_mul, nv_sub, nv_le, nv_lt, nv_eq, nv_cl, Nat.reduceMod, Nat.reduceMul, Nat.reduceAdd, Nat.zero_add, Nat.add_zero, Nat.mul_zero, decide_eq_true_eq, nv_inT, th_f, th_K, th_N, th_R, th_5, th_2, okn0, Nat.reduceEqDiff, hF.1, hF0.1, X5_in_w, X5_holds_1 hF0.1.1.1 t5 n10, X5_holds_0 hF0.1.1.1 t5, X5_isClaim_0 hF0 hS hv0]
    exact hQ _
/-- match, close, drop -/
def act3 (G : Nat → Nat) (c v : Nat) : Mr Int32 := if c = 2 then X5_match (G 10) (nv v) else if c = 3 then X5_close (G 10) (nv v) else X5_drop (G 10) (nv v)
theorem w67 : ¬ (wn 7 = wn 6 ∧ ∀ i, i < wn 7 → wl 7 i = wl 6 i) ∧ ¬ (wn 8 = wn 6 ∧ ∀ i, i < wn 8 → wl 8 i = wl 6 i) ∧ ¬ (wn 8 = wn 7 ∧ ∀ i, i < wn 8 → wl 8 i = wl 7 i) := by
  have h7 : 0 < wn 7 := by decide +kernel
  have h8 : 0 < wn 8 := by decide +kernel
  have a1 : wl 7 0 ≠ wl 6 0 := by decide +kernel
  have a2 : wl 8 0 ≠ wl 6 0 := by decide +kernel
  have a3 : wl 8 0 ≠ wl 7 0 := by decide +kernel
  exact ⟨fun g => a1 (g.2 0 h7), fun g => a2 (g.2 0 h8), fun g => a3 (g.2 0 h8)⟩
theorem pl_three {G : Nat → Nat} {B : Nat → Nat × Nat} {S : Gst} {a : Hp} (hC : JC G B S a) {rq : Nat} (hq : Rq G a rq) {c v w : Nat} (h3 : c = 2 ∨ c = 3 ∨ c = 4) (hv : v ≤ 19) (hw : Sg a w (wn (4 + c)) (wl (4 + c))) : Wp (X6_lambda_command_5 rq (nv v) (some w)) a (PlQ G B S a (act3 G c v)) := by
  obtain ⟨L, R, hM, hRo, hX, h0⟩ := startC hC
  have hG := hC.1.gd
  have hS := hRo.1
  have h10 := sh_H10 hS
  have h20 := sh_C20 hS
  have hJ := hC.2.1
  have hCo := hC.2.2.2.2.2.2.2.2.2
  have kw := hw.1
  obtain ⟨u6, x6, y6, -⟩ := co_w hCo (show 6 < 28 by omega)
  obtain ⟨u7, x7, y7, -⟩ := co_w hCo (show 7 < 28 by omega)
  have l6 := wn_b (i := 6) (by omega)
  have l7 := wn_b (i := 7) (by omega)
  have l8 := wn_b (i := 8) (by omega)
  have b6 : ∀ i, wl 6 i ≤ 255 := fun i => wl_b 6 i (by omega)
  have b7 : ∀ i, wl 7 i ≤ 255 := fun i => wl_b 7 i (by omega)
  have b8 : ∀ i, wl 8 i ≤ 255 := fun i => wl_b 8 i (by omega)
  by_cases hc : v < nC R
  · have hvi := inr_nv hc (by omega)
    rcases h3 with rfl | rfl | rfl
    · have := pl_of (E0.rf a) (by omega) (by omega) (act_match hC (nv v)) (nt_match hM hX hc)
      have q6 := fun Q => J4_equals_1 hw y6 (by omega) ⟨rfl, fun _ _ => rfl⟩ (Q := Q)
      simp (disch := omega) only [X6_lambda_command_5, X6_lambda_command_5_69, ↓w_bd, ↓w_rt, ↓w_bh, sm_l, sm_r, ↓w_okr, ↓w_nm, ↓w_ite, ↓reduceIte, not_true_eq_false, not_false_eq_true, and_true, true_and, and_self, Option.some.injEq, reduceCtorEq, eq_self, ↓w_rc, ↓w_gI, ↓w_gR, ↓w_aN, ↓w_aI, ↓w_aR, ↓w_aL, ↓w_pI, ↓w_pR, ↓w_sI, ↓w_sR, ↓w_sL, ↓w_nO, ↓w_nA, ↓w_nL, ↓w_ca, ↓w_ca0, ↓w_gS, ↓w_gK, ↓w_dv, ↓w_tw, ↓w_rz, ↓w_no, nv_lit, nv_f, nv_add, nv_mul, nv_sub, nv_le, nv_lt, nv_eq, nv_cl, Nat.reduceMod, Nat.reduceMul, Nat.reduceAdd, Nat.zero_add, Nat.add_zero, Nat.mul_zero, decide_eq_true_eq, nv_inT, mk_k hM, mk_n hM, mk_r hM, mk_i hM, hX, hJ, hq.1, hq.2.1, X3_has_c1 hM hvi, n10, ↓w_gC, x6, exists_eq_left', kw, q6]
      exact this
    · have := pl_of (E0.rf a) (by omega) (by omega) (act_close hC (nv v)) (nt_close hM hX hc)
      have q6 := fun Q => J4_equals_0 hw y6 (by omega) (by omega) b7 b6 w67.1 (Q := Q)
      have q7 := fun Q => J4_equals_1 hw y7 (by omega) ⟨rfl, fun _ _ => rfl⟩ (Q := Q)
      simp (disch := omega) only [X6_lambda_command_5, X6_lambda_command_5_69, ↓w_bd, ↓w_rt, ↓w_bh, sm_l, sm_r, ↓w_okr, ↓w_nm, ↓w_ite, ↓reduceIte, not_true_eq_false, not_false_eq_true, and_true, true_and, and_self, Option.some.injEq, reduceCtorEq, eq_self, ↓w_rc, ↓w_gI, ↓w_gR, ↓w_aN, ↓w_aI, ↓w_aR, ↓w_aL, ↓w_pI, ↓w_pR, ↓w_sI, ↓w_sR, ↓w_sL, ↓w_nO, ↓w_nA, ↓w_nL, ↓w_ca, ↓w_ca0, ↓w_gS, ↓w_gK, ↓w_dv, ↓w_tw, ↓w_rz, ↓w_no, nv_lit, nv_f, nv_add, nv_mul, nv_sub, nv_le, nv_lt, nv_eq, nv_cl, Nat.reduceMod, Nat.reduceMul, Nat.reduceAdd, Nat.zero_add, Nat.add_zero, Nat.mul_zero, decide_eq_true_eq, nv_inT, mk_k hM, mk_n hM, mk_r hM, mk_i hM, hX, hJ, hq.1, hq.2.1, X3_has_c1 hM hvi, n10, ↓w_gC, x6, x7, exists_eq_left', kw, q6, q7]
      exact this
    · have := pl_of (E0.rf a) (by omega) (by omega) (act_drop hC (nv v)) (nt_drop hM hX hc)
      have q6 := fun Q => J4_equals_0 hw y6 (by omega) (by omega) b8 b6 w67.2.1 (Q := Q)
      have q7 := fun Q => J4_equals_0 hw y7 (by omega) (by omega) b8 b7 w67.2.2 (Q := Q)
      simp (disch := omega) only [X6_lambda_command_5, X6_lambda_command_5_69, ↓w_bd, ↓w_rt, ↓w_bh, sm_l, sm_r, ↓w_okr, ↓w_nm, ↓w_ite, ↓reduceIte, not_true_eq_false, not_false_eq_true, and_true, true_and, and_self, Option.some.injEq, reduceCtorEq, eq_self, ↓w_rc, ↓w_gI, ↓w_gR, ↓w_aN, ↓w_aI, ↓w_aR, ↓w_aL, ↓w_pI, ↓w_pR, ↓w_sI, ↓w_sR, ↓w_sL, ↓w_nO, ↓w_nA, ↓w_nL, ↓w_ca, ↓w_ca0, ↓w_gS, ↓w_gK, ↓w_dv, ↓w_tw, ↓w_rz, ↓w_no, nv_lit, nv_f, nv_add, nv_mul, nv_sub, nv_le, nv_lt, nv_eq, nv_cl, Nat.reduceMod, Nat.reduceMul, Nat.reduceAdd, Nat.zero_add, Nat.add_zero, Nat.mul_zero, decide_eq_true_eq, nv_inT, mk_k hM, mk_n hM, mk_r hM, mk_i hM, hX, hJ, hq.1, hq.2.1, X3_has_c1 hM hvi, n10, ↓w_gC, x6, x7, exists_eq_left', kw, q6, q7]
      exact this
  · have hv0 : ¬ inr (nv v) (nC R) := fun g => hc (inr_lt (by omega) g)
    simp (disch := omega) only [X6_lambda_command_5, X6_lambda_command_5_69, ↓w_bd, ↓w_rt, ↓w_bh, sm_l, sm_r, ↓w_okr, ↓w_nm, ↓w_ite, ↓reduceIte, not_true_eq_false, not_false_eq_true, and_true, true_and, and_self, Option.some.injEq, reduceCtorEq, eq_self, ↓w_rc, ↓w_gI, ↓w_gR, ↓w_aN, ↓w_aI, ↓w_aR, ↓w_aL, ↓w_pI, ↓w_pR, ↓w_sI, ↓w_sR, ↓w_sL, ↓w_nO, ↓w_nA, ↓w_nL, ↓w_ca, ↓w_ca0, ↓w_gS, ↓w_gK, ↓w_dv, ↓w_tw, ↓w_rz, ↓w_no, nv_lit, nv_f, nv_add, nv_mul, nv_sub, nv_le, nv_lt, nv_eq, nv_cl, Nat.reduceMod, Nat.reduceMul, Nat.reduceAdd, Nat.zero_add, Nat.add_zero, Nat.mul_zero, decide_eq_true_eq, nv_inT, mk_k hM, mk_n hM, mk_r hM, mk_i hM, hX, hJ, hq.1, hq.2.1, X3_has_c0 hM hv0]
    refine pl_x hC (E0.rf a) (by omega) (by omega) (k := 1) (by omega) (by omega) fun c' hc' Q hQ => ?_
    obtain ⟨hF, hF0⟩ := jt_f0 hG hc' h0
    have t5 := th_5 G c' (nv 0)
    rcases h3 with rfl | rfl | rfl
    · show Wp (X5_match (G 10) (nv v)) c' Q
      simp (disch := omega) only [X5_match, ↓w_bd, ↓w_rt, ↓w_bh, sm_l, sm_r, ↓w_okr, ↓w_nm, ↓w_ite, ↓reduceIte, not_true_eq_false, not_false_eq_true, and_true, true_and, and_self, Option.some.injEq, reduceCtorEq, eq_self, ↓w_rc, ↓w_gI, ↓w_gR, ↓w_aN, ↓w_aI, ↓w_aR, ↓w_aL, ↓w_pI, ↓w_pR, ↓w_sI, ↓w_sR, ↓w_sL, ↓w_nO, ↓w_nA, ↓w_nL, ↓w_ca, ↓w_ca0, ↓w_gS, ↓w_gK, ↓w_dv, ↓w_tw, ↓w_rz, ↓w_no, nv_lit, nv_f, nv_add, nv_mul, nv_sub, nv_le, nv_lt, nv_eq, nv_cl, Nat.reduceMod, Nat.reduceMul, Nat.reduceAdd, Nat.zero_add, Nat.add_zero, Nat.mul_zero, decide_eq_true_eq, nv_inT, th_f, th_K, th_N, th_R, th_5, th_2, okn0, Nat.reduceEqDiff, hF.1, hF0.1, X5_in_w, X5_holds_1 hF0.1.1.1 t5 n10, X5_holds_0 hF0.1.1.1 t5, X5_isClaim_0 hF0 hS hv0]
      exact hQ _
    · show Wp (X5_close (G 10) (nv v)) c' Q
      simp (disch := omega) only [X5_close, ↓w_bd, ↓w_rt, ↓w_bh, sm_l, sm_r, ↓w_okr, ↓w_nm, ↓w_ite, ↓reduceIte, not_true_eq_false, not_false_eq_true, and_true, true_and, and_self, Option.some.injEq, reduceCtorEq, eq_self, ↓w_rc, ↓w_gI, ↓w_gR, ↓w_aN, ↓w_aI, ↓w_aR, ↓w_aL, ↓w_pI, ↓w_pR, ↓w_sI, ↓w_sR, ↓w_sL, ↓w_nO, ↓w_nA, ↓w_nL, ↓w_ca, ↓w_ca0, ↓w_gS, ↓w_gK, ↓w_dv, ↓w_tw, ↓w_rz, ↓w_no, nv_lit, nv_f, nv_add, nv_mul, nv_sub, nv_le, nv_lt, nv_eq, nv_cl, Nat.reduceMod, Nat.reduceMul, Nat.reduceAdd, Nat.zero_add, Nat.add_zero, Nat.mul_zero, decide_eq_true_eq, nv_inT, th_f, th_K, th_N, th_R, th_5, th_2, okn0, Nat.reduceEqDiff, hF.1, hF0.1, X5_in_w, X5_holds_1 hF0.1.1.1 t5 n10, X5_holds_0 hF0.1.1.1 t5, X5_isClaim_0 hF0 hS hv0]
      exact hQ _
    · show Wp (X5_drop (G 10) (nv v)) c' Q
      simp (disch := omega) only [X5_drop, ↓w_bd, ↓w_rt, ↓w_bh, sm_l, sm_r, ↓w_okr, ↓w_nm, ↓w_ite, ↓reduceIte, not_true_eq_false, not_false_eq_true, and_true, true_and, and_self, Option.some.injEq, reduceCtorEq, eq_self, ↓w_rc, ↓w_gI, ↓w_gR, ↓w_aN, ↓w_aI, ↓w_aR, ↓w_aL, ↓w_pI, ↓w_pR, ↓w_sI, ↓w_sR, ↓w_sL, ↓w_nO, ↓w_nA, ↓w_nL, ↓w_ca, ↓w_ca0, ↓w_gS, ↓w_gK, ↓w_dv, ↓w_tw, ↓w_rz, ↓w_no, nv_lit, nv_f, nv_add, nv_mul, nv_sub, nv_le, nv_lt, nv_eq, nv_cl, Nat.reduceMod, Nat.reduceMul, Nat.reduceAdd, Nat.zero_add, Nat.add_zero, Nat.mul_zero, decide_eq_true_eq, nv_inT, th_f, th_K, th_N, th_R, th_5, th_2, okn0, Nat.reduceEqDiff, hF.1, hF0.1, X5_in_w, X5_holds_1 hF0.1.1.1 t5 n10, X5_holds_0 hF0.1.1.1 t5, X5_isClaim_0 hF0 hS hv0]
      exact hQ _
