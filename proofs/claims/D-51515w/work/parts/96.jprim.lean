/-! BOTH READERS' STEPS -/
theorem w_rk (k q : Nat) (a : Hp) (Q : Nat → Hp → Prop) : Wp (rk k (some q)) a Q ↔ hK a q = k ∧ Q q a := by rw [rk, w_rd]; exact ex_if _ _ _
/-- letters of the constants -/
def wn (i : Nat) : Nat := (sT.getD i []).length
def wl (i j : Nat) : Nat := ((sT.getD i []).getD j 0).toNatClampNeg
theorem wl_v {i j : Nat} (hi : i < 28) (hj : j < wn i) : (sT.getD i []).getD j 0 = nv (wl i j) ∧ wl i j ≤ 127 := by
  have hf : ∀ i : Fin 28, ∀ j : Fin 7, (sT.getD i.val []).getD j.val 0 = nv (wl i.val j.val) ∧ wl i.val j.val ≤ 127 := by decide +kernel
  have hl : ∀ i : Fin 28, wn i.val ≤ 6 := by decide +kernel
  have := hl ⟨i, hi⟩
  exact hf ⟨i, hi⟩ ⟨j, by have : wn i ≤ 6 := this; omega⟩
theorem wl_b (i j : Nat) (hi : i < 28) : wl i j ≤ 255 := by
  by_cases c : j < wn i
  · have := (wl_v hi c).2
    omega
  · have : (sT.getD i []).getD j 0 = 0 := by
      rw [List.getD_eq_getElem?_getD, List.getElem?_eq_none (by unfold wn at c; omega)]
      rfl
    unfold wl
    rw [this]
    decide
theorem wn_b {i : Nat} (hi : i < 28) : wn i ≤ 6 := by
  have hl : ∀ i : Fin 28, wn i.val ≤ 6 := by decide +kernel
  exact hl ⟨i, hi⟩
theorem wn_p {i : Nat} (hi : i < 28) (h2 : 2 ≤ i) : 3 ≤ wn i := by
  have hl : ∀ i : Fin 28, 2 ≤ i.val → 3 ≤ wn i.val := by decide +kernel
  exact hl ⟨i, hi⟩ h2
/-- the token is the word i -/
def IsW (S : Gst) (s e k i : Nat) : Prop := k = 1 ∧ e - s = wn i ∧ ∀ j, j < e - s → tb S (s + j) = wl i j
theorem co_w {a : Hp} (h : Co a) {i : Nat} (hi : i < 28) : ∃ u, hS a (100 + i) = some u ∧ Sg a u (wn i) (wl i) ∧ u < hSz a ∧ hK a u = 113 := by
  obtain ⟨q, v, h1, ⟨h2, h3⟩, ⟨h4, h5, h6, h6z⟩, h7, h8, h9⟩ := h.2 i hi
  exact ⟨q, h1, ⟨by rw [h4], h6, v, h5, by rw [h7], h8, fun j hj => by rw [h9 j hj]; exact (wl_v hi hj).1, h2, h3, fun e => by rw [e, h7] at h4; omega⟩, h2, h4⟩
/-- the component's parser stands at a token -/
def Cs (G : Nat → Nat) (S : Gst) (a : Hp) (rq Z L : Nat) (d : Hp) (s e k : Nat) : Prop := (E0 a d ∧ hSz a ≤ rq ∧ rq < hSz d) ∧ (∃ w, Rc G d rq S s e k w ∧ Wrd a d k w ∧ w < hSz d) ∧ (hSz d ≤ Z + 60 * e ∧ hSl d ≤ L + 70 * e) ∧ (e ≤ gl S ∧ s ≤ e ∧ k ≤ 4)
/-- the component's parser has thrown -/
def Ce (a : Hp) (rq Z L c s : Nat) (d : Hp) (q : Nat) : Prop := E0 a d ∧ (hK d q = 7 ∧ hI d q 6 = nv c ∧ hI d q 7 = nv s) ∧ hSz d ≤ Z + 30001 ∧ hSl d ≤ L + 35008
theorem X6_require_1 {d : Hp} {rq : Nat} {v c : Int32} (h : ¬ v = nv 0) (Q : Ex ⊕ Unit → Hp → Prop) : Wp (X6_require rq v c) d Q ↔ Q (.inr ()) d := by
  simp (disch := omega) only [X6_require, ↓w_bd, ↓w_rt, ↓w_bh, sm_l, sm_r, ↓w_okr, ↓w_nm, ↓w_ite, ↓reduceIte, not_true_eq_false, not_false_eq_true, and_true, true_and, and_self, Option.some.injEq, reduceCtorEq, eq_self, ↓w_rc, ↓w_gI, ↓w_gR, ↓w_aN, ↓w_aI, ↓w_aR, ↓w_aL, ↓w_pI, ↓w_pR, ↓w_sI, ↓w_sR, ↓w_sL, ↓w_nO, ↓w_nA, ↓w_nL, ↓w_ca, ↓w_ca0, ↓w_gS, ↓w_gK, ↓w_dv, ↓w_tw, ↓w_rz, ↓w_no, nv_lit, nv_f, nv_add, nv_mul, nv_sub, nv_le, nv_lt, nv_eq, nv_cl, Nat.reduceMod, Nat.reduceMul, Nat.reduceAdd, Nat.zero_add, Nat.add_zero, Nat.mul_zero, decide_eq_true_eq, nv_inT, h]
theorem X6_require_0 {G : Nat → Nat} {B : Nat → Nat × Nat} {S : Gst} {a d : Hp} {rq Z L s e k c : Nat} (hC : JC G B S a) (h : Cs G S a rq Z L d s e k) (Q : Ex ⊕ Unit → Hp → Prop) (kk : ∀ d' q, Ce a rq Z L c s d' q → Q (.inl (4, q)) d') : Wp (X6_require rq (nv 0) (nv c)) d Q := by
  obtain ⟨⟨hE, hrq, hrz⟩, ⟨w, ⟨hb, h1, -⟩, -, -⟩, ⟨hz, hl⟩, he, -, -⟩ := h
  have gl5 := hC.2.2.2.2.2.2.1.1
  have hk := hb.1
  simp (disch := omega) only [X6_require, ↓w_bd, ↓w_rt, ↓w_bh, sm_l, sm_r, ↓w_okr, ↓w_nm, ↓w_ite, ↓reduceIte, not_true_eq_false, not_false_eq_true, and_true, true_and, and_self, Option.some.injEq, reduceCtorEq, eq_self, ↓w_rc, ↓w_gI, ↓w_gR, ↓w_aN, ↓w_aI, ↓w_aR, ↓w_aL, ↓w_pI, ↓w_pR, ↓w_sI, ↓w_sR, ↓w_sL, ↓w_nA, ↓w_nL, ↓w_ca, ↓w_ca0, ↓w_gS, ↓w_gK, ↓w_dv, ↓w_tw, ↓w_rz, ↓w_no, nv_lit, nv_f, nv_add, nv_mul, nv_sub, nv_le, nv_lt, nv_eq, nv_cl, Nat.reduceMod, Nat.reduceMul, Nat.reduceAdd, Nat.zero_add, Nat.add_zero, Nat.mul_zero, decide_eq_true_eq, nv_inT]
  refine w_nO' fun c1 e1 z1 l1 ck ci cr => ?_
  have o := e1.2.2 rq hrz
  have k1 : hK c1 rq = 6 := by rw [o.1]; exact hk
  have i1 : hI c1 rq 1 = nv s := by rw [o.2.2.2.1]; exact h1
  simp (disch := omega) only [↓w_bd, ↓w_rt, ↓w_bh, sm_l, sm_r, ↓w_okr, ↓w_nm, ↓w_ite, ↓reduceIte, not_true_eq_false, not_false_eq_true, and_true, true_and, and_self, Option.some.injEq, reduceCtorEq, eq_self, ↓w_rc, ↓w_gI, ↓w_gR, ↓w_aN, ↓w_aI, ↓w_aR, ↓w_aL, ↓w_pI, ↓w_pR, ↓w_sI, ↓w_sR, ↓w_sL, ↓w_nO, ↓w_nA, ↓w_nL, ↓w_ca, ↓w_ca0, ↓w_gS, ↓w_gK, ↓w_dv, ↓w_tw, ↓w_rz, ↓w_no, nv_lit, nv_f, nv_add, nv_mul, nv_sub, nv_le, nv_lt, nv_eq, nv_cl, Nat.reduceMod, Nat.reduceMul, Nat.reduceAdd, Nat.zero_add, Nat.add_zero, Nat.mul_zero, decide_eq_true_eq, nv_inT, k1, i1, X7_init, J7_init_2, J6_init_3, J6_init_3_60, ck, hK_wR, hK_wI, okn, ↓w_rk]
  refine kk _ _ ⟨?_, ⟨ck, ?_, ?_⟩, ?_, ?_⟩
  · have hz1 : hSz a ≤ hSz d := hE.1
    exact ((((((((((hE.tr e1).wR hz1 _).wR hz1 _).wR hz1 _).wR hz1 _).wR hz1 _).wR hz1 _).wR hz1 _).wI hz1 _).wI hz1 _)
  · rw [hI_wI, up1_s, up1_n _ _ (by omega), hI_wI, up1_s, up1_s]
  · rw [hI_wI, up1_s, up1_s]
  · show hSz c1 ≤ _; omega
  · show hSl c1 ≤ _; omega
theorem X6_adv {G : Nat → Nat} {B : Nat → Nat × Nat} {S : Gst} {a d : Hp} {rq Z L s e k s' e' k' : Nat} (hC : JC G B S a) (h : Cs G S a rq Z L d s e k) (tk : Tok (tb S) (gl S) e s' e' k') (k4 : k' ≤ 4) (t1 : e ≤ s') (t2 : s' ≤ e') (t3 : e' ≤ gl S) (Q : Unit → Hp → Prop) (kk : ∀ d', Cs G S a rq Z L d' s' e' k' → EP (fun x => x = rq) d d' → Q () d') : Wp (X6_advance rq) d Q := by
  obtain ⟨⟨hE, hrq, hrz⟩, ⟨w, hr, hw, hwz⟩, ⟨hz, hl⟩, he, hse, hk⟩ := h
  refine X6_advance_w hC hE hrq hrz hr.1 tk t2 t3 Q fun d' w' e1 p1 r1 x1 z1 l1 => ?_
  refine kk d' ⟨⟨e1, hrq, Nat.lt_of_lt_of_le hrz p1.1⟩, ⟨w', r1, x1, ?_⟩, ⟨by omega, by omega⟩, t3, t2, k4⟩ p1
  obtain ⟨-, -, v, -, -, -, -, z, -⟩ := r1.2.2.2.2.2.1
  exact z
theorem Cs.jc {G : Nat → Nat} {B : Nat → Nat × Nat} {S : Gst} {a d : Hp} {rq Z L s e k : Nat} (hC : JC G B S a) (h : Cs G S a rq Z L d s e k) : JC G B S d := hC.e0 h.1.1
/-- is the token this word -/
theorem cs_eq {G : Nat → Nat} {S : Gst} {a d : Hp} {rq Z L s e k w u i : Nat} (h5 : gl S ≤ 500) (h : Cs G S a rq Z L d s e k) (hr : Rc G d rq S s e k w) (hu : Sg d u (wn i) (wl i)) (hi : i < 28) (h2 : 2 ≤ i) (Q : Int32 → Hp → Prop) : (IsW S s e k i → (Wp (J4_equals w (some u)) d Q ↔ Q (nv 1) d)) ∧ (¬ IsW S s e k i → (Wp (J4_equals w (some u)) d Q ↔ Q (nv 0) d)) := by
  obtain ⟨-, -, -, he, hse, hk⟩ := h
  obtain ⟨r1, r2, r3, r4, r5, r6, r7, r8⟩ := hr
  have w3 := wn_p hi h2
  have w6 := wn_b hi
  constructor
  · rintro ⟨i1, i2, i3⟩
    rw [if_pos i1] at r6
    exact J4_equals_1 r6 hu (by omega) ⟨i2, i3⟩ Q
  · intro hn
    refine J4_equals_0 r6 hu (by split <;> omega) (by omega) (fun j => tb_b S _) (fun j => wl_b i j hi) (fun g => hn ?_) Q
    by_cases c : k = 1
    · rw [if_pos c] at g
      exact ⟨c, g.1, g.2⟩
    · rw [if_neg c] at g
      omega
/-! the twin -/
/-- but for the reader's and the error's fields, nothing has changed -/
def Tw (G : Nat → Nat) (a c : Hp) : Prop := c.1 = a.1 ∧ c.2.2 = a.2.2 ∧ (∀ q, q ≠ G 10 → hI c q = hI a q) ∧ ∀ j, (j < 10 ∨ 15 < j) → hI c (G 10) j = hI a (G 10) j
theorem Tw.rf (G : Nat → Nat) (a : Hp) : Tw G a a := ⟨rfl, rfl, fun _ _ => rfl, fun _ _ => rfl⟩
theorem Tw.tr {G : Nat → Nat} {a b c : Hp} (h : Tw G a b) (g : Tw G b c) : Tw G a c := ⟨g.1.trans h.1, g.2.1.trans h.2.1, fun q h1 => (g.2.2.1 q h1).trans (h.2.2.1 q h1), fun j h1 => (g.2.2.2 j h1).trans (h.2.2.2 j h1)⟩
theorem Tr.tw {G : Nat → Nat} {a c : Hp} (h : Tr G a c) : Tw G a c := ⟨h.1, h.2.1, h.2.2.1, fun j hj => h.2.2.2 j (by omega) (by omega) (by omega) (by omega)⟩
/-- the twin's parser stands at a token; it has erred -/
def Ts (G : Nat → Nat) (S : Gst) (c : Hp) (s e k : Nat) : Prop := FT G c ∧ Tx G c (tb S) (gl S) ∧ (hI c (G 10) 10 = nv 0 ∧ hI c (G 10) 11 = -nv 1) ∧ Rdt G c s e k ∧ (k = 2 → hI c (G 10) 15 = nv (tv (tb S) s (e - s))) ∧ (e ≤ gl S ∧ s ≤ e ∧ k ≤ 4)
def Tz (G : Nat → Nat) (c : Hp) (cd ps : Nat) : Prop := FT G c ∧ hI c (G 10) 10 = nv cd ∧ hI c (G 10) 11 = nv ps ∧ 0 < cd ∧ cd < 10
def erq (G : Nat → Nat) (c : Hp) (cd s : Nat) : Hp := hwI (hwI c (G 10) (up1 (hI c (G 10)) 10 (nv cd))) (G 10) (up1 (hI (hwI c (G 10) (up1 (hI c (G 10)) 10 (nv cd))) (G 10)) 11 (nv s))
theorem erq_z {G : Nat → Nat} {c : Hp} (hF : FT G c) {cd s : Nat} (h1 : 0 < cd) (h2 : cd < 10) : Tz G (erq G c cd s) cd s ∧ Tw G c (erq G c cd s) := by
  have i : ∀ j, hI (erq G c cd s) (G 10) j = up1 (up1 (hI c (G 10)) 10 (nv cd)) 11 (nv s) j := fun j => by unfold erq; rw [hI_wI, up1_s, hI_wI, up1_s]
  refine ⟨⟨hF, by rw [i, up1_n _ _ (by omega), up1_s], by rw [i, up1_s], h1, h2⟩, rfl, rfl, fun q hq => ?_, fun j hj => by rw [i, up1_n _ _ (by omega), up1_n _ _ (by omega)]⟩
  unfold erq
  rw [hI_wI, up1_n _ _ hq, hI_wI, up1_n _ _ hq]
theorem X5_must_z {G : Nat → Nat} {c : Hp} {cd ps : Nat} (h : Tz G c cd ps) (v x : Int32) (Q : Int32 → Hp → Prop) : Wp (X5_must (G 10) v x) c Q ↔ Q (nv 0) c := by
  obtain ⟨hF, h10, h11, h1, h2⟩ := h
  simp (disch := omega) only [X5_must, X5_must_24, X5_must_36, ↓w_bd, ↓w_rt, ↓w_bh, sm_l, sm_r, ↓w_okr, ↓w_nm, ↓w_ite, ↓reduceIte, not_true_eq_false, not_false_eq_true, and_true, true_and, and_self, Option.some.injEq, reduceCtorEq, eq_self, ↓w_rc, ↓w_gI, ↓w_gR, ↓w_aN, ↓w_aI, ↓w_aR, ↓w_aL, ↓w_pI, ↓w_pR, ↓w_sI, ↓w_sR, ↓w_sL, ↓w_nO, ↓w_nA, ↓w_nL, ↓w_ca, ↓w_ca0, ↓w_gS, ↓w_gK, ↓w_dv, ↓w_tw, ↓w_rz, ↓w_no, nv_lit, nv_f, nv_add, nv_mul, nv_sub, nv_le, nv_lt, nv_eq, nv_cl, Nat.reduceMod, Nat.reduceMul, Nat.reduceAdd, Nat.zero_add, Nat.add_zero, Nat.mul_zero, decide_eq_true_eq, nv_inT, hF, h10, show ¬ cd = 0 by omega, nrk20]
theorem X5_must_1 {G : Nat → Nat} {S : Gst} {c : Hp} {s e k : Nat} (h : Ts G S c s e k) {v : Int32} (hv : ¬ v = nv 0) (x : Int32) (Q : Int32 → Hp → Prop) : Wp (X5_must (G 10) v x) c Q ↔ Q (nv 1) c := by
  obtain ⟨hF, hT, ⟨h10, h11⟩, -⟩ := h
  simp (disch := omega) only [X5_must, X5_must_24, X5_must_36, ↓w_bd, ↓w_rt, ↓w_bh, sm_l, sm_r, ↓w_okr, ↓w_nm, ↓w_ite, ↓reduceIte, not_true_eq_false, not_false_eq_true, and_true, true_and, and_self, Option.some.injEq, reduceCtorEq, eq_self, ↓w_rc, ↓w_gI, ↓w_gR, ↓w_aN, ↓w_aI, ↓w_aR, ↓w_aL, ↓w_pI, ↓w_pR, ↓w_sI, ↓w_sR, ↓w_sL, ↓w_nO, ↓w_nA, ↓w_nL, ↓w_ca, ↓w_ca0, ↓w_gS, ↓w_gK, ↓w_dv, ↓w_tw, ↓w_rz, ↓w_no, nv_lit, nv_f, nv_add, nv_mul, nv_sub, nv_le, nv_lt, nv_eq, nv_cl, Nat.reduceMod, Nat.reduceMul, Nat.reduceAdd, Nat.zero_add, Nat.add_zero, Nat.mul_zero, decide_eq_true_eq, nv_inT, hF, h10, hv, nrk21]
theorem X5_must_0 {G : Nat → Nat} {S : Gst} {c : Hp} {s e k cd : Nat} (h : Ts G S c s e k) (h1 : 0 < cd) (h2 : cd < 10) (Q : Int32 → Hp → Prop) : Wp (X5_must (G 10) (nv 0) (nv cd)) c Q ↔ Q (nv 0) (erq G c cd s) := by
  obtain ⟨hF, hT, ⟨h10, h11⟩, ⟨-, h13, -⟩, -⟩ := h
  have e13 : hI (hwI c (G 10) (up1 (hI c (G 10)) 10 (nv cd))) (G 10) 13 = nv s := by rw [hI_wI, up1_s, up1_n _ _ (by omega)]; exact h13
  have hz := (erq_z hF (s := s) h1 h2).1.2.1
  have hz' := hz
  unfold erq at hz'
  simp (disch := omega) only [X5_must, X5_must_24, X5_must_36, ↓w_bd, ↓w_rt, ↓w_bh, sm_l, sm_r, ↓w_okr, ↓w_nm, ↓w_ite, ↓reduceIte, not_true_eq_false, not_false_eq_true, and_true, true_and, and_self, Option.some.injEq, reduceCtorEq, eq_self, ↓w_rc, ↓w_gI, ↓w_gR, ↓w_aN, ↓w_aI, ↓w_aR, ↓w_aL, ↓w_pI, ↓w_pR, ↓w_sI, ↓w_sR, ↓w_sL, ↓w_nO, ↓w_nA, ↓w_nL, ↓w_ca, ↓w_ca0, ↓w_gS, ↓w_gK, ↓w_dv, ↓w_tw, ↓w_rz, ↓w_no, nv_lit, nv_f, nv_add, nv_mul, nv_sub, nv_le, nv_lt, nv_eq, nv_cl, Nat.reduceMod, Nat.reduceMul, Nat.reduceAdd, Nat.zero_add, Nat.add_zero, Nat.mul_zero, decide_eq_true_eq, nv_inT, hF, h10, okn, hK_wI, e13, hz', show ¬ cd = 0 by omega, nrk20]
  rfl
theorem X5_goesOn_z {G : Nat → Nat} {c : Hp} {cd ps : Nat} (h : Tz G c cd ps) (Q : Unit → Hp → Prop) : Wp (X5_goesOn (G 10)) c Q ↔ Q () c := by
  obtain ⟨hF, h10, h11, h1, h2⟩ := h
  simp (disch := omega) only [X5_goesOn, X5_goesOn_11, ↓w_bd, ↓w_rt, ↓w_bh, sm_l, sm_r, ↓w_okr, ↓w_nm, ↓w_ite, ↓reduceIte, not_true_eq_false, not_false_eq_true, and_true, true_and, and_self, Option.some.injEq, reduceCtorEq, eq_self, ↓w_rc, ↓w_gI, ↓w_gR, ↓w_aN, ↓w_aI, ↓w_aR, ↓w_aL, ↓w_pI, ↓w_pR, ↓w_sI, ↓w_sR, ↓w_sL, ↓w_nO, ↓w_nA, ↓w_nL, ↓w_ca, ↓w_ca0, ↓w_gS, ↓w_gK, ↓w_dv, ↓w_tw, ↓w_rz, ↓w_no, nv_lit, nv_f, nv_add, nv_mul, nv_sub, nv_le, nv_lt, nv_eq, nv_cl, Nat.reduceMod, Nat.reduceMul, Nat.reduceAdd, Nat.zero_add, Nat.add_zero, Nat.mul_zero, decide_eq_true_eq, nv_inT, hF, h10, show ¬ cd = 0 by omega]
theorem X5_goesOn_s {G : Nat → Nat} {S : Gst} {c : Hp} {s e k s' e' k' : Nat} (hG : GD G) (h : Ts G S c s e k) (tk : Tok (tb S) (gl S) e s' e' k') (k4 : k' ≤ 4) (t2 : s' ≤ e') (t3 : e' ≤ gl S) (Q : Unit → Hp → Prop) (kk : ∀ c', Tw G c c' → Ts G S c' s' e' k' → Q () c') : Wp (X5_goesOn (G 10)) c Q := by
  obtain ⟨hF, hT, ⟨h10, h11⟩, ⟨h12, h13, h14⟩, -, -⟩ := h
  simp (disch := omega) only [X5_goesOn, X5_goesOn_11, ↓w_bd, ↓w_rt, ↓w_bh, sm_l, sm_r, ↓w_okr, ↓w_nm, ↓w_ite, ↓reduceIte, not_true_eq_false, not_false_eq_true, and_true, true_and, and_self, Option.some.injEq, reduceCtorEq, eq_self, ↓w_rc, ↓w_gI, ↓w_gR, ↓w_aN, ↓w_aI, ↓w_aR, ↓w_aL, ↓w_pI, ↓w_pR, ↓w_sI, ↓w_sR, ↓w_sL, ↓w_nO, ↓w_nA, ↓w_nL, ↓w_ca, ↓w_ca0, ↓w_gS, ↓w_gK, ↓w_dv, ↓w_tw, ↓w_rz, ↓w_no, nv_lit, nv_f, nv_add, nv_mul, nv_sub, nv_le, nv_lt, nv_eq, nv_cl, Nat.reduceMod, Nat.reduceMul, Nat.reduceAdd, Nat.zero_add, Nat.add_zero, Nat.mul_zero, decide_eq_true_eq, nv_inT, hF, h10]
  refine X5_next_w hG hF hT h12 tk t2 t3 _ fun d hd hr h2 => ?_
  exact kk d hd.tw ⟨hd.f hF, hT.tr hG hd, ⟨by rw [hd.2.2.2 10 (by omega) (by omega) (by omega) (by omega)]; exact h10, by rw [hd.2.2.2 11 (by omega) (by omega) (by omega) (by omega)]; exact h11⟩, hr, h2, t3, t2, k4⟩
/-- the next token -/
def Nx (S : Gst) (e s' e' k' : Nat) : Prop := Tok (tb S) (gl S) e s' e' k' ∧ k' ≤ 4 ∧ e ≤ s' ∧ s' ≤ e' ∧ e' ≤ gl S ∧ (k' ≠ 0 → e < e')
theorem nx_ex (S : Gst) {e : Nat} (h : e ≤ gl S) : ∃ s' e' k', Nx S e s' e' k' := by
  obtain ⟨s, e', k, h1, h2, h3, h4, h5, h6⟩ := tok_ex (tb S) h
  exact ⟨s, e', k, h1, h2, h3, h4, h5, h6⟩
theorem X6_adn {G : Nat → Nat} {B : Nat → Nat × Nat} {S : Gst} {a d : Hp} {rq Z L s e k : Nat} (hC : JC G B S a) (h : Cs G S a rq Z L d s e k) (Q : Unit → Hp → Prop) (kk : ∀ s' e' k', Nx S e s' e' k' → ∀ d', Cs G S a rq Z L d' s' e' k' → EP (fun x => x = rq) d d' → Q () d') : Wp (X6_advance rq) d Q := by
  obtain ⟨s', e', k', hx⟩ := nx_ex S h.2.2.2.1
  have hx' := hx
  obtain ⟨h1, h2, h3, h4, h5, h6⟩ := hx'
  exact X6_adv hC h h1 h2 h3 h4 h5 Q (kk s' e' k' hx)
theorem X5_gon {G : Nat → Nat} {S : Gst} {c : Hp} {s e k s' e' k' : Nat} (hG : GD G) (h : Ts G S c s e k) (hx : Nx S e s' e' k') (Q : Unit → Hp → Prop) (kk : ∀ c', Tw G c c' → Ts G S c' s' e' k' → Q () c') : Wp (X5_goesOn (G 10)) c Q := by
  obtain ⟨h1, h2, h3, h4, h5, h6⟩ := hx
  exact X5_goesOn_s hG h h1 h2 h4 h5 Q kk
theorem bwn {x lo hi : Nat} (hx : x ≤ 20000000) (hl : lo < 1000) (hh : hi < 1000) : bw (nv x) (nv lo) (nv hi) = if lo ≤ x ∧ x ≤ hi then nv 1 else nv 0 := by
  unfold bw
  by_cases c1 : x < lo
  · rw [if_pos (by rw [nv_lt (by omega) (by omega)]; exact c1), if_neg (by omega)]
    rfl
  · rw [if_neg (by rw [nv_lt (by omega) (by omega)]; exact c1)]
    by_cases c2 : hi < x
    · rw [if_pos (by rw [nv_lt (by omega) (by omega)]; exact c2), if_neg (by omega)]
      rfl
    · rw [if_neg (by rw [nv_lt (by omega) (by omega)]; exact c2), if_pos (by omega)]
      rfl
/-- a number's value -/
def tvl (S : Gst) (s e : Nat) : Nat := tv (tb S) s (e - s)
theorem tvl_b (S : Gst) (s e : Nat) : tvl S s e ≤ 10000300 := tv_b _ _ (tb_b S) _
theorem kc_v {k v : Nat} (hk : k ≤ 4) (hv : v ≤ 4) : nv (kc k) = nv (kc v) ↔ k = v := by
  have hf : ∀ k v : Fin 5, nv (kc k.val) = nv (kc v.val) ↔ k.val = v.val := by decide +kernel
  exact hf ⟨k, by omega⟩ ⟨v, by omega⟩
theorem X6_number_w {G : Nat → Nat} {B : Nat → Nat × Nat} {S : Gst} {a d : Hp} {rq Z L s e k lo hi : Nat} (hC : JC G B S a) (h : Cs G S a rq Z L d s e k) (hl : lo ≤ 100) (hh : hi ≤ 100) (Q : Ex ⊕ Int32 → Hp → Prop)
    (k1 : k = 2 → lo ≤ tvl S s e → tvl S s e ≤ hi → ∀ s' e' k', Nx S e s' e' k' → ∀ d', Cs G S a rq Z L d' s' e' k' → EP (fun x => x = rq) d d' → Q (.inr (nv (tvl S s e))) d')
    (k2 : ∀ cd, (k ≠ 2 ∧ cd = 1) ∨ (k = 2 ∧ ¬ (lo ≤ tvl S s e ∧ tvl S s e ≤ hi) ∧ cd = 2) → ∀ d' q, Ce a rq Z L cd s d' q → Q (.inl (4, q)) d') : Wp (X6_number rq (nv lo) (nv hi)) d Q := by
  have h' := h
  obtain ⟨⟨hE, hrq, hrz⟩, ⟨w, ⟨hb, r1, r3, r4, r5, r6, r7, r8⟩, hw, hwz⟩, ⟨hz, hl'⟩, he, hse, hk4⟩ := h'
  have hk := hb.1
  have e110 : nv 110 = nv (kc 2) := rfl
  have tb' := tvl_b S s e
  by_cases c : k = 2
  · have i2 : hI d rq 2 = nv (min 1000000 (tvl S s e)) := r5 c
    have r3' : hI d rq 3 = nv 110 := by rw [r3, c]; rfl
    have hbw : bw (nv (min 1000000 (tvl S s e))) (nv lo) (nv hi) = if lo ≤ tvl S s e ∧ tvl S s e ≤ hi then nv 1 else nv 0 := by
      rw [bwn (by omega) (by omega) (by omega)]
      by_cases g : lo ≤ tvl S s e ∧ tvl S s e ≤ hi
      · rw [if_pos g, if_pos (by omega)]
      · rw [if_neg g, if_neg (by omega)]
    simp (disch := omega) only [X6_number, X6_number_15, ↓w_bd, ↓w_rt, ↓w_bh, sm_l, sm_r, ↓w_okr, ↓w_nm, ↓w_ite, ↓reduceIte, not_true_eq_false, not_false_eq_true, and_true, true_and, and_self, Option.some.injEq, reduceCtorEq, eq_self, ↓w_rc, ↓w_gI, ↓w_gR, ↓w_aN, ↓w_aI, ↓w_aR, ↓w_aL, ↓w_pI, ↓w_pR, ↓w_sI, ↓w_sR, ↓w_sL, ↓w_nA, ↓w_nL, ↓w_ca, ↓w_ca0, ↓w_gS, ↓w_gK, ↓w_dv, ↓w_tw, ↓w_rz, ↓w_no, nv_lit, nv_f, nv_add, nv_mul, nv_sub, nv_le, nv_lt, nv_eq, nv_cl, Nat.reduceMod, Nat.reduceMul, Nat.reduceAdd, Nat.zero_add, Nat.add_zero, Nat.mul_zero, decide_eq_true_eq, nv_inT, hk, r3', X6_require_1 n10, i2, X1_isBetween_w, hbw]
    by_cases g : lo ≤ tvl S s e ∧ tvl S s e ≤ hi
    · have em : min 1000000 (tvl S s e) = tvl S s e := by omega
      simp (disch := omega) only [↓w_bd, ↓w_rt, ↓w_bh, sm_l, sm_r, ↓w_okr, ↓w_nm, ↓w_ite, ↓reduceIte, not_true_eq_false, not_false_eq_true, and_true, true_and, and_self, Option.some.injEq, reduceCtorEq, eq_self, ↓w_rc, ↓w_gI, ↓w_gR, ↓w_aN, ↓w_aI, ↓w_aR, ↓w_aL, ↓w_pI, ↓w_pR, ↓w_sI, ↓w_sR, ↓w_sL, ↓w_nA, ↓w_nL, ↓w_ca, ↓w_ca0, ↓w_gS, ↓w_gK, ↓w_dv, ↓w_tw, ↓w_rz, ↓w_no, nv_lit, nv_f, nv_add, nv_mul, nv_sub, nv_le, nv_lt, nv_eq, nv_cl, Nat.reduceMod, Nat.reduceMul, Nat.reduceAdd, Nat.zero_add, Nat.add_zero, Nat.mul_zero, decide_eq_true_eq, nv_inT, eq_true g, X6_require_1 n10, hk, i2, em]
      exact X6_adn hC h _ fun s' e' k' hx d' h1 h2 => k1 c g.1 g.2 s' e' k' hx d' h1 h2
    · rw [if_neg g]
      exact X6_require_0 hC h _ fun d' q hce => k2 2 (.inr ⟨c, g, rfl⟩) d' q hce
  · have r3' : ¬ hI d rq 3 = nv 110 := by rw [r3, e110, kc_v hk4 (by omega)]; exact c
    simp (disch := omega) only [X6_number, X6_number_15, ↓w_bd, ↓w_rt, ↓w_bh, sm_l, sm_r, ↓w_okr, ↓w_nm, ↓w_ite, ↓reduceIte, not_true_eq_false, not_false_eq_true, and_true, true_and, and_self, Option.some.injEq, reduceCtorEq, eq_self, ↓w_rc, ↓w_gI, ↓w_gR, ↓w_aN, ↓w_aI, ↓w_aR, ↓w_aL, ↓w_pI, ↓w_pR, ↓w_sI, ↓w_sR, ↓w_sL, ↓w_nA, ↓w_nL, ↓w_ca, ↓w_ca0, ↓w_gS, ↓w_gK, ↓w_dv, ↓w_tw, ↓w_rz, ↓w_no, nv_lit, nv_f, nv_add, nv_mul, nv_sub, nv_le, nv_lt, nv_eq, nv_cl, Nat.reduceMod, Nat.reduceMul, Nat.reduceAdd, Nat.zero_add, Nat.add_zero, Nat.mul_zero, decide_eq_true_eq, nv_inT, hk, r3']
    exact X6_require_0 hC h _ fun d' q hce => k2 1 (.inl ⟨c, rfl⟩) d' q hce
theorem X6_end_w {G : Nat → Nat} {B : Nat → Nat × Nat} {S : Gst} {a d : Hp} {rq Z L s e k : Nat} (hC : JC G B S a) (h : Cs G S a rq Z L d s e k) (Q : Ex ⊕ Unit → Hp → Prop)
    (k1 : k = 3 → ∀ s' e' k', Nx S e s' e' k' → ∀ d', Cs G S a rq Z L d' s' e' k' → EP (fun x => x = rq) d d' → Q (.inr ()) d')
    (k2 : k ≠ 3 → ∀ d' q, Ce a rq Z L 1 s d' q → Q (.inl (4, q)) d') : Wp (X6_end rq) d Q := by
  have h' := h
  obtain ⟨⟨hE, hrq, hrz⟩, ⟨w, ⟨hb, r1, r3, r4, r5, r6, r7, r8⟩, hw, hwz⟩, ⟨hz, hl'⟩, he, hse, hk4⟩ := h'
  have hk := hb.1
  have e59 : nv 59 = nv (kc 3) := rfl
  by_cases c : k = 3
  · have r3' : hI d rq 3 = nv 59 := by rw [r3, c]; rfl
    simp (disch := omega) only [X6_end, X6_end_15, ↓w_bd, ↓w_rt, ↓w_bh, sm_l, sm_r, ↓w_okr, ↓w_nm, ↓w_ite, ↓reduceIte, not_true_eq_false, not_false_eq_true, and_true, true_and, and_self, Option.some.injEq, reduceCtorEq, eq_self, ↓w_rc, ↓w_gI, ↓w_gR, ↓w_aN, ↓w_aI, ↓w_aR, ↓w_aL, ↓w_pI, ↓w_pR, ↓w_sI, ↓w_sR, ↓w_sL, ↓w_nA, ↓w_nL, ↓w_ca, ↓w_ca0, ↓w_gS, ↓w_gK, ↓w_dv, ↓w_tw, ↓w_rz, ↓w_no, nv_lit, nv_f, nv_add, nv_mul, nv_sub, nv_le, nv_lt, nv_eq, nv_cl, Nat.reduceMod, Nat.reduceMul, Nat.reduceAdd, Nat.zero_add, Nat.add_zero, Nat.mul_zero, decide_eq_true_eq, nv_inT, hk, r3', X6_require_1 n10]
    exact X6_adn hC h _ fun s' e' k' hx d' h1 h2 => k1 c s' e' k' hx d' h1 h2
  · have r3' : ¬ hI d rq 3 = nv 59 := by rw [r3, e59, kc_v hk4 (by omega)]; exact c
    simp (disch := omega) only [X6_end, X6_end_15, ↓w_bd, ↓w_rt, ↓w_bh, sm_l, sm_r, ↓w_okr, ↓w_nm, ↓w_ite, ↓reduceIte, not_true_eq_false, not_false_eq_true, and_true, true_and, and_self, Option.some.injEq, reduceCtorEq, eq_self, ↓w_rc, ↓w_gI, ↓w_gR, ↓w_aN, ↓w_aI, ↓w_aR, ↓w_aL, ↓w_pI, ↓w_pR, ↓w_sI, ↓w_sR, ↓w_sL, ↓w_nA, ↓w_nL, ↓w_ca, ↓w_ca0, ↓w_gS, ↓w_gK, ↓w_dv, ↓w_tw, ↓w_rz, ↓w_no, nv_lit, nv_f, nv_add, nv_mul, nv_sub, nv_le, nv_lt, nv_eq, nv_cl, Nat.reduceMod, Nat.reduceMul, Nat.reduceAdd, Nat.zero_add, Nat.add_zero, Nat.mul_zero, decide_eq_true_eq, nv_inT, hk, r3']
    exact X6_require_0 hC h _ fun d' q hce => k2 c d' q hce
theorem X6_word_w {G : Nat → Nat} {B : Nat → Nat × Nat} {S : Gst} {a d : Hp} {rq Z L s e k i u : Nat} (hC : JC G B S a) (h : Cs G S a rq Z L d s e k) (hi : i < 28) (h2 : 2 ≤ i) (hu : Sg d u (wn i) (wl i)) (Q : Ex ⊕ Unit → Hp → Prop)
    (k1 : IsW S s e k i → ∀ s' e' k', Nx S e s' e' k' → ∀ d', Cs G S a rq Z L d' s' e' k' → EP (fun x => x = rq) d d' → Q (.inr ()) d')
    (k2 : ¬ IsW S s e k i → ∀ d' q, Ce a rq Z L 1 s d' q → Q (.inl (4, q)) d') : Wp (X6_word rq (some u)) d Q := by
  have h' := h
  obtain ⟨⟨hE, hrq, hrz⟩, ⟨w, hr, hw, hwz⟩, ⟨hz, hl'⟩, he, hse, hk4⟩ := h'
  have gl5 := hC.2.2.2.2.2.2.1.1
  have hk := hr.1.1
  have r4 := hr.2.2.2.1
  have kw : hK d w % 100 = 13 := hr.2.2.2.2.2.1.1
  by_cases c : IsW S s e k i
  · have q1 := fun Q => (cs_eq gl5 h hr hu hi h2 Q).1 c
    simp (disch := omega) only [X6_word, ↓w_bd, ↓w_rt, ↓w_bh, sm_l, sm_r, ↓w_okr, ↓w_nm, ↓w_ite, ↓reduceIte, not_true_eq_false, not_false_eq_true, and_true, true_and, and_self, Option.some.injEq, reduceCtorEq, eq_self, ↓w_rc, ↓w_gI, ↓w_gR, ↓w_aN, ↓w_aI, ↓w_aR, ↓w_aL, ↓w_pI, ↓w_pR, ↓w_sI, ↓w_sR, ↓w_sL, ↓w_nA, ↓w_nL, ↓w_ca, ↓w_ca0, ↓w_gS, ↓w_gK, ↓w_dv, ↓w_tw, ↓w_rz, ↓w_no, nv_lit, nv_f, nv_add, nv_mul, nv_sub, nv_le, nv_lt, nv_eq, nv_cl, Nat.reduceMod, Nat.reduceMul, Nat.reduceAdd, Nat.zero_add, Nat.add_zero, Nat.mul_zero, decide_eq_true_eq, nv_inT, hk, r4, kw, q1, X6_require_1 n10]
    exact X6_adn hC h _ fun s' e' k' hx d' h1 h2 => k1 c s' e' k' hx d' h1 h2
  · have q1 := fun Q => (cs_eq gl5 h hr hu hi h2 Q).2 c
    simp (disch := omega) only [X6_word, ↓w_bd, ↓w_rt, ↓w_bh, sm_l, sm_r, ↓w_okr, ↓w_nm, ↓w_ite, ↓reduceIte, not_true_eq_false, not_false_eq_true, and_true, true_and, and_self, Option.some.injEq, reduceCtorEq, eq_self, ↓w_rc, ↓w_gI, ↓w_gR, ↓w_aN, ↓w_aI, ↓w_aR, ↓w_aL, ↓w_pI, ↓w_pR, ↓w_sI, ↓w_sR, ↓w_sL, ↓w_nA, ↓w_nL, ↓w_ca, ↓w_ca0, ↓w_gS, ↓w_gK, ↓w_dv, ↓w_tw, ↓w_rz, ↓w_no, nv_lit, nv_f, nv_add, nv_mul, nv_sub, nv_le, nv_lt, nv_eq, nv_cl, Nat.reduceMod, Nat.reduceMul, Nat.reduceAdd, Nat.zero_add, Nat.add_zero, Nat.mul_zero, decide_eq_true_eq, nv_inT, hk, r4, kw, q1]
    exact X6_require_0 hC h _ fun d' q hce => k2 c d' q hce
/-! the twin's like steps -/
theorem X5_looks_z {G : Nat → Nat} {c : Hp} {cd ps : Nat} (h : Tz G c cd ps) (lo hi : Int32) (Q : Int32 → Hp → Prop) : Wp (X5_looks (G 10) lo hi) c Q ↔ Q lo c := by
  have hm := fun v x Q => X5_must_z h v x (Q := Q)
  obtain ⟨hF, h10, h11, h1, h2⟩ := h
  by_cases c : hI c (G 10) 14 = nv 2
  · simp (disch := omega) only [X5_looks, X5_looks_14, X5_looks_36, X5_looks_51, ↓w_bd, ↓w_rt, ↓w_bh, sm_l, sm_r, ↓w_okr, ↓w_nm, ↓w_ite, ↓reduceIte, not_true_eq_false, not_false_eq_true, and_true, true_and, and_self, Option.some.injEq, reduceCtorEq, eq_self, ↓w_rc, ↓w_gI, ↓w_gR, ↓w_aN, ↓w_aI, ↓w_aR, ↓w_aL, ↓w_pI, ↓w_pR, ↓w_sI, ↓w_sR, ↓w_sL, ↓w_nO, ↓w_nA, ↓w_nL, ↓w_ca, ↓w_ca0, ↓w_gS, ↓w_gK, ↓w_dv, ↓w_tw, ↓w_rz, ↓w_no, nv_lit, nv_f, nv_add, nv_mul, nv_sub, nv_le, nv_lt, nv_eq, nv_cl, Nat.reduceMod, Nat.reduceMul, Nat.reduceAdd, Nat.zero_add, Nat.add_zero, Nat.mul_zero, decide_eq_true_eq, nv_inT, hF, h10, hm, c, show ¬ cd = 0 by omega]
  · simp (disch := omega) only [X5_looks, X5_looks_14, X5_looks_36, X5_looks_51, ↓w_bd, ↓w_rt, ↓w_bh, sm_l, sm_r, ↓w_okr, ↓w_nm, ↓w_ite, ↓reduceIte, not_true_eq_false, not_false_eq_true, and_true, true_and, and_self, Option.some.injEq, reduceCtorEq, eq_self, ↓w_rc, ↓w_gI, ↓w_gR, ↓w_aN, ↓w_aI, ↓w_aR, ↓w_aL, ↓w_pI, ↓w_pR, ↓w_sI, ↓w_sR, ↓w_sL, ↓w_nO, ↓w_nA, ↓w_nL, ↓w_ca, ↓w_ca0, ↓w_gS, ↓w_gK, ↓w_dv, ↓w_tw, ↓w_rz, ↓w_no, nv_lit, nv_f, nv_add, nv_mul, nv_sub, nv_le, nv_lt, nv_eq, nv_cl, Nat.reduceMod, Nat.reduceMul, Nat.reduceAdd, Nat.zero_add, Nat.add_zero, Nat.mul_zero, decide_eq_true_eq, nv_inT, hF, h10, hm, c, show ¬ cd = 0 by omega]
theorem X5_looks_1 {G : Nat → Nat} {S : Gst} {c : Hp} {s e k lo hi : Nat} (h : Ts G S c s e k) (hk : k = 2) (hl : lo ≤ 100) (hh : hi ≤ 100) (g : lo ≤ tvl S s e ∧ tvl S s e ≤ hi) (Q : Int32 → Hp → Prop) : Wp (X5_looks (G 10) (nv lo) (nv hi)) c Q ↔ Q (nv (tvl S s e)) c := by
  have h' := h
  have hm := fun v (hv : ¬ v = nv 0) x Q => X5_must_1 h hv x (Q := Q)
  obtain ⟨hF, hT, ⟨h10, h11⟩, ⟨h12, h13, h14⟩, h15, -⟩ := h'
  have i15 : hI c (G 10) 15 = nv (tvl S s e) := h15 hk
  have tb' := tvl_b S s e
  have hbw := bwn (x := tvl S s e) (lo := lo) (hi := hi) (by omega) (by omega) (by omega)
  rw [if_pos g] at hbw
  have k14 : hI c (G 10) 14 = nv 2 := by rw [h14, hk]
  simp (disch := omega) only [X5_looks, X5_looks_14, X5_looks_36, X5_looks_51, ↓w_bd, ↓w_rt, ↓w_bh, sm_l, sm_r, ↓w_okr, ↓w_nm, ↓w_ite, ↓reduceIte, not_true_eq_false, not_false_eq_true, and_true, true_and, and_self, Option.some.injEq, reduceCtorEq, eq_self, ↓w_rc, ↓w_gI, ↓w_gR, ↓w_aN, ↓w_aI, ↓w_aR, ↓w_aL, ↓w_pI, ↓w_pR, ↓w_sI, ↓w_sR, ↓w_sL, ↓w_nO, ↓w_nA, ↓w_nL, ↓w_ca, ↓w_ca0, ↓w_gS, ↓w_gK, ↓w_dv, ↓w_tw, ↓w_rz, ↓w_no, nv_lit, nv_f, nv_add, nv_mul, nv_sub, nv_le, nv_lt, nv_eq, nv_cl, Nat.reduceMod, Nat.reduceMul, Nat.reduceAdd, Nat.zero_add, Nat.add_zero, Nat.mul_zero, decide_eq_true_eq, nv_inT, hF, h10, hm _ n10, k14, i15, X5_in_w, hbw, n10]
theorem X5_looks_0 {G : Nat → Nat} {S : Gst} {c : Hp} {s e k lo hi cd : Nat} (h : Ts G S c s e k) (hl : lo ≤ 100) (hh : hi ≤ 100) (g : (k ≠ 2 ∧ cd = 1) ∨ (k = 2 ∧ ¬ (lo ≤ tvl S s e ∧ tvl S s e ≤ hi) ∧ cd = 2)) (Q : Int32 → Hp → Prop) : Wp (X5_looks (G 10) (nv lo) (nv hi)) c Q ↔ Q (nv lo) (erq G c cd s) := by
  have h' := h
  obtain ⟨hF, hT, ⟨h10, h11⟩, ⟨h12, h13, h14⟩, h15, -, -, hk4⟩ := h'
  have hz := (erq_z (cd := cd) (s := s) hF (by omega) (by omega)).1
  obtain ⟨zF, z10, -⟩ := hz
  rcases g with ⟨g1, rfl⟩ | ⟨g1, g2, rfl⟩
  · have hm := fun Q => X5_must_0 (cd := 1) h (by omega) (by omega) (Q := Q)
    have k14 : ¬ hI c (G 10) 14 = nv 2 := by rw [h14, nv_eq (by omega) (by omega)]; exact g1
    simp (disch := omega) only [X5_looks, X5_looks_14, X5_looks_36, X5_looks_51, ↓w_bd, ↓w_rt, ↓w_bh, sm_l, sm_r, ↓w_okr, ↓w_nm, ↓w_ite, ↓reduceIte, not_true_eq_false, not_false_eq_true, and_true, true_and, and_self, Option.some.injEq, reduceCtorEq, eq_self, ↓w_rc, ↓w_gI, ↓w_gR, ↓w_aN, ↓w_aI, ↓w_aR, ↓w_aL, ↓w_pI, ↓w_pR, ↓w_sI, ↓w_sR, ↓w_sL, ↓w_nO, ↓w_nA, ↓w_nL, ↓w_ca, ↓w_ca0, ↓w_gS, ↓w_gK, ↓w_dv, ↓w_tw, ↓w_rz, ↓w_no, nv_lit, nv_f, nv_add, nv_mul, nv_sub, nv_le, nv_lt, nv_eq, nv_cl, Nat.reduceMod, Nat.reduceMul, Nat.reduceAdd, Nat.zero_add, Nat.add_zero, Nat.mul_zero, decide_eq_true_eq, nv_inT, hF, hm, k14, zF, z10, n10]
  · have hm := fun Q => X5_must_0 (cd := 2) h (by omega) (by omega) (Q := Q)
    have hm1 := fun v (hv : ¬ v = nv 0) x Q => X5_must_1 h hv x (Q := Q)
    have i15 : hI c (G 10) 15 = nv (tvl S s e) := h15 g1
    have tb' := tvl_b S s e
    have hbw := bwn (x := tvl S s e) (lo := lo) (hi := hi) (by omega) (by omega) (by omega)
    rw [if_neg g2] at hbw
    have k14 : hI c (G 10) 14 = nv 2 := by rw [h14, g1]
    simp (disch := omega) only [X5_looks, X5_looks_14, X5_looks_36, X5_looks_51, ↓w_bd, ↓w_rt, ↓w_bh, sm_l, sm_r, ↓w_okr, ↓w_nm, ↓w_ite, ↓reduceIte, not_true_eq_false, not_false_eq_true, and_true, true_and, and_self, Option.some.injEq, reduceCtorEq, eq_self, ↓w_rc, ↓w_gI, ↓w_gR, ↓w_aN, ↓w_aI, ↓w_aR, ↓w_aL, ↓w_pI, ↓w_pR, ↓w_sI, ↓w_sR, ↓w_sL, ↓w_nO, ↓w_nA, ↓w_nL, ↓w_ca, ↓w_ca0, ↓w_gS, ↓w_gK, ↓w_dv, ↓w_tw, ↓w_rz, ↓w_no, nv_lit, nv_f, nv_add, nv_mul, nv_sub, nv_le, nv_lt, nv_eq, nv_cl, Nat.reduceMod, Nat.reduceMul, Nat.reduceAdd, Nat.zero_add, Nat.add_zero, Nat.mul_zero, decide_eq_true_eq, nv_inT, hF, hm, hm1 _ n10, k14, zF, z10, n10, i15, X5_in_w, hbw]
theorem X5_reads_z {G : Nat → Nat} {c : Hp} {cd ps : Nat} (h : Tz G c cd ps) (lo hi : Int32) (Q : Int32 → Hp → Prop) : Wp (X5_reads (G 10) lo hi) c Q ↔ Q lo c := by
  simp (disch := omega) only [X5_reads, ↓w_bd, ↓w_rt, ↓w_bh, sm_l, sm_r, ↓w_okr, ↓w_nm, ↓w_ite, ↓reduceIte, not_true_eq_false, not_false_eq_true, and_true, true_and, and_self, Option.some.injEq, reduceCtorEq, eq_self, ↓w_rc, ↓w_gI, ↓w_gR, ↓w_aN, ↓w_aI, ↓w_aR, ↓w_aL, ↓w_pI, ↓w_pR, ↓w_sI, ↓w_sR, ↓w_sL, ↓w_nO, ↓w_nA, ↓w_nL, ↓w_ca, ↓w_ca0, ↓w_gS, ↓w_gK, ↓w_dv, ↓w_tw, ↓w_rz, ↓w_no, nv_lit, nv_f, nv_add, nv_mul, nv_sub, nv_le, nv_lt, nv_eq, nv_cl, Nat.reduceMod, Nat.reduceMul, Nat.reduceAdd, Nat.zero_add, Nat.add_zero, Nat.mul_zero, decide_eq_true_eq, nv_inT, h.1, X5_looks_z h, X5_goesOn_z h]
theorem X5_reads_0 {G : Nat → Nat} {S : Gst} {c : Hp} {s e k lo hi cd : Nat} (h : Ts G S c s e k) (hl : lo ≤ 100) (hh : hi ≤ 100) (g : (k ≠ 2 ∧ cd = 1) ∨ (k = 2 ∧ ¬ (lo ≤ tvl S s e ∧ tvl S s e ≤ hi) ∧ cd = 2)) (Q : Int32 → Hp → Prop) : Wp (X5_reads (G 10) (nv lo) (nv hi)) c Q ↔ Q (nv lo) (erq G c cd s) := by
  have hz := (erq_z (cd := cd) (s := s) h.1 (by omega) (by omega)).1
  simp (disch := omega) only [X5_reads, ↓w_bd, ↓w_rt, ↓w_bh, sm_l, sm_r, ↓w_okr, ↓w_nm, ↓w_ite, ↓reduceIte, not_true_eq_false, not_false_eq_true, and_true, true_and, and_self, Option.some.injEq, reduceCtorEq, eq_self, ↓w_rc, ↓w_gI, ↓w_gR, ↓w_aN, ↓w_aI, ↓w_aR, ↓w_aL, ↓w_pI, ↓w_pR, ↓w_sI, ↓w_sR, ↓w_sL, ↓w_nO, ↓w_nA, ↓w_nL, ↓w_ca, ↓w_ca0, ↓w_gS, ↓w_gK, ↓w_dv, ↓w_tw, ↓w_rz, ↓w_no, nv_lit, nv_f, nv_add, nv_mul, nv_sub, nv_le, nv_lt, nv_eq, nv_cl, Nat.reduceMod, Nat.reduceMul, Nat.reduceAdd, Nat.zero_add, Nat.add_zero, Nat.mul_zero, decide_eq_true_eq, nv_inT, h.1, X5_looks_0 h hl hh g, hz.1, X5_goesOn_z hz]
theorem X5_reads_1 {G : Nat → Nat} {S : Gst} {c : Hp} {s e k lo hi s' e' k' : Nat} (hG : GD G) (h : Ts G S c s e k) (hk : k = 2) (hl : lo ≤ 100) (hh : hi ≤ 100) (g : lo ≤ tvl S s e ∧ tvl S s e ≤ hi) (hx : Nx S e s' e' k') (Q : Int32 → Hp → Prop) (kk : ∀ c', Tw G c c' → Ts G S c' s' e' k' → Q (nv (tvl S s e)) c') : Wp (X5_reads (G 10) (nv lo) (nv hi)) c Q := by
  simp (disch := omega) only [X5_reads, ↓w_bd, ↓w_rt, ↓w_bh, sm_l, sm_r, ↓w_okr, ↓w_nm, ↓w_ite, ↓reduceIte, not_true_eq_false, not_false_eq_true, and_true, true_and, and_self, Option.some.injEq, reduceCtorEq, eq_self, ↓w_rc, ↓w_gI, ↓w_gR, ↓w_aN, ↓w_aI, ↓w_aR, ↓w_aL, ↓w_pI, ↓w_pR, ↓w_sI, ↓w_sR, ↓w_sL, ↓w_nO, ↓w_nA, ↓w_nL, ↓w_ca, ↓w_ca0, ↓w_gS, ↓w_gK, ↓w_dv, ↓w_tw, ↓w_rz, ↓w_no, nv_lit, nv_f, nv_add, nv_mul, nv_sub, nv_le, nv_lt, nv_eq, nv_cl, Nat.reduceMod, Nat.reduceMul, Nat.reduceAdd, Nat.zero_add, Nat.add_zero, Nat.mul_zero, decide_eq_true_eq, nv_inT, h.1, X5_looks_1 h hk hl hh g]
  exact X5_gon hG h hx _ kk
theorem X5_endsLine_z {G : Nat → Nat} {c : Hp} {cd ps : Nat} (h : Tz G c cd ps) (Q : Unit → Hp → Prop) : Wp (X5_endsLine (G 10)) c Q ↔ Q () c := by
  by_cases g : hI c (G 10) 14 = nv 3
  · simp (disch := omega) only [X5_endsLine, X5_endsLine_14, ↓w_bd, ↓w_rt, ↓w_bh, sm_l, sm_r, ↓w_okr, ↓w_nm, ↓w_ite, ↓reduceIte, not_true_eq_false, not_false_eq_true, and_true, true_and, and_self, Option.some.injEq, reduceCtorEq, eq_self, ↓w_rc, ↓w_gI, ↓w_gR, ↓w_aN, ↓w_aI, ↓w_aR, ↓w_aL, ↓w_pI, ↓w_pR, ↓w_sI, ↓w_sR, ↓w_sL, ↓w_nO, ↓w_nA, ↓w_nL, ↓w_ca, ↓w_ca0, ↓w_gS, ↓w_gK, ↓w_dv, ↓w_tw, ↓w_rz, ↓w_no, nv_lit, nv_f, nv_add, nv_mul, nv_sub, nv_le, nv_lt, nv_eq, nv_cl, Nat.reduceMod, Nat.reduceMul, Nat.reduceAdd, Nat.zero_add, Nat.add_zero, Nat.mul_zero, decide_eq_true_eq, nv_inT, h.1, X5_must_z h, X5_goesOn_z h, g]
  · simp (disch := omega) only [X5_endsLine, X5_endsLine_14, ↓w_bd, ↓w_rt, ↓w_bh, sm_l, sm_r, ↓w_okr, ↓w_nm, ↓w_ite, ↓reduceIte, not_true_eq_false, not_false_eq_true, and_true, true_and, and_self, Option.some.injEq, reduceCtorEq, eq_self, ↓w_rc, ↓w_gI, ↓w_gR, ↓w_aN, ↓w_aI, ↓w_aR, ↓w_aL, ↓w_pI, ↓w_pR, ↓w_sI, ↓w_sR, ↓w_sL, ↓w_nO, ↓w_nA, ↓w_nL, ↓w_ca, ↓w_ca0, ↓w_gS, ↓w_gK, ↓w_dv, ↓w_tw, ↓w_rz, ↓w_no, nv_lit, nv_f, nv_add, nv_mul, nv_sub, nv_le, nv_lt, nv_eq, nv_cl, Nat.reduceMod, Nat.reduceMul, Nat.reduceAdd, Nat.zero_add, Nat.add_zero, Nat.mul_zero, decide_eq_true_eq, nv_inT, h.1, X5_must_z h, X5_goesOn_z h, g]
theorem X5_endsLine_0 {G : Nat → Nat} {S : Gst} {c : Hp} {s e k : Nat} (h : Ts G S c s e k) (g : k ≠ 3) (Q : Unit → Hp → Prop) : Wp (X5_endsLine (G 10)) c Q ↔ Q () (erq G c 1 s) := by
  have hz := (erq_z (cd := 1) (s := s) h.1 (by omega) (by omega)).1
  have hk4 := h.2.2.2.2.2.2.2
  have k14 : ¬ hI c (G 10) 14 = nv 3 := by rw [h.2.2.2.1.2.2, nv_eq (by omega) (by omega)]; exact g
  simp (disch := omega) only [X5_endsLine, X5_endsLine_14, ↓w_bd, ↓w_rt, ↓w_bh, sm_l, sm_r, ↓w_okr, ↓w_nm, ↓w_ite, ↓reduceIte, not_true_eq_false, not_false_eq_true, and_true, true_and, and_self, Option.some.injEq, reduceCtorEq, eq_self, ↓w_rc, ↓w_gI, ↓w_gR, ↓w_aN, ↓w_aI, ↓w_aR, ↓w_aL, ↓w_pI, ↓w_pR, ↓w_sI, ↓w_sR, ↓w_sL, ↓w_nO, ↓w_nA, ↓w_nL, ↓w_ca, ↓w_ca0, ↓w_gS, ↓w_gK, ↓w_dv, ↓w_tw, ↓w_rz, ↓w_no, nv_lit, nv_f, nv_add, nv_mul, nv_sub, nv_le, nv_lt, nv_eq, nv_cl, Nat.reduceMod, Nat.reduceMul, Nat.reduceAdd, Nat.zero_add, Nat.add_zero, Nat.mul_zero, decide_eq_true_eq, nv_inT, h.1, X5_must_0 h, k14, hz.1, X5_goesOn_z hz]
theorem X5_endsLine_1 {G : Nat → Nat} {S : Gst} {c : Hp} {s e k s' e' k' : Nat} (hG : GD G) (h : Ts G S c s e k) (g : k = 3) (hx : Nx S e s' e' k') (Q : Unit → Hp → Prop) (kk : ∀ c', Tw G c c' → Ts G S c' s' e' k' → Q () c') : Wp (X5_endsLine (G 10)) c Q := by
  have k14 : hI c (G 10) 14 = nv 3 := by rw [h.2.2.2.1.2.2, g]
  simp (disch := omega) only [X5_endsLine, X5_endsLine_14, ↓w_bd, ↓w_rt, ↓w_bh, sm_l, sm_r, ↓w_okr, ↓w_nm, ↓w_ite, ↓reduceIte, not_true_eq_false, not_false_eq_true, and_true, true_and, and_self, Option.some.injEq, reduceCtorEq, eq_self, ↓w_rc, ↓w_gI, ↓w_gR, ↓w_aN, ↓w_aI, ↓w_aR, ↓w_aL, ↓w_pI, ↓w_pR, ↓w_sI, ↓w_sR, ↓w_sL, ↓w_nO, ↓w_nA, ↓w_nL, ↓w_ca, ↓w_ca0, ↓w_gS, ↓w_gK, ↓w_dv, ↓w_tw, ↓w_rz, ↓w_no, nv_lit, nv_f, nv_add, nv_mul, nv_sub, nv_le, nv_lt, nv_eq, nv_cl, Nat.reduceMod, Nat.reduceMul, Nat.reduceAdd, Nat.zero_add, Nat.add_zero, Nat.mul_zero, decide_eq_true_eq, nv_inT, h.1, X5_must_1 h n10, k14]
  exact X5_gon hG h hx _ kk
