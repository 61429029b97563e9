/-! THE PAST: the deque of kept markets -/
theorem J1_inc_w {t : Nat} (ht : t < 17) (a : Hp) (Q : Int32 → Hp → Prop) : Wp (J1_inc (nv t) (nv 17)) a Q ↔ Q (nv ((t + 1) % 17)) a := by
  by_cases c : t + 1 < 17
  · rw [Nat.mod_eq_of_lt c]
    simp (disch := omega) only [J1_inc, J1_inc_10, ↓w_bd, ↓w_rt, ↓w_bh, sm_l, sm_r, ↓w_okr, ↓w_nm, ↓w_ite, ↓reduceIte, not_true_eq_false, not_false_eq_true, and_true, true_and, and_self, Option.some.injEq, reduceCtorEq, eq_self, ↓w_rc, ↓w_gI, ↓w_gR, ↓w_aN, ↓w_aI, ↓w_aR, ↓w_ca, ↓w_ca0, nv_lit, nv_f, nv_add, nv_mul, nv_sub, nv_le, nv_lt, nv_eq, nv_cl, Nat.reduceMod, Nat.reduceMul, Nat.reduceAdd, Nat.zero_add, Nat.add_zero, Nat.mul_zero, decide_eq_true_eq, nv_inT, c]
  · have : t = 16 := by omega
    subst this
    simp (disch := omega) only [J1_inc, J1_inc_10, ↓w_bd, ↓w_rt, ↓w_bh, sm_l, sm_r, ↓w_okr, ↓w_nm, ↓w_ite, ↓reduceIte, not_true_eq_false, not_false_eq_true, and_true, true_and, and_self, Option.some.injEq, reduceCtorEq, eq_self, ↓w_rc, ↓w_gI, ↓w_gR, ↓w_aN, ↓w_aI, ↓w_aR, ↓w_ca, ↓w_ca0, nv_lit, nv_f, nv_add, nv_mul, nv_sub, nv_le, nv_lt, nv_eq, nv_cl, Nat.reduceMod, Nat.reduceMul, Nat.reduceAdd, Nat.zero_add, Nat.add_zero, Nat.mul_zero, decide_eq_true_eq, nv_inT, Nat.reduceLT, Nat.lt_irrefl]
theorem sub_f : ∀ h : Fin 17, ∀ u : Fin 17, (if 0 ≤ nv ((h.val + u.val) % 17) - nv h.val then nv ((h.val + u.val) % 17) - nv h.val else nv ((h.val + u.val) % 17) - nv h.val + nv 17) = nv u.val := by decide +kernel
theorem J1_subD_w {h u : Nat} (hh : h < 17) (hu : u < 17) (a : Hp) (Q : Int32 → Hp → Prop) : Wp (J1_sub (nv ((h + u) % 17)) (nv h) (nv 17)) a Q ↔ Q (nv u) a := by
  have e := sub_f ⟨h, hh⟩ ⟨u, hu⟩
  dsimp only at e
  unfold J1_sub J1_sub_12
  rw [w_ite]
  split at e <;> rename_i g
  · rw [if_pos g, w_rt, e]
  · rw [if_neg g, w_rt, e]
/-- the deque of G 2, G 6: head h, tail t -/
def Dq (G : Nat → Nat) (c : Hp) (h t : Nat) : Prop := (hK c (G 2) = 11 ∧ hR c (G 2) 0 = some (G 6) ∧ hK c (G 6) = 46 ∧ hN c (G 6) = 17) ∧ hI c (G 2) 1 = nv h ∧ hI c (G 2) 2 = nv t ∧ h < 17 ∧ t < 17
theorem J1_size_w {G : Nat → Nat} {c : Hp} {h u : Nat} (hD : Dq G c h ((h + u) % 17)) (hu : u < 17) (Q : Int32 → Hp → Prop) : Wp (J1_size (G 2)) c Q ↔ Q (nv u) c := by
  obtain ⟨⟨k2, r2, k6, n6⟩, i1, i2, hh, ht⟩ := hD
  simp (disch := omega) only [J1_size, ↓w_bd, ↓w_rt, ↓w_bh, sm_l, sm_r, ↓w_okr, ↓w_nm, ↓w_ite, ↓reduceIte, not_true_eq_false, not_false_eq_true, and_true, true_and, and_self, Option.some.injEq, reduceCtorEq, eq_self, ↓w_rc, ↓w_gI, ↓w_gR, ↓w_aN, ↓w_aI, ↓w_aR, ↓w_ca, ↓w_ca0, nv_lit, nv_f, nv_add, nv_mul, nv_sub, nv_le, nv_lt, nv_eq, nv_cl, Nat.reduceMod, Nat.reduceMul, Nat.reduceAdd, Nat.zero_add, Nat.add_zero, Nat.mul_zero, decide_eq_true_eq, nv_inT, k2, r2, k6, n6, i1, i2, J1_subD_w]
theorem J1_addLast_w {G : Nat → Nat} {c : Hp} {h t q : Nat} (hD : Dq G c h t) (hq : hK c q = 2) (ne : h ≠ (t + 1) % 17) (Q : Unit → Hp → Prop) : Wp (J1_addLast (G 2) (some q)) c Q ↔ Q () (hwI (hwR c (G 6) (up1 (hR c (G 6)) t (some q))) (G 2) (up1 (hI c (G 2)) 2 (nv ((t + 1) % 17)))) := by
  obtain ⟨⟨k2, r2, k6, n6⟩, i1, i2, hh, ht⟩ := hD
  have ok : okR c [4, 8, 2] (some q) = true := by show [4, 8, 2].contains (hK c q) = true; rw [hq]; decide
  have h17 : (t + 1) % 17 < 17 := Nat.mod_lt _ (by omega)
  simp (disch := omega) only [J1_addLast, ↓w_bd, ↓w_rt, ↓w_bh, sm_l, sm_r, ↓w_okr, ↓w_nm, ↓w_ite, ↓reduceIte, not_true_eq_false, not_false_eq_true, and_true, true_and, and_self, Option.some.injEq, reduceCtorEq, eq_self, ↓w_rc, ↓w_gI, ↓w_gR, ↓w_aN, ↓w_aI, ↓w_aR, ↓w_aL, ↓w_pI, ↓w_pR, ↓w_sI, ↓w_sR, ↓w_sL, ↓w_nO, ↓w_nA, ↓w_nL, ↓w_ca, ↓w_ca0, ↓w_gS, ↓w_gK, ↓w_dv, ↓w_tw, ↓w_rz, ↓w_no, nv_lit, nv_f, nv_add, nv_mul, nv_sub, nv_le, nv_lt, nv_eq, nv_cl, Nat.reduceMod, Nat.reduceMul, Nat.reduceAdd, Nat.zero_add, Nat.add_zero, Nat.mul_zero, decide_eq_true_eq, nv_inT, k2, r2, k6, n6, i1, i2, ok, hK_wR, hI_wR, hN_wR, J1_inc_w, ne, show ∀ z, okN 0 z = true from fun _ => rfl]
theorem J1_removeFirst_w {G : Nat → Nat} {c : Hp} {h t q : Nat} (hD : Dq G c h t) (hq : hR c (G 6) h = some q) (Q : Option Nat → Hp → Prop) : Wp (J1_removeFirst (G 2)) c Q ↔ Q (some q) (hwI (hwR c (G 6) (up1 (hR c (G 6)) h none)) (G 2) (up1 (hI c (G 2)) 1 (nv ((h + 1) % 17)))) := by
  obtain ⟨⟨k2, r2, k6, n6⟩, i1, i2, hh, ht⟩ := hD
  have ok : okR c [4, 8, 2] none = true := rfl
  simp (disch := omega) only [J1_removeFirst, J1_pollFirst, J1_pollFirst_34, J1_elementAt, ↓w_bd, ↓w_rt, ↓w_bh, sm_l, sm_r, ↓w_okr, ↓w_nm, ↓w_ite, ↓reduceIte, not_true_eq_false, not_false_eq_true, and_true, true_and, and_self, Option.some.injEq, reduceCtorEq, eq_self, ↓w_rc, ↓w_gI, ↓w_gR, ↓w_aN, ↓w_aI, ↓w_aR, ↓w_aL, ↓w_pI, ↓w_pR, ↓w_sI, ↓w_sR, ↓w_sL, ↓w_nO, ↓w_nA, ↓w_nL, ↓w_ca, ↓w_ca0, ↓w_gS, ↓w_gK, ↓w_dv, ↓w_tw, ↓w_rz, ↓w_no, nv_lit, nv_f, nv_add, nv_mul, nv_sub, nv_le, nv_lt, nv_eq, nv_cl, Nat.reduceMod, Nat.reduceMul, Nat.reduceAdd, Nat.zero_add, Nat.add_zero, Nat.mul_zero, decide_eq_true_eq, nv_inT, k2, r2, k6, n6, i1, i2, ok, hq, hK_wR, hI_wR, hN_wR, J1_inc_w, show ∀ z, okN 0 z = true from fun _ => rfl]
theorem Dq.e0 {G : Nat → Nat} {a c : Hp} {h t : Nat} (hD : Dq G a h t) (hE : E0 a c) (hs : ∀ i, i < 22 → G i < hSz a) : Dq G c h t := by
  have e2 := hE.2.2 (G 2) (hs 2 (by omega))
  have e6 := hE.2.2 (G 6) (hs 6 (by omega))
  unfold Dq at *
  rw [e2.1, e2.2.2.1, e2.2.2.2.1, e6.1, e6.2.1]
  exact hD
/-- cells of the component that a kept, saved or brought back market touches -/
def Pq (G : Nat → Nat) (q : Nat) : Prop := q = G 0 ∨ q = G 2 ∨ q = G 3 ∨ q = G 6
theorem pq_G {G : Nat → Nat} (hG : GD G) {i : Nat} (hi : i < 22) (h : i ≠ 0 ∧ i ≠ 2 ∧ i ≠ 3 ∧ i ≠ 6) : ¬ Pq G (G i) := by
  rintro (e | e | e | e)
  · exact h.1 (hG i 0 hi (by omega) e)
  · exact h.2.1 (hG i 2 hi (by omega) e)
  · exact h.2.2.1 (hG i 3 hi (by omega) e)
  · exact h.2.2.2 (hG i 6 hi (by omega) e)
theorem pq_P {G : Nat → Nat} {B : Nat → Nat × Nat} {S : Gst} {a : Hp} (hC : JC G B S a) (l : Nat) : ∀ q, Pq G q → (B q).1 ≠ l + 1 ∧ hK a q ≠ 10 := by
  obtain ⟨⟨k0, -⟩, ⟨-, k2, k3, -, -, k6, -⟩, -⟩ := hC.2.1
  rintro q (rfl | rfl | rfl | rfl)
  · rw [(hC.1 0 (by omega)).2]; exact ⟨by simp, by omega⟩
  · rw [(hC.1 2 (by omega)).2]; exact ⟨by simp, by omega⟩
  · rw [(hC.1 3 (by omega)).2]; exact ⟨by simp, by omega⟩
  · rw [(hC.1 6 (by omega)).2]; exact ⟨by simp, by omega⟩
theorem pq_k {G : Nat → Nat} {B : Nat → Nat × Nat} {S : Gst} {a : Hp} (hC : JC G B S a) : ∀ q, Pq G q → hK a q < 100 := by
  obtain ⟨⟨k0, -⟩, ⟨-, k2, k3, -, -, k6, -⟩, -⟩ := hC.2.1
  rintro q (rfl | rfl | rfl | rfl) <;> omega
theorem pq_t {G : Nat → Nat} (hG : GD G) : ∀ q, Pq G q → ¬ tG G q := by
  rintro q h ⟨i, h1, h2, rfl⟩
  exact pq_G hG (i := i) (by omega) ⟨by omega, by omega, by omega, by omega⟩ h
theorem JC.gen {G : Nat → Nat} {B B' : Nat → Nat × Nat} {S S' : Gst} {a b : Hp} (h : JC G B S a) (g : EP (Pq G) a b) (hB : ∀ q, q < hSz a → B' q = B q) (hS2 : S'.2 = S.2)
    (x0 : ∀ j, j ≠ 4 → hR b (G 0) j = hR a (G 0) j) (x1 : hI b (G 0) = hI a (G 0)) (x2 : hK b = hK a ∨ (hK b (G 0) = 1 ∧ hK b (G 2) = 11 ∧ hK b (G 3) = 49 ∧ hK b (G 6) = 46)) (x3 : hN b (G 3) = 2 ∧ hN b (G 6) = 17) (x4 : hR b (G 2) 0 = some (G 6))
    (m : JM G B' S' b) (d : JD G S' b) (s : JS G S' b) : JC G B' S' b := by
  have hG := h.1.gd
  have hk := pq_k h
  obtain ⟨j1, j2, j3, j4, j5, j6, j7, j8, j9, j10⟩ := h
  have e := fun i (hi : i < 22) (hn : i ≠ 0 ∧ i ≠ 2 ∧ i ≠ 3 ∧ i ≠ 6) => g.2.2 (G i) (j1 i hi).1 (pq_G hG hi hn)
  have e1 := e 1 (by omega) (by omega)
  have e4 := e 4 (by omega) (by omega)
  have e5 := e 5 (by omega) (by omega)
  have e7 := e 7 (by omega) (by omega)
  have e20 := e 20 (by omega) (by omega)
  have e21 := e 21 (by omega) (by omega)
  have x2' : hK b (G 0) = 1 ∧ hK b (G 2) = 11 ∧ hK b (G 3) = 49 ∧ hK b (G 6) = 46 := by
    rcases x2 with x | x
    · rw [x]; exact ⟨j2.1.1, j2.2.1.2.1, j2.2.1.2.2.1, j2.2.1.2.2.2.2.2.1⟩
    · exact x
  have efl : gf S' = gf S ∧ gl S' = gl S ∧ gb S' = gb S ∧ ge S' = ge S ∧ go S' = go S := by
    unfold gf gl gb ge go
    rw [hS2]
    exact ⟨rfl, rfl, rfl, rfl, rfl⟩
  obtain ⟨f1, f2, f3, f4, f5⟩ := efl
  refine ⟨fun i hi => ⟨Nat.lt_of_lt_of_le (j1 i hi).1 g.1, (hB _ (j1 i hi).1).trans (j1 i hi).2⟩, ?_, m, d, s, ?_, ?_, ?_, ?_, j10.ep g hk⟩
  · obtain ⟨⟨a1, a2, a3, a4, a5, a6⟩, ⟨b1, b2, b3, b4, b5, b6, b7, b8, b9⟩, ⟨c1, c2, c3, c4, c5, c6, c7⟩, d1, d2, d3⟩ := j2
    unfold JX
    rw [x0 0 (by omega), x0 5 (by omega), x0 6 (by omega), x0 7 (by omega), x0 8 (by omega), e1.1, e1.2.1, e4.1, e4.2.1, e5.1, e5.2.2.1, e5.2.2.2, e7.1, e7.2.1, e20.1, e20.2.1, e21.1, e21.2.1]
    exact ⟨⟨x2'.1, a2, a3, a4, a5, a6⟩, ⟨b1, x2'.2.1, x2'.2.2.1, b4, b5, x2'.2.2.2, b7, b8, b9⟩, ⟨c1, x3.1, c3, x3.2, c5, c6, c7⟩, x4, d2, d3⟩
  · unfold JF at *
    rw [e4.2.2.2, f1]; exact j6
  · unfold JL at *
    rw [x1, e1.2.2.2, f2, f3]; exact j7
  · unfold JE at *
    rw [x1, f4]; exact j8
  · unfold JO at *
    rw [e5.2.2.2, e7.2.2.2, f5]; exact j9
