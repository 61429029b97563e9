/-! STRINGS -/
/-- a String w of l letters f -/
def Sg (d : Hp) (w l : Nat) (f : Nat → Nat) : Prop := hK d w % 100 = 13 ∧ hI d w 1 = nv 0 ∧ ∃ v, hR d w 0 = some v ∧ hK d v % 100 = 42 ∧ hN d v = l ∧ (∀ i, i < l → hI d v i = nv (f i)) ∧ w < hSz d ∧ v < hSz d ∧ w ≠ v
/-- its hash -/
def hsh (f : Nat → Nat) : Nat → Int32
  | 0 => nv 0
  | l + 1 => nv 31 * hsh f l + nv (f l)
def Hs (d : Hp) (w l : Nat) (f : Nat → Nat) : Prop := (hI d w 2 = hsh f l ∧ (hsh f l = nv 0 → hI d w 3 = nv 1)) ∨ (hK d w = 13 ∧ (∃ v, hR d w 0 = some v ∧ hK d v = 42 ∧ v < hSz d) ∧ hI d w 2 = nv 0 ∧ hI d w 3 = nv 0)
theorem Sg.ep {P : Nat → Prop} {d e : Hp} {w l : Nat} {f : Nat → Nat} (h : Sg d w l f) (g : EP P d e) (hP : ∀ x, P x → hK d x ≠ 13 ∧ hK d x % 100 ≠ 13 ∧ hK d x % 100 ≠ 42) : Sg e w l f := by
  obtain ⟨h1, h2, v, h3, h4, h5, h6, h7, h8, h9⟩ := h
  have ew := g.2.2 w h7 (fun hp => (hP w hp).2.1 h1)
  have ev := g.2.2 v h8 (fun hp => (hP v hp).2.2 h4)
  exact ⟨by rw [ew.1]; exact h1, by rw [ew.2.2.2]; exact h2, v, by rw [ew.2.2.1]; exact h3, by rw [ev.1]; exact h4, by rw [ev.2.1]; exact h5, fun i hi => by rw [ev.2.2.2]; exact h6 i hi, Nat.lt_of_lt_of_le h7 g.1, Nat.lt_of_lt_of_le h8 g.1, h9⟩
theorem Hs.ep {P : Nat → Prop} {d e : Hp} {w l : Nat} {f : Nat → Nat} (h : Hs d w l f) (hw : w < hSz d) (g : EP P d e) (hP : ¬ P w) (h42 : ∀ x, P x → hK d x ≠ 42) : Hs e w l f := by
  have ew := g.2.2 w hw hP
  rcases h with h | ⟨k, ⟨v, v1, v2, v3⟩, h2, h3⟩
  · exact .inl (by rw [ew.2.2.2]; exact h)
  · have ev := g.2.2 v v3 (fun hp => h42 v hp v2)
    exact .inr ⟨by rw [ew.1]; exact k, ⟨v, by rw [ew.2.2.1]; exact v1, by rw [ev.1]; exact v2, Nat.lt_of_lt_of_le v3 g.1⟩, by rw [ew.2.2.2]; exact h2, by rw [ew.2.2.2]; exact h3⟩
theorem J4_equals_1 {d : Hp} {w u l m : Nat} {f g : Nat → Nat} (h1 : Sg d w l f) (h2 : Sg d u m g) (hl : l ≤ 1000) (e : l = m ∧ ∀ i, i < l → f i = g i) (Q : Int32 → Hp → Prop) : Wp (J4_equals w (some u)) d Q ↔ Q (nv 1) d := by
  obtain ⟨a1, a2, v, a3, a4, a5, a6, -⟩ := h1
  obtain ⟨b1, b2, v', b3, b4, b5, b6, -⟩ := h2
  obtain ⟨rfl, e2⟩ := e
  by_cases c : w = u
  · subst c
    simp (disch := omega) only [J4_equals, ↓w_bd, ↓w_rt, ↓w_bh, sm_l, sm_r, ↓w_okr, ↓w_nm, ↓w_ite, ↓reduceIte, not_true_eq_false, not_false_eq_true, and_true, true_and, and_self, Option.some.injEq, reduceCtorEq, eq_self, ↓w_rc, ↓w_gI, ↓w_gR, ↓w_aN, ↓w_aI, ↓w_aR, ↓w_aL, ↓w_pI, ↓w_pR, ↓w_sI, ↓w_sR, ↓w_sL, ↓w_nO, ↓w_nA, ↓w_nL, ↓w_ca, ↓w_ca0, ↓w_gS, ↓w_gK, ↓w_dv, ↓w_tw, ↓w_rz, ↓w_no, nv_lit, nv_f, nv_add, nv_mul, nv_sub, nv_le, nv_lt, nv_eq, nv_cl, Nat.reduceMod, Nat.reduceMul, Nat.reduceAdd, Nat.zero_add, Nat.add_zero, Nat.mul_zero, decide_eq_true_eq, nv_inT, nrk21]
  · have lp : ∀ (Q' : Int32 → Hp → Prop) (fu k : Nat), k ≤ l → l - k < fu → (Wp (J14_equals_9 fu (some v) (some v') (nv k)) d Q' ↔ Q' (nv 1) d) := by
      intro Q'
      refine loopUp _ l ?_ ?_
      · intro fu
        simp (disch := omega) only [J14_equals_9, ↓w_bd, ↓w_rt, ↓w_bh, sm_l, sm_r, ↓w_okr, ↓w_nm, ↓w_ite, ↓reduceIte, not_true_eq_false, not_false_eq_true, and_true, true_and, and_self, Option.some.injEq, reduceCtorEq, eq_self, ↓w_rc, ↓w_gI, ↓w_gR, ↓w_aN, ↓w_aI, ↓w_aR, ↓w_aL, ↓w_pI, ↓w_pR, ↓w_sI, ↓w_sR, ↓w_sL, ↓w_nO, ↓w_nA, ↓w_nL, ↓w_ca, ↓w_ca0, ↓w_gS, ↓w_gK, ↓w_dv, ↓w_tw, ↓w_rz, ↓w_no, nv_lit, nv_f, nv_add, nv_mul, nv_sub, nv_le, nv_lt, nv_eq, nv_cl, Nat.reduceMod, Nat.reduceMul, Nat.reduceAdd, Nat.zero_add, Nat.add_zero, Nat.mul_zero, decide_eq_true_eq, nv_inT, a4, a5, Nat.le_refl, nrk21]
      · intro fu k hk ih
        have x1 := a6 k hk
        have x2 := b6 k hk
        rw [← e2 k hk] at x2
        simp (disch := omega) only [J14_equals_9, ↓w_bd, ↓w_rt, ↓w_bh, sm_l, sm_r, ↓w_okr, ↓w_nm, ↓w_ite, ↓reduceIte, not_true_eq_false, not_false_eq_true, and_true, true_and, and_self, Option.some.injEq, reduceCtorEq, eq_self, ↓w_rc, ↓w_gI, ↓w_gR, ↓w_aN, ↓w_aI, ↓w_aR, ↓w_aL, ↓w_pI, ↓w_pR, ↓w_sI, ↓w_sR, ↓w_sL, ↓w_nO, ↓w_nA, ↓w_nL, ↓w_ca, ↓w_ca0, ↓w_gS, ↓w_gK, ↓w_dv, ↓w_tw, ↓w_rz, ↓w_no, nv_lit, nv_f, nv_add, nv_mul, nv_sub, nv_le, nv_lt, nv_eq, nv_cl, Nat.reduceMod, Nat.reduceMul, Nat.reduceAdd, Nat.zero_add, Nat.add_zero, Nat.mul_zero, decide_eq_true_eq, nv_inT, a4, a5, b4, b5, Nat.not_le.mpr hk, x1, x2]
        exact ih
    simp (disch := omega) only [J4_equals, J4_equals_36, J4_equals_54, J4_equals_55, J14_equals, ↓w_bd, ↓w_rt, ↓w_bh, sm_l, sm_r, ↓w_okr, ↓w_nm, ↓w_ite, ↓reduceIte, not_true_eq_false, not_false_eq_true, and_true, true_and, and_self, Option.some.injEq, reduceCtorEq, eq_self, ↓w_rc, ↓w_gI, ↓w_gR, ↓w_aN, ↓w_aI, ↓w_aR, ↓w_aL, ↓w_pI, ↓w_pR, ↓w_sI, ↓w_sR, ↓w_sL, ↓w_nO, ↓w_nA, ↓w_nL, ↓w_ca, ↓w_ca0, ↓w_gS, ↓w_gK, ↓w_dv, ↓w_tw, ↓w_rz, ↓w_no, nv_lit, nv_f, nv_add, nv_mul, nv_sub, nv_le, nv_lt, nv_eq, nv_cl, Nat.reduceMod, Nat.reduceMul, Nat.reduceAdd, Nat.zero_add, Nat.add_zero, Nat.mul_zero, decide_eq_true_eq, nv_inT, ↓w_iO, Option.some.injEq, c, a1, a2, a3, a4, a5, b1, b2, b3, b4, b5, List.contains_cons, List.contains_nil, Nat.reduceBEq, Bool.or_true, Bool.true_or, Bool.or_false, BEq.rfl, n10, nrk21, nrk20]
    rw [lp _ FU 0 (by omega) (by unfold FU; omega)]
    simp (disch := omega) only [↓w_bd, ↓w_rt, ↓w_bh, sm_l, sm_r, ↓w_okr, ↓w_nm, ↓w_ite, ↓reduceIte, not_true_eq_false, not_false_eq_true, and_true, true_and, and_self, Option.some.injEq, reduceCtorEq, eq_self, ↓w_rc, ↓w_gI, ↓w_gR, ↓w_aN, ↓w_aI, ↓w_aR, ↓w_aL, ↓w_pI, ↓w_pR, ↓w_sI, ↓w_sR, ↓w_sL, ↓w_nO, ↓w_nA, ↓w_nL, ↓w_ca, ↓w_ca0, ↓w_gS, ↓w_gK, ↓w_dv, ↓w_tw, ↓w_rz, ↓w_no, nv_lit, nv_f, nv_add, nv_mul, nv_sub, nv_le, nv_lt, nv_eq, nv_cl, Nat.reduceMod, Nat.reduceMul, Nat.reduceAdd, Nat.zero_add, Nat.add_zero, Nat.mul_zero, decide_eq_true_eq, nv_inT, n10, nrk21]
theorem J4_equals_0 {d : Hp} {w u l m : Nat} {f g : Nat → Nat} (h1 : Sg d w l f) (h2 : Sg d u m g) (hl : l ≤ 1000) (hm : m ≤ 1000) (fb : ∀ i, f i ≤ 255) (gb : ∀ i, g i ≤ 255) (e : ¬ (l = m ∧ ∀ i, i < l → f i = g i)) (Q : Int32 → Hp → Prop) : Wp (J4_equals w (some u)) d Q ↔ Q (nv 0) d := by
  obtain ⟨a1, a2, v, a3, a4, a5, a6, -⟩ := h1
  obtain ⟨b1, b2, v', b3, b4, b5, b6, -⟩ := h2
  by_cases c : w = u
  · subst c
    rw [a3] at b3
    cases b3
    have elm : l = m := a5.symm.trans b5
    refine absurd ⟨elm, fun i hi => ?_⟩ e
    have x1 := a6 i hi
    have x2 := b6 i (by omega)
    have y1 := fb i
    have y2 := gb i
    rw [x1, nv_eq (by omega) (by omega)] at x2
    exact x2
  · by_cases elm : l = m
    · subst elm
      -- the first place that differs
      obtain ⟨z, hz, hzn, hzb⟩ : ∃ z, z < l ∧ f z ≠ g z ∧ ∀ u, u < z → ¬ f u ≠ g u := least (P := fun z => f z ≠ g z) (by
        apply Decidable.byContradiction
        intro q
        exact e ⟨rfl, fun i hi => Decidable.byContradiction fun w => q ⟨i, hi, w⟩⟩)
      have lp : ∀ (Q' : Int32 → Hp → Prop) (fu k : Nat), k ≤ z → z - k < fu → (Wp (J14_equals_9 fu (some v) (some v') (nv k)) d Q' ↔ Q' (nv 0) d) := by
        intro Q'
        refine loopUp _ z ?_ ?_
        · intro fu
          have x1 := a6 z hz
          have x2 := b6 z hz
          have y1 := fb z
          have y2 := gb z
          simp (disch := omega) only [J14_equals_9, ↓w_bd, ↓w_rt, ↓w_bh, sm_l, sm_r, ↓w_okr, ↓w_nm, ↓w_ite, ↓reduceIte, not_true_eq_false, not_false_eq_true, and_true, true_and, and_self, Option.some.injEq, reduceCtorEq, eq_self, ↓w_rc, ↓w_gI, ↓w_gR, ↓w_aN, ↓w_aI, ↓w_aR, ↓w_aL, ↓w_pI, ↓w_pR, ↓w_sI, ↓w_sR, ↓w_sL, ↓w_nO, ↓w_nA, ↓w_nL, ↓w_ca, ↓w_ca0, ↓w_gS, ↓w_gK, ↓w_dv, ↓w_tw, ↓w_rz, ↓w_no, nv_lit, nv_f, nv_add, nv_mul, nv_sub, nv_le, nv_lt, nv_eq, nv_cl, Nat.reduceMod, Nat.reduceMul, Nat.reduceAdd, Nat.zero_add, Nat.add_zero, Nat.mul_zero, decide_eq_true_eq, nv_inT, a4, a5, b4, b5, Nat.not_le.mpr hz, x1, x2, hzn, nrk20]
        · intro fu k hk ih
          have x1 := a6 k (by omega)
          have x2 := b6 k (by omega)
          have y := Decidable.byContradiction (hzb k hk)
          rw [← y] at x2
          simp (disch := omega) only [J14_equals_9, ↓w_bd, ↓w_rt, ↓w_bh, sm_l, sm_r, ↓w_okr, ↓w_nm, ↓w_ite, ↓reduceIte, not_true_eq_false, not_false_eq_true, and_true, true_and, and_self, Option.some.injEq, reduceCtorEq, eq_self, ↓w_rc, ↓w_gI, ↓w_gR, ↓w_aN, ↓w_aI, ↓w_aR, ↓w_aL, ↓w_pI, ↓w_pR, ↓w_sI, ↓w_sR, ↓w_sL, ↓w_nO, ↓w_nA, ↓w_nL, ↓w_ca, ↓w_ca0, ↓w_gS, ↓w_gK, ↓w_dv, ↓w_tw, ↓w_rz, ↓w_no, nv_lit, nv_f, nv_add, nv_mul, nv_sub, nv_le, nv_lt, nv_eq, nv_cl, Nat.reduceMod, Nat.reduceMul, Nat.reduceAdd, Nat.zero_add, Nat.add_zero, Nat.mul_zero, decide_eq_true_eq, nv_inT, a4, a5, b4, b5, show ¬ l ≤ k by omega, x1, x2]
          exact ih
      simp (disch := omega) only [J4_equals, J4_equals_36, J4_equals_54, J4_equals_55, J14_equals, ↓w_bd, ↓w_rt, ↓w_bh, sm_l, sm_r, ↓w_okr, ↓w_nm, ↓w_ite, ↓reduceIte, not_true_eq_false, not_false_eq_true, and_true, true_and, and_self, Option.some.injEq, reduceCtorEq, eq_self, ↓w_rc, ↓w_gI, ↓w_gR, ↓w_aN, ↓w_aI, ↓w_aR, ↓w_aL, ↓w_pI, ↓w_pR, ↓w_sI, ↓w_sR, ↓w_sL, ↓w_nO, ↓w_nA, ↓w_nL, ↓w_ca, ↓w_ca0, ↓w_gS, ↓w_gK, ↓w_dv, ↓w_tw, ↓w_rz, ↓w_no, nv_lit, nv_f, nv_add, nv_mul, nv_sub, nv_le, nv_lt, nv_eq, nv_cl, Nat.reduceMod, Nat.reduceMul, Nat.reduceAdd, Nat.zero_add, Nat.add_zero, Nat.mul_zero, decide_eq_true_eq, nv_inT, ↓w_iO, Option.some.injEq, c, a1, a2, a3, a4, a5, b1, b2, b3, b4, b5, List.contains_cons, List.contains_nil, Nat.reduceBEq, Bool.or_true, Bool.true_or, Bool.or_false, BEq.rfl, n10, nrk21, nrk20]
      rw [lp _ FU 0 (by omega) (by unfold FU; omega)]
      simp (disch := omega) only [↓w_bd, ↓w_rt, ↓w_bh, sm_l, sm_r, ↓w_okr, ↓w_nm, ↓w_ite, ↓reduceIte, not_true_eq_false, not_false_eq_true, and_true, true_and, and_self, Option.some.injEq, reduceCtorEq, eq_self, ↓w_rc, ↓w_gI, ↓w_gR, ↓w_aN, ↓w_aI, ↓w_aR, ↓w_aL, ↓w_pI, ↓w_pR, ↓w_sI, ↓w_sR, ↓w_sL, ↓w_nO, ↓w_nA, ↓w_nL, ↓w_ca, ↓w_ca0, ↓w_gS, ↓w_gK, ↓w_dv, ↓w_tw, ↓w_rz, ↓w_no, nv_lit, nv_f, nv_add, nv_mul, nv_sub, nv_le, nv_lt, nv_eq, nv_cl, Nat.reduceMod, Nat.reduceMul, Nat.reduceAdd, Nat.zero_add, Nat.add_zero, Nat.mul_zero, decide_eq_true_eq, nv_inT, nrk20]
    · simp (disch := omega) only [J4_equals, J4_equals_36, J4_equals_54, J4_equals_55, J14_equals, ↓w_bd, ↓w_rt, ↓w_bh, sm_l, sm_r, ↓w_okr, ↓w_nm, ↓w_ite, ↓reduceIte, not_true_eq_false, not_false_eq_true, and_true, true_and, and_self, Option.some.injEq, reduceCtorEq, eq_self, ↓w_rc, ↓w_gI, ↓w_gR, ↓w_aN, ↓w_aI, ↓w_aR, ↓w_aL, ↓w_pI, ↓w_pR, ↓w_sI, ↓w_sR, ↓w_sL, ↓w_nO, ↓w_nA, ↓w_nL, ↓w_ca, ↓w_ca0, ↓w_gS, ↓w_gK, ↓w_dv, ↓w_tw, ↓w_rz, ↓w_no, nv_lit, nv_f, nv_add, nv_mul, nv_sub, nv_le, nv_lt, nv_eq, nv_cl, Nat.reduceMod, Nat.reduceMul, Nat.reduceAdd, Nat.zero_add, Nat.add_zero, Nat.mul_zero, decide_eq_true_eq, nv_inT, ↓w_iO, Option.some.injEq, c, a1, a2, a3, a4, a5, b1, b2, b3, b4, b5, List.contains_cons, List.contains_nil, Nat.reduceBEq, Bool.or_true, Bool.true_or, Bool.or_false, BEq.rfl, n10, nrk21, nrk20, elm]
theorem sw44 : ((nv 4).toInt < 4 ∨ 10 < (nv 4).toInt) = False := eq_false (by decide)
theorem ch_m (c : Nat) (h : c ≤ 255) : nv c &&& nv 255 = nv c := by
  have hf : ∀ c : Fin 256, nv c.val &&& nv 255 = nv c.val := by decide +kernel
  exact hf ⟨c, by omega⟩
theorem J4_hash_w {d : Hp} {w l : Nat} {f : Nat → Nat} (h1 : Sg d w l f) (h2 : Hs d w l f) (hl : l ≤ 1000) (fb : ∀ i, f i ≤ 255) (Q : Int32 → Hp → Prop) (kk : ∀ d', (d' = d ∨ (hK d w = 13 ∧ ∃ g, d' = hwI d w g)) → EP (fun x => x = w) d d' → Sg d' w l f → Hs d' w l f → hSz d' = hSz d → hSl d' = hSl d → Q (hsh f l) d') : Wp (J4_hashCode w) d Q := by
  have hg := h1
  obtain ⟨a1, a2, v, a3, a4, a5, a6, a7, a8, a9⟩ := h1
  rcases h2 with ⟨c2, c3⟩ | ⟨ck, cv, c2, c3⟩
  · by_cases z : hsh f l = nv 0
    · have c3' := c3 z
      rw [z] at c2
      simp (disch := omega) only [J4_hashCode, J4_hashCode_58, ↓w_bd, ↓w_rt, ↓w_bh, sm_l, sm_r, ↓w_okr, ↓w_nm, ↓w_ite, ↓reduceIte, not_true_eq_false, not_false_eq_true, and_true, true_and, and_self, Option.some.injEq, reduceCtorEq, eq_self, ↓w_rc, ↓w_gI, ↓w_gR, ↓w_aN, ↓w_aI, ↓w_aR, ↓w_aL, ↓w_pI, ↓w_pR, ↓w_sI, ↓w_sR, ↓w_sL, ↓w_nO, ↓w_nA, ↓w_nL, ↓w_ca, ↓w_ca0, ↓w_gS, ↓w_gK, ↓w_dv, ↓w_tw, ↓w_rz, ↓w_no, nv_lit, nv_f, nv_add, nv_mul, nv_sub, nv_le, nv_lt, nv_eq, nv_cl, Nat.reduceMod, Nat.reduceMul, Nat.reduceAdd, Nat.zero_add, Nat.add_zero, Nat.mul_zero, decide_eq_true_eq, nv_inT, a1, c2, c3', n10]
      rw [← z]
      exact kk d (.inl rfl) (EP.rf _ d) hg (.inl ⟨by rw [z]; exact c2, fun _ => c3'⟩) rfl rfl
    · simp (disch := omega) only [J4_hashCode, J4_hashCode_58, ↓w_bd, ↓w_rt, ↓w_bh, sm_l, sm_r, ↓w_okr, ↓w_nm, ↓w_ite, ↓reduceIte, not_true_eq_false, not_false_eq_true, and_true, true_and, and_self, Option.some.injEq, reduceCtorEq, eq_self, ↓w_rc, ↓w_gI, ↓w_gR, ↓w_aN, ↓w_aI, ↓w_aR, ↓w_aL, ↓w_pI, ↓w_pR, ↓w_sI, ↓w_sR, ↓w_sL, ↓w_nO, ↓w_nA, ↓w_nL, ↓w_ca, ↓w_ca0, ↓w_gS, ↓w_gK, ↓w_dv, ↓w_tw, ↓w_rz, ↓w_no, nv_lit, nv_f, nv_add, nv_mul, nv_sub, nv_le, nv_lt, nv_eq, nv_cl, Nat.reduceMod, Nat.reduceMul, Nat.reduceAdd, Nat.zero_add, Nat.add_zero, Nat.mul_zero, decide_eq_true_eq, nv_inT, a1, c2, z]
      exact kk d (.inl rfl) (EP.rf _ d) hg (.inl ⟨c2, c3⟩) rfl rfl
  · have k42 : hK d v = 42 := by
      obtain ⟨v', v1, v2, -⟩ := cv
      rw [a3] at v1
      cases v1
      exact v2
    have lp : ∀ (Q' : Int32 → Hp → Prop) (fu k : Nat), k ≤ l → l - k < fu → (Wp (J11_signedHashCode_8 fu (hsh f k) (some v) (nv l) (nv k)) d Q' ↔ Q' (hsh f l) d) := by
      intro Q'
      refine loopUp _ l ?_ ?_
      · intro fu
        simp (disch := omega) only [J11_signedHashCode_8, ↓w_bd, ↓w_rt, ↓w_bh, sm_l, sm_r, ↓w_okr, ↓w_nm, ↓w_ite, ↓reduceIte, not_true_eq_false, not_false_eq_true, and_true, true_and, and_self, Option.some.injEq, reduceCtorEq, eq_self, ↓w_rc, ↓w_gI, ↓w_gR, ↓w_aN, ↓w_aI, ↓w_aR, ↓w_aL, ↓w_pI, ↓w_pR, ↓w_sI, ↓w_sR, ↓w_sL, ↓w_nO, ↓w_nA, ↓w_nL, ↓w_ca, ↓w_ca0, ↓w_gS, ↓w_gK, ↓w_dv, ↓w_tw, ↓w_rz, ↓w_no, nv_lit, nv_f, nv_add, nv_mul, nv_sub, nv_le, nv_lt, nv_eq, nv_cl, Nat.reduceMod, Nat.reduceMul, Nat.reduceAdd, Nat.zero_add, Nat.add_zero, Nat.mul_zero, decide_eq_true_eq, nv_inT, Nat.le_refl]
      · intro fu k hk ih
        have x1 := a6 k hk
        have y1 := fb k
        have m := (ch_m (f k) y1)
        simp (disch := omega) only [J11_signedHashCode_8, ↓w_bd, ↓w_rt, ↓w_bh, sm_l, sm_r, ↓w_okr, ↓w_nm, ↓w_ite, ↓reduceIte, not_true_eq_false, not_false_eq_true, and_true, true_and, and_self, Option.some.injEq, reduceCtorEq, eq_self, ↓w_rc, ↓w_gI, ↓w_gR, ↓w_aN, ↓w_aI, ↓w_aR, ↓w_aL, ↓w_pI, ↓w_pR, ↓w_sI, ↓w_sR, ↓w_sL, ↓w_nO, ↓w_nA, ↓w_nL, ↓w_ca, ↓w_ca0, ↓w_gS, ↓w_gK, ↓w_dv, ↓w_tw, ↓w_rz, ↓w_no, nv_lit, nv_f, nv_add, nv_mul, nv_sub, nv_le, nv_lt, nv_eq, nv_cl, Nat.reduceMod, Nat.reduceMul, Nat.reduceAdd, Nat.zero_add, Nat.add_zero, Nat.mul_zero, decide_eq_true_eq, nv_inT, a4, a5, Nat.not_le.mpr hk, x1, m]
        exact ih
    have hc : ∀ Q' : Int32 → Hp → Prop, Wp (J14_hashCode (some v)) d Q' ↔ Q' (hsh f l) d := by
      intro Q'
      by_cases l0 : l = 0
      · subst l0
        simp (disch := omega) only [J14_hashCode, J14_hashCode_51, ↓w_bd, ↓w_rt, ↓w_bh, sm_l, sm_r, ↓w_okr, ↓w_nm, ↓w_ite, ↓reduceIte, not_true_eq_false, not_false_eq_true, and_true, true_and, and_self, Option.some.injEq, reduceCtorEq, eq_self, ↓w_rc, ↓w_gI, ↓w_gR, ↓w_aN, ↓w_aI, ↓w_aR, ↓w_aL, ↓w_pI, ↓w_pR, ↓w_sI, ↓w_sR, ↓w_sL, ↓w_nO, ↓w_nA, ↓w_nL, ↓w_ca, ↓w_ca0, ↓w_gS, ↓w_gK, ↓w_dv, ↓w_tw, ↓w_rz, ↓w_no, nv_lit, nv_f, nv_add, nv_mul, nv_sub, nv_le, nv_lt, nv_eq, nv_cl, Nat.reduceMod, Nat.reduceMul, Nat.reduceAdd, Nat.zero_add, Nat.add_zero, Nat.mul_zero, decide_eq_true_eq, nv_inT, a4, a5]
        rfl
      · by_cases l1 : l = 1
        · subst l1
          have x1 := a6 0 (by omega)
          have m := (ch_m (f 0) (fb 0))
          have e : hsh f 1 = nv (f 0) := by
            show nv 31 * nv 0 + nv (f 0) = _
            rw [nv_mul, nv_add, Nat.mul_zero, Nat.zero_add]
          rw [e]
          simp (disch := omega) only [J14_hashCode, J14_hashCode_51, ↓w_bd, ↓w_rt, ↓w_bh, sm_l, sm_r, ↓w_okr, ↓w_nm, ↓w_ite, ↓reduceIte, not_true_eq_false, not_false_eq_true, and_true, true_and, and_self, Option.some.injEq, reduceCtorEq, eq_self, ↓w_rc, ↓w_gI, ↓w_gR, ↓w_aN, ↓w_aI, ↓w_aR, ↓w_aL, ↓w_pI, ↓w_pR, ↓w_sI, ↓w_sR, ↓w_sL, ↓w_nO, ↓w_nA, ↓w_nL, ↓w_ca, ↓w_ca0, ↓w_gS, ↓w_gK, ↓w_dv, ↓w_tw, ↓w_rz, ↓w_no, nv_lit, nv_f, nv_add, nv_mul, nv_sub, nv_le, nv_lt, nv_eq, nv_cl, Nat.reduceMod, Nat.reduceMul, Nat.reduceAdd, Nat.zero_add, Nat.add_zero, Nat.mul_zero, decide_eq_true_eq, nv_inT, a4, a5, x1, m]
        · simp (disch := omega) only [J14_hashCode, J14_hashCode_51, J11_vectorizedHashCode, J11_signedHashCode, ↓w_bd, ↓w_rt, ↓w_bh, sm_l, sm_r, ↓w_okr, ↓w_nm, ↓w_ite, ↓reduceIte, not_true_eq_false, not_false_eq_true, and_true, true_and, and_self, Option.some.injEq, reduceCtorEq, eq_self, ↓w_rc, ↓w_gI, ↓w_gR, ↓w_aN, ↓w_aI, ↓w_aR, ↓w_aL, ↓w_pI, ↓w_pR, ↓w_sI, ↓w_sR, ↓w_sL, ↓w_nO, ↓w_nA, ↓w_nL, ↓w_ca, ↓w_ca0, ↓w_gS, ↓w_gK, ↓w_dv, ↓w_tw, ↓w_rz, ↓w_no, nv_lit, nv_f, nv_add, nv_mul, nv_sub, nv_le, nv_lt, nv_eq, nv_cl, Nat.reduceMod, Nat.reduceMul, Nat.reduceAdd, Nat.zero_add, Nat.add_zero, Nat.mul_zero, decide_eq_true_eq, nv_inT, ↓w_caW, k42, a4, a5, l0, l1, sw44]
          have := lp Q' FU 0 (by omega) (by unfold FU; omega)
          exact this
    have k1 : hI d w 1 = nv 0 := a2
    have lat : ∀ Q' : Int32 → Hp → Prop, Wp (J4_isLatin1 w) d Q' ↔ Q' (nv 1) d := fun Q' => by
      simp (disch := omega) only [J4_isLatin1, J4_isLatin1_18, ↓w_bd, ↓w_rt, ↓w_bh, sm_l, sm_r, ↓w_okr, ↓w_nm, ↓w_ite, ↓reduceIte, not_true_eq_false, not_false_eq_true, and_true, true_and, and_self, Option.some.injEq, reduceCtorEq, eq_self, ↓w_rc, ↓w_gI, ↓w_gR, ↓w_aN, ↓w_aI, ↓w_aR, ↓w_aL, ↓w_pI, ↓w_pR, ↓w_sI, ↓w_sR, ↓w_sL, ↓w_nO, ↓w_nA, ↓w_nL, ↓w_ca, ↓w_ca0, ↓w_gS, ↓w_gK, ↓w_dv, ↓w_tw, ↓w_rz, ↓w_no, nv_lit, nv_f, nv_add, nv_mul, nv_sub, nv_le, nv_lt, nv_eq, nv_cl, Nat.reduceMod, Nat.reduceMul, Nat.reduceAdd, Nat.zero_add, Nat.add_zero, Nat.mul_zero, decide_eq_true_eq, nv_inT, a1, a2, n10, nrk21]
    have sg : ∀ g : Nat → Int32, g 1 = nv 0 → Sg (hwI d w g) w l f := fun g h => by
      refine ⟨a1, ?_, v, a3, a4, a5, fun i hi => ?_, a7, a8, a9⟩
      · rw [hI_wI, up1_s]; exact h
      · rw [hI_wI, up1_n _ _ (Ne.symm a9)]; exact a6 i hi
    by_cases z : hsh f l = nv 0
    · simp (disch := omega) only [J4_hashCode, J4_hashCode_58, ↓w_bd, ↓w_rt, ↓w_bh, sm_l, sm_r, ↓w_okr, ↓w_nm, ↓w_ite, ↓reduceIte, not_true_eq_false, not_false_eq_true, and_true, true_and, and_self, Option.some.injEq, reduceCtorEq, eq_self, ↓w_rc, ↓w_gI, ↓w_gR, ↓w_aN, ↓w_aI, ↓w_aR, ↓w_aL, ↓w_pI, ↓w_pR, ↓w_sI, ↓w_sR, ↓w_sL, ↓w_nO, ↓w_nA, ↓w_nL, ↓w_ca, ↓w_ca0, ↓w_gS, ↓w_gK, ↓w_dv, ↓w_tw, ↓w_rz, ↓w_no, nv_lit, nv_f, nv_add, nv_mul, nv_sub, nv_le, nv_lt, nv_eq, nv_cl, Nat.reduceMod, Nat.reduceMul, Nat.reduceAdd, Nat.zero_add, Nat.add_zero, Nat.mul_zero, decide_eq_true_eq, nv_inT, a1, c2, c3, lat, n10, a3, hc, z, ck, show okN 2 (nv 1) = true by decide]
      rw [← z]
      refine kk _ (.inr ⟨ck, _, rfl⟩) ((EP.rf (fun x => x = w) d).wI (.inl rfl) _) (sg _ ?_) (.inl ⟨?_, fun _ => ?_⟩) rfl rfl
      · rw [up1_n _ _ (by omega)]; exact a2
      · rw [hI_wI, up1_s, up1_n _ _ (by omega), c2, z]
      · rw [hI_wI, up1_s, up1_s]
    · simp (disch := omega) only [J4_hashCode, J4_hashCode_58, ↓w_bd, ↓w_rt, ↓w_bh, sm_l, sm_r, ↓w_okr, ↓w_nm, ↓w_ite, ↓reduceIte, not_true_eq_false, not_false_eq_true, and_true, true_and, and_self, Option.some.injEq, reduceCtorEq, eq_self, ↓w_rc, ↓w_gI, ↓w_gR, ↓w_aN, ↓w_aI, ↓w_aR, ↓w_aL, ↓w_pI, ↓w_pR, ↓w_sI, ↓w_sR, ↓w_sL, ↓w_nO, ↓w_nA, ↓w_nL, ↓w_ca, ↓w_ca0, ↓w_gS, ↓w_gK, ↓w_dv, ↓w_tw, ↓w_rz, ↓w_no, nv_lit, nv_f, nv_add, nv_mul, nv_sub, nv_le, nv_lt, nv_eq, nv_cl, Nat.reduceMod, Nat.reduceMul, Nat.reduceAdd, Nat.zero_add, Nat.add_zero, Nat.mul_zero, decide_eq_true_eq, nv_inT, a1, c2, c3, lat, n10, a3, hc, z, ck, okn]
      refine kk _ (.inr ⟨ck, _, rfl⟩) ((EP.rf (fun x => x = w) d).wI (.inl rfl) _) (sg _ ?_) (.inl ⟨?_, fun h => absurd h z⟩) rfl rfl
      · rw [up1_n _ _ (by omega)]; exact a2
      · rw [hI_wI, up1_s, up1_s]
theorem J3_init_w {a b : Hp} (hE : E0 a b) {q : Nat} (hq : hSz b = q + 1) (hk : hK b q = 12) (hi : hI b q = fun _ => nv 0) (hqa : hSz a ≤ q) (f : Nat → Nat) (Q : Unit → Hp → Prop)
    (kk : ∀ d, E0 a d → Bd d q (hSz b) 16 0 f → hSz d = hSz b + 1 → hSl d = hSl b + 16 → EP (fun x => x = q) b d → Q () d) : Wp (J3_init q) b Q := by
  unfold J3_init J2_init
  simp (disch := omega) only [↓w_bd, ↓w_rt, ↓w_bh, sm_l, sm_r, ↓w_okr, ↓w_nm, ↓w_ite, ↓reduceIte, not_true_eq_false, not_false_eq_true, and_true, true_and, and_self, Option.some.injEq, reduceCtorEq, eq_self, ↓w_rc, ↓w_gI, ↓w_gR, ↓w_aN, ↓w_aI, ↓w_aR, ↓w_ca, ↓w_ca0, nv_lit, nv_f, nv_add, nv_mul, nv_sub, nv_le, nv_lt, nv_eq, nv_cl, Nat.reduceMod, Nat.reduceMul, Nat.reduceAdd, Nat.zero_add, Nat.add_zero, Nat.mul_zero, decide_eq_true_eq, nv_inT, n10]
  refine w_nA' (n := 16) (by omega) fun c e1 z1 l1 ck cn ci cr => ?_
  have oq := e1.2.2 q (by omega)
  have qk : hK c q = 12 := by rw [oq.1]; exact hk
  simp (disch := omega) only [↓w_bd, ↓w_rt, ↓w_bh, sm_l, sm_r, ↓w_okr, ↓w_nm, ↓w_ite, ↓reduceIte, not_true_eq_false, not_false_eq_true, and_true, true_and, and_self, Option.some.injEq, reduceCtorEq, eq_self, ↓w_rc, ↓w_gI, ↓w_gR, ↓w_aN, ↓w_aI, ↓w_aR, ↓w_aL, ↓w_pI, ↓w_pR, ↓w_sI, ↓w_sR, ↓w_sL, ↓w_nO, ↓w_nA, ↓w_nL, ↓w_ca, ↓w_ca0, ↓w_gS, ↓w_gK, ↓w_dv, ↓w_tw, ↓w_rz, ↓w_no, nv_lit, nv_f, nv_add, nv_mul, nv_sub, nv_le, nv_lt, nv_eq, nv_cl, Nat.reduceMod, Nat.reduceMul, Nat.reduceAdd, Nat.zero_add, Nat.add_zero, Nat.mul_zero, decide_eq_true_eq, nv_inT, qk, hK_wR, show okN 1 (nv 0) = true by decide]
  have nq : q ≠ hSz b := by omega
  refine kk _ (((hE.tr e1).wR hqa _).wI hqa _) ⟨⟨qk, ?_, ?_, ?_⟩, ⟨ck, cn⟩, fun i hi2 => ?_, by omega, nq, ?_, ?_⟩ z1 l1 ?_
  · rw [hR_wI, hR_wR, up1_s, up1_s]
  · rw [hI_wI, up1_s, up1_s]
  · rw [hI_wI, up1_s, up1_n _ _ (by omega), hI_wR, oq.2.2.2.1, hi]
  · rw [hI_wI, up1_n _ _ (Ne.symm nq), hI_wR, ci, if_neg (by omega)]
  · show q < hSz c
    omega
  · show hSz b < hSz c
    omega
  · exact ((e1.ep (fun x => x = q)).wR (.inl rfl) _).wI (.inl rfl) _
theorem J3_str_w {d : Hp} {q v cap j : Nat} {f : Nat → Nat} (hB : Bd d q v cap j f) (hc : cap ≤ 600) (hj : j ≤ 500) (hf : ∀ i, i < j → f i ≤ 127) (Q : Option Nat → Hp → Prop)
    (kk : ∀ d', E0 d d' → Sg d' (hSz d) j f → Hs d' (hSz d) j f → hSz d' = hSz d + 2 → hSl d' ≤ hSl d + 4 + cap → Q (some (hSz d)) d') : Wp (J3_toString q) d Q := by
  obtain ⟨⟨k1, k2, k3, k4⟩, ⟨k5, k6⟩, hv, hjc, hne, zq, zv⟩ := hB
  unfold J3_toString
  rw [w_bd]
  refine w_nO' fun c1 e1 z1 l1 ck1 ci1 cr1 => ?_
  have oq := e1.2.2 q zq
  have ov := e1.2.2 v zv
  have q1 : hK c1 q = 12 := by rw [oq.1]; exact k1
  have q2 : hR c1 q 0 = some v := by rw [oq.2.2.1]; exact k2
  have q3 : hI c1 q 1 = nv 0 := by rw [oq.2.2.2.1]; exact k3
  have q4 : hI c1 q 3 = nv j := by rw [oq.2.2.2.1]; exact k4
  have v1 : hK c1 v = 42 := by rw [ov.1]; exact k5
  have v2 : hN c1 v = cap := by rw [ov.2.1]; exact k6
  have vi : ∀ i, i < j → hI c1 v i = nv (f i) := fun i hi => by rw [ov.2.2.2.1, hv i (by omega), if_pos hi]
  have va : ∀ i, i < cap → -128 ≤ hI c1 v i ∧ hI c1 v i ≤ 127 := fun i hi => by
    rw [ov.2.2.2.1, hv i hi]
    by_cases c : i < j
    · rw [if_pos c]; exact ⟨(by_ok (hf i c)).2.2.1, (by_ok (hf i c)).2.2.2⟩
    · rw [if_neg c]; decide
  have okb : ∀ n, n ≤ cap → okB c1 42 v 0 n = true := fun n hn => by
    unfold okB
    rw [Bool.or_eq_true]
    right
    rw [List.all_eq_true]
    intro i hi
    have hi2 : i < n := List.mem_range.mp hi
    have := va i (by omega)
    rw [Nat.zero_add, Bool.and_eq_true]
    exact ⟨decide_eq_true this.1, decide_eq_true this.2⟩
  obtain ⟨c2, ec2⟩ : ∃ c2, c2 = hwI c1 (hSz d) (up1 (fun _ => nv 0) 1 (nv 0)) := ⟨_, rfl⟩
  have up0 : up1 (fun _ : Nat => nv 0) 1 (nv 0) = fun _ => nv 0 := by
    funext i
    unfold up1
    split <;> rfl
  have E2 : E0 d c2 := by rw [ec2]; exact e1.wI (Nat.le_refl _) _
  have w1 : hK c2 (hSz d) = 13 := by rw [ec2]; exact ck1
  have w2 : hI c2 (hSz d) = fun _ => nv 0 := by rw [ec2, hI_wI, up1_s, up0]
  have p1 : hK c2 v = 42 := by rw [ec2]; exact v1
  have p2 : hN c2 v = cap := by rw [ec2]; exact v2
  have nvw : v ≠ hSz d := by omega
  have p3 : hI c2 v = hI c1 v := by rw [ec2, hI_wI, up1_n _ _ nvw]
  have z2 : hSz c2 = hSz d + 1 ∧ hSl c2 = hSl d + 4 := by rw [ec2]; exact ⟨z1, l1⟩
  simp (disch := omega) only [J4_init, J4_init_2, J4_init_2_97, J2_getValue, J3_length, J2_length, ↓w_bd, ↓w_rt, ↓w_bh, sm_l, sm_r, ↓w_okr, ↓w_nm, ↓w_ite, ↓reduceIte, not_true_eq_false, not_false_eq_true, and_true, true_and, and_self, Option.some.injEq, reduceCtorEq, eq_self, ↓w_rc, ↓w_gI, ↓w_gR, ↓w_aN, ↓w_aI, ↓w_aR, ↓w_ca, ↓w_ca0, nv_lit, nv_f, nv_add, nv_mul, nv_sub, nv_le, nv_lt, nv_eq, nv_cl, Nat.reduceMod, Nat.reduceMul, Nat.reduceAdd, Nat.zero_add, Nat.add_zero, Nat.mul_zero, decide_eq_true_eq, nv_inT, q1, q2, q4, J2_is_w q1 q3, n10, ↓w_pI, ck1, ci1, show okN 1 (nv 0) = true by decide, ← ec2, J13_copyOfRange, p1, p2]
  have fin : ∀ (c : Hp), E0 c2 c → hSz c = hSz c2 + 1 → hSl c ≤ hSl c2 + cap → hK c (hSz c2) = 42 → hN c (hSz c2) = j → (∀ i, i < j → hI c (hSz c2) i = nv (f i)) → Q (some (hSz d)) (hwR c (hSz d) (up1 (hR c (hSz d)) 0 (some (hSz c2)))) := by
    intro c ec zc lc kc nc ic
    have ow := ec.2.2 (hSz d) (by omega)
    have nw : hSz d ≠ hSz c2 := by omega
    have cK : hK c (hSz d) = 13 := by rw [ow.1]; exact w1
    have cI : ∀ i, hI c (hSz d) i = nv 0 := fun i => by rw [ow.2.2.2.1, w2]
    refine kk _ ((E2.tr ec).wR (Nat.le_refl _) _) ⟨by show hK c (hSz d) % 100 = 13; rw [cK], ?_, hSz c2, ?_, by show hK c (hSz c2) % 100 = 42; rw [kc], nc, fun i hi => ?_, ?_, ?_, nw⟩ (.inr ⟨cK, ⟨hSz c2, ?_, kc, ?_⟩, ?_, ?_⟩) ?_ ?_
    · rw [hI_wR]; exact cI 1
    · rw [hR_wR, up1_s, up1_s]
    · rw [hI_wR]; exact ic i hi
    · show hSz d < hSz c
      omega
    · show hSz c2 < hSz c
      omega
    · rw [hR_wR, up1_s, up1_s]
    · show hSz c2 < hSz c
      omega
    · rw [hI_wR]; exact cI 2
    · rw [hI_wR]; exact cI 3
    · show hSz c = _
      omega
    · show hSl c ≤ _
      omega
  by_cases cj : j = cap
  · have okc : okB c2 42 v 0 cap = true := by
      have := okb cap (Nat.le_refl _)
      unfold okB at *
      rw [p3]
      exact this
    have ec := (E0.rf c2).new 42 cap cap (hI c2 v) (fun _ => none)
    have kc : hK (hNew c2 42 cap cap (hI c2 v) (fun _ => none)) (hSz c2) = 42 := by rw [hK_new, up1_s]
    have wk : hK (hNew c2 42 cap cap (hI c2 v) (fun _ => none)) (hSz d) = 13 := by rw [(ec.2.2 (hSz d) (by omega)).1]; exact w1
    simp (disch := omega) only [cj, ↓w_bd, ↓w_rt, ↓w_bh, sm_l, sm_r, ↓w_okr, ↓w_nm, ↓w_ite, ↓reduceIte, not_true_eq_false, not_false_eq_true, and_true, true_and, and_self, Option.some.injEq, reduceCtorEq, eq_self, ↓w_rc, ↓w_gI, ↓w_gR, ↓w_aN, ↓w_aI, ↓w_aR, ↓w_ca, ↓w_ca0, nv_lit, nv_f, nv_add, nv_mul, nv_sub, nv_le, nv_lt, nv_eq, nv_cl, Nat.reduceMod, Nat.reduceMul, Nat.reduceAdd, Nat.zero_add, Nat.add_zero, Nat.mul_zero, decide_eq_true_eq, nv_inT, ↓w_cA, p1, p2, okc, ↓w_caW, kc, ↓w_pR, wk]
    refine fin _ ec rfl (Nat.le_refl _) kc ?_ (fun i hi => ?_)
    · rw [hN_new, up1_s, cj]
    · rw [hI_new, up1_s, p3]; exact vi i hi
  · simp (disch := omega) only [cj, ↓w_bd, ↓w_rt, ↓w_bh, sm_l, sm_r, ↓w_okr, ↓w_nm, ↓w_ite, ↓reduceIte, not_true_eq_false, not_false_eq_true, and_true, true_and, and_self, Option.some.injEq, reduceCtorEq, eq_self, ↓w_rc, ↓w_gI, ↓w_gR, ↓w_aN, ↓w_aI, ↓w_aR, ↓w_ca, ↓w_ca0, nv_lit, nv_f, nv_add, nv_mul, nv_sub, nv_le, nv_lt, nv_eq, nv_cl, Nat.reduceMod, Nat.reduceMul, Nat.reduceAdd, Nat.zero_add, Nat.add_zero, Nat.mul_zero, decide_eq_true_eq, nv_inT, J13_copyOfRange_10, J13_copyOfRangeByte, J13_checkLength, Nat.zero_le, Nat.sub_zero]
    refine w_nA' (n := j) (by omega) fun c e3 z3 l3 ck cn ci cr => ?_
    have o3 := e3.2.2 v (by have := E2.1; omega)
    have r1 : hK c v = 42 := by rw [o3.1]; exact p1
    have r2 : hN c v = cap := by rw [o3.2.1]; exact p2
    have r3 : hI c v = hI c1 v := by rw [o3.2.2.2.1, p3]
    have mnj : mn (nv cap) (nv j) = nv j := by rw [mn_nv (by omega) (by omega), Nat.min_eq_right (by omega)]
    have cz : (nv 0).toNatClampNeg = 0 := rfl
    have ccj : (nv j).toNatClampNeg = j := nv_cl (by omega)
    have ok1 : okC c (some v) (nv 0) (nv j) = true := by
      have z : ¬ nv j < 0 := by rw [show (0 : Int32) = nv 0 from rfl, nv_lt (by omega) (by omega)]; omega
      have z0 : ¬ nv 0 < 0 := by decide
      unfold okC
      simp only [ccj, cz, z, z0, r2, not_false_eq_true, true_and, Nat.zero_add, decide_eq_true_eq]
      omega
    have ok2 : okC c (some (hSz c2)) (nv 0) (nv j) = true := okC_n cn (by omega)
    have ok3 : okB c 42 v 0 j = true := by
      have := okb j (by omega)
      unfold okB at *
      rw [r3]
      exact this
    have wk : hK c (hSz d) = 13 := by rw [(e3.2.2 (hSz d) (by omega)).1]; exact w1
    simp (disch := omega) only [↓w_bd, ↓w_rt, ↓w_bh, sm_l, sm_r, ↓w_okr, ↓w_nm, ↓w_ite, ↓reduceIte, not_true_eq_false, not_false_eq_true, and_true, true_and, and_self, Option.some.injEq, reduceCtorEq, eq_self, ↓w_rc, ↓w_gI, ↓w_gR, ↓w_aN, ↓w_aI, ↓w_aR, ↓w_ca, ↓w_ca0, nv_lit, nv_f, nv_add, nv_mul, nv_sub, nv_le, nv_lt, nv_eq, nv_cl, Nat.reduceMod, Nat.reduceMul, Nat.reduceAdd, Nat.zero_add, Nat.add_zero, Nat.mul_zero, decide_eq_true_eq, nv_inT, r1, r2, Nat.sub_zero, J12_min_w, mnj, ↓w_cpI, ck, ok1, ok2, cz, ccj, ok3, ↓w_pR, hK_wI, wk]
    refine fin _ (e3.wI (Nat.le_refl _) _) z3 (by show hSl c ≤ _; omega) ck cn (fun i hi => ?_)
    rw [hI_wI, up1_s]
    unfold va_cpy
    rw [if_pos (by omega), Nat.zero_add, Nat.sub_zero, r3]
    exact vi i hi
