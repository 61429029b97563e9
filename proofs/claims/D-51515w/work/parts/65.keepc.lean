/-! THE COMPONENT KEEPS ITS MARKET -/
def sA (S : Gst) (p : Mp) : Gst := ((up1 (gm S) (1 + gu S) (some p), gu S + 1), S.2)
def sRm (S : Gst) : Gst := ((fun i => if 1 ≤ i ∧ i ≤ 5 then gm S (i + 1) else if i = 6 then none else gm S i, 5), S.2)
theorem sK_a {S : Gst} {p : Mp} (h : gu S ≠ 6) : sK S p = sA S p := if_neg h
theorem sK_6 {S : Gst} {p : Mp} (h : gu S = 6) : sK S p = sA (sRm S) p := by
  have e : sK S p = ((fun i => if 1 ≤ i ∧ i ≤ 5 then gm S (i + 1) else if i = 6 then some p else gm S i, 6), S.2) := if_pos h
  rw [e]
  unfold sA
  have : gm (sRm S) = fun i => if 1 ≤ i ∧ i ≤ 5 then gm S (i + 1) else if i = 6 then none else gm S i := rfl
  rw [this]
  have e5 : gu (sRm S) = 5 := rfl
  rw [e5]
  have : (sRm S).2 = S.2 := rfl
  rw [this]
  congr 2
  funext i
  show (if 1 ≤ i ∧ i ≤ 5 then gm S (i + 1) else if i = 6 then some p else gm S i) = (if i = 1 + 5 then some p else if 1 ≤ i ∧ i ≤ 5 then gm S (i + 1) else if i = 6 then none else gm S i)
  by_cases c : i = 6
  · subst c
    rw [if_neg (by omega), if_pos rfl, if_pos (by omega)]
  · rw [if_neg (show ¬ i = 1 + 5 by omega), if_neg c, if_neg c]
def P26 (G : Nat → Nat) (q : Nat) : Prop := q = G 2 ∨ q = G 6
theorem p26_q {G : Nat → Nat} {q : Nat} (h : P26 G q) : Pq G q := by
  rcases h with e | e
  · exact .inr (.inl e)
  · exact .inr (.inr (.inr e))
theorem JM.e {G : Nat → Nat} {B : Nat → Nat × Nat} {S : Gst} {a : Hp} (hC : JC G B S a) {i : Nat} {p : Mp} (h : gm S i = some p) : Mk B a p.1 p.2 ∧ p.1 0 < hSz a ∧ i < 9 ∧ Ro p.2 := by
  have := hC.2.2.1.2.1 i p h
  exact ⟨this.2.1, (this.2.1.2.1 0 (lv_0 (by omega))).1, this.1, this.2.2⟩
theorem X1_keep_23_w {G : Nat → Nat} {B : Nat → Nat × Nat} {S : Gst} {a : Hp} {L : Nat → Nat} {R : Nat → Int32} (hC : JC G B S a) (h0 : gm S 0 = some (L, R)) (hu : gu S < 6) (Q : Unit → Hp → Prop)
    (h : ∀ b B' L', JC G B' (sA S (L', R)) b → EP (P26 G) a b → (∀ x, x < hSz a → B' x = B x) → hSz b ≤ hSz a + 141 → hSl b ≤ hSl a + 706 → Q () b) : Wp (X1_keep_23 (G 0)) a Q := by
  have hG := hC.1.gd
  have hs : ∀ i, i < 22 → G i < hSz a := fun i hi => (hC.1 i hi).1
  have hM : Mk B a L R := (JM.e hC h0).1
  have hRo : Ro R := (JM.e hC h0).2.2.2
  have hJ := hC.2.1
  have h4 : hR a (G 0) 4 = some (L 0) := by
    obtain ⟨p, e1, e2⟩ := hC.2.2.1.1
    rw [h0] at e1
    cases e1
    exact e2
  obtain ⟨d1, d2, hd, d3, d4, d5, d6⟩ := hC.2.2.2.1
  simp (disch := omega) only [X1_keep_23, ↓w_bd, ↓w_rt, ↓w_bh, sm_l, sm_r, ↓w_okr, ↓w_nm, ↓w_ite, ↓reduceIte, not_true_eq_false, not_false_eq_true, and_true, true_and, and_self, Option.some.injEq, reduceCtorEq, eq_self, ↓w_rc, ↓w_gI, ↓w_gR, ↓w_aN, ↓w_aI, ↓w_aR, ↓w_ca, ↓w_ca0, nv_lit, nv_f, nv_add, nv_mul, nv_sub, nv_le, nv_lt, nv_eq, nv_cl, Nat.reduceMod, Nat.reduceMul, Nat.reduceAdd, Nat.zero_add, Nat.add_zero, Nat.mul_zero, decide_eq_true_eq, nv_inT, hJ]
  refine w_nO' fun c1 e1 z1 l1 k1 i1 r1 => ?_
  have o0 := e1.2.2 (G 0) (hs 0 (by omega))
  have k0 : hK c1 (G 0) = 1 := by rw [o0.1]; exact hJ.1.1
  have r4 : hR c1 (G 0) 4 = some (L 0) := by rw [o0.2.2.1]; exact h4
  simp (disch := omega) only [↓w_bd, ↓w_rt, ↓w_bh, sm_l, sm_r, ↓w_okr, ↓w_nm, ↓w_ite, ↓reduceIte, not_true_eq_false, not_false_eq_true, and_true, true_and, and_self, Option.some.injEq, reduceCtorEq, eq_self, ↓w_rc, ↓w_gI, ↓w_gR, ↓w_aN, ↓w_aI, ↓w_aR, ↓w_ca, ↓w_ca0, nv_lit, nv_f, nv_add, nv_mul, nv_sub, nv_le, nv_lt, nv_eq, nv_cl, Nat.reduceMod, Nat.reduceMul, Nat.reduceAdd, Nat.zero_add, Nat.add_zero, Nat.mul_zero, decide_eq_true_eq, nv_inT, k0, r4]
  refine X2_copy_w hM rfl z1 e1 k1 _ fun c B' Ln ec hB hNm en lve zc lc => ?_
  have oG := fun i hi => ec.2.2 (G i) (hs i hi)
  have hD : Dq G c hd ((hd + gu S) % 17) := by
    refine Dq.e0 ⟨⟨hJ.2.1.2.1, hJ.2.2.2.1, hJ.2.1.2.2.2.2.2.1, hJ.2.2.1.2.2.2.1⟩, d4, d5, d3, Nat.mod_lt _ (by omega)⟩ ec hs
  have kq : hK c (hSz a) = 2 := by
    rw [← en]
    exact (mk_k hNm).1.1
  simp (disch := omega) only [↓w_bd, ↓w_rt, ↓w_bh, sm_l, sm_r, ↓w_okr, ↓w_nm, ↓w_ite, ↓reduceIte, not_true_eq_false, not_false_eq_true, and_true, true_and, and_self, Option.some.injEq, reduceCtorEq, eq_self, ↓w_rc, ↓w_gI, ↓w_gR, ↓w_aN, ↓w_aI, ↓w_aR, ↓w_ca, ↓w_ca0, nv_lit, nv_f, nv_add, nv_mul, nv_sub, nv_le, nv_lt, nv_eq, nv_cl, Nat.reduceMod, Nat.reduceMul, Nat.reduceAdd, Nat.zero_add, Nat.add_zero, Nat.mul_zero, decide_eq_true_eq, nv_inT, (oG 2 (by omega)).1, hJ, J1_addLast_w hD kq (show hd ≠ ((hd + gu S) % 17 + 1) % 17 by omega)]
  have ecb : EP (P26 G) c (hwI (hwR c (G 6) (up1 (hR c (G 6)) ((hd + gu S) % 17) (some (hSz a)))) (G 2) (up1 (hI c (G 2)) 2 (nv (((hd + gu S) % 17 + 1) % 17)))) := ((EP.rf _ c).wR (.inl (.inr rfl)) _).wI (.inl (.inl rfl)) _
  have eab := (ec.ep (P26 G)).tr ecb
  have n6 := fun i (hi : i < 22) (hn : i ≠ 6) => hG.ne hi (show 6 < 22 by omega) hn
  have n2 := fun i (hi : i < 22) (hn : i ≠ 2) => hG.ne hi (show 2 < 22 by omega) hn
  have gmn : ∀ i, i ≠ 1 + gu S → gm (sA S (Ln, R)) i = gm S i := fun i hi => up1_n (gm S) _ hi
  have gms : gm (sA S (Ln, R)) (1 + gu S) = some (Ln, R) := up1_s (gm S) _ _
  have gus : gu (sA S (Ln, R)) = gu S + 1 := rfl
  refine h _ B' Ln (hC.gen (eab.mono fun q => p26_q) hB rfl ?_ ?_ (.inr ⟨?_, ?_, ?_, ?_⟩) ⟨?_, ?_⟩ ?_ ⟨?_, ?_, ?_⟩ ⟨?_, ?_, ?_⟩ ?_) eab hB ?_ ?_
  · intro j _
    rw [hR_wI, hR_wR, up1_n _ _ (n6 0 (by omega) (by omega)), (oG 0 (by omega)).2.2.1]
  · rw [hI_wI, up1_n _ _ (n2 0 (by omega) (by omega)), hI_wR, (oG 0 (by omega)).2.2.2.1]
  · show hK c (G 0) = 1
    rw [(oG 0 (by omega)).1]; exact hJ.1.1
  · show hK c (G 2) = 11
    rw [(oG 2 (by omega)).1]; exact hJ.2.1.2.1
  · show hK c (G 3) = 49
    rw [(oG 3 (by omega)).1]; exact hJ.2.1.2.2.1
  · show hK c (G 6) = 46
    rw [(oG 6 (by omega)).1]; exact hJ.2.1.2.2.2.2.2.1
  · show hN c (G 3) = 2
    rw [(oG 3 (by omega)).2.1]; exact hJ.2.2.1.2.1
  · show hN c (G 6) = 17
    rw [(oG 6 (by omega)).2.1]; exact hJ.2.2.1.2.2.2.1
  · rw [hR_wI, hR_wR, up1_n _ _ (n6 2 (by omega) (by omega)), (oG 2 (by omega)).2.2.1]; exact hJ.2.2.2.1
  · refine ⟨(L, R), by rw [gmn 0 (by omega)]; exact h0, ?_⟩
    rw [hR_wI, hR_wR, up1_n _ _ (n6 0 (by omega) (by omega)), (oG 0 (by omega)).2.2.1]
    exact h4
  · intro i p hp
    by_cases c1 : i = 1 + gu S
    · subst c1
      rw [gms] at hp
      cases hp
      refine ⟨by omega, hNm.ep ecb (fun q hq => ?_) (fun _ _ => rfl), hRo⟩
      have k2 : hK c (G 2) = 11 := by rw [(oG 2 (by omega)).1]; exact hJ.2.1.2.1
      have k6 : hK c (G 6) = 46 := by rw [(oG 6 (by omega)).1]; exact hJ.2.1.2.2.2.2.2.1
      rcases hq with rfl | rfl
      · rw [hB _ (hs 2 (by omega)), (hC.1 2 (by omega)).2]
        exact ⟨by simp, by omega⟩
      · rw [hB _ (hs 6 (by omega)), (hC.1 6 (by omega)).2]
        exact ⟨by simp, by omega⟩
    · rw [gmn i c1] at hp
      obtain ⟨m1, m2, m3, m4⟩ := JM.e hC hp
      exact ⟨m3, m1.ep eab (fun q hq => pq_P hC _ q (p26_q hq)) hB, m4⟩
  · intro i j p q hij hp hq
    by_cases c1 : i = 1 + gu S
    · subst c1
      rw [gms] at hp
      cases hp
      rw [gmn j (Ne.symm hij)] at hq
      have := (JM.e hC hq).2.1
      show Ln 0 ≠ q.1 0
      omega
    · rw [gmn i c1] at hp
      by_cases c2 : j = 1 + gu S
      · subst c2
        rw [gms] at hq
        cases hq
        have := (JM.e hC hp).2.1
        show p.1 0 ≠ Ln 0
        omega
      · rw [gmn j c2] at hq
        exact hC.2.2.1.2.2 i j p q hij hp hq
  · rw [gus]; omega
  · intro i hi
    rw [gus]
    by_cases c1 : i = gu S
    · subst c1
      rw [gms]
      simp
    · rw [gmn _ (by omega), d2 i hi]
      omega
  · refine ⟨hd, d3, ?_, ?_, fun i p hi hp => ?_⟩
    · rw [hI_wI, up1_s, up1_n _ _ (by omega), (oG 2 (by omega)).2.2.2.1]; exact d4
    · rw [hI_wI, up1_s, up1_s, gus]
      congr 1
      omega
    · rw [hR_wI, hR_wR, up1_s]
      rw [gus] at hi
      by_cases c1 : i = gu S
      · subst c1
        rw [gms] at hp
        cases hp
        rw [up1_s]
        show some (hSz a) = some (Ln 0)
        rw [en]
      · rw [gmn _ (by omega)] at hp
        rw [up1_n _ _ (by omega), (oG 6 (by omega)).2.2.1]
        exact d6 i p (by omega) hp
  · intro j hj
    rw [gmn _ (by omega), hR_wI, hR_wR, up1_n _ _ (n6 3 (by omega) (by omega)), (oG 3 (by omega)).2.2.1]
    exact hC.2.2.2.2.1 j hj
  · show hSz c ≤ _
    omega
  · show hSl c ≤ _
    omega
/-- the oldest of six goes -/
theorem JC.rm {G : Nat → Nat} {B : Nat → Nat × Nat} {S : Gst} {a : Hp} (hC : JC G B S a) (hu : gu S = 6) {hd : Nat} (d3 : hd < 17) (d4 : hI a (G 2) 1 = nv hd) (d5 : hI a (G 2) 2 = nv ((hd + gu S) % 17)) (d6 : ∀ i p, i < gu S → gm S (1 + i) = some p → hR a (G 6) ((hd + i) % 17) = some (p.1 0)) :
    EP (P26 G) a (hwI (hwR a (G 6) (up1 (hR a (G 6)) hd none)) (G 2) (up1 (hI a (G 2)) 1 (nv ((hd + 1) % 17)))) ∧ JC G B (sRm S) (hwI (hwR a (G 6) (up1 (hR a (G 6)) hd none)) (G 2) (up1 (hI a (G 2)) 1 (nv ((hd + 1) % 17)))) := by
  have hG := hC.1.gd
  have hJ := hC.2.1
  have d2 := hC.2.2.2.1.2.1
  have ecb : EP (P26 G) a (hwI (hwR a (G 6) (up1 (hR a (G 6)) hd none)) (G 2) (up1 (hI a (G 2)) 1 (nv ((hd + 1) % 17)))) := ((EP.rf _ a).wR (.inl (.inr rfl)) _).wI (.inl (.inl rfl)) _
  refine ⟨ecb, ?_⟩
  have n6 := fun i (hi : i < 22) (hn : i ≠ 6) => hG.ne hi (show 6 < 22 by omega) hn
  have n2 := fun i (hi : i < 22) (hn : i ≠ 2) => hG.ne hi (show 2 < 22 by omega) hn
  have gmi : ∀ i, gm (sRm S) i = if 1 ≤ i ∧ i ≤ 5 then gm S (i + 1) else if i = 6 then none else gm S i := fun _ => rfl
  have gus : gu (sRm S) = 5 := rfl
  have gmr : ∀ i p, gm (sRm S) i = some p → ∃ j, gm S j = some p ∧ i ≠ 6 ∧ j = if 1 ≤ i ∧ i ≤ 5 then i + 1 else i := by
    intro i p hp
    rw [gmi] at hp
    split at hp <;> rename_i g1
    · exact ⟨i + 1, hp, by omega, by rw [if_pos g1]⟩
    · split at hp <;> rename_i g2
      · cases hp
      · exact ⟨i, hp, g2, by rw [if_neg g1]⟩
  refine hC.gen (ecb.mono fun q => p26_q) (fun _ _ => rfl) rfl ?_ ?_ (.inl rfl) ⟨hJ.2.2.1.2.1, hJ.2.2.1.2.2.2.1⟩ ?_ ⟨?_, ?_, ?_⟩ ⟨?_, ?_, ?_⟩ ?_
  · intro j _
    rw [hR_wI, hR_wR, up1_n _ _ (n6 0 (by omega) (by omega))]
  · rw [hI_wI, up1_n _ _ (n2 0 (by omega) (by omega)), hI_wR]
  · rw [hR_wI, hR_wR, up1_n _ _ (n6 2 (by omega) (by omega))]; exact hJ.2.2.2.1
  · obtain ⟨p, e1, e2⟩ := hC.2.2.1.1
    refine ⟨p, e1, ?_⟩
    rw [hR_wI, hR_wR, up1_n _ _ (n6 0 (by omega) (by omega))]
    exact e2
  · intro i p hp
    obtain ⟨j, hj, h6, ej⟩ := gmr i p hp
    obtain ⟨m1, m2, m3, m4⟩ := JM.e hC hj
    refine ⟨?_, m1.ep ecb (fun q hq => pq_P hC _ q (p26_q hq)) (fun _ _ => rfl), m4⟩
    split at ej <;> omega
  · intro i j p q hij hp hq
    obtain ⟨i', hi', i6, ei⟩ := gmr i p hp
    obtain ⟨j', hj', j6, ej⟩ := gmr j q hq
    refine hC.2.2.1.2.2 i' j' p q ?_ hi' hj'
    intro e
    apply hij
    split at ei <;> split at ej <;> omega
  · rw [gus]; omega
  · intro i hi
    rw [gus, gmi]
    by_cases c1 : i = 5
    · subst c1
      rw [if_neg (by omega), if_pos (by omega)]
      simp
    · rw [if_pos (by omega), show 1 + i + 1 = 1 + (i + 1) by omega, d2 (i + 1) (by omega), hu]
      omega
  · refine ⟨(hd + 1) % 17, Nat.mod_lt _ (by omega), ?_, ?_, fun i p hi hp => ?_⟩
    · rw [hI_wI, up1_s, up1_s]
    · rw [hI_wI, up1_s, up1_n _ _ (by omega), d5, gus, hu]
      congr 1
      omega
    · rw [hR_wI, hR_wR, up1_s]
      rw [gus] at hi
      rw [gmi, if_pos (by omega), show 1 + i + 1 = 1 + (i + 1) by omega] at hp
      rw [up1_n _ _ (by omega), show ((hd + 1) % 17 + i) % 17 = (hd + (i + 1)) % 17 by omega]
      exact d6 (i + 1) p (by omega) hp
  · intro j hj
    rw [gmi, if_neg (by omega), if_neg (by omega), hR_wI, hR_wR, up1_n _ _ (n6 3 (by omega) (by omega))]
    exact hC.2.2.2.2.1 j hj
theorem X1_keep_w {G : Nat → Nat} {B : Nat → Nat × Nat} {S : Gst} {a : Hp} {L : Nat → Nat} {R : Nat → Int32} (hC : JC G B S a) (h0 : gm S 0 = some (L, R)) (Q : Unit → Hp → Prop)
    (h : ∀ b B' L', JC G B' (sK S (L', R)) b → EP (P26 G) a b → (∀ x, x < hSz a → B' x = B x) → hSz b ≤ hSz a + 141 → hSl b ≤ hSl a + 706 → Q () b) : Wp (X1_keep (G 0)) a Q := by
  have hJ := hC.2.1
  obtain ⟨d1, d2, hd, d3, d4, d5, d6⟩ := hC.2.2.2.1
  have hD : Dq G a hd ((hd + gu S) % 17) := ⟨⟨hJ.2.1.2.1, hJ.2.2.2.1, hJ.2.1.2.2.2.2.2.1, hJ.2.2.1.2.2.2.1⟩, d4, d5, d3, Nat.mod_lt _ (by omega)⟩
  simp (disch := omega) only [X1_keep, ↓w_bd, ↓w_rt, ↓w_bh, sm_l, sm_r, ↓w_okr, ↓w_nm, ↓w_ite, ↓reduceIte, not_true_eq_false, not_false_eq_true, and_true, true_and, and_self, Option.some.injEq, reduceCtorEq, eq_self, ↓w_rc, ↓w_gI, ↓w_gR, ↓w_aN, ↓w_aI, ↓w_aR, ↓w_ca, ↓w_ca0, nv_lit, nv_f, nv_add, nv_mul, nv_sub, nv_le, nv_lt, nv_eq, nv_cl, Nat.reduceMod, Nat.reduceMul, Nat.reduceAdd, Nat.zero_add, Nat.add_zero, Nat.mul_zero, decide_eq_true_eq, nv_inT, hJ, J1_size_w hD (show gu S < 17 by omega)]
  by_cases hu : gu S = 6
  · have d20 := d2 0 (by omega)
    obtain ⟨p, hp⟩ : ∃ p, gm S 1 = some p := by
      cases c : gm S 1 with
      | none => have := d20.mp c; omega
      | some p => exact ⟨p, rfl⟩
    have r0 : hR a (G 6) hd = some (p.1 0) := by
      have := d6 0 p (by omega) hp
      rwa [Nat.add_zero, Nat.mod_eq_of_lt d3] at this
    have kp : hK a (p.1 0) = 2 := (mk_k (JM.e hC hp).1).1.1
    obtain ⟨r1, r2⟩ := hC.rm hu d3 d4 d5 d6
    rw [hu]
    simp (disch := omega) only [↓w_bd, ↓w_rt, ↓w_bh, sm_l, sm_r, ↓w_okr, ↓w_nm, ↓w_ite, ↓reduceIte, not_true_eq_false, not_false_eq_true, and_true, true_and, and_self, Option.some.injEq, reduceCtorEq, eq_self, ↓w_rc, ↓w_gI, ↓w_gR, ↓w_aN, ↓w_aI, ↓w_aR, ↓w_ca, ↓w_ca0, nv_lit, nv_f, nv_add, nv_mul, nv_sub, nv_le, nv_lt, nv_eq, nv_cl, Nat.reduceMod, Nat.reduceMul, Nat.reduceAdd, Nat.zero_add, Nat.add_zero, Nat.mul_zero, decide_eq_true_eq, nv_inT, hJ, not_true_eq_false, J1_removeFirst_w hD r0, hK_wI, hK_wR, kp, List.contains_cons, Nat.reduceMod, Nat.reduceBEq, Bool.true_or, and_true, true_and]
    refine X1_keep_23_w r2 h0 (show gu (sRm S) < 6 from show 5 < 6 by omega) _ fun b B' L' q1 q2 q3 q4 q5 => h b B' L' ?_ (r1.tr q2) q3 q4 q5
    rw [sK_6 hu]
    exact q1
  · rw [if_pos (by first | exact hu | (rw [nv_eq (by omega) (by omega)]; exact hu))]
    refine X1_keep_23_w hC h0 (by omega) _ fun b B' L' q1 q2 q3 q4 q5 => h b B' L' ?_ q2 q3 q4 q5
    rw [sK_a hu]
    exact q1
