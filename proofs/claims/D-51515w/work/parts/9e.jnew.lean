/-! A NEW MARKET IN THE OLD ONE's PLACE -/
theorem new_c {G : Nat → Nat} {B B' : Nat → Nat × Nat} {S : Gst} {a c : Hp} {Ln : Nat → Nat} {R : Nat → Int32} {mq : Nat} {β : Type} (hC : JC G B S a) (ec : E0 a c) (hB : ∀ q, q < hSz a → B' q = B q) (hNm : Mk B' c Ln R) (en : Ln 0 = mq) (amq : hSz a ≤ mq) (hRp : Ro R) (K : Mr β) (Q : β → Hp → Prop)
    (kk : ∀ b, JC G B' (sB S (Ln, R)) b → EP (Pq G) a b → EP (Pq G) c b → hSz b = hSz c → hSl b = hSl c → hR b (G 0) 4 = some mq → Mk B' b Ln R → Wp K b Q) : Wp (bd (pR 1 4 (some (G 0)) (some mq)) fun _ => bd (gR 1 5 (some (G 0))) fun x4 => bd (rc 11 x4) fun h' => bd (J1_clear h') fun _ => K) c Q := by
  have hG := hC.1.gd
  have hJ := hC.2.1
  have hs : ∀ i, i < 22 → G i < hSz a := fun i hi => (hC.1 i hi).1
  have n := fun i j (hi : i < 22) (hj : j < 22) (hn : i ≠ j) => hG.ne hi hj hn
  have oG := fun i hi => ec.2.2 (G i) (hs i hi)
  obtain ⟨d1, d2, hd, d3, d4, d5, d6⟩ := hC.2.2.2.1
  have h17 : (hd + gu S) % 17 < 17 := Nat.mod_lt _ (by omega)
  have ck0 : hK c (G 0) = 1 := by rw [(oG 0 (by omega)).1]; exact hJ.1.1
  have cr5 : hR c (G 0) 5 = some (G 2) := by rw [(oG 0 (by omega)).2.2.1]; exact hJ.1.2.2.1
  have ck2 : hK c (G 2) = 11 := by rw [(oG 2 (by omega)).1]; exact hJ.2.1.2.1
  have cr2 : hR c (G 2) 0 = some (G 6) := by rw [(oG 2 (by omega)).2.2.1]; exact hJ.2.2.2.1
  have ci1 : hI c (G 2) 1 = nv hd := by rw [(oG 2 (by omega)).2.2.2.1]; exact d4
  have ci2 : hI c (G 2) 2 = nv ((hd + gu S) % 17) := by rw [(oG 2 (by omega)).2.2.2.1]; exact d5
  have ck6 : hK c (G 6) = 46 := by rw [(oG 6 (by omega)).1]; exact hJ.2.1.2.2.2.2.2.1
  have cn6 : hN c (G 6) = 17 := by rw [(oG 6 (by omega)).2.1]; exact hJ.2.2.1.2.2.2.1
  obtain ⟨b1, eb1⟩ : ∃ b1, b1 = hwR c (G 0) (up1 (hR c (G 0)) 4 (some mq)) := ⟨_, rfl⟩
  have q5 : hR b1 (G 0) 5 = some (G 2) := by rw [eb1, hR_wR, up1_s, up1_n _ _ (by omega)]; exact cr5
  have q2 : hR b1 (G 2) 0 = some (G 6) := by rw [eb1, hR_wR, up1_n _ _ (n 2 0 (by omega) (by omega) (by omega))]; exact cr2
  have qk : hK b1 = hK c ∧ hN b1 = hN c ∧ hI b1 = hI c := by rw [eb1]; exact ⟨rfl, rfl, rfl⟩
  simp (disch := omega) only [↓w_bd, ↓w_rt, ↓w_bh, sm_l, sm_r, ↓w_okr, ↓w_nm, ↓w_ite, ↓reduceIte, not_true_eq_false, not_false_eq_true, and_true, true_and, and_self, Option.some.injEq, reduceCtorEq, eq_self, ↓w_rc, ↓w_gI, ↓w_gR, ↓w_aN, ↓w_aI, ↓w_aR, ↓w_aL, ↓w_pI, ↓w_pR, ↓w_sI, ↓w_sR, ↓w_sL, ↓w_nO, ↓w_nA, ↓w_nL, ↓w_ca, ↓w_ca0, ↓w_gS, ↓w_gK, ↓w_dv, ↓w_tw, ↓w_rz, ↓w_no, nv_lit, nv_f, nv_add, nv_mul, nv_sub, nv_le, nv_lt, nv_eq, nv_cl, Nat.reduceMod, Nat.reduceMul, Nat.reduceAdd, Nat.zero_add, Nat.add_zero, Nat.mul_zero, decide_eq_true_eq, nv_inT, ck0]
  rw [← eb1]
  have qk0 : hK b1 (G 0) = 1 := by rw [qk.1]; exact ck0
  have qk2 : hK b1 (G 2) = 11 := by rw [qk.1]; exact ck2
  have qi1 : hI b1 (G 2) 1 = nv hd := by rw [qk.2.2]; exact ci1
  have qi2 : hI b1 (G 2) 2 = nv ((hd + gu S) % 17) := by rw [qk.2.2]; exact ci2
  simp (disch := omega) only [↓w_bd, ↓w_rt, ↓w_bh, sm_l, sm_r, ↓w_okr, ↓w_nm, ↓w_ite, ↓reduceIte, not_true_eq_false, not_false_eq_true, and_true, true_and, and_self, Option.some.injEq, reduceCtorEq, eq_self, ↓w_rc, ↓w_gI, ↓w_gR, ↓w_aN, ↓w_aI, ↓w_aR, ↓w_aL, ↓w_pI, ↓w_pR, ↓w_sI, ↓w_sR, ↓w_sL, ↓w_nO, ↓w_nA, ↓w_nL, ↓w_ca, ↓w_ca0, ↓w_gS, ↓w_gK, ↓w_dv, ↓w_tw, ↓w_rz, ↓w_no, nv_lit, nv_f, nv_add, nv_mul, nv_sub, nv_le, nv_lt, nv_eq, nv_cl, Nat.reduceMod, Nat.reduceMul, Nat.reduceAdd, Nat.zero_add, Nat.add_zero, Nat.mul_zero, decide_eq_true_eq, nv_inT, qk0, q5, qk2, J1_clear, q2, qi1, qi2]
  refine J1_circularClear_w (by rw [qk.1]; exact ck6) (by rw [qk.2.1]; exact cn6) d3 h17 _ fun f => ?_
  simp (disch := omega) only [↓w_bd, ↓w_rt, ↓w_bh, sm_l, sm_r, ↓w_okr, ↓w_nm, ↓w_ite, ↓reduceIte, not_true_eq_false, not_false_eq_true, and_true, true_and, and_self, Option.some.injEq, reduceCtorEq, eq_self, ↓w_rc, ↓w_gI, ↓w_gR, ↓w_aN, ↓w_aI, ↓w_aR, ↓w_aL, ↓w_pI, ↓w_pR, ↓w_sI, ↓w_sR, ↓w_sL, ↓w_nO, ↓w_nA, ↓w_nL, ↓w_ca, ↓w_ca0, ↓w_gS, ↓w_gK, ↓w_dv, ↓w_tw, ↓w_rz, ↓w_no, nv_lit, nv_f, nv_add, nv_mul, nv_sub, nv_le, nv_lt, nv_eq, nv_cl, Nat.reduceMod, Nat.reduceMul, Nat.reduceAdd, Nat.zero_add, Nat.add_zero, Nat.mul_zero, decide_eq_true_eq, nv_inT, hK_wR, hK_wI, hI_wR, hI_wI, up1_s, hwI_2, okn, qk2]
  obtain ⟨b, eb⟩ : ∃ b, b = hwI (hwR b1 (G 6) f) (G 2) (up1 (up1 (hI b1 (G 2)) 2 (nv 0)) 1 (nv 0)) := ⟨_, rfl⟩
  rw [← eb]
  have ecb : EP (Pq G) c b := by
    rw [eb, eb1]
    exact (((EP.rf _ c).wR (.inl (.inl rfl)) _).wR (.inl (.inr (.inr (.inr rfl)))) _).wI (.inl (.inr (.inl rfl))) _
  have eab := (ec.ep (Pq G)).tr ecb
  have b0 : ∀ i, hR b (G 0) i = up1 (hR c (G 0)) 4 (some mq) i := fun i => by rw [eb, hR_wI, hR_wR, up1_n _ _ (n 0 6 (by omega) (by omega) (by omega)), eb1, hR_wR, up1_s]
  have bo : ∀ i, i < 22 → i ≠ 0 → i ≠ 6 → hR b (G i) = hR a (G i) := fun i hi h1 h2 => by rw [eb, hR_wI, hR_wR, up1_n _ _ (n i 6 hi (by omega) h2), eb1, hR_wR, up1_n _ _ (n i 0 hi (by omega) h1)]; exact (oG i hi).2.2.1
  have bI : ∀ i, i < 22 → i ≠ 2 → hI b (G i) = hI a (G i) := fun i hi h1 => by rw [eb, hI_wI, up1_n _ _ (n i 2 hi (by omega) h1), hI_wR, eb1, hI_wR]; exact (oG i hi).2.2.2.1
  have bi2 : hI b (G 2) 1 = nv 0 ∧ hI b (G 2) 2 = nv 0 := by
    rw [eb, hI_wI, up1_s]
    exact ⟨up1_s _ _ _, by rw [up1_n _ _ (by omega), up1_s]⟩
  have bK : ∀ i, i < 22 → hK b (G i) = hK a (G i) := fun i hi => by rw [eb, eb1]; exact (oG i hi).1
  have bN : ∀ i, i < 22 → hN b (G i) = hN a (G i) := fun i hi => by rw [eb, eb1]; exact (oG i hi).2.1
  have gmi : ∀ i, gm (sB S (Ln, R)) i = if i = 0 then some (Ln, R) else if 1 ≤ i ∧ i ≤ 6 then none else gm S i := fun _ => rfl
  have gm0 : gm (sB S (Ln, R)) 0 = some (Ln, R) := by rw [gmi, if_pos rfl]
  have gmr : ∀ i q, i ≠ 0 → gm (sB S (Ln, R)) i = some q → gm S i = some q ∧ 7 ≤ i := by
    intro i q hi hq
    rw [gmi, if_neg hi] at hq
    split at hq
    · cases hq
    · exact ⟨hq, by omega⟩
  have hNb : Mk B' b Ln R := hNm.ep ecb (fun z hz => by
    have := pq_P hC (Ln 0) z hz
    rcases hz with rfl | rfl | rfl | rfl
    · rw [hB _ (hs 0 (by omega)), (oG 0 (by omega)).1]; exact this
    · rw [hB _ (hs 2 (by omega)), (oG 2 (by omega)).1]; exact this
    · rw [hB _ (hs 3 (by omega)), (oG 3 (by omega)).1]; exact this
    · rw [hB _ (hs 6 (by omega)), (oG 6 (by omega)).1]; exact this) (fun _ _ => rfl)
  have jb : JC G B' (sB S (Ln, R)) b := by
    refine hC.gen eab hB rfl (fun j' hj' => by rw [b0, up1_n _ _ hj', (oG 0 (by omega)).2.2.1]) (bI 0 (by omega) (by omega)) (.inr ⟨by rw [bK 0 (by omega)]; exact hJ.1.1, by rw [bK 2 (by omega)]; exact hJ.2.1.2.1, by rw [bK 3 (by omega)]; exact hJ.2.1.2.2.1, by rw [bK 6 (by omega)]; exact hJ.2.1.2.2.2.2.2.1⟩) ⟨by rw [bN 3 (by omega)]; exact hJ.2.2.1.2.1, by rw [bN 6 (by omega)]; exact hJ.2.2.1.2.2.2.1⟩ (by rw [bo 2 (by omega) (by omega) (by omega)]; exact hJ.2.2.2.1) ⟨⟨(Ln, R), gm0, by rw [b0, up1_s, ← en]⟩, fun i q hq => ?_, fun i i' q q' hij hq hq' => ?_⟩ ⟨by show 0 ≤ 6; omega, fun i hi => ?_, 0, by omega, bi2.1, bi2.2, fun i q hi hq => absurd hi (Nat.not_lt_zero i)⟩ fun i hi => ?_
    · by_cases c1 : i = 0
      · subst c1
        rw [gm0] at hq
        cases hq
        exact ⟨by omega, hNb, hRp⟩
      · obtain ⟨m1, m2, m3, m4⟩ := JM.e hC (gmr i q c1 hq).1
        exact ⟨m3, m1.ep eab (fun z hz => pq_P hC _ z hz) hB, m4⟩
    · by_cases c1 : i = 0
      · subst c1
        rw [gm0] at hq
        cases hq
        have := (JM.e hC (gmr i' q' (Ne.symm hij) hq').1).2.1
        show Ln 0 ≠ q'.1 0
        omega
      · by_cases c2 : i' = 0
        · subst c2
          rw [gm0] at hq'
          cases hq'
          have := (JM.e hC (gmr i q c1 hq).1).2.1
          show q.1 0 ≠ Ln 0
          omega
        · exact hC.2.2.1.2.2 i i' q q' hij (gmr i q c1 hq).1 (gmr i' q' c2 hq').1
    · rw [gmi, if_neg (by omega), if_pos (by omega)]
      exact ⟨fun _ => Nat.zero_le i, fun _ => rfl⟩
    · rw [gmi, if_neg (by omega), if_neg (by omega), bo 3 (by omega) (by omega) (by omega)]
      exact hC.2.2.2.2.1 i hi
  exact kk b jb eab ecb (by rw [eb, eb1]; rfl) (by rw [eb, eb1]; rfl) (by rw [b0, up1_s]) hNb
/-- the error and the text of the component, laid anew -/
theorem JC.i0 {G : Nat → Nat} {B : Nat → Nat × Nat} {S S' : Gst} {a b : Hp} (h : JC G B S a) (g : EP (fun q => q = G 0) a b) (k : hK b = hK a ∧ hN b = hN a ∧ hR b = hR a) (hS : S'.1 = S.1 ∧ gf S' = gf S ∧ go S' = go S) (jl : JL G S' b) (je : JE G S' b) : JC G B S' b := by
  have hG := h.1.gd
  obtain ⟨j1, j2, j3, j4, j5, j6, j7, j8, j9, j10⟩ := h
  have hP : ∀ q, q = G 0 → (B q).1 = 0 ∧ hK a q < 100 ∧ hK a q ≠ 10 := by
    rintro q rfl
    rw [(j1 0 (by omega)).2, j2.1.1]; exact ⟨rfl, by omega, by omega⟩
  have e := fun i (hi : i < 22) (hn : i ≠ 0) => (g.2.2 (G i) (j1 i hi).1 (fun hp => hn (hG i 0 hi (by omega) hp))).2.2.2
  have em : gm S' = gm S := by unfold gm; rw [hS.1]
  have eu : gu S' = gu S := by unfold gu; rw [hS.1]
  refine ⟨fun i hi => ⟨Nat.lt_of_lt_of_le (j1 i hi).1 g.1, (j1 i hi).2⟩, ?_, ⟨?_, fun i p hp => ?_, ?_⟩, ?_, ?_, ?_, jl, je, ?_, j10.ep g (fun q hq => (hP q hq).2.1)⟩
  · unfold JX at *
    rw [k.1, k.2.1, k.2.2, e 5 (by omega) (by omega)]
    exact j2
  · rw [k.2.2, em]; exact j3.1
  · rw [em] at hp
    obtain ⟨q1, q2, q3⟩ := j3.2.1 i p hp
    exact ⟨q1, q2.ep g (fun q hq => ⟨by have := (hP q hq).1; omega, (hP q hq).2.2⟩) (fun _ _ => rfl), q3⟩
  · rw [em]; exact j3.2.2
  · unfold JD at *
    rw [e 2 (by omega) (by omega), k.2.2, em, eu]; exact j4
  · unfold JS at *
    rw [k.2.2, em]; exact j5
  · unfold JF at *
    rw [e 4 (by omega) (by omega), hS.2.1]; exact j6
  · unfold JO at *
    rw [e 5 (by omega) (by omega), e 7 (by omega) (by omega), hS.2.2]; exact j9
/-! both begin -/
theorem X6_init_w {G : Nat → Nat} {B : Nat → Nat × Nat} {S : Gst} {a d : Hp} {rq s e k : Nat} (hC : JC G B S a) (hE : E0 a d) (hq : hSz d = rq + 1) (hqa : hSz a ≤ rq) (hk : hK d rq = 6) (hi : hI d rq = fun _ => nv 0) (hx : Nx S 0 s e k) (Q : Unit → Hp → Prop) (kk : ∀ d', Cs G S a rq (hSz d) (hSl d) d' s e k → Q () d') : Wp (X6_init rq (some (G 0))) d Q := by
  have hCd := hC.e0 hE
  obtain ⟨w, w1, w2, w3, w4⟩ := co_1 hCd.2.2.2.2.2.2.2.2.2 (fun i => tb S (0 + i))
  have w1' : ∀ f, hS (hwR d rq f) 101 = some w := fun f => w1
  simp (disch := omega) only [X6_init, ↓w_bd, ↓w_rt, ↓w_bh, sm_l, sm_r, ↓w_okr, ↓w_nm, ↓w_ite, ↓reduceIte, not_true_eq_false, not_false_eq_true, and_true, true_and, and_self, Option.some.injEq, reduceCtorEq, eq_self, ↓w_rc, ↓w_gI, ↓w_gR, ↓w_aN, ↓w_aI, ↓w_aR, ↓w_ca, ↓w_ca0, nv_lit, nv_f, nv_add, nv_mul, nv_sub, nv_le, nv_lt, nv_eq, nv_cl, Nat.reduceMod, Nat.reduceMul, Nat.reduceAdd, Nat.zero_add, Nat.add_zero, Nat.mul_zero, decide_eq_true_eq, nv_inT, ↓w_pR, hk, ↓w_gC, w1', exists_eq_left', Option.some.injEq, hK_wR, hR_wR, up1_s]
  obtain ⟨d1, ed1⟩ : ∃ d1, d1 = hwR (hwR d rq (up1 (hR d rq) 5 (some (G 0)))) rq (up1 (up1 (hR d rq) 5 (some (G 0))) 4 (some w)) := ⟨_, rfl⟩
  rw [← ed1]
  have E1 : E0 a d1 := by rw [ed1]; exact (hE.wR hqa _).wR hqa _
  have z1 : hSz d1 = hSz d ∧ hSl d1 = hSl d := by rw [ed1]; exact ⟨rfl, rfl⟩
  have hb : Rb G d1 rq 0 := ⟨by rw [ed1]; exact hk, by rw [ed1, hR_wR, up1_s, up1_n _ _ (by omega), up1_s], by rw [ed1, hI_wR, hI_wR, hi]⟩
  obtain ⟨h1, h2, h3, h4, h5, h6⟩ := hx
  refine X6_advance_w hC E1 hqa (by omega) hb h1 h4 h5 _ fun d' w' e1 p1 r1 x1 zz ll => ?_
  refine kk d' ⟨⟨e1, hqa, by have := p1.1; omega⟩, ⟨w', r1, x1, ?_⟩, ⟨by omega, by omega⟩, h5, h4, h2⟩
  obtain ⟨-, -, v, -, -, -, -, z, -⟩ := r1.2.2.2.2.2.1
  exact z
theorem X5_starts_w {G : Nat → Nat} {S : Gst} {c : Hp} {s e k : Nat} (hG : GD G) (hF : FT G c) (hT : Tx G c (tb S) (gl S)) (hx : Nx S 0 s e k) (Q : Unit → Hp → Prop) (kk : ∀ c', Tw G c c' → Ts G S c' s e k → Q () c') : Wp (X5_starts (G 10)) c Q := by
  obtain ⟨h1, h2, h3, h4, h5, h6⟩ := hx
  obtain ⟨c1, ec1⟩ : ∃ c1, c1 = hwI c (G 10) (up1 (up1 (up1 (hI c (G 10)) 10 (nv 0)) 11 (-nv 1)) 12 (nv 0)) := ⟨_, rfl⟩
  have i1 : ∀ j, hI c1 (G 10) j = up1 (up1 (up1 (hI c (G 10)) 10 (nv 0)) 11 (-nv 1)) 12 (nv 0) j := fun j => by rw [ec1, hI_wI, up1_s]
  have tw1 : Tw G c c1 := by
    refine ⟨by rw [ec1]; rfl, by rw [ec1]; rfl, fun q hq => by rw [ec1, hI_wI, up1_n _ _ hq], fun j hj => by rw [i1, up1_n _ _ (by omega), up1_n _ _ (by omega), up1_n _ _ (by omega)]⟩
  have hF1 : FT G c1 := by rw [ec1]; exact hF
  have hT1 : Tx G c1 (tb S) (gl S) := ⟨hT.1, by rw [tw1.2.2.2 9 (by omega)]; exact hT.2.1, fun i hi => by rw [tw1.2.2.1 _ (hG.ne (by omega) (by omega) (by omega))]; exact hT.2.2.1 i hi, hT.2.2.2⟩
  simp (disch := omega) only [X5_starts, ↓w_bd, ↓w_rt, ↓w_bh, sm_l, sm_r, ↓w_okr, ↓w_nm, ↓w_ite, ↓reduceIte, not_true_eq_false, not_false_eq_true, and_true, true_and, and_self, Option.some.injEq, reduceCtorEq, eq_self, ↓w_rc, ↓w_gI, ↓w_gR, ↓w_aN, ↓w_aI, ↓w_aR, ↓w_aL, ↓w_pI, ↓w_pR, ↓w_sI, ↓w_sR, ↓w_sL, ↓w_nO, ↓w_nA, ↓w_nL, ↓w_ca, ↓w_ca0, ↓w_gS, ↓w_gK, ↓w_dv, ↓w_tw, ↓w_rz, ↓w_no, nv_lit, nv_f, nv_add, nv_mul, nv_sub, nv_le, nv_lt, nv_eq, nv_cl, Nat.reduceMod, Nat.reduceMul, Nat.reduceAdd, Nat.zero_add, Nat.add_zero, Nat.mul_zero, decide_eq_true_eq, nv_inT, hF, okn, hK_wI, hI_wI, up1_s, hwI_2]
  rw [← ec1]
  refine X5_next_w hG hF1 hT1 (by rw [i1, up1_s]) h1 h4 h5 _ fun d hd hr hv => ?_
  exact kk d (tw1.tr hd.tw) ⟨hd.f hF1, hT1.tr hG hd, ⟨by rw [hd.2.2.2 10 (by omega) (by omega) (by omega) (by omega), i1, up1_n _ _ (by omega), up1_n _ _ (by omega), up1_s], by rw [hd.2.2.2 11 (by omega) (by omega) (by omega) (by omega), i1, up1_n _ _ (by omega), up1_s]⟩, hr, hv, h5, h4, h2⟩
