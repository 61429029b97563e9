/-! A CLAIM ADDED TO A MARKET -/
theorem Mk.addClaim {B : Nat → Nat × Nat} {a : Hp} {L : Nat → Nat} {R : Nat → Int32} (hM : Mk B a L R) {k p o u0 u1 t : Nat} {B' : Nat → Nat × Nat} {L' : Nat → Nat} {R' : Nat → Int32} (hk : k = nC R) (hk20 : k < 20) (hp : p < hSz a ∧ o < hSz a ∧ u0 < hSz a ∧ u1 < hSz a ∧ t < hSz a) (hpL : ∀ r, lv R r → L r ≠ p ∧ L r ≠ o ∧ L r ≠ u0 ∧ L r ≠ u1 ∧ L r ≠ t)
    (kp : hK a p = 8 ∧ hK a o = 51 ∧ hK a u0 = 41 ∧ hK a u1 = 41 ∧ hK a t = 41) (np : hN a o = 2 ∧ hN a t = 2 ∧ hN a u0 = 5 ∧ hN a u1 = 5)
    (rp : hR a p 5 = some o ∧ hR a p 6 = some t ∧ hR a o 0 = some u0 ∧ hR a o 1 = some u1) (ip : hI a p 0 = nv k)
    (r1 : ∀ i, i ≠ 3 → (i < 185 + 18 * k ∨ 185 + 18 * k + 18 ≤ i) → R' i = R i) (r2 : R' 3 = nv (k + 1))
    (r3 : hI a p 1 = R' (185 + 18 * k) ∧ hI a p 2 = R' (186 + 18 * k) ∧ hI a p 3 = R' (187 + 18 * k) ∧ hI a p 4 = R' (188 + 18 * k) ∧ hI a p 7 = R' (189 + 18 * k) ∧ hI a p 8 = R' (190 + 18 * k))
    (r4 : ∀ j, j < 2 → hI a t j = R' (191 + 18 * k + j)) (r5 : ∀ j, j < 5 → hI a u0 j = R' (193 + 18 * k + j)) (r6 : ∀ j, j < 5 → hI a u1 j = R' (198 + 18 * k + j))
    (hL : ∀ r, r ≠ 40 + k → r ≠ 60 + k → r ≠ 80 + k → r ≠ 100 + 2 * k → r ≠ 101 + 2 * k → L' r = L r) (hLp : L' (40 + k) = p) (hLo : L' (60 + k) = o) (hLt : L' (80 + k) = t) (hL0 : L' (100 + 2 * k) = u0) (hL1 : L' (101 + 2 * k) = u1)
    (hB : ∀ z, z ≠ p → z ≠ o → z ≠ u0 → z ≠ u1 → z ≠ t → B' z = B z) (hBp : B' p = (L 0 + 1, 40 + k)) (hBo : B' o = (L 0 + 1, 60 + k)) (hBt : B' t = (L 0 + 1, 80 + k)) (hB0 : B' u0 = (L 0 + 1, 100 + 2 * k)) (hB1 : B' u1 = (L 0 + 1, 101 + 2 * k)) :
    Mk B' (hwI (hwR a (L 4) (up1 (hR a (L 4)) k (some p))) (L 2) (up1 (hI a (L 2)) 1 (nv (k + 1)))) L' R' := by
  have hw := mk_w hM
  obtain ⟨⟨w1, w2⟩, ⟨w3, w4⟩, ⟨w5, w6⟩, w7⟩ := hw
  have eC : nC R' = k + 1 := by unfold nC; rw [r2]; exact nv_cl (by omega)
  have eT : nT R' = nT R := by unfold nT; rw [r1 _ (by omega) (by omega)]
  have eH : nH R' = nH R := by unfold nH; rw [r1 _ (by omega) (by omega)]
  have eR : ∀ x, x < 10 → nR R' x = nR R x := by intro x hx; unfold nR; rw [r1 _ (by omega) (by omega)]
  have l0 := hL 0 (by omega) (by omega) (by omega) (by omega) (by omega)
  have eL : ∀ r, lv R' r → r = 40 + k ∨ r = 60 + k ∨ r = 80 + k ∨ r = 100 + 2 * k ∨ r = 101 + 2 * k ∨ (lv R r ∧ r ≠ 40 + k ∧ r ≠ 60 + k ∧ r ≠ 80 + k ∧ r ≠ 100 + 2 * k ∧ r ≠ 101 + 2 * k) := by
    intro r h
    unfold lv at h
    rw [eH, eC] at h
    by_cases c1 : r = 40 + k
    · exact .inl c1
    by_cases c2 : r = 60 + k
    · exact .inr (.inl c2)
    by_cases c3 : r = 80 + k
    · exact .inr (.inr (.inl c3))
    by_cases c4 : r = 100 + 2 * k
    · exact .inr (.inr (.inr (.inl c4)))
    by_cases c5 : r = 101 + 2 * k
    · exact .inr (.inr (.inr (.inr (.inl c5))))
    refine .inr (.inr (.inr (.inr (.inr ⟨?_, c1, c2, c3, c4, c5⟩))))
    unfold lv
    rw [← hk]
    omega
  have L4 := hpL 4 (lv_0 (by omega))
  have L2 := hpL 2 (lv_0 (by omega))
  have hRo : ∀ z, z ≠ L 4 → hR (hwI (hwR a (L 4) (up1 (hR a (L 4)) k (some p))) (L 2) (up1 (hI a (L 2)) 1 (nv (k + 1)))) z = hR a z := fun z hz => by rw [hR_wI, hR_wR, up1_n _ _ hz]
  have hIo : ∀ z, z ≠ L 2 → hI (hwI (hwR a (L 4) (up1 (hR a (L 4)) k (some p))) (L 2) (up1 (hI a (L 2)) 1 (nv (k + 1)))) z = hI a z := fun z hz => by rw [hI_wI, up1_n _ _ hz, hI_wR]
  have dL : ∀ r s, lv R r → lv R s → r ≠ s → L r ≠ L s := fun r s h1 h2 h3 e => h3 (mk_L hM h1 h2 e)
  have lo : ∀ r, r < 40 → L' r = L r := fun r hr => hL r (by omega) (by omega) (by omega) (by omega) (by omega)
  have lc : ∀ c, c < k → L' (40 + c) = L (40 + c) ∧ L' (60 + c) = L (60 + c) ∧ L' (80 + c) = L (80 + c) ∧ ∀ s, s < 2 → L' (100 + 2 * c + s) = L (100 + 2 * c + s) := fun c hc => ⟨hL _ (by omega) (by omega) (by omega) (by omega) (by omega), hL _ (by omega) (by omega) (by omega) (by omega) (by omega), hL _ (by omega) (by omega) (by omega) (by omega) (by omega), fun s hs => hL _ (by omega) (by omega) (by omega) (by omega) (by omega)⟩
  have lus : ∀ s, s < 2 → L' (100 + 2 * k + s) = if s = 0 then u0 else u1 := by
    intro s hs
    have : s = 0 ∨ s = 1 := by omega
    rcases this with rfl | rfl
    · exact hL0
    · rw [show 100 + 2 * k + 1 = 101 + 2 * k by omega]; exact hL1
  refine ⟨⟨⟨?_, ?_⟩, ⟨?_, ?_⟩, ⟨?_, ?_⟩, ?_⟩, ?_, ?_, ?_, ⟨?_, ?_, ?_⟩, ?_⟩
  · rw [r1 _ (by omega) (by omega), eT]; exact w1
  · rw [eT]; exact w2
  · rw [r1 _ (by omega) (by omega), eH]; exact w3
  · rw [eH]; exact w4
  · rw [eC]; exact r2
  · rw [eC]; omega
  · rw [eH]
    intro x hx
    rw [eR x (by omega), r1 _ (by omega) (by omega)]
    exact w7 x hx
  · intro r hr
    rcases eL r hr with rfl | rfl | rfl | rfl | rfl | ⟨h1, h2, h3, h4, h5, h6⟩
    · rw [hLp, l0]
      exact ⟨hp.1, hBp, by rw [kd_40 hk20]; exact kp.1⟩
    · rw [hLo, l0]
      exact ⟨hp.2.1, hBo, by rw [kd_60 hk20]; exact kp.2.1⟩
    · rw [hLt, l0]
      exact ⟨hp.2.2.2.2, hBt, by rw [kd_80 hk20]; exact kp.2.2.2.2⟩
    · rw [hL0, l0]
      exact ⟨hp.2.2.1, hB0, by rw [kd_100]; exact kp.2.2.1⟩
    · rw [hL1, l0]
      exact ⟨hp.2.2.2.1, hB1, by rw [show 101 + 2 * k = 100 + (1 + 2 * k) by omega, kd_100]; exact kp.2.2.2.1⟩
    · rw [hL r h2 h3 h4 h5 h6, l0]
      have := hM.2.1 r h1
      obtain ⟨g1, g2, g3, g4, g5⟩ := hpL r h1
      exact ⟨this.1, by rw [hB _ g1 g2 g3 g4 g5]; exact this.2.1, this.2.2⟩
  · have := mk_n hM
    unfold MkN at *
    obtain ⟨⟨n3, n4, n5', n6, n7⟩, n10, n30, n60, n80, n100⟩ := this
    rw [eH, eT, eC, lo 3 (by omega), lo 4 (by omega), lo 5 (by omega), lo 6 (by omega), lo 7 (by omega)]
    refine ⟨⟨n3, n4, n5', n6, n7⟩, fun x hx => ?_, fun x hx => ?_, fun c hc => ?_, fun c hc => ?_, fun c s hc hs => ?_⟩
    · rw [lo _ (by omega)]; exact n10 x hx
    · rw [lo _ (by omega), eR x (by omega)]; exact n30 x hx
    · by_cases d : c = k
      · subst d; rw [hLo]; exact np.1
      · rw [(lc c (by omega)).2.1]; exact n60 c (by omega)
    · by_cases d : c = k
      · subst d; rw [hLt]; exact np.2.1
      · rw [(lc c (by omega)).2.2.1]; exact n80 c (by omega)
    · by_cases d : c = k
      · subst d
        rw [lus s hs]
        split
        · exact np.2.2.1
        · exact np.2.2.2
      · rw [(lc c (by omega)).2.2.2 s hs]; exact n100 c s (by omega) hs
  · have := mk_r hM
    unfold MkR at *
    obtain ⟨⟨a0, a1, a2, a3, a4, a5, a6⟩, q5, q3, q20, q4, q40, q41, q60⟩ := this
    rw [eH, eC, lo 0 (by omega), lo 1 (by omega), lo 2 (by omega), lo 3 (by omega), lo 4 (by omega), lo 5 (by omega), lo 6 (by omega), lo 7 (by omega)]
    have z4 := fun r (h : lv R r) (g : r ≠ 4) => hRo (L r) (dL r 4 h (lv_0 (by omega)) g)
    rw [z4 0 (lv_0 (by omega)) (by omega), z4 1 (lv_0 (by omega)) (by omega), z4 2 (lv_0 (by omega)) (by omega), z4 5 (lv_0 (by omega)) (by omega), z4 3 (lv_0 (by omega)) (by omega)]
    refine ⟨⟨a0, a1, a2, a3, a4, a5, a6⟩, fun x hx => ?_, fun x hx => ?_, fun x hx => ?_, fun c hc => ?_, fun c hc => ?_, fun c hc => ?_, fun c s hc hs => ?_⟩
    · rw [lo _ (by omega)]; exact q5 x hx
    · rw [lo _ (by omega)]; exact q3 x hx
    · rw [lo _ (by omega), lo _ (by omega), z4 _ (lv_20 hx) (by omega)]; exact q20 x hx
    · rw [hR_wI, hR_wR, up1_s]
      by_cases d : c = k
      · subst d; rw [hLp, up1_s]
      · rw [up1_n _ _ d, (lc c (by omega)).1]; exact q4 c (by omega)
    · by_cases d : c = k
      · subst d; rw [hLp, hLo, hRo p (Ne.symm L4.1)]; exact rp.1
      · rw [(lc c (by omega)).1, (lc c (by omega)).2.1, z4 _ (lv_40 (by omega)) (by omega)]; exact q40 c (by omega)
    · by_cases d : c = k
      · subst d; rw [hLp, hLt, hRo p (Ne.symm L4.1)]; exact rp.2.1
      · rw [(lc c (by omega)).1, (lc c (by omega)).2.2.1, z4 _ (lv_40 (by omega)) (by omega)]; exact q41 c (by omega)
    · by_cases d : c = k
      · subst d
        rw [hLo, lus s hs, hRo o (Ne.symm L4.2.1)]
        have : s = 0 ∨ s = 1 := by omega
        rcases this with rfl | rfl
        · exact rp.2.2.1
        · exact rp.2.2.2
      · rw [(lc c (by omega)).2.1, (lc c (by omega)).2.2.2 s hs, z4 _ (lv_60 (by omega)) (by omega)]; exact q60 c s (by omega) hs
  · intro r j i h
    have old := hM.2.2.2.2.1.1
    have z2 := fun r (h : lv R r) (g : r ≠ 2) => hIo (L r) (dL r 2 h (lv_0 (by omega)) g)
    rcases ci_c h with c | c | c | c | c | ⟨x, hx, c | c⟩ | ⟨x, hx, c | c | c | c⟩
    · obtain ⟨rfl, rfl, rfl⟩ := c
      rw [lo 0 (by omega), z2 0 (lv_0 (by omega)) (by omega), r1 _ (by omega) (by omega)]
      exact old _ _ _ (ci_eye R)
    · obtain ⟨rfl, rfl, rfl⟩ := c
      rw [lo 1 (by omega), z2 1 (lv_0 (by omega)) (by omega), r1 _ (by omega) (by omega)]
      exact old _ _ _ (ci_s1 R)
    · obtain ⟨rfl, rfl, rfl⟩ := c
      rw [lo 2 (by omega), hI_wI, up1_s, up1_s, r2]
    · obtain ⟨rfl, c1, rfl⟩ := c
      rw [eT] at c1
      rw [lo 6 (by omega), z2 6 (lv_0 (by omega)) (by omega), r1 _ (by omega) (by omega)]
      exact old _ _ _ (ci_tr R c1)
    · obtain ⟨rfl, c1, rfl⟩ := c
      rw [lo 7 (by omega), z2 7 (lv_0 (by omega)) (by omega), r1 _ (by omega) (by omega)]
      exact old _ _ _ (ci_ta R c1)
    · obtain ⟨rfl, rfl, rfl⟩ := c
      rw [eH] at hx
      rw [lo _ (by omega), z2 _ (lv_20 hx) (by omega), r1 _ (by omega) (by omega)]
      exact old _ _ _ (ci_ow R hx)
    · obtain ⟨rfl, c1, rfl⟩ := c
      rw [eH] at hx
      have hj : j < nR R' x := by
        rcases h with c | c | c | c | c | c | c | c | c | c
        all_goals first | omega | (obtain ⟨d1, d2, d3, d4, d5⟩ := c; rw [show 30 + x - 30 = x by omega] at d3; exact d3)
      rw [eR x (by omega)] at hj
      rw [lo _ (by omega), z2 _ (lv_30 hx) (by omega), r1 _ (by omega) (by omega), show 17 + 7 * x + j = 15 + 7 * x + (2 + j) by omega]
      exact old _ _ _ (ci_st R hx hj c1)
    · rw [eC] at hx
      obtain ⟨rfl, c1⟩ := c
      by_cases d : x = k
      · subst d
        rw [hLp, hIo p (Ne.symm L2.1)]
        rcases c1 with ⟨rfl, rfl⟩ | ⟨rfl, rfl⟩ | ⟨rfl, rfl⟩ | ⟨rfl, rfl⟩ | ⟨rfl, rfl⟩ | ⟨rfl, rfl⟩
        · exact r3.1
        · exact r3.2.1
        · exact r3.2.2.1
        · exact r3.2.2.2.1
        · exact r3.2.2.2.2.1
        · exact r3.2.2.2.2.2
      · rw [(lc x (by omega)).1, z2 _ (lv_40 (by omega)) (by omega), r1 _ (by omega) (by omega)]
        have := ci_cl R (c := x) (j := j) (i := i - (185 + 18 * x)) (by omega) (by omega)
        rw [show 185 + 18 * x + (i - (185 + 18 * x)) = i by omega] at this
        exact old _ _ _ this
    · rw [eC] at hx
      obtain ⟨rfl, c1, rfl⟩ := c
      by_cases d : x = k
      · subst d
        rw [hLt, hIo t (Ne.symm L2.2.2.2.2)]
        exact r4 j c1
      · rw [(lc x (by omega)).2.2.1, z2 _ (lv_80 (by omega)) (by omega), r1 _ (by omega) (by omega), show 191 + 18 * x + j = 185 + 18 * x + (6 + j) by omega]
        exact old _ _ _ (ci_lt R (by omega) c1)
    · rw [eC] at hx
      obtain ⟨rfl, c1, rfl⟩ := c
      by_cases d : x = k
      · subst d
        rw [hL0, hIo u0 (Ne.symm L2.2.2.1)]
        exact r5 j c1
      · have := ci_pa R (c := x) (s := 0) (r := j) (by omega) (by omega) c1
        have e := (lc x (by omega)).2.2.2 0 (by omega)
        rw [Nat.add_zero] at e
        rw [e, show L (100 + 2 * x) = L (100 + 2 * x + 0) from rfl, z2 _ (lv_100 (s := 0) (by omega) (by omega)) (by omega), r1 _ (by omega) (by omega), show 193 + 18 * x + j = 185 + 18 * x + (8 + 5 * 0 + j) by omega]
        exact old _ _ _ this
    · rw [eC] at hx
      obtain ⟨rfl, c1, rfl⟩ := c
      by_cases d : x = k
      · subst d
        rw [hL1, hIo u1 (Ne.symm L2.2.2.2.1)]
        exact r6 j c1
      · have := ci_pa R (c := x) (s := 1) (r := j) (by omega) (by omega) c1
        rw [show 101 + 2 * x = 100 + 2 * x + 1 by omega, (lc x (by omega)).2.2.2 1 (by omega), z2 _ (lv_100 (s := 1) (by omega) (by omega)) (by omega), r1 _ (by omega) (by omega), show 198 + 18 * x + j = 185 + 18 * x + (8 + 5 * 1 + j) by omega]
        exact old _ _ _ this
  · rw [eH]
    intro x hx
    rw [lo _ (by omega), hIo _ (dL _ 2 (lv_20 hx) (lv_0 (by omega)) (by omega))]
    exact hM.2.2.2.2.1.2.1 x hx
  · rw [eC]
    intro c hc
    by_cases d : c = k
    · subst d
      rw [hLp, hIo p (Ne.symm L2.1)]; exact ip
    · rw [(lc c (by omega)).1, hIo _ (dL _ 2 (lv_40 (by omega)) (lv_0 (by omega)) (by omega))]
      exact hM.2.2.2.2.1.2.2 c (by omega)
  · intro x y hx hy
    have efc : fc R' x y = fc R x y := by unfold fc; rw [r1 _ (by omega) (by omega)]
    unfold Fx_
    rw [efc, lo _ (by omega), hRo _ (dL _ 4 (lv_10 hx) (lv_0 (by omega)) (by omega))]
    rcases mk_f hM x y hx hy with g | ⟨f, g1, g2, g3, g4, g5, g6⟩
    · exact .inl g
    · refine .inr ⟨f, g1, g2, g3, g4, g5, ?_⟩
      rw [hIo f (fun e => by
        have k1 := (mk_k hM).1.2.2.1
        rw [← e, g5] at k1
        omega)]
      exact g6
