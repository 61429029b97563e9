/-! A HEAP ADDED TO A MARKET -/
theorem Mk.addHeap {B : Nat → Nat × Nat} {a : Hp} {L : Nat → Nat} {R : Nat → Int32} (hM : Mk B a L R) {k p q n : Nat} {B' : Nat → Nat × Nat} {R' : Nat → Int32} (hk : k = nH R) (hk10 : k < 10) (hp : p < hSz a ∧ q < hSz a) (hpL : ∀ r, lv R r → L r ≠ p ∧ L r ≠ q) (hpq : p ≠ q) (kp : hK a p = 4) (kq : hK a q = 41) (nq : hN a q = n) (n5 : n ≤ 5) (rp : hR a p 1 = some q) (ip : hI a p 0 = nv k)
    (r1 : ∀ i, i ≠ 1 → (i < 15 + 7 * k ∨ 15 + 7 * k + 7 ≤ i) → R' i = R i) (r2 : R' 1 = nv (k + 1)) (r3 : R' (15 + 7 * k) = hI a p 2) (r4 : R' (15 + 7 * k + 1) = nv n) (r5 : ∀ r, r < n → R' (15 + 7 * k + (2 + r)) = hI a q r)
    (hB : ∀ z, z ≠ p → z ≠ q → B' z = B z) (hBp : B' p = (L 0 + 1, 20 + k)) (hBq : B' q = (L 0 + 1, 30 + k)) :
    Mk B' (hwI (hwR a (L 3) (up1 (hR a (L 3)) k (some p))) (L 1) (up1 (hI a (L 1)) 1 (nv (k + 1)))) (up1 (up1 L (20 + k) p) (30 + k) q) R' := by
  have hw := mk_w hM
  obtain ⟨⟨w1, w2⟩, ⟨w3, w4⟩, ⟨w5, w6⟩, w7⟩ := hw
  have eH : nH R' = k + 1 := by unfold nH; rw [r2]; exact nv_cl (by omega)
  have eT : nT R' = nT R := by unfold nT; rw [r1 _ (by omega) (by omega)]
  have eC : nC R' = nC R := by unfold nC; rw [r1 _ (by omega) (by omega)]
  have eR : ∀ x, x < k → nR R' x = nR R x := by intro x hx; unfold nR; rw [r1 _ (by omega) (by omega)]
  have eRk : nR R' k = n := by unfold nR; rw [r4]; exact nv_cl (by omega)
  have l20 : up1 (up1 L (20 + k) p) (30 + k) q (20 + k) = p := by rw [up1_n _ _ (by omega), up1_s]
  have l30 : up1 (up1 L (20 + k) p) (30 + k) q (30 + k) = q := up1_s _ _ _
  have lo : ∀ r, r ≠ 20 + k → r ≠ 30 + k → up1 (up1 L (20 + k) p) (30 + k) q r = L r := fun r h1 h2 => by rw [up1_n _ _ h2, up1_n _ _ h1]
  have l0 := lo 0 (by omega) (by omega)
  have eL : ∀ r, lv R' r → r = 20 + k ∨ r = 30 + k ∨ (lv R r ∧ r ≠ 20 + k ∧ r ≠ 30 + k) := by
    intro r h
    unfold lv at h
    rw [eH, eC] at h
    by_cases c1 : r = 20 + k
    · exact .inl c1
    · by_cases c2 : r = 30 + k
      · exact .inr (.inl c2)
      · refine .inr (.inr ⟨?_, c1, c2⟩)
        unfold lv
        rw [← hk]
        omega
  have L3 := hpL 3 (lv_0 (by omega))
  have L1 := hpL 1 (lv_0 (by omega))
  have hRo : ∀ z, z ≠ L 3 → hR (hwI (hwR a (L 3) (up1 (hR a (L 3)) k (some p))) (L 1) (up1 (hI a (L 1)) 1 (nv (k + 1)))) z = hR a z := fun z hz => by rw [hR_wI, hR_wR, up1_n _ _ hz]
  have hIo : ∀ z, z ≠ L 1 → hI (hwI (hwR a (L 3) (up1 (hR a (L 3)) k (some p))) (L 1) (up1 (hI a (L 1)) 1 (nv (k + 1)))) z = hI a z := fun z hz => by rw [hI_wI, up1_n _ _ hz, hI_wR]
  have dL : ∀ r s, lv R r → lv R s → r ≠ s → L r ≠ L s := fun r s h1 h2 h3 e => h3 (mk_L hM h1 h2 e)
  refine ⟨⟨⟨?_, ?_⟩, ⟨?_, ?_⟩, ⟨?_, ?_⟩, ?_⟩, ?_, ?_, ?_, ⟨?_, ?_, ?_⟩, ?_⟩
  · rw [r1 _ (by omega) (by omega), eT]; exact w1
  · rw [eT]; exact w2
  · rw [eH]; exact r2
  · rw [eH]; omega
  · rw [r1 _ (by omega) (by omega), eC]; exact w5
  · rw [eC]; exact w6
  · rw [eH]
    intro x hx
    by_cases c : x = k
    · subst c
      rw [eRk]
      exact ⟨r4, n5⟩
    · rw [eR x (by omega), r1 _ (by omega) (by omega)]
      exact w7 x (by omega)
  · intro r hr
    rcases eL r hr with rfl | rfl | ⟨h1, h2, h3⟩
    · rw [l20, l0]
      exact ⟨hp.1, hBp, by rw [kd_20 hk10]; exact kp⟩
    · rw [l30, l0]
      exact ⟨hp.2, hBq, by rw [kd_30 hk10]; exact kq⟩
    · rw [lo r h2 h3, l0]
      have := hM.2.1 r h1
      exact ⟨this.1, by rw [hB _ (hpL r h1).1 (hpL r h1).2]; exact this.2.1, this.2.2⟩
  · have := mk_n hM
    unfold MkN at *
    obtain ⟨⟨n3, n4, n5', n6, n7⟩, n10, n30, n60, n80, n100⟩ := this
    rw [eH, eT, eC, lo 3 (by omega) (by omega), lo 4 (by omega) (by omega), lo 5 (by omega) (by omega), lo 6 (by omega) (by omega), lo 7 (by omega) (by omega)]
    refine ⟨⟨n3, n4, n5', n6, n7⟩, fun x hx => ?_, fun x hx => ?_, fun c hc => ?_, fun c hc => ?_, fun c s hc hs => ?_⟩
    · rw [lo _ (by omega) (by omega)]; exact n10 x hx
    · by_cases c : x = k
      · subst c
        rw [l30, eRk]; exact nq
      · rw [lo _ (by omega) (by omega), eR x (by omega)]; exact n30 x (by omega)
    · rw [lo _ (by omega) (by omega)]; exact n60 c hc
    · rw [lo _ (by omega) (by omega)]; exact n80 c hc
    · rw [lo _ (by omega) (by omega)]; exact n100 c s hc hs
  · have := mk_r hM
    unfold MkR at *
    obtain ⟨⟨a0, a1, a2, a3, a4, a5, a6⟩, q5, q3, q20, q4, q40, q41, q60⟩ := this
    rw [eH, eC, lo 0 (by omega) (by omega), lo 1 (by omega) (by omega), lo 2 (by omega) (by omega), lo 3 (by omega) (by omega), lo 4 (by omega) (by omega), lo 5 (by omega) (by omega), lo 6 (by omega) (by omega), lo 7 (by omega) (by omega)]
    have z3 := fun r (h : lv R r) (g : r ≠ 3) => hRo (L r) (dL r 3 h (lv_0 (by omega)) g)
    rw [z3 0 (lv_0 (by omega)) (by omega), z3 1 (lv_0 (by omega)) (by omega), z3 2 (lv_0 (by omega)) (by omega), z3 5 (lv_0 (by omega)) (by omega), z3 4 (lv_0 (by omega)) (by omega)]
    refine ⟨⟨a0, a1, a2, a3, a4, a5, a6⟩, fun x hx => ?_, fun x hx => ?_, fun x hx => ?_, fun c hc => ?_, fun c hc => ?_, fun c hc => ?_, fun c s hc hs => ?_⟩
    · rw [lo _ (by omega) (by omega)]; exact q5 x hx
    · rw [hR_wI, hR_wR, up1_s]
      by_cases c : x = k
      · subst c
        rw [l20, up1_s]
      · rw [up1_n _ _ c, lo _ (by omega) (by omega)]; exact q3 x (by omega)
    · by_cases c : x = k
      · subst c
        rw [l20, l30, hRo p (Ne.symm L3.1)]; exact rp
      · rw [lo _ (by omega) (by omega), lo _ (by omega) (by omega), z3 _ (lv_20 (by omega)) (by omega)]; exact q20 x (by omega)
    · rw [lo _ (by omega) (by omega)]; exact q4 c hc
    · rw [lo _ (by omega) (by omega), lo _ (by omega) (by omega), z3 _ (lv_40 hc) (by omega)]; exact q40 c hc
    · rw [lo _ (by omega) (by omega), lo _ (by omega) (by omega), z3 _ (lv_40 hc) (by omega)]; exact q41 c hc
    · rw [lo _ (by omega) (by omega), lo _ (by omega) (by omega), z3 _ (lv_60 hc) (by omega)]; exact q60 c s hc hs
  · intro r j i h
    have old := hM.2.2.2.2.1.1
    have z1 := fun r (h : lv R r) (g : r ≠ 1) => hIo (L r) (dL r 1 h (lv_0 (by omega)) g)
    rcases ci_c h with c | c | c | c | c | ⟨x, hx, c | c⟩ | ⟨x, hx, c | c | c | c⟩
    · obtain ⟨rfl, rfl, rfl⟩ := c
      rw [lo 0 (by omega) (by omega), z1 0 (lv_0 (by omega)) (by omega), r1 _ (by omega) (by omega)]
      exact old _ _ _ (ci_eye R)
    · obtain ⟨rfl, rfl, rfl⟩ := c
      rw [lo 1 (by omega) (by omega), hI_wI, up1_s, up1_s, r2]
    · obtain ⟨rfl, rfl, rfl⟩ := c
      rw [lo 2 (by omega) (by omega), z1 2 (lv_0 (by omega)) (by omega), r1 _ (by omega) (by omega)]
      exact old _ _ _ (ci_s2 R)
    · obtain ⟨rfl, c1, rfl⟩ := c
      rw [eT] at c1
      rw [lo 6 (by omega) (by omega), z1 6 (lv_0 (by omega)) (by omega), r1 _ (by omega) (by omega)]
      exact old _ _ _ (ci_tr R c1)
    · obtain ⟨rfl, c1, rfl⟩ := c
      rw [lo 7 (by omega) (by omega), z1 7 (lv_0 (by omega)) (by omega), r1 _ (by omega) (by omega)]
      exact old _ _ _ (ci_ta R c1)
    · obtain ⟨rfl, rfl, rfl⟩ := c
      rw [eH] at hx
      by_cases d : x = k
      · subst d
        rw [l20, hIo p (Ne.symm L1.1), r3]
      · rw [lo _ (by omega) (by omega), z1 _ (lv_20 (by omega)) (by omega), r1 _ (by omega) (by omega)]
        exact old _ _ _ (ci_ow R (by omega))
    · obtain ⟨rfl, c1, rfl⟩ := c
      rw [eH] at hx
      have hj : j < nR R' x := by
        rcases h with c | c | c | c | c | c | c | c | c | c
        all_goals first | omega | (obtain ⟨d1, d2, d3, d4, d5⟩ := c; rw [show 30 + x - 30 = x by omega] at d3; exact d3)
      by_cases d : x = k
      · subst d
        rw [eRk] at hj
        rw [l30, hIo q (Ne.symm L1.2), show 17 + 7 * x + j = 15 + 7 * x + (2 + j) by omega, r5 j hj]
      · rw [eR x (by omega)] at hj
        rw [lo _ (by omega) (by omega), z1 _ (lv_30 (by omega)) (by omega), r1 _ (by omega) (by omega), show 17 + 7 * x + j = 15 + 7 * x + (2 + j) by omega]
        exact old _ _ _ (ci_st R (by omega) hj c1)
    · rw [eC] at hx
      have hr : r = 40 + x := c.1
      subst hr
      rw [lo _ (by omega) (by omega), z1 _ (lv_40 hx) (by omega), r1 _ (by omega) (by omega)]
      have := ci_cl R (j := j) (i := i - (185 + 18 * x)) hx (by omega)
      rw [show 185 + 18 * x + (i - (185 + 18 * x)) = i by omega] at this
      exact old _ _ _ this
    · rw [eC] at hx
      obtain ⟨rfl, c1, rfl⟩ := c
      rw [lo _ (by omega) (by omega), z1 _ (lv_80 hx) (by omega), r1 _ (by omega) (by omega), show 191 + 18 * x + j = 185 + 18 * x + (6 + j) by omega]
      exact old _ _ _ (ci_lt R hx c1)
    · rw [eC] at hx
      obtain ⟨rfl, c1, rfl⟩ := c
      have := ci_pa R (s := 0) (r := j) hx (by omega) c1
      rw [show 100 + 2 * x = 100 + 2 * x + 0 from rfl, lo _ (by omega) (by omega), z1 _ (lv_100 (s := 0) hx (by omega)) (by omega), r1 _ (by omega) (by omega), show 193 + 18 * x + j = 185 + 18 * x + (8 + 5 * 0 + j) by omega]
      exact old _ _ _ this
    · rw [eC] at hx
      obtain ⟨rfl, c1, rfl⟩ := c
      have := ci_pa R (s := 1) (r := j) hx (by omega) c1
      rw [show 101 + 2 * x = 100 + 2 * x + 1 by omega, lo _ (by omega) (by omega), z1 _ (lv_100 (s := 1) hx (by omega)) (by omega), r1 _ (by omega) (by omega), show 198 + 18 * x + j = 185 + 18 * x + (8 + 5 * 1 + j) by omega]
      exact old _ _ _ this
  · rw [eH]
    intro x hx
    by_cases c : x = k
    · subst c
      rw [l20, hIo p (Ne.symm L1.1)]; exact ip
    · rw [lo _ (by omega) (by omega), hIo _ (dL _ 1 (lv_20 (by omega)) (lv_0 (by omega)) (by omega))]
      exact hM.2.2.2.2.1.2.1 x (by omega)
  · rw [eC]
    intro c hc
    rw [lo _ (by omega) (by omega), hIo _ (dL _ 1 (lv_40 hc) (lv_0 (by omega)) (by omega))]
    exact hM.2.2.2.2.1.2.2 c hc
  · intro x y hx hy
    have efc : fc R' x y = fc R x y := by unfold fc; rw [r1 _ (by omega) (by omega)]
    unfold Fx_
    rw [efc, lo _ (by omega) (by omega), hRo _ (dL _ 3 (lv_10 hx) (lv_0 (by omega)) (by omega))]
    rcases mk_f hM x y hx hy with g | ⟨f, g1, g2, g3, g4, g5, g6⟩
    · exact .inl g
    · refine .inr ⟨f, g1, g2, g3, g4, g5, ?_⟩
      rw [hIo f (fun e => by
        have k1 := (mk_k hM).1.2.1
        rw [← e, g5] at k1
        omega)]
      exact g6
