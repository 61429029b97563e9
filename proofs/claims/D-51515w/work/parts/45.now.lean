/-! THE MARKET THAT IS NOW CHANGES -/
def sN (S : Gst) (p : Mp) : Gst := ((up1 (gm S) 0 (some p), gu S), S.2)
theorem JC.nowL {P : Nat → Prop} {G : Nat → Nat} {B B' : Nat → Nat × Nat} {S : Gst} {a b : Hp} {L L' : Nat → Nat} {R R' : Nat → Int32} (hL : L' 0 = L 0) (h : JC G B S a) (h0 : gm S 0 = some (L, R)) (g : EP P a b) (hP : ∀ q, P q → (B q).1 = L 0 + 1 ∧ hK a q < 100 ∧ hK a q ≠ 10) (hB : ∀ q, q < hSz a → B' q = B q) (hM : Mk B' b L' R') (hR : Ro R') : JC G B' (sN S (L', R')) b := by
  obtain ⟨j1, j2, j3, j4, j5, j6, j7, j8, j9, j10⟩ := h
  have hnG : ∀ i, i < 22 → ¬ P (G i) := fun i hi hp => by
    have := (hP _ hp).1
    rw [(j1 i hi).2] at this
    simp at this
  have e := fun i (hi : i < 22) => g.2.2 (G i) (j1 i hi).1 (hnG i hi)
  have e0 := e 0 (by omega)
  have e1 := e 1 (by omega)
  have e2 := e 2 (by omega)
  have e3 := e 3 (by omega)
  have e4 := e 4 (by omega)
  have e5 := e 5 (by omega)
  have e6 := e 6 (by omega)
  have e7 := e 7 (by omega)
  have e20 := e 20 (by omega)
  have e21 := e 21 (by omega)
  have gmn : ∀ i, i ≠ 0 → gm (sN S (L', R')) i = gm S i := fun i hi => up1_n (gm S) _ hi
  have gm0 : gm (sN S (L', R')) 0 = some (L', R') := up1_s (gm S) 0 _
  refine ⟨fun i hi => ⟨Nat.lt_of_lt_of_le (j1 i hi).1 g.1, (hB _ (j1 i hi).1).trans (j1 i hi).2⟩, ?_, ⟨?_, ?_, ?_⟩, ?_, ?_, ?_, ?_, ?_, ?_, j10.ep g (fun q hq => (hP q hq).2.1)⟩
  · unfold JX at *
    rw [e0.1, e0.2.2.1, e1.1, e1.2.1, e2.1, e2.2.2.1, e3.1, e3.2.1, e4.1, e4.2.1, e5.1, e5.2.2.1, e5.2.2.2, e6.1, e6.2.1, e7.1, e7.2.1, e20.1, e20.2.1, e21.1, e21.2.1]
    exact j2
  · obtain ⟨p, hp1, hp2⟩ := j3.1
    rw [h0] at hp1
    cases hp1
    exact ⟨_, gm0, by rw [e0.2.2.1]; show _ = some (L' 0); rw [hL]; exact hp2⟩
  · intro i p hp
    by_cases c : i = 0
    · subst c
      rw [gm0] at hp
      cases hp
      exact ⟨by omega, hM, hR⟩
    · rw [gmn i c] at hp
      obtain ⟨q1, q2, q3⟩ := j3.2.1 i p hp
      have hne : L 0 ≠ p.1 0 := j3.2.2 0 i _ p (Ne.symm c) h0 hp
      refine ⟨q1, q2.ep g (fun q hq => ⟨?_, (hP q hq).2.2⟩) hB, q3⟩
      rw [(hP q hq).1]
      intro e
      exact hne (by omega)
  · intro i j p q hij hp hq
    by_cases c : i = 0
    · subst c
      rw [gm0] at hp
      cases hp
      rw [gmn j (Ne.symm hij)] at hq
      show L' 0 ≠ q.1 0
      rw [hL]
      exact (j3.2.2 0 j (L, R) q hij h0 hq : L 0 ≠ q.1 0)
    · rw [gmn i c] at hp
      by_cases d : j = 0
      · subst d
        rw [gm0] at hq
        cases hq
        show p.1 0 ≠ L' 0
        rw [hL]
        exact (j3.2.2 i 0 p (L, R) hij hp h0 : p.1 0 ≠ L 0)
      · rw [gmn j d] at hq
        exact j3.2.2 i j p q hij hp hq
  · obtain ⟨d1, d2, hd, d3, d4, d5, d6⟩ := j4
    refine ⟨d1, fun i hi => ?_, hd, d3, ?_, ?_, fun i p hi hp => ?_⟩
    · rw [gmn (1 + i) (by omega)]; exact d2 i hi
    · rw [e2.2.2.2]; exact d4
    · rw [e2.2.2.2]; exact d5
    · rw [gmn (1 + i) (by omega)] at hp
      rw [e6.2.2.1]; exact d6 i p hi hp
  · intro j hj
    rw [gmn (7 + j) (by omega), e3.2.2.1]
    exact j5 j hj
  · unfold JF at *
    rw [e4.2.2.2]; exact j6
  · unfold JL at *
    rw [e0.2.2.2, e1.2.2.2]; exact j7
  · unfold JE at *
    rw [e0.2.2.2]; exact j8
  · unfold JO at *
    rw [e5.2.2.2, e7.2.2.2]; exact j9
theorem JC.now {P : Nat → Prop} {G : Nat → Nat} {B B' : Nat → Nat × Nat} {S : Gst} {a b : Hp} {L : Nat → Nat} {R R' : Nat → Int32} (h : JC G B S a) (h0 : gm S 0 = some (L, R)) (g : EP P a b) (hP : ∀ q, P q → (B q).1 = L 0 + 1 ∧ hK a q < 100 ∧ hK a q ≠ 10) (hB : ∀ q, q < hSz a → B' q = B q) (hM : Mk B' b L R') (hR : Ro R') : JC G B' (sN S (L, R')) b := JC.nowL rfl h h0 g hP hB hM hR
/-- the twin's row 0 laid anew; scratch, thrown and rows 9, 10 may be spoiled -/
theorem JT.now {G : Nat → Nat} {S : Gst} {a c : Hp} {L : Nat → Nat} {R' : Nat → Int32} (hG : GD G) (hm : ∀ i p, gm S i = some p → i < 9) (h : JT G S a) (k1 : c.1 = a.1) (k2 : c.2.2 = a.2.2)
    (k3 : ∀ i, i < 22 → i ≠ 14 → i ≠ 15 → i ≠ 18 → i ≠ 11 → i ≠ 10 → hI c (G i) = hI a (G i)) (k4 : ∀ j, j ≠ 5 → hI c (G 10) j = hI a (G 10) j) (k5 : ∀ j, 545 ≤ j → j < 4905 → hI c (G 11) j = hI a (G 11) j) (k6 : ∀ k, k < 545 → hI c (G 11) k = R' k) : JT G (sN S (L, R')) c := by
  have eK : hK c = hK a := congrArg (fun x => x.1.2.1) k1
  have eN : hN c = hN a := congrArg (fun x => x.1.2.2) k1
  have eR : hR c = hR a := congrArg (fun x => x.1) k2
  have gmn : ∀ i, i ≠ 0 → gm (sN S (L, R')) i = gm S i := fun i hi => up1_n (gm S) _ hi
  have gm0 : gm (sN S (L, R')) 0 = some (L, R') := up1_s (gm S) 0 _
  obtain ⟨h1, h2, h3, h4, h5, h6, ⟨h7, h8⟩, ⟨h9, h10⟩, h11, h12⟩ := h
  refine ⟨?_, ?_, ?_, ?_, ?_, ?_, ⟨?_, ?_⟩, ⟨?_, ?_⟩, ?_, ?_⟩
  · unfold FT at *
    rw [eK, eN, eR]
    exact h1
  · rw [k4 _ (by omega)]; exact h2
  · rw [k4 _ (by omega)]; exact h3
  · intro i p hp k hk
    by_cases d : i = 0
    · subst d
      rw [gm0] at hp
      cases hp
      rw [Nat.mul_zero, Nat.zero_add]
      exact k6 k hk
    · rw [gmn i d] at hp
      have := hm i p hp
      rw [k5 _ (by omega) (by omega)]
      exact h4 i p hp k hk
  · intro j hj
    rw [gmn _ (by omega), k3 12 (by omega) (by omega) (by omega) (by omega) (by omega) (by omega)]
    exact h5 j hj
  · intro j hj; rw [k3 13 (by omega) (by omega) (by omega) (by omega) (by omega) (by omega)]; exact h6 j hj
  · rw [k4 _ (by omega)]; exact h7
  · intro j hj; rw [k3 16 (by omega) (by omega) (by omega) (by omega) (by omega) (by omega)]; exact h8 j hj
  · rw [k4 _ (by omega)]; exact h9
  · rw [k4 _ (by omega)]; exact h10
  · rw [k4 _ (by omega)]; exact h11
  · intro j hj; rw [k3 19 (by omega) (by omega) (by omega) (by omega) (by omega) (by omega)]; exact h12 j hj
/-! A MARKET'S FACT LAID -/
theorem Mk.wF {B : Nat → Nat × Nat} {a : Hp} {L : Nat → Nat} {R : Nat → Int32} (hM : Mk B a L R) {x y : Nat} (hx : x < 10) (hy : y < 10) {v : Option Nat} {w : Int32} (hv : (w = -1 ∧ v = none) ∨ ∃ f, v = some f ∧ x ≠ y ∧ W3 w ∧ Fw_ a f x y w) : Mk B (hwR a (L (10 + x)) (up1 (hR a (L (10 + x))) y v)) L (up1 R (85 + 10 * x + y) w) := by
  have hw := mk_w hM
  have o : ∀ i, i < 85 ∨ 185 ≤ i → up1 R (85 + 10 * x + y) w i = R i := fun i hi => up1_o _ _ _ (by omega)
  have eH : nH (up1 R (85 + 10 * x + y) w) = nH R := by unfold nH; rw [o _ (by omega)]
  have eT : nT (up1 R (85 + 10 * x + y) w) = nT R := by unfold nT; rw [o _ (by omega)]
  have eC : nC (up1 R (85 + 10 * x + y) w) = nC R := by unfold nC; rw [o _ (by omega)]
  obtain ⟨⟨w1, w2⟩, ⟨w3, w4⟩, ⟨w5, w6⟩, w7⟩ := hw
  have eR : ∀ k, k < nH R → nR (up1 R (85 + 10 * x + y) w) k = nR R k := by
    intro k hk
    unfold nR
    rw [o _ (by omega)]
  have eL : ∀ s, lv (up1 R (85 + 10 * x + y) w) s ↔ lv R s := by intro s; unfold lv; rw [eH, eC]
  have eCi : ∀ s k m, Ci (up1 R (85 + 10 * x + y) w) s k m → Ci R s k m := by
    intro s k m h
    unfold Ci at h
    rw [eH, eT, eC] at h
    rcases h with c | c | c | c | c | c | c | c | c | c
    · exact .inl c
    · exact .inr (.inl c)
    · exact .inr (.inr (.inl c))
    · exact .inr (.inr (.inr (.inl c)))
    · exact .inr (.inr (.inr (.inr (.inl c))))
    · exact .inr (.inr (.inr (.inr (.inr (.inl c)))))
    · rw [eR _ (by omega)] at c
      exact .inr (.inr (.inr (.inr (.inr (.inr (.inl c))))))
    · exact .inr (.inr (.inr (.inr (.inr (.inr (.inr (.inl c)))))))
    · exact .inr (.inr (.inr (.inr (.inr (.inr (.inr (.inr (.inl c))))))))
    · exact .inr (.inr (.inr (.inr (.inr (.inr (.inr (.inr (.inr c))))))))
  have nL : ∀ s, lv R s → s ≠ 10 + x → L s ≠ L (10 + x) := fun s hs hne e => hne (mk_L hM hs (lv_10 hx) e)
  have hRo : ∀ s, lv R s → s ≠ 10 + x → hR (hwR a (L (10 + x)) (up1 (hR a (L (10 + x))) y v)) (L s) = hR a (L s) := fun s hs hne => by rw [hR_wR, up1_n _ _ (nL s hs hne)]
  refine ⟨⟨⟨?_, ?_⟩, ⟨?_, ?_⟩, ⟨?_, ?_⟩, ?_⟩, fun s hs => hM.2.1 s ((eL s).mp hs), ?_, ?_, ⟨?_, ?_, ?_⟩, ?_⟩
  · rw [o _ (by omega), eT]; exact w1
  · rw [eT]; exact w2
  · rw [o _ (by omega), eH]; exact w3
  · rw [eH]; exact w4
  · rw [o _ (by omega), eC]; exact w5
  · rw [eC]; exact w6
  · rw [eH]
    intro k hk
    rw [o _ (by omega), eR k hk]
    exact w7 k hk
  · have := mk_n hM
    unfold MkN at *
    rw [eT, eH, eC]
    exact ⟨this.1, this.2.1, fun k hk => by rw [eR k hk]; exact this.2.2.1 k hk, this.2.2.2⟩
  · have := mk_r hM
    unfold MkR at *
    rw [eH, eC]
    obtain ⟨⟨r0, r1, r2, r3, r4, r5, r6⟩, q5, q3, q20, q4, q40, q41, q60⟩ := this
    refine ⟨⟨?_, ?_, ?_, ?_, ?_, ?_, ?_⟩, ?_, ?_, ?_, ?_, ?_, ?_, ?_⟩
    · rw [hRo 0 (lv_0 (by omega)) (by omega)]; exact r0
    · rw [hRo 0 (lv_0 (by omega)) (by omega)]; exact r1
    · rw [hRo 0 (lv_0 (by omega)) (by omega)]; exact r2
    · rw [hRo 0 (lv_0 (by omega)) (by omega)]; exact r3
    · rw [hRo 0 (lv_0 (by omega)) (by omega)]; exact r4
    · rw [hRo 1 (lv_0 (by omega)) (by omega)]; exact r5
    · rw [hRo 2 (lv_0 (by omega)) (by omega)]; exact r6
    · intro k hk; rw [hRo 5 (lv_0 (by omega)) (by omega)]; exact q5 k hk
    · intro k hk; rw [hRo 3 (lv_0 (by omega)) (by omega)]; exact q3 k hk
    · intro k hk; rw [hRo _ (lv_20 hk) (by omega)]; exact q20 k hk
    · intro k hk; rw [hRo 4 (lv_0 (by omega)) (by omega)]; exact q4 k hk
    · intro k hk; rw [hRo _ (lv_40 hk) (by omega)]; exact q40 k hk
    · intro k hk; rw [hRo _ (lv_40 hk) (by omega)]; exact q41 k hk
    · intro k s hk hs; rw [hRo _ (lv_60 hk) (by omega)]; exact q60 k s hk hs
  · intro s k m h
    have h' := eCi s k m h
    have hm : m < 85 ∨ 185 ≤ m := by
      rcases ci_c h' with c | c | c | c | c | ⟨z, hz, c | c⟩ | ⟨z, hz, c | c | c | c⟩ <;> omega
    rw [o m hm]
    exact hM.2.2.2.2.1.1 s k m h'
  · rw [eH]; exact hM.2.2.2.2.1.2.1
  · rw [eC]; exact hM.2.2.2.2.1.2.2
  · intro x' y' hx' hy'
    unfold Fx_
    by_cases c : x' = x ∧ y' = y
    · obtain ⟨rfl, rfl⟩ := c
      have efc : fc (up1 R (85 + 10 * x' + y') w) x' y' = w := up1_s _ _ _
      rw [efc, hR_wR, up1_s, up1_s]
      rcases hv with ⟨h1, h2⟩ | ⟨f, h1, h2, h3, h4⟩
      · exact .inl ⟨h1, h2⟩
      · exact .inr ⟨f, h1, h2, h3, h4⟩
    · have efc : fc (up1 R (85 + 10 * x + y) w) x' y' = fc R x' y' := by unfold fc; rw [up1_o _ _ _ (by omega)]
      have ehr : hR (hwR a (L (10 + x)) (up1 (hR a (L (10 + x))) y v)) (L (10 + x')) y' = hR a (L (10 + x')) y' := by
        by_cases d : x' = x
        · subst d
          rw [hR_wR, up1_s, up1_n _ _ (fun e => c ⟨rfl, e⟩)]
        · rw [hRo _ (lv_10 hx') (by omega)]
      rw [efc, ehr]
      exact mk_f hM x' y' hx' hy'
