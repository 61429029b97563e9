/-! A ROW OF FACTS LAID, TRUST AND TALLY LAID, A MARKET COPIED -/
theorem Mk.rF {B : Nat → Nat × Nat} {a : Hp} {L : Nat → Nat} {R : Nat → Int32} (hM : Mk B a L R) {x : Nat} (hx : x < 10) {g : Nat → Option Nat} {R' : Nat → Int32} (o : ∀ i, i < 85 ∨ 185 ≤ i → R' i = R i) (of_ : ∀ x' y, x' < 10 → y < 10 → x' ≠ x → fc R' x' y = fc R x' y) (hv : ∀ y, y < 10 → (fc R' x y = -1 ∧ g y = none) ∨ ∃ f, g y = some f ∧ x ≠ y ∧ W3 (fc R' x y) ∧ Fw_ a f x y (fc R' x y)) : Mk B (hwR a (L (10 + x)) g) L R' := by
  have hw := mk_w hM
  have eH : nH R' = nH R := by unfold nH; rw [o _ (by omega)]
  have eT : nT R' = nT R := by unfold nT; rw [o _ (by omega)]
  have eC : nC R' = nC R := by unfold nC; rw [o _ (by omega)]
  obtain ⟨⟨w1, w2⟩, ⟨w3, w4⟩, ⟨w5, w6⟩, w7⟩ := hw
  have eR : ∀ k, k < nH R → nR R' k = nR R k := by
    intro k hk
    unfold nR
    rw [o _ (by omega)]
  have eL : ∀ s, lv R' s ↔ lv R s := by intro s; unfold lv; rw [eH, eC]
  have eCi : ∀ s k m, Ci R' s k m → Ci R s k m := by
    intro s k m h
    unfold Ci at h
    rw [eH, eT, eC] at h
    rcases h with c | c | c | c | c | c | c | c | c | c
    · exact .inl c
    · exact .inr (.inl c)
    · exact .inr (.inr (.inl c))
    · exact .inr (.inr (.inr (.inl c)))
    · exact .inr (.inr (.inr (.inr (.inl c))))
    · exact .inr (.inr (.inr (.inr (.inr (.inl c)))))
    · rw [eR _ (by omega)] at c
      exact .inr (.inr (.inr (.inr (.inr (.inr (.inl c))))))
    · exact .inr (.inr (.inr (.inr (.inr (.inr (.inr (.inl c)))))))
    · exact .inr (.inr (.inr (.inr (.inr (.inr (.inr (.inr (.inl c))))))))
    · exact .inr (.inr (.inr (.inr (.inr (.inr (.inr (.inr (.inr c))))))))
  have nL : ∀ s, lv R s → s ≠ 10 + x → L s ≠ L (10 + x) := fun s hs hne e => hne (mk_L hM hs (lv_10 hx) e)
  have hRo : ∀ s, lv R s → s ≠ 10 + x → hR (hwR a (L (10 + x)) g) (L s) = hR a (L s) := fun s hs hne => by rw [hR_wR, up1_n _ _ (nL s hs hne)]
  refine ⟨⟨⟨?_, ?_⟩, ⟨?_, ?_⟩, ⟨?_, ?_⟩, ?_⟩, fun s hs => hM.2.1 s ((eL s).mp hs), ?_, ?_, ⟨?_, ?_, ?_⟩, ?_⟩
  · rw [o _ (by omega), eT]; exact w1
  · rw [eT]; exact w2
  · rw [o _ (by omega), eH]; exact w3
  · rw [eH]; exact w4
  · rw [o _ (by omega), eC]; exact w5
  · rw [eC]; exact w6
  · rw [eH]
    intro k hk
    rw [o _ (by omega), eR k hk]
    exact w7 k hk
  · have := mk_n hM
    unfold MkN at *
    rw [eT, eH, eC]
    exact ⟨this.1, this.2.1, fun k hk => by rw [eR k hk]; exact this.2.2.1 k hk, this.2.2.2⟩
  · have := mk_r hM
    unfold MkR at *
    rw [eH, eC]
    obtain ⟨⟨r0, r1, r2, r3, r4, r5, r6⟩, q5, q3, q20, q4, q40, q41, q60⟩ := this
    refine ⟨⟨?_, ?_, ?_, ?_, ?_, ?_, ?_⟩, ?_, ?_, ?_, ?_, ?_, ?_, ?_⟩
    · rw [hRo 0 (lv_0 (by omega)) (by omega)]; exact r0
    · rw [hRo 0 (lv_0 (by omega)) (by omega)]; exact r1
    · rw [hRo 0 (lv_0 (by omega)) (by omega)]; exact r2
    · rw [hRo 0 (lv_0 (by omega)) (by omega)]; exact r3
    · rw [hRo 0 (lv_0 (by omega)) (by omega)]; exact r4
    · rw [hRo 1 (lv_0 (by omega)) (by omega)]; exact r5
    · rw [hRo 2 (lv_0 (by omega)) (by omega)]; exact r6
    · intro k hk; rw [hRo 5 (lv_0 (by omega)) (by omega)]; exact q5 k hk
    · intro k hk; rw [hRo 3 (lv_0 (by omega)) (by omega)]; exact q3 k hk
    · intro k hk; rw [hRo _ (lv_20 hk) (by omega)]; exact q20 k hk
    · intro k hk; rw [hRo 4 (lv_0 (by omega)) (by omega)]; exact q4 k hk
    · intro k hk; rw [hRo _ (lv_40 hk) (by omega)]; exact q40 k hk
    · intro k hk; rw [hRo _ (lv_40 hk) (by omega)]; exact q41 k hk
    · intro k s hk hs; rw [hRo _ (lv_60 hk) (by omega)]; exact q60 k s hk hs
  · intro s k m h
    have h' := eCi s k m h
    have hm : m < 85 ∨ 185 ≤ m := by
      rcases ci_c h' with c | c | c | c | c | ⟨z, hz, c | c⟩ | ⟨z, hz, c | c | c | c⟩ <;> omega
    rw [o m hm]
    exact hM.2.2.2.2.1.1 s k m h'
  · rw [eH]; exact hM.2.2.2.2.1.2.1
  · rw [eC]; exact hM.2.2.2.2.1.2.2
  · intro x' y' hx' hy'
    unfold Fx_
    by_cases c : x' = x
    · subst c
      rw [hR_wR, up1_s]
      exact hv y' hy'
    · rw [of_ x' y' hx' hy' c, hRo _ (lv_10 hx') (by omega)]
      exact mk_f hM x' y' hx' hy'
theorem Mk.w67 {B : Nat → Nat × Nat} {a : Hp} {L : Nat → Nat} {R : Nat → Int32} (hM : Mk B a L R) {s : Nat} (hs : s = 6 ∨ s = 7) {g : Nat → Int32} {R' : Nat → Int32} (ho : ∀ i, i < 4 ∨ 15 ≤ i → R' i = R i) (h6 : ∀ j, j < nT R → (if s = 6 then g j else hI a (L 6) j) = R' (11 + j)) (h7 : ∀ j, j < 7 → (if s = 7 then g j else hI a (L 7) j) = R' (4 + j)) : Mk B (hwI a (L s) g) L R' := by
  have hw := mk_w hM
  have eH : nH R' = nH R := by unfold nH; rw [ho _ (by omega)]
  have eT : nT R' = nT R := by unfold nT; rw [ho _ (by omega)]
  have eC : nC R' = nC R := by unfold nC; rw [ho _ (by omega)]
  have eR : ∀ x, x < nH R → nR R' x = nR R x := by
    intro x hx
    unfold nR
    rw [ho _ (by omega)]
  have eL : ∀ r, lv R' r ↔ lv R r := by intro r; unfold lv; rw [eH, eC]
  have eCi : ∀ s k m, Ci R' s k m → Ci R s k m := by
    intro s k m h
    unfold Ci at h
    rw [eH, eT, eC] at h
    rcases h with c | c | c | c | c | c | c | c | c | c
    · exact .inl c
    · exact .inr (.inl c)
    · exact .inr (.inr (.inl c))
    · exact .inr (.inr (.inr (.inl c)))
    · exact .inr (.inr (.inr (.inr (.inl c))))
    · exact .inr (.inr (.inr (.inr (.inr (.inl c)))))
    · rw [eR _ (by omega)] at c
      exact .inr (.inr (.inr (.inr (.inr (.inr (.inl c))))))
    · exact .inr (.inr (.inr (.inr (.inr (.inr (.inr (.inl c)))))))
    · exact .inr (.inr (.inr (.inr (.inr (.inr (.inr (.inr (.inl c))))))))
    · exact .inr (.inr (.inr (.inr (.inr (.inr (.inr (.inr (.inr c))))))))
  obtain ⟨⟨w1, w2⟩, ⟨w3, w4⟩, ⟨w5, w6⟩, w7⟩ := hw
  have ls : lv R s := lv_0 (by omega)
  have nL : ∀ r, lv R r → r ≠ s → hI (hwI a (L s) g) (L r) = hI a (L r) := fun r hr hne => by rw [hI_wI, up1_n _ _ (fun e => hne (mk_L hM hr ls e))]
  refine ⟨⟨⟨?_, ?_⟩, ⟨?_, ?_⟩, ⟨?_, ?_⟩, ?_⟩, fun r hr => hM.2.1 r ((eL r).mp hr), ?_, ?_, ⟨?_, ?_, ?_⟩, ?_⟩
  · rw [ho _ (by omega), eT]; exact w1
  · rw [eT]; exact w2
  · rw [ho _ (by omega), eH]; exact w3
  · rw [eH]; exact w4
  · rw [ho _ (by omega), eC]; exact w5
  · rw [eC]; exact w6
  · rw [eH]
    intro x hx
    rw [ho _ (by omega), eR x hx]
    exact w7 x hx
  · have := mk_n hM
    unfold MkN at *
    rw [eT, eH, eC]
    exact ⟨this.1, this.2.1, fun x hx => by rw [eR x hx]; exact this.2.2.1 x hx, this.2.2.2⟩
  · have := mk_r hM
    unfold MkR at *
    rw [eH, eC]
    exact this
  · intro r k m h
    have h' := eCi r k m h
    have hr := ci_lv h'
    have old := hM.2.2.2.2.1.1 r k m h'
    by_cases c6 : r = 6
    · subst c6
      have hc : m = 11 + k ∧ k < nT R := by
        rcases ci_c h' with c | c | c | c | c | ⟨z, hz, c | c⟩ | ⟨z, hz, c | c | c | c⟩ <;> omega
      rw [hc.1, ← h6 k hc.2]
      by_cases d : s = 6
      · subst d; rw [hI_wI, up1_s, if_pos rfl]
      · rw [nL 6 (lv_0 (by omega)) (by omega), if_neg d]
    · by_cases c7 : r = 7
      · subst c7
        have hc : m = 4 + k ∧ k < 7 := by
          rcases ci_c h' with c | c | c | c | c | ⟨z, hz, c | c⟩ | ⟨z, hz, c | c | c | c⟩ <;> omega
        rw [hc.1, ← h7 k hc.2]
        by_cases d : s = 7
        · subst d; rw [hI_wI, up1_s, if_pos rfl]
        · rw [nL 7 (lv_0 (by omega)) (by omega), if_neg d]
      · have hm : m < 4 ∨ 15 ≤ m := by
          rcases ci_c h' with c | c | c | c | c | ⟨z, hz, c | c⟩ | ⟨z, hz, c | c | c | c⟩ <;> omega
        rw [ho m hm, nL r hr (by omega)]
        exact old
  · rw [eH]
    intro x hx
    rw [nL _ (lv_20 hx) (by omega)]
    exact hM.2.2.2.2.1.2.1 x hx
  · rw [eC]
    intro x hx
    rw [nL _ (lv_40 hx) (by omega)]
    exact hM.2.2.2.2.1.2.2 x hx
  · intro x y hx hy
    have efc : fc R' x y = fc R x y := by unfold fc; rw [ho _ (by omega)]
    unfold Fx_
    rw [efc]
    rcases mk_f hM x y hx hy with g1 | ⟨f, g1, g2, g3, g4, g5, g6⟩
    · exact .inl g1
    · refine .inr ⟨f, g1, g2, g3, g4, g5, ?_⟩
      rw [hI_wI, up1_n _ _ (fun e => by
        have k1 := (hM.2.1 s ls).2.2
        rw [← e, g5] at k1
        exact kd_10n ls k1.symm)]
      exact g6
