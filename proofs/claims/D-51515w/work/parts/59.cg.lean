/-- a market tells of the live places of its row alone -/
theorem Mk.cg {B : Nat → Nat × Nat} {a : Hp} {L : Nat → Nat} {R : Nat → Int32} (hM : Mk B a L R) {R' : Nat → Int32} (h0 : R' 0 = R 0) (h1 : R' 1 = R 1) (h3 : R' 3 = R 3) (hr : ∀ x, x < nH R → R' (15 + 7 * x + 1) = R (15 + 7 * x + 1)) (hi : ∀ r j i, Ci R r j i → R' i = R i) (hf : ∀ x y, x < 10 → y < 10 → fc R' x y = fc R x y) : Mk B a L R' := by
  have eH : nH R' = nH R := by unfold nH; rw [h1]
  have eT : nT R' = nT R := by unfold nT; rw [h0]
  have eC : nC R' = nC R := by unfold nC; rw [h3]
  have eR : ∀ x, x < nH R → nR R' x = nR R x := by intro x hx; unfold nR; rw [hr x hx]
  have eCi : ∀ s k m, Ci R' s k m → Ci R s k m := by
    intro s k m h
    unfold Ci at h
    rw [eH, eT, eC] at h
    rcases h with c | c | c | c | c | c | c | c | c | c
    · exact .inl c
    · exact .inr (.inl c)
    · exact .inr (.inr (.inl c))
    · exact .inr (.inr (.inr (.inl c)))
    · exact .inr (.inr (.inr (.inr (.inl c))))
    · exact .inr (.inr (.inr (.inr (.inr (.inl c)))))
    · rw [eR _ (by omega)] at c
      exact .inr (.inr (.inr (.inr (.inr (.inr (.inl c))))))
    · exact .inr (.inr (.inr (.inr (.inr (.inr (.inr (.inl c)))))))
    · exact .inr (.inr (.inr (.inr (.inr (.inr (.inr (.inr (.inl c))))))))
    · exact .inr (.inr (.inr (.inr (.inr (.inr (.inr (.inr (.inr c))))))))
  obtain ⟨⟨w1, w2⟩, ⟨w3, w4⟩, ⟨w5, w6⟩, w7⟩ := mk_w hM
  refine ⟨⟨⟨?_, ?_⟩, ⟨?_, ?_⟩, ⟨?_, ?_⟩, ?_⟩, fun s hs => ?_, ?_, ?_, ⟨?_, ?_, ?_⟩, ?_⟩
  · rw [h0, eT]; exact w1
  · rw [eT]; exact w2
  · rw [h1, eH]; exact w3
  · rw [eH]; exact w4
  · rw [h3, eC]; exact w5
  · rw [eC]; exact w6
  · rw [eH]
    intro x hx
    rw [hr x hx, eR x hx]
    exact w7 x hx
  · refine hM.2.1 s ?_
    unfold lv at *
    rw [eH, eC] at hs
    exact hs
  · have := mk_n hM
    unfold MkN at *
    rw [eT, eH, eC]
    exact ⟨this.1, this.2.1, fun x hx => by rw [eR x hx]; exact this.2.2.1 x hx, this.2.2.2⟩
  · have := mk_r hM
    unfold MkR at *
    rw [eH, eC]
    exact this
  · intro s k m h
    have h' := eCi s k m h
    rw [hi s k m h']
    exact hM.2.2.2.2.1.1 s k m h'
  · rw [eH]; exact hM.2.2.2.2.1.2.1
  · rw [eC]; exact hM.2.2.2.2.1.2.2
  · intro x y hx hy
    unfold Fx_
    rw [hf x y hx hy]
    exact mk_f hM x y hx hy
