/-! A MARKET'S INT LAID -/
theorem ci_lv {R : Nat → Int32} {r j i : Nat} (hc : Ci R r j i) : lv R r := by
  rcases hc with c | c | c | c | c | c | c | c | c | c
  · exact lv_0 (by omega)
  · exact lv_0 (by omega)
  · exact lv_0 (by omega)
  · exact lv_0 (by omega)
  · exact lv_0 (by omega)
  · rw [show r = 20 + (r - 20) by omega]; exact lv_20 (by omega)
  · rw [show r = 30 + (r - 30) by omega]; exact lv_30 (by omega)
  · rw [show r = 40 + (r - 40) by omega]; exact lv_40 (by omega)
  · rw [show r = 80 + (r - 80) by omega]; exact lv_80 (by omega)
  · rw [show r = 100 + 2 * ((r - 100) / 2) + (r - 100) % 2 by omega]; exact lv_100 (by omega) (by omega)
theorem ci_c {R : Nat → Int32} {r j i : Nat} (h : Ci R r j i) : (r = 0 ∧ j = 5 ∧ i = 2) ∨ (r = 1 ∧ j = 1 ∧ i = 1) ∨ (r = 2 ∧ j = 1 ∧ i = 3) ∨ (r = 6 ∧ j < nT R ∧ i = 11 + j) ∨ (r = 7 ∧ j < 7 ∧ i = 4 + j) ∨
  (∃ c, c < nH R ∧ ((r = 20 + c ∧ j = 2 ∧ i = 15 + 7 * c) ∨ (r = 30 + c ∧ j < 5 ∧ i = 17 + 7 * c + j))) ∨
  (∃ c, c < nC R ∧ ((r = 40 + c ∧ ((j = 1 ∧ i = 185 + 18 * c) ∨ (j = 2 ∧ i = 186 + 18 * c) ∨ (j = 3 ∧ i = 187 + 18 * c) ∨ (j = 4 ∧ i = 188 + 18 * c) ∨ (j = 7 ∧ i = 189 + 18 * c) ∨ (j = 8 ∧ i = 190 + 18 * c))) ∨ (r = 80 + c ∧ j < 2 ∧ i = 191 + 18 * c + j) ∨ (r = 100 + 2 * c ∧ j < 5 ∧ i = 193 + 18 * c + j) ∨ (r = 101 + 2 * c ∧ j < 5 ∧ i = 198 + 18 * c + j))) := by
  rcases h with c | c | c | c | c | c | c | c | c | c
  · exact .inl c
  · exact .inr (.inl c)
  · exact .inr (.inr (.inl c))
  · exact .inr (.inr (.inr (.inl c)))
  · exact .inr (.inr (.inr (.inr (.inl c))))
  · exact .inr (.inr (.inr (.inr (.inr (.inl ⟨r - 20, by omega, .inl ⟨by omega, by omega, by omega⟩⟩)))))
  · exact .inr (.inr (.inr (.inr (.inr (.inl ⟨r - 30, by omega, .inr ⟨by omega, by omega, by omega⟩⟩)))))
  · exact .inr (.inr (.inr (.inr (.inr (.inr ⟨r - 40, by omega, .inl ⟨by omega, by omega⟩⟩)))))
  · exact .inr (.inr (.inr (.inr (.inr (.inr ⟨r - 80, by omega, .inr (.inl ⟨by omega, by omega, by omega⟩)⟩)))))
  · refine .inr (.inr (.inr (.inr (.inr (.inr ⟨(r - 100) / 2, by omega, .inr (.inr ?_)⟩)))))
    have : (r - 100) % 2 = 0 ∨ (r - 100) % 2 = 1 := by omega
    rcases this with e | e
    · rw [e] at c; exact .inl ⟨by omega, by omega, by omega⟩
    · rw [e] at c; exact .inr ⟨by omega, by omega, by omega⟩
theorem ci_fun {R : Nat → Int32} (hH : nH R ≤ 10) (hC : nC R ≤ 20) {r j i k : Nat} (h : Ci R r j i) (g : Ci R r j k) : i = k := by
  rcases ci_c h with c | c | c | c | c | ⟨x, hx, c | c⟩ | ⟨x, hx, c | c | c | c⟩ <;> rcases ci_c g with d | d | d | d | d | ⟨y, hy, d | d⟩ | ⟨y, hy, d | d | d | d⟩ <;> omega
theorem ci_inj {R : Nat → Int32} (hH : nH R ≤ 10) (hC : nC R ≤ 20) (hT : nT R ≤ 4) {r j r' j' i : Nat} (h : Ci R r j i) (g : Ci R r' j' i) : r = r' ∧ j = j' := by
  rcases ci_c h with c | c | c | c | c | ⟨x, hx, c | c⟩ | ⟨x, hx, c | c | c | c⟩ <;> rcases ci_c g with d | d | d | d | d | ⟨y, hy, d | d⟩ | ⟨y, hy, d | d | d | d⟩ <;> omega
theorem mk_L {B : Nat → Nat × Nat} {a : Hp} {L : Nat → Nat} {R : Nat → Int32} (hM : Mk B a L R) {r s : Nat} (hr : lv R r) (hs : lv R s) (e : L r = L s) : r = s := by
  have h1 := (hM.2.1 r hr).2.1
  rw [e, (hM.2.1 s hs).2.1] at h1
  exact (congrArg Prod.snd h1).symm
theorem kd_10n {R : Nat → Int32} {r : Nat} (_h : lv R r) : kd r ≠ 10 := by
  unfold kd
  (repeat' split) <;> omega
theorem Mk.wI {B : Nat → Nat × Nat} {a : Hp} {L : Nat → Nat} {R : Nat → Int32} (hM : Mk B a L R) {r j i : Nat} (v : Int32) (hc : Ci R r j i) (h0 : i ≠ 0) (h1 : i ≠ 1) (h3 : i ≠ 3) (hR : ∀ x, x < nH R → i ≠ 15 + 7 * x + 1) (hf : i < 85 ∨ 185 ≤ i) : Mk B (hwI a (L r) (up1 (hI a (L r)) j v)) L (up1 R i v) := by
  have hr := ci_lv hc
  have hw := mk_w hM
  have eH : nH (up1 R i v) = nH R := by unfold nH; rw [up1_o _ _ _ (Ne.symm h1)]
  have eT : nT (up1 R i v) = nT R := by unfold nT; rw [up1_o _ _ _ (Ne.symm h0)]
  have eC : nC (up1 R i v) = nC R := by unfold nC; rw [up1_o _ _ _ (Ne.symm h3)]
  have eR : ∀ x, x < nH R → nR (up1 R i v) x = nR R x := by
    intro x hx
    unfold nR
    rw [up1_o _ _ _ (Ne.symm (hR x hx))]
  have eL : ∀ s, lv (up1 R i v) s ↔ lv R s := by intro s; unfold lv; rw [eH, eC]
  have eCi : ∀ s k m, Ci (up1 R i v) s k m → Ci R s k m := by
    intro s k m h
    unfold Ci at h
    rw [eH, eT, eC] at h
    rcases h with c | c | c | c | c | c | c | c | c | c
    · exact .inl c
    · exact .inr (.inl c)
    · exact .inr (.inr (.inl c))
    · exact .inr (.inr (.inr (.inl c)))
    · exact .inr (.inr (.inr (.inr (.inl c))))
    · exact .inr (.inr (.inr (.inr (.inr (.inl c)))))
    · rw [eR _ (by omega)] at c
      exact .inr (.inr (.inr (.inr (.inr (.inr (.inl c))))))
    · exact .inr (.inr (.inr (.inr (.inr (.inr (.inr (.inl c)))))))
    · exact .inr (.inr (.inr (.inr (.inr (.inr (.inr (.inr (.inl c))))))))
    · exact .inr (.inr (.inr (.inr (.inr (.inr (.inr (.inr (.inr c))))))))
  obtain ⟨⟨w1, w2⟩, ⟨w3, w4⟩, ⟨w5, w6⟩, w7⟩ := hw
  refine ⟨⟨⟨?_, ?_⟩, ⟨?_, ?_⟩, ⟨?_, ?_⟩, ?_⟩, fun s hs => hM.2.1 s ((eL s).mp hs), ?_, ?_, ⟨?_, ?_, ?_⟩, ?_⟩
  · rw [up1_o _ _ _ (Ne.symm h0), eT]; exact w1
  · rw [eT]; exact w2
  · rw [up1_o _ _ _ (Ne.symm h1), eH]; exact w3
  · rw [eH]; exact w4
  · rw [up1_o _ _ _ (Ne.symm h3), eC]; exact w5
  · rw [eC]; exact w6
  · rw [eH]
    intro x hx
    rw [up1_o _ _ _ (Ne.symm (hR x hx)), eR x hx]
    exact w7 x hx
  · have := mk_n hM
    unfold MkN at *
    rw [eT, eH, eC]
    exact ⟨this.1, this.2.1, fun x hx => by rw [eR x hx]; exact this.2.2.1 x hx, this.2.2.2⟩
  · have := mk_r hM
    unfold MkR at *
    rw [eH, eC]
    exact this
  · intro s k m h
    have h' := eCi s k m h
    have hs := ci_lv h'
    have old := hM.2.2.2.2.1.1 s k m h'
    rw [hI_wI]
    by_cases c : m = i
    · subst c
      obtain ⟨q1, q2⟩ := ci_inj w4 w6 w2 hc h'
      subst q1; subst q2
      rw [up1_s, up1_s, up1_s]
    · rw [up1_o _ _ _ c]
      by_cases d : s = r
      · subst d
        have hne : k ≠ j := by
          rintro rfl
          exact c (ci_fun w4 w6 h' hc)
        rw [up1_s, up1_n _ _ hne]
        exact old
      · rw [up1_n _ _ (fun e => d (mk_L hM hr hs e.symm).symm)]
        exact old
  · rw [eH]
    intro x hx
    rw [hI_wI]
    have old := hM.2.2.2.2.1.2.1 x hx
    by_cases d : 20 + x = r
    · subst d
      rw [up1_s, up1_n _ _ (fun e => by
        subst e
        rcases hc with c | c | c | c | c | c | c | c | c | c <;> omega)]
      exact old
    · rw [up1_n _ _ (fun e => d (mk_L hM hr (lv_20 hx) e.symm).symm)]
      exact old
  · rw [eC]
    intro x hx
    rw [hI_wI]
    have old := hM.2.2.2.2.1.2.2 x hx
    by_cases d : 40 + x = r
    · subst d
      rw [up1_s, up1_n _ _ (fun e => by
        subst e
        rcases hc with c | c | c | c | c | c | c | c | c | c <;> omega)]
      exact old
    · rw [up1_n _ _ (fun e => d (mk_L hM hr (lv_40 hx) e.symm).symm)]
      exact old
  · intro x y hx hy
    have efc : fc (up1 R i v) x y = fc R x y := by unfold fc; rw [up1_o _ _ _ (by omega)]
    unfold Fx_
    rw [efc]
    rcases mk_f hM x y hx hy with g | ⟨f, g1, g2, g3, g4, g5, g6⟩
    · exact .inl g
    · refine .inr ⟨f, g1, g2, g3, g4, g5, ?_⟩
      rw [hI_wI, up1_n _ _ (fun e => by
        have k1 := (hM.2.1 r hr).2.2
        rw [← e, g5] at k1
        exact kd_10n hr k1.symm)]
      exact g6
