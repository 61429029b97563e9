/-! THE COMPONENT'S MARKET: its cells by roles. L role = address; L 0 is the market itself -/
/-- roles: 0 market, 1 2 shelves, 3 4 their arrays, 5 facts, 6 trust, 7 tally, 10+k rows of facts, 20+h heaps, 30+h their rows, 40+c claims, 60+c pairs of rows, 80+c left then, 100+2c+s paired -/
def lv (R : Nat → Int32) (r : Nat) : Prop := r < 8 ∨ (10 ≤ r ∧ r < 20) ∨ (20 ≤ r ∧ r < 20 + nH R) ∨ (30 ≤ r ∧ r < 30 + nH R) ∨ (40 ≤ r ∧ r < 40 + nC R) ∨ (60 ≤ r ∧ r < 60 + nC R) ∨ (80 ≤ r ∧ r < 80 + nC R) ∨ (100 ≤ r ∧ r < 100 + 2 * nC R)
def kd (r : Nat) : Nat := if r = 0 then 2 else if r < 3 then 3 else if r < 5 then 46 else if r = 5 then 48 else if r < 8 then 41 else if r < 20 then 47 else if r < 30 then 4 else if r < 40 then 41 else if r < 60 then 8 else if r < 80 then 51 else 41
/-- the int at place j of role r is the row's i -/
def Ci (R : Nat → Int32) (r j i : Nat) : Prop :=
  (r = 0 ∧ j = 5 ∧ i = 2) ∨ (r = 1 ∧ j = 1 ∧ i = 1) ∨ (r = 2 ∧ j = 1 ∧ i = 3) ∨ (r = 6 ∧ j < nT R ∧ i = 11 + j) ∨ (r = 7 ∧ j < 7 ∧ i = 4 + j) ∨
  (20 ≤ r ∧ r < 20 + nH R ∧ j = 2 ∧ i = 15 + 7 * (r - 20)) ∨ (30 ≤ r ∧ r < 30 + nH R ∧ j < nR R (r - 30) ∧ j < 5 ∧ i = 15 + 7 * (r - 30) + (2 + j)) ∨
  (40 ≤ r ∧ r < 40 + nC R ∧ ((j = 1 ∧ i = 185 + 18 * (r - 40)) ∨ (j = 2 ∧ i = 185 + 18 * (r - 40) + 1) ∨ (j = 3 ∧ i = 185 + 18 * (r - 40) + 2) ∨ (j = 4 ∧ i = 185 + 18 * (r - 40) + 3) ∨ (j = 7 ∧ i = 185 + 18 * (r - 40) + 4) ∨ (j = 8 ∧ i = 185 + 18 * (r - 40) + 5))) ∨
  (80 ≤ r ∧ r < 80 + nC R ∧ j < 2 ∧ i = 185 + 18 * (r - 80) + (6 + j)) ∨
  (100 ≤ r ∧ r < 100 + 2 * nC R ∧ j < 5 ∧ i = 185 + 18 * ((r - 100) / 2) + (8 + 5 * ((r - 100) % 2) + j))
def Wk (R : Nat → Int32) : Prop := (R 0 = nv (nT R) ∧ nT R ≤ 4) ∧ (R 1 = nv (nH R) ∧ nH R ≤ 10) ∧ (R 3 = nv (nC R) ∧ nC R ≤ 20) ∧ ∀ h, h < nH R → R (15 + 7 * h + 1) = nv (nR R h) ∧ nR R h ≤ 5
def W3 (w : Int32) : Prop := w = 0 ∨ w = 1 ∨ w = 2
/-- the fact f tells w of x against y -/
def Fw_ (a : Hp) (f x y : Nat) (w : Int32) : Prop := f < hSz a ∧ hK a f = 10 ∧ ((hI a f 0 = nv x ∧ hI a f 1 = nv y ∧ hI a f 2 = w) ∨ (hI a f 0 = nv y ∧ hI a f 1 = nv x ∧ hI a f 2 = tn w))
def Fx_ (a : Hp) (L : Nat → Nat) (R : Nat → Int32) (x y : Nat) : Prop := (fc R x y = -1 ∧ hR a (L (10 + x)) y = none) ∨ ∃ f, hR a (L (10 + x)) y = some f ∧ x ≠ y ∧ W3 (fc R x y) ∧ Fw_ a f x y (fc R x y)
abbrev MkN (a : Hp) (L : Nat → Nat) (R : Nat → Int32) : Prop :=
  (hN a (L 3) = 10 ∧ hN a (L 4) = 20 ∧ hN a (L 5) = 10 ∧ hN a (L 6) = nT R ∧ hN a (L 7) = 7) ∧ (∀ k, k < 10 → hN a (L (10 + k)) = 10) ∧ (∀ h, h < nH R → hN a (L (30 + h)) = nR R h) ∧
  (∀ c, c < nC R → hN a (L (60 + c)) = 2) ∧ (∀ c, c < nC R → hN a (L (80 + c)) = 2) ∧ (∀ c s, c < nC R → s < 2 → hN a (L (100 + 2 * c + s)) = 5)
abbrev MkR (a : Hp) (L : Nat → Nat) (R : Nat → Int32) : Prop :=
  (hR a (L 0) 0 = some (L 1) ∧ hR a (L 0) 1 = some (L 2) ∧ hR a (L 0) 2 = some (L 5) ∧ hR a (L 0) 3 = some (L 6) ∧ hR a (L 0) 4 = some (L 7) ∧ hR a (L 1) 0 = some (L 3) ∧ hR a (L 2) 0 = some (L 4)) ∧
  (∀ k, k < 10 → hR a (L 5) k = some (L (10 + k))) ∧ (∀ h, h < nH R → hR a (L 3) h = some (L (20 + h))) ∧ (∀ h, h < nH R → hR a (L (20 + h)) 1 = some (L (30 + h))) ∧
  (∀ c, c < nC R → hR a (L 4) c = some (L (40 + c))) ∧ (∀ c, c < nC R → hR a (L (40 + c)) 5 = some (L (60 + c))) ∧ (∀ c, c < nC R → hR a (L (40 + c)) 6 = some (L (80 + c))) ∧ (∀ c s, c < nC R → s < 2 → hR a (L (60 + c)) s = some (L (100 + 2 * c + s)))
def MkI (a : Hp) (L : Nat → Nat) (R : Nat → Int32) : Prop :=
  (∀ r j i, Ci R r j i → hI a (L r) j = R i) ∧ (∀ h, h < nH R → hI a (L (20 + h)) 0 = nv h) ∧ (∀ c, c < nC R → hI a (L (40 + c)) 0 = nv c)
def MkO (B : Nat → Nat × Nat) (a : Hp) (L : Nat → Nat) (R : Nat → Int32) : Prop := ∀ r, lv R r → L r < hSz a ∧ B (L r) = (L 0 + 1, r) ∧ hK a (L r) = kd r
def Mk (B : Nat → Nat × Nat) (a : Hp) (L : Nat → Nat) (R : Nat → Int32) : Prop :=
  Wk R ∧ MkO B a L R ∧ MkN a L R ∧ MkR a L R ∧ MkI a L R ∧ ∀ x y, x < 10 → y < 10 → Fx_ a L R x y
theorem Sh.wk {R : Nat → Int32} (h : Sh R) : Wk R := ⟨⟨sh_T h, sh_T4 h⟩, ⟨sh_H h, sh_H10 h⟩, ⟨sh_C h, sh_C20 h⟩, fun k hk => ⟨sh_R h hk, sh_R5 h hk⟩⟩
theorem ci_eye (R : Nat → Int32) : Ci R 0 5 2 := .inl ⟨rfl, rfl, rfl⟩
theorem ci_s1 (R : Nat → Int32) : Ci R 1 1 1 := .inr (.inl ⟨rfl, rfl, rfl⟩)
theorem ci_s2 (R : Nat → Int32) : Ci R 2 1 3 := .inr (.inr (.inl ⟨rfl, rfl, rfl⟩))
theorem ci_tr (R : Nat → Int32) {j : Nat} (h : j < nT R) : Ci R 6 j (11 + j) := .inr (.inr (.inr (.inl ⟨rfl, h, rfl⟩)))
theorem ci_ta (R : Nat → Int32) {j : Nat} (h : j < 7) : Ci R 7 j (4 + j) := .inr (.inr (.inr (.inr (.inl ⟨rfl, h, rfl⟩))))
theorem ci_ow (R : Nat → Int32) {k : Nat} (h : k < nH R) : Ci R (20 + k) 2 (15 + 7 * k) := .inr (.inr (.inr (.inr (.inr (.inl ⟨by omega, by omega, rfl, by omega⟩)))))
theorem ci_st (R : Nat → Int32) {k r : Nat} (h : k < nH R) (h1 : r < nR R k) (h2 : r < 5) : Ci R (30 + k) r (15 + 7 * k + (2 + r)) := .inr (.inr (.inr (.inr (.inr (.inr (.inl ⟨by omega, by omega, by rw [show 30 + k - 30 = k by omega]; exact h1, h2, by omega⟩))))))
theorem ci_cl (R : Nat → Int32) {c j i : Nat} (h : c < nC R) (g : (j = 1 ∧ i = 0) ∨ (j = 2 ∧ i = 1) ∨ (j = 3 ∧ i = 2) ∨ (j = 4 ∧ i = 3) ∨ (j = 7 ∧ i = 4) ∨ (j = 8 ∧ i = 5)) : Ci R (40 + c) j (185 + 18 * c + i) := .inr (.inr (.inr (.inr (.inr (.inr (.inr (.inl ⟨by omega, by omega, by omega⟩)))))))
theorem ci_lt (R : Nat → Int32) {c s : Nat} (h : c < nC R) (hs : s < 2) : Ci R (80 + c) s (185 + 18 * c + (6 + s)) := .inr (.inr (.inr (.inr (.inr (.inr (.inr (.inr (.inl ⟨by omega, by omega, hs, by omega⟩))))))))
theorem ci_pa (R : Nat → Int32) {c s r : Nat} (h : c < nC R) (hs : s < 2) (hr : r < 5) : Ci R (100 + 2 * c + s) r (185 + 18 * c + (8 + 5 * s + r)) := .inr (.inr (.inr (.inr (.inr (.inr (.inr (.inr (.inr ⟨by omega, by omega, hr, by omega⟩))))))))
theorem lv_0 {R : Nat → Int32} {r : Nat} (h : r < 8) : lv R r := .inl h
theorem lv_10 {R : Nat → Int32} {k : Nat} (h : k < 10) : lv R (10 + k) := .inr (.inl ⟨by omega, by omega⟩)
theorem lv_20 {R : Nat → Int32} {k : Nat} (h : k < nH R) : lv R (20 + k) := .inr (.inr (.inl ⟨by omega, by omega⟩))
theorem lv_30 {R : Nat → Int32} {k : Nat} (h : k < nH R) : lv R (30 + k) := .inr (.inr (.inr (.inl ⟨by omega, by omega⟩)))
theorem lv_40 {R : Nat → Int32} {k : Nat} (h : k < nC R) : lv R (40 + k) := .inr (.inr (.inr (.inr (.inl ⟨by omega, by omega⟩))))
theorem lv_60 {R : Nat → Int32} {k : Nat} (h : k < nC R) : lv R (60 + k) := .inr (.inr (.inr (.inr (.inr (.inl ⟨by omega, by omega⟩)))))
theorem lv_80 {R : Nat → Int32} {k : Nat} (h : k < nC R) : lv R (80 + k) := .inr (.inr (.inr (.inr (.inr (.inr (.inl ⟨by omega, by omega⟩))))))
theorem lv_100 {R : Nat → Int32} {k s : Nat} (h : k < nC R) (hs : s < 2) : lv R (100 + 2 * k + s) := .inr (.inr (.inr (.inr (.inr (.inr (.inr ⟨by omega, by omega⟩))))))
theorem kd_10 {k : Nat} (h : k < 10) : kd (10 + k) = 47 := by
  unfold kd
  (repeat' split) <;> first | rfl | omega
theorem kd_20 {k : Nat} (h : k < 10) : kd (20 + k) = 4 := by
  unfold kd
  (repeat' split) <;> first | rfl | omega
theorem kd_30 {k : Nat} (h : k < 10) : kd (30 + k) = 41 := by
  unfold kd
  (repeat' split) <;> first | rfl | omega
theorem kd_40 {k : Nat} (h : k < 20) : kd (40 + k) = 8 := by
  unfold kd
  (repeat' split) <;> first | rfl | omega
theorem kd_60 {k : Nat} (h : k < 20) : kd (60 + k) = 51 := by
  unfold kd
  (repeat' split) <;> first | rfl | omega
theorem kd_80 {k : Nat} (h : k < 20) : kd (80 + k) = 41 := by
  unfold kd
  (repeat' split) <;> first | rfl | omega
theorem kd_100 (k : Nat) : kd (100 + k) = 41 := by
  unfold kd
  (repeat' split) <;> first | rfl | omega
/-- what a market's cells are, as rules -/
theorem mk_k {B : Nat → Nat × Nat} {a : Hp} {L : Nat → Nat} {R : Nat → Int32} (h : Mk B a L R) :
  (hK a (L 0) = 2 ∧ hK a (L 1) = 3 ∧ hK a (L 2) = 3 ∧ hK a (L 3) = 46 ∧ hK a (L 4) = 46 ∧ hK a (L 5) = 48 ∧ hK a (L 6) = 41 ∧ hK a (L 7) = 41) ∧
  (∀ k, k < 10 → hK a (L (10 + k)) = 47) ∧ (∀ k, k < nH R → hK a (L (20 + k)) = 4) ∧ (∀ k, k < nH R → hK a (L (30 + k)) = 41) ∧ (∀ c, c < nC R → hK a (L (40 + c)) = 8) ∧ (∀ c, c < nC R → hK a (L (60 + c)) = 51) ∧ (∀ c, c < nC R → hK a (L (80 + c)) = 41) ∧ (∀ c s, c < nC R → s < 2 → hK a (L (100 + 2 * c + s)) = 41) := by
  have hH := h.1.2.1.2
  have hC := h.1.2.2.1.2
  have e : ∀ r k, lv R r → kd r = k → hK a (L r) = k := fun r k h1 h2 => ((h.2.1 r h1).2.2).trans h2
  refine ⟨⟨e _ _ (lv_0 (by omega)) rfl, e _ _ (lv_0 (by omega)) rfl, e _ _ (lv_0 (by omega)) rfl, e _ _ (lv_0 (by omega)) rfl, e _ _ (lv_0 (by omega)) rfl, e _ _ (lv_0 (by omega)) rfl, e _ _ (lv_0 (by omega)) rfl, e _ _ (lv_0 (by omega)) rfl⟩, ?_, ?_, ?_, ?_, ?_, ?_, ?_⟩
  · exact fun k hk => e _ _ (lv_10 hk) (kd_10 (by omega))
  · exact fun k hk => e _ _ (lv_20 hk) (kd_20 (by omega))
  · exact fun k hk => e _ _ (lv_30 hk) (kd_30 (by omega))
  · exact fun k hk => e _ _ (lv_40 hk) (kd_40 (by omega))
  · exact fun k hk => e _ _ (lv_60 hk) (kd_60 (by omega))
  · exact fun k hk => e _ _ (lv_80 hk) (kd_80 (by omega))
  · exact fun k s hk hs => e _ _ (lv_100 hk hs) (by rw [Nat.add_assoc]; exact kd_100 _)
/-- the ints of a market -/
theorem mk_i {B : Nat → Nat × Nat} {a : Hp} {L : Nat → Nat} {R : Nat → Int32} (h : Mk B a L R) :
  (hI a (L 0) 5 = R 2 ∧ hI a (L 1) 1 = nv (nH R) ∧ hI a (L 2) 1 = nv (nC R)) ∧ (∀ j, j < nT R → hI a (L 6) j = R (11 + j)) ∧ (∀ j, j < 7 → hI a (L 7) j = R (4 + j)) ∧
  (∀ k, k < nH R → hI a (L (20 + k)) 0 = nv k) ∧ (∀ k, k < nH R → hI a (L (20 + k)) 2 = R (15 + 7 * k)) ∧ (∀ k r, k < nH R → r < nR R k → hI a (L (30 + k)) r = st R k r) ∧
  (∀ c, c < nC R → hI a (L (40 + c)) 0 = nv c ∧ hI a (L (40 + c)) 1 = cs R c 0 ∧ hI a (L (40 + c)) 2 = cs R c 1 ∧ hI a (L (40 + c)) 3 = cs R c 2 ∧ hI a (L (40 + c)) 4 = cs R c 3 ∧ hI a (L (40 + c)) 7 = cs R c 4 ∧ hI a (L (40 + c)) 8 = cs R c 5) ∧
  (∀ c s, c < nC R → s < 2 → hI a (L (80 + c)) s = cs R c (6 + s)) ∧ (∀ c s r, c < nC R → s < 2 → r < 5 → hI a (L (100 + 2 * c + s)) r = cs R c (8 + 5 * s + r)) := by
  have hw := h.1
  have hH := h.1.2.1.2
  have hC := h.1.2.2.1.2
  have g := h.2.2.2.2.1
  have e : ∀ r j i, Ci R r j i → hI a (L r) j = R i := g.1
  refine ⟨⟨e _ _ _ (ci_eye R), ?_, ?_⟩, fun j hj => e _ _ _ (ci_tr R hj), fun j hj => e _ _ _ (ci_ta R hj), g.2.1, fun k hk => e _ _ _ (ci_ow R hk), ?_, ?_, fun c s hc hs => e _ _ _ (ci_lt R hc hs), fun c s r hc hs hr => e _ _ _ (ci_pa R hc hs hr)⟩
  · rw [← hw.2.1.1]; exact e _ _ _ (ci_s1 R)
  · rw [← hw.2.2.1.1]; exact e _ _ _ (ci_s2 R)
  · intro k r hk hr
    exact e _ _ _ (ci_st R hk hr (by have := (hw.2.2.2 k hk).2; omega))
  · intro c hc
    exact ⟨g.2.2 c hc, e _ _ _ (ci_cl R (i := 0) hc (by omega)), e _ _ _ (ci_cl R (i := 1) hc (by omega)), e _ _ _ (ci_cl R (i := 2) hc (by omega)), e _ _ _ (ci_cl R (i := 3) hc (by omega)), e _ _ _ (ci_cl R (i := 4) hc (by omega)), e _ _ _ (ci_cl R (i := 5) hc (by omega))⟩
theorem mk_n {B : Nat → Nat × Nat} {a : Hp} {L : Nat → Nat} {R : Nat → Int32} (h : Mk B a L R) : MkN a L R := h.2.2.1
theorem mk_r {B : Nat → Nat × Nat} {a : Hp} {L : Nat → Nat} {R : Nat → Int32} (h : Mk B a L R) : MkR a L R := h.2.2.2.1
theorem mk_w {B : Nat → Nat × Nat} {a : Hp} {L : Nat → Nat} {R : Nat → Int32} (h : Mk B a L R) : Wk R := h.1
theorem mk_f {B : Nat → Nat × Nat} {a : Hp} {L : Nat → Nat} {R : Nat → Int32} (h : Mk B a L R) : ∀ x y, x < 10 → y < 10 → Fx_ a L R x y := h.2.2.2.2.2
