/-! ROWS LAID ANEW: what must still hold -/
def Ss (R R' : Nat → Int32) : Prop := R' 0 = R 0 ∧ R' 1 = R 1 ∧ R' 3 = R 3 ∧ (∀ x, x < nH R → R' (15 + 7 * x + 1) = R (15 + 7 * x + 1)) ∧ ∀ c, c < nC R → ∀ j, j < 3 → R' (185 + 18 * c + j) = R (185 + 18 * c + j)
theorem Ss.H {R R' : Nat → Int32} (h : Ss R R') : nH R' = nH R := by unfold nH; rw [h.2.1]
theorem Ss.T {R R' : Nat → Int32} (h : Ss R R') : nT R' = nT R := by unfold nT; rw [h.1]
theorem Ss.C {R R' : Nat → Int32} (h : Ss R R') : nC R' = nC R := by unfold nC; rw [h.2.2.1]
theorem Ss.R {R R' : Nat → Int32} (h : Ss R R') {x : Nat} (hx : x < nH R) : nR R' x = nR R x := by unfold nR; rw [h.2.2.2.1 x hx]
theorem Ss.S {R R' : Nat → Int32} (h : Ss R R') {c s : Nat} (hc : c < nC R) (hs : s < 2) : sd R' c s = sd R c s := by unfold sd; rw [h.2.2.2.2 c hc (1 + s) (by omega)]
theorem Ss.W {R R' : Nat → Int32} (h : Ss R R') {c : Nat} (hc : c < nC R) : who R' c = who R c := by
  unfold who
  have := h.2.2.2.2 c hc 0 (by omega)
  rw [Nat.add_zero] at this
  rw [this]
theorem Ss.tr {R R' R2 : Nat → Int32} (h : Ss R R') (g : Ss R' R2) : Ss R R2 := by
  obtain ⟨g1, g2, g3, g4, g5⟩ := g
  rw [h.H] at g4
  rw [h.C] at g5
  exact ⟨g1.trans h.1, g2.trans h.2.1, g3.trans h.2.2.1, fun x hx => (g4 x hx).trans (h.2.2.2.1 x hx), fun c hc j hj => (g5 c hc j hj).trans (h.2.2.2.2 c hc j hj)⟩
theorem Ss.up {R : Nat → Int32} (hS : Sh R) {k : Nat} (v : Int32) (h0 : k ≠ 0) (h1 : k ≠ 1) (h3 : k ≠ 3) (hr : ∀ x, x < nH R → k ≠ 15 + 7 * x + 1) (hc : ∀ c, c < nC R → k ≠ 185 + 18 * c ∧ k ≠ 185 + 18 * c + 1 ∧ k ≠ 185 + 18 * c + 2) : Ss R (up1 R k v) := by
  refine ⟨up1_o _ _ _ (Ne.symm h0), up1_o _ _ _ (Ne.symm h1), up1_o _ _ _ (Ne.symm h3), fun x hx => up1_o _ _ _ (Ne.symm (hr x hx)), fun c hc2 j hj => up1_o _ _ _ ?_⟩
  have := hc c hc2
  omega
theorem Ss.sh {R R' : Nat → Int32} (h : Ss R R') (hS : Sh R) (ho : ∀ x, x < nH R → ∃ t, t < nT R ∧ R' (15 + 7 * x) = nv t) : Sh R' := by
  have h4 := sh_T4 hS
  obtain ⟨⟨a1, a2, a3⟩, ⟨b1, b2, b3⟩, ⟨c1, c2⟩, d, e⟩ := hS
  unfold Sh
  rw [h.H, h.T, h.C]
  refine ⟨⟨by rw [h.1]; exact a1, a2, a3⟩, ⟨by rw [h.2.1]; exact b1, b2, b3⟩, ⟨by rw [h.2.2.1]; exact c1, c2⟩, fun x hx => ?_, fun c hc => ?_⟩
  · obtain ⟨d1, d2, d3, d4, d5⟩ := d x hx
    obtain ⟨t, ht, et⟩ := ho x hx
    have e1 : ow R' x = t := by unfold ow; rw [et]; exact nv_cl (by omega)
    rw [h.R hx, e1, h.2.2.2.1 x hx]
    exact ⟨d1, d2, d3, et, ht⟩
  · obtain ⟨e1, e2, e3, e4⟩ := e c hc
    have e0 := h.2.2.2.2 c hc 0 (by omega)
    rw [Nat.add_zero] at e0
    rw [h.W hc, h.S hc (show 0 < 2 by omega), h.S hc (show 1 < 2 by omega), e0]
    refine ⟨e1, e2, e3, fun s hs => ?_⟩
    rw [h.S hc hs, h.2.2.2.2 c hc (1 + s) (by omega)]
    exact e4 s hs
/-- where the stones stay -/
theorem ro_gen {R R' : Nat → Int32} (hR : Ro R) (h : Ss R R') (ho : ∀ x, x < nH R → ∃ t, t < nT R ∧ R' (15 + 7 * x) = nv t) (ht : ∀ k, k < nT R → ∃ t, t ≤ 20 ∧ R' (11 + k) = nv t) (hst : ∀ x r, x < nH R → r < nR R x → st R' x r = st R x r)
    (hf : ∀ x y, x < 10 → y < 10 → (fc R' x y = fc R x y ∧ fc R' y x = fc R y x) ∨ fc R' x y = -1 ∨ (x ≠ y ∧ x < nH R ∧ y < nH R ∧ fc R' x y = ws R x y ∧ fc R' y x = ws R y x))
    (hp : ∀ c s r, c < nC R → s < 2 → r < 5 → nR R (sd R c s) ≤ r → cs R' c (8 + 5 * s + r) = 0)
    (hv : ∀ c, c < nC R → cs R' c 4 = 0 → (∀ s r, s < 2 → r < nR R (sd R c s) → ∃ p t, p ≤ t ∧ t ≤ 9 ∧ cs R' c (8 + 5 * s + r) = nv p ∧ st R (sd R c s) r = nv t) ∧ su (fun r => cs R' c (8 + r)) 5 = su (fun r => cs R' c (13 + r)) 5) : Ro R' := by
  obtain ⟨hS, hF, hP, hV⟩ := hR
  have ez : ∀ x, x < nH R → sz R' x = sz R x := fun x hx => by
    unfold sz
    rw [h.R hx]
    exact su_cg fun r hr => hst x r hx hr
  have ew : ∀ x y, x < nH R → y < nH R → ws R' x y = ws R x y := fun x y hx hy => by unfold ws; rw [ez x hx, ez y hy]
  refine ⟨h.sh hS ho, fun x y hx hy => ?_, fun c s r hc hs hr5 hr => ?_, ⟨fun x r hx hr => ?_, fun k hk => ?_, fun c hc h4 => ?_⟩⟩
  · rw [h.H]
    rcases hf x y hx hy with ⟨e1, e2⟩ | e | ⟨e1, e2, e3, e4, e5⟩
    · rw [e1, e2]
      rcases hF x y hx hy with g | ⟨g1, g2, g3, g4, g5⟩
      · exact .inl g
      · exact .inr ⟨g1, g2, g3, by rw [ew x y g2 g3]; exact g4, by rw [ew y x g3 g2]; exact g5⟩
    · exact .inl e
    · exact .inr ⟨e1, e2, e3, by rw [ew x y e2 e3]; exact e4, by rw [ew y x e3 e2]; exact e5⟩
  · rw [h.C] at hc
    rw [h.S hc hs, h.R (sh_SH hS hc hs)] at hr
    exact hp c s r hc hs hr5 hr
  · rw [h.H] at hx
    rw [h.R hx] at hr
    rw [hst x r hx hr]
    exact hV.1 x r hx hr
  · rw [h.T] at hk
    exact ht k hk
  · rw [h.C] at hc
    obtain ⟨q1, q2⟩ := hv c hc h4
    refine ⟨fun s r hs hr => ?_, q2⟩
    have hsd := sh_SH hS hc hs
    rw [h.S hc hs, h.R hsd] at hr
    rw [h.S hc hs, hst _ r hsd hr]
    exact q1 s r hs hr
/-- claims, stones and facts as they were -/
theorem ro_lo {R R' : Nat → Int32} (hR : Ro R) (h0 : R' 0 = R 0) (h1 : R' 1 = R 1) (h3 : R' 3 = R 3) (ho : ∀ x, x < nH R → ∃ t, t < nT R ∧ R' (15 + 7 * x) = nv t) (ht : ∀ k, k < nT R → ∃ t, t ≤ 20 ∧ R' (11 + k) = nv t) (hh : ∀ x j, x < nH R → 1 ≤ j → j < 7 → R' (15 + 7 * x + j) = R (15 + 7 * x + j)) (hx : ∀ i, 85 ≤ i → R' i = R i) : Ro R' := by
  have hss : Ss R R' := ⟨h0, h1, h3, fun x hx => hh x 1 hx (by omega) (by omega), fun c _ j _ => hx _ (by omega)⟩
  have efc : ∀ x y, fc R' x y = fc R x y := fun x y => hx _ (by omega)
  have ecs : ∀ c j, cs R' c j = cs R c j := fun c j => hx _ (by omega)
  refine ro_gen hR hss ho ht (fun x r hx hr => hh x (2 + r) hx (by omega) ?_) (fun x y _ _ => .inl ⟨efc x y, efc y x⟩) (fun c s r hc hs hr5 hr => by rw [ecs]; exact hR.2.2.1 c s r hc hs hr5 hr) (fun c hc h4 => ?_)
  · have := sh_R5 hR.1 hx
    omega
  · rw [ecs] at h4
    have := hR.2.2.2.2.2 c hc h4
    simp only [ecs]
    exact this
theorem ro_own {R : Nat → Int32} (hR : Ro R) : ∀ x, x < nH R → ∃ t, t < nT R ∧ R (15 + 7 * x) = nv t := fun x hx => ⟨ow R x, sh_OT hR.1 hx, sh_O hR.1 hx⟩
