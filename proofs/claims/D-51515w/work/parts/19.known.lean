/-! WHAT IS KNOWN, plainly -/
theorem wd_0 {a b : Int32} : wd a b = 0 ↔ b < a := by
  unfold wd
  simp only [Int32.le_iff_toInt_le, Int32.lt_iff_toInt_lt]
  constructor
  · intro h
    (repeat' split at h) <;> first | omega | exact absurd h (by decide)
  · intro h
    rw [if_neg (by omega)]
theorem wd_1 {a b : Int32} : wd a b = 1 ↔ a < b := by
  unfold wd
  simp only [Int32.le_iff_toInt_le, Int32.lt_iff_toInt_lt]
  constructor
  · intro h
    (repeat' split at h) <;> first | omega | exact absurd h (by decide)
  · intro h
    rw [if_pos (by omega), if_neg (by omega)]
theorem wd_2 {a b : Int32} : wd a b = 2 ↔ a = b := by
  unfold wd
  simp only [Int32.le_iff_toInt_le, ← Int32.toInt_inj]
  constructor
  · intro h
    (repeat' split at h) <;> first | omega | exact absurd h (by decide)
  · intro h
    rw [if_pos (by omega), if_pos (by omega)]
theorem wd_3 (a b : Int32) : W3 (wd a b) := by
  unfold wd W3
  (repeat' split) <;> simp
theorem tn_wd (a b : Int32) : tn (wd a b) = wd b a := by
  rcases i32_tri a b with h | h | h
  · rw [wd_1.mpr h, wd_0.mpr h]; rfl
  · subst h; rw [wd_2.mpr rfl]; rfl
  · rw [wd_0.mpr h, wd_1.mpr h]; rfl
/-- the facts: true of the sizes, alike from both sides, none beyond the heaps -/
def Fs (R : Nat → Int32) : Prop := ∀ x y, x < 10 → y < 10 → fc R x y = -1 ∨ (x ≠ y ∧ x < nH R ∧ y < nH R ∧ fc R x y = ws R x y ∧ fc R y x = ws R y x)
theorem Fs.sym {R : Nat → Int32} (h : Fs R) {x y : Nat} (hx : x < 10) (hy : y < 10) (g : fc R x y = -1) : fc R y x = -1 := by
  rcases h y x hy hx with e | ⟨-, -, -, -, e⟩
  · exact e
  · rw [g] at e
    have := wd_3 (sz R x) (sz R y)
    unfold ws at e
    rw [← e] at this
    rcases this with w | w | w <;> exact absurd w (by decide)
theorem Fs.w3 {R : Nat → Int32} (h : Fs R) {x y : Nat} (hx : x < 10) (hy : y < 10) (g : fc R x y ≠ -1) : x ≠ y ∧ x < nH R ∧ y < nH R ∧ fc R x y = ws R x y ∧ fc R y x = ws R y x := by
  rcases h x y hx hy with e | e
  · exact absurd e g
  · exact e
theorem Fs.ne {R : Nat → Int32} {x y : Nat} (e : fc R x y = ws R x y) : fc R x y ≠ -1 := by
  intro g
  rw [g] at e
  have := wd_3 (sz R x) (sz R y)
  unfold ws at e
  rw [← e] at this
  rcases this with w | w | w <;> exact absurd w (by decide)
/-- an edge: a fact that does not tell b -/
def Ed (R : Nat → Int32) (b : Int32) (x y : Nat) : Prop := fc R x y ≠ -1 ∧ fc R x y ≠ b
theorem ed_le {R : Nat → Int32} (h : Fs R) (hH : nH R ≤ 10) {x y : Nat} (hx : x < nH R) (hy : y < nH R) (e : Ed R 1 x y) : sz R y ≤ sz R x := by
  obtain ⟨-, -, -, q, -⟩ := h.w3 (by omega) (by omega) e.1
  have := e.2
  rw [q] at this
  unfold ws at this
  rcases i32_tri (sz R x) (sz R y) with g | g | g
  · exact absurd (wd_1.mpr g) this
  · rw [g]; exact Int32.le_refl _
  · exact Int32.le_of_lt g
theorem ed_2 {R : Nat → Int32} (h : Fs R) (hH : nH R ≤ 10) {x y : Nat} (hx : x < nH R) (hy : y < nH R) (e : Ed R 1 x y) : (fc R x y = 2 ↔ sz R x = sz R y) ∧ (fc R x y = 0 ↔ sz R y < sz R x) := by
  obtain ⟨-, -, -, q, -⟩ := h.w3 (by omega) (by omega) e.1
  rw [q]
  exact ⟨wd_2, wd_0⟩
theorem ed_rev {R : Nat → Int32} (h : Fs R) (hH : nH R ≤ 10) {x y : Nat} (hx : x < nH R) (hy : y < nH R) (e : Ed R 1 x y) : Ed R 0 y x := by
  obtain ⟨-, -, -, q, q2⟩ := h.w3 (by omega) (by omega) e.1
  refine ⟨Fs.ne q2, fun g => e.2 ?_⟩
  rw [q2] at g
  rw [q]
  exact wd_1.mpr (wd_0.mp g)
theorem ed_rev0 {R : Nat → Int32} (h : Fs R) (hH : nH R ≤ 10) {x y : Nat} (hx : x < nH R) (hy : y < nH R) (e : Ed R 0 x y) : Ed R 1 y x := by
  obtain ⟨-, -, -, q, q2⟩ := h.w3 (by omega) (by omega) e.1
  refine ⟨Fs.ne q2, fun g => e.2 ?_⟩
  rw [q2] at g
  rw [q]
  exact wd_0.mpr (wd_1.mp g)
theorem pth_le {R : Nat → Int32} (h : Fs R) (hH : nH R ≤ 10) : ∀ {k x y : Nat}, x < nH R → pth (Ed R 1) (nH R) k x y → sz R y ≤ sz R x ∧ y < nH R := by
  intro k
  induction k with
  | zero => intro x y hx p; rw [pth] at p; subst p; exact ⟨Int32.le_refl _, hx⟩
  | succ k ih =>
    intro x y hx p
    obtain ⟨z, hz, e, p⟩ := p
    exact ⟨Int32.le_trans (ih hz p).1 (ed_le h hH hx hz e), (ih hz p).2⟩
/-- a way down between heaps of one size goes back too -/
theorem pth_back {R : Nat → Int32} (h : Fs R) (hH : nH R ≤ 10) : ∀ {k x y : Nat}, x < nH R → pth (Ed R 1) (nH R) k x y → sz R x = sz R y → pth (Ed R 1) (nH R) k y x := by
  intro k
  induction k with
  | zero => intro x y hx p _; exact Eq.symm p
  | succ k ih =>
    intro x y hx p hs
    obtain ⟨z, hz, e, p⟩ := p
    have h1 := ed_le h hH hx hz e
    have h2 := (pth_le h hH hz p).1
    have h3 : sz R x = sz R z := by
      rw [← hs] at h2
      exact Int32.le_antisymm h2 h1
    have e2 : Ed R 1 z x := by
      obtain ⟨-, -, -, q, q2⟩ := h.w3 (x := x) (y := z) (by omega) (by omega) e.1
      refine ⟨Fs.ne q2, ?_⟩
      rw [q2]
      unfold ws
      rw [wd_2.mpr h3.symm]
      decide
    exact pth_tr (ih hz p (h3.symm.trans hs)) (⟨x, hx, e2, rfl⟩ : pth _ _ 1 z x)
/-- what is known of x against y, as the twin finds it -/
noncomputable def kn (R : Nat → Int32) (x y : Nat) : Int32 := if x = y then 2 else match dd (Ed R 1) (nH R) x y with
  | some _ => if sz R y < sz R x then 0 else 2
  | none => match dd (Ed R 0) (nH R) x y with
    | some _ => 1
    | none => -1
/-- the closed square: 2 by more, 1 by as many, 0 none -/
def CD (R : Nat → Int32) (D : Nat → Nat → Int32) : Prop := ∀ x y, x < nH R → y < nH R → (tc (Ed R 1) (nH R) x y → D x y = if sz R y < sz R x then 2 else 1) ∧ (¬ tc (Ed R 1) (nH R) x y → D x y = 0)
theorem kn_D {R : Nat → Int32} (h : Fs R) (hH : nH R ≤ 10) {D : Nat → Nat → Int32} (hD : CD R D) {x y : Nat} (hx : x < nH R) (hy : y < nH R) :
    (if x = y then 2 else if D x y = 2 then 0 else if D y x = 2 then 1 else if D x y = 1 then 2 else -1) = kn R x y := by
  unfold kn
  by_cases hxy : x = y
  · rw [if_pos hxy, if_pos hxy]
  · rw [if_neg hxy, if_neg hxy]
    have t1 := tc_dd (E := Ed R 1) (n := nH R) hxy
    have t2 := tc_dd (E := Ed R 1) (n := nH R) (Ne.symm hxy)
    have up : (∃ k, dd (Ed R 0) (nH R) x y = some k) ↔ tc (Ed R 1) (nH R) y x := by
      rw [← tc_dd hxy]
      constructor
      · rintro ⟨k, hk⟩
        exact ⟨k, pth_rev (fun a b ha hb => ed_rev0 h hH ha hb) hx hk⟩
      · rintro ⟨k, hk⟩
        exact ⟨k, pth_rev (fun a b ha hb => ed_rev h hH ha hb) hy hk⟩
    by_cases c : tc (Ed R 1) (nH R) x y
    · obtain ⟨k, hk⟩ := t1.mp c
      rw [hk, (hD x y hx hy).1 c]
      have hle := (pth_le h hH hx (dd_some.mp hk).1).1
      by_cases g : sz R y < sz R x
      · simp only [g, if_true]
      · simp only [g, if_false]
        have e1 : ¬ (1 : Int32) = 2 := by decide
        have e2 : ¬ D y x = 2 := by
          by_cases c2 : tc (Ed R 1) (nH R) y x
          · rw [(hD y x hy hx).1 c2, if_neg]
            · exact e1
            · intro g2
              simp only [Int32.le_iff_toInt_le, Int32.lt_iff_toInt_lt] at *
              omega
          · rw [(hD y x hy hx).2 c2]
            decide
        simp only [e1, e2, if_false, if_true]
    · have n1 : dd (Ed R 1) (nH R) x y = none := by
        cases q : dd (Ed R 1) (nH R) x y with
        | none => rfl
        | some k => exact absurd (t1.mpr ⟨k, q⟩) c
      rw [n1, (hD x y hx hy).2 c]
      have e0 : ¬ (0 : Int32) = 2 := by decide
      have e1 : ¬ (0 : Int32) = 1 := by decide
      by_cases c2 : tc (Ed R 1) (nH R) y x
      · obtain ⟨k, hk⟩ := up.mpr c2
        rw [hk, (hD y x hy hx).1 c2]
        obtain ⟨k2, hk2⟩ := c2
        have hle := (pth_le h hH hy hk2).1
        have g : sz R x < sz R y := by
          rcases i32_tri (sz R x) (sz R y) with g | g | g
          · exact g
          · exact absurd ⟨k2, pth_back h hH hy hk2 g.symm⟩ c
          · simp only [Int32.le_iff_toInt_le, Int32.lt_iff_toInt_lt] at *
            omega
        simp only [g, e0, if_true, if_false]
      · have n2 : dd (Ed R 0) (nH R) x y = none := by
          cases q : dd (Ed R 0) (nH R) x y with
          | none => rfl
          | some k => exact absurd (up.mp ⟨k, q⟩) c2
        rw [n2, (hD y x hy hx).2 c2]
        simp only [e0, e1, if_false]
/-- when the sizes tell: known as it is -/
theorem kn_ws {R : Nat → Int32} (h : Fs R) (hH : nH R ≤ 10) {x y : Nat} (hx : x < nH R) (hy : y < nH R) : kn R x y = -1 ∨ kn R x y = ws R x y := by
  unfold kn ws
  by_cases hxy : x = y
  · rw [if_pos hxy, hxy, wd_2.mpr rfl]
    exact .inr rfl
  · rw [if_neg hxy]
    cases q : dd (Ed R 1) (nH R) x y with
    | some k =>
      right
      have hle := (pth_le h hH hx (dd_some.mp q).1).1
      by_cases g : sz R y < sz R x
      · simp only [g, if_true]
        exact (wd_0.mpr g).symm
      · simp only [g, if_false]
        exact (wd_2.mpr (Int32.le_antisymm (Int32.not_lt.mp g) hle)).symm
    | none =>
      cases q2 : dd (Ed R 0) (nH R) x y with
      | none => exact .inl rfl
      | some k =>
        right
        have p := pth_rev (fun a b ha hb => ed_rev0 h hH ha hb) hx (dd_some.mp q2).1
        have hle := (pth_le h hH hy p).1
        symm
        apply wd_1.mpr
        rcases i32_tri (sz R x) (sz R y) with g | g | g
        · exact g
        · have := pth_back h hH hy p g.symm
          exact absurd this (dd_none.mp q k)
        · simp only [Int32.le_iff_toInt_le, Int32.lt_iff_toInt_lt] at *
          omega
theorem kn_self (R : Nat → Int32) (x : Nat) : kn R x x = 2 := by unfold kn; rw [if_pos rfl]
/-- who is known of a heap; all pairs -/
noncomputable def kt (R : Nat → Int32) (x : Nat) : Int32 := su (fun k => if k = x then 0 else if kn R x k = -1 then 0 else 1) (nH R)
noncomputable def ka (R : Nat → Int32) : Int32 := su (fun x => kt R x) (nH R) / 2
