/-! PATHS: plain lemmas -/
theorem pigeon : ∀ (n m : Nat) (f : Nat → Nat), (∀ i, i < m → f i < n) → (∀ i j, i < m → j < m → f i = f j → i = j) → m ≤ n := by
  intro n
  induction n with
  | zero =>
    intro m f h1 _
    cases m with
    | zero => exact Nat.le_refl 0
    | succ m => exact absurd (h1 0 (by omega)) (by omega)
  | succ n ih =>
    intro m f h1 h2
    cases m with
    | zero => omega
    | succ m =>
      have := ih m (fun i => if f i = n then f m else f i) ?_ ?_
      · omega
      · intro i hi
        have a1 := h1 i (by omega)
        have a2 := h1 m (by omega)
        by_cases c : f i = n
        · simp only [c, if_true]
          have : f m ≠ n := fun e => by
            have := h2 i m (by omega) (by omega) (c.trans e.symm)
            omega
          omega
        · simp only [c, if_false]
          omega
      · intro i j hi hj e
        by_cases c : f i = n
        · by_cases d : f j = n
          · exact h2 i j (by omega) (by omega) (c.trans d.symm)
          · simp only [c, d, if_true, if_false] at e
            have := h2 m j (by omega) (by omega) e
            omega
        · by_cases d : f j = n
          · simp only [c, d, if_true, if_false] at e
            have := h2 i m (by omega) (by omega) e
            omega
          · simp only [c, d, if_false] at e
            exact h2 i j (by omega) (by omega) e
/-- a way of k steps within 0 .. n - 1 -/
def pth (E : Nat → Nat → Prop) (n : Nat) : Nat → Nat → Nat → Prop
  | 0, x, y => x = y
  | k + 1, x, y => ∃ z, z < n ∧ E x z ∧ pth E n k z y
theorem pth_tr {E : Nat → Nat → Prop} {n : Nat} : ∀ {j k x y z : Nat}, pth E n j x y → pth E n k y z → pth E n (j + k) x z := by
  intro j
  induction j with
  | zero =>
    intro k x y z h1 h2
    rw [pth] at h1
    subst h1
    rwa [Nat.zero_add]
  | succ j ih =>
    intro k x y z h1 h2
    obtain ⟨w, hw, e, p⟩ := h1
    rw [Nat.add_right_comm]
    exact ⟨w, hw, e, ih p h2⟩
theorem pth_mono {E F : Nat → Nat → Prop} {n : Nat} (h : ∀ x y, x < n → y < n → E x y → F x y) : ∀ {k x y : Nat}, x < n → pth E n k x y → pth F n k x y := by
  intro k
  induction k with
  | zero => intro x y _ p; exact p
  | succ k ih =>
    intro x y hx p
    obtain ⟨w, hw, e, p⟩ := p
    exact ⟨w, hw, h _ _ hx hw e, ih hw p⟩
theorem pth_rev {E F : Nat → Nat → Prop} {n : Nat} (h : ∀ x y, x < n → y < n → E x y → F y x) : ∀ {k x y : Nat}, x < n → pth E n k x y → pth F n k y x := by
  intro k
  induction k with
  | zero => intro x y _ p; exact Eq.symm p
  | succ k ih =>
    intro x y hx p
    obtain ⟨w, hw, e, p⟩ := p
    exact pth_tr (ih hw p) (⟨x, hx, h _ _ hx hw e, rfl⟩ : pth F n 1 w x)
/-- the fewest steps -/
def ds (E : Nat → Nat → Prop) (n k x y : Nat) : Prop := pth E n k x y ∧ ∀ j, j < k → ¬ pth E n j x y
theorem ds_un {E : Nat → Nat → Prop} {n j k x y : Nat} (h : ds E n j x y) (g : ds E n k x y) : j = k := by
  rcases Nat.lt_trichotomy j k with e | e | e
  · exact absurd h.1 (g.2 j e)
  · exact e
  · exact absurd g.1 (h.2 k e)
theorem ds_ex {E : Nat → Nat → Prop} {n x y : Nat} : ∀ {k : Nat}, pth E n k x y → ∃ j, j ≤ k ∧ ds E n j x y := by
  intro k
  induction k using Nat.strongRecOn with
  | ind k ih =>
    intro h
    by_cases c : ∃ j, j < k ∧ pth E n j x y
    · obtain ⟨j, h1, h2⟩ := c
      obtain ⟨i, h3, h4⟩ := ih j h1 h2
      exact ⟨i, by omega, h4⟩
    · exact ⟨k, Nat.le_refl k, h, fun j hj hp => c ⟨j, hj, hp⟩⟩
theorem ds_pr {E : Nat → Nat → Prop} {n k x y : Nat} (h : ds E n (k + 1) x y) : ∃ z, z < n ∧ E x z ∧ ds E n k z y := by
  obtain ⟨⟨z, h1, h2, h3⟩, h4⟩ := h
  exact ⟨z, h1, h2, h3, fun j hj hp => h4 (j + 1) (by omega) ⟨z, h1, h2, hp⟩⟩
theorem ds_lt {E : Nat → Nat → Prop} {n k x y : Nat} (hx : x < n) (h : ds E n k x y) : k < n := by
  have key : ∀ k x, x < n → ds E n k x y → ∃ f : Nat → Nat, ∀ i, i ≤ k → f i < n ∧ ds E n i (f i) y := by
    intro k
    induction k with
    | zero => intro x hx h; exact ⟨fun _ => x, fun i hi => ⟨hx, by have : i = 0 := (by omega); subst this; exact h⟩⟩
    | succ k ih =>
      intro x hx h
      obtain ⟨z, h1, h2, h3⟩ := ds_pr h
      obtain ⟨f, hf⟩ := ih z h1 h3
      refine ⟨fun i => if i = k + 1 then x else f i, fun i hi => ?_⟩
      by_cases c : i = k + 1
      · simp only [c, if_true]
        exact ⟨hx, h⟩
      · simp only [c, if_false]
        exact hf i (by omega)
  obtain ⟨f, hf⟩ := key k x hx h
  have := pigeon n (k + 1) f (fun i hi => (hf i (by omega)).1) (fun i j hi hj e => ds_un (hf i (by omega)).2 (e ▸ (hf j (by omega)).2))
  omega
noncomputable def dd (E : Nat → Nat → Prop) (n x y : Nat) : Option Nat := by
  classical
  exact if h : ∃ k, ds E n k x y then some h.choose else none
theorem dd_some {E : Nat → Nat → Prop} {n x y k : Nat} : dd E n x y = some k ↔ ds E n k x y := by
  unfold dd
  by_cases h : ∃ k, ds E n k x y
  · simp only [h, dite_true, Option.some.injEq]
    constructor
    · rintro rfl; exact h.choose_spec
    · intro g; exact ds_un h.choose_spec g
  · simp only [h, dite_false, reduceCtorEq, false_iff]
    intro g
    exact h ⟨k, g⟩
theorem dd_none {E : Nat → Nat → Prop} {n x y : Nat} : dd E n x y = none ↔ ∀ k, ¬ pth E n k x y := by
  unfold dd
  by_cases h : ∃ k, ds E n k x y
  · simp only [h, dite_true, reduceCtorEq, false_iff]
    intro g
    obtain ⟨k, hk⟩ := h
    exact g k hk.1
  · simp only [h, dite_false, true_iff]
    intro k hk
    obtain ⟨j, -, hj⟩ := ds_ex hk
    exact h ⟨j, hj⟩
theorem dd_lt {E : Nat → Nat → Prop} {n x y k : Nat} (hx : x < n) (h : dd E n x y = some k) : k < n := ds_lt hx (dd_some.mp h)
theorem dd_0 (E : Nat → Nat → Prop) (n x : Nat) : dd E n x x = some 0 := dd_some.mpr ⟨rfl, fun j hj => absurd hj (by omega)⟩
theorem dd_z {E : Nat → Nat → Prop} {n x y : Nat} (h : dd E n x y = some 0) : x = y := (dd_some.mp h).1
/-- the next level: found from one that is nearer by one -/
theorem dd_step {E : Nat → Nat → Prop} {n x y m : Nat} (hx : ∀ k, dd E n x y = some k → m < k) : dd E n x y = some (m + 1) ↔ ∃ i, i < n ∧ dd E n i y = some m ∧ E x i := by
  constructor
  · intro h
    obtain ⟨z, h1, h2, h3⟩ := ds_pr (dd_some.mp h)
    exact ⟨z, h1, dd_some.mpr h3, h2⟩
  · rintro ⟨i, h1, h2, h3⟩
    have p : pth E n (m + 1) x y := ⟨i, h1, h3, (dd_some.mp h2).1⟩
    obtain ⟨j, h4, h5⟩ := ds_ex p
    have := hx j (dd_some.mpr h5)
    rw [dd_some, show m + 1 = j by omega]
    exact h5
/-- ways of one step or more -/
def tc (E : Nat → Nat → Prop) (n x y : Nat) : Prop := ∃ k, pth E n (k + 1) x y
theorem tc_e {E : Nat → Nat → Prop} {n x y : Nat} (hy : y < n) (h : E x y) : tc E n x y := ⟨0, y, hy, h, rfl⟩
theorem tc_tr {E : Nat → Nat → Prop} {n x y z : Nat} (h : tc E n x y) (g : tc E n y z) : tc E n x z := by
  obtain ⟨j, h⟩ := h
  obtain ⟨k, g⟩ := g
  exact ⟨j + k + 1, by have := pth_tr h g; rwa [show j + 1 + (k + 1) = j + k + 1 + 1 by omega] at this⟩
theorem tc_cl {E : Nat → Nat → Prop} {n : Nat} {D : Nat → Nat → Prop} (h1 : ∀ x y, x < n → y < n → E x y → D x y) (h2 : ∀ x y z, x < n → y < n → z < n → D x y → D y z → D x z) : ∀ {x y : Nat}, x < n → tc E n x y → D x y := by
  intro x y hx ⟨k, hk⟩
  induction k generalizing x with
  | zero =>
    obtain ⟨z, hz, e, p⟩ := hk
    rw [pth] at p
    subst p
    exact h1 _ _ hx hz e
  | succ k ih =>
    obtain ⟨z, hz, e, p⟩ := hk
    have hy : D z y := ih hz p
    have hyn : y < n := by
      have : ∀ k z, z < n → pth E n k z y → y < n := by
        intro k
        induction k with
        | zero => intro z hz p; rw [pth] at p; omega
        | succ k ih => intro z hz p; obtain ⟨w, hw, -, p⟩ := p; exact ih w hw p
      exact this _ _ hz p
    exact h2 _ _ _ hx hz hyn (h1 _ _ hx hz e) hy
theorem tc_dd {E : Nat → Nat → Prop} {n x y : Nat} (h : x ≠ y) : tc E n x y ↔ ∃ k, dd E n x y = some k := by
  constructor
  · rintro ⟨k, hk⟩
    obtain ⟨j, -, hj⟩ := ds_ex hk
    exact ⟨j, dd_some.mpr hj⟩
  · rintro ⟨k, hk⟩
    have hk := (dd_some.mp hk).1
    cases k with
    | zero => exact absurd hk h
    | succ k => exact ⟨k, hk⟩
theorem i32_tri (x y : Int32) : x < y ∨ x = y ∨ y < x := by
  rcases Int.lt_trichotomy x.toInt y.toInt with h | h | h
  · exact .inl (Int32.lt_iff_toInt_lt.mpr h)
  · exact .inr (.inl (Int32.toInt.inj h))
  · exact .inr (.inr (Int32.lt_iff_toInt_lt.mpr h))
