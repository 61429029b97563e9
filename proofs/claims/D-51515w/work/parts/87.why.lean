/-! WHY -/
theorem dd_cg {E F : Nat → Nat → Prop} {n x y : Nat} (h : ∀ k, pth E n k x y ↔ pth F n k x y) : dd E n x y = dd F n x y := by
  have hds : ∀ k, ds E n k x y ↔ ds F n k x y := fun k => by
    unfold ds
    rw [h k]
    refine and_congr Iff.rfl (forall_congr' fun j => ?_)
    rw [h j]
  cases q : dd F n x y with
  | none =>
    rw [dd_none] at q ⊢
    intro k hk
    exact q k ((h k).mp hk)
  | some k =>
    rw [dd_some] at q ⊢
    exact (hds k).mpr q
/-- words told are 0, 1, 2 -/
theorem fc_3 {R : Nat → Int32} (h : Fs R) {x y : Nat} (hx : x < 10) (hy : y < 10) (e : fc R x y ≠ -nv 1) : fc R x y = nv 0 ∨ fc R x y = nv 1 ∨ fc R x y = nv 2 := by
  rcases h x y hx hy with g | ⟨-, -, -, g, -⟩
  · exact absurd g e
  · rw [g]
    exact wd_3 _ _
theorem el_01 {R : Nat → Int32} (h : Fs R) {x y b : Nat} (hx : x < 10) (hy : y < 10) (hb : b < 2) : El R (nv (1 - b)) x y ↔ Ed R (nv b) x y := by
  have hb2 : b = 0 ∨ b = 1 := by omega
  constructor
  · rintro ⟨h1, h2⟩
    refine ⟨h1, fun e => ?_⟩
    rcases h2 with g | g
    · rw [e, nv_eq (by omega) (by omega)] at g; omega
    · rw [e, nv_eq (by omega) (by omega)] at g; omega
  · rintro ⟨h1, h2⟩
    refine ⟨h1, ?_⟩
    rcases fc_3 h hx hy h1 with g | g | g
    · rcases hb2 with rfl | rfl
      · exact absurd g h2
      · exact .inr g
    · rcases hb2 with rfl | rfl
      · exact .inr g
      · exact absurd g h2
    · exact .inl g
theorem pth_2 {R : Nat → Int32} (h : Fs R) (hH : nH R ≤ 10) : ∀ {k x y : Nat}, x < nH R → pth (Ed R 1) (nH R) k x y → sz R x = sz R y → pth (El R (nv 2)) (nH R) k x y := by
  intro k
  induction k with
  | zero => intro x y _ p _; exact p
  | succ k ih =>
    intro x y hx p hs
    obtain ⟨z, hz, e, p⟩ := p
    have h1 := ed_le h hH hx hz e
    have h2 := (pth_le h hH hz p).1
    have h3 : sz R x = sz R z := by
      rw [← hs] at h2
      exact Int32.le_antisymm h2 h1
    exact ⟨z, hz, ⟨e.1, .inl ((ed_2 h hH hx hz e).1.mpr h3)⟩, ih hz p (h3.symm.trans hs)⟩
theorem dd_2 {R : Nat → Int32} (h : Fs R) (hH : nH R ≤ 10) {x t : Nat} (hx : x < nH R) (hs : sz R x = sz R t) : dd (El R (nv 2)) (nH R) x t = dd (Ed R 1) (nH R) x t := dd_cg fun k => ⟨fun p => pth_mono (fun u v _ _ e => by
    refine ⟨e.1, fun g => ?_⟩
    have e2 : fc R u v = nv 2 := by
      rcases e.2 with q | q <;> exact q
    rw [e2] at g
    exact absurd g (by decide)) hx p, fun p => pth_2 h hH hx p hs⟩
/-- what is known by a way: both sides walk alike -/
theorem why_dd {R : Nat → Int32} (h : Fs R) (hH : nH R ≤ 10) {x t : Nat} (hx : x < nH R) (ht : t < nH R) (hne : x ≠ t) (hk : kn R x t ≠ -nv 1) : ∃ d b, b < 2 ∧ (if kn R x t = nv 1 then nv 0 else nv 1) = nv b ∧ d < nH R ∧ dd (Ed R (nv b)) (nH R) x t = some d ∧ dd (El R (kn R x t)) (nH R) x t = some d ∧ 0 < d ∧
    ∀ y, y < nH R → ((El R (kn R x t) x y ∧ dd (El R (kn R x t)) (nH R) y t = some (d - 1)) ↔ (Ed R (nv b) x y ∧ dd (Ed R (nv b)) (nH R) y t = some (d - 1))) := by
  have pos : ∀ {E : Nat → Nat → Prop} {d}, dd E (nH R) x t = some d → 0 < d := fun {E d} e => by
    rcases Nat.eq_zero_or_pos d with z | z
    · rw [z] at e
      exact absurd (dd_z e) hne
    · exact z
  -- words 0 and 1
  have same : ∀ b, b < 2 → ∀ z, z < nH R → dd (El R (nv (1 - b))) (nH R) z t = dd (Ed R (nv b)) (nH R) z t := fun b hb z hz => dd_cg fun k => ⟨fun p => pth_mono (fun u v hu hv e => (el_01 h (by omega) (by omega) hb).mp e) hz p, fun p => pth_mono (fun u v hu hv e => (el_01 h (by omega) (by omega) hb).mpr e) hz p⟩
  cases q1 : dd (Ed R 1) (nH R) x t with
  | some d =>
    have hp := (dd_some.mp q1).1
    have hle := (pth_le h hH hx hp).1
    by_cases c : sz R t < sz R x
    · have e : kn R x t = nv 0 := by
        unfold kn
        rw [if_neg hne, q1]
        exact if_pos c
      rw [e, if_neg (by decide)]
      refine ⟨d, 1, by omega, rfl, dd_lt hx q1, q1, (same 1 (by omega) x hx).trans q1, pos q1, fun y hy => ?_⟩
      have e1 : El R (nv 0) x y ↔ Ed R (nv 1) x y := el_01 h (b := 1) (by omega) (by omega) (by omega)
      have e2 : dd (El R (nv 0)) (nH R) y t = dd (Ed R (nv 1)) (nH R) y t := same 1 (by omega) y hy
      rw [e1, e2]
    · have hs : sz R x = sz R t := Int32.le_antisymm (Int32.not_lt.mp c) hle
      have e : kn R x t = nv 2 := by
        unfold kn
        rw [if_neg hne, q1]
        exact if_neg c
      rw [e, if_neg (by decide)]
      refine ⟨d, 1, by omega, rfl, dd_lt hx q1, q1, (dd_2 h hH hx hs).trans q1, pos q1, fun y hy => ⟨fun g => ?_, fun g => ?_⟩⟩
      · have e2 : fc R x y = nv 2 := by
          rcases g.1.2 with q | q <;> exact q
        have ed : Ed R (nv 1) x y := ⟨g.1.1, by rw [e2]; decide⟩
        have hxy := (ed_2 h hH hx hy ed).1.mp e2
        exact ⟨ed, by rw [← g.2]; exact (dd_2 h hH hy (hxy.symm.trans hs)).symm⟩
      · have l1 := ed_le h hH hx hy g.1
        have l2 := (pth_le h hH hy (dd_some.mp g.2).1).1
        have hxy : sz R x = sz R y := by
          rw [← hs] at l2
          exact Int32.le_antisymm l2 l1
        exact ⟨⟨g.1.1, .inl ((ed_2 h hH hx hy g.1).1.mpr hxy)⟩, by rw [← g.2]; exact dd_2 h hH hy (hxy.symm.trans hs)⟩
  | none =>
    cases q0 : dd (Ed R 0) (nH R) x t with
    | none =>
      have e : kn R x t = -nv 1 := by
        unfold kn
        rw [if_neg hne, q1, q0]
        rfl
      exact absurd e hk
    | some d =>
      have e : kn R x t = nv 1 := by
        unfold kn
        rw [if_neg hne, q1, q0]
        rfl
      rw [e, if_pos rfl]
      refine ⟨d, 0, by omega, rfl, dd_lt hx q0, q0, (same 0 (by omega) x hx).trans q0, pos q0, fun y hy => ?_⟩
      have e1 : El R (nv 1) x y ↔ Ed R (nv 0) x y := el_01 h (b := 0) (by omega) (by omega) (by omega)
      have e2 : dd (El R (nv 1)) (nH R) y t = dd (Ed R (nv 0)) (nH R) y t := same 0 (by omega) y hy
      rw [e1, e2]
/-- a fact that is told is known -/
theorem kn_fc {R : Nat → Int32} (h : Fs R) (hH : nH R ≤ 10) {x y : Nat} (hx : x < nH R) (hy : y < nH R) (e : fc R x y ≠ -nv 1) : kn R x y = fc R x y := by
  rcases h x y (by omega) (by omega) with g | ⟨hne, -, -, g, -⟩
  · exact absurd g e
  · rcases kn_ws h hH hx hy with k | k
    · exfalso
      have some_of : ∀ b, Ed R b x y → dd (Ed R b) (nH R) x y ≠ none := fun b hb q => dd_none.mp q 1 ⟨y, hy, hb, rfl⟩
      unfold kn at k
      rw [if_neg hne] at k
      by_cases c : fc R x y = 1
      · have s0 := some_of 0 ⟨e, by rw [c]; decide⟩
        cases q1 : dd (Ed R 1) (nH R) x y with
        | some d =>
          rw [q1] at k
          dsimp only at k
          split at k <;> exact absurd k (by decide)
        | none =>
          rw [q1] at k
          cases q0 : dd (Ed R 0) (nH R) x y with
          | none => exact s0 q0
          | some d =>
            rw [q0] at k
            exact absurd (show (1 : Int32) = -1 from k) (by decide)
      · have s1 := some_of 1 ⟨e, c⟩
        cases q1 : dd (Ed R 1) (nH R) x y with
        | none => exact s1 q1
        | some d =>
          rw [q1] at k
          dsimp only at k
          split at k <;> exact absurd k (by decide)
    · rw [k, g]
