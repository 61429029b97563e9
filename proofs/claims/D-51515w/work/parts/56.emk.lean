/-- an empty market's row -/
def Er (n : Nat) (e : Int32) (R : Nat → Int32) : Prop := R 0 = nv n ∧ R 1 = nv 0 ∧ R 2 = e ∧ R 3 = nv 0 ∧ (∀ j, j < 7 → R (4 + j) = nv 0) ∧ (∀ j, j < n → R (11 + j) = nv 10) ∧ ∀ x y, x < 10 → y < 10 → fc R x y = -1
def LQ (q r : Nat) : Nat := q + lq r
theorem Em.mk {q n : Nat} {e : Int32} {c : Hp} {R : Nat → Int32} {B : Nat → Nat × Nat} (h : Em q n e c) (hn : n ≤ 4) (hz : q + 18 ≤ hSz c) (hR : Er n e R) (hB : ∀ r, (r < 8 ∨ (10 ≤ r ∧ r < 20)) → B (LQ q r) = (q + 1, r)) : Mk B c (LQ q) R := by
  obtain ⟨⟨k0, k1, k2, k3, k4, k5, k16, k17⟩, ⟨n2, n4, n5, n16, n17⟩, ⟨r0, r1, r2, r3, r4, r5, r6⟩, hf, i5, i1, i3, it, iu⟩ := h
  obtain ⟨e0, e1, e2, e3, e4, e5, e6⟩ := hR
  have eT : nT R = n := by unfold nT; rw [e0]; exact nv_cl (by omega)
  have eH : nH R = 0 := by unfold nH; rw [e1]; rfl
  have eC : nC R = 0 := by unfold nC; rw [e3]; rfl
  have q0 : LQ q 0 = q := rfl
  have q1 : LQ q 1 = q + 1 := rfl
  have q2 : LQ q 2 = q + 3 := rfl
  have q3 : LQ q 3 = q + 2 := rfl
  have q4 : LQ q 4 = q + 4 := rfl
  have q5 : LQ q 5 = q + 5 := rfl
  have q6 : LQ q 6 = q + 17 := rfl
  have q7 : LQ q 7 = q + 16 := rfl
  have q10 : ∀ x, LQ q (10 + x) = q + 6 + x := fun x => by unfold LQ; rw [lq_10]; omega
  have live : ∀ r, lv R r → r < 8 ∨ (10 ≤ r ∧ r < 20) := by
    intro r h
    unfold lv at h
    rw [eH, eC] at h
    omega
  refine ⟨⟨⟨by rw [eT]; exact e0, by rw [eT]; exact hn⟩, ⟨by rw [eH]; exact e1, by rw [eH]; omega⟩, ⟨by rw [eC]; exact e3, by rw [eC]; omega⟩, fun x hx => by rw [eH] at hx; omega⟩, ?_, ?_, ?_, ⟨?_, ?_, ?_⟩, ?_⟩
  · intro r hr
    have hl := live r hr
    refine ⟨?_, hB r hl, ?_⟩
    · rcases hl with g | g
      · have : r = 0 ∨ r = 1 ∨ r = 2 ∨ r = 3 ∨ r = 4 ∨ r = 5 ∨ r = 6 ∨ r = 7 := by omega
        rcases this with rfl | rfl | rfl | rfl | rfl | rfl | rfl | rfl
        · rw [q0]; omega
        · rw [q1]; omega
        · rw [q2]; omega
        · rw [q3]; omega
        · rw [q4]; omega
        · rw [q5]; omega
        · rw [q6]; omega
        · rw [q7]; omega
      · rw [show r = 10 + (r - 10) by omega, q10]; omega
    · rcases hl with g | g
      · have : r = 0 ∨ r = 1 ∨ r = 2 ∨ r = 3 ∨ r = 4 ∨ r = 5 ∨ r = 6 ∨ r = 7 := by omega
        rcases this with rfl | rfl | rfl | rfl | rfl | rfl | rfl | rfl
        · exact k0
        · exact k1
        · exact k3
        · exact k2
        · exact k4
        · exact k5
        · exact k17
        · exact k16
      · rw [show r = 10 + (r - 10) by omega, q10, kd_10 (by omega)]
        exact (hf _ (by omega)).2.1
  · unfold MkN
    rw [eT, eH, eC]
    exact ⟨⟨n2, n4, n5, n17, n16⟩, fun x hx => by rw [q10]; exact (hf x hx).2.2.1, fun x hx => by omega, fun x hx => by omega, fun x hx => by omega, fun x s hx _ => by omega⟩
  · unfold MkR
    rw [eH, eC]
    exact ⟨⟨r0, r1, r2, r3, r4, r5, r6⟩, fun x hx => by rw [q10]; exact (hf x hx).1, fun x hx => by omega, fun x hx => by omega, fun x hx => by omega, fun x hx => by omega, fun x hx => by omega, fun x s hx _ => by omega⟩
  · intro r j i g
    rcases ci_c g with d | d | d | d | d | ⟨x, hx, d | d⟩ | ⟨x, hx, d | d | d | d⟩
    · obtain ⟨rfl, rfl, rfl⟩ := d; rw [e2]; exact i5
    · obtain ⟨rfl, rfl, rfl⟩ := d; rw [e1]; exact i1
    · obtain ⟨rfl, rfl, rfl⟩ := d; rw [e3]; exact i3
    · obtain ⟨rfl, d1, rfl⟩ := d
      rw [eT] at d1
      rw [e5 j d1]
      exact iu j d1
    · obtain ⟨rfl, d1, rfl⟩ := d
      rw [e4 j d1]
      exact it j d1
    · rw [eH] at hx; omega
    · rw [eH] at hx; omega
    · rw [eC] at hx; omega
    · rw [eC] at hx; omega
    · rw [eC] at hx; omega
    · rw [eC] at hx; omega
  · intro x hx; rw [eH] at hx; omega
  · intro x hx; rw [eC] at hx; omega
  · intro x y hx hy
    refine .inl ⟨e6 x y hx hy, ?_⟩
    rw [q10, (hf x hx).2.2.2]
