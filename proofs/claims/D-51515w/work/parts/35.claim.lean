/-! what is left over, as counts -/
theorem su_nv {f : Nat → Int32} : ∀ {n : Nat}, (∀ r, r < n → ∃ t, t ≤ 9 ∧ f r = nv t) → ∃ T, T ≤ 9 * n ∧ su f n = nv T := by
  intro n
  induction n with
  | zero => intro _; exact ⟨0, by omega, rfl⟩
  | succ n ih =>
    intro h
    obtain ⟨T, h1, h2⟩ := ih (fun r hr => h r (by omega))
    obtain ⟨t, h3, h4⟩ := h n (by omega)
    exact ⟨T + t, by omega, by rw [su, h2, h4, nv_add]⟩
theorem lf_nat {R : Nat → Int32} (hR : Ro R) {c : Nat} (hc : c < nC R) (ho : cs R c 4 = 0) : ∃ n0 n1 p, n0 ≤ 45 ∧ n1 ≤ 45 ∧ p ≤ n0 ∧ p ≤ n1 ∧ sz R (sd R c 0) = nv n0 ∧ sz R (sd R c 1) = nv n1 ∧ lf R c 0 = nv (n0 - p) ∧ lf R c 1 = nv (n1 - p) ∧ su (fun r => cs R c (8 + r)) 5 = nv p := by
  obtain ⟨hS, -, hP, hv1, -, hv3⟩ := hR
  obtain ⟨h1, h2⟩ := hv3 c hc ho
  have side : ∀ s, s < 2 → ∃ n p, n ≤ 45 ∧ p ≤ n ∧ sz R (sd R c s) = nv n ∧ lf R c s = nv (n - p) ∧ su (fun r => cs R c (8 + 5 * s + r)) 5 = nv p := by
    intro s hs
    have hh := sh_SH hS hc hs
    have h5 := sh_R5 hS hh
    obtain ⟨N, n1, n2⟩ := su_nv (f := fun r => st R (sd R c s) r) (n := nR R (sd R c s)) (fun r hr => hv1 _ r hh hr)
    obtain ⟨P, p1, p2⟩ := su_nv (f := fun r => cs R c (8 + 5 * s + r)) (n := nR R (sd R c s)) (fun r hr => by
      obtain ⟨p, t, q1, q2, q3, -⟩ := h1 s r hs hr
      exact ⟨p, by omega, q3⟩)
    obtain ⟨Q, q1, q2⟩ := su_nv (f := fun r => li R c s r) (n := nR R (sd R c s)) (fun r hr => by
      obtain ⟨p, t, q1, q2, q3, q4⟩ := h1 s r hs hr
      exact ⟨t - p, by omega, by rw [li, q4, q3, nv_sub q1]⟩)
    have e := lf_eq hS hP hc hs
    have e5 : su (fun r => cs R c (8 + 5 * s + r)) 5 = su (fun r => cs R c (8 + 5 * s + r)) (nR R (sd R c s)) := by
      have := su_z (fun r => cs R c (8 + 5 * s + r)) (n := nR R (sd R c s)) (5 - nR R (sd R c s)) (fun r h1 h2 => hP c s r hc hs (by omega) h1)
      rwa [show nR R (sd R c s) + (5 - nR R (sd R c s)) = 5 by omega] at this
    have n2' : sz R (sd R c s) = nv N := n2
    rw [e5, p2, q2, n2'] at e
    have e2 : nv N = nv (Q + P) := by rw [← nv_add, ← e, Int32.sub_add_cancel]
    have e3 : N = Q + P := by rwa [nv_eq (by omega) (by omega)] at e2
    refine ⟨N, P, by omega, by omega, n2', ?_, by rw [e5, p2]⟩
    rw [lf, if_pos ho, q2]
    congr 1
    omega
  obtain ⟨n0, p0, a1, a2, a3, a4, a5⟩ := side 0 (by omega)
  obtain ⟨n1, p1, b1, b2, b3, b4, b5⟩ := side 1 (by omega)
  have e : nv p0 = nv p1 := by
    rw [← a5, ← b5]
    exact h2
  have e : p0 = p1 := by rwa [nv_eq (by omega) (by omega)] at e
  subst e
  exact ⟨n0, n1, p0, a1, b1, a2, b2, a3, b3, a4, b4, a5⟩
theorem wd_nat {x y : Nat} (hx : x < 1000000) (hy : y < 1000000) : wd (nv x) (nv y) = if x ≤ y then (if y ≤ x then 2 else 1) else 0 := by
  unfold wd
  simp only [nv_le (show x < 2147483648 by omega) (show y < 2147483648 by omega), nv_le (show y < 2147483648 by omega) (show x < 2147483648 by omega)]
theorem wd_lf {R : Nat → Int32} (hR : Ro R) {c : Nat} (hc : c < nC R) (ho : cs R c 4 = 0) : wd (lf R c 0) (lf R c 1) = ws R (sd R c 0) (sd R c 1) := by
  obtain ⟨n0, n1, p, h1, h2, h3, h4, h5, h6, h7, h8, -⟩ := lf_nat hR hc ho
  unfold ws
  rw [h5, h6, h7, h8, wd_nat (by omega) (by omega), wd_nat (by omega) (by omega)]
  (repeat' split) <;> first | rfl | omega
