/-! THE LAW'S LOOP, whole -/
theorem and63 (x : Int32) : ∃ k, k < 64 ∧ x &&& 63 = nv k := by
  have e : (63 : Int32).toBitVec = (63 : BitVec 32) := by decide
  have e2 : (63 : BitVec 32).toNat = 2 ^ 6 - 1 := by decide
  refine ⟨x.toBitVec.toNat % 64, Nat.mod_lt _ (by omega), ?_⟩
  apply Int32.toBitVec_inj.mp
  apply BitVec.eq_of_toNat_eq
  rw [Int32.toBitVec_and, e, BitVec.toNat_and, e2, Nat.and_two_pow_sub_one_eq_mod]
  have e3 : (nv (x.toBitVec.toNat % 64)).toBitVec = BitVec.ofNat 32 (x.toBitVec.toNat % 64) := rfl
  rw [e3, BitVec.toNat_ofNat]
  omega
theorem law_loop {G : Nat → Nat} {scr len : Nat} {sc : Nat → Int32} (hl : len ≤ 120) : ∀ (f p : Nat) (a : Hp), Li G scr len sc a → p ≤ len + 5 → len + 5 - p < 5 * f → Wp (L_law_28 f (some scr) (some (G 0)) (some (G 10)) (some (G 20)) (some (G 21)) (nv p)) a (fun r c => r = 1 ∧ hSz c ≤ hSz a + 50000 * ((len - p) / 5) ∧ hSl c ≤ hSl a + 228000 * ((len - p) / 5)) := by
  intro f
  induction f with
  | zero => intro p a h1 h2 h3; omega
  | succ f ih =>
    intro p a hli hp hf
    by_cases c : len < p + 5
    · obtain ⟨-, hs, -⟩ := hli
      rw [L_law_28, w_bd, w_aN, hs.1, hs.2.1]
      refine ⟨rfl, ?_⟩
      rw [w_ite, if_pos (by rw [lt_5 (by omega) (by omega)]; exact c), rz2 _ (by decide)]
      exact ⟨rfl, by omega, by omega⟩
    · have go : ∀ d, Sm2 G scr len sc a d → Wp (L_law_28 f (some scr) (some (G 0)) (some (G 10)) (some (G 20)) (some (G 21)) (nv p + 5)) d (fun r c => r = 1 ∧ hSz c ≤ hSz a + 50000 * ((len - p) / 5) ∧ hSl c ≤ hSl a + 228000 * ((len - p) / 5)) := by
        intro d hd
        obtain ⟨d1, d2, d3, d4⟩ := hd
        rw [show nv p + 5 = nv (p + 5) from nv_add p 5]
        refine w_mono (ih (p + 5) d d1 (by omega) (by omega)) fun r b hb => ?_
        obtain ⟨h1, h2, h3⟩ := hb
        have e : (len - p) / 5 = (len - (p + 5)) / 5 + 1 := by omega
        exact ⟨h1, by omega, by omega⟩
      obtain ⟨k, hk, e⟩ := and63 (sc p)
      by_cases c50 : k < 50
      · exact trn_all hli (by omega) hl c50 e _ go
      · have hs := hli.2.1
        rw [L_law_28, w_bd, w_aN, hs.1, hs.2.1]
        refine ⟨rfl, ?_⟩
        have h49 : (nv k).toInt < 0 ∨ 49 < (nv k).toInt := by
          rw [nv_int (by omega)]
          omega
        rw [w_ite, if_neg (by rw [lt_5 (by omega) (by omega)]; omega), w_bd, rdA (j := 0) hs (by omega) (by omega) rfl, Nat.add_zero, e, w_ite, if_pos h49]
        exact go a ⟨hli, Nat.le_refl _, by omega, by omega⟩
