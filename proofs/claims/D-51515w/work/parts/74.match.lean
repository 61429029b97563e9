/-! A CLAIM IS MATCHED -/
def fr (R : Nat → Int32) (c s : Nat) : Nat := if li R c s 0 ≠ 0 then 0 else if li R c s 1 ≠ 0 then 1 else if li R c s 2 ≠ 0 then 2 else if li R c s 3 ≠ 0 then 3 else 4
theorem fr_eq {R : Nat → Int32} {c s r : Nat} (hr : r < 5) (h : li R c s r ≠ 0) (h0 : ∀ j, j < r → li R c s j = 0) : fr R c s = r := by
  unfold fr
  have : r = 0 ∨ r = 1 ∨ r = 2 ∨ r = 3 ∨ r = 4 := by omega
  rcases this with rfl | rfl | rfl | rfl | rfl
  · rw [if_pos h]
  · rw [if_neg (fun e => e (h0 0 (by omega))), if_pos h]
  · rw [if_neg (fun e => e (h0 0 (by omega))), if_neg (fun e => e (h0 1 (by omega))), if_pos h]
  · rw [if_neg (fun e => e (h0 0 (by omega))), if_neg (fun e => e (h0 1 (by omega))), if_neg (fun e => e (h0 2 (by omega))), if_pos h]
  · rw [if_neg (fun e => e (h0 0 (by omega))), if_neg (fun e => e (h0 1 (by omega))), if_neg (fun e => e (h0 2 (by omega))), if_neg (fun e => e (h0 3 (by omega)))]
theorem su_0s {f : Nat → Int32} : ∀ {n : Nat}, (∀ r, r < n → f r = 0) → su f n = 0 := by
  intro n
  induction n with
  | zero => intro _; rfl
  | succ n ih =>
    intro h
    rw [su, ih (fun r hr => h r (by omega)), h n (by omega)]
    rfl
theorem first_ne {f : Nat → Int32} : ∀ {n : Nat}, su f n ≠ 0 → ∃ r, r < n ∧ f r ≠ 0 ∧ ∀ j, j < r → f j = 0 := by
  intro n
  induction n with
  | zero => intro h; exact absurd rfl h
  | succ n ih =>
    intro h
    by_cases g : su f n = 0
    · by_cases e : ∀ j, j < n → f j = 0
      · refine ⟨n, by omega, fun z => h ?_, e⟩
        rw [su, g, z]
        rfl
      · have : ∃ r, r < n ∧ f r ≠ 0 ∧ ∀ j, j < r → f j = 0 := by
          clear ih g h
          induction n with
          | zero => exact absurd (fun j hj => by omega) e
          | succ n ih =>
            by_cases e2 : ∀ j, j < n → f j = 0
            · refine ⟨n, by omega, fun z => e fun j hj => ?_, e2⟩
              by_cases c : j = n
              · rw [c]; exact z
              · exact e2 j (by omega)
            · obtain ⟨r, h1, h2⟩ := ih e2
              exact ⟨r, by omega, h2⟩
        obtain ⟨r, h1, h2⟩ := this
        exact ⟨r, by omega, h2⟩
    · obtain ⟨r, h1, h2⟩ := ih g
      exact ⟨r, by omega, h2⟩
theorem fr_p {R : Nat → Int32} (hR : Ro R) {c s : Nat} (hc : c < nC R) (hs : s < 2) (h4 : cs R c 4 = 0) (h : lf R c s ≠ 0) : fr R c s < nR R (sd R c s) ∧ li R c s (fr R c s) ≠ 0 ∧ ∀ j, j < fr R c s → li R c s j = 0 := by
  have h5 := sh_R5 hR.1 (sh_SH hR.1 hc hs)
  rw [lf, if_pos h4] at h
  obtain ⟨r, h1, h2, h3⟩ := first_ne h
  rw [fr_eq (by omega) h2 h3]
  exact ⟨h1, h2, h3⟩
theorem X2_firstRow_w {B : Nat → Nat × Nat} {a : Hp} {L : Nat → Nat} {R : Nat → Int32} (hM : Mk B a L R) (hS : Sh R) {c s r : Nat} (hc : c < nC R) (hs : s < 2) (hr : r < nR R (sd R c s)) (h : li R c s r ≠ 0) (h0 : ∀ j, j < r → li R c s j = 0) (Q : Int32 → Hp → Prop) : Wp (X2_firstRow (L 0) (some (L (40 + c))) (nv s)) a Q ↔ Q (nv r) a := by
  have h5 := sh_R5 hS (sh_SH hS hc hs)
  have l : ∀ (f k : Nat), k ≤ r → r - k < f → (Wp (X2_firstRow_2 f (L 0) (some (L (40 + c))) (nv s) (nv k)) a Q ↔ Q (nv r) a) := by
    refine loopUp _ r ?_ ?_
    · intro f
      have h' : ¬ li R c s r = nv 0 := h
      simp (disch := omega) only [X2_firstRow_2, ↓w_bd, ↓w_rt, ↓w_bh, sm_l, sm_r, ↓w_okr, ↓w_nm, ↓w_ite, ↓reduceIte, not_true_eq_false, not_false_eq_true, and_true, true_and, and_self, Option.some.injEq, reduceCtorEq, eq_self, ↓w_rc, ↓w_gI, ↓w_gR, ↓w_aN, ↓w_aI, ↓w_aR, ↓w_aL, ↓w_pI, ↓w_pR, ↓w_sI, ↓w_sR, ↓w_sL, ↓w_nO, ↓w_nA, ↓w_nL, ↓w_ca, ↓w_ca0, ↓w_gS, ↓w_gK, ↓w_dv, ↓w_tw, ↓w_rz, ↓w_no, nv_lit, nv_f, nv_add, nv_mul, nv_sub, nv_le, nv_lt, nv_eq, nv_cl, Nat.reduceMod, Nat.reduceMul, Nat.reduceAdd, Nat.zero_add, Nat.add_zero, Nat.mul_zero, decide_eq_true_eq, nv_inT, mk_k hM, mk_n hM, mk_r hM, mk_i hM, X2_left_w hM hS, h']
    · intro f k hk ih
      have h' : li R c s k = nv 0 := h0 k hk
      have hk2 : k < nR R (sd R c s) := by omega
      simp (disch := omega) only [X2_firstRow_2, ↓w_bd, ↓w_rt, ↓w_bh, sm_l, sm_r, ↓w_okr, ↓w_nm, ↓w_ite, ↓reduceIte, not_true_eq_false, not_false_eq_true, and_true, true_and, and_self, Option.some.injEq, reduceCtorEq, eq_self, ↓w_rc, ↓w_gI, ↓w_gR, ↓w_aN, ↓w_aI, ↓w_aR, ↓w_aL, ↓w_pI, ↓w_pR, ↓w_sI, ↓w_sR, ↓w_sL, ↓w_nO, ↓w_nA, ↓w_nL, ↓w_ca, ↓w_ca0, ↓w_gS, ↓w_gK, ↓w_dv, ↓w_tw, ↓w_rz, ↓w_no, nv_lit, nv_f, nv_add, nv_mul, nv_sub, nv_le, nv_lt, nv_eq, nv_cl, Nat.reduceMod, Nat.reduceMul, Nat.reduceAdd, Nat.zero_add, Nat.add_zero, Nat.mul_zero, decide_eq_true_eq, nv_inT, mk_k hM, mk_n hM, mk_r hM, mk_i hM, X2_left_w hM hS, h']
      exact ih
  exact l FU 0 (by omega) (by unfold FU; omega)
theorem X5_lowestLeft_w {G : Nat → Nat} {a : Hp} {o : Nat} {R : Nat → Int32} (hF : FO G a o R) (hS : Sh R) {c s r : Nat} (hc : c < nC R) (hs : s < 2) (hr : r < nR R (sd R c s)) (h : li R c s r ≠ 0) (h0 : ∀ j, j < r → li R c s j = 0) (Q : Int32 → Hp → Prop) : Wp (X5_lowestLeft (G 10) (nv c) (nv s)) a Q ↔ Q (nv r) a := by
  have h5 := sh_R5 hS (sh_SH hS hc hs)
  have l : ∀ (f k : Nat), k ≤ r → r - k < f → (Wp (X5_lowestLeft_2 f (G 10) (nv c) (nv s) (nv k)) a Q ↔ Q (nv r) a) := by
    refine loopUp _ r ?_ ?_
    · intro f
      have h' : ¬ li R c s r = nv 0 := h
      simp (disch := omega) only [X5_lowestLeft_2, ↓w_bd, ↓w_rt, ↓w_bh, sm_l, sm_r, ↓w_okr, ↓w_nm, ↓w_ite, ↓reduceIte, not_true_eq_false, not_false_eq_true, and_true, true_and, and_self, Option.some.injEq, reduceCtorEq, eq_self, ↓w_rc, ↓w_gI, ↓w_gR, ↓w_aN, ↓w_aI, ↓w_aR, ↓w_aL, ↓w_pI, ↓w_pR, ↓w_sI, ↓w_sR, ↓w_sL, ↓w_nO, ↓w_nA, ↓w_nL, ↓w_ca, ↓w_ca0, ↓w_gS, ↓w_gK, ↓w_dv, ↓w_tw, ↓w_rz, ↓w_no, nv_lit, nv_f, nv_add, nv_mul, nv_sub, nv_le, nv_lt, nv_eq, nv_cl, Nat.reduceMod, Nat.reduceMul, Nat.reduceAdd, Nat.zero_add, Nat.add_zero, Nat.mul_zero, decide_eq_true_eq, nv_inT, hF.1, X5_leftIn_w hF hS, h']
    · intro f k hk ih
      have h' : li R c s k = nv 0 := h0 k hk
      simp (disch := omega) only [X5_lowestLeft_2, ↓w_bd, ↓w_rt, ↓w_bh, sm_l, sm_r, ↓w_okr, ↓w_nm, ↓w_ite, ↓reduceIte, not_true_eq_false, not_false_eq_true, and_true, true_and, and_self, Option.some.injEq, reduceCtorEq, eq_self, ↓w_rc, ↓w_gI, ↓w_gR, ↓w_aN, ↓w_aI, ↓w_aR, ↓w_aL, ↓w_pI, ↓w_pR, ↓w_sI, ↓w_sR, ↓w_sL, ↓w_nO, ↓w_nA, ↓w_nL, ↓w_ca, ↓w_ca0, ↓w_gS, ↓w_gK, ↓w_dv, ↓w_tw, ↓w_rz, ↓w_no, nv_lit, nv_f, nv_add, nv_mul, nv_sub, nv_le, nv_lt, nv_eq, nv_cl, Nat.reduceMod, Nat.reduceMul, Nat.reduceAdd, Nat.zero_add, Nat.add_zero, Nat.mul_zero, decide_eq_true_eq, nv_inT, hF.1, X5_leftIn_w hF hS, h']
      exact ih
  exact l FU 0 (by omega) (by unfold FU; omega)
def m1 (R : Nat → Int32) (c : Nat) : Nat → Int32 := pr R c (fr R c 0) (fr R c 1)
def mi (R : Nat → Int32) (c : Nat) : Nat → Nat → Int32
  | 0 => R
  | k + 1 => m1 (mi R c k) c
theorem pr_lf {R : Nat → Int32} (hR : Ro R) {c r q : Nat} (hc : c < nC R) (h4 : cs R c 4 = 0) (hr : r < nR R (sd R c 0)) (hq : q < nR R (sd R c 1)) : cs (pr R c r q) c 4 = 0 ∧ (∀ z, z < 5 → li (pr R c r q) c 0 z = if z = r then li R c 0 r - nv 1 else li R c 0 z) ∧ (∀ z, z < 5 → li (pr R c r q) c 1 z = if z = q then li R c 1 q - nv 1 else li R c 1 z) ∧ lf (pr R c r q) c 0 = lf R c 0 - nv 1 ∧ lf (pr R c r q) c 1 = lf R c 1 - nv 1 := by
  have hS := hR.1
  have h10 := sh_H10 hS
  have h20 := sh_C20 hS
  have sh0 := sh_SH hS hc (show 0 < 2 by omega)
  have sh1 := sh_SH hS hc (show 1 < 2 by omega)
  have r5 := sh_R5 hS sh0
  have q5 := sh_R5 hS sh1
  have ss := pr_ss hS hc (show r < 5 by omega) (show q < 5 by omega)
  have e4 : cs (pr R c r q) c 4 = cs R c 4 := pr_o R (by omega) (by omega) (by omega) (by omega)
  have eS0 := ss.S hc (show 0 < 2 by omega)
  have eS1 := ss.S hc (show 1 < 2 by omega)
  have est : ∀ x z, x < 10 → z < 5 → st (pr R c r q) x z = st R x z := fun x z hx hz => pr_o R (by omega) (by omega) (by omega) (by omega)
  have sa : ∀ x y z : Int32, x - (y + z) = x - y - z := fun x y z => by
    simp only [Int32.sub_eq_add_neg, Int32.neg_add]
    ac_rfl
  have l0 : ∀ z, z < 5 → li (pr R c r q) c 0 z = if z = r then li R c 0 r - nv 1 else li R c 0 z := by
    intro z hz
    unfold li
    rw [eS0, est _ z (by omega) hz]
    by_cases e : z = r
    · subst e
      rw [if_pos rfl]
      have e1 : cs (pr R c z q) c (8 + 5 * 0 + z) = cs R c (8 + 5 * 0 + z) + nv 1 := pr_0 R hz (by omega)
      rw [e1, sa]
    · rw [if_neg e]
      have e1 : cs (pr R c r q) c (8 + 5 * 0 + z) = cs R c (8 + 5 * 0 + z) := pr_o R (by omega) (by omega) (by omega) (by omega)
      rw [e1]
  have l1 : ∀ z, z < 5 → li (pr R c r q) c 1 z = if z = q then li R c 1 q - nv 1 else li R c 1 z := by
    intro z hz
    unfold li
    rw [eS1, est _ z (by omega) hz]
    by_cases e : z = q
    · subst e
      rw [if_pos rfl]
      have e1 : cs (pr R c r z) c (8 + 5 * 1 + z) = cs R c (8 + 5 * 1 + z) + nv 1 := pr_1 R (by omega) hz
      rw [e1, sa]
    · rw [if_neg e]
      have e1 : cs (pr R c r q) c (8 + 5 * 1 + z) = cs R c (8 + 5 * 1 + z) := pr_o R (by omega) (by omega) (by omega) (by omega)
      rw [e1]
  have lu : ∀ (f g : Nat → Int32) (n z : Nat), z < n → n ≤ 5 → (∀ j, j < 5 → g j = if j = z then f z - nv 1 else f j) → su g n = su f n - nv 1 := by
    intro f g n z hz hn hg
    have : su g n = su (up1 f z (f z - nv 1)) n := su_cg fun j hj => by
      rw [hg j (by omega)]
      by_cases e : j = z
      · rw [if_pos e, e, up1_s]
      · rw [if_neg e, up1_o _ _ _ e]
    rw [this, su_up _ hz]
    have e : su f n - f z + (f z - nv 1) = su f n + (-f z + f z) - nv 1 := by
      simp only [Int32.sub_eq_add_neg]
      ac_rfl
    rw [e, Int32.add_left_neg, Int32.add_zero]
  refine ⟨e4.trans h4, l0, l1, ?_, ?_⟩
  · unfold lf
    rw [e4, if_pos h4, if_pos h4, eS0, ss.R sh0]
    exact lu _ _ _ r hr r5 l0
  · unfold lf
    rw [e4, if_pos h4, if_pos h4, eS1, ss.R sh1]
    exact lu _ _ _ q hq q5 l1
theorem m1_ok {R : Nat → Int32} (hR : Ro R) {c : Nat} (hc : c < nC R) (h4 : cs R c 4 = 0) (he : ¬ en R c) : Ro (m1 R c) ∧ Ss R (m1 R c) ∧ cs (m1 R c) c 4 = 0 ∧ lf (m1 R c) c 0 = lf R c 0 - nv 1 ∧ lf (m1 R c) c 1 = lf R c 1 - nv 1 := by
  have hS := hR.1
  obtain ⟨a1, a2, -⟩ := fr_p hR hc (show 0 < 2 by omega) h4 (fun e => he (.inl e))
  obtain ⟨b1, b2, -⟩ := fr_p hR hc (show 1 < 2 by omega) h4 (fun e => he (.inr e))
  have r5 := sh_R5 hS (sh_SH hS hc (show 0 < 2 by omega))
  have q5 := sh_R5 hS (sh_SH hS hc (show 1 < 2 by omega))
  obtain ⟨k1, -, -, k2, k3⟩ := pr_lf hR hc h4 a1 b1
  exact ⟨pr_ro hR hc h4 a1 b1 a2 b2, pr_ss hS hc (by omega) (by omega), k1, k2, k3⟩
theorem mi_ok {R : Nat → Int32} (hR : Ro R) {c n0 n1 : Nat} (hc : c < nC R) (h4 : cs R c 4 = 0) (h0 : lf R c 0 = nv n0) (h1 : lf R c 1 = nv n1) (b0 : n0 ≤ 45) (b1 : n1 ≤ 45) : ∀ k, k ≤ min n0 n1 → Ro (mi R c k) ∧ Ss R (mi R c k) ∧ cs (mi R c k) c 4 = 0 ∧ lf (mi R c k) c 0 = nv (n0 - k) ∧ lf (mi R c k) c 1 = nv (n1 - k) := by
  intro k
  induction k with
  | zero => intro _; exact ⟨hR, ⟨rfl, rfl, rfl, fun _ _ => rfl, fun _ _ _ _ => rfl⟩, h4, h0, h1⟩
  | succ k ih =>
    intro hk
    obtain ⟨a1, a2, a3, a4, a5⟩ := ih (by omega)
    have hc2 : c < nC (mi R c k) := by rw [a2.C]; exact hc
    have he : ¬ en (mi R c k) c := by
      rintro (e | e)
      · rw [a4] at e
        have e : nv (n0 - k) = nv 0 := e
        rw [nv_eq (by omega) (by omega)] at e
        omega
      · rw [a5] at e
        have e : nv (n1 - k) = nv 0 := e
        rw [nv_eq (by omega) (by omega)] at e
        omega
    obtain ⟨k1, k2, k3, k4, k5⟩ := m1_ok a1 hc2 a3 he
    refine ⟨k1, a2.tr k2, k3, ?_, ?_⟩
    · show lf (m1 (mi R c k) c) c 0 = _
      rw [k4, a4, nv_sub (by omega)]
      rfl
    · show lf (m1 (mi R c k) c) c 1 = _
      rw [k5, a5, nv_sub (by omega)]
      rfl
theorem mi_en {R : Nat → Int32} {c n0 n1 k : Nat} (a4 : lf R c 0 = nv (n0 - k)) (a5 : lf R c 1 = nv (n1 - k)) (b0 : n0 ≤ 45) (b1 : n1 ≤ 45) (hk : k ≤ min n0 n1) : en R c ↔ k = min n0 n1 := by
  unfold en
  rw [a4, a5]
  have e0 : (nv (n0 - k) = 0) = (n0 - k = 0) := nv_eq (a := n0 - k) (b := 0) (by omega) (by omega)
  have e1 : (nv (n1 - k) = 0) = (n1 - k = 0) := nv_eq (a := n1 - k) (b := 0) (by omega) (by omega)
  rw [e0, e1]
  omega
theorem X2_matchOnce_w {G : Nat → Nat} {B : Nat → Nat × Nat} {a b : Hp} {L : Nat → Nat} {R : Nat → Int32} (h : Cn G B a b L R) (hR : Ro R) {c : Nat} (hc : c < nC R) (h4 : cs R c 4 = 0) (he : ¬ en R c) (Q : Int32 → Hp → Prop)
    (k : ∀ b', Cn G B a b' L (m1 R c) → hSz b' = hSz b → hSl b' = hSl b → Q (nv (10 * fr R c 0 + fr R c 1)) b') : Wp (X2_matchOnce (L 0) (some (L (40 + c)))) b Q := by
  have hS := hR.1
  obtain ⟨a1, a2, a3⟩ := fr_p hR hc (show 0 < 2 by omega) h4 (fun e => he (.inl e))
  obtain ⟨b1, b2, b3⟩ := fr_p hR hc (show 1 < 2 by omega) h4 (fun e => he (.inr e))
  have r5 := sh_R5 hS (sh_SH hS hc (show 0 < 2 by omega))
  have q5 := sh_R5 hS (sh_SH hS hc (show 1 < 2 by omega))
  have hM := h.1
  simp (disch := omega) only [X2_matchOnce, ↓w_bd, ↓w_rt, ↓w_bh, sm_l, sm_r, ↓w_okr, ↓w_nm, ↓w_ite, ↓reduceIte, not_true_eq_false, not_false_eq_true, and_true, true_and, and_self, Option.some.injEq, reduceCtorEq, eq_self, ↓w_rc, ↓w_gI, ↓w_gR, ↓w_aN, ↓w_aI, ↓w_aR, ↓w_aL, ↓w_pI, ↓w_pR, ↓w_sI, ↓w_sR, ↓w_sL, ↓w_nO, ↓w_nA, ↓w_nL, ↓w_ca, ↓w_ca0, ↓w_gS, ↓w_gK, ↓w_dv, ↓w_tw, ↓w_rz, ↓w_no, nv_lit, nv_f, nv_add, nv_mul, nv_sub, nv_le, nv_lt, nv_eq, nv_cl, Nat.reduceMod, Nat.reduceMul, Nat.reduceAdd, Nat.zero_add, Nat.add_zero, Nat.mul_zero, decide_eq_true_eq, nv_inT, mk_k hM, mk_n hM, mk_r hM, mk_i hM, X2_firstRow_w hM hS hc (show 0 < 2 by omega) a1 a2 a3, X2_firstRow_w hM hS hc (show 1 < 2 by omega) b1 b2 b3]
  refine X2_pairs_w h hS hc (by omega) (by omega) _ fun b' h1 h2 h3 => k b' h1 h2 h3
theorem X1_match_43_w {G : Nat → Nat} {B : Nat → Nat × Nat} {a b : Hp} {L : Nat → Nat} {R : Nat → Int32} (hX0 : FX G a L) (h : Cn G B a b L R) (hR : Ro R) {c n0 n1 : Nat} (hc : c < nC R) (h4 : cs R c 4 = 0) (h0 : lf R c 0 = nv n0) (h1 : lf R c 1 = nv n1) (b0 : n0 ≤ 45) (b1 : n1 ≤ 45) (Q : Ex ⊕ Int32 → Hp → Prop)
    (kk : ∀ b', Cn G B a b' L (mi R c (min n0 n1)) → hSz b' = hSz b → hSl b' = hSl b → Q (.inr (nv (min n0 n1))) b') : Wp (X1_match_43 FU (G 0) (some (L (40 + c))) (nv 0)) b Q := by
  have l : ∀ (f k : Nat), k ≤ min n0 n1 → min n0 n1 - k < f → ∀ d, Cn G B a d L (mi R c k) → hSz d = hSz b → hSl d = hSl b → Wp (X1_match_43 f (G 0) (some (L (40 + c))) (nv k)) d Q := by
    refine loopUp _ (min n0 n1) ?_ ?_
    · intro f d hd z l
      obtain ⟨a1, a2, a3, a4, a5⟩ := mi_ok hR hc h4 h0 h1 b0 b1 (min n0 n1) (Nat.le_refl _)
      have hc2 : c < nC (mi R c (min n0 n1)) := by rw [a2.C]; exact hc
      have he := (mi_en a4 a5 b0 b1 (Nat.le_refl _)).mpr rfl
      have hM := hd.1
      have hX := hd.2.2.2.1 hX0
      simp (disch := omega) only [X1_match_43, ↓w_bd, ↓w_rt, ↓w_bh, sm_l, sm_r, ↓w_okr, ↓w_nm, ↓w_ite, ↓reduceIte, not_true_eq_false, not_false_eq_true, and_true, true_and, and_self, Option.some.injEq, reduceCtorEq, eq_self, ↓w_rc, ↓w_gI, ↓w_gR, ↓w_aN, ↓w_aI, ↓w_aR, ↓w_aL, ↓w_pI, ↓w_pR, ↓w_sI, ↓w_sR, ↓w_sL, ↓w_nO, ↓w_nA, ↓w_nL, ↓w_ca, ↓w_ca0, ↓w_gS, ↓w_gK, ↓w_dv, ↓w_tw, ↓w_rz, ↓w_no, nv_lit, nv_f, nv_add, nv_mul, nv_sub, nv_le, nv_lt, nv_eq, nv_cl, Nat.reduceMod, Nat.reduceMul, Nat.reduceAdd, Nat.zero_add, Nat.add_zero, Nat.mul_zero, decide_eq_true_eq, nv_inT, mk_k hM, mk_n hM, mk_r hM, mk_i hM, hX, X2_isEnded_1 hM a1.1 a1.2.2.1 hc2 he, n10]
      exact kk d hd z l
    · intro f k hk ih d hd z l
      obtain ⟨a1, a2, a3, a4, a5⟩ := mi_ok hR hc h4 h0 h1 b0 b1 k (by omega)
      have hc2 : c < nC (mi R c k) := by rw [a2.C]; exact hc
      have he : ¬ en (mi R c k) c := fun e => by
        have := (mi_en a4 a5 b0 b1 (by omega)).mp e
        omega
      have hM := hd.1
      have hX := hd.2.2.2.1 hX0
      simp (disch := omega) only [X1_match_43, ↓w_bd, ↓w_rt, ↓w_bh, sm_l, sm_r, ↓w_okr, ↓w_nm, ↓w_ite, ↓reduceIte, not_true_eq_false, not_false_eq_true, and_true, true_and, and_self, Option.some.injEq, reduceCtorEq, eq_self, ↓w_rc, ↓w_gI, ↓w_gR, ↓w_aN, ↓w_aI, ↓w_aR, ↓w_aL, ↓w_pI, ↓w_pR, ↓w_sI, ↓w_sR, ↓w_sL, ↓w_nO, ↓w_nA, ↓w_nL, ↓w_ca, ↓w_ca0, ↓w_gS, ↓w_gK, ↓w_dv, ↓w_tw, ↓w_rz, ↓w_no, nv_lit, nv_f, nv_add, nv_mul, nv_sub, nv_le, nv_lt, nv_eq, nv_cl, Nat.reduceMod, Nat.reduceMul, Nat.reduceAdd, Nat.zero_add, Nat.add_zero, Nat.mul_zero, decide_eq_true_eq, nv_inT, mk_k hM, mk_n hM, mk_r hM, mk_i hM, hX, X2_isEnded_0 hM a1.1 a1.2.2.1 hc2 he]
      exact X2_matchOnce_w hd a1 hc2 a3 he _ fun b' g1 g2 g3 => ih b' g1 (g2.trans z) (g3.trans l)
  exact l FU 0 (by omega) (by unfold FU; omega) b h rfl rfl
theorem X5_match_55_w {G : Nat → Nat} {a d : Hp} {R R0 : Nat → Int32} (hG : GD G) (hF : FO G a 0 R0) (h : Tn G a d R) (hR : Ro R) {c n0 n1 : Nat} (hc : c < nC R) (h4 : cs R c 4 = 0) (h0 : lf R c 0 = nv n0) (h1 : lf R c 1 = nv n1) (b0 : n0 ≤ 45) (b1 : n1 ≤ 45) (Q : Int32 → Hp → Prop)
    (kk : ∀ d', Tn G a d' (mi R c (min n0 n1)) → Q (nv (min n0 n1)) d') : Wp (X5_match_55 FU (G 10) (nv c) (nv 0)) d Q := by
  have l : ∀ (f k : Nat), k ≤ min n0 n1 → min n0 n1 - k < f → ∀ d, Tn G a d (mi R c k) → Wp (X5_match_55 f (G 10) (nv c) (nv k)) d Q := by
    refine loopUp _ (min n0 n1) ?_ ?_
    · intro f d hd
      obtain ⟨a1, a2, a3, a4, a5⟩ := mi_ok hR hc h4 h0 h1 b0 b1 (min n0 n1) (Nat.le_refl _)
      have hc2 : c < nC (mi R c (min n0 n1)) := by rw [a2.C]; exact hc
      have he := (mi_en a4 a5 b0 b1 (Nat.le_refl _)).mpr rfl
      have f0 := hd.fo hF
      simp (disch := omega) only [X5_match_55, ↓w_bd, ↓w_rt, ↓w_bh, sm_l, sm_r, ↓w_okr, ↓w_nm, ↓w_ite, ↓reduceIte, not_true_eq_false, not_false_eq_true, and_true, true_and, and_self, Option.some.injEq, reduceCtorEq, eq_self, ↓w_rc, ↓w_gI, ↓w_gR, ↓w_aN, ↓w_aI, ↓w_aR, ↓w_aL, ↓w_pI, ↓w_pR, ↓w_sI, ↓w_sR, ↓w_sL, ↓w_nO, ↓w_nA, ↓w_nL, ↓w_ca, ↓w_ca0, ↓w_gS, ↓w_gK, ↓w_dv, ↓w_tw, ↓w_rz, ↓w_no, nv_lit, nv_f, nv_add, nv_mul, nv_sub, nv_le, nv_lt, nv_eq, nv_cl, Nat.reduceMod, Nat.reduceMul, Nat.reduceAdd, Nat.zero_add, Nat.add_zero, Nat.mul_zero, decide_eq_true_eq, nv_inT, f0.1, X5_isEnded_1 f0 a1.1 hc2 he, n10]
      exact kk d hd
    · intro f k hk ih d hd
      obtain ⟨a1, a2, a3, a4, a5⟩ := mi_ok hR hc h4 h0 h1 b0 b1 k (by omega)
      have hc2 : c < nC (mi R c k) := by rw [a2.C]; exact hc
      have hS := a1.1
      have h20 := sh_C20 hS
      have he : ¬ en (mi R c k) c := fun e => by
        have := (mi_en a4 a5 b0 b1 (by omega)).mp e
        omega
      obtain ⟨x1, x2, x3⟩ := fr_p a1 hc2 (show 0 < 2 by omega) a3 (fun e => he (.inl e))
      obtain ⟨y1, y2, y3⟩ := fr_p a1 hc2 (show 1 < 2 by omega) a3 (fun e => he (.inr e))
      have r5 := sh_R5 hS (sh_SH hS hc2 (show 0 < 2 by omega))
      have q5 := sh_R5 hS (sh_SH hS hc2 (show 1 < 2 by omega))
      have f0 := hd.fo hF
      simp (disch := omega) only [X5_match_55, ↓w_bd, ↓w_rt, ↓w_bh, sm_l, sm_r, ↓w_okr, ↓w_nm, ↓w_ite, ↓reduceIte, not_true_eq_false, not_false_eq_true, and_true, true_and, and_self, Option.some.injEq, reduceCtorEq, eq_self, ↓w_rc, ↓w_gI, ↓w_gR, ↓w_aN, ↓w_aI, ↓w_aR, ↓w_aL, ↓w_pI, ↓w_pR, ↓w_sI, ↓w_sR, ↓w_sL, ↓w_nO, ↓w_nA, ↓w_nL, ↓w_ca, ↓w_ca0, ↓w_gS, ↓w_gK, ↓w_dv, ↓w_tw, ↓w_rz, ↓w_no, nv_lit, nv_f, nv_add, nv_mul, nv_sub, nv_le, nv_lt, nv_eq, nv_cl, Nat.reduceMod, Nat.reduceMul, Nat.reduceAdd, Nat.zero_add, Nat.add_zero, Nat.mul_zero, decide_eq_true_eq, nv_inT, f0.1, X5_isEnded_0 f0 a1.1 hc2 he, X5_lowestLeft_w f0 hS hc2 (show 0 < 2 by omega) x1 x2 x3, X5_lowestLeft_w f0 hS hc2 (show 1 < 2 by omega) y1 y2 y3]
      exact X5_pairs_w hG hF hd (by omega) (by omega) (by omega) _ fun d' g => ih d' g
  exact l FU 0 (by omega) (by unfold FU; omega) d h
theorem act_match {G : Nat → Nat} {B : Nat → Nat × Nat} {S : Gst} {a : Hp} (hC : JC G B S a) (v : Int32) : Act κi G B S a (X1_match (G 0) v) (X5_match (G 10) v) := by
  obtain ⟨L, R, hM, hR, hX, h0⟩ := startC hC
  have hG := hC.1.gd
  have hJ := hC.2.1
  have hS := hR.1
  have hP := hR.2.2.1
  have h10 := sh_H10 hS
  have h20 := sh_C20 hS
  by_cases hv : inr v (nC R)
  · obtain ⟨c, rfl, hc⟩ := inr_k hv
    by_cases h4 : cs R c 4 = nv 0
    · by_cases he : en R c
      · simp (disch := omega) only [X1_match, ↓w_bd, ↓w_rt, ↓w_bh, sm_l, sm_r, ↓w_okr, ↓w_nm, ↓w_ite, ↓reduceIte, not_true_eq_false, not_false_eq_true, and_true, true_and, and_self, Option.some.injEq, reduceCtorEq, eq_self, ↓w_rc, ↓w_gI, ↓w_gR, ↓w_aN, ↓w_aI, ↓w_aR, ↓w_aL, ↓w_pI, ↓w_pR, ↓w_sI, ↓w_sR, ↓w_sL, ↓w_nO, ↓w_nA, ↓w_nL, ↓w_ca, ↓w_ca0, ↓w_gS, ↓w_gK, ↓w_dv, ↓w_tw, ↓w_rz, ↓w_no, nv_lit, nv_f, nv_add, nv_mul, nv_sub, nv_le, nv_lt, nv_eq, nv_cl, Nat.reduceMod, Nat.reduceMul, Nat.reduceAdd, Nat.zero_add, Nat.add_zero, Nat.mul_zero, decide_eq_true_eq, nv_inT, mk_k hM, mk_n hM, mk_r hM, mk_i hM, hX, hJ, X1_isBetween_w, X1_requireArgument_1 n10, X1_requireArgument_0, X1_requireIndex_1 n10, X1_requireIndex_0, Nat.reduceEqDiff, okn, X1_claimOf_1 hM hX, X8_isOpen_c1 hM hc h4, X2_isEnded_1 hM hS hP hc he, n10, X1_refuse_w hC]
        refine ap_ref hC (E0.rf a) (by omega) (by omega) (by omega) fun c' hc' Q hQ => ?_
        obtain ⟨hF, hF0⟩ := jt_f0 hG hc' h0
        have t5 := th_5 G c' (nv 0)
        simp (disch := omega) only [X5_match, ↓w_bd, ↓w_rt, ↓w_bh, sm_l, sm_r, ↓w_okr, ↓w_nm, ↓w_ite, ↓reduceIte, not_true_eq_false, not_false_eq_true, and_true, true_and, and_self, Option.some.injEq, reduceCtorEq, eq_self, ↓w_rc, ↓w_gI, ↓w_gR, ↓w_aN, ↓w_aI, ↓w_aR, ↓w_aL, ↓w_pI, ↓w_pR, ↓w_sI, ↓w_sR, ↓w_sL, ↓w_nO, ↓w_nA, ↓w_nL, ↓w_ca, ↓w_ca0, ↓w_gS, ↓w_gK, ↓w_dv, ↓w_tw, ↓w_rz, ↓w_no, nv_lit, nv_f, nv_add, nv_mul, nv_sub, nv_le, nv_lt, nv_eq, nv_cl, Nat.reduceMod, Nat.reduceMul, Nat.reduceAdd, Nat.zero_add, Nat.add_zero, Nat.mul_zero, decide_eq_true_eq, nv_inT, th_f, th_K, th_N, th_R, th_5, th_2, okn0, Nat.reduceEqDiff, hF.1, hF0.1, X5_in_w, X5_holds_1 hF0.1.1.1 t5 n10, X5_holds_0 hF0.1.1.1 t5, n10, X5_isClaim_1 hF0 hS hv, X5_isOpen_1 hF0 (show c < 20 by omega) h4, X5_isEnded_1 hF0 hS hc he]
        exact hQ _ (Sx.rf _ _)
      · obtain ⟨n0, n1, p, x1, x2, x3, x4, -, -, x5, x6, -⟩ := lf_nat hR hc h4
        have fin := mi_ok hR hc h4 x5 x6 (by omega) (by omega) (min (n0 - p) (n1 - p)) (Nat.le_refl _)
        simp (disch := omega) only [X1_match, ↓w_bd, ↓w_rt, ↓w_bh, sm_l, sm_r, ↓w_okr, ↓w_nm, ↓w_ite, ↓reduceIte, not_true_eq_false, not_false_eq_true, and_true, true_and, and_self, Option.some.injEq, reduceCtorEq, eq_self, ↓w_rc, ↓w_gI, ↓w_gR, ↓w_aN, ↓w_aI, ↓w_aR, ↓w_aL, ↓w_pI, ↓w_pR, ↓w_sI, ↓w_sR, ↓w_sL, ↓w_nO, ↓w_nA, ↓w_nL, ↓w_ca, ↓w_ca0, ↓w_gS, ↓w_gK, ↓w_dv, ↓w_tw, ↓w_rz, ↓w_no, nv_lit, nv_f, nv_add, nv_mul, nv_sub, nv_le, nv_lt, nv_eq, nv_cl, Nat.reduceMod, Nat.reduceMul, Nat.reduceAdd, Nat.zero_add, Nat.add_zero, Nat.mul_zero, decide_eq_true_eq, nv_inT, mk_k hM, mk_n hM, mk_r hM, mk_i hM, hX, hJ, X1_isBetween_w, X1_requireArgument_1 n10, X1_requireArgument_0, X1_requireIndex_1 n10, X1_requireIndex_0, Nat.reduceEqDiff, okn, X1_claimOf_1 hM hX, X8_isOpen_c1 hM hc h4, X2_isEnded_0 hM hS hP hc he, n10]
        refine keep_c hC (E0.rf a) h0 _ fun d B' L' q1 q2 q3 hMd hXd hCd z l => ?_
        refine X1_match_43_w hXd hCd hR hc h4 x5 x6 (by omega) (by omega) _ fun b hb hz hl => ?_
        refine ap_now hC h0 q2 q3 q1 hb (fun _ _ => rfl) fin.1 (by omega) (by omega) fun c' hc' Q hQ => ?_
        obtain ⟨hF, hF0⟩ := jt_f0 hG hc' h0
        have t5 := th_5 G c' (nv 0)
        simp (disch := omega) only [X5_match, ↓w_bd, ↓w_rt, ↓w_bh, sm_l, sm_r, ↓w_okr, ↓w_nm, ↓w_ite, ↓reduceIte, not_true_eq_false, not_false_eq_true, and_true, true_and, and_self, Option.some.injEq, reduceCtorEq, eq_self, ↓w_rc, ↓w_gI, ↓w_gR, ↓w_aN, ↓w_aI, ↓w_aR, ↓w_aL, ↓w_pI, ↓w_pR, ↓w_sI, ↓w_sR, ↓w_sL, ↓w_nO, ↓w_nA, ↓w_nL, ↓w_ca, ↓w_ca0, ↓w_gS, ↓w_gK, ↓w_dv, ↓w_tw, ↓w_rz, ↓w_no, nv_lit, nv_f, nv_add, nv_mul, nv_sub, nv_le, nv_lt, nv_eq, nv_cl, Nat.reduceMod, Nat.reduceMul, Nat.reduceAdd, Nat.zero_add, Nat.add_zero, Nat.mul_zero, decide_eq_true_eq, nv_inT, th_f, th_K, th_N, th_R, th_5, th_2, okn0, Nat.reduceEqDiff, hF.1, hF0.1, X5_in_w, X5_holds_1 hF0.1.1.1 t5 n10, X5_holds_0 hF0.1.1.1 t5, n10, X5_isClaim_1 hF0 hS hv, X5_isOpen_1 hF0 (show c < 20 by omega) h4, X5_isEnded_0 hF0 hS hc he]
        refine keeps_t hC hc' (Sx.rf _ _) h0 L' _ fun d2 k1 k3 k2 hF3 => ?_
        exact X5_match_55_w hG hF3 (Tn.rf hF3) hR hc h4 x5 x6 (by omega) (by omega) _ fun d3 ht => hQ _ _ k1 k3 k2 ht
    · simp (disch := omega) only [X1_match, ↓w_bd, ↓w_rt, ↓w_bh, sm_l, sm_r, ↓w_okr, ↓w_nm, ↓w_ite, ↓reduceIte, not_true_eq_false, not_false_eq_true, and_true, true_and, and_self, Option.some.injEq, reduceCtorEq, eq_self, ↓w_rc, ↓w_gI, ↓w_gR, ↓w_aN, ↓w_aI, ↓w_aR, ↓w_aL, ↓w_pI, ↓w_pR, ↓w_sI, ↓w_sR, ↓w_sL, ↓w_nO, ↓w_nA, ↓w_nL, ↓w_ca, ↓w_ca0, ↓w_gS, ↓w_gK, ↓w_dv, ↓w_tw, ↓w_rz, ↓w_no, nv_lit, nv_f, nv_add, nv_mul, nv_sub, nv_le, nv_lt, nv_eq, nv_cl, Nat.reduceMod, Nat.reduceMul, Nat.reduceAdd, Nat.zero_add, Nat.add_zero, Nat.mul_zero, decide_eq_true_eq, nv_inT, mk_k hM, mk_n hM, mk_r hM, mk_i hM, hX, hJ, X1_isBetween_w, X1_requireArgument_1 n10, X1_requireArgument_0, X1_requireIndex_1 n10, X1_requireIndex_0, Nat.reduceEqDiff, okn, X1_claimOf_1 hM hX, X8_isOpen_c0 hM hc h4, X1_refuse_w hC]
      refine ap_ref hC (E0.rf a) (by omega) (by omega) (by omega) fun c' hc' Q hQ => ?_
      obtain ⟨hF, hF0⟩ := jt_f0 hG hc' h0
      have t5 := th_5 G c' (nv 0)
      simp (disch := omega) only [X5_match, ↓w_bd, ↓w_rt, ↓w_bh, sm_l, sm_r, ↓w_okr, ↓w_nm, ↓w_ite, ↓reduceIte, not_true_eq_false, not_false_eq_true, and_true, true_and, and_self, Option.some.injEq, reduceCtorEq, eq_self, ↓w_rc, ↓w_gI, ↓w_gR, ↓w_aN, ↓w_aI, ↓w_aR, ↓w_aL, ↓w_pI, ↓w_pR, ↓w_sI, ↓w_sR, ↓w_sL, ↓w_nO, ↓w_nA, ↓w_nL, ↓w_ca, ↓w_ca0, ↓w_gS, ↓w_gK, ↓w_dv, ↓w_tw, ↓w_rz, ↓w_no, nv_lit, nv_f, nv_add, nv_mul, nv_sub, nv_le, nv_lt, nv_eq, nv_cl, Nat.reduceMod, Nat.reduceMul, Nat.reduceAdd, Nat.zero_add, Nat.add_zero, Nat.mul_zero, decide_eq_true_eq, nv_inT, th_f, th_K, th_N, th_R, th_5, th_2, okn0, Nat.reduceEqDiff, hF.1, hF0.1, X5_in_w, X5_holds_1 hF0.1.1.1 t5 n10, X5_holds_0 hF0.1.1.1 t5, n10, X5_isClaim_1 hF0 hS hv, X5_isOpen_0 hF0 (show c < 20 by omega) h4]
      exact hQ _ (Sx.rf _ _)
  · simp (disch := omega) only [X1_match, ↓w_bd, ↓w_rt, ↓w_bh, sm_l, sm_r, ↓w_okr, ↓w_nm, ↓w_ite, ↓reduceIte, not_true_eq_false, not_false_eq_true, and_true, true_and, and_self, Option.some.injEq, reduceCtorEq, eq_self, ↓w_rc, ↓w_gI, ↓w_gR, ↓w_aN, ↓w_aI, ↓w_aR, ↓w_aL, ↓w_pI, ↓w_pR, ↓w_sI, ↓w_sR, ↓w_sL, ↓w_nO, ↓w_nA, ↓w_nL, ↓w_ca, ↓w_ca0, ↓w_gS, ↓w_gK, ↓w_dv, ↓w_tw, ↓w_rz, ↓w_no, nv_lit, nv_f, nv_add, nv_mul, nv_sub, nv_le, nv_lt, nv_eq, nv_cl, Nat.reduceMod, Nat.reduceMul, Nat.reduceAdd, Nat.zero_add, Nat.add_zero, Nat.mul_zero, decide_eq_true_eq, nv_inT, mk_k hM, mk_n hM, mk_r hM, mk_i hM, hX, hJ, X1_isBetween_w, X1_requireArgument_1 n10, X1_requireArgument_0, X1_requireIndex_1 n10, X1_requireIndex_0, Nat.reduceEqDiff, okn, X1_claimOf_0 hM hX hv]
    refine ap_x hC (tw_e a) (by rw [tw_z]; omega) (by rw [tw_l]; omega) (k := 1) rfl (by omega) (by omega) fun c' hc' Q hQ => ?_
    obtain ⟨hF, hF0⟩ := jt_f0 hG hc' h0
    have t5 := th_5 G c' (nv 0)
    simp (disch := omega) only [X5_match, ↓w_bd, ↓w_rt, ↓w_bh, sm_l, sm_r, ↓w_okr, ↓w_nm, ↓w_ite, ↓reduceIte, not_true_eq_false, not_false_eq_true, and_true, true_and, and_self, Option.some.injEq, reduceCtorEq, eq_self, ↓w_rc, ↓w_gI, ↓w_gR, ↓w_aN, ↓w_aI, ↓w_aR, ↓w_aL, ↓w_pI, ↓w_pR, ↓w_sI, ↓w_sR, ↓w_sL, ↓w_nO, ↓w_nA, ↓w_nL, ↓w_ca, ↓w_ca0, ↓w_gS, ↓w_gK, ↓w_dv, ↓w_tw, ↓w_rz, ↓w_no, nv_lit, nv_f, nv_add, nv_mul, nv_sub, nv_le, nv_lt, nv_eq, nv_cl, Nat.reduceMod, Nat.reduceMul, Nat.reduceAdd, Nat.zero_add, Nat.add_zero, Nat.mul_zero, decide_eq_true_eq, nv_inT, th_f, th_K, th_N, th_R, th_5, th_2, okn0, Nat.reduceEqDiff, hF.1, hF0.1, X5_in_w, X5_holds_1 hF0.1.1.1 t5 n10, X5_holds_0 hF0.1.1.1 t5, X5_isClaim_0 hF0 hS hv]
    exact hQ _
theorem op_match {G : Nat → Nat} {B : Nat → Nat × Nat} {S : Gst} {a : Hp} (hC : JC G B S a) (hT : JT G S a) (v : Int32) : OpL G a (X0_match (some (G 0)) v (some (G 20))) (X5_match (G 10) v) :=
  Act.op (m := fun h => X1_match h v) hC hT (act_match hC v) fun _ _ h Q => hd_i h Q
