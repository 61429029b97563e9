/-! THE NEXT PAIR -/
theorem raF_0 {f : Nat → Int32} {v : Nat} (hv : v < 2147483648) : ∀ {i k j : Nat}, (∀ r, k ≤ r → r < k + i → f r = nv 0) → raF f (nv v) k (i + j) = raF f (nv v) (k + i) j := by
  intro i
  induction i with
  | zero => intro k j _; rw [Nat.zero_add, Nat.add_zero]
  | succ i ih =>
    intro k j h
    rw [show i + 1 + j = (i + j) + 1 by omega, raF, h k (by omega) (by omega), if_pos (by rw [nv_le (by omega) hv]; omega), nv_sub (by omega), Nat.sub_zero, ih (fun r h1 h2 => h r (by omega) (by omega)), show k + 1 + i = k + (i + 1) by omega]
theorem raF_cg {f g : Nat → Int32} : ∀ {j k : Nat} {v : Int32}, (∀ r, k ≤ r → r < k + j → f r = g r) → raF f v k j = raF g v k j := by
  intro j
  induction j with
  | zero => intro k v _; rfl
  | succ j ih =>
    intro k v h
    rw [raF, raF, h k (by omega) (by omega), ih (fun r h1 h2 => h r (by omega) (by omega))]
theorem raF_big {f : Nat → Int32} {m : Nat → Nat} : ∀ {j k v : Nat}, j ≤ 100 → v < 2147483648 → (∀ r, k ≤ r → r < k + j → f r = nv (m r) ∧ m r ≤ 9) → (∀ s, su (fun i => f (k + i)) j = nv s → s ≤ 9 * j → s ≤ v) → raF f (nv v) k j = -nv 1 := by
  intro j
  induction j with
  | zero => intro k v _ _ _ _; rfl
  | succ j ih =>
    intro k v hj hv h hs
    obtain ⟨e, b⟩ := h k (by omega) (by omega)
    obtain ⟨T, hT, eT⟩ := su_nv (f := fun i => f (k + 1 + i)) (n := j) (fun r hr => ⟨m (k + 1 + r), (h _ (by omega) (by omega)).2, (h _ (by omega) (by omega)).1⟩)
    have eS : su (fun i => f (k + i)) (j + 1) = nv (m k + T) := by
      rw [show j + 1 = 1 + j by omega, su_ap]
      have : su (fun i => f (k + i)) 1 = nv (m k) := by
        show (0 : Int32) + f (k + 0) = _
        rw [Nat.add_zero, e, Int32.zero_add]
      rw [this, su_cg (g := fun i => f (k + 1 + i)) (fun i _ => by rw [show k + (1 + i) = k + 1 + i by omega]), eT, nv_add]
    have := hs _ eS (by omega)
    rw [raF, e, if_pos (by rw [nv_le (by omega) hv]; omega), nv_sub (by omega)]
    exact ih (by omega) (by omega) (fun r h1 h2 => h r (by omega) (by omega)) (fun s e1 hs9 => by
      rw [eT, nv_eq (by omega) (by omega)] at e1
      omega)
theorem ra_sp (R : Nat → Int32) (c s : Nat) (v : Int32) : ra R c s v = raF (fun r => li R c s r) v 0 (nR R (sd R c s)) := rfl
/-- one pair taken -/
theorem raF_step {f g : Nat → Int32} {n r0 v : Nat} {m : Nat → Nat} (hv : v + 1 < 2147483648) (hn : ∀ r, r < n → f r = nv (m r) ∧ m r ≤ 9) (hr : r0 < n) (h0 : ∀ j, j < r0 → f j = nv 0) (hne : f r0 ≠ nv 0) (hg : ∀ r, r < n → g r = if r = r0 then f r0 - nv 1 else f r) : raF f (nv (v + 1)) 0 n = raF g (nv v) 0 n := by
  obtain ⟨e, b⟩ := hn r0 hr
  have hm : m r0 ≠ 0 := fun z => hne (by rw [e, z])
  have eg : g r0 = nv (m r0 - 1) := by rw [hg r0 hr, if_pos rfl, e, nv_sub (by omega)]
  obtain ⟨j, hj⟩ : ∃ j, n = r0 + (j + 1) := ⟨n - r0 - 1, by omega⟩
  have s1 := raF_0 (f := f) (v := v + 1) hv (i := r0) (k := 0) (j := j + 1) (fun r _ h2 => h0 r (by omega))
  have s2 := raF_0 (f := g) (v := v) (by omega) (i := r0) (k := 0) (j := j + 1) (fun r _ h2 => by rw [hg r (by omega), if_neg (by omega)]; exact h0 r (by omega))
  rw [hj, s1, s2, Nat.zero_add, raF, raF, e, eg]
  have c1 : (nv (m r0) ≤ nv (v + 1)) = (nv (m r0 - 1) ≤ nv v) := by
    rw [nv_le (by omega) hv, nv_le (by omega) (by omega)]
    apply propext
    omega
  by_cases c : nv (m r0 - 1) ≤ nv v
  · have c' : m r0 - 1 ≤ v := by rwa [nv_le (by omega) (by omega)] at c
    rw [if_pos c, if_pos (by rw [c1]; exact c), nv_sub (by omega), nv_sub (by omega), show v + 1 - m r0 = v - (m r0 - 1) by omega]
    exact raF_cg fun r h1 h2 => by rw [hg r (by omega), if_neg (by omega)]
  · rw [if_neg c, if_neg (by rw [c1]; exact c)]
theorem raF_first {f : Nat → Int32} {n r0 : Nat} {m : Nat → Nat} (hn : ∀ r, r < n → f r = nv (m r) ∧ m r ≤ 9) (hr : r0 < n) (h0 : ∀ j, j < r0 → f j = nv 0) (hne : f r0 ≠ nv 0) : raF f (nv 0) 0 n = nv r0 := by
  obtain ⟨e, b⟩ := hn r0 hr
  have hm : m r0 ≠ 0 := fun z => hne (by rw [e, z])
  obtain ⟨j, hj⟩ : ∃ j, n = r0 + (j + 1) := ⟨n - r0 - 1, by omega⟩
  have s1 := raF_0 (f := f) (v := 0) (by omega) (i := r0) (k := 0) (j := j + 1) (fun r _ h2 => h0 r (by omega))
  rw [hj, s1, Nat.zero_add, raF, e, if_neg (by rw [nv_le (by omega) (by omega)]; omega)]
theorem li_m {R : Nat → Int32} (hR : Ro R) {c s : Nat} (hc : c < nC R) (h4 : cs R c 4 = 0) (hs : s < 2) : ∃ m : Nat → Nat, ∀ r, r < nR R (sd R c s) → li R c s r = nv (m r) ∧ m r ≤ 9 := by
  refine ⟨fun r => ix (li R c s r), fun r hr => ?_⟩
  obtain ⟨p, t, h1, h2, h3, h5, h6⟩ := li_nv hR hc h4 hs hr
  have : ix (nv (t - p)) = t - p := nv_cl (by omega)
  show li R c s r = nv (ix (li R c s r)) ∧ ix (li R c s r) ≤ 9
  rw [h6, this]
  exact ⟨rfl, by omega⟩
theorem ra_mi {R : Nat → Int32} (hR : Ro R) {c n0 n1 : Nat} (hc : c < nC R) (h4 : cs R c 4 = 0) (h0 : lf R c 0 = nv n0) (h1 : lf R c 1 = nv n1) (b0 : n0 ≤ 45) (b1 : n1 ≤ 45) {s : Nat} (hs : s < 2) : ∀ (i k : Nat), i + k < min n0 n1 → ra (mi R c i) c s (nv k) = ra (mi R c (i + k)) c s (nv 0) := by
  intro i k
  induction k generalizing i with
  | zero => intro _; rfl
  | succ k ih =>
    intro hk
    have := ih (i + 1) (by omega)
    rw [show i + (k + 1) = i + 1 + k by omega, ← this]
    obtain ⟨a1, a2, a3, a4, a5⟩ := mi_ok hR hc h4 h0 h1 b0 b1 i (by omega)
    have hc2 : c < nC (mi R c i) := by rw [a2.C]; exact hc
    have he : ¬ en (mi R c i) c := fun e => by
      have := (mi_en a4 a5 b0 b1 (by omega)).mp e
      omega
    obtain ⟨x1, x2, x3⟩ := fr_p a1 hc2 (show 0 < 2 by omega) a3 (fun e => he (.inl e))
    obtain ⟨y1, y2, y3⟩ := fr_p a1 hc2 (show 1 < 2 by omega) a3 (fun e => he (.inr e))
    obtain ⟨-, l0, l1, -, -⟩ := pr_lf a1 hc2 a3 x1 y1
    have hS := a1.1
    have r5 := sh_R5 hS (sh_SH hS hc2 hs)
    have r50 := sh_R5 hS (sh_SH hS hc2 (show 0 < 2 by omega))
    have r51 := sh_R5 hS (sh_SH hS hc2 (show 1 < 2 by omega))
    have ss := pr_ss hS hc2 (show fr (mi R c i) c 0 < 5 by omega) (show fr (mi R c i) c 1 < 5 by omega)
    obtain ⟨m, hm⟩ := li_m a1 hc2 a3 hs
    show raF (fun r => li (mi R c i) c s r) (nv (k + 1)) 0 (nR (mi R c i) (sd (mi R c i) c s)) = raF (fun r => li (pr (mi R c i) c (fr (mi R c i) c 0) (fr (mi R c i) c 1)) c s r) (nv k) 0 (nR (pr (mi R c i) c (fr (mi R c i) c 0) (fr (mi R c i) c 1)) (sd (pr (mi R c i) c (fr (mi R c i) c 0) (fr (mi R c i) c 1)) c s))
    rw [ss.S hc2 hs, ss.R (sh_SH hS hc2 hs)]
    have hs2 : s = 0 ∨ s = 1 := by omega
    rcases hs2 with rfl | rfl
    · exact raF_step (by omega) hm x1 x3 x2 (fun r hr => l0 r (by omega))
    · exact raF_step (by omega) hm y1 y3 y2 (fun r hr => l1 r (by omega))
theorem ra_fr {R : Nat → Int32} (hR : Ro R) {c n0 n1 : Nat} (hc : c < nC R) (h4 : cs R c 4 = 0) (h0 : lf R c 0 = nv n0) (h1 : lf R c 1 = nv n1) (b0 : n0 ≤ 45) (b1 : n1 ≤ 45) {k : Nat} (hk : k < min n0 n1) : ra R c 0 (nv k) = nv (fr (mi R c k) c 0) ∧ ra R c 1 (nv k) = nv (fr (mi R c k) c 1) := by
  have e0 := ra_mi hR hc h4 h0 h1 b0 b1 (show 0 < 2 by omega) 0 k (by omega)
  have e1 := ra_mi hR hc h4 h0 h1 b0 b1 (show 1 < 2 by omega) 0 k (by omega)
  rw [Nat.zero_add] at e0 e1
  have e0' : ra R c 0 (nv k) = ra (mi R c k) c 0 (nv 0) := e0
  have e1' : ra R c 1 (nv k) = ra (mi R c k) c 1 (nv 0) := e1
  rw [e0', e1']
  obtain ⟨a1, a2, a3, a4, a5⟩ := mi_ok hR hc h4 h0 h1 b0 b1 k (by omega)
  have hc2 : c < nC (mi R c k) := by rw [a2.C]; exact hc
  have he : ¬ en (mi R c k) c := fun e => by
    have := (mi_en a4 a5 b0 b1 (by omega)).mp e
    omega
  obtain ⟨x1, x2, x3⟩ := fr_p a1 hc2 (show 0 < 2 by omega) a3 (fun e => he (.inl e))
  obtain ⟨y1, y2, y3⟩ := fr_p a1 hc2 (show 1 < 2 by omega) a3 (fun e => he (.inr e))
  obtain ⟨m, hm⟩ := li_m a1 hc2 a3 (show 0 < 2 by omega)
  obtain ⟨m', hm'⟩ := li_m a1 hc2 a3 (show 1 < 2 by omega)
  exact ⟨raF_first hm x1 x3 x2, raF_first hm' y1 y3 y2⟩
theorem ra_out {R : Nat → Int32} (hR : Ro R) {c s n0 : Nat} (hc : c < nC R) (h4 : cs R c 4 = 0) (hs : s < 2) (h0 : lf R c s = nv n0) (b0 : n0 ≤ 45) {k : Nat} (hk : k < 2147483648) (h : n0 ≤ k) : ra R c s (nv k) = -nv 1 := by
  obtain ⟨m, hm⟩ := li_m hR hc h4 hs
  have r5 := sh_R5 hR.1 (sh_SH hR.1 hc hs)
  refine raF_big (by omega) hk (fun r _ h2 => hm r (by omega)) fun t e ht => ?_
  rw [lf, if_pos h4] at h0
  have e' : su (fun r => li R c s r) (nR R (sd R c s)) = nv t := by
    rw [← e]
    exact su_cg fun i _ => by rw [Nat.zero_add]
  rw [h0, nv_eq (by omega) (by omega)] at e'
  omega
theorem X1_nextPair_60_w {G : Nat → Nat} {B : Nat → Nat × Nat} {a d0 : Hp} {L : Nat → Nat} {R : Nat → Int32} (h : Cn G B a d0 L R) (hR : Ro R) {c n0 n1 k : Nat} (hc : c < nC R) (h4 : cs R c 4 = 0) (h0 : lf R c 0 = nv n0) (h1 : lf R c 1 = nv n1) (b0 : n0 ≤ 45) (b1 : n1 ≤ 45) (hk : k < min n0 n1) (Q : Ex ⊕ Int32 → Hp → Prop)
    (kk : ∀ b', EP (fun q => q < hSz a ∧ (B q).1 = L 0 + 1 ∧ hK a q < 100 ∧ hK a q ≠ 10) a b' → hSz b' = hSz d0 → hSl b' = hSl d0 → Q (.inr (nv (10 * fr (mi R c k) c 0 + fr (mi R c k) c 1))) b') : Wp (X1_nextPair_60 FU (nv c) (nv k) (some (L 0)) (nv 0)) d0 Q := by
  have l : ∀ (f j : Nat), j ≤ k → k - j < f → ∀ d, Cn G B a d L (mi R c j) → hSz d = hSz d0 → hSl d = hSl d0 → Wp (X1_nextPair_60 f (nv c) (nv k) (some (L 0)) (nv j)) d Q := by
    refine loopUp _ k ?_ ?_
    · intro f d hd z l
      obtain ⟨a1, a2, a3, a4, a5⟩ := mi_ok hR hc h4 h0 h1 b0 b1 k (by omega)
      have hc2 : c < nC (mi R c k) := by rw [a2.C]; exact hc
      have h20 := sh_C20 a1.1
      have he : ¬ en (mi R c k) c := fun e => by
        have := (mi_en a4 a5 b0 b1 (by omega)).mp e
        omega
      have hM := hd.1
      simp (disch := omega) only [X1_nextPair_60, ↓w_bd, ↓w_rt, ↓w_bh, sm_l, sm_r, ↓w_okr, ↓w_nm, ↓w_ite, ↓reduceIte, not_true_eq_false, not_false_eq_true, and_true, true_and, and_self, Option.some.injEq, reduceCtorEq, eq_self, ↓w_rc, ↓w_gI, ↓w_gR, ↓w_aN, ↓w_aI, ↓w_aR, ↓w_aL, ↓w_pI, ↓w_pR, ↓w_sI, ↓w_sR, ↓w_sL, ↓w_nO, ↓w_nA, ↓w_nL, ↓w_ca, ↓w_ca0, ↓w_gS, ↓w_gK, ↓w_dv, ↓w_tw, ↓w_rz, ↓w_no, nv_lit, nv_f, nv_add, nv_mul, nv_sub, nv_le, nv_lt, nv_eq, nv_cl, Nat.reduceMod, Nat.reduceMul, Nat.reduceAdd, Nat.zero_add, Nat.add_zero, Nat.mul_zero, decide_eq_true_eq, nv_inT, mk_k hM, mk_n hM, mk_r hM, mk_i hM, Nat.le_refl, X3_at_c hM, ct_88, List.contains_cons, List.contains_nil, Nat.reduceBEq, Bool.or_true, Bool.true_or, Bool.or_false, BEq.rfl]
      exact X2_matchOnce_w hd a1 hc2 a3 he _ fun b' g1 g2 g3 => kk b' g1.2.1 (g2.trans z) (g3.trans l)
    · intro f j hj ih d hd z l
      obtain ⟨a1, a2, a3, a4, a5⟩ := mi_ok hR hc h4 h0 h1 b0 b1 j (by omega)
      have hc2 : c < nC (mi R c j) := by rw [a2.C]; exact hc
      have h20 := sh_C20 a1.1
      have he : ¬ en (mi R c j) c := fun e => by
        have := (mi_en a4 a5 b0 b1 (by omega)).mp e
        omega
      have hM := hd.1
      simp (disch := omega) only [X1_nextPair_60, ↓w_bd, ↓w_rt, ↓w_bh, sm_l, sm_r, ↓w_okr, ↓w_nm, ↓w_ite, ↓reduceIte, not_true_eq_false, not_false_eq_true, and_true, true_and, and_self, Option.some.injEq, reduceCtorEq, eq_self, ↓w_rc, ↓w_gI, ↓w_gR, ↓w_aN, ↓w_aI, ↓w_aR, ↓w_aL, ↓w_pI, ↓w_pR, ↓w_sI, ↓w_sR, ↓w_sL, ↓w_nO, ↓w_nA, ↓w_nL, ↓w_ca, ↓w_ca0, ↓w_gS, ↓w_gK, ↓w_dv, ↓w_tw, ↓w_rz, ↓w_no, nv_lit, nv_f, nv_add, nv_mul, nv_sub, nv_le, nv_lt, nv_eq, nv_cl, Nat.reduceMod, Nat.reduceMul, Nat.reduceAdd, Nat.zero_add, Nat.add_zero, Nat.mul_zero, decide_eq_true_eq, nv_inT, mk_k hM, mk_n hM, mk_r hM, mk_i hM, Nat.not_le.mpr hj, X3_at_c hM, ct_88, List.contains_cons, List.contains_nil, Nat.reduceBEq, Bool.or_true, Bool.true_or, Bool.or_false, BEq.rfl]
      exact X2_matchOnce_w hd a1 hc2 a3 he _ fun b' g1 g2 g3 => ih b' g1 (g2.trans z) (g3.trans l)
  exact l FU 0 (by omega) (by unfold FU; omega) d0 h rfl rfl
theorem Mk.b {B : Nat → Nat × Nat} {a : Hp} {L : Nat → Nat} {R : Nat → Int32} (hM : Mk B a L R) {B2 : Nat → Nat × Nat} (hb : ∀ r, lv R r → B2 (L r) = B (L r)) : Mk B2 a L R := by
  obtain ⟨h1, h2, h3, h4, h5, h6⟩ := hM
  exact ⟨h1, fun r hr => ⟨(h2 r hr).1, (hb r hr).trans (h2 r hr).2.1, (h2 r hr).2.2⟩, h3, h4, h5, h6⟩
theorem X5_nextPair_m {G : Nat → Nat} {a : Hp} {o : Nat} {R : Nat → Int32} (hF : FO G a o R) (hG : GD G) (hS : Sh R) {c : Nat} {v : Int32} (hc : c < nC R) (h : cs R c 4 = nv 0 → ¬ v < nv 0 → ra R c 0 v = -nv 1 ∨ ra R c 1 v = -nv 1) (Q : Int32 → Hp → Prop) : Wp (X5_nextPair (G 10) (nv c) v) a Q ↔ Q (-nv 1) (th G a (nv 0)) := by
  have hF0 := hF.th hG (nv 0)
  have t5 := th_5 G a (nv 0)
  have h20 := sh_C20 hS
  by_cases h4 : cs R c 4 = nv 0
  · by_cases hv : nv 0 ≤ v
    · have hv' : ¬ v < nv 0 := Int32.not_lt.mpr hv
      by_cases e0 : ra R c 0 v = -nv 1
      · simp (disch := omega) only [X5_nextPair, X5_nextPair_30, X5_nextPair_42, X5_nextPair_71, X5_nextPair_82, ↓w_bd, ↓w_rt, ↓w_bh, sm_l, sm_r, ↓w_okr, ↓w_nm, ↓w_ite, ↓reduceIte, not_true_eq_false, not_false_eq_true, and_true, true_and, and_self, Option.some.injEq, reduceCtorEq, eq_self, ↓w_rc, ↓w_gI, ↓w_gR, ↓w_aN, ↓w_aI, ↓w_aR, ↓w_aL, ↓w_pI, ↓w_pR, ↓w_sI, ↓w_sR, ↓w_sL, ↓w_nO, ↓w_nA, ↓w_nL, ↓w_ca, ↓w_ca0, ↓w_gS, ↓w_gK, ↓w_dv, ↓w_tw, ↓w_rz, ↓w_no, nv_lit, nv_f, nv_add, nv_mul, nv_sub, nv_le, nv_lt, nv_eq, nv_cl, Nat.reduceMod, Nat.reduceMul, Nat.reduceAdd, Nat.zero_add, Nat.add_zero, Nat.mul_zero, decide_eq_true_eq, nv_inT, th_f, th_K, th_N, th_R, th_5, th_2, okn0, Nat.reduceEqDiff, hF.1, hF0.1, X5_in_w, X5_holds_1 hF0.1.1.1 t5 n10, X5_holds_0 hF0.1.1.1 t5, n10, X5_isClaim_1 hF0 hS (inr_nv hc (by omega)), X5_isOpen_1 hF0 (show c < 20 by omega) h4, hv, X5_rowAt_w hF0 hS, e0]
      · have e1 := (h h4 hv').resolve_left e0
        simp (disch := omega) only [X5_nextPair, X5_nextPair_30, X5_nextPair_42, X5_nextPair_71, X5_nextPair_82, ↓w_bd, ↓w_rt, ↓w_bh, sm_l, sm_r, ↓w_okr, ↓w_nm, ↓w_ite, ↓reduceIte, not_true_eq_false, not_false_eq_true, and_true, true_and, and_self, Option.some.injEq, reduceCtorEq, eq_self, ↓w_rc, ↓w_gI, ↓w_gR, ↓w_aN, ↓w_aI, ↓w_aR, ↓w_aL, ↓w_pI, ↓w_pR, ↓w_sI, ↓w_sR, ↓w_sL, ↓w_nO, ↓w_nA, ↓w_nL, ↓w_ca, ↓w_ca0, ↓w_gS, ↓w_gK, ↓w_dv, ↓w_tw, ↓w_rz, ↓w_no, nv_lit, nv_f, nv_add, nv_mul, nv_sub, nv_le, nv_lt, nv_eq, nv_cl, Nat.reduceMod, Nat.reduceMul, Nat.reduceAdd, Nat.zero_add, Nat.add_zero, Nat.mul_zero, decide_eq_true_eq, nv_inT, th_f, th_K, th_N, th_R, th_5, th_2, okn0, Nat.reduceEqDiff, hF.1, hF0.1, X5_in_w, X5_holds_1 hF0.1.1.1 t5 n10, X5_holds_0 hF0.1.1.1 t5, n10, X5_isClaim_1 hF0 hS (inr_nv hc (by omega)), X5_isOpen_1 hF0 (show c < 20 by omega) h4, hv, X5_rowAt_w hF0 hS, e0, e1]
    · simp (disch := omega) only [X5_nextPair, X5_nextPair_30, X5_nextPair_42, X5_nextPair_71, X5_nextPair_82, ↓w_bd, ↓w_rt, ↓w_bh, sm_l, sm_r, ↓w_okr, ↓w_nm, ↓w_ite, ↓reduceIte, not_true_eq_false, not_false_eq_true, and_true, true_and, and_self, Option.some.injEq, reduceCtorEq, eq_self, ↓w_rc, ↓w_gI, ↓w_gR, ↓w_aN, ↓w_aI, ↓w_aR, ↓w_aL, ↓w_pI, ↓w_pR, ↓w_sI, ↓w_sR, ↓w_sL, ↓w_nO, ↓w_nA, ↓w_nL, ↓w_ca, ↓w_ca0, ↓w_gS, ↓w_gK, ↓w_dv, ↓w_tw, ↓w_rz, ↓w_no, nv_lit, nv_f, nv_add, nv_mul, nv_sub, nv_le, nv_lt, nv_eq, nv_cl, Nat.reduceMod, Nat.reduceMul, Nat.reduceAdd, Nat.zero_add, Nat.add_zero, Nat.mul_zero, decide_eq_true_eq, nv_inT, th_f, th_K, th_N, th_R, th_5, th_2, okn0, Nat.reduceEqDiff, hF.1, hF0.1, X5_in_w, X5_holds_1 hF0.1.1.1 t5 n10, X5_holds_0 hF0.1.1.1 t5, n10, X5_isClaim_1 hF0 hS (inr_nv hc (by omega)), X5_isOpen_1 hF0 (show c < 20 by omega) h4, hv]
  · simp (disch := omega) only [X5_nextPair, X5_nextPair_30, X5_nextPair_42, X5_nextPair_71, X5_nextPair_82, ↓w_bd, ↓w_rt, ↓w_bh, sm_l, sm_r, ↓w_okr, ↓w_nm, ↓w_ite, ↓reduceIte, not_true_eq_false, not_false_eq_true, and_true, true_and, and_self, Option.some.injEq, reduceCtorEq, eq_self, ↓w_rc, ↓w_gI, ↓w_gR, ↓w_aN, ↓w_aI, ↓w_aR, ↓w_aL, ↓w_pI, ↓w_pR, ↓w_sI, ↓w_sR, ↓w_sL, ↓w_nO, ↓w_nA, ↓w_nL, ↓w_ca, ↓w_ca0, ↓w_gS, ↓w_gK, ↓w_dv, ↓w_tw, ↓w_rz, ↓w_no, nv_lit, nv_f, nv_add, nv_mul, nv_sub, nv_le, nv_lt, nv_eq, nv_cl, Nat.reduceMod, Nat.reduceMul, Nat.reduceAdd, Nat.zero_add, Nat.add_zero, Nat.mul_zero, decide_eq_true_eq, nv_inT, th_f, th_K, th_N, th_R, th_5, th_2, okn0, Nat.reduceEqDiff, hF.1, hF0.1, X5_in_w, X5_holds_1 hF0.1.1.1 t5 n10, X5_holds_0 hF0.1.1.1 t5, n10, X5_isClaim_1 hF0 hS (inr_nv hc (by omega)), X5_isOpen_0 hF0 (show c < 20 by omega) h4]
theorem op_nextPair {G : Nat → Nat} {B : Nat → Nat × Nat} {S : Gst} {a : Hp} (hC : JC G B S a) (hT : JT G S a) (v w : Int32) : OpL G a (X0_nextPair (some (G 0)) v w (some (G 20))) (X5_nextPair (G 10) v w) := by
  obtain ⟨L, R, hM, hRo, hX, hF, h0⟩ := start hC hT
  have hG := hC.1.gd
  have hJ := hC.2.1
  have hS := hRo.1
  have hP := hRo.2.2.1
  have h20 := sh_C20 hS
  have hs : ∀ i, i < 22 → G i < hSz a := fun i hi => (hC.1 i hi).1
  by_cases h : inr v (nC R)
  · obtain ⟨c, rfl, hc⟩ := inr_k h
    by_cases h4 : cs R c 4 = nv 0
    · obtain ⟨m0, m1', p, x1, x2, x3, x4, -, -, x5, x6, -⟩ := lf_nat hRo hc h4
      by_cases hw : w < nv 0
      · simp (disch := omega) only [X0_nextPair, X1_nextPair, X1_nextPair_42, OpL, ↓w_bd, ↓w_rt, ↓w_bh, sm_l, sm_r, ↓w_okr, ↓w_nm, ↓w_ite, ↓reduceIte, not_true_eq_false, not_false_eq_true, and_true, true_and, and_self, Option.some.injEq, reduceCtorEq, eq_self, ↓w_rc, ↓w_gI, ↓w_gR, ↓w_aN, ↓w_aI, ↓w_aR, ↓w_aL, ↓w_pI, ↓w_pR, ↓w_sI, ↓w_sR, ↓w_sL, ↓w_nO, ↓w_nA, ↓w_nL, ↓w_ca, ↓w_ca0, ↓w_gS, ↓w_gK, ↓w_dv, ↓w_tw, ↓w_rz, ↓w_no, nv_lit, nv_f, nv_add, nv_mul, nv_sub, nv_le, nv_lt, nv_eq, nv_cl, Nat.reduceMod, Nat.reduceMul, Nat.reduceAdd, Nat.zero_add, Nat.add_zero, Nat.mul_zero, decide_eq_true_eq, nv_inT, mk_k hM, mk_n hM, mk_r hM, mk_i hM, hX, hJ, ol_f, X1_isBetween_w, X1_requireArgument_1 n10, X1_requireArgument_0, X1_requireIndex_1 n10, X1_requireIndex_0, Nat.reduceEqDiff, X1_claimOf_1 hM hX, X8_isOpen_c1 hM hc h4, n10, hw]
        rw [X5_nextPair_m (hF.ol _) hG hS hc (fun _ e => absurd hw e)]
        exact post_0 hC hT (E0.rf a) (by omega) (by omega) _
      · have hw0 : 0 ≤ w.toInt := by
          have := Int32.not_lt.mp hw
          rw [Int32.le_iff_toInt_le] at this
          exact this
        obtain ⟨k, ek, hk31⟩ : ∃ k, w = nv k ∧ k < 2147483648 := ⟨w.toInt.toNat, nv_of hw0, by have := Int32.toInt_lt w; omega⟩
        subst ek
        have emn : mn (nv (m0 - p)) (nv (m1' - p)) = nv (min (m0 - p) (m1' - p)) := by
          unfold mn
          simp (disch := omega) only [nv_lt]
          split <;> congr 1 <;> omega
        by_cases hk : k < min (m0 - p) (m1' - p)
        · obtain ⟨r0, r1⟩ := ra_fr hRo hc h4 x5 x6 (by omega) (by omega) hk
          have hk' : nv k < nv (min (m0 - p) (m1' - p)) := by rw [nv_lt (by omega) (by omega)]; exact hk
          simp (disch := omega) only [X0_nextPair, X1_nextPair, X1_nextPair_42, OpL, ↓w_bd, ↓w_rt, ↓w_bh, sm_l, sm_r, ↓w_okr, ↓w_nm, ↓w_ite, ↓reduceIte, not_true_eq_false, not_false_eq_true, and_true, true_and, and_self, Option.some.injEq, reduceCtorEq, eq_self, ↓w_rc, ↓w_gI, ↓w_gR, ↓w_aN, ↓w_aI, ↓w_aR, ↓w_aL, ↓w_pI, ↓w_pR, ↓w_sI, ↓w_sR, ↓w_sL, ↓w_nA, ↓w_nL, ↓w_ca, ↓w_ca0, ↓w_gS, ↓w_gK, ↓w_dv, ↓w_tw, ↓w_rz, ↓w_no, nv_lit, nv_f, nv_add, nv_mul, nv_sub, nv_le, nv_lt, nv_eq, nv_cl, Nat.reduceMod, Nat.reduceMul, Nat.reduceAdd, Nat.zero_add, Nat.add_zero, Nat.mul_zero, decide_eq_true_eq, nv_inT, mk_k hM, mk_n hM, mk_r hM, mk_i hM, hX, hJ, ol_f, Nat.reduceEqDiff, X1_claimOf_1 hM hX, X8_isOpen_c1 hM hc h4, n10, Nat.not_lt_zero, X2_left_2_w hM hS hP, x5, x6, J12_min_w, emn, hk]
          refine w_nO' fun c1 e1 z1 l1 k1 i1 r1' => ?_
          have o0 := e1.2.2 (G 0) (hs 0 (by omega))
          have k0 : hK c1 (G 0) = 1 := by rw [o0.1]; exact hJ.1.1
          have r4 : hR c1 (G 0) 4 = some (L 0) := by rw [o0.2.2.1]; exact hX.2.1
          simp (disch := omega) only [↓w_bd, ↓w_rt, ↓w_bh, sm_l, sm_r, ↓w_okr, ↓w_nm, ↓w_ite, ↓reduceIte, not_true_eq_false, not_false_eq_true, and_true, true_and, and_self, Option.some.injEq, reduceCtorEq, eq_self, ↓w_rc, ↓w_gI, ↓w_gR, ↓w_aN, ↓w_aI, ↓w_aR, ↓w_ca, ↓w_ca0, nv_lit, nv_f, nv_add, nv_mul, nv_sub, nv_le, nv_lt, nv_eq, nv_cl, Nat.reduceMod, Nat.reduceMul, Nat.reduceAdd, Nat.zero_add, Nat.add_zero, Nat.mul_zero, decide_eq_true_eq, nv_inT, k0, r4]
          refine X2_copy_w hM rfl z1 e1 k1 _ fun d B' Ln ec hB hNm en' lve zc lc => ?_
          have hMb : Mk (fun q => if q < hSz a then (0, 99) else B' q) d Ln R := hNm.b (fun r hr => if_neg (by have := lve r hr; omega))
          have cn : Cn G (fun q => if q < hSz a then (0, 99) else B' q) a d Ln R := ⟨hMb, ec.ep _, fun q hq => (ec.2.2 q hq).1, fun hx0 => hx0.ext ec, by
            show (if G 0 < hSz a then ((0, 99) : Nat × Nat) else B' (G 0)).1 = 0
            rw [if_pos (hs 0 (by omega))]⟩
          rw [← en']
          refine X1_nextPair_60_w cn hRo hc h4 x5 x6 (by omega) (by omega) hk _ fun b ep zb lb => ?_
          have epF : EP (fun _ => False) a b := ⟨ep.1, ep.2.1, fun q hq _ => ep.2.2 q hq (fun hp => by
            have := hp.2.1
            simp only [hq, if_true] at this
            omega)⟩
          have jb : JC G B S b := hC.ep epF (fun _ _ => id) (fun _ hq => hq.elim)
          have jt : JT G S b := hT.ep epF hs (fun _ hq => hq.elim)
          have kp : Kp a b := epF.kp (fun _ hq => hq.elim)
          have hFb : FO G b 0 R := jt.fo (p := (L, R)) h0
          have hF0 := (hFb.ol (nv (10 * fr (mi R c k) c 0 + fr (mi R c k) c 1))).th hG (nv 0)
          have t5 := th_5 G (ol G b (nv (10 * fr (mi R c k) c 0 + fr (mi R c k) c 1))) (nv 0)
          have jJ := jb.2.1
          obtain ⟨f1, f2, f3, f4, f5⟩ := mi_ok hRo hc h4 x5 x6 (by omega) (by omega) k (by omega)
          have b5 : fr (mi R c k) c 0 < 5 ∧ fr (mi R c k) c 1 < 5 := by
            unfold fr
            constructor <;> (repeat' split) <;> omega
          have ne0 : ¬ nv (fr (mi R c k) c 0) = -nv 1 := by
            have hf : ∀ x : Fin 5, ¬ nv x.val = -nv 1 := by decide
            exact hf ⟨_, b5.1⟩
          have ne1 : ¬ nv (fr (mi R c k) c 1) = -nv 1 := by
            have hf : ∀ x : Fin 5, ¬ nv x.val = -nv 1 := by decide
            exact hf ⟨_, b5.2⟩
          have le0 : nv 0 ≤ nv k := by rw [nv_le (by omega) (by omega)]; omega
          simp (disch := omega) only [↓w_bd, ↓w_rt, ↓w_bh, sm_l, sm_r, ↓w_okr, ↓w_nm, ↓w_ite, ↓reduceIte, not_true_eq_false, not_false_eq_true, and_true, true_and, and_self, Option.some.injEq, reduceCtorEq, eq_self, ↓w_rc, ↓w_gI, ↓w_gR, ↓w_aN, ↓w_aI, ↓w_aR, ↓w_aL, ↓w_pI, ↓w_pR, ↓w_sI, ↓w_sR, ↓w_sL, ↓w_nO, ↓w_nA, ↓w_nL, ↓w_ca, ↓w_ca0, ↓w_gS, ↓w_gK, ↓w_dv, ↓w_tw, ↓w_rz, ↓w_no, nv_lit, nv_f, nv_add, nv_mul, nv_sub, nv_le, nv_lt, nv_eq, nv_cl, Nat.reduceMod, Nat.reduceMul, Nat.reduceAdd, Nat.zero_add, Nat.add_zero, Nat.mul_zero, decide_eq_true_eq, nv_inT, jJ, ol_f]
          simp (disch := omega) only [X5_nextPair, X5_nextPair_82, ↓w_bd, ↓w_rt, ↓w_bh, sm_l, sm_r, ↓w_okr, ↓w_nm, ↓w_ite, ↓reduceIte, not_true_eq_false, not_false_eq_true, and_true, true_and, and_self, Option.some.injEq, reduceCtorEq, eq_self, ↓w_rc, ↓w_gI, ↓w_gR, ↓w_aN, ↓w_aI, ↓w_aR, ↓w_aL, ↓w_pI, ↓w_pR, ↓w_sI, ↓w_sR, ↓w_sL, ↓w_nO, ↓w_nA, ↓w_nL, ↓w_ca, ↓w_ca0, ↓w_gS, ↓w_gK, ↓w_dv, ↓w_tw, ↓w_rz, ↓w_no, nv_lit, nv_f, nv_add, nv_mul, nv_sub, nv_le, nv_lt, nv_eq, nv_cl, Nat.reduceMod, Nat.reduceMul, Nat.reduceAdd, Nat.zero_add, Nat.add_zero, Nat.mul_zero, decide_eq_true_eq, nv_inT, th_f, th_K, th_N, th_R, th_5, th_2, okn0, Nat.reduceEqDiff, hF.1, hF0.1, X5_in_w, X5_holds_1 hF0.1.1.1 t5 n10, X5_holds_0 hF0.1.1.1 t5, (hFb.ol (nv (10 * fr (mi R c k) c 0 + fr (mi R c k) c 1))).1, n10, X5_isClaim_1 hF0 hS (inr_nv hc (by omega)), X5_isOpen_1 hF0 (show c < 20 by omega) h4, Nat.zero_le, X5_rowAt_w hF0 hS, r0, r1, ne0, ne1]
          exact postG jb jt ep.1 kp (by omega) (by omega) (Sx.rf _ _).sy
        · have hk' : ¬ nv k < nv (min (m0 - p) (m1' - p)) := by rw [nv_lt (by omega) (by omega)]; exact hk
          simp (disch := omega) only [X0_nextPair, X1_nextPair, X1_nextPair_42, OpL, ↓w_bd, ↓w_rt, ↓w_bh, sm_l, sm_r, ↓w_okr, ↓w_nm, ↓w_ite, ↓reduceIte, not_true_eq_false, not_false_eq_true, and_true, true_and, and_self, Option.some.injEq, reduceCtorEq, eq_self, ↓w_rc, ↓w_gI, ↓w_gR, ↓w_aN, ↓w_aI, ↓w_aR, ↓w_aL, ↓w_pI, ↓w_pR, ↓w_sI, ↓w_sR, ↓w_sL, ↓w_nO, ↓w_nA, ↓w_nL, ↓w_ca, ↓w_ca0, ↓w_gS, ↓w_gK, ↓w_dv, ↓w_tw, ↓w_rz, ↓w_no, nv_lit, nv_f, nv_add, nv_mul, nv_sub, nv_le, nv_lt, nv_eq, nv_cl, Nat.reduceMod, Nat.reduceMul, Nat.reduceAdd, Nat.zero_add, Nat.add_zero, Nat.mul_zero, decide_eq_true_eq, nv_inT, mk_k hM, mk_n hM, mk_r hM, mk_i hM, hX, hJ, ol_f, X1_isBetween_w, X1_requireArgument_1 n10, X1_requireArgument_0, X1_requireIndex_1 n10, X1_requireIndex_0, Nat.reduceEqDiff, X1_claimOf_1 hM hX, X8_isOpen_c1 hM hc h4, n10, Nat.not_lt_zero, X2_left_2_w hM hS hP, x5, x6, J12_min_w, emn, hk]
          rw [X5_nextPair_m (hF.ol _) hG hS hc (fun _ _ => ?_)]
          · exact post_0 hC hT (E0.rf a) (by omega) (by omega) _
          · rcases Nat.le_total (m0 - p) (m1' - p) with q | q
            · exact .inl (ra_out hRo hc h4 (by omega) x5 (by omega) hk31 (by omega))
            · exact .inr (ra_out hRo hc h4 (by omega) x6 (by omega) hk31 (by omega))
    · simp (disch := omega) only [X0_nextPair, X1_nextPair, X1_nextPair_42, OpL, ↓w_bd, ↓w_rt, ↓w_bh, sm_l, sm_r, ↓w_okr, ↓w_nm, ↓w_ite, ↓reduceIte, not_true_eq_false, not_false_eq_true, and_true, true_and, and_self, Option.some.injEq, reduceCtorEq, eq_self, ↓w_rc, ↓w_gI, ↓w_gR, ↓w_aN, ↓w_aI, ↓w_aR, ↓w_aL, ↓w_pI, ↓w_pR, ↓w_sI, ↓w_sR, ↓w_sL, ↓w_nO, ↓w_nA, ↓w_nL, ↓w_ca, ↓w_ca0, ↓w_gS, ↓w_gK, ↓w_dv, ↓w_tw, ↓w_rz, ↓w_no, nv_lit, nv_f, nv_add, nv_mul, nv_sub, nv_le, nv_lt, nv_eq, nv_cl, Nat.reduceMod, Nat.reduceMul, Nat.reduceAdd, Nat.zero_add, Nat.add_zero, Nat.mul_zero, decide_eq_true_eq, nv_inT, mk_k hM, mk_n hM, mk_r hM, mk_i hM, hX, hJ, ol_f, X1_isBetween_w, X1_requireArgument_1 n10, X1_requireArgument_0, X1_requireIndex_1 n10, X1_requireIndex_0, Nat.reduceEqDiff, X1_claimOf_1 hM hX, X8_isOpen_c0 hM hc h4]
      rw [X5_nextPair_m (hF.ol _) hG hS hc (fun e _ => absurd e h4)]
      exact post_0 hC hT (E0.rf a) (by omega) (by omega) _
  · have hTb := hT.e0 (tw_e a) hs
    have t5 := th_5 G (tw_ a) (nv 0)
    have hF1 : FO G (tw_ a) 0 R := hTb.fo (p := (L, R)) h0
    have hF0 := hF1.th hG (nv 0)
    simp (disch := omega) only [X0_nextPair, X1_nextPair, X1_nextPair_42, OpL, ↓w_bd, ↓w_rt, ↓w_bh, sm_l, sm_r, ↓w_okr, ↓w_nm, ↓w_ite, ↓reduceIte, not_true_eq_false, not_false_eq_true, and_true, true_and, and_self, Option.some.injEq, reduceCtorEq, eq_self, ↓w_rc, ↓w_gI, ↓w_gR, ↓w_aN, ↓w_aI, ↓w_aR, ↓w_aL, ↓w_pI, ↓w_pR, ↓w_sI, ↓w_sR, ↓w_sL, ↓w_nO, ↓w_nA, ↓w_nL, ↓w_ca, ↓w_ca0, ↓w_gS, ↓w_gK, ↓w_dv, ↓w_tw, ↓w_rz, ↓w_no, nv_lit, nv_f, nv_add, nv_mul, nv_sub, nv_le, nv_lt, nv_eq, nv_cl, Nat.reduceMod, Nat.reduceMul, Nat.reduceAdd, Nat.zero_add, Nat.add_zero, Nat.mul_zero, decide_eq_true_eq, nv_inT, mk_k hM, mk_n hM, mk_r hM, mk_i hM, hX, hJ, ol_f, X1_isBetween_w, X1_requireArgument_1 n10, X1_requireArgument_0, X1_requireIndex_1 n10, X1_requireIndex_0, Nat.reduceEqDiff, X1_claimOf_0 hM hX h]
    simp (disch := omega) only [X5_nextPair, X5_nextPair_30, X5_nextPair_42, ↓w_bd, ↓w_rt, ↓w_bh, sm_l, sm_r, ↓w_okr, ↓w_nm, ↓w_ite, ↓reduceIte, not_true_eq_false, not_false_eq_true, and_true, true_and, and_self, Option.some.injEq, reduceCtorEq, eq_self, ↓w_rc, ↓w_gI, ↓w_gR, ↓w_aN, ↓w_aI, ↓w_aR, ↓w_aL, ↓w_pI, ↓w_pR, ↓w_sI, ↓w_sR, ↓w_sL, ↓w_nO, ↓w_nA, ↓w_nL, ↓w_ca, ↓w_ca0, ↓w_gS, ↓w_gK, ↓w_dv, ↓w_tw, ↓w_rz, ↓w_no, nv_lit, nv_f, nv_add, nv_mul, nv_sub, nv_le, nv_lt, nv_eq, nv_cl, Nat.reduceMod, Nat.reduceMul, Nat.reduceAdd, Nat.zero_add, Nat.add_zero, Nat.mul_zero, decide_eq_true_eq, nv_inT, th_f, th_K, th_N, th_R, th_5, th_2, okn0, Nat.reduceEqDiff, hF.1, hF0.1, X5_in_w, X5_holds_1 hF0.1.1.1 t5 n10, X5_holds_0 hF0.1.1.1 t5, hF1.1, X5_isClaim_0 hF0 hS h]
    exact post_x hC hT (tw_e a) (by rw [tw_z]; omega) (by rw [tw_l]; omega) (by omega) (by omega) _
