/-! THE SHORTEST WAYS, as the component finds them -/
def El (R : Nat → Int32) (w : Int32) (x y : Nat) : Prop := fc R x y ≠ -nv 1 ∧ (fc R x y = nv 2 ∨ fc R x y = w)
theorem ld_1 {R : Nat → Int32} {x y : Nat} {w : Int32} (h : El R w x y) : ld R x y w = nv 1 := by
  unfold ld
  rw [if_neg (show ¬ fc R x y = -1 from h.1)]
  by_cases c : fc R x y = 2
  · rw [if_pos c]; rfl
  · rw [if_neg c, if_pos (h.2.resolve_left c)]; rfl
theorem ld_0 {R : Nat → Int32} {x y : Nat} {w : Int32} (h : ¬ El R w x y) : ld R x y w = nv 0 := by
  unfold ld
  by_cases c0 : fc R x y = -1
  · rw [if_pos c0]; rfl
  · rw [if_neg c0]
    by_cases c : fc R x y = 2
    · exact absurd ⟨c0, .inl c⟩ h
    · rw [if_neg c]
      by_cases d : fc R x y = w
      · exact absurd ⟨c0, .inr d⟩ h
      · rw [if_neg d]; rfl
noncomputable def dw (R : Nat → Int32) (w : Int32) (t x : Nat) : Nat := match dd (El R w) (nH R) x t with
  | none => 11
  | some k => k
/-- where the levels end -/
theorem dw_eq {R : Nat → Int32} (h10 : nH R ≤ 10) {w : Int32} {t x : Nat} (hx : x < nH R) {A : Nat} (h1 : A < 11 → pth (El R w) (nH R) A x t) (h2 : A ≤ 11) (h3 : ∀ k, k ≤ nH R → pth (El R w) (nH R) k x t → A ≤ k) : A = dw R w t x := by
  unfold dw
  cases q : dd (El R w) (nH R) x t with
  | none =>
    show A = 11
    by_cases c : A < 11
    · exact absurd (h1 c) (dd_none.mp q A)
    · omega
  | some k =>
    show A = k
    have hk := dd_lt hx q
    have hd := dd_some.mp q
    have a1 := h3 k (by omega) hd.1
    rcases Nat.lt_or_ge A k with g | g
    · exact absurd (h1 (by omega)) (hd.2 A g)
    · omega
theorem mn_nv {x y : Nat} (hx : x < 2147483648) (hy : y < 2147483648) : mn (nv x) (nv y) = nv (min x y) := by
  unfold mn
  simp only [nv_lt hy hx]
  split <;> congr 1 <;> omega
/-- the inner walk: heap j told by all others -/
theorem X2_wt_65 {B : Nat → Nat × Nat} {a0 : Hp} {L : Nat → Nat} {R : Nat → Int32} (hM0 : Mk B a0 L R) {q t j : Nat} {w : Int32} (hqa : hSz a0 ≤ q) (hj : j < nH R) (k45 : Nat → Int32 → Option Nat → Int32 → Mr (Option Nat)) (k55 : Nat → Int32 → Option Nat → Int32 → Int32 → Mr (Option Nat)) (v4 : Int32) (Q : Option Nat → Hp → Prop)
    {d : Hp} {A : Nat → Nat} (hE : E0 a0 d) (kq : hK d q = 41) (nq : hN d q = nH R) (hA : ∀ y, y < nH R → hI d q y = nv (A y)) (h11 : ∀ y, y < nH R → A y ≤ 11) (hp : ∀ y, y < nH R → A y < 11 → pth (El R w) (nH R) (A y) y t)
    (kk : ∀ d' (A' : Nat → Nat), E0 a0 d' → hK d' q = 41 → hN d' q = nH R → hSz d' = hSz d → hSl d' = hSl d → (∀ y, y < nH R → hI d' q y = nv (A' y)) → (∀ y, y < nH R → A' y ≤ A y) → (∀ y, y < nH R → A' y < 11 → pth (El R w) (nH R) (A' y) y t) → (∀ y, y < nH R → El R w j y → A' j ≤ A y + 1) → Wp (k55 (L 0) w (some q) v4 (nv (j + 1))) d' Q) :
    Wp (X2_waysTo_65 k45 k55 FU (L 0) w (some q) v4 (nv j) (nv 0)) d Q := by
  have h10 := (mk_w hM0).2.1.2
  have l : ∀ (f k : Nat), k ≤ nH R → nH R - k < f → ∀ d' (A' : Nat → Nat), E0 a0 d' → hK d' q = 41 → hN d' q = nH R → hSz d' = hSz d → hSl d' = hSl d → (∀ y, y < nH R → hI d' q y = nv (A' y)) → (∀ y, y < nH R → A' y ≤ A y) → (∀ y, y < nH R → A' y < 11 → pth (El R w) (nH R) (A' y) y t) → (∀ y, y < k → El R w j y → A' j ≤ A y + 1) → Wp (X2_waysTo_65 k45 k55 f (L 0) w (some q) v4 (nv j) (nv k)) d' Q := by
    refine loopUp _ (nH R) ?_ ?_
    · intro f d' A' g1 g2 g3 g4 g5 g6 g7 g8 g9
      simp (disch := omega) only [X2_waysTo_65, ↓w_bd, ↓w_rt, ↓w_bh, sm_l, sm_r, ↓w_okr, ↓w_nm, ↓w_ite, ↓reduceIte, not_true_eq_false, not_false_eq_true, and_true, true_and, and_self, Option.some.injEq, reduceCtorEq, eq_self, ↓w_rc, ↓w_gI, ↓w_gR, ↓w_aN, ↓w_aI, ↓w_aR, ↓w_aL, ↓w_pI, ↓w_pR, ↓w_sI, ↓w_sR, ↓w_sL, ↓w_nO, ↓w_nA, ↓w_nL, ↓w_ca, ↓w_ca0, ↓w_gS, ↓w_gK, ↓w_dv, ↓w_tw, ↓w_rz, ↓w_no, nv_lit, nv_f, nv_add, nv_mul, nv_sub, nv_le, nv_lt, nv_eq, nv_cl, Nat.reduceMod, Nat.reduceMul, Nat.reduceAdd, Nat.zero_add, Nat.add_zero, Nat.mul_zero, decide_eq_true_eq, nv_inT, g2, g3, Nat.le_refl]
      exact kk d' A' g1 g2 g3 g4 g5 g6 g7 g8 g9
    · intro f k hk ih d' A' g1 g2 g3 g4 g5 g6 g7 g8 g9
      have hM := hM0.ext g1 (B' := B) (fun _ _ => rfl)
      have b1 := h11 j hj
      have b2 := h11 k hk
      have b3 := g7 j hj
      have b4 := g7 k hk
      by_cases c : El R w j k
      · simp (disch := omega) only [X2_waysTo_65, X2_waysTo_101, ↓w_bd, ↓w_rt, ↓w_bh, sm_l, sm_r, ↓w_okr, ↓w_nm, ↓w_ite, ↓reduceIte, not_true_eq_false, not_false_eq_true, and_true, true_and, and_self, Option.some.injEq, reduceCtorEq, eq_self, ↓w_rc, ↓w_gI, ↓w_gR, ↓w_aN, ↓w_aI, ↓w_aR, ↓w_aL, ↓w_pI, ↓w_pR, ↓w_sI, ↓w_sR, ↓w_sL, ↓w_nO, ↓w_nA, ↓w_nL, ↓w_ca, ↓w_ca0, ↓w_gS, ↓w_gK, ↓w_dv, ↓w_tw, ↓w_rz, ↓w_no, nv_lit, nv_f, nv_add, nv_mul, nv_sub, nv_le, nv_lt, nv_eq, nv_cl, Nat.reduceMod, Nat.reduceMul, Nat.reduceAdd, Nat.zero_add, Nat.add_zero, Nat.mul_zero, decide_eq_true_eq, nv_inT, mk_k hM, mk_n hM, mk_r hM, mk_i hM, g2, g3, Nat.not_le.mpr hk, X2_leads_w hM, ld_1 c, n10, g6, J12_min_w, mn_nv, nr41]
        refine ih _ (fun y => if y = j then min (A' j) (A' k + 1) else A' y) (g1.wI hqa _) g2 g3 g4 g5 (fun y hy => ?_) (fun y hy => ?_) (fun y hy h => ?_) (fun y hy h => ?_)
        · rw [hI_wI, up1_s]
          by_cases e : y = j
          · rw [e, up1_s, if_pos rfl]
          · rw [up1_n _ _ e, if_neg e]; exact g6 y hy
        · by_cases e : y = j
          · rw [if_pos e, e]; omega
          · rw [if_neg e]; exact g7 y hy
        · by_cases e : y = j
          · rw [if_pos e] at h ⊢
            rw [e]
            rcases Nat.le_total (A' j) (A' k + 1) with g | g
            · rw [Nat.min_eq_left g] at h ⊢
              exact g8 j hj h
            · rw [Nat.min_eq_right g] at h ⊢
              exact ⟨k, hk, c, g8 k hk (by omega)⟩
          · rw [if_neg e] at h ⊢
            exact g8 y hy h
        · rw [if_pos rfl]
          by_cases e : y = k
          · rw [e]; omega
          · have := g9 y (by omega) h
            omega
      · simp (disch := omega) only [X2_waysTo_65, X2_waysTo_101, ↓w_bd, ↓w_rt, ↓w_bh, sm_l, sm_r, ↓w_okr, ↓w_nm, ↓w_ite, ↓reduceIte, not_true_eq_false, not_false_eq_true, and_true, true_and, and_self, Option.some.injEq, reduceCtorEq, eq_self, ↓w_rc, ↓w_gI, ↓w_gR, ↓w_aN, ↓w_aI, ↓w_aR, ↓w_aL, ↓w_pI, ↓w_pR, ↓w_sI, ↓w_sR, ↓w_sL, ↓w_nO, ↓w_nA, ↓w_nL, ↓w_ca, ↓w_ca0, ↓w_gS, ↓w_gK, ↓w_dv, ↓w_tw, ↓w_rz, ↓w_no, nv_lit, nv_f, nv_add, nv_mul, nv_sub, nv_le, nv_lt, nv_eq, nv_cl, Nat.reduceMod, Nat.reduceMul, Nat.reduceAdd, Nat.zero_add, Nat.add_zero, Nat.mul_zero, decide_eq_true_eq, nv_inT, mk_k hM, mk_n hM, mk_r hM, mk_i hM, g2, g3, Nat.not_le.mpr hk, X2_leads_w hM, ld_0 c]
        refine ih d' A' g1 g2 g3 g4 g5 g6 g7 g8 (fun y hy h => ?_)
        by_cases e : y = k
        · rw [e] at h; exact absurd h c
        · exact g9 y (by omega) h
  exact l FU 0 (by omega) (by unfold FU; omega) d A hE kq nq rfl rfl hA (fun _ _ => Nat.le_refl _) hp (fun y hy => by omega)
theorem X2_waysTo_w {B : Nat → Nat × Nat} {a : Hp} {L : Nat → Nat} {R : Nat → Int32} (hM : Mk B a L R) {t : Nat} {w : Int32} (ht : t < nH R) (Q : Option Nat → Hp → Prop)
    (kk : ∀ b q, E0 a b → hSz b = hSz a + 1 → hSl b = hSl a + nH R → hK b q = 41 → hN b q = nH R → (∀ x, x < nH R → hI b q x = nv (dw R w t x)) → Q (some q) b) : Wp (X2_waysTo (L 0) (nv t) w) a Q := by
  have h10 := (mk_w hM).2.1.2
  unfold X2_waysTo
  simp (disch := omega) only [↓w_bd, ↓w_rt, ↓w_bh, sm_l, sm_r, ↓w_okr, ↓w_nm, ↓w_ite, ↓reduceIte, not_true_eq_false, not_false_eq_true, and_true, true_and, and_self, Option.some.injEq, reduceCtorEq, eq_self, ↓w_rc, ↓w_gI, ↓w_gR, ↓w_aN, ↓w_aI, ↓w_aR, ↓w_ca, ↓w_ca0, nv_lit, nv_f, nv_add, nv_mul, nv_sub, nv_le, nv_lt, nv_eq, nv_cl, Nat.reduceMod, Nat.reduceMul, Nat.reduceAdd, Nat.zero_add, Nat.add_zero, Nat.mul_zero, decide_eq_true_eq, nv_inT, mk_k hM, mk_n hM, mk_r hM, mk_i hM]
  refine w_nA' (n := nH R) (by omega) fun c e1 z1 l1 k1 n1 i1 r1 => ?_
  -- the rounds
  have rounds : ∀ (f r : Nat), r ≤ nH R → nH R - r < f → ∀ d (A : Nat → Nat), E0 a d → hK d (hSz a) = 41 → hN d (hSz a) = nH R → hSz d = hSz a + 1 → hSl d = hSl a + nH R → (∀ y, y < nH R → hI d (hSz a) y = nv (A y)) → (∀ y, y < nH R → A y ≤ 11) → (∀ y, y < nH R → A y < 11 → pth (El R w) (nH R) (A y) y t) → (∀ y, y < nH R → ∀ k, k ≤ r → pth (El R w) (nH R) k y t → A y ≤ k) → Wp (X2_waysTo_45 f (L 0) w (some (hSz a)) (nv r)) d Q := by
    refine loopUp _ (nH R) ?_ ?_
    · intro f d A g1 g2 g3 g4 g5 g6 g7 g8 g9
      simp (disch := omega) only [X2_waysTo_45, ↓w_bd, ↓w_rt, ↓w_bh, sm_l, sm_r, ↓w_okr, ↓w_nm, ↓w_ite, ↓reduceIte, not_true_eq_false, not_false_eq_true, and_true, true_and, and_self, Option.some.injEq, reduceCtorEq, eq_self, ↓w_rc, ↓w_gI, ↓w_gR, ↓w_aN, ↓w_aI, ↓w_aR, ↓w_aL, ↓w_pI, ↓w_pR, ↓w_sI, ↓w_sR, ↓w_sL, ↓w_nO, ↓w_nA, ↓w_nL, ↓w_ca, ↓w_ca0, ↓w_gS, ↓w_gK, ↓w_dv, ↓w_tw, ↓w_rz, ↓w_no, nv_lit, nv_f, nv_add, nv_mul, nv_sub, nv_le, nv_lt, nv_eq, nv_cl, Nat.reduceMod, Nat.reduceMul, Nat.reduceAdd, Nat.zero_add, Nat.add_zero, Nat.mul_zero, decide_eq_true_eq, nv_inT, g2, g3, Nat.le_refl]
      refine kk d (hSz a) g1 g4 g5 g2 g3 fun x hx => ?_
      rw [g6 x hx, dw_eq h10 hx (g8 x hx) (g7 x hx) (g9 x hx)]
    · intro f r hr ih d A g1 g2 g3 g4 g5 g6 g7 g8 g9
      simp (disch := omega) only [X2_waysTo_45, ↓w_bd, ↓w_rt, ↓w_bh, sm_l, sm_r, ↓w_okr, ↓w_nm, ↓w_ite, ↓reduceIte, not_true_eq_false, not_false_eq_true, and_true, true_and, and_self, Option.some.injEq, reduceCtorEq, eq_self, ↓w_rc, ↓w_gI, ↓w_gR, ↓w_aN, ↓w_aI, ↓w_aR, ↓w_aL, ↓w_pI, ↓w_pR, ↓w_sI, ↓w_sR, ↓w_sL, ↓w_nO, ↓w_nA, ↓w_nL, ↓w_ca, ↓w_ca0, ↓w_gS, ↓w_gK, ↓w_dv, ↓w_tw, ↓w_rz, ↓w_no, nv_lit, nv_f, nv_add, nv_mul, nv_sub, nv_le, nv_lt, nv_eq, nv_cl, Nat.reduceMod, Nat.reduceMul, Nat.reduceAdd, Nat.zero_add, Nat.add_zero, Nat.mul_zero, decide_eq_true_eq, nv_inT, g2, g3, Nat.not_le.mpr hr]
      have l5 : ∀ (f' j : Nat), j ≤ nH R → nH R - j < f' → ∀ d' (A' : Nat → Nat), E0 a d' → hK d' (hSz a) = 41 → hN d' (hSz a) = nH R → hSz d' = hSz a + 1 → hSl d' = hSl a + nH R → (∀ y, y < nH R → hI d' (hSz a) y = nv (A' y)) → (∀ y, y < nH R → A' y ≤ A y) → (∀ y, y < nH R → A' y < 11 → pth (El R w) (nH R) (A' y) y t) → (∀ y, y < j → ∀ k, k ≤ r + 1 → pth (El R w) (nH R) k y t → A' y ≤ k) → Wp (X2_waysTo_55 (X2_waysTo_45 f) f' (L 0) w (some (hSz a)) (nv r) (nv j)) d' Q := by
        refine loopUp _ (nH R) ?_ ?_
        · intro f' d' A' p1 p2 p3 p4 p5 p6 p7 p8 p9
          simp (disch := omega) only [X2_waysTo_55, ↓w_bd, ↓w_rt, ↓w_bh, sm_l, sm_r, ↓w_okr, ↓w_nm, ↓w_ite, ↓reduceIte, not_true_eq_false, not_false_eq_true, and_true, true_and, and_self, Option.some.injEq, reduceCtorEq, eq_self, ↓w_rc, ↓w_gI, ↓w_gR, ↓w_aN, ↓w_aI, ↓w_aR, ↓w_aL, ↓w_pI, ↓w_pR, ↓w_sI, ↓w_sR, ↓w_sL, ↓w_nO, ↓w_nA, ↓w_nL, ↓w_ca, ↓w_ca0, ↓w_gS, ↓w_gK, ↓w_dv, ↓w_tw, ↓w_rz, ↓w_no, nv_lit, nv_f, nv_add, nv_mul, nv_sub, nv_le, nv_lt, nv_eq, nv_cl, Nat.reduceMod, Nat.reduceMul, Nat.reduceAdd, Nat.zero_add, Nat.add_zero, Nat.mul_zero, decide_eq_true_eq, nv_inT, p2, p3, Nat.le_refl]
          exact ih d' A' p1 p2 p3 p4 p5 p6 (fun y hy => Nat.le_trans (p7 y hy) (g7 y hy)) p8 p9
        · intro f' j hj ih' d' A' p1 p2 p3 p4 p5 p6 p7 p8 p9
          simp (disch := omega) only [X2_waysTo_55, ↓w_bd, ↓w_rt, ↓w_bh, sm_l, sm_r, ↓w_okr, ↓w_nm, ↓w_ite, ↓reduceIte, not_true_eq_false, not_false_eq_true, and_true, true_and, and_self, Option.some.injEq, reduceCtorEq, eq_self, ↓w_rc, ↓w_gI, ↓w_gR, ↓w_aN, ↓w_aI, ↓w_aR, ↓w_aL, ↓w_pI, ↓w_pR, ↓w_sI, ↓w_sR, ↓w_sL, ↓w_nO, ↓w_nA, ↓w_nL, ↓w_ca, ↓w_ca0, ↓w_gS, ↓w_gK, ↓w_dv, ↓w_tw, ↓w_rz, ↓w_no, nv_lit, nv_f, nv_add, nv_mul, nv_sub, nv_le, nv_lt, nv_eq, nv_cl, Nat.reduceMod, Nat.reduceMul, Nat.reduceAdd, Nat.zero_add, Nat.add_zero, Nat.mul_zero, decide_eq_true_eq, nv_inT, p2, p3, Nat.not_le.mpr hj]
          refine X2_wt_65 hM (by omega) hj _ _ _ Q p1 p2 p3 p6 (fun y hy => Nat.le_trans (p7 y hy) (g7 y hy)) p8 fun d2 A2 r1 r2 r3 r4 r5 r6 r7 r8 r9 => ?_
          refine ih' d2 A2 r1 r2 r3 (r4.trans p4) (r5.trans p5) r6 (fun y hy => Nat.le_trans (r7 y hy) (p7 y hy)) r8 fun y hy k hk hpk => ?_
          by_cases e : y = j
          · subst e
            cases k with
            | zero =>
              have := g9 y hj 0 (by omega) hpk
              have := p7 y hj
              have := r7 y hj
              omega
            | succ k =>
              obtain ⟨z, hz, ez, pz⟩ := hpk
              have x1 := r9 z hz ez
              have x2 := p7 z hz
              have x3 := g9 z hz k (by omega) pz
              omega
          · have x1 := p9 y (by omega) k hk hpk
            have x2 := r7 y (by omega)
            omega
      exact l5 FU 0 (by omega) (by unfold FU; omega) d A g1 g2 g3 g4 g5 g6 (fun _ _ => Nat.le_refl _) g8 (fun y hy => by omega)
  -- the beginning
  have l13 : ∀ (f k : Nat), k ≤ nH R → nH R - k < f → ∀ d, E0 a d → hK d (hSz a) = 41 → hN d (hSz a) = nH R → hSz d = hSz a + 1 → hSl d = hSl a + nH R → (∀ y, y < k → hI d (hSz a) y = nv (if y = t then 0 else 11)) → Wp (X2_waysTo_13 f (L 0) (nv t) w (some (hSz a)) (nv k)) d Q := by
    refine loopUp _ (nH R) ?_ ?_
    · intro f d g1 g2 g3 g4 g5 g6
      simp (disch := omega) only [X2_waysTo_13, ↓w_bd, ↓w_rt, ↓w_bh, sm_l, sm_r, ↓w_okr, ↓w_nm, ↓w_ite, ↓reduceIte, not_true_eq_false, not_false_eq_true, and_true, true_and, and_self, Option.some.injEq, reduceCtorEq, eq_self, ↓w_rc, ↓w_gI, ↓w_gR, ↓w_aN, ↓w_aI, ↓w_aR, ↓w_aL, ↓w_pI, ↓w_pR, ↓w_sI, ↓w_sR, ↓w_sL, ↓w_nO, ↓w_nA, ↓w_nL, ↓w_ca, ↓w_ca0, ↓w_gS, ↓w_gK, ↓w_dv, ↓w_tw, ↓w_rz, ↓w_no, nv_lit, nv_f, nv_add, nv_mul, nv_sub, nv_le, nv_lt, nv_eq, nv_cl, Nat.reduceMod, Nat.reduceMul, Nat.reduceAdd, Nat.zero_add, Nat.add_zero, Nat.mul_zero, decide_eq_true_eq, nv_inT, g2, g3, Nat.le_refl]
      refine rounds FU 0 (by omega) (by unfold FU; omega) d (fun y => if y = t then 0 else 11) g1 g2 g3 g4 g5 g6 (fun y _ => by split <;> omega) (fun y hy h => ?_) (fun y hy k hk hp => ?_)
      · by_cases e : y = t
        · rw [if_pos e]; exact e
        · rw [if_neg e] at h; omega
      · have k0 : k = 0 := by omega
        subst k0
        have e : y = t := hp
        rw [if_pos e]
        exact Nat.le_refl _
    · intro f k hk ih d g1 g2 g3 g4 g5 g6
      by_cases e : k = t
      · subst e
        simp (disch := omega) only [X2_waysTo_13, X2_waysTo_35, ↓w_bd, ↓w_rt, ↓w_bh, sm_l, sm_r, ↓w_okr, ↓w_nm, ↓w_ite, ↓reduceIte, not_true_eq_false, not_false_eq_true, and_true, true_and, and_self, Option.some.injEq, reduceCtorEq, eq_self, ↓w_rc, ↓w_gI, ↓w_gR, ↓w_aN, ↓w_aI, ↓w_aR, ↓w_aL, ↓w_pI, ↓w_pR, ↓w_sI, ↓w_sR, ↓w_sL, ↓w_nO, ↓w_nA, ↓w_nL, ↓w_ca, ↓w_ca0, ↓w_gS, ↓w_gK, ↓w_dv, ↓w_tw, ↓w_rz, ↓w_no, nv_lit, nv_f, nv_add, nv_mul, nv_sub, nv_le, nv_lt, nv_eq, nv_cl, Nat.reduceMod, Nat.reduceMul, Nat.reduceAdd, Nat.zero_add, Nat.add_zero, Nat.mul_zero, decide_eq_true_eq, nv_inT, g2, g3, Nat.not_le.mpr hk, nr41]
        refine ih _ (g1.wI (Nat.le_refl _) _) g2 g3 g4 g5 (fun y hy => ?_)
        rw [hI_wI, up1_s]
        by_cases ey : y = k
        · rw [ey, up1_s, if_pos rfl]
        · rw [up1_n _ _ ey]; exact g6 y (by omega)
      · simp (disch := omega) only [X2_waysTo_13, X2_waysTo_35, ↓w_bd, ↓w_rt, ↓w_bh, sm_l, sm_r, ↓w_okr, ↓w_nm, ↓w_ite, ↓reduceIte, not_true_eq_false, not_false_eq_true, and_true, true_and, and_self, Option.some.injEq, reduceCtorEq, eq_self, ↓w_rc, ↓w_gI, ↓w_gR, ↓w_aN, ↓w_aI, ↓w_aR, ↓w_aL, ↓w_pI, ↓w_pR, ↓w_sI, ↓w_sR, ↓w_sL, ↓w_nO, ↓w_nA, ↓w_nL, ↓w_ca, ↓w_ca0, ↓w_gS, ↓w_gK, ↓w_dv, ↓w_tw, ↓w_rz, ↓w_no, nv_lit, nv_f, nv_add, nv_mul, nv_sub, nv_le, nv_lt, nv_eq, nv_cl, Nat.reduceMod, Nat.reduceMul, Nat.reduceAdd, Nat.zero_add, Nat.add_zero, Nat.mul_zero, decide_eq_true_eq, nv_inT, g2, g3, Nat.not_le.mpr hk, e, nr41]
        refine ih _ (g1.wI (Nat.le_refl _) _) g2 g3 g4 g5 (fun y hy => ?_)
        rw [hI_wI, up1_s]
        by_cases ey : y = k
        · rw [ey, up1_s, if_neg e]
        · rw [up1_n _ _ ey]; exact g6 y (by omega)
  exact l13 FU 0 (by omega) (by unfold FU; omega) c e1 k1 n1 z1 l1 (fun y hy => by omega)
