/-! THE LONGEST ROW -/
theorem mx_nv {x y : Nat} (hx : x < 2147483648) (hy : y < 2147483648) : mx (nv x) (nv y) = nv (max x y) := by
  unfold mx
  simp only [nv_lt hx hy]
  split <;> congr 1 <;> omega
theorem Wm.o2 {s n : Nat} {b : Hp} {D : Nat → Nat → Int32} (h : Wm s n b D) {q : Nat} (hq : s + 2 + n ≤ q) (f : Nat → Int32) : Wm s n (hwI b q f) D := by
  refine ⟨⟨h.1.1, ?_, h.1.2.2⟩, h.2.1, h.2.2.1, h.2.2.2.1, fun u w hu hw => ?_⟩
  · rw [hI_wI, up1_n _ _ (by omega)]; exact h.1.2.1
  · rw [hI_wI, up1_n _ _ (by omega)]; exact h.2.2.2.2 u w hu hw
theorem Wm.e0 {s n : Nat} {b c : Hp} {D : Nat → Nat → Int32} (h : Wm s n b D) (g : E0 b c) (hz : s + 2 + n ≤ hSz b) : Wm s n c D := by
  have e := fun p (hp : p < s + 2 + n) => g.2.2 p (by omega)
  refine ⟨⟨?_, ?_, ?_, ?_, ?_⟩, fun x hx => ?_, fun x hx => ?_, fun x hx => ?_, fun x y hx hy => ?_⟩
  · rw [(e s (by omega)).1]; exact h.1.1
  · rw [(e s (by omega)).2.2.2.1]; exact h.1.2.1
  · rw [(e s (by omega)).2.2.1]; exact h.1.2.2.1
  · rw [(e (s + 1) (by omega)).1]; exact h.1.2.2.2.1
  · rw [(e (s + 1) (by omega)).2.1]; exact h.1.2.2.2.2
  · rw [(e (s + 1) (by omega)).2.2.1]; exact h.2.1 x hx
  · rw [(e (s + 2 + x) (by omega)).1]; exact h.2.2.1 x hx
  · rw [(e (s + 2 + x) (by omega)).2.1]; exact h.2.2.2.1 x hx
  · rw [(e (s + 2 + x) (by omega)).2.2.2.1]; exact h.2.2.2.2 x y hx hy
theorem X1_lr_60 {R : Nat → Int32} (hFs : Fs R) (h10 : nH R ≤ 10) {d : Hp} {s q h x : Nat} {D : Nat → Nat → Int32} (hD : CD R D) (hW : Wm s (nH R) d D) (hx : x < nH R) (kq : hK d q = 41) (nq : hN d q = nH R) {A : Nat → Nat} (hA : ∀ y, y < nH R → hI d q y = nv (A y)) (hA9 : ∀ y, A y ≤ 100) (k29 : Nat → Option Nat → Option Nat → Int32 → Int32 → Mr Int32) (v3 v4 : Int32) (Q : Int32 → Hp → Prop) :
    Wp (X1_longestRow_60 k29 FU h (some s) (some q) v3 v4 (nv x) (nv 0) (nv 0)) d Q ↔ Wp (k29 h (some s) (some q) (mx v3 (nv (mxs (fun y => if kn R x y = nv 0 then A y else 0) (nH R) + 1))) (v4 + -nv 1)) (hwI d q (up1 (hI d q) x (nv (mxs (fun y => if kn R x y = nv 0 then A y else 0) (nH R) + 1)))) Q := by
  have hr := hW.r.1.1
  have bnd : ∀ n, mxs (fun y => if kn R x y = nv 0 then A y else 0) n ≤ 100 := fun n => mxs_le fun y _ => by
    have := hA9 y
    split <;> omega
  have l : ∀ (f k : Nat), k ≤ nH R → nH R - k < f → (Wp (X1_longestRow_60 k29 f h (some s) (some q) v3 v4 (nv x) (nv (mxs (fun y => if kn R x y = nv 0 then A y else 0) k)) (nv k)) d Q ↔ Wp (k29 h (some s) (some q) (mx v3 (nv (mxs (fun y => if kn R x y = nv 0 then A y else 0) (nH R) + 1))) (v4 + -nv 1)) (hwI d q (up1 (hI d q) x (nv (mxs (fun y => if kn R x y = nv 0 then A y else 0) (nH R) + 1)))) Q) := by
    refine loopUp _ (nH R) ?_ ?_
    · intro f
      simp (disch := omega) only [X1_longestRow_60, ↓w_bd, ↓w_rt, ↓w_bh, sm_l, sm_r, ↓w_okr, ↓w_nm, ↓w_ite, ↓reduceIte, not_true_eq_false, not_false_eq_true, and_true, true_and, and_self, Option.some.injEq, reduceCtorEq, eq_self, ↓w_rc, ↓w_gI, ↓w_gR, ↓w_aN, ↓w_aI, ↓w_aR, ↓w_aL, ↓w_pI, ↓w_pR, ↓w_sI, ↓w_sR, ↓w_sL, ↓w_nO, ↓w_nA, ↓w_nL, ↓w_ca, ↓w_ca0, ↓w_gS, ↓w_gK, ↓w_dv, ↓w_tw, ↓w_rz, ↓w_no, nv_lit, nv_f, nv_add, nv_mul, nv_sub, nv_le, nv_lt, nv_eq, nv_cl, Nat.reduceMod, Nat.reduceMul, Nat.reduceAdd, Nat.zero_add, Nat.add_zero, Nat.mul_zero, decide_eq_true_eq, nv_inT, kq, nq, Nat.le_refl, hK_wI, hN_wI, hI_wI, up1_s, nr41, J12_max_w]
    · intro f k hk ih
      have e1 : mxs (fun y => if kn R x y = nv 0 then A y else 0) (k + 1) = max (mxs (fun y => if kn R x y = nv 0 then A y else 0) k) (if kn R x k = nv 0 then A k else 0) := rfl
      rw [e1] at ih
      have b1 := bnd k
      have b2 := hA9 k
      by_cases c : kn R x k = nv 0
      · rw [if_pos c] at ih
        simp (disch := omega) only [X1_longestRow_60, X1_longestRow_89, ↓w_bd, ↓w_rt, ↓w_bh, sm_l, sm_r, ↓w_okr, ↓w_nm, ↓w_ite, ↓reduceIte, not_true_eq_false, not_false_eq_true, and_true, true_and, and_self, Option.some.injEq, reduceCtorEq, eq_self, ↓w_rc, ↓w_gI, ↓w_gR, ↓w_aN, ↓w_aI, ↓w_aR, ↓w_aL, ↓w_pI, ↓w_pR, ↓w_sI, ↓w_sR, ↓w_sL, ↓w_nO, ↓w_nA, ↓w_nL, ↓w_ca, ↓w_ca0, ↓w_gS, ↓w_gK, ↓w_dv, ↓w_tw, ↓w_rz, ↓w_no, nv_lit, nv_f, nv_add, nv_mul, nv_sub, nv_le, nv_lt, nv_eq, nv_cl, Nat.reduceMod, Nat.reduceMul, Nat.reduceAdd, Nat.zero_add, Nat.add_zero, Nat.mul_zero, decide_eq_true_eq, nv_inT, kq, nq, Nat.not_le.mpr hk, hr, X9_known_w hFs h10 hD hW, c, hA, J12_max_w, mx_nv]
        exact ih
      · rw [if_neg c, Nat.max_eq_left (Nat.zero_le _)] at ih
        simp (disch := omega) only [X1_longestRow_60, X1_longestRow_89, ↓w_bd, ↓w_rt, ↓w_bh, sm_l, sm_r, ↓w_okr, ↓w_nm, ↓w_ite, ↓reduceIte, not_true_eq_false, not_false_eq_true, and_true, true_and, and_self, Option.some.injEq, reduceCtorEq, eq_self, ↓w_rc, ↓w_gI, ↓w_gR, ↓w_aN, ↓w_aI, ↓w_aR, ↓w_aL, ↓w_pI, ↓w_pR, ↓w_sI, ↓w_sR, ↓w_sL, ↓w_nO, ↓w_nA, ↓w_nL, ↓w_ca, ↓w_ca0, ↓w_gS, ↓w_gK, ↓w_dv, ↓w_tw, ↓w_rz, ↓w_no, nv_lit, nv_f, nv_add, nv_mul, nv_sub, nv_le, nv_lt, nv_eq, nv_cl, Nat.reduceMod, Nat.reduceMul, Nat.reduceAdd, Nat.zero_add, Nat.add_zero, Nat.mul_zero, decide_eq_true_eq, nv_inT, kq, nq, Nat.not_le.mpr hk, hr, X9_known_w hFs h10 hD hW, c]
        exact ih
  exact l FU 0 (by omega) (by unfold FU; omega)
theorem mxs_st {R : Nat → Int32} {a t : Nat} (ha : a < nH R) (hr : rkn R a = t) (hi : ∀ x, x < nH R → rkn R x = t → x = a) : max (mxs (fun x => if t + 1 ≤ rkn R x then len R x else 0) (nH R)) (len R a) = mxs (fun x => if t ≤ rkn R x then len R x else 0) (nH R) := by
  apply Nat.le_antisymm
  · refine Nat.max_le.mpr ⟨mxs_mono fun x hx => ?_, ?_⟩
    · by_cases c : t + 1 ≤ rkn R x
      · rw [if_pos c, if_pos (by omega)]; exact Nat.le_refl _
      · rw [if_neg c]; exact Nat.zero_le _
    · have := mxs_ge (f := fun x => if t ≤ rkn R x then len R x else 0) ha
      rwa [if_pos (by omega)] at this
  · refine mxs_le fun x hx => ?_
    by_cases c : t ≤ rkn R x
    · rw [if_pos c]
      by_cases e : rkn R x = t
      · rw [hi x hx e]; exact Nat.le_max_right _ _
      · have := mxs_ge (f := fun x => if t + 1 ≤ rkn R x then len R x else 0) hx
        rw [if_pos (by omega)] at this
        exact Nat.le_trans this (Nat.le_max_left _ _)
    · rw [if_neg c]; exact Nat.zero_le _
theorem X1_lr_29 {B : Nat → Nat × Nat} {G : Nat → Nat} {a c : Hp} {L : Nat → Nat} {R : Nat → Int32} (hM0 : Mk B a L R) (hX0 : FX G a L) (hFs : Fs R) {s q : Nat} {D : Nat → Nat → Int32} (hD : CD R D) (hEc : E0 a c) (hWc : Wm s (nH R) c D) (hq : s + 2 + nH R ≤ q) (hqa : hSz a ≤ q) (kq : hK c q = 41) (nq : hN c q = nH R) (iq : ∀ y, hI c q y = nv 0) (Q : Int32 → Hp → Prop)
    (kk : ∀ d, E0 a d → hSz d = hSz c → hSl d = hSl c → Q (nv (mxs (len R) (nH R))) d) : Wp (X1_longestRow_29 FU (G 0) (some s) (some q) (nv 0) (nv (nH R) - nv 1)) c Q := by
  have h10 := (mk_w hM0).2.1.2
  have l : ∀ (f j : Nat), j ≤ nH R → nH R - j < f → ∀ d (A : Nat → Nat), E0 a d → Wm s (nH R) d D → hK d q = 41 → hN d q = nH R → hSz d = hSz c → hSl d = hSl c → (∀ y, y < nH R → hI d q y = nv (A y)) → (∀ y, A y ≤ 100) → (∀ y, y < nH R → nH R - j ≤ rkn R y → A y = len R y) → Wp (X1_longestRow_29 f (G 0) (some s) (some q) (nv (mxs (fun x => if nH R - j ≤ rkn R x then len R x else 0) (nH R))) (nv (nH R - j) - nv 1)) d Q := by
    refine loopUp _ (nH R) ?_ ?_
    · intro f d A hE hW k n z l hA hA9 hp
      have neg : nv (nH R - nH R) - nv 1 < nv 0 := by rw [Nat.sub_self]; decide
      have e : mxs (fun x => if nH R - nH R ≤ rkn R x then len R x else 0) (nH R) = mxs (len R) (nH R) := mxs_cg fun y _ => if_pos (by omega)
      unfold X1_longestRow_29
      rw [nv_lit, w_ite, if_pos neg, w_rt, e]
      exact kk d hE z l
    · intro f j hj ih d A hE hW k n z l hA hA9 hp
      obtain ⟨x, hx, hr, hrd⟩ := rkd_ex h10 (show nH R - j - 1 < nH R by omega)
      have hM := hM0.ext hE (B' := B) (fun _ _ => rfl)
      have hX := hX0.ext hE
      have ex : mxs (fun y => if kn R x y = nv 0 then A y else 0) (nH R) + 1 = len R x := by
        rw [len_s hFs h10 hx, Nat.add_comm]
        refine congrArg (1 + ·) (mxs_cg fun y hy => ?_)
        by_cases c : kn R x y = nv 0
        · rw [if_pos c, if_pos c]
          refine hp y hy ?_
          have := rkn_lt hx (a := y) (decide_eq_true (.inl (kn_lt hFs h10 hx hy c)) : ah R y x = true)
          omega
        · rw [if_neg c, if_neg c]
      have e1 : nv (nH R - j) - nv 1 = nv (nH R - j - 1) := nv_sub (by omega)
      have bl := len_n R x
      have bm : mxs (fun x => if nH R - j ≤ rkn R x then len R x else 0) (nH R) ≤ 100 := mxs_le fun y _ => by
        have := len_n R y
        split <;> omega
      have st := mxs_st (R := R) (a := x) (t := nH R - j - 1) hx hr (fun y hy e => by
        apply Decidable.byContradiction
        intro hne
        rcases ah_or (R := R) hne with g | g
        · have := rkn_lt hx g; omega
        · have := rkn_lt hy g; omega)
      rw [show nH R - j - 1 + 1 = nH R - j by omega] at st
      rw [e1]
      simp (disch := omega) only [X1_longestRow_29, ↓w_bd, ↓w_rt, ↓w_bh, sm_l, sm_r, ↓w_okr, ↓w_nm, ↓w_ite, ↓reduceIte, not_true_eq_false, not_false_eq_true, and_true, true_and, and_self, Option.some.injEq, reduceCtorEq, eq_self, ↓w_rc, ↓w_gI, ↓w_gR, ↓w_aN, ↓w_aI, ↓w_aR, ↓w_aL, ↓w_pI, ↓w_pR, ↓w_sI, ↓w_sR, ↓w_sL, ↓w_nO, ↓w_nA, ↓w_nL, ↓w_ca, ↓w_ca0, ↓w_gS, ↓w_gK, ↓w_dv, ↓w_tw, ↓w_rz, ↓w_no, nv_lit, nv_f, nv_add, nv_mul, nv_sub, nv_le, nv_lt, nv_eq, nv_cl, Nat.reduceMod, Nat.reduceMul, Nat.reduceAdd, Nat.zero_add, Nat.add_zero, Nat.mul_zero, decide_eq_true_eq, nv_inT, mk_k hM, mk_n hM, mk_r hM, mk_i hM, hX, Nat.not_lt_zero, X3_ranked_w hM, hrd, Option.map_some, ct_44, List.contains_cons, List.contains_nil, Nat.reduceBEq, Bool.or_true, Bool.true_or, Bool.or_false, BEq.rfl, X1_lr_60 hFs h10 hD hW hx k n hA hA9, ex, mx_nv, st]
      have e2 : nv (nH R - j - 1) + -nv 1 = nv (nH R - (j + 1)) - nv 1 := by
        rw [Int32.sub_eq_add_neg, show nH R - j - 1 = nH R - (j + 1) by omega]
      rw [e2, show nH R - j - 1 = nH R - (j + 1) by omega]
      refine ih _ (fun y => if y = x then len R x else A y) (hE.wI hqa _) (hW.o2 hq _) k n z l (fun y hy => ?_) (fun y => ?_) (fun y hy hy2 => ?_)
      · rw [hI_wI, up1_s]
        by_cases c : y = x
        · rw [c, up1_s, if_pos rfl]
        · rw [up1_n _ _ c, if_neg c]; exact hA y hy
      · have := hA9 y
        split <;> omega
      · by_cases c : y = x
        · rw [c, if_pos rfl]
        · rw [if_neg c]
          refine hp y hy ?_
          rcases ah_or (R := R) c with g | g
          · have := rkn_lt hx g; omega
          · have := rkn_lt hy g; omega
  have z0 : mxs (fun x => if nH R - 0 ≤ rkn R x then len R x else 0) (nH R) = 0 := by
    have : mxs (fun x => if nH R - 0 ≤ rkn R x then len R x else 0) (nH R) ≤ 0 := mxs_le fun y hy => by
      have := rkn_n hy
      rw [if_neg (by omega)]
      exact Nat.le_refl _
    omega
  have := l FU 0 (by omega) (by unfold FU; omega) c (fun _ => 0) hEc hWc kq nq rfl rfl (fun y _ => iq y) (fun _ => by omega) (fun y hy h => by
    have := rkn_n hy
    omega)
  rw [z0] at this
  exact this
