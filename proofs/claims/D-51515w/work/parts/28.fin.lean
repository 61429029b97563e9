/-! STEPS THAT ONLY READ, and what both sides tell -/
/-- places that a step may spoil: the twin's scratch -/
def Sp (G : Nat → Nat) (q j : Nat) : Prop := q = G 14 ∨ q = G 15 ∨ q = G 17 ∨ q = G 18 ∨ (q = G 10 ∧ (j = 5 ∨ j = 12 ∨ j = 13 ∨ j = 14 ∨ j = 15 ∨ j = 17)) ∨ (q = G 11 ∧ 4905 ≤ j)
def Rd (G : Nat → Nat) (a c : Hp) : Prop := hSz a ≤ hSz c ∧ hS c = hS a ∧ ∀ q, q < hSz a → hK c q = hK a q ∧ hN c q = hN a q ∧ hR c q = hR a q ∧ ∀ j, Sp G q j ∨ hI c q j = hI a q j
theorem Rd.rf (G : Nat → Nat) (a : Hp) : Rd G a a := ⟨Nat.le_refl _, rfl, fun _ _ => ⟨rfl, rfl, rfl, fun _ => .inr rfl⟩⟩
theorem Rd.tr {G : Nat → Nat} {a b c : Hp} (h : Rd G a b) (g : Rd G b c) : Rd G a c := ⟨Nat.le_trans h.1 g.1, g.2.1.trans h.2.1, fun q hq => by
  have h1 := h.2.2 q hq
  have h2 := g.2.2 q (Nat.lt_of_lt_of_le hq h.1)
  refine ⟨h2.1.trans h1.1, h2.2.1.trans h1.2.1, h2.2.2.1.trans h1.2.2.1, fun j => ?_⟩
  rcases h1.2.2.2 j with e | e
  · exact .inl e
  · rcases h2.2.2.2 j with e2 | e2
    · exact .inl e2
    · exact .inr (e2.trans e)⟩
theorem E0.rd {a b : Hp} (h : E0 a b) (G : Nat → Nat) : Rd G a b := ⟨h.1, h.2.1, fun q hq => by
  have := h.2.2 q hq
  exact ⟨this.1, this.2.1, this.2.2.1, fun j => .inr (congrFun this.2.2.2.1 j)⟩⟩
theorem Rd.wL {G : Nat → Nat} {a b : Hp} (h : Rd G a b) (q : Nat) (f : Nat → UInt64) : Rd G a (hwL b q f) := h
theorem Sx.rd {G : Nat → Nat} {a b : Hp} (h : Sx G a b) : Rd G a b := by
  refine ⟨?_, ?_, fun q _ => ⟨by rw [h.k], by rw [h.n], by rw [h.r], fun j => ?_⟩⟩
  · have : hSz b = hSz a := congrArg (fun x => x.1.1.1) h.1
    omega
  · exact congrArg (fun x => x.2) h.1
  · by_cases c1 : q = G 14
    · exact .inl (.inl c1)
    · by_cases c2 : q = G 15
      · exact .inl (.inr (.inl c2))
      · by_cases c3 : q = G 18
        · exact .inl (.inr (.inr (.inr (.inl c3))))
        · exact .inr (congrFun (h.2.2 q c1 c2 c3) j)
theorem Sx.sz {G : Nat → Nat} {a b : Hp} (h : Sx G a b) : hSz b = hSz a := congrArg (fun x => x.1.1.1) h.1
theorem Sx.sl {G : Nat → Nat} {a b : Hp} (h : Sx G a b) : hSl b = hSl a := congrArg (fun x => x.1.1.2) h.1
theorem Sx.l {G : Nat → Nat} {a b : Hp} (h : Sx G a b) : hL b = hL a := congrArg (fun x => x.2) h.2.1
/-- what is thrown, laid -/
def th (G : Nat → Nat) (a : Hp) (v : Int32) : Hp := hwI a (G 10) (up1 (hI a (G 10)) 5 v)
theorem th_f (G : Nat → Nat) (a : Hp) (v : Int32) : hwI a (G 10) (up1 (hI a (G 10)) 5 v) = th G a v := rfl
theorem up1_2 {α : Type} (f : Nat → α) (q : Nat) (x y : α) : up1 (up1 f q x) q y = up1 f q y := by
  funext j
  unfold up1
  split <;> rfl
theorem hwI_2 (a : Hp) (q : Nat) (f g : Nat → Int32) : hwI (hwI a q f) q g = hwI a q g := by
  unfold hwI
  congr 2
  exact up1_2 _ _ _ _
theorem th_2 (G : Nat → Nat) (a : Hp) (v w : Int32) : th G (th G a v) w = th G a w := by
  unfold th
  rw [hI_wI, up1_s, up1_2, hwI_2]
theorem th_5 (G : Nat → Nat) (a : Hp) (v : Int32) : hI (th G a v) (G 10) 5 = v := by unfold th; rw [hI_wI, up1_s, up1_s]
theorem th_n (G : Nat → Nat) (a : Hp) (v : Int32) {j : Nat} (h : j ≠ 5) : hI (th G a v) (G 10) j = hI a (G 10) j := by unfold th; rw [hI_wI, up1_s, up1_n _ _ h]
theorem th_o (G : Nat → Nat) (a : Hp) (v : Int32) {q : Nat} (h : q ≠ G 10) : hI (th G a v) q = hI a q := by unfold th; rw [hI_wI, up1_n _ _ h]
theorem th_K (G : Nat → Nat) (a : Hp) (v : Int32) : hK (th G a v) = hK a := rfl
theorem th_N (G : Nat → Nat) (a : Hp) (v : Int32) : hN (th G a v) = hN a := rfl
theorem th_R (G : Nat → Nat) (a : Hp) (v : Int32) : hR (th G a v) = hR a := rfl
theorem th_L (G : Nat → Nat) (a : Hp) (v : Int32) : hL (th G a v) = hL a := rfl
theorem th_sz (G : Nat → Nat) (a : Hp) (v : Int32) : hSz (th G a v) = hSz a := rfl
theorem th_sl (G : Nat → Nat) (a : Hp) (v : Int32) : hSl (th G a v) = hSl a := rfl
theorem Rd.th {G : Nat → Nat} {a b : Hp} (h : Rd G a b) (v : Int32) : Rd G a (th G b v) := by
  refine h.tr ⟨Nat.le_refl _, rfl, fun q _ => ⟨rfl, rfl, rfl, fun j => ?_⟩⟩
  by_cases c : q = G 10
  · by_cases d : j = 5
    · exact .inl (.inr (.inr (.inr (.inr (.inl ⟨c, .inl d⟩)))))
    · right; rw [c, th_n G b v d]
  · right; rw [th_o G b v c]
theorem FO.th {G : Nat → Nat} {a : Hp} {o : Nat} {R : Nat → Int32} (hG : GD G) (h : FO G a o R) (v : Int32) : FO G (th G a v) o R := by
  unfold FO FT at *
  rw [th_K, th_N, th_R, th_n G a v (by omega), th_o G a v (hG.ne (by omega) (by omega) (by omega))]
  exact h
theorem FO.e0 {G : Nat → Nat} {a b : Hp} {o : Nat} {R : Nat → Int32} (h : FO G a o R) (g : E0 a b) (hs : ∀ i, i < 22 → G i < hSz a) : FO G b o R := by
  have e := fun i hi => g.2.2 (G i) (hs i hi)
  unfold FO FT at *
  rw [(e 10 (by omega)).1, (e 10 (by omega)).2.2.1, (e 10 (by omega)).2.2.2.1, (e 11 (by omega)).1, (e 12 (by omega)).1, (e 13 (by omega)).1, (e 14 (by omega)).1, (e 15 (by omega)).1, (e 16 (by omega)).1, (e 17 (by omega)).1, (e 18 (by omega)).1, (e 19 (by omega)).1, (e 11 (by omega)).2.1, (e 12 (by omega)).2.1, (e 13 (by omega)).2.1, (e 14 (by omega)).2.1, (e 15 (by omega)).2.1, (e 16 (by omega)).2.1, (e 17 (by omega)).2.1, (e 18 (by omega)).2.1, (e 19 (by omega)).2.1, (e 11 (by omega)).2.2.2.1]
  exact h
theorem FO.wL {G : Nat → Nat} {a : Hp} {o : Nat} {R : Nat → Int32} (h : FO G a o R) (q : Nat) (f : Nat → UInt64) : FO G (hwL a q f) o R := h
/-- the twin holds, or throws -/
theorem X5_holds_1 {G : Nat → Nat} {a : Hp} (hk : hK a (G 10) = 5) (h5 : hI a (G 10) 5 = nv 0) {v : Int32} (hv : ¬ v = nv 0) (p : Int32) (Q : Int32 → Hp → Prop) : Wp (X5_holds (G 10) v p) a Q ↔ Q (nv 1) a := by
  simp (disch := omega) only [X5_holds, X5_holds_16, X5_holds_28, ↓w_bd, ↓w_rt, ↓w_bh, sm_l, sm_r, ↓w_okr, ↓w_nm, ↓w_ite, ↓reduceIte, not_true_eq_false, not_false_eq_true, and_true, true_and, and_self, Option.some.injEq, reduceCtorEq, eq_self, ↓w_rc, ↓w_gI, ↓w_gR, ↓w_aN, ↓w_aI, ↓w_aR, ↓w_aL, ↓w_pI, ↓w_pR, ↓w_sI, ↓w_sR, ↓w_sL, ↓w_nO, ↓w_nA, ↓w_nL, ↓w_ca, ↓w_ca0, ↓w_gS, ↓w_gK, ↓w_dv, ↓w_tw, ↓w_rz, ↓w_no, nv_lit, nv_f, nv_add, nv_mul, nv_sub, nv_le, nv_lt, nv_eq, nv_cl, Nat.reduceMod, Nat.reduceMul, Nat.reduceAdd, Nat.zero_add, Nat.add_zero, Nat.mul_zero, decide_eq_true_eq, nv_inT, hk, h5, hv, show nrk 2 (nv 1) = true by decide]
theorem X5_holds_0 {G : Nat → Nat} {a : Hp} (hk : hK a (G 10) = 5) (h5 : hI a (G 10) 5 = nv 0) {p : Nat} (hp : 0 < p) (hp2 : p < 100) (Q : Int32 → Hp → Prop) : Wp (X5_holds (G 10) (nv 0) (nv p)) a Q ↔ Q (nv 0) (th G a (nv p)) := by
  have e : ¬ nv p = nv 0 := by rw [nv_eq (by omega) (by omega)]; omega
  simp (disch := omega) only [X5_holds, X5_holds_16, X5_holds_28, ↓w_bd, ↓w_rt, ↓w_bh, sm_l, sm_r, ↓w_okr, ↓w_nm, ↓w_ite, ↓reduceIte, not_true_eq_false, not_false_eq_true, and_true, true_and, and_self, Option.some.injEq, reduceCtorEq, eq_self, ↓w_rc, ↓w_gI, ↓w_gR, ↓w_aN, ↓w_aI, ↓w_aR, ↓w_aL, ↓w_pI, ↓w_pR, ↓w_sI, ↓w_sR, ↓w_sL, ↓w_nO, ↓w_nA, ↓w_nL, ↓w_ca, ↓w_ca0, ↓w_gS, ↓w_gK, ↓w_dv, ↓w_tw, ↓w_rz, ↓w_no, nv_lit, nv_f, nv_add, nv_mul, nv_sub, nv_le, nv_lt, nv_eq, nv_cl, Nat.reduceMod, Nat.reduceMul, Nat.reduceAdd, Nat.zero_add, Nat.add_zero, Nat.mul_zero, decide_eq_true_eq, nv_inT, hk, h5, show nrk 2 (nv 0) = true by decide, show okN 0 (nv p) = true from rfl, th_f, th_K, th_5, e]
/-! the component's checks: kinds of what is thrown 1 argument, 2 index, 3 state -/
/-- the heap behind a throw -/
def tw_ (a : Hp) : Hp := hNew a 0 0 6 (fun _ => nv 0) (fun _ => none)
theorem tw_e (a : Hp) : E0 a (tw_ a) := (E0.rf a).new _ _ _ _ _
theorem X1_requireIndex_1 {v : Int32} (hv : ¬ v = nv 0) (a : Hp) (Q : Ex ⊕ Unit → Hp → Prop) : Wp (X1_requireIndex v) a Q ↔ Q (.inr ()) a := by
  simp (disch := omega) only [X1_requireIndex, ↓w_bd, ↓w_rt, ↓w_bh, sm_l, sm_r, ↓w_okr, ↓w_nm, ↓w_ite, ↓reduceIte, not_true_eq_false, not_false_eq_true, and_true, true_and, and_self, Option.some.injEq, reduceCtorEq, eq_self, ↓w_rc, ↓w_gI, ↓w_gR, ↓w_aN, ↓w_aI, ↓w_aR, ↓w_aL, ↓w_pI, ↓w_pR, ↓w_sI, ↓w_sR, ↓w_sL, ↓w_nO, ↓w_nA, ↓w_nL, ↓w_ca, ↓w_ca0, ↓w_gS, ↓w_gK, ↓w_dv, ↓w_tw, ↓w_rz, ↓w_no, nv_lit, nv_f, nv_add, nv_mul, nv_sub, nv_le, nv_lt, nv_eq, nv_cl, Nat.reduceMod, Nat.reduceMul, Nat.reduceAdd, Nat.zero_add, Nat.add_zero, Nat.mul_zero, decide_eq_true_eq, nv_inT, hv]
theorem X1_requireIndex_0 (a : Hp) (Q : Ex ⊕ Unit → Hp → Prop) : Wp (X1_requireIndex (nv 0)) a Q ↔ Q (.inl (2, hSz a)) (tw_ a) := by
  simp (disch := omega) only [X1_requireIndex, ↓w_bd, ↓w_rt, ↓w_bh, sm_l, sm_r, ↓w_okr, ↓w_nm, ↓w_ite, ↓reduceIte, not_true_eq_false, not_false_eq_true, and_true, true_and, and_self, Option.some.injEq, reduceCtorEq, eq_self, ↓w_rc, ↓w_gI, ↓w_gR, ↓w_aN, ↓w_aI, ↓w_aR, ↓w_aL, ↓w_pI, ↓w_pR, ↓w_sI, ↓w_sR, ↓w_sL, ↓w_nO, ↓w_nA, ↓w_nL, ↓w_ca, ↓w_ca0, ↓w_gS, ↓w_gK, ↓w_dv, ↓w_tw, ↓w_rz, ↓w_no, nv_lit, nv_f, nv_add, nv_mul, nv_sub, nv_le, nv_lt, nv_eq, nv_cl, Nat.reduceMod, Nat.reduceMul, Nat.reduceAdd, Nat.zero_add, Nat.add_zero, Nat.mul_zero, decide_eq_true_eq, nv_inT]
  rfl
theorem X1_requireArgument_1 {v : Int32} (hv : ¬ v = nv 0) (a : Hp) (Q : Ex ⊕ Unit → Hp → Prop) : Wp (X1_requireArgument v) a Q ↔ Q (.inr ()) a := by
  simp (disch := omega) only [X1_requireArgument, ↓w_bd, ↓w_rt, ↓w_bh, sm_l, sm_r, ↓w_okr, ↓w_nm, ↓w_ite, ↓reduceIte, not_true_eq_false, not_false_eq_true, and_true, true_and, and_self, Option.some.injEq, reduceCtorEq, eq_self, ↓w_rc, ↓w_gI, ↓w_gR, ↓w_aN, ↓w_aI, ↓w_aR, ↓w_aL, ↓w_pI, ↓w_pR, ↓w_sI, ↓w_sR, ↓w_sL, ↓w_nO, ↓w_nA, ↓w_nL, ↓w_ca, ↓w_ca0, ↓w_gS, ↓w_gK, ↓w_dv, ↓w_tw, ↓w_rz, ↓w_no, nv_lit, nv_f, nv_add, nv_mul, nv_sub, nv_le, nv_lt, nv_eq, nv_cl, Nat.reduceMod, Nat.reduceMul, Nat.reduceAdd, Nat.zero_add, Nat.add_zero, Nat.mul_zero, decide_eq_true_eq, nv_inT, hv]
theorem X1_requireArgument_0 (a : Hp) (Q : Ex ⊕ Unit → Hp → Prop) : Wp (X1_requireArgument (nv 0)) a Q ↔ Q (.inl (1, hSz a)) (tw_ a) := by
  simp (disch := omega) only [X1_requireArgument, ↓w_bd, ↓w_rt, ↓w_bh, sm_l, sm_r, ↓w_okr, ↓w_nm, ↓w_ite, ↓reduceIte, not_true_eq_false, not_false_eq_true, and_true, true_and, and_self, Option.some.injEq, reduceCtorEq, eq_self, ↓w_rc, ↓w_gI, ↓w_gR, ↓w_aN, ↓w_aI, ↓w_aR, ↓w_aL, ↓w_pI, ↓w_pR, ↓w_sI, ↓w_sR, ↓w_sL, ↓w_nO, ↓w_nA, ↓w_nL, ↓w_ca, ↓w_ca0, ↓w_gS, ↓w_gK, ↓w_dv, ↓w_tw, ↓w_rz, ↓w_no, nv_lit, nv_f, nv_add, nv_mul, nv_sub, nv_le, nv_lt, nv_eq, nv_cl, Nat.reduceMod, Nat.reduceMul, Nat.reduceAdd, Nat.zero_add, Nat.add_zero, Nat.mul_zero, decide_eq_true_eq, nv_inT]
  rfl
theorem X1_requireState_1 {v : Int32} (hv : ¬ v = nv 0) (a : Hp) (Q : Ex ⊕ Unit → Hp → Prop) : Wp (X1_requireState v) a Q ↔ Q (.inr ()) a := by
  simp (disch := omega) only [X1_requireState, ↓w_bd, ↓w_rt, ↓w_bh, sm_l, sm_r, ↓w_okr, ↓w_nm, ↓w_ite, ↓reduceIte, not_true_eq_false, not_false_eq_true, and_true, true_and, and_self, Option.some.injEq, reduceCtorEq, eq_self, ↓w_rc, ↓w_gI, ↓w_gR, ↓w_aN, ↓w_aI, ↓w_aR, ↓w_aL, ↓w_pI, ↓w_pR, ↓w_sI, ↓w_sR, ↓w_sL, ↓w_nO, ↓w_nA, ↓w_nL, ↓w_ca, ↓w_ca0, ↓w_gS, ↓w_gK, ↓w_dv, ↓w_tw, ↓w_rz, ↓w_no, nv_lit, nv_f, nv_add, nv_mul, nv_sub, nv_le, nv_lt, nv_eq, nv_cl, Nat.reduceMod, Nat.reduceMul, Nat.reduceAdd, Nat.zero_add, Nat.add_zero, Nat.mul_zero, decide_eq_true_eq, nv_inT, hv]
theorem X1_requireState_0 (a : Hp) (Q : Ex ⊕ Unit → Hp → Prop) : Wp (X1_requireState (nv 0)) a Q ↔ Q (.inl (3, hSz a)) (tw_ a) := by
  simp (disch := omega) only [X1_requireState, ↓w_bd, ↓w_rt, ↓w_bh, sm_l, sm_r, ↓w_okr, ↓w_nm, ↓w_ite, ↓reduceIte, not_true_eq_false, not_false_eq_true, and_true, true_and, and_self, Option.some.injEq, reduceCtorEq, eq_self, ↓w_rc, ↓w_gI, ↓w_gR, ↓w_aN, ↓w_aI, ↓w_aR, ↓w_aL, ↓w_pI, ↓w_pR, ↓w_sI, ↓w_sR, ↓w_sL, ↓w_nO, ↓w_nA, ↓w_nL, ↓w_ca, ↓w_ca0, ↓w_gS, ↓w_gK, ↓w_dv, ↓w_tw, ↓w_rz, ↓w_no, nv_lit, nv_f, nv_add, nv_mul, nv_sub, nv_le, nv_lt, nv_eq, nv_cl, Nat.reduceMod, Nat.reduceMul, Nat.reduceAdd, Nat.zero_add, Nat.add_zero, Nat.mul_zero, decide_eq_true_eq, nv_inT]
  rfl
/-- within a count -/
def inr (v : Int32) (n : Nat) : Prop := 0 ≤ v.toInt ∧ v.toInt < n
theorem inr_k {v : Int32} {n : Nat} (h : inr v n) : ∃ k, v = nv k ∧ k < n := ⟨v.toInt.toNat, nv_of h.1, by have := h.2; have := h.1; omega⟩
theorem inr_nv {k n : Nat} (hk : k < n) (hn : n < 1000000) : inr (nv k) n := by
  unfold inr
  rw [nv_int (by omega)]
  omega
theorem bw_1 {v : Int32} {n : Nat} (h : inr v n) (hn : n < 1000000) : bw v (nv 0) (nv n - nv 1) = nv 1 := (bw_nv hn).trans (if_pos h)
theorem bw_0 {v : Int32} {n : Nat} (h : ¬ inr v n) (hn : n < 1000000) : bw v (nv 0) (nv n - nv 1) = nv 0 := (bw_nv hn).trans (if_neg h)
theorem bw_1' {v : Int32} {n m : Nat} (h : inr v n) (hn : n < 1000000) (hm : n = m + 1) : bw v (nv 0) (nv m) = nv 1 := by
  have := bw_nv1 (v := v) hn (show 1 ≤ n by omega)
  rw [show n - 1 = m by omega] at this
  exact this.trans (if_pos h)
theorem bw_0' {v : Int32} {n m : Nat} (h : ¬ inr v n) (hn : n < 1000000) (hm : n = m + 1) : bw v (nv 0) (nv m) = nv 0 := by
  have := bw_nv1 (v := v) hn (show 1 ≤ n by omega)
  rw [show n - 1 = m by omega] at this
  exact this.trans (if_neg h)
theorem X3_has_1 {B : Nat → Nat × Nat} {a : Hp} {L : Nat → Nat} {R : Nat → Int32} (hM : Mk B a L R) {v : Int32} (h : inr v (nH R)) (Q : Int32 → Hp → Prop) : Wp (X3_has (L 1) v) a Q ↔ Q (nv 1) a := by
  have h10 := (mk_w hM).2.1.2
  have hp : 1 ≤ nH R := by have := h.1; have := h.2; omega
  simp (disch := omega) only [X3_has, ↓w_bd, ↓w_rt, ↓w_bh, sm_l, sm_r, ↓w_okr, ↓w_nm, ↓w_ite, ↓reduceIte, not_true_eq_false, not_false_eq_true, and_true, true_and, and_self, Option.some.injEq, reduceCtorEq, eq_self, ↓w_rc, ↓w_gI, ↓w_gR, ↓w_aN, ↓w_aI, ↓w_aR, ↓w_aL, ↓w_pI, ↓w_pR, ↓w_sI, ↓w_sR, ↓w_sL, ↓w_nO, ↓w_nA, ↓w_nL, ↓w_ca, ↓w_ca0, ↓w_gS, ↓w_gK, ↓w_dv, ↓w_tw, ↓w_rz, ↓w_no, nv_lit, nv_f, nv_add, nv_mul, nv_sub, nv_le, nv_lt, nv_eq, nv_cl, Nat.reduceMod, Nat.reduceMul, Nat.reduceAdd, Nat.zero_add, Nat.add_zero, Nat.mul_zero, decide_eq_true_eq, nv_inT, mk_k hM, mk_n hM, mk_r hM, mk_i hM, X1_isBetween_w, bw_1' h (m := nH R - 1) (by omega) (by omega), nk1]
theorem X3_has_0 {B : Nat → Nat × Nat} {a : Hp} {L : Nat → Nat} {R : Nat → Int32} (hM : Mk B a L R) {v : Int32} (hp : 1 ≤ nH R) (h : ¬ inr v (nH R)) (Q : Int32 → Hp → Prop) : Wp (X3_has (L 1) v) a Q ↔ Q (nv 0) a := by
  have h10 := (mk_w hM).2.1.2
  simp (disch := omega) only [X3_has, ↓w_bd, ↓w_rt, ↓w_bh, sm_l, sm_r, ↓w_okr, ↓w_nm, ↓w_ite, ↓reduceIte, not_true_eq_false, not_false_eq_true, and_true, true_and, and_self, Option.some.injEq, reduceCtorEq, eq_self, ↓w_rc, ↓w_gI, ↓w_gR, ↓w_aN, ↓w_aI, ↓w_aR, ↓w_aL, ↓w_pI, ↓w_pR, ↓w_sI, ↓w_sR, ↓w_sL, ↓w_nO, ↓w_nA, ↓w_nL, ↓w_ca, ↓w_ca0, ↓w_gS, ↓w_gK, ↓w_dv, ↓w_tw, ↓w_rz, ↓w_no, nv_lit, nv_f, nv_add, nv_mul, nv_sub, nv_le, nv_lt, nv_eq, nv_cl, Nat.reduceMod, Nat.reduceMul, Nat.reduceAdd, Nat.zero_add, Nat.add_zero, Nat.mul_zero, decide_eq_true_eq, nv_inT, mk_k hM, mk_n hM, mk_r hM, mk_i hM, X1_isBetween_w, bw_0' h (m := nH R - 1) (by omega) (by omega), nk0]
theorem X3_has_c1 {B : Nat → Nat × Nat} {a : Hp} {L : Nat → Nat} {R : Nat → Int32} (hM : Mk B a L R) {v : Int32} (h : inr v (nC R)) (Q : Int32 → Hp → Prop) : Wp (X3_has (L 2) v) a Q ↔ Q (nv 1) a := by
  have h10 := (mk_w hM).2.2.1.2
  have hp : 1 ≤ nC R := by have := h.1; have := h.2; omega
  simp (disch := omega) only [X3_has, ↓w_bd, ↓w_rt, ↓w_bh, sm_l, sm_r, ↓w_okr, ↓w_nm, ↓w_ite, ↓reduceIte, not_true_eq_false, not_false_eq_true, and_true, true_and, and_self, Option.some.injEq, reduceCtorEq, eq_self, ↓w_rc, ↓w_gI, ↓w_gR, ↓w_aN, ↓w_aI, ↓w_aR, ↓w_aL, ↓w_pI, ↓w_pR, ↓w_sI, ↓w_sR, ↓w_sL, ↓w_nO, ↓w_nA, ↓w_nL, ↓w_ca, ↓w_ca0, ↓w_gS, ↓w_gK, ↓w_dv, ↓w_tw, ↓w_rz, ↓w_no, nv_lit, nv_f, nv_add, nv_mul, nv_sub, nv_le, nv_lt, nv_eq, nv_cl, Nat.reduceMod, Nat.reduceMul, Nat.reduceAdd, Nat.zero_add, Nat.add_zero, Nat.mul_zero, decide_eq_true_eq, nv_inT, mk_k hM, mk_n hM, mk_r hM, mk_i hM, X1_isBetween_w, bw_1' h (m := nC R - 1) (by omega) (by omega), nk1]
theorem X3_has_c0 {B : Nat → Nat × Nat} {a : Hp} {L : Nat → Nat} {R : Nat → Int32} (hM : Mk B a L R) {v : Int32} (h : ¬ inr v (nC R)) (Q : Int32 → Hp → Prop) : Wp (X3_has (L 2) v) a Q ↔ Q (nv 0) a := by
  have h10 := (mk_w hM).2.2.1.2
  have e := bw_0 h (by omega)
  by_cases hp : 1 ≤ nC R
  · rw [nv_sub hp] at e
    simp (disch := omega) only [X3_has, ↓w_bd, ↓w_rt, ↓w_bh, sm_l, sm_r, ↓w_okr, ↓w_nm, ↓w_ite, ↓reduceIte, not_true_eq_false, not_false_eq_true, and_true, true_and, and_self, Option.some.injEq, reduceCtorEq, eq_self, ↓w_rc, ↓w_gI, ↓w_gR, ↓w_aN, ↓w_aI, ↓w_aR, ↓w_aL, ↓w_pI, ↓w_pR, ↓w_sI, ↓w_sR, ↓w_sL, ↓w_nO, ↓w_nA, ↓w_nL, ↓w_ca, ↓w_ca0, ↓w_gS, ↓w_gK, ↓w_dv, ↓w_tw, ↓w_rz, ↓w_no, nv_lit, nv_f, nv_add, nv_mul, nv_sub, nv_le, nv_lt, nv_eq, nv_cl, Nat.reduceMod, Nat.reduceMul, Nat.reduceAdd, Nat.zero_add, Nat.add_zero, Nat.mul_zero, decide_eq_true_eq, nv_inT, mk_k hM, mk_n hM, mk_r hM, mk_i hM, X1_isBetween_w, e, nk0]
  · have hz : nC R = 0 := by omega
    rw [hz] at e
    simp (disch := omega) only [X3_has, ↓w_bd, ↓w_rt, ↓w_bh, sm_l, sm_r, ↓w_okr, ↓w_nm, ↓w_ite, ↓reduceIte, not_true_eq_false, not_false_eq_true, and_true, true_and, and_self, Option.some.injEq, reduceCtorEq, eq_self, ↓w_rc, ↓w_gI, ↓w_gR, ↓w_aN, ↓w_aI, ↓w_aR, ↓w_aL, ↓w_pI, ↓w_pR, ↓w_sI, ↓w_sR, ↓w_sL, ↓w_nO, ↓w_nA, ↓w_nL, ↓w_ca, ↓w_ca0, ↓w_gS, ↓w_gK, ↓w_dv, ↓w_tw, ↓w_rz, ↓w_no, nv_lit, nv_f, nv_add, nv_mul, nv_sub, nv_le, nv_lt, nv_eq, nv_cl, Nat.reduceMod, Nat.reduceMul, Nat.reduceAdd, Nat.zero_add, Nat.add_zero, Nat.mul_zero, decide_eq_true_eq, nv_inT, mk_k hM, mk_n hM, mk_r hM, mk_i hM, X1_isBetween_w, hz, e, nk0]
theorem X1_heapOf_1 {B : Nat → Nat × Nat} {a : Hp} {L : Nat → Nat} {R : Nat → Int32} (hM : Mk B a L R) {G : Nat → Nat} (hX : FX G a L) {k : Nat} (hk : k < nH R) (Q : Ex ⊕ Option Nat → Hp → Prop) : Wp (X1_heapOf (G 0) (nv k)) a Q ↔ Q (.inr (some (L (20 + k)))) a := by
  have h10 := (mk_w hM).2.1.2
  simp (disch := omega) only [X1_heapOf, ↓w_bd, ↓w_rt, ↓w_bh, sm_l, sm_r, ↓w_okr, ↓w_nm, ↓w_ite, ↓reduceIte, not_true_eq_false, not_false_eq_true, and_true, true_and, and_self, Option.some.injEq, reduceCtorEq, eq_self, ↓w_rc, ↓w_gI, ↓w_gR, ↓w_aN, ↓w_aI, ↓w_aR, ↓w_aL, ↓w_pI, ↓w_pR, ↓w_sI, ↓w_sR, ↓w_sL, ↓w_nO, ↓w_nA, ↓w_nL, ↓w_ca, ↓w_ca0, ↓w_gS, ↓w_gK, ↓w_dv, ↓w_tw, ↓w_rz, ↓w_no, nv_lit, nv_f, nv_add, nv_mul, nv_sub, nv_le, nv_lt, nv_eq, nv_cl, Nat.reduceMod, Nat.reduceMul, Nat.reduceAdd, Nat.zero_add, Nat.add_zero, Nat.mul_zero, decide_eq_true_eq, nv_inT, mk_k hM, mk_n hM, mk_r hM, mk_i hM, hX, X3_has_1 hM (inr_nv hk (by omega)), X1_requireIndex_1 (show ¬ nv 1 = nv 0 by decide), X3_at_h hM, ct_44]
theorem X1_heapOf_0 {B : Nat → Nat × Nat} {a : Hp} {L : Nat → Nat} {R : Nat → Int32} (hM : Mk B a L R) {G : Nat → Nat} (hX : FX G a L) (hp : 1 ≤ nH R) {v : Int32} (h : ¬ inr v (nH R)) (Q : Ex ⊕ Option Nat → Hp → Prop) : Wp (X1_heapOf (G 0) v) a Q ↔ Q (.inl (2, hSz a)) (tw_ a) := by
  have h10 := (mk_w hM).2.1.2
  simp (disch := omega) only [X1_heapOf, ↓w_bd, ↓w_rt, ↓w_bh, sm_l, sm_r, ↓w_okr, ↓w_nm, ↓w_ite, ↓reduceIte, not_true_eq_false, not_false_eq_true, and_true, true_and, and_self, Option.some.injEq, reduceCtorEq, eq_self, ↓w_rc, ↓w_gI, ↓w_gR, ↓w_aN, ↓w_aI, ↓w_aR, ↓w_aL, ↓w_pI, ↓w_pR, ↓w_sI, ↓w_sR, ↓w_sL, ↓w_nO, ↓w_nA, ↓w_nL, ↓w_ca, ↓w_ca0, ↓w_gS, ↓w_gK, ↓w_dv, ↓w_tw, ↓w_rz, ↓w_no, nv_lit, nv_f, nv_add, nv_mul, nv_sub, nv_le, nv_lt, nv_eq, nv_cl, Nat.reduceMod, Nat.reduceMul, Nat.reduceAdd, Nat.zero_add, Nat.add_zero, Nat.mul_zero, decide_eq_true_eq, nv_inT, mk_k hM, mk_n hM, mk_r hM, mk_i hM, hX, X3_has_0 hM hp h, X1_requireIndex_0]
theorem X1_claimOf_1 {B : Nat → Nat × Nat} {a : Hp} {L : Nat → Nat} {R : Nat → Int32} (hM : Mk B a L R) {G : Nat → Nat} (hX : FX G a L) {k : Nat} (hk : k < nC R) (Q : Ex ⊕ Option Nat → Hp → Prop) : Wp (X1_claimOf (G 0) (nv k)) a Q ↔ Q (.inr (some (L (40 + k)))) a := by
  have h10 := (mk_w hM).2.2.1.2
  simp (disch := omega) only [X1_claimOf, ↓w_bd, ↓w_rt, ↓w_bh, sm_l, sm_r, ↓w_okr, ↓w_nm, ↓w_ite, ↓reduceIte, not_true_eq_false, not_false_eq_true, and_true, true_and, and_self, Option.some.injEq, reduceCtorEq, eq_self, ↓w_rc, ↓w_gI, ↓w_gR, ↓w_aN, ↓w_aI, ↓w_aR, ↓w_aL, ↓w_pI, ↓w_pR, ↓w_sI, ↓w_sR, ↓w_sL, ↓w_nO, ↓w_nA, ↓w_nL, ↓w_ca, ↓w_ca0, ↓w_gS, ↓w_gK, ↓w_dv, ↓w_tw, ↓w_rz, ↓w_no, nv_lit, nv_f, nv_add, nv_mul, nv_sub, nv_le, nv_lt, nv_eq, nv_cl, Nat.reduceMod, Nat.reduceMul, Nat.reduceAdd, Nat.zero_add, Nat.add_zero, Nat.mul_zero, decide_eq_true_eq, nv_inT, mk_k hM, mk_n hM, mk_r hM, mk_i hM, hX, X3_has_c1 hM (inr_nv hk (by omega)), X1_requireIndex_1 (show ¬ nv 1 = nv 0 by decide), X3_at_c hM, ct_88]
theorem X1_claimOf_0 {B : Nat → Nat × Nat} {a : Hp} {L : Nat → Nat} {R : Nat → Int32} (hM : Mk B a L R) {G : Nat → Nat} (hX : FX G a L) {v : Int32} (h : ¬ inr v (nC R)) (Q : Ex ⊕ Option Nat → Hp → Prop) : Wp (X1_claimOf (G 0) v) a Q ↔ Q (.inl (2, hSz a)) (tw_ a) := by
  simp (disch := omega) only [X1_claimOf, ↓w_bd, ↓w_rt, ↓w_bh, sm_l, sm_r, ↓w_okr, ↓w_nm, ↓w_ite, ↓reduceIte, not_true_eq_false, not_false_eq_true, and_true, true_and, and_self, Option.some.injEq, reduceCtorEq, eq_self, ↓w_rc, ↓w_gI, ↓w_gR, ↓w_aN, ↓w_aI, ↓w_aR, ↓w_aL, ↓w_pI, ↓w_pR, ↓w_sI, ↓w_sR, ↓w_sL, ↓w_nO, ↓w_nA, ↓w_nL, ↓w_ca, ↓w_ca0, ↓w_gS, ↓w_gK, ↓w_dv, ↓w_tw, ↓w_rz, ↓w_no, nv_lit, nv_f, nv_add, nv_mul, nv_sub, nv_le, nv_lt, nv_eq, nv_cl, Nat.reduceMod, Nat.reduceMul, Nat.reduceAdd, Nat.zero_add, Nat.add_zero, Nat.mul_zero, decide_eq_true_eq, nv_inT, mk_k hM, mk_n hM, mk_r hM, mk_i hM, hX, X3_has_c0 hM h, X1_requireIndex_0]
theorem X1_requireTrader_1 {B : Nat → Nat × Nat} {a : Hp} {L : Nat → Nat} {R : Nat → Int32} (hM : Mk B a L R) {G : Nat → Nat} (hX : FX G a L) {v : Int32} (h : inr v (nT R)) (Q : Ex ⊕ Unit → Hp → Prop) : Wp (X1_requireTrader (G 0) v) a Q ↔ Q (.inr ()) a := by
  have h4 := (mk_w hM).1.2
  have hp : 1 ≤ nT R := by have := h.1; have := h.2; omega
  simp (disch := omega) only [X1_requireTrader, ↓w_bd, ↓w_rt, ↓w_bh, sm_l, sm_r, ↓w_okr, ↓w_nm, ↓w_ite, ↓reduceIte, not_true_eq_false, not_false_eq_true, and_true, true_and, and_self, Option.some.injEq, reduceCtorEq, eq_self, ↓w_rc, ↓w_gI, ↓w_gR, ↓w_aN, ↓w_aI, ↓w_aR, ↓w_aL, ↓w_pI, ↓w_pR, ↓w_sI, ↓w_sR, ↓w_sL, ↓w_nO, ↓w_nA, ↓w_nL, ↓w_ca, ↓w_ca0, ↓w_gS, ↓w_gK, ↓w_dv, ↓w_tw, ↓w_rz, ↓w_no, nv_lit, nv_f, nv_add, nv_mul, nv_sub, nv_le, nv_lt, nv_eq, nv_cl, Nat.reduceMod, Nat.reduceMul, Nat.reduceAdd, Nat.zero_add, Nat.add_zero, Nat.mul_zero, decide_eq_true_eq, nv_inT, mk_k hM, mk_n hM, mk_r hM, mk_i hM, hX, X1_isBetween_w, bw_1' h (m := nT R - 1) (by omega) (by omega), X1_requireIndex_1 (show ¬ nv 1 = nv 0 by decide)]
theorem X1_requireTrader_0 {B : Nat → Nat × Nat} {a : Hp} {L : Nat → Nat} {R : Nat → Int32} (hM : Mk B a L R) {G : Nat → Nat} (hX : FX G a L) (hp : 1 ≤ nT R) {v : Int32} (h : ¬ inr v (nT R)) (Q : Ex ⊕ Unit → Hp → Prop) : Wp (X1_requireTrader (G 0) v) a Q ↔ Q (.inl (2, hSz a)) (tw_ a) := by
  have h4 := (mk_w hM).1.2
  simp (disch := omega) only [X1_requireTrader, ↓w_bd, ↓w_rt, ↓w_bh, sm_l, sm_r, ↓w_okr, ↓w_nm, ↓w_ite, ↓reduceIte, not_true_eq_false, not_false_eq_true, and_true, true_and, and_self, Option.some.injEq, reduceCtorEq, eq_self, ↓w_rc, ↓w_gI, ↓w_gR, ↓w_aN, ↓w_aI, ↓w_aR, ↓w_aL, ↓w_pI, ↓w_pR, ↓w_sI, ↓w_sR, ↓w_sL, ↓w_nO, ↓w_nA, ↓w_nL, ↓w_ca, ↓w_ca0, ↓w_gS, ↓w_gK, ↓w_dv, ↓w_tw, ↓w_rz, ↓w_no, nv_lit, nv_f, nv_add, nv_mul, nv_sub, nv_le, nv_lt, nv_eq, nv_cl, Nat.reduceMod, Nat.reduceMul, Nat.reduceAdd, Nat.zero_add, Nat.add_zero, Nat.mul_zero, decide_eq_true_eq, nv_inT, mk_k hM, mk_n hM, mk_r hM, mk_i hM, hX, X1_isBetween_w, bw_0' h (m := nT R - 1) (by omega) (by omega), X1_requireIndex_0]
theorem X1_requireRow_1 {B : Nat → Nat × Nat} {a : Hp} {L : Nat → Nat} {R : Nat → Int32} (hM : Mk B a L R) {h : Nat} (hh : h < nH R) {v : Int32} (hv : inr v (nR R h)) (Q : Ex ⊕ Unit → Hp → Prop) : Wp (X1_requireRow (some (L (20 + h))) v) a Q ↔ Q (.inr ()) a := by
  have h5 := ((mk_w hM).2.2.2 h hh).2
  have hp : 1 ≤ nR R h := by have := hv.1; have := hv.2; omega
  simp (disch := omega) only [X1_requireRow, ↓w_bd, ↓w_rt, ↓w_bh, sm_l, sm_r, ↓w_okr, ↓w_nm, ↓w_ite, ↓reduceIte, not_true_eq_false, not_false_eq_true, and_true, true_and, and_self, Option.some.injEq, reduceCtorEq, eq_self, ↓w_rc, ↓w_gI, ↓w_gR, ↓w_aN, ↓w_aI, ↓w_aR, ↓w_aL, ↓w_pI, ↓w_pR, ↓w_sI, ↓w_sR, ↓w_sL, ↓w_nO, ↓w_nA, ↓w_nL, ↓w_ca, ↓w_ca0, ↓w_gS, ↓w_gK, ↓w_dv, ↓w_tw, ↓w_rz, ↓w_no, nv_lit, nv_f, nv_add, nv_mul, nv_sub, nv_le, nv_lt, nv_eq, nv_cl, Nat.reduceMod, Nat.reduceMul, Nat.reduceAdd, Nat.zero_add, Nat.add_zero, Nat.mul_zero, decide_eq_true_eq, nv_inT, mk_k hM, mk_n hM, mk_r hM, mk_i hM, X1_isBetween_w, bw_1' hv (m := nR R h - 1) (by omega) (by omega), X1_requireIndex_1 (show ¬ nv 1 = nv 0 by decide)]
theorem X1_requireRow_0 {B : Nat → Nat × Nat} {a : Hp} {L : Nat → Nat} {R : Nat → Int32} (hM : Mk B a L R) {h : Nat} (hh : h < nH R) (hp : 1 ≤ nR R h) {v : Int32} (hv : ¬ inr v (nR R h)) (Q : Ex ⊕ Unit → Hp → Prop) : Wp (X1_requireRow (some (L (20 + h))) v) a Q ↔ Q (.inl (2, hSz a)) (tw_ a) := by
  have h5 := ((mk_w hM).2.2.2 h hh).2
  simp (disch := omega) only [X1_requireRow, ↓w_bd, ↓w_rt, ↓w_bh, sm_l, sm_r, ↓w_okr, ↓w_nm, ↓w_ite, ↓reduceIte, not_true_eq_false, not_false_eq_true, and_true, true_and, and_self, Option.some.injEq, reduceCtorEq, eq_self, ↓w_rc, ↓w_gI, ↓w_gR, ↓w_aN, ↓w_aI, ↓w_aR, ↓w_aL, ↓w_pI, ↓w_pR, ↓w_sI, ↓w_sR, ↓w_sL, ↓w_nO, ↓w_nA, ↓w_nL, ↓w_ca, ↓w_ca0, ↓w_gS, ↓w_gK, ↓w_dv, ↓w_tw, ↓w_rz, ↓w_no, nv_lit, nv_f, nv_add, nv_mul, nv_sub, nv_le, nv_lt, nv_eq, nv_cl, Nat.reduceMod, Nat.reduceMul, Nat.reduceAdd, Nat.zero_add, Nat.add_zero, Nat.mul_zero, decide_eq_true_eq, nv_inT, mk_k hM, mk_n hM, mk_r hM, mk_i hM, X1_isBetween_w, bw_0' hv (m := nR R h - 1) (by omega) (by omega), X1_requireIndex_0]
