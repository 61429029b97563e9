/-! NOTHING IS THROWN at numbers that are right -/
def Thw {α : Type} (r : Ex ⊕ α) (_ : Hp) : Prop := ∃ e, r = .inl e
theorem nta_bd {α β : Type} {m : Mr α} {f : α → Mr (Ex ⊕ β)} (h : ∀ x b, ¬ Wp (f x) b Thw) (a : Hp) : ¬ Wp (bd m f) a Thw := by
  rw [w_bd]
  rintro ⟨x, b, -, h2⟩
  exact h x b h2
theorem nta_ok {α : Type} (m : Mr α) (a : Hp) : ¬ Wp (okr m) a (Thw : Ex ⊕ α → Hp → Prop) := by
  rw [w_okr]
  rintro ⟨x, b, -, e, h⟩
  cases h
theorem nta_no {α : Type} (a : Hp) : ¬ Wp (no : Mr (Ex ⊕ α)) a Thw := by
  rw [w_no]
  exact id
theorem nta_if {α : Type} (c : Prop) [Decidable c] {m n : Mr (Ex ⊕ α)} {a : Hp} (h1 : ¬ Wp m a Thw) (h2 : ¬ Wp n a Thw) : ¬ Wp (if c then m else n) a Thw := by
  split
  · exact h1
  · exact h2
def eyeH (v : Int32) (K : Mr (Ex ⊕ Int32)) : Mr (Ex ⊕ Int32) := bd (X1_isBetween v 0 9) fun x1 => bh (X1_requireArgument x1) (fun e => rt (.inl e)) fun _ => K
theorem nt_eye (G : Nat → Nat) {x : Nat} (hx : x ≤ 9) (a : Hp) : ¬ Wp (X1_setEye (G 0) (nv x)) a Thw := by
  obtain ⟨K, e, hn⟩ : ∃ K, X1_setEye (G 0) (nv x) = eyeH (nv x) K ∧ ∀ b, ¬ Wp K b Thw := by
    refine ⟨_, rfl, fun b => ?_⟩
    (repeat (first | exact nta_ok _ _ | exact nta_no _ | refine nta_bd (fun _ _ => ?_) _ | refine nta_if _ ?_ ?_))
  have hb := bw_1' (inr_nv (show x < 10 by omega) (by omega)) (by omega) (show 10 = 9 + 1 from rfl)
  rw [e]
  simp (disch := omega) only [eyeH, ↓w_bd, ↓w_rt, ↓w_bh, sm_l, sm_r, ↓w_okr, ↓w_nm, ↓w_ite, ↓reduceIte, not_true_eq_false, not_false_eq_true, and_true, true_and, and_self, Option.some.injEq, reduceCtorEq, eq_self, ↓w_rc, ↓w_gI, ↓w_gR, ↓w_aN, ↓w_aI, ↓w_aR, ↓w_aL, ↓w_pI, ↓w_pR, ↓w_sI, ↓w_sR, ↓w_sL, ↓w_nO, ↓w_nA, ↓w_nL, ↓w_ca, ↓w_ca0, ↓w_gS, ↓w_gK, ↓w_dv, ↓w_tw, ↓w_rz, ↓w_no, nv_lit, nv_f, nv_add, nv_mul, nv_sub, nv_le, nv_lt, nv_eq, nv_cl, Nat.reduceMod, Nat.reduceMul, Nat.reduceAdd, Nat.zero_add, Nat.add_zero, Nat.mul_zero, decide_eq_true_eq, nv_inT, X1_isBetween_w, hb, X1_requireArgument_1 n10]
  exact hn a
def swapH (h : Nat) (v w : Int32) (K : Option Nat → Option Nat → Mr (Ex ⊕ Int32)) : Mr (Ex ⊕ Int32) := bd (rc 1 (some h)) fun h' => bh (X1_heapOf h' v) (fun e => rt (.inl e)) fun x1 => bd (rc 1 (some h)) fun h' => bh (X1_heapOf h' w) (fun e => rt (.inl e)) fun x2 => K x1 x2
theorem nt_swap {G : Nat → Nat} {B : Nat → Nat × Nat} {a : Hp} {L : Nat → Nat} {R : Nat → Int32} (hM : Mk B a L R) (hX : FX G a L) {x y : Nat} (hx : x < nH R) (hy : y < nH R) : ¬ Wp (X1_swap (G 0) (nv x) (nv y)) a Thw := by
  obtain ⟨K, e, hn⟩ : ∃ K, X1_swap (G 0) (nv x) (nv y) = swapH (G 0) (nv x) (nv y) K ∧ ∀ u v b, ¬ Wp (K u v) b Thw := by
    refine ⟨fun u v => _, rfl, fun u v b => ?_⟩
    (repeat (first | exact nta_ok _ _ | exact nta_no _ | refine nta_bd (fun _ _ => ?_) _ | refine nta_if _ ?_ ?_))
  rw [e]
  simp (disch := omega) only [swapH, ↓w_bd, ↓w_rt, ↓w_bh, sm_l, sm_r, ↓w_okr, ↓w_nm, ↓w_ite, ↓reduceIte, not_true_eq_false, not_false_eq_true, and_true, true_and, and_self, Option.some.injEq, reduceCtorEq, eq_self, ↓w_rc, ↓w_gI, ↓w_gR, ↓w_aN, ↓w_aI, ↓w_aR, ↓w_aL, ↓w_pI, ↓w_pR, ↓w_sI, ↓w_sR, ↓w_sL, ↓w_nO, ↓w_nA, ↓w_nL, ↓w_ca, ↓w_ca0, ↓w_gS, ↓w_gK, ↓w_dv, ↓w_tw, ↓w_rz, ↓w_no, nv_lit, nv_f, nv_add, nv_mul, nv_sub, nv_le, nv_lt, nv_eq, nv_cl, Nat.reduceMod, Nat.reduceMul, Nat.reduceAdd, Nat.zero_add, Nat.add_zero, Nat.mul_zero, decide_eq_true_eq, nv_inT, hX, X1_heapOf_1 hM hX]
  exact hn _ _ a
def putH (h : Nat) (v r s : Int32) (K : Option Nat → Mr (Ex ⊕ Int32)) : Mr (Ex ⊕ Int32) := bd (rc 1 (some h)) fun h' => bh (X1_heapOf h' v) (fun e => rt (.inl e)) fun x1 => bh (X1_requireRow x1 r) (fun e => rt (.inl e)) fun _ => bd (X1_isBetween s 0 9) fun x3 => bh (X1_requireArgument x3) (fun e => rt (.inl e)) fun _ => K x1
theorem nt_put {G : Nat → Nat} {B : Nat → Nat × Nat} {a : Hp} {L : Nat → Nat} {R : Nat → Int32} (hM : Mk B a L R) (hX : FX G a L) {x r s : Nat} (hx : x < nH R) (hr : inr (nv r) (nR R x)) (hs : s ≤ 9) : ¬ Wp (X1_put (G 0) (nv x) (nv r) (nv s)) a Thw := by
  obtain ⟨K, e, hn⟩ : ∃ K, X1_put (G 0) (nv x) (nv r) (nv s) = putH (G 0) (nv x) (nv r) (nv s) K ∧ ∀ u b, ¬ Wp (K u) b Thw := by
    refine ⟨fun u => _, rfl, fun u b => ?_⟩
    (repeat (first | exact nta_ok _ _ | exact nta_no _ | refine nta_bd (fun _ _ => ?_) _ | refine nta_if _ ?_ ?_))
  have hb := bw_1' (inr_nv (show s < 10 by omega) (by omega)) (by omega) (show 10 = 9 + 1 from rfl)
  rw [e]
  simp (disch := omega) only [putH, ↓w_bd, ↓w_rt, ↓w_bh, sm_l, sm_r, ↓w_okr, ↓w_nm, ↓w_ite, ↓reduceIte, not_true_eq_false, not_false_eq_true, and_true, true_and, and_self, Option.some.injEq, reduceCtorEq, eq_self, ↓w_rc, ↓w_gI, ↓w_gR, ↓w_aN, ↓w_aI, ↓w_aR, ↓w_aL, ↓w_pI, ↓w_pR, ↓w_sI, ↓w_sR, ↓w_sL, ↓w_nO, ↓w_nA, ↓w_nL, ↓w_ca, ↓w_ca0, ↓w_gS, ↓w_gK, ↓w_dv, ↓w_tw, ↓w_rz, ↓w_no, nv_lit, nv_f, nv_add, nv_mul, nv_sub, nv_le, nv_lt, nv_eq, nv_cl, Nat.reduceMod, Nat.reduceMul, Nat.reduceAdd, Nat.zero_add, Nat.add_zero, Nat.mul_zero, decide_eq_true_eq, nv_inT, hX, X1_heapOf_1 hM hX, X1_requireRow_1 hM hx hr, X1_isBetween_w, hb, X1_requireArgument_1 n10]
  exact hn _ a
def clmH (h : Nat) (v : Int32) (K : Option Nat → Mr (Ex ⊕ Int32)) : Mr (Ex ⊕ Int32) := bd (rc 1 (some h)) fun h' => bh (X1_claimOf h' v) (fun e => rt (.inl e)) fun x1 => K x1
theorem nt_drop {G : Nat → Nat} {B : Nat → Nat × Nat} {a : Hp} {L : Nat → Nat} {R : Nat → Int32} (hM : Mk B a L R) (hX : FX G a L) {x : Nat} (hx : x < nC R) : ¬ Wp (X1_drop (G 0) (nv x)) a Thw := by
  obtain ⟨K, e, hn⟩ : ∃ K, X1_drop (G 0) (nv x) = clmH (G 0) (nv x) K ∧ ∀ u b, ¬ Wp (K u) b Thw := by
    refine ⟨fun u => _, rfl, fun u b => ?_⟩
    (repeat (first | exact nta_ok _ _ | exact nta_no _ | refine nta_bd (fun _ _ => ?_) _ | refine nta_if _ ?_ ?_))
  rw [e]
  simp (disch := omega) only [clmH, ↓w_bd, ↓w_rt, ↓w_bh, sm_l, sm_r, ↓w_okr, ↓w_nm, ↓w_ite, ↓reduceIte, not_true_eq_false, not_false_eq_true, and_true, true_and, and_self, Option.some.injEq, reduceCtorEq, eq_self, ↓w_rc, ↓w_gI, ↓w_gR, ↓w_aN, ↓w_aI, ↓w_aR, ↓w_aL, ↓w_pI, ↓w_pR, ↓w_sI, ↓w_sR, ↓w_sL, ↓w_nO, ↓w_nA, ↓w_nL, ↓w_ca, ↓w_ca0, ↓w_gS, ↓w_gK, ↓w_dv, ↓w_tw, ↓w_rz, ↓w_no, nv_lit, nv_f, nv_add, nv_mul, nv_sub, nv_le, nv_lt, nv_eq, nv_cl, Nat.reduceMod, Nat.reduceMul, Nat.reduceAdd, Nat.zero_add, Nat.add_zero, Nat.mul_zero, decide_eq_true_eq, nv_inT, hX, X1_claimOf_1 hM hX]
  exact hn _ a
theorem nt_close {G : Nat → Nat} {B : Nat → Nat × Nat} {a : Hp} {L : Nat → Nat} {R : Nat → Int32} (hM : Mk B a L R) (hX : FX G a L) {x : Nat} (hx : x < nC R) : ¬ Wp (X1_close (G 0) (nv x)) a Thw := by
  obtain ⟨K, e, hn⟩ : ∃ K, X1_close (G 0) (nv x) = clmH (G 0) (nv x) K ∧ ∀ u b, ¬ Wp (K u) b Thw := by
    refine ⟨fun u => _, rfl, fun u b => ?_⟩
    (repeat (first | exact nta_ok _ _ | exact nta_no _ | refine nta_bd (fun _ _ => ?_) _ | refine nta_if _ ?_ ?_))
  rw [e]
  simp (disch := omega) only [clmH, ↓w_bd, ↓w_rt, ↓w_bh, sm_l, sm_r, ↓w_okr, ↓w_nm, ↓w_ite, ↓reduceIte, not_true_eq_false, not_false_eq_true, and_true, true_and, and_self, Option.some.injEq, reduceCtorEq, eq_self, ↓w_rc, ↓w_gI, ↓w_gR, ↓w_aN, ↓w_aI, ↓w_aR, ↓w_aL, ↓w_pI, ↓w_pR, ↓w_sI, ↓w_sR, ↓w_sL, ↓w_nO, ↓w_nA, ↓w_nL, ↓w_ca, ↓w_ca0, ↓w_gS, ↓w_gK, ↓w_dv, ↓w_tw, ↓w_rz, ↓w_no, nv_lit, nv_f, nv_add, nv_mul, nv_sub, nv_le, nv_lt, nv_eq, nv_cl, Nat.reduceMod, Nat.reduceMul, Nat.reduceAdd, Nat.zero_add, Nat.add_zero, Nat.mul_zero, decide_eq_true_eq, nv_inT, hX, X1_claimOf_1 hM hX]
  exact hn _ a
theorem nt_43 : ∀ (f h : Nat) (u : Option Nat) (v : Int32) (b : Hp), ¬ Wp (X1_match_43 f h u v) b Thw := by
  intro f
  induction f with
  | zero => intro h u v b; exact nta_no b
  | succ f ih =>
    intro h u v b
    rw [X1_match_43]
    refine nta_bd (fun _ _ => ?_) _
    refine nta_bd (fun _ _ => ?_) _
    refine nta_bd (fun _ _ => ?_) _
    refine nta_if _ (nta_ok _ _) ?_
    refine nta_bd (fun _ _ => ?_) _
    refine nta_bd (fun _ _ => ?_) _
    refine nta_bd (fun _ _ => ?_) _
    exact ih _ _ _ _
theorem nt_match {G : Nat → Nat} {B : Nat → Nat × Nat} {a : Hp} {L : Nat → Nat} {R : Nat → Int32} (hM : Mk B a L R) (hX : FX G a L) {x : Nat} (hx : x < nC R) : ¬ Wp (X1_match (G 0) (nv x)) a Thw := by
  obtain ⟨K, e, hn⟩ : ∃ K, X1_match (G 0) (nv x) = clmH (G 0) (nv x) K ∧ ∀ u b, ¬ Wp (K u) b Thw := by
    refine ⟨fun u => _, rfl, fun u b => ?_⟩
    (repeat (first | exact nta_ok _ _ | exact nta_no _ | exact nt_43 _ _ _ _ _ | refine nta_bd (fun _ _ => ?_) _ | refine nta_if _ ?_ ?_))
  rw [e]
  simp (disch := omega) only [clmH, ↓w_bd, ↓w_rt, ↓w_bh, sm_l, sm_r, ↓w_okr, ↓w_nm, ↓w_ite, ↓reduceIte, not_true_eq_false, not_false_eq_true, and_true, true_and, and_self, Option.some.injEq, reduceCtorEq, eq_self, ↓w_rc, ↓w_gI, ↓w_gR, ↓w_aN, ↓w_aI, ↓w_aR, ↓w_aL, ↓w_pI, ↓w_pR, ↓w_sI, ↓w_sR, ↓w_sL, ↓w_nO, ↓w_nA, ↓w_nL, ↓w_ca, ↓w_ca0, ↓w_gS, ↓w_gK, ↓w_dv, ↓w_tw, ↓w_rz, ↓w_no, nv_lit, nv_f, nv_add, nv_mul, nv_sub, nv_le, nv_lt, nv_eq, nv_cl, Nat.reduceMod, Nat.reduceMul, Nat.reduceAdd, Nat.zero_add, Nat.add_zero, Nat.mul_zero, decide_eq_true_eq, nv_inT, hX, X1_claimOf_1 hM hX]
  exact hn _ a
def pairH (h : Nat) (v r q : Int32) (K : Option Nat → Mr (Ex ⊕ Int32)) : Mr (Ex ⊕ Int32) :=
  bd (rc 1 (some h)) fun h' => bh (X1_claimOf h' v) (fun e => rt (.inl e)) fun x1 => bd (gR 1 4 (some h)) fun x2 => bd (gR 2 0 x2) fun x3 => bd (gI 8 2 x1) fun x4 => bd (rc 3 x3) fun h' => bd (X3_at h' x4) fun x5 => bd (ca [4] x5) fun _ => bh (X1_requireRow x5 r) (fun e => rt (.inl e)) fun _ => bd (gR 1 4 (some h)) fun x7 => bd (gR 2 0 x7) fun x8 => bd (gI 8 3 x1) fun x9 => bd (rc 3 x8) fun h' => bd (X3_at h' x9) fun x10 => bd (ca [4] x10) fun _ => bh (X1_requireRow x10 q) (fun e => rt (.inl e)) fun _ => K x1
theorem nt_pair {G : Nat → Nat} {B : Nat → Nat × Nat} {a : Hp} {L : Nat → Nat} {R : Nat → Int32} (hM : Mk B a L R) (hX : FX G a L) (hS : Sh R) {c : Nat} {r q : Int32} (hc : c < nC R) (hr : inr r (nR R (sd R c 0))) (hq : inr q (nR R (sd R c 1))) : ¬ Wp (X1_pair (G 0) (nv c) r q) a Thw := by
  obtain ⟨K, e, hn⟩ : ∃ K, X1_pair (G 0) (nv c) r q = pairH (G 0) (nv c) r q K ∧ ∀ u b, ¬ Wp (K u) b Thw := by
    refine ⟨fun u => _, rfl, fun u b => ?_⟩
    (repeat (first | exact nta_ok _ _ | exact nta_no _ | refine nta_bd (fun _ _ => ?_) _ | refine nta_if _ ?_ ?_ | unfold X1_pair_93))
  have h20 := sh_C20 hS
  have sh0 := sh_SH hS hc (show 0 < 2 by omega)
  have sh1 := sh_SH hS hc (show 1 < 2 by omega)
  have ea0 : cs R c 1 = nv (sd R c 0) := sh_S hS hc (s := 0) (by omega)
  have ea1 : cs R c 2 = nv (sd R c 1) := sh_S hS hc (s := 1) (by omega)
  rw [e]
  simp (disch := omega) only [pairH, ↓w_bd, ↓w_rt, ↓w_bh, sm_l, sm_r, ↓w_okr, ↓w_nm, ↓w_ite, ↓reduceIte, not_true_eq_false, not_false_eq_true, and_true, true_and, and_self, Option.some.injEq, reduceCtorEq, eq_self, ↓w_rc, ↓w_gI, ↓w_gR, ↓w_aN, ↓w_aI, ↓w_aR, ↓w_aL, ↓w_pI, ↓w_pR, ↓w_sI, ↓w_sR, ↓w_sL, ↓w_nO, ↓w_nA, ↓w_nL, ↓w_ca, ↓w_ca0, ↓w_gS, ↓w_gK, ↓w_dv, ↓w_tw, ↓w_rz, ↓w_no, nv_lit, nv_f, nv_add, nv_mul, nv_sub, nv_le, nv_lt, nv_eq, nv_cl, Nat.reduceMod, Nat.reduceMul, Nat.reduceAdd, Nat.zero_add, Nat.add_zero, Nat.mul_zero, decide_eq_true_eq, nv_inT, mk_k hM, mk_n hM, mk_r hM, mk_i hM, hX, X1_claimOf_1 hM hX, ea0, ea1, X3_at_h hM, List.contains_cons, List.contains_nil, Nat.reduceBEq, Bool.or_true, Bool.true_or, Bool.or_false, BEq.rfl, ct_44, X1_requireRow_1 hM sh0 hr, X1_requireRow_1 hM sh1 hq]
  exact hn _ a
def sayH (h : Nat) (v x w y : Int32) (K : Mr (Ex ⊕ Int32)) : Mr (Ex ⊕ Int32) :=
  bd (rc 1 (some h)) fun h' => bh (X1_requireTrader h' v) (fun e => rt (.inl e)) fun _ => bd (nA 41 2) fun q2 => bd (sI 41 (some q2) 0 x) fun _ => bd (sI 41 (some q2) 1 y) fun _ => bd (rc 1 (some h)) fun h' => bh (X1_requireHeaps h' (some q2)) (fun e => rt (.inl e)) fun _ => bd (X1_isBetween w 0 2) fun x4 => bh (X1_requireArgument x4) (fun e => rt (.inl e)) fun _ => K
theorem nt_say {G : Nat → Nat} {B : Nat → Nat × Nat} {a : Hp} {L : Nat → Nat} {R : Nat → Int32} (hM0 : Mk B a L R) (hX0 : FX G a L) {v x y : Int32} {w : Nat} (hv : inr v (nT R)) (hx : inr x (nH R)) (hy : inr y (nH R)) (hw : w ≤ 2) : ¬ Wp (X1_say (G 0) v x (nv w) y) a Thw := by
  obtain ⟨K, e, hn⟩ : ∃ K, X1_say (G 0) v x (nv w) y = sayH (G 0) v x (nv w) y K ∧ ∀ b, ¬ Wp K b Thw := by
    refine ⟨_, rfl, fun b => ?_⟩
    (repeat (first | exact nta_ok _ _ | exact nta_no _ | refine nta_bd (fun _ _ => ?_) _ | refine nta_if _ ?_ ?_))
  have hb := bw_1' (inr_nv (show w < 3 by omega) (by omega)) (by omega) (show 3 = 2 + 1 from rfl)
  have hX := hX0.ext (va2_e a x y)
  have hM := hM0.ext (va2_e a x y) (B' := B) (fun _ _ => rfl)
  rw [e]
  simp (disch := omega) only [sayH, ↓w_bd, ↓w_rt, ↓w_bh, sm_l, sm_r, ↓w_okr, ↓w_nm, ↓w_ite, ↓reduceIte, not_true_eq_false, not_false_eq_true, and_true, true_and, and_self, Option.some.injEq, reduceCtorEq, eq_self, ↓w_rc, ↓w_gI, ↓w_gR, ↓w_aN, ↓w_aI, ↓w_aR, ↓w_aL, ↓w_pI, ↓w_pR, ↓w_sI, ↓w_sR, ↓w_sL, ↓w_nO, ↓w_nA, ↓w_nL, ↓w_ca, ↓w_ca0, ↓w_gS, ↓w_gK, ↓w_dv, ↓w_tw, ↓w_rz, ↓w_no, nv_lit, nv_f, nv_add, nv_mul, nv_sub, nv_le, nv_lt, nv_eq, nv_cl, Nat.reduceMod, Nat.reduceMul, Nat.reduceAdd, Nat.zero_add, Nat.add_zero, Nat.mul_zero, decide_eq_true_eq, nv_inT, hX0, hX, X1_requireTrader_1 hM0 hX0 hv, va1_f, va2_f, hK_new, hN_new, hK_wI, hN_wI, up1_s, Nat.reduceLeDiff, Nat.not_lt_zero, X1_requireHeaps_11 hM hX hx hy (va2_q a _ _), X1_isBetween_w, hb, X1_requireArgument_1 n10]
  exact hn _
