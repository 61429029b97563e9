/-! A HEAP COPIED -/
theorem w_cA' {q n : Nat} {b : Hp} {Q : Nat → Hp → Prop} (hk : hK b q = 41) (hn : hN b q = n) (h : ∀ c, E0 b c → hSz c = hSz b + 1 → hSl c = hSl b + n → hK c (hSz b) = 41 → hN c (hSz b) = n → hI c (hSz b) = hI b q → Q (hSz b) c) : Wp (cA 41 (some q)) b Q := by
  rw [w_cA]
  refine ⟨⟨hk, by unfold okB; simp⟩, ?_⟩
  refine h _ ((E0.rf b).new _ _ _ _ _) rfl ?_ ?_ ?_ ?_
  · show hSl b + hN b q = _
    rw [hn]
  · rw [hK_new, up1_s]
  · rw [hN_new, up1_s, hn]
  · rw [hI_new, up1_s]
/-- rows with one heap more -/
def rH (Rn R : Nat → Int32) (k i : Nat) : Int32 := if i = 1 then nv (k + 1) else if 15 + 7 * k ≤ i ∧ i < 15 + 7 * k + 7 then R i else Rn i
theorem X4_copy_w {B : Nat → Nat × Nat} {c : Hp} {L : Nat → Nat} {R : Nat → Int32} (hM : Mk B c L R) {k : Nat} (hk : k < nH R) (Q : Unit → Hp → Prop) {b : Hp} {p : Nat} (hp : p = hSz c) (hb : hSz b = p + 1) (hE : E0 c b) (kb : hK b p = 4)
    (h : ∀ d, E0 c d → hSz d = p + 2 → hSl d = hSl b + nR R k → hK d p = 4 → hK d (p + 1) = 41 → hN d (p + 1) = nR R k → hR d p 1 = some (p + 1) → hI d p 0 = nv k → hI d p 2 = R (15 + 7 * k) → (∀ r, r < nR R k → hI d (p + 1) r = R (15 + 7 * k + (2 + r))) → Q () d) : Wp (X4_init_3 p (some (L (20 + k)))) b Q := by
  have hMb := hM.ext hE (B' := B) (fun _ _ => rfl)
  have h10 := (mk_w hM).2.1.2
  have kk := mk_k hMb
  have rr := mk_r hMb
  have ii := mk_i hMb
  have nn := mk_n hMb
  unfold X4_init_3
  rw [w_bd, w_gR]
  refine ⟨by rw [kk.2.2.1 k hk], ?_⟩
  rw [rr.2.2.2.1 k hk, w_bd]
  refine w_cA' (kk.2.2.2.1 k hk) (nn.2.2.1 k hk) fun d e1 z1 l1 k1 n1 i1 => ?_
  have hMd := hMb.ext e1 (B' := B) (fun _ _ => rfl)
  have kd := mk_k hMd
  have id := mk_i hMd
  have kdp : hK d p = 4 := by rw [(e1.2.2 p (by omega)).1]; exact kb
  have k1' : hK d (hSz b) = 41 := k1
  have ne : L (20 + k) ≠ p := by
    have := (hM.2.1 _ (lv_20 hk)).1
    omega
  simp (disch := omega) only [X4_init_2, ↓w_bd, ↓w_rt, ↓w_bh, sm_l, sm_r, ↓w_okr, ↓w_nm, ↓w_ite, ↓reduceIte, not_true_eq_false, not_false_eq_true, and_true, true_and, and_self, Option.some.injEq, reduceCtorEq, eq_self, ↓w_rc, ↓w_gI, ↓w_gR, ↓w_aN, ↓w_aI, ↓w_aR, ↓w_aL, ↓w_pI, ↓w_pR, ↓w_sI, ↓w_sR, ↓w_sL, ↓w_nO, ↓w_nA, ↓w_nL, ↓w_ca, ↓w_ca0, ↓w_gS, ↓w_gK, ↓w_dv, ↓w_tw, ↓w_rz, ↓w_no, nv_lit, nv_f, nv_add, nv_mul, nv_sub, nv_le, nv_lt, nv_eq, nv_cl, Nat.reduceMod, Nat.reduceMul, Nat.reduceAdd, Nat.zero_add, Nat.add_zero, Nat.mul_zero, decide_eq_true_eq, nv_inT, ↓w_caW, k1', kd, id, kdp, hK_wI, show ∀ z, okN 0 z = true from fun _ => rfl]
  refine h _ ((((hE.tr e1).wI (by omega) _).wI (by omega) _).wR (by omega) _) ?_ ?_ ?_ ?_ ?_ ?_ ?_ ?_ fun r hr => ?_
  · show hSz d = _; omega
  · show hSl d = _; omega
  · exact kdp
  · show hK d (p + 1) = 41; rw [← hb]; exact k1
  · show hN d (p + 1) = _; rw [← hb]; exact n1
  · rw [hR_wR, up1_s, up1_s, hb]
  · rw [hI_wR, hI_wI, up1_s, up1_n _ _ (by omega), hI_wI, up1_s, up1_s]
  · rw [hI_wR, hI_wI, up1_s, up1_s]
  · rw [hI_wR, hI_wI, up1_n _ _ (by omega), hI_wI, up1_n _ _ (by omega), ← hb, i1]
    exact ii.2.2.2.2.2.1 k r hk hr
theorem X3_add_h {B : Nat → Nat × Nat} {a : Hp} {L : Nat → Nat} {R : Nat → Int32} (hM : Mk B a L R) {k p : Nat} (hk : nH R = k) (hk10 : k < 10) (kp : hK a p = 4) (Q : Unit → Hp → Prop) : Wp (X3_add (L 1) (some p)) a Q ↔ Q () (hwI (hwR a (L 3) (up1 (hR a (L 3)) k (some p))) (L 1) (up1 (hI a (L 1)) 1 (nv (k + 1)))) := by
  have ok : okR a [4, 8, 2] (some p) = true := by show [4, 8, 2].contains (hK a p) = true; rw [kp]; decide
  have kk := mk_k hM
  have ii := (mk_i hM).1.2.1
  rw [hk] at ii
  have h13 : L 1 ≠ L 3 := fun e => by
    have := mk_L hM (lv_0 (by omega)) (lv_0 (by omega)) e
    omega
  have r1 : hR (hwR a (L 3) (up1 (hR a (L 3)) k (some p))) (L 1) = hR a (L 1) := by rw [hR_wR, up1_n _ _ h13]
  simp (disch := omega) only [X3_add, ↓w_bd, ↓w_rt, ↓w_bh, sm_l, sm_r, ↓w_okr, ↓w_nm, ↓w_ite, ↓reduceIte, not_true_eq_false, not_false_eq_true, and_true, true_and, and_self, Option.some.injEq, reduceCtorEq, eq_self, ↓w_rc, ↓w_gI, ↓w_gR, ↓w_aN, ↓w_aI, ↓w_aR, ↓w_aL, ↓w_pI, ↓w_pR, ↓w_sI, ↓w_sR, ↓w_sL, ↓w_nO, ↓w_nA, ↓w_nL, ↓w_ca, ↓w_ca0, ↓w_gS, ↓w_gK, ↓w_dv, ↓w_tw, ↓w_rz, ↓w_no, nv_lit, nv_f, nv_add, nv_mul, nv_sub, nv_le, nv_lt, nv_eq, nv_cl, Nat.reduceMod, Nat.reduceMul, Nat.reduceAdd, Nat.zero_add, Nat.add_zero, Nat.mul_zero, decide_eq_true_eq, nv_inT, kk, mk_r hM, mk_n hM, ii, ok, hK_wR, hI_wR, show ∀ z, okN 0 z = true from fun _ => rfl]
theorem X3_add_c {B : Nat → Nat × Nat} {a : Hp} {L : Nat → Nat} {R : Nat → Int32} (hM : Mk B a L R) {k p : Nat} (hk : nC R = k) (hk20 : k < 20) (kp : hK a p = 8) (Q : Unit → Hp → Prop) : Wp (X3_add (L 2) (some p)) a Q ↔ Q () (hwI (hwR a (L 4) (up1 (hR a (L 4)) k (some p))) (L 2) (up1 (hI a (L 2)) 1 (nv (k + 1)))) := by
  have ok : okR a [4, 8, 2] (some p) = true := by show [4, 8, 2].contains (hK a p) = true; rw [kp]; decide
  have kk := mk_k hM
  have ii := (mk_i hM).1.2.2
  rw [hk] at ii
  simp (disch := omega) only [X3_add, ↓w_bd, ↓w_rt, ↓w_bh, sm_l, sm_r, ↓w_okr, ↓w_nm, ↓w_ite, ↓reduceIte, not_true_eq_false, not_false_eq_true, and_true, true_and, and_self, Option.some.injEq, reduceCtorEq, eq_self, ↓w_rc, ↓w_gI, ↓w_gR, ↓w_aN, ↓w_aI, ↓w_aR, ↓w_aL, ↓w_pI, ↓w_pR, ↓w_sI, ↓w_sR, ↓w_sL, ↓w_nO, ↓w_nA, ↓w_nL, ↓w_ca, ↓w_ca0, ↓w_gS, ↓w_gK, ↓w_dv, ↓w_tw, ↓w_rz, ↓w_no, nv_lit, nv_f, nv_add, nv_mul, nv_sub, nv_le, nv_lt, nv_eq, nv_cl, Nat.reduceMod, Nat.reduceMul, Nat.reduceAdd, Nat.zero_add, Nat.add_zero, Nat.mul_zero, decide_eq_true_eq, nv_inT, kk, mk_r hM, mk_n hM, ii, ok, hK_wR, hI_wR, show ∀ z, okN 0 z = true from fun _ => rfl]
