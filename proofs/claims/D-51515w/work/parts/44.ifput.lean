/-! WHAT IF A ROW HAD SO MANY STONES -/
theorem i32_shuf (x y z : Int32) : x + y - y + z = x + z := by rw [Int32.add_sub_cancel]
theorem su_up {f : Nat → Int32} {r : Nat} (v : Int32) : ∀ {n : Nat}, r < n → su (up1 f r v) n = su f n - f r + v := by
  intro n
  induction n with
  | zero => intro h; omega
  | succ n ih =>
    intro h
    rw [su, su]
    by_cases c : r = n
    · subst c
      rw [up1_s, su_cg (g := f) (fun k hk => up1_o _ _ _ (by omega)), i32_shuf]
    · rw [up1_o _ _ _ (Ne.symm c), ih (by omega)]
      simp only [Int32.sub_eq_add_neg]
      ac_rfl
theorem st_up (R : Nat → Int32) (k r : Nat) (v : Int32) {x q : Nat} (hq : q < 5) (hr : r < 5) : st (up1 R (15 + 7 * k + (2 + r)) v) x q = if x = k ∧ q = r then v else st R x q := by
  unfold st
  by_cases c : x = k ∧ q = r
  · rw [c.1, c.2, up1_s]; simp
  · rw [up1_o _ _ _ (by omega), if_neg c]
theorem sz_up {R : Nat → Int32} (hS : Sh R) {k r : Nat} (hk : k < nH R) (hr : r < nR R k) (v : Int32) : Sh (up1 R (15 + 7 * k + (2 + r)) v) ∧ sz (up1 R (15 + 7 * k + (2 + r)) v) k = sz R k - st R k r + v := by
  have h10 := sh_H10 hS
  have h5 := sh_R5 hS hk
  have hsh := sh_up hS (k := 15 + 7 * k + (2 + r)) v (by omega) (by omega) (by omega) (fun x _ => ⟨by omega, by omega⟩) (fun c _ => ⟨by omega, by omega, by omega⟩)
  refine ⟨hsh.1, ?_⟩
  unfold sz
  rw [(hsh.2.2.2.2.1 k hk).1, ← su_up v hr]
  refine su_cg fun q hq => ?_
  rw [st_up R k r v (by omega) (by omega)]
  unfold up1
  simp only [true_and]
theorem hwI_id (a : Hp) (q : Nat) : hwI a q (hI a q) = a := by
  unfold hwI
  have : up1 (hI a) q (hI a q) = hI a := by
    funext p
    unfold up1
    split
    · rename_i c; rw [c]
    · rfl
  rw [this]
  rfl
theorem up1_id {α : Type} (f : Nat → α) (q : Nat) : up1 f q (f q) = f := by
  funext p
  unfold up1
  split
  · rename_i c; rw [c]
  · rfl
theorem nv_inr {v : Int32} {n : Nat} (h : inr v n) : ∃ k, v = nv k ∧ k < n := inr_k h
theorem X5_ifPut_x {G : Nat → Nat} {a : Hp} {o : Nat} {R : Nat → Int32} (hF : FO G a o R) (hG : GD G) (hS : Sh R) {v r s w : Int32} (h : ¬ inr v (nH R)) (Q : Int32 → Hp → Prop) : Wp (X5_ifPut (G 10) v r s w) a Q ↔ Q (nv 0) (th G a (nv 1)) := by
  have hF0 := hF.th hG (nv 0)
  have t5 := th_5 G a (nv 0)
  simp (disch := omega) only [X5_ifPut, X5_ifPut_52, ↓w_bd, ↓w_rt, ↓w_bh, sm_l, sm_r, ↓w_okr, ↓w_nm, ↓w_ite, ↓reduceIte, not_true_eq_false, not_false_eq_true, and_true, true_and, and_self, Option.some.injEq, reduceCtorEq, eq_self, ↓w_rc, ↓w_gI, ↓w_gR, ↓w_aN, ↓w_aI, ↓w_aR, ↓w_aL, ↓w_pI, ↓w_pR, ↓w_sI, ↓w_sR, ↓w_sL, ↓w_nO, ↓w_nA, ↓w_nL, ↓w_ca, ↓w_ca0, ↓w_gS, ↓w_gK, ↓w_dv, ↓w_tw, ↓w_rz, ↓w_no, nv_lit, nv_f, nv_add, nv_mul, nv_sub, nv_le, nv_lt, nv_eq, nv_cl, Nat.reduceMod, Nat.reduceMul, Nat.reduceAdd, Nat.zero_add, Nat.add_zero, Nat.mul_zero, decide_eq_true_eq, nv_inT, th_f, th_K, th_N, th_R, th_5, th_2, okn0, Nat.reduceEqDiff, hF.1, hF0.1, X5_in_w, X5_holds_1 hF0.1.1.1 t5 n10, X5_holds_0 hF0.1.1.1 t5, X5_isRow_h hF0 hS h]
theorem X5_ifPut_z {G : Nat → Nat} {a : Hp} {o : Nat} {R : Nat → Int32} (hF : FO G a o R) (hG : GD G) (hS : Sh R) {k : Nat} {r s w : Int32} (hk : k < nH R) (h : ¬ inr r (nR R k)) (Q : Int32 → Hp → Prop) : Wp (X5_ifPut (G 10) (nv k) r s w) a Q ↔ Q (nv 0) (th G a (nv 1)) := by
  have hF0 := hF.th hG (nv 0)
  have t5 := th_5 G a (nv 0)
  simp (disch := omega) only [X5_ifPut, X5_ifPut_52, ↓w_bd, ↓w_rt, ↓w_bh, sm_l, sm_r, ↓w_okr, ↓w_nm, ↓w_ite, ↓reduceIte, not_true_eq_false, not_false_eq_true, and_true, true_and, and_self, Option.some.injEq, reduceCtorEq, eq_self, ↓w_rc, ↓w_gI, ↓w_gR, ↓w_aN, ↓w_aI, ↓w_aR, ↓w_aL, ↓w_pI, ↓w_pR, ↓w_sI, ↓w_sR, ↓w_sL, ↓w_nO, ↓w_nA, ↓w_nL, ↓w_ca, ↓w_ca0, ↓w_gS, ↓w_gK, ↓w_dv, ↓w_tw, ↓w_rz, ↓w_no, nv_lit, nv_f, nv_add, nv_mul, nv_sub, nv_le, nv_lt, nv_eq, nv_cl, Nat.reduceMod, Nat.reduceMul, Nat.reduceAdd, Nat.zero_add, Nat.add_zero, Nat.mul_zero, decide_eq_true_eq, nv_inT, th_f, th_K, th_N, th_R, th_5, th_2, okn0, Nat.reduceEqDiff, hF.1, hF0.1, X5_in_w, X5_holds_1 hF0.1.1.1 t5 n10, X5_holds_0 hF0.1.1.1 t5, X5_isRow_0 hF0 hS hk h]
theorem X5_ifPut_y {G : Nat → Nat} {a : Hp} {o : Nat} {R : Nat → Int32} (hF : FO G a o R) (hG : GD G) (hS : Sh R) {k : Nat} {r s w : Int32} (hk : k < nH R) (h : inr r (nR R k)) (g : ¬ (inr s 10 ∧ inr w 3)) (Q : Int32 → Hp → Prop) : Wp (X5_ifPut (G 10) (nv k) r s w) a Q ↔ Q (nv 0) (th G a (nv 2)) := by
  have hF0 := hF.th hG (nv 0)
  have t5 := th_5 G a (nv 0)
  by_cases g1 : inr s 10
  · have g2 : ¬ inr w 3 := fun e => g ⟨g1, e⟩
    have hb1 := bw_1' g1 (by omega) (show 10 = 9 + 1 from rfl)
    have hb2 := bw_0' g2 (by omega) (show 3 = 2 + 1 from rfl)
    simp (disch := omega) only [X5_ifPut, X5_ifPut_44, X5_ifPut_45, X5_ifPut_52, ↓w_bd, ↓w_rt, ↓w_bh, sm_l, sm_r, ↓w_okr, ↓w_nm, ↓w_ite, ↓reduceIte, not_true_eq_false, not_false_eq_true, and_true, true_and, and_self, Option.some.injEq, reduceCtorEq, eq_self, ↓w_rc, ↓w_gI, ↓w_gR, ↓w_aN, ↓w_aI, ↓w_aR, ↓w_aL, ↓w_pI, ↓w_pR, ↓w_sI, ↓w_sR, ↓w_sL, ↓w_nO, ↓w_nA, ↓w_nL, ↓w_ca, ↓w_ca0, ↓w_gS, ↓w_gK, ↓w_dv, ↓w_tw, ↓w_rz, ↓w_no, nv_lit, nv_f, nv_add, nv_mul, nv_sub, nv_le, nv_lt, nv_eq, nv_cl, Nat.reduceMod, Nat.reduceMul, Nat.reduceAdd, Nat.zero_add, Nat.add_zero, Nat.mul_zero, decide_eq_true_eq, nv_inT, th_f, th_K, th_N, th_R, th_5, th_2, okn0, Nat.reduceEqDiff, hF.1, hF0.1, X5_in_w, X5_holds_1 hF0.1.1.1 t5 n10, X5_holds_0 hF0.1.1.1 t5, X5_isRow_1 hF0 hS hk h, hb1, hb2, n10]
  · have hb1 := bw_0' g1 (by omega) (show 10 = 9 + 1 from rfl)
    simp (disch := omega) only [X5_ifPut, X5_ifPut_44, X5_ifPut_45, X5_ifPut_52, ↓w_bd, ↓w_rt, ↓w_bh, sm_l, sm_r, ↓w_okr, ↓w_nm, ↓w_ite, ↓reduceIte, not_true_eq_false, not_false_eq_true, and_true, true_and, and_self, Option.some.injEq, reduceCtorEq, eq_self, ↓w_rc, ↓w_gI, ↓w_gR, ↓w_aN, ↓w_aI, ↓w_aR, ↓w_aL, ↓w_pI, ↓w_pR, ↓w_sI, ↓w_sR, ↓w_sL, ↓w_nO, ↓w_nA, ↓w_nL, ↓w_ca, ↓w_ca0, ↓w_gS, ↓w_gK, ↓w_dv, ↓w_tw, ↓w_rz, ↓w_no, nv_lit, nv_f, nv_add, nv_mul, nv_sub, nv_le, nv_lt, nv_eq, nv_cl, Nat.reduceMod, Nat.reduceMul, Nat.reduceAdd, Nat.zero_add, Nat.add_zero, Nat.mul_zero, decide_eq_true_eq, nv_inT, th_f, th_K, th_N, th_R, th_5, th_2, okn0, Nat.reduceEqDiff, hF.1, hF0.1, X5_in_w, X5_holds_1 hF0.1.1.1 t5 n10, X5_holds_0 hF0.1.1.1 t5, X5_isRow_1 hF0 hS hk h, hb1, n10]
theorem X5_ifPut_1 {G : Nat → Nat} {a : Hp} {R : Nat → Int32} (hF : FO G a 0 R) (hG : GD G) (hS : Sh R) {k r : Nat} {s : Int32} (hk : k < nH R) (hr : r < nR R k) (hs : inr s 10) (Q : Int32 → Hp → Prop) : Wp (X5_ifPut (G 10) (nv k) (nv r) s (nv 1)) a Q ↔ Q (if s = st R k r then nv 0 else fw R k) (th G a (nv 0)) := by
  have hF0 := hF.th hG (nv 0)
  have t5 := th_5 G a (nv 0)
  have h10 := sh_H10 hS
  have h5 := sh_R5 hS hk
  have hb1 := bw_1' hs (by omega) (show 10 = 9 + 1 from rfl)
  have hb2 := bw_1' (v := nv 1) (n := 3) (inr_nv (by omega) (by omega)) (by omega) (show 3 = 2 + 1 from rfl)
  by_cases c : s = st R k r
  · rw [if_pos c]
    have c' : (s = st R k r) = True := by simp [c]
    simp (disch := omega) only [X5_ifPut, X5_ifPut_45, X5_ifPut_79, ↓w_bd, ↓w_rt, ↓w_bh, sm_l, sm_r, ↓w_okr, ↓w_nm, ↓w_ite, ↓reduceIte, not_true_eq_false, not_false_eq_true, and_true, true_and, and_self, Option.some.injEq, reduceCtorEq, eq_self, ↓w_rc, ↓w_gI, ↓w_gR, ↓w_aN, ↓w_aI, ↓w_aR, ↓w_aL, ↓w_pI, ↓w_pR, ↓w_sI, ↓w_sR, ↓w_sL, ↓w_nO, ↓w_nA, ↓w_nL, ↓w_ca, ↓w_ca0, ↓w_gS, ↓w_gK, ↓w_dv, ↓w_tw, ↓w_rz, ↓w_no, nv_lit, nv_f, nv_add, nv_mul, nv_sub, nv_le, nv_lt, nv_eq, nv_cl, Nat.reduceMod, Nat.reduceMul, Nat.reduceAdd, Nat.zero_add, Nat.add_zero, Nat.mul_zero, decide_eq_true_eq, nv_inT, th_f, th_K, th_N, th_R, th_5, th_2, okn0, Nat.reduceEqDiff, hF.1, hF0.1, X5_in_w, X5_holds_1 hF0.1.1.1 t5 n10, X5_holds_0 hF0.1.1.1 t5, X5_isRow_1 hF0 hS hk (inr_nv hr (by omega)), hb1, hb2, n10, X5_stones_w hF0, c']

  · simp (disch := omega) only [X5_ifPut, X5_ifPut_45, X5_ifPut_79, ↓w_bd, ↓w_rt, ↓w_bh, sm_l, sm_r, ↓w_okr, ↓w_nm, ↓w_ite, ↓reduceIte, not_true_eq_false, not_false_eq_true, and_true, true_and, and_self, Option.some.injEq, reduceCtorEq, eq_self, ↓w_rc, ↓w_gI, ↓w_gR, ↓w_aN, ↓w_aI, ↓w_aR, ↓w_aL, ↓w_pI, ↓w_pR, ↓w_sI, ↓w_sR, ↓w_sL, ↓w_nO, ↓w_nA, ↓w_nL, ↓w_ca, ↓w_ca0, ↓w_gS, ↓w_gK, ↓w_dv, ↓w_tw, ↓w_rz, ↓w_no, nv_lit, nv_f, nv_add, nv_mul, nv_sub, nv_le, nv_lt, nv_eq, nv_cl, Nat.reduceMod, Nat.reduceMul, Nat.reduceAdd, Nat.zero_add, Nat.add_zero, Nat.mul_zero, decide_eq_true_eq, nv_inT, th_f, th_K, th_N, th_R, th_5, th_2, okn0, Nat.reduceEqDiff, hF.1, hF0.1, X5_in_w, X5_holds_1 hF0.1.1.1 t5 n10, X5_holds_0 hF0.1.1.1 t5, X5_isRow_1 hF0 hS hk (inr_nv hr (by omega)), hb1, hb2, n10, X5_stones_w hF0, c, X5_factsWith_w hF0 hS]
theorem X5_ifPut_02 {G : Nat → Nat} {a : Hp} {R : Nat → Int32} (hF : FO G a 0 R) (hG : GD G) (hS : Sh R) {k r w : Nat} {s : Int32} (hk : k < nH R) (hr : r < nR R k) (hs : inr s 10) (hw : w = 0 ∨ w = 2) (Q : Int32 → Hp → Prop) (hq : ∀ c, Sy G (th G a (nv 0)) c → Q (if w = 0 then sz (up1 R (15 + 7 * k + (2 + r)) s) k else er (up1 R (15 + 7 * k + (2 + r)) s) (R 2)) c) : Wp (X5_ifPut (G 10) (nv k) (nv r) s (nv w)) a Q := by
  have hF0 := hF.th hG (nv 0)
  have t5 := th_5 G a (nv 0)
  have h10 := sh_H10 hS
  have h5 := sh_R5 hS hk
  have hb1 := bw_1' hs (by omega) (show 10 = 9 + 1 from rfl)
  have hb2 := bw_1' (v := nv w) (n := 3) (inr_nv (by omega) (by omega)) (by omega) (show 3 = 2 + 1 from rfl)
  have hF9 := hF0.tr9 hG
  have hFl := hF9.ly hG (k := 15 + 7 * k + (2 + r)) (by omega) s
  obtain ⟨hS2, -⟩ := sz_up hS hk hr s
  have hk2 : k < nH (up1 R (15 + 7 * k + (2 + r)) s) := by
    unfold nH
    rw [up1_o _ _ _ (by omega)]
    exact hk
  have e2 : up1 R (15 + 7 * k + (2 + r)) s 2 = R 2 := up1_o _ _ _ (by omega)
  have hkb : hK (ly G (tr9 G (th G a (nv 0))) 9 (15 + 7 * k + (2 + r)) s) (G 10) = 5 := hF9.1.1.1
  have fin := hq _ (bk_sy hG hF0.2.1 (ly_b (tr9_b hG _) (15 + 7 * k + (2 + r)) s) (Sx.rf _ _))
  rcases hw with rfl | rfl
  · simp (disch := omega) only [X5_ifPut, X5_ifPut_45, X5_ifPut_111, ↓w_bd, ↓w_rt, ↓w_bh, sm_l, sm_r, ↓w_okr, ↓w_nm, ↓w_ite, ↓reduceIte, not_true_eq_false, not_false_eq_true, and_true, true_and, and_self, Option.some.injEq, reduceCtorEq, eq_self, ↓w_rc, ↓w_gI, ↓w_gR, ↓w_aN, ↓w_aI, ↓w_aR, ↓w_aL, ↓w_pI, ↓w_pR, ↓w_sI, ↓w_sR, ↓w_sL, ↓w_nO, ↓w_nA, ↓w_nL, ↓w_ca, ↓w_ca0, ↓w_gS, ↓w_gK, ↓w_dv, ↓w_tw, ↓w_rz, ↓w_no, nv_lit, nv_f, nv_add, nv_mul, nv_sub, nv_le, nv_lt, nv_eq, nv_cl, Nat.reduceMod, Nat.reduceMul, Nat.reduceAdd, Nat.zero_add, Nat.add_zero, Nat.mul_zero, decide_eq_true_eq, nv_inT, th_f, th_K, th_N, th_R, th_5, th_2, okn0, Nat.reduceEqDiff, hF.1, hF0.1, X5_in_w, X5_holds_1 hF0.1.1.1 t5 n10, X5_holds_0 hF0.1.1.1 t5, X5_isRow_1 hF0 hS hk (inr_nv hr (by omega)), hb1, hb2, n10, X5_tries_w hG hF0, hF9.1, X5_layHeap_w hF9, ly_K, X5_sizeOf_w hFl hS2 hk2, X5_isBack_w hkb]
    exact fin
  · simp (disch := omega) only [X5_ifPut, X5_ifPut_45, X5_ifPut_111, ↓w_bd, ↓w_rt, ↓w_bh, sm_l, sm_r, ↓w_okr, ↓w_nm, ↓w_ite, ↓reduceIte, not_true_eq_false, not_false_eq_true, and_true, true_and, and_self, Option.some.injEq, reduceCtorEq, eq_self, ↓w_rc, ↓w_gI, ↓w_gR, ↓w_aN, ↓w_aI, ↓w_aR, ↓w_aL, ↓w_pI, ↓w_pR, ↓w_sI, ↓w_sR, ↓w_sL, ↓w_nO, ↓w_nA, ↓w_nL, ↓w_ca, ↓w_ca0, ↓w_gS, ↓w_gK, ↓w_dv, ↓w_tw, ↓w_rz, ↓w_no, nv_lit, nv_f, nv_add, nv_mul, nv_sub, nv_le, nv_lt, nv_eq, nv_cl, Nat.reduceMod, Nat.reduceMul, Nat.reduceAdd, Nat.zero_add, Nat.add_zero, Nat.mul_zero, decide_eq_true_eq, nv_inT, th_f, th_K, th_N, th_R, th_5, th_2, okn0, Nat.reduceEqDiff, hF.1, hF0.1, X5_in_w, X5_holds_1 hF0.1.1.1 t5 n10, X5_holds_0 hF0.1.1.1 t5, X5_isRow_1 hF0 hS hk (inr_nv hr (by omega)), hb1, hb2, n10, X5_tries_w hG hF0, hF9.1, X5_layHeap_w hF9, ly_K, X5_allErrors_w hFl hS2, e2, X5_isBack_w hkb, show ¬ nv 2 = nv 1 by decide, show ¬ nv 2 = nv 0 by decide]
    exact fin
theorem op_ifPut {G : Nat → Nat} {B : Nat → Nat × Nat} {S : Gst} {a : Hp} (hC : JC G B S a) (hT : JT G S a) (v r s w : Int32) : OpL G a (X0_ifPut (some (G 0)) v r s w (some (G 20))) (X5_ifPut (G 10) v r s w) := by
  obtain ⟨L, R, hM, hR, hX, hF, -⟩ := start hC hT
  have hG := hC.1.gd
  have hJ := hC.2.1
  have hS := hR.1
  have hFs := hR.2.1
  have hs : ∀ i, i < 22 → G i < hSz a := fun i hi => (hC.1 i hi).1
  have h10 := sh_H10 hS
  have h2 := sh_H2 hS
  by_cases h : inr v (nH R)
  · obtain ⟨k, rfl, hk⟩ := inr_k h
    have h5 := sh_R5 hS hk
    have h51 := sh_R1 hS hk
    by_cases hr : inr r (nR R k)
    · by_cases g : inr s 10 ∧ inr w 3
      · obtain ⟨r, rfl, hrr⟩ := inr_k hr
        obtain ⟨w, rfl, hw⟩ := inr_k g.2
        have hb1 := bw_1' g.1 (by omega) (show 10 = 9 + 1 from rfl)
        have hb2 := bw_1' g.2 (by omega) (show 3 = 2 + 1 from rfl)
        have : w = 0 ∨ w = 1 ∨ w = 2 := by omega
        rcases this with rfl | rfl | rfl
        · simp (disch := omega) only [X0_ifPut, X1_ifPut, X1_ifPut_38, X1_ifPut_90, OpL, ↓w_bd, ↓w_rt, ↓w_bh, sm_l, sm_r, ↓w_okr, ↓w_nm, ↓w_ite, ↓reduceIte, not_true_eq_false, not_false_eq_true, and_true, true_and, and_self, Option.some.injEq, reduceCtorEq, eq_self, ↓w_rc, ↓w_gI, ↓w_gR, ↓w_aN, ↓w_aI, ↓w_aR, ↓w_aL, ↓w_pI, ↓w_pR, ↓w_sI, ↓w_sR, ↓w_sL, ↓w_nO, ↓w_nA, ↓w_nL, ↓w_ca, ↓w_ca0, ↓w_gS, ↓w_gK, ↓w_dv, ↓w_tw, ↓w_rz, ↓w_no, nv_lit, nv_f, nv_add, nv_mul, nv_sub, nv_le, nv_lt, nv_eq, nv_cl, Nat.reduceMod, Nat.reduceMul, Nat.reduceAdd, Nat.zero_add, Nat.add_zero, Nat.mul_zero, decide_eq_true_eq, nv_inT, mk_k hM, mk_n hM, mk_r hM, mk_i hM, hX, hJ, ol_f, X1_isBetween_w, X1_requireArgument_1 n10, X1_requireArgument_0, X1_requireIndex_1 n10, X1_requireIndex_0, Nat.reduceEqDiff, X1_heapOf_1 hM hX, X1_requireRow_1 hM hk hr, hb1, hb2, n10, X4_size_w hM]
          refine X5_ifPut_02 (hF.ol _) hG hS hk hrr g.1 (.inl rfl) _ fun c hc => ?_
          rw [if_pos rfl, (sz_up hS hk hrr s).2]
          exact postY hC hT (E0.rf a) (by omega) (by omega) hc
        · by_cases e : s = st R k r
          · have e' : (st R k r = s) = True := by rw [e]; simp
            simp (disch := omega) only [X0_ifPut, X1_ifPut, X1_ifPut_38, X1_ifPut_90, OpL, ↓w_bd, ↓w_rt, ↓w_bh, sm_l, sm_r, ↓w_okr, ↓w_nm, ↓w_ite, ↓reduceIte, not_true_eq_false, not_false_eq_true, and_true, true_and, and_self, Option.some.injEq, reduceCtorEq, eq_self, ↓w_rc, ↓w_gI, ↓w_gR, ↓w_aN, ↓w_aI, ↓w_aR, ↓w_aL, ↓w_pI, ↓w_pR, ↓w_sI, ↓w_sR, ↓w_sL, ↓w_nO, ↓w_nA, ↓w_nL, ↓w_ca, ↓w_ca0, ↓w_gS, ↓w_gK, ↓w_dv, ↓w_tw, ↓w_rz, ↓w_no, nv_lit, nv_f, nv_add, nv_mul, nv_sub, nv_le, nv_lt, nv_eq, nv_cl, Nat.reduceMod, Nat.reduceMul, Nat.reduceAdd, Nat.zero_add, Nat.add_zero, Nat.mul_zero, decide_eq_true_eq, nv_inT, mk_k hM, mk_n hM, mk_r hM, mk_i hM, hX, hJ, ol_f, X1_isBetween_w, X1_requireArgument_1 n10, X1_requireArgument_0, X1_requireIndex_1 n10, X1_requireIndex_0, Nat.reduceEqDiff, X1_heapOf_1 hM hX, X1_requireRow_1 hM hk hr, hb1, hb2, n10, e']
            rw [X5_ifPut_1 (hF.ol _) hG hS hk hrr g.1, if_pos e]
            exact post_0 hC hT (E0.rf a) (by omega) (by omega) _
          · have e' : ¬ st R k r = s := fun q => e q.symm
            simp (disch := omega) only [X0_ifPut, X1_ifPut, X1_ifPut_38, X1_ifPut_90, OpL, ↓w_bd, ↓w_rt, ↓w_bh, sm_l, sm_r, ↓w_okr, ↓w_nm, ↓w_ite, ↓reduceIte, not_true_eq_false, not_false_eq_true, and_true, true_and, and_self, Option.some.injEq, reduceCtorEq, eq_self, ↓w_rc, ↓w_gI, ↓w_gR, ↓w_aN, ↓w_aI, ↓w_aR, ↓w_aL, ↓w_pI, ↓w_pR, ↓w_sI, ↓w_sR, ↓w_sL, ↓w_nO, ↓w_nA, ↓w_nL, ↓w_ca, ↓w_ca0, ↓w_gS, ↓w_gK, ↓w_dv, ↓w_tw, ↓w_rz, ↓w_no, nv_lit, nv_f, nv_add, nv_mul, nv_sub, nv_le, nv_lt, nv_eq, nv_cl, Nat.reduceMod, Nat.reduceMul, Nat.reduceAdd, Nat.zero_add, Nat.add_zero, Nat.mul_zero, decide_eq_true_eq, nv_inT, mk_k hM, mk_n hM, mk_r hM, mk_i hM, hX, hJ, ol_f, X1_isBetween_w, X1_requireArgument_1 n10, X1_requireArgument_0, X1_requireIndex_1 n10, X1_requireIndex_0, Nat.reduceEqDiff, X1_heapOf_1 hM hX, X1_requireRow_1 hM hk hr, hb1, hb2, n10, e', X2_factsOf_w hM hFs]
            rw [X5_ifPut_1 (hF.ol _) hG hS hk hrr g.1, if_neg e]
            exact post_0 hC hT (E0.rf a) (by omega) (by omega) _
        · have hM1 := hM.wI s (ci_st R hk hrr (by omega)) (by omega) (by omega) (by omega) (fun x _ => by omega) (by omega)
          have hX1 : FX G (hwI a (L (30 + k)) (up1 (hI a (L (30 + k))) r s)) L := hX
          have e2 : up1 R (15 + 7 * k + (2 + r)) s 2 = R 2 := up1_o _ _ _ (by omega)
          have ei : hI (hwI a (L (30 + k)) (up1 (hI a (L (30 + k))) r s)) (L 0) 5 = R 2 := by rw [(mk_i hM1).1.1, e2]
          have back : up1 (up1 (hI a (L (30 + k))) r s) r (st R k r) = hI a (L (30 + k)) := by
            rw [up1_2, ← (mk_i hM).2.2.2.2.2.1 k r hk hrr]
            exact up1_id _ _
          simp (disch := omega) only [X0_ifPut, X1_ifPut, X1_ifPut_38, X1_ifPut_90, OpL, ↓w_bd, ↓w_rt, ↓w_bh, sm_l, sm_r, ↓w_okr, ↓w_nm, ↓w_ite, ↓reduceIte, not_true_eq_false, not_false_eq_true, and_true, true_and, and_self, Option.some.injEq, reduceCtorEq, eq_self, ↓w_rc, ↓w_gI, ↓w_gR, ↓w_aN, ↓w_aI, ↓w_aR, ↓w_aL, ↓w_pI, ↓w_pR, ↓w_sI, ↓w_sR, ↓w_sL, ↓w_nO, ↓w_nA, ↓w_nL, ↓w_ca, ↓w_ca0, ↓w_gS, ↓w_gK, ↓w_dv, ↓w_tw, ↓w_rz, ↓w_no, nv_lit, nv_f, nv_add, nv_mul, nv_sub, nv_le, nv_lt, nv_eq, nv_cl, Nat.reduceMod, Nat.reduceMul, Nat.reduceAdd, Nat.zero_add, Nat.add_zero, Nat.mul_zero, decide_eq_true_eq, nv_inT, mk_k hM, mk_n hM, mk_r hM, mk_i hM, hX, hJ, ol_f, X1_isBetween_w, X1_requireArgument_1 n10, X1_requireArgument_0, X1_requireIndex_1 n10, X1_requireIndex_0, Nat.reduceEqDiff, X1_heapOf_1 hM hX, X1_requireRow_1 hM hk hr, hb1, hb2, n10, show ¬ nv 2 = nv 1 by decide, show ¬ nv 2 = nv 0 by decide, nr41, hK_wI, hR_wI, hN_wI, ei, X2_errors_w hM1, hI_wI, up1_s, hwI_2, back, hwI_id]
          refine X5_ifPut_02 (hF.ol _) hG hS hk hrr g.1 (.inr rfl) _ fun c hc => ?_
          rw [if_neg (show ¬ (2 = 0) by omega)]
          exact postY hC hT (E0.rf a) (by omega) (by omega) hc
      · by_cases g1 : inr s 10
        · have g2 : ¬ inr w 3 := fun e => g ⟨g1, e⟩
          have hb1 := bw_1' g1 (by omega) (show 10 = 9 + 1 from rfl)
          have hb2 := bw_0' g2 (by omega) (show 3 = 2 + 1 from rfl)
          simp (disch := omega) only [X0_ifPut, X1_ifPut, X1_ifPut_37, X1_ifPut_38, OpL, ↓w_bd, ↓w_rt, ↓w_bh, sm_l, sm_r, ↓w_okr, ↓w_nm, ↓w_ite, ↓reduceIte, not_true_eq_false, not_false_eq_true, and_true, true_and, and_self, Option.some.injEq, reduceCtorEq, eq_self, ↓w_rc, ↓w_gI, ↓w_gR, ↓w_aN, ↓w_aI, ↓w_aR, ↓w_aL, ↓w_pI, ↓w_pR, ↓w_sI, ↓w_sR, ↓w_sL, ↓w_nO, ↓w_nA, ↓w_nL, ↓w_ca, ↓w_ca0, ↓w_gS, ↓w_gK, ↓w_dv, ↓w_tw, ↓w_rz, ↓w_no, nv_lit, nv_f, nv_add, nv_mul, nv_sub, nv_le, nv_lt, nv_eq, nv_cl, Nat.reduceMod, Nat.reduceMul, Nat.reduceAdd, Nat.zero_add, Nat.add_zero, Nat.mul_zero, decide_eq_true_eq, nv_inT, mk_k hM, mk_n hM, mk_r hM, mk_i hM, hX, hJ, ol_f, X1_isBetween_w, X1_requireArgument_1 n10, X1_requireArgument_0, X1_requireIndex_1 n10, X1_requireIndex_0, Nat.reduceEqDiff, X1_heapOf_1 hM hX, X1_requireRow_1 hM hk hr, hb1, hb2, n10, X5_ifPut_y (hF.tw hs) hG hS hk hr g]
          exact post_x hC hT (tw_e a) (by rw [tw_z]; omega) (by rw [tw_l]; omega) (by omega) (by omega) _
        · have hb1 := bw_0' g1 (by omega) (show 10 = 9 + 1 from rfl)
          simp (disch := omega) only [X0_ifPut, X1_ifPut, X1_ifPut_37, X1_ifPut_38, OpL, ↓w_bd, ↓w_rt, ↓w_bh, sm_l, sm_r, ↓w_okr, ↓w_nm, ↓w_ite, ↓reduceIte, not_true_eq_false, not_false_eq_true, and_true, true_and, and_self, Option.some.injEq, reduceCtorEq, eq_self, ↓w_rc, ↓w_gI, ↓w_gR, ↓w_aN, ↓w_aI, ↓w_aR, ↓w_aL, ↓w_pI, ↓w_pR, ↓w_sI, ↓w_sR, ↓w_sL, ↓w_nO, ↓w_nA, ↓w_nL, ↓w_ca, ↓w_ca0, ↓w_gS, ↓w_gK, ↓w_dv, ↓w_tw, ↓w_rz, ↓w_no, nv_lit, nv_f, nv_add, nv_mul, nv_sub, nv_le, nv_lt, nv_eq, nv_cl, Nat.reduceMod, Nat.reduceMul, Nat.reduceAdd, Nat.zero_add, Nat.add_zero, Nat.mul_zero, decide_eq_true_eq, nv_inT, mk_k hM, mk_n hM, mk_r hM, mk_i hM, hX, hJ, ol_f, X1_isBetween_w, X1_requireArgument_1 n10, X1_requireArgument_0, X1_requireIndex_1 n10, X1_requireIndex_0, Nat.reduceEqDiff, X1_heapOf_1 hM hX, X1_requireRow_1 hM hk hr, hb1, X5_ifPut_y (hF.tw hs) hG hS hk hr g]
          exact post_x hC hT (tw_e a) (by rw [tw_z]; omega) (by rw [tw_l]; omega) (by omega) (by omega) _
    · simp (disch := omega) only [X0_ifPut, X1_ifPut, OpL, ↓w_bd, ↓w_rt, ↓w_bh, sm_l, sm_r, ↓w_okr, ↓w_nm, ↓w_ite, ↓reduceIte, not_true_eq_false, not_false_eq_true, and_true, true_and, and_self, Option.some.injEq, reduceCtorEq, eq_self, ↓w_rc, ↓w_gI, ↓w_gR, ↓w_aN, ↓w_aI, ↓w_aR, ↓w_aL, ↓w_pI, ↓w_pR, ↓w_sI, ↓w_sR, ↓w_sL, ↓w_nO, ↓w_nA, ↓w_nL, ↓w_ca, ↓w_ca0, ↓w_gS, ↓w_gK, ↓w_dv, ↓w_tw, ↓w_rz, ↓w_no, nv_lit, nv_f, nv_add, nv_mul, nv_sub, nv_le, nv_lt, nv_eq, nv_cl, Nat.reduceMod, Nat.reduceMul, Nat.reduceAdd, Nat.zero_add, Nat.add_zero, Nat.mul_zero, decide_eq_true_eq, nv_inT, mk_k hM, mk_n hM, mk_r hM, mk_i hM, hX, hJ, ol_f, X1_isBetween_w, X1_requireArgument_1 n10, X1_requireArgument_0, X1_requireIndex_1 n10, X1_requireIndex_0, Nat.reduceEqDiff, X1_heapOf_1 hM hX, X1_requireRow_0 hM hk h51 hr, X5_ifPut_z (hF.tw hs) hG hS hk hr]
      exact post_x hC hT (tw_e a) (by rw [tw_z]; omega) (by rw [tw_l]; omega) (by omega) (by omega) _
  · simp (disch := omega) only [X0_ifPut, X1_ifPut, OpL, ↓w_bd, ↓w_rt, ↓w_bh, sm_l, sm_r, ↓w_okr, ↓w_nm, ↓w_ite, ↓reduceIte, not_true_eq_false, not_false_eq_true, and_true, true_and, and_self, Option.some.injEq, reduceCtorEq, eq_self, ↓w_rc, ↓w_gI, ↓w_gR, ↓w_aN, ↓w_aI, ↓w_aR, ↓w_aL, ↓w_pI, ↓w_pR, ↓w_sI, ↓w_sR, ↓w_sL, ↓w_nO, ↓w_nA, ↓w_nL, ↓w_ca, ↓w_ca0, ↓w_gS, ↓w_gK, ↓w_dv, ↓w_tw, ↓w_rz, ↓w_no, nv_lit, nv_f, nv_add, nv_mul, nv_sub, nv_le, nv_lt, nv_eq, nv_cl, Nat.reduceMod, Nat.reduceMul, Nat.reduceAdd, Nat.zero_add, Nat.add_zero, Nat.mul_zero, decide_eq_true_eq, nv_inT, mk_k hM, mk_n hM, mk_r hM, mk_i hM, hX, hJ, ol_f, X1_isBetween_w, X1_requireArgument_1 n10, X1_requireArgument_0, X1_requireIndex_1 n10, X1_requireIndex_0, Nat.reduceEqDiff, X1_heapOf_0 hM hX (by omega) h, X5_ifPut_x (hF.tw hs) hG hS h]
    exact post_x hC hT (tw_e a) (by rw [tw_z]; omega) (by rw [tw_l]; omega) (by omega) (by omega) _
