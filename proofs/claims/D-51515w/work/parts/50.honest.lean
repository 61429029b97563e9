/-! HONESTY -/
theorem su_add (f g : Nat → Int32) : ∀ n, su (fun r => f r + g r) n = su f n + su g n
  | 0 => (Int32.add_zero 0).symm
  | n + 1 => by
    rw [su, su, su, su_add f g n]
    ac_rfl
theorem ho_cl (R : Nat → Int32) (t : Int32) : su (fun c => if cs R c 0 = t then icl R c else 0) (nC R) = cos R t 1 + cos R t 2 := by
  unfold cos
  rw [← su_add]
  refine su_cg fun c _ => ?_
  unfold icl
  by_cases c0 : cs R c 0 = t
  · simp only [c0, if_true]
    by_cases c1 : cs R c 4 = 1
    · simp only [c1, if_true]; decide
    · simp only [c1, if_false]
      by_cases c2 : cs R c 4 = 2
      · simp only [c2, if_true]; decide
      · simp only [c2, if_false]; decide
  · simp only [c0, if_false]; decide
theorem su_01 {f : Nat → Int32} : ∀ {n : Nat}, (∀ r, r < n → f r = 0 ∨ f r = 1) → ∃ T, T ≤ n ∧ su f n = nv T := by
  intro n
  induction n with
  | zero => intro _; exact ⟨0, by omega, rfl⟩
  | succ n ih =>
    intro h
    obtain ⟨T, h1, h2⟩ := ih (fun r hr => h r (by omega))
    rcases h n (by omega) with e | e
    · exact ⟨T, by omega, by rw [su, h2, e, Int32.add_zero]⟩
    · exact ⟨T + 1, by omega, by rw [su, h2, e, show (1 : Int32) = nv 1 from rfl, nv_add]⟩
theorem cos_n {R : Nat → Int32} (hS : Sh R) (t v : Int32) : ∃ p, p ≤ 20 ∧ cos R t v = nv p := by
  have h20 := sh_C20 hS
  obtain ⟨T, h1, h2⟩ := su_01 (f := fun c => if cs R c 0 = t then (if cs R c 4 = v then 1 else 0) else 0) (n := nC R) (fun c _ => by
    (repeat' split) <;> first | exact .inl rfl | exact .inr rfl)
  exact ⟨T, by omega, h2⟩
/-- a float that may be told -/
def fOk (w : UInt32) : Prop := FP.f2d w &&& 0x7fffffffffffffff ≤ 0x7ff0000000000000 ∧ FP.dcmp (FP.f2d w) (FP.f2d w) = some .eq
theorem fq : ∀ p : Fin 21, ∀ s : Fin 41, s.val ≠ 0 → FP.fdiv (FP.i2f (nv p.val)) (FP.i2f (nv s.val)) &&& 0x7fffffff ≤ 0x7f800000 ∧ FP.f2d (FP.fdiv (FP.i2f (nv p.val)) (FP.i2f (nv s.val))) &&& 0x7fffffffffffffff ≤ 0x7ff0000000000000 ∧ FP.dcmp (FP.f2d (FP.fdiv (FP.i2f (nv p.val)) (FP.i2f (nv s.val)))) (FP.f2d (FP.fdiv (FP.i2f (nv p.val)) (FP.i2f (nv s.val)))) = some .eq := by decide +kernel
theorem f1 : FP.f2d FP.fconst1 &&& 0x7fffffffffffffff ≤ 0x7ff0000000000000 ∧ FP.dcmp (FP.f2d FP.fconst1) (FP.f2d FP.fconst1) = some .eq := by decide +kernel
def ho (R : Nat → Int32) (t : Int32) : UInt32 := if cos R t 1 + cos R t 2 = 0 then FP.fconst1 else FP.fdiv (FP.i2f (cos R t 1)) (FP.i2f (cos R t 1 + cos R t 2))
theorem ho_ok {R : Nat → Int32} (hS : Sh R) (t : Int32) : fOk (ho R t) ∧ (¬ cos R t 1 + cos R t 2 = 0 → FP.fdiv (FP.i2f (cos R t 1)) (FP.i2f (cos R t 1 + cos R t 2)) &&& 0x7fffffff ≤ 0x7f800000) := by
  obtain ⟨p, p1, p2⟩ := cos_n hS t 1
  obtain ⟨q, q1, q2⟩ := cos_n hS t 2
  unfold ho fOk
  rw [p2, q2, nv_add]
  by_cases c : p + q = 0
  · rw [if_pos (by rw [c]; rfl)]
    exact ⟨f1, fun h => absurd (by rw [c]; rfl) h⟩
  · have hne : ¬ nv (p + q) = 0 := by
      rw [show (0 : Int32) = nv 0 from rfl, nv_eq (by omega) (by omega)]
      exact c
    rw [if_neg hne]
    have := fq ⟨p, by omega⟩ ⟨p + q, by omega⟩ c
    exact ⟨this.2, fun _ => this.1⟩
theorem cnt_69 {B : Nat → Nat × Nat} {a : Hp} {L : Nat → Nat} {R : Nat → Int32} (hM : Mk B a L R) (v : Int32) (Q : Int32 → Hp → Prop) : Wp (X1_countOf (some (L 2)) (some (hSz a))) (hNew a 69 0 1 (fun j => if j = 0 then v else nv 0) (fun _ => none)) Q ↔ Q (cos R v 1 + cos R v 2) (hNew a 69 0 1 (fun j => if j = 0 then v else nv 0) (fun _ => none)) := by
  have hM2 := hM.ext (B' := B) ((E0.rf a).new 69 0 1 (fun j => if j = 0 then v else nv 0) (fun _ => none)) (fun _ _ => rfl)
  have hq : hK (hNew a 69 0 1 (fun j => if j = 0 then v else nv 0) (fun _ => none)) (hSz a) = 69 := by rw [hK_new, up1_s]
  have hv : hI (hNew a 69 0 1 (fun j => if j = 0 then v else nv 0) (fun _ => none)) (hSz a) 0 = v := by rw [hI_new, up1_s]; rfl
  rw [← ho_cl]
  exact X1_countOf_c hM2 (g := fun c => if cs R c 0 = v then icl R c else nv 0) (q := hSz a) (fun c hc Q => lm69 hM2 hq hv hc Q) (fun c _ => by split <;> simp [icl_01]) Q
theorem cnt_70 {B : Nat → Nat × Nat} {a : Hp} {L : Nat → Nat} {R : Nat → Int32} (hM : Mk B a L R) (v : Int32) (Q : Int32 → Hp → Prop) : Wp (X1_countOf (some (L 2)) (some (hSz a))) (hNew a 70 0 1 (fun j => if j = 0 then v else nv 0) (fun _ => none)) Q ↔ Q (cos R v 1) (hNew a 70 0 1 (fun j => if j = 0 then v else nv 0) (fun _ => none)) := by
  have hM2 := hM.ext (B' := B) ((E0.rf a).new 70 0 1 (fun j => if j = 0 then v else nv 0) (fun _ => none)) (fun _ _ => rfl)
  have hq : hK (hNew a 70 0 1 (fun j => if j = 0 then v else nv 0) (fun _ => none)) (hSz a) = 70 := by rw [hK_new, up1_s]
  have hv : hI (hNew a 70 0 1 (fun j => if j = 0 then v else nv 0) (fun _ => none)) (hSz a) 0 = v := by rw [hI_new, up1_s]; rfl
  exact X1_countOf_c hM2 (g := fun c => if cs R c 0 = v then (if cs R c 4 = nv 1 then nv 1 else nv 0) else nv 0) (q := hSz a) (fun c hc Q => lm70 hM2 hq hv hc Q) (fun c _ => by (repeat' split) <;> simp) Q
theorem X5_honesty_1 {G : Nat → Nat} {a : Hp} {o : Nat} {R : Nat → Int32} (hF : FO G a o R) (hG : GD G) (hS : Sh R) {v : Int32} (h : inr v (nT R)) (Q : UInt32 → Hp → Prop) : Wp (X5_honesty (G 10) v) a Q ↔ Q (ho R v) (th G a (nv 0)) := by
  have hF0 := hF.th hG (nv 0)
  have t5 := th_5 G a (nv 0)
  have c1 := fun Q => X5_claimsOf_w2 hF0 hS v (nv 1) (by decide) Q
  have c2 := fun Q => X5_claimsOf_w2 hF0 hS v (nv 2) (by decide) Q
  by_cases c : cos R v (nv 1) + cos R v (nv 2) = nv 0
  · have e : ho R v = FP.fconst1 := if_pos c
    rw [e]
    simp (disch := omega) only [X5_honesty, X5_honesty_52, ↓w_bd, ↓w_rt, ↓w_bh, sm_l, sm_r, ↓w_okr, ↓w_nm, ↓w_ite, ↓reduceIte, not_true_eq_false, not_false_eq_true, and_true, true_and, and_self, Option.some.injEq, reduceCtorEq, eq_self, ↓w_rc, ↓w_gI, ↓w_gR, ↓w_aN, ↓w_aI, ↓w_aR, ↓w_aL, ↓w_pI, ↓w_pR, ↓w_sI, ↓w_sR, ↓w_sL, ↓w_nO, ↓w_nA, ↓w_nL, ↓w_ca, ↓w_ca0, ↓w_gS, ↓w_gK, ↓w_dv, ↓w_tw, ↓w_rz, ↓w_no, nv_lit, nv_f, nv_add, nv_mul, nv_sub, nv_le, nv_lt, nv_eq, nv_cl, Nat.reduceMod, Nat.reduceMul, Nat.reduceAdd, Nat.zero_add, Nat.add_zero, Nat.mul_zero, decide_eq_true_eq, nv_inT, th_f, th_K, th_N, th_R, th_5, th_2, okn0, Nat.reduceEqDiff, hF.1, hF0.1, X5_in_w, X5_holds_1 hF0.1.1.1 t5 n10, X5_holds_0 hF0.1.1.1 t5, X5_isTrader_1 hF0 hS h, n10, c1, c2, c]
  · have e : ho R v = FP.fdiv (FP.i2f (cos R v (nv 1))) (FP.i2f (cos R v (nv 1) + cos R v (nv 2))) := if_neg c
    have m : (FP.fdiv (FP.i2f (cos R v (nv 1))) (FP.i2f (cos R v (nv 1) + cos R v (nv 2))) &&& 0x7fffffff ≤ 0x7f800000) = True := eq_true ((ho_ok hS v).2 c)
    rw [e]
    simp (disch := omega) only [X5_honesty, X5_honesty_52, ↓w_bd, ↓w_rt, ↓w_bh, sm_l, sm_r, ↓w_okr, ↓w_nm, ↓w_ite, ↓reduceIte, not_true_eq_false, not_false_eq_true, and_true, true_and, and_self, Option.some.injEq, reduceCtorEq, eq_self, ↓w_rc, ↓w_gI, ↓w_gR, ↓w_aN, ↓w_aI, ↓w_aR, ↓w_aL, ↓w_pI, ↓w_pR, ↓w_sI, ↓w_sR, ↓w_sL, ↓w_nO, ↓w_nA, ↓w_nL, ↓w_ca, ↓w_ca0, ↓w_gS, ↓w_gK, ↓w_dv, ↓w_tw, ↓w_rz, ↓w_no, nv_lit, nv_f, nv_add, nv_mul, nv_sub, nv_le, nv_lt, nv_eq, nv_cl, Nat.reduceMod, Nat.reduceMul, Nat.reduceAdd, Nat.zero_add, Nat.add_zero, Nat.mul_zero, decide_eq_true_eq, nv_inT, th_f, th_K, th_N, th_R, th_5, th_2, okn0, Nat.reduceEqDiff, hF.1, hF0.1, X5_in_w, X5_holds_1 hF0.1.1.1 t5 n10, X5_holds_0 hF0.1.1.1 t5, X5_isTrader_1 hF0 hS h, n10, c1, c2, c, ↓w_fdv, m]
theorem X5_honesty_0 {G : Nat → Nat} {a : Hp} {o : Nat} {R : Nat → Int32} (hF : FO G a o R) (hG : GD G) (hS : Sh R) {v : Int32} (h : ¬ inr v (nT R)) (Q : UInt32 → Hp → Prop) : Wp (X5_honesty (G 10) v) a Q ↔ Q FP.fconst0 (th G a (nv 1)) := by
  have hF0 := hF.th hG (nv 0)
  have t5 := th_5 G a (nv 0)
  simp (disch := omega) only [X5_honesty, X5_honesty_52, ↓w_bd, ↓w_rt, ↓w_bh, sm_l, sm_r, ↓w_okr, ↓w_nm, ↓w_ite, ↓reduceIte, not_true_eq_false, not_false_eq_true, and_true, true_and, and_self, Option.some.injEq, reduceCtorEq, eq_self, ↓w_rc, ↓w_gI, ↓w_gR, ↓w_aN, ↓w_aI, ↓w_aR, ↓w_aL, ↓w_pI, ↓w_pR, ↓w_sI, ↓w_sR, ↓w_sL, ↓w_nO, ↓w_nA, ↓w_nL, ↓w_ca, ↓w_ca0, ↓w_gS, ↓w_gK, ↓w_dv, ↓w_tw, ↓w_rz, ↓w_no, nv_lit, nv_f, nv_add, nv_mul, nv_sub, nv_le, nv_lt, nv_eq, nv_cl, Nat.reduceMod, Nat.reduceMul, Nat.reduceAdd, Nat.zero_add, Nat.add_zero, Nat.mul_zero, decide_eq_true_eq, nv_inT, th_f, th_K, th_N, th_R, th_5, th_2, okn0, Nat.reduceEqDiff, hF.1, hF0.1, X5_in_w, X5_holds_1 hF0.1.1.1 t5 n10, X5_holds_0 hF0.1.1.1 t5, X5_isTrader_0 hF0 hS h]
def PostD (G : Nat → Nat) (a : Hp) (r : Int32) (w : UInt32) (c : Hp) : Prop := hI c (G 10) 5 = r ∧ (r = nv 0 → hL c (G 21) 0 = FP.f2d w ∧ fOk w) ∧ After G a c
theorem op_honesty {G : Nat → Nat} {B : Nat → Nat × Nat} {S : Gst} {a : Hp} (hC : JC G B S a) (hT : JT G S a) (v : Int32) : Wp (X0_honesty (some (G 0)) v (some (G 21))) a (fun r b => Wp (X5_honesty (G 10) v) b (fun w c => PostD G a r w c)) := by
  obtain ⟨L, R, hM, hRo, hX, hF, -⟩ := start hC hT
  have hG := hC.1.gd
  have hJ := hC.2.1
  have hS := hRo.1
  have hs : ∀ i, i < 22 → G i < hSz a := fun i hi => (hC.1 i hi).1
  have h1 := sh_T1 hS
  by_cases h : inr v (nT R)
  · have e1 := (E0.rf a).new 69 0 1 (fun j => if j = 0 then v else nv 0) (fun _ => none)
    have hM1 := hM.ext (B' := B) e1 (fun _ _ => rfl)
    have hX1 := hX.ext e1
    have e2 := (E0.rf (hNew a 69 0 1 (fun j => if j = 0 then v else nv 0) (fun _ => none))).new 70 0 1 (fun j => if j = 0 then v else nv 0) (fun _ => none)
    have hE := e1.tr e2
    have hJ2 := (hC.e0 hE).2.1
    have hF2 := hF.e0 hE hs
    have fin : ∀ f : Nat → UInt64, f 0 = FP.f2d (ho R v) → PostD G a (nv 0) (ho R v) (th G (hwL (hNew (hNew a 69 0 1 (fun j => if j = 0 then v else nv 0) (fun _ => none)) 70 0 1 (fun j => if j = 0 then v else nv 0) (fun _ => none)) (G 21) f) (nv 0)) := by
      intro f hf
      refine ⟨th_5 _ _ _, fun _ => ⟨?_, (ho_ok hS v).1⟩, after hC hT hE (by rw [hSz_new, hSz_new]; omega) (by rw [hSl_new, hSl_new]; omega) (.inr ⟨f, .inr rfl⟩) (Sx.rf _ _)⟩
      rw [th_L, hL_wL, up1_s]
      exact hf
    have m2 : (FP.f2d (ho R v) &&& 0x7fffffffffffffff ≤ 0x7ff0000000000000) = True := eq_true (ho_ok hS v).1.1
    by_cases c : cos R v 1 + cos R v 2 = nv 0
    · have e : ho R v = FP.fconst1 := if_pos c
      rw [e] at m2 fin
      have n1 : (1 : Int32) = nv 1 := rfl
      have n2 : (2 : Int32) = nv 2 := rfl
      rw [n1, n2] at c
      have c69 := fun Q => cnt_69 hM v Q
      have c70 := fun Q => cnt_70 hM1 v Q
      rw [n1, n2] at c69
      rw [n1] at c70
      simp (disch := omega) only [X0_honesty, X1_honesty, X1_honesty_52, ↓w_bd, ↓w_rt, ↓w_bh, sm_l, sm_r, ↓w_okr, ↓w_nm, ↓w_ite, ↓reduceIte, not_true_eq_false, not_false_eq_true, and_true, true_and, and_self, Option.some.injEq, reduceCtorEq, eq_self, ↓w_rc, ↓w_gI, ↓w_gR, ↓w_aN, ↓w_aI, ↓w_aR, ↓w_aL, ↓w_pI, ↓w_pR, ↓w_sI, ↓w_sR, ↓w_sL, ↓w_nO, ↓w_nA, ↓w_nL, ↓w_ca, ↓w_ca0, ↓w_gS, ↓w_gK, ↓w_dv, ↓w_tw, ↓w_rz, ↓w_no, nv_lit, nv_f, nv_add, nv_mul, nv_sub, nv_le, nv_lt, nv_eq, nv_cl, Nat.reduceMod, Nat.reduceMul, Nat.reduceAdd, Nat.zero_add, Nat.add_zero, Nat.mul_zero, decide_eq_true_eq, nv_inT, hX, hX1, mk_k hM, mk_r hM, mk_k hM1, mk_r hM1, X1_requireTrader_1 hM hX h, c69, c70, c, ↓w_f2d, m2, hJ2]
      rw [X5_honesty_1 (hF2.wL _ _) hG hS h, e]
      exact fin _ (up1_s _ _ _)
    · have e : ho R v = FP.fdiv (FP.i2f (cos R v 1)) (FP.i2f (cos R v 1 + cos R v 2)) := if_neg c
      have m : (FP.fdiv (FP.i2f (cos R v 1)) (FP.i2f (cos R v 1 + cos R v 2)) &&& 0x7fffffff ≤ 0x7f800000) = True := eq_true ((ho_ok hS v).2 c)
      rw [e] at m2 fin
      have n1 : (1 : Int32) = nv 1 := rfl
      have n2 : (2 : Int32) = nv 2 := rfl
      rw [n1, n2] at m2 fin m c e
      have c69 := fun Q => cnt_69 hM v Q
      have c70 := fun Q => cnt_70 hM1 v Q
      rw [n1, n2] at c69
      rw [n1] at c70
      simp (disch := omega) only [X0_honesty, X1_honesty, X1_honesty_52, ↓w_bd, ↓w_rt, ↓w_bh, sm_l, sm_r, ↓w_okr, ↓w_nm, ↓w_ite, ↓reduceIte, not_true_eq_false, not_false_eq_true, and_true, true_and, and_self, Option.some.injEq, reduceCtorEq, eq_self, ↓w_rc, ↓w_gI, ↓w_gR, ↓w_aN, ↓w_aI, ↓w_aR, ↓w_aL, ↓w_pI, ↓w_pR, ↓w_sI, ↓w_sR, ↓w_sL, ↓w_nO, ↓w_nA, ↓w_nL, ↓w_ca, ↓w_ca0, ↓w_gS, ↓w_gK, ↓w_dv, ↓w_tw, ↓w_rz, ↓w_no, nv_lit, nv_f, nv_add, nv_mul, nv_sub, nv_le, nv_lt, nv_eq, nv_cl, Nat.reduceMod, Nat.reduceMul, Nat.reduceAdd, Nat.zero_add, Nat.add_zero, Nat.mul_zero, decide_eq_true_eq, nv_inT, hX, hX1, mk_k hM, mk_r hM, mk_k hM1, mk_r hM1, X1_requireTrader_1 hM hX h, c69, c70, c, ↓w_fdv, m, ↓w_f2d, m2, hJ2]
      rw [X5_honesty_1 (hF2.wL _ _) hG hS h, e]
      exact fin _ (up1_s _ _ _)
  · simp (disch := omega) only [X0_honesty, X1_honesty, ↓w_bd, ↓w_rt, ↓w_bh, sm_l, sm_r, ↓w_okr, ↓w_nm, ↓w_ite, ↓reduceIte, not_true_eq_false, not_false_eq_true, and_true, true_and, and_self, Option.some.injEq, reduceCtorEq, eq_self, ↓w_rc, ↓w_gI, ↓w_gR, ↓w_aN, ↓w_aI, ↓w_aR, ↓w_aL, ↓w_pI, ↓w_pR, ↓w_sI, ↓w_sR, ↓w_sL, ↓w_nO, ↓w_nA, ↓w_nL, ↓w_ca, ↓w_ca0, ↓w_gS, ↓w_gK, ↓w_dv, ↓w_tw, ↓w_rz, ↓w_no, nv_lit, nv_f, nv_add, nv_mul, nv_sub, nv_le, nv_lt, nv_eq, nv_cl, Nat.reduceMod, Nat.reduceMul, Nat.reduceAdd, Nat.zero_add, Nat.add_zero, Nat.mul_zero, decide_eq_true_eq, nv_inT, hX, X1_requireTrader_0 hM hX h1 h, Nat.reduceEqDiff, X5_honesty_0 (hF.tw hs) hG hS h]
    have := post_x hC hT (tw_e a) (by rw [tw_z]; omega) (by rw [tw_l]; omega) (p := 1) (by omega) (by omega) (nv 0)
    exact ⟨this.1, fun e => absurd e n10, this.2.2⟩
