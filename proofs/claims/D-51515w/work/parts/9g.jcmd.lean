/-! COMMANDS' WORDS -/
theorem hsh_cg {f g : Nat → Nat} : ∀ {l : Nat}, (∀ i, i < l → f i = g i) → hsh f l = hsh g l := by
  intro l
  induction l with
  | zero => intro _; rfl
  | succ l ih =>
    intro h
    show nv 31 * hsh f l + nv (f l) = nv 31 * hsh g l + nv (g l)
    rw [ih fun i hi => h i (by omega), h l (by omega)]
/-- the commands' hashes -/
def hc (c : Nat) : Nat := if c = 0 then 113643 else if c = 1 then 3433178 else if c = 2 then 103668165 else if c = 3 then 94756344 else if c = 4 then 3092207 else if c = 5 then 111375 else if c = 6 then 3543443 else 100913
theorem hc_v {c : Nat} (h : c < 8) : hsh (wl (4 + c)) (wn (4 + c)) = nv (hc c) := by
  have hf : ∀ c : Fin 8, hsh (wl (4 + c.val)) (wn (4 + c.val)) = nv (hc c.val) := by decide +kernel
  exact hf ⟨c, h⟩
/-- a string was hashed -/
def Hw (d d' : Hp) (w : Nat) : Prop := d' = d ∨ (hK d w = 13 ∧ (∃ g, d' = hwI d w g) ∧ hI d' w 1 = nv 0)
theorem Hw.sg {d d' : Hp} {w u l : Nat} {f : Nat → Nat} (h : Hw d d' w) (g : Sg d u l f) : Sg d' u l f := by
  rcases h with rfl | ⟨hk, ⟨x, rfl⟩, h1⟩
  · exact g
  · obtain ⟨a1, a2, v, a3, a4, a5, a6, a7, a8, a9⟩ := g
    have nv' : v ≠ w := fun e => by rw [e, hk] at a4; omega
    refine ⟨a1, ?_, v, a3, a4, a5, fun i hi => by rw [hI_wI, up1_n _ _ nv']; exact a6 i hi, a7, a8, a9⟩
    by_cases c : u = w
    · rw [c]; exact h1
    · rw [hI_wI, up1_n _ _ c]; exact a2
theorem Hw.ep {d d' : Hp} {w : Nat} (h : Hw d d' w) : EP (fun x => x = w ∧ hK d w = 13) d d' := by
  rcases h with rfl | ⟨hk, ⟨x, rfl⟩, h1⟩
  · exact EP.rf _ _
  · exact (EP.rf (fun x => x = w ∧ hK d w = 13) d).wI (.inl ⟨rfl, hk⟩) _
/-- the word of a token is hashed -/
theorem cs_hash {G : Nat → Nat} {B : Nat → Nat × Nat} {S : Gst} {a d : Hp} {rq Z L s e k w : Nat} (hC : JC G B S a) (h : Cs G S a rq Z L d s e k) (hr : Rc G d rq S s e k w) (hw : Wrd a d k w) (hwz : w < hSz d) (Q : Int32 → Hp → Prop) (kk : ∀ d', Hw d d' w → E0 a d' → Cs G S a rq Z L d' s e k → Rc G d' rq S s e k w → hSz d' = hSz d → hSl d' = hSl d → Q (hsh (fun i => tb S (s + i)) (if k = 1 then e - s else 0)) d') : Wp (J4_hashCode w) d Q := by
  have gl5 := hC.2.2.2.2.2.2.1.1
  obtain ⟨⟨h1, h2, h3⟩, h4, h5, he, hse, hk4⟩ := h
  have hr0 := hr
  obtain ⟨r1, r2, r3, r4, r5, r6, r7, r8⟩ := hr0
  refine J4_hash_w r6 r7 (by split <;> omega) (fun i => tb_b S _) _ fun d' hd ep sg hs zz ll => ?_
  have hHw : Hw d d' w := by
    rcases hd with hd | ⟨hk, g, hd⟩
    · exact .inl hd
    · exact .inr ⟨hk, ⟨g, hd⟩, sg.2.1⟩
  have hE : E0 a d' := by
    rcases hd with rfl | ⟨hk, g, rfl⟩
    · exact h1
    · refine h1.wI ?_ _
      rcases hw with hw | hw
      · exact hw.2
      · rw [hw.2] at hk; omega
  have o := ep.2.2 rq h3 (Ne.symm r8)
  have hr' : Rc G d' rq S s e k w := ⟨r1.ep ep h3 (Ne.symm r8), by rw [o.2.2.2]; exact r2, by rw [o.2.2.2]; exact r3, by rw [o.2.2.1]; exact r4, fun hk => by rw [o.2.2.2]; exact r5 hk, sg, hs, r8⟩
  have hw' : Wrd a d' k w := by
    rcases hw with hw | hw
    · exact .inl hw
    · refine .inr ⟨hw.1, ?_⟩
      rcases hd with rfl | ⟨hk, g, rfl⟩
      · exact hw.2
      · exact hw.2
  exact kk d' hHw hE ⟨⟨hE, h2, by omega⟩, ⟨w, hr', hw', by omega⟩, ⟨by omega, by omega⟩, he, hse, hk4⟩ hr' zz ll
theorem isw_1 {S : Gst} {s e k i j : Nat} (h : IsW S s e k i) (g : IsW S s e k j) : wn i = wn j ∧ ∀ x, x < wn i → wl i x = wl j x := by
  obtain ⟨h1, h2, h3⟩ := h
  obtain ⟨g1, g2, g3⟩ := g
  exact ⟨h2.symm.trans g2, fun x hx => by rw [← h3 x (by omega), g3 x (by omega)]⟩
/-- the commands' words differ -/
theorem isw_2 {S : Gst} {s e k i j : Nat} (hi : i < 8) (hj : j < 8) (h : IsW S s e k (4 + i)) (g : IsW S s e k (4 + j)) : i = j := by
  have hf : ∀ i j : Fin 8, (wn (4 + i.val) = wn (4 + j.val) ∧ ∀ x : Fin 6, x.val < wn (4 + i.val) → wl (4 + i.val) x.val = wl (4 + j.val) x.val) → i.val = j.val := by decide +kernel
  obtain ⟨h1, h2⟩ := isw_1 h g
  exact hf ⟨i, hi⟩ ⟨j, hj⟩ ⟨h1, fun x hx => h2 x.val hx⟩
theorem sw8 (c : Nat) (h : c < 8) : ((nv c).toInt < 0 ∨ 7 < (nv c).toInt) = False := eq_false (by
  rw [nv_int (by omega)]
  omega)
theorem swm : ((-nv 1).toInt < 0 ∨ 7 < (-nv 1).toInt) = True := eq_true (by decide)
theorem X6_isCommand_w {G : Nat → Nat} {B : Nat → Nat × Nat} {S : Gst} {a d : Hp} {rq Z L s e k w : Nat} (hC : JC G B S a) (h : Cs G S a rq Z L d s e k) (hr : Rc G d rq S s e k w) (hw : Wrd a d k w) (hwz : w < hSz d) (Q : Int32 → Hp → Prop)
    (kk : ∀ d' v, Hw d d' w → E0 a d' → Cs G S a rq Z L d' s e k → Rc G d' rq S s e k w → hSz d' = hSz d → hSl d' = hSl d → ((∃ c, c < 8 ∧ IsW S s e k (4 + c)) ∧ v = 1 ∨ (∀ c, c < 8 → ¬ IsW S s e k (4 + c)) ∧ v = 0) → Q (nv v) d') : Wp (X6_isCommand rq (some w)) d Q := by
  have gl5 := hC.2.2.2.2.2.2.1.1
  have kw : hK d w % 100 = 13 := hr.2.2.2.2.2.1.1
  rw [X6_isCommand, w_bd, w_rc]
  refine ⟨kw, ?_⟩
  rw [w_bd]
  refine cs_hash hC h hr hw hwz _ fun d' hHw hE hcs hr' zz ll => ?_
  have kw' : hK d' w % 100 = 13 := hr'.2.2.2.2.2.1.1
  have hCo := (hcs.jc hC).2.2.2.2.2.2.2.2.2
  have k' := fun v hv => kk d' v hHw hE hcs hr' zz ll hv
  obtain ⟨u4, x4, y4, -⟩ := co_w hCo (show 4 < 28 by omega)
  obtain ⟨u5, x5, y5, -⟩ := co_w hCo (show 5 < 28 by omega)
  obtain ⟨u6, x6, y6, -⟩ := co_w hCo (show 6 < 28 by omega)
  obtain ⟨u7, x7, y7, -⟩ := co_w hCo (show 7 < 28 by omega)
  obtain ⟨u8, x8, y8, -⟩ := co_w hCo (show 8 < 28 by omega)
  obtain ⟨u9, x9, y9, -⟩ := co_w hCo (show 9 < 28 by omega)
  obtain ⟨u10, x10, y10, -⟩ := co_w hCo (show 10 < 28 by omega)
  obtain ⟨u11, x11, y11, -⟩ := co_w hCo (show 11 < 28 by omega)
  have e4 := fun Q => cs_eq gl5 hcs hr' y4 (show 4 < 28 by omega) (by omega) (Q := Q)
  have e5 := fun Q => cs_eq gl5 hcs hr' y5 (show 5 < 28 by omega) (by omega) (Q := Q)
  have e6 := fun Q => cs_eq gl5 hcs hr' y6 (show 6 < 28 by omega) (by omega) (Q := Q)
  have e7 := fun Q => cs_eq gl5 hcs hr' y7 (show 7 < 28 by omega) (by omega) (Q := Q)
  have e8 := fun Q => cs_eq gl5 hcs hr' y8 (show 8 < 28 by omega) (by omega) (Q := Q)
  have e9 := fun Q => cs_eq gl5 hcs hr' y9 (show 9 < 28 by omega) (by omega) (Q := Q)
  have e10 := fun Q => cs_eq gl5 hcs hr' y10 (show 10 < 28 by omega) (by omega) (Q := Q)
  have e11 := fun Q => cs_eq gl5 hcs hr' y11 (show 11 < 28 by omega) (by omega) (Q := Q)
  by_cases cw : ∃ c, c < 8 ∧ IsW S s e k (4 + c)
  · obtain ⟨c, hc8, hcw⟩ := cw
    have hv := k' 1 (.inl ⟨⟨c, hc8, hcw⟩, rfl⟩)
    have hh : hsh (fun i => tb S (s + i)) (if k = 1 then e - s else 0) = nv (hc c) := by
      rw [if_pos hcw.1, hcw.2.1, ← hc_v hc8]
      exact hsh_cg fun i hi => hcw.2.2 i (by rw [hcw.2.1]; exact hi)
    rw [hh]
    have : c = 0 ∨ c = 1 ∨ c = 2 ∨ c = 3 ∨ c = 4 ∨ c = 5 ∨ c = 6 ∨ c = 7 := by omega
    rcases this with rfl | rfl | rfl | rfl | rfl | rfl | rfl | rfl
    · have q1 := fun Q => (e4 Q).1 hcw
      simp (disch := omega) only [show hc 0 = 113643 from rfl, ↓w_bd, ↓w_rt, ↓w_bh, sm_l, sm_r, ↓w_okr, ↓w_nm, ↓w_ite, ↓reduceIte, not_true_eq_false, not_false_eq_true, and_true, true_and, and_self, Option.some.injEq, reduceCtorEq, eq_self, ↓w_rc, ↓w_gI, ↓w_gR, ↓w_aN, ↓w_aI, ↓w_aR, ↓w_aL, ↓w_pI, ↓w_pR, ↓w_sI, ↓w_sR, ↓w_sL, ↓w_nO, ↓w_nA, ↓w_nL, ↓w_ca, ↓w_ca0, ↓w_gS, ↓w_gK, ↓w_dv, ↓w_tw, ↓w_rz, ↓w_no, nv_lit, nv_f, nv_add, nv_mul, nv_sub, nv_le, nv_lt, nv_eq, nv_cl, Nat.reduceMod, Nat.reduceMul, Nat.reduceAdd, Nat.zero_add, Nat.add_zero, Nat.mul_zero, decide_eq_true_eq, nv_inT, ↓w_gC, x4, exists_eq_left', kw', q1, n10, X6_isCommand_195, sw8 0, nrk21, Nat.reduceEqDiff]
      exact hv
    · have q1 := fun Q => (e5 Q).1 hcw
      simp (disch := omega) only [show hc 1 = 3433178 from rfl, ↓w_bd, ↓w_rt, ↓w_bh, sm_l, sm_r, ↓w_okr, ↓w_nm, ↓w_ite, ↓reduceIte, not_true_eq_false, not_false_eq_true, and_true, true_and, and_self, Option.some.injEq, reduceCtorEq, eq_self, ↓w_rc, ↓w_gI, ↓w_gR, ↓w_aN, ↓w_aI, ↓w_aR, ↓w_aL, ↓w_pI, ↓w_pR, ↓w_sI, ↓w_sR, ↓w_sL, ↓w_nO, ↓w_nA, ↓w_nL, ↓w_ca, ↓w_ca0, ↓w_gS, ↓w_gK, ↓w_dv, ↓w_tw, ↓w_rz, ↓w_no, nv_lit, nv_f, nv_add, nv_mul, nv_sub, nv_le, nv_lt, nv_eq, nv_cl, Nat.reduceMod, Nat.reduceMul, Nat.reduceAdd, Nat.zero_add, Nat.add_zero, Nat.mul_zero, decide_eq_true_eq, nv_inT, ↓w_gC, x5, exists_eq_left', kw', q1, n10, X6_isCommand_195, sw8 1, nrk21, Nat.reduceEqDiff]
      exact hv
    · have q1 := fun Q => (e6 Q).1 hcw
      simp (disch := omega) only [show hc 2 = 103668165 from rfl, ↓w_bd, ↓w_rt, ↓w_bh, sm_l, sm_r, ↓w_okr, ↓w_nm, ↓w_ite, ↓reduceIte, not_true_eq_false, not_false_eq_true, and_true, true_and, and_self, Option.some.injEq, reduceCtorEq, eq_self, ↓w_rc, ↓w_gI, ↓w_gR, ↓w_aN, ↓w_aI, ↓w_aR, ↓w_aL, ↓w_pI, ↓w_pR, ↓w_sI, ↓w_sR, ↓w_sL, ↓w_nO, ↓w_nA, ↓w_nL, ↓w_ca, ↓w_ca0, ↓w_gS, ↓w_gK, ↓w_dv, ↓w_tw, ↓w_rz, ↓w_no, nv_lit, nv_f, nv_add, nv_mul, nv_sub, nv_le, nv_lt, nv_eq, nv_cl, Nat.reduceMod, Nat.reduceMul, Nat.reduceAdd, Nat.zero_add, Nat.add_zero, Nat.mul_zero, decide_eq_true_eq, nv_inT, ↓w_gC, x6, exists_eq_left', kw', q1, n10, X6_isCommand_195, sw8 2, nrk21, Nat.reduceEqDiff]
      exact hv
    · have q1 := fun Q => (e7 Q).1 hcw
      simp (disch := omega) only [show hc 3 = 94756344 from rfl, ↓w_bd, ↓w_rt, ↓w_bh, sm_l, sm_r, ↓w_okr, ↓w_nm, ↓w_ite, ↓reduceIte, not_true_eq_false, not_false_eq_true, and_true, true_and, and_self, Option.some.injEq, reduceCtorEq, eq_self, ↓w_rc, ↓w_gI, ↓w_gR, ↓w_aN, ↓w_aI, ↓w_aR, ↓w_aL, ↓w_pI, ↓w_pR, ↓w_sI, ↓w_sR, ↓w_sL, ↓w_nO, ↓w_nA, ↓w_nL, ↓w_ca, ↓w_ca0, ↓w_gS, ↓w_gK, ↓w_dv, ↓w_tw, ↓w_rz, ↓w_no, nv_lit, nv_f, nv_add, nv_mul, nv_sub, nv_le, nv_lt, nv_eq, nv_cl, Nat.reduceMod, Nat.reduceMul, Nat.reduceAdd, Nat.zero_add, Nat.add_zero, Nat.mul_zero, decide_eq_true_eq, nv_inT, ↓w_gC, x7, exists_eq_left', kw', q1, n10, X6_isCommand_195, sw8 3, nrk21, Nat.reduceEqDiff]
      exact hv
    · have q1 := fun Q => (e8 Q).1 hcw
      simp (disch := omega) only [show hc 4 = 3092207 from rfl, ↓w_bd, ↓w_rt, ↓w_bh, sm_l, sm_r, ↓w_okr, ↓w_nm, ↓w_ite, ↓reduceIte, not_true_eq_false, not_false_eq_true, and_true, true_and, and_self, Option.some.injEq, reduceCtorEq, eq_self, ↓w_rc, ↓w_gI, ↓w_gR, ↓w_aN, ↓w_aI, ↓w_aR, ↓w_aL, ↓w_pI, ↓w_pR, ↓w_sI, ↓w_sR, ↓w_sL, ↓w_nO, ↓w_nA, ↓w_nL, ↓w_ca, ↓w_ca0, ↓w_gS, ↓w_gK, ↓w_dv, ↓w_tw, ↓w_rz, ↓w_no, nv_lit, nv_f, nv_add, nv_mul, nv_sub, nv_le, nv_lt, nv_eq, nv_cl, Nat.reduceMod, Nat.reduceMul, Nat.reduceAdd, Nat.zero_add, Nat.add_zero, Nat.mul_zero, decide_eq_true_eq, nv_inT, ↓w_gC, x8, exists_eq_left', kw', q1, n10, X6_isCommand_195, sw8 4, nrk21, Nat.reduceEqDiff]
      exact hv
    · have q1 := fun Q => (e9 Q).1 hcw
      simp (disch := omega) only [show hc 5 = 111375 from rfl, ↓w_bd, ↓w_rt, ↓w_bh, sm_l, sm_r, ↓w_okr, ↓w_nm, ↓w_ite, ↓reduceIte, not_true_eq_false, not_false_eq_true, and_true, true_and, and_self, Option.some.injEq, reduceCtorEq, eq_self, ↓w_rc, ↓w_gI, ↓w_gR, ↓w_aN, ↓w_aI, ↓w_aR, ↓w_aL, ↓w_pI, ↓w_pR, ↓w_sI, ↓w_sR, ↓w_sL, ↓w_nO, ↓w_nA, ↓w_nL, ↓w_ca, ↓w_ca0, ↓w_gS, ↓w_gK, ↓w_dv, ↓w_tw, ↓w_rz, ↓w_no, nv_lit, nv_f, nv_add, nv_mul, nv_sub, nv_le, nv_lt, nv_eq, nv_cl, Nat.reduceMod, Nat.reduceMul, Nat.reduceAdd, Nat.zero_add, Nat.add_zero, Nat.mul_zero, decide_eq_true_eq, nv_inT, ↓w_gC, x9, exists_eq_left', kw', q1, n10, X6_isCommand_195, sw8 5, nrk21, Nat.reduceEqDiff]
      exact hv
    · have q1 := fun Q => (e10 Q).1 hcw
      simp (disch := omega) only [show hc 6 = 3543443 from rfl, ↓w_bd, ↓w_rt, ↓w_bh, sm_l, sm_r, ↓w_okr, ↓w_nm, ↓w_ite, ↓reduceIte, not_true_eq_false, not_false_eq_true, and_true, true_and, and_self, Option.some.injEq, reduceCtorEq, eq_self, ↓w_rc, ↓w_gI, ↓w_gR, ↓w_aN, ↓w_aI, ↓w_aR, ↓w_aL, ↓w_pI, ↓w_pR, ↓w_sI, ↓w_sR, ↓w_sL, ↓w_nO, ↓w_nA, ↓w_nL, ↓w_ca, ↓w_ca0, ↓w_gS, ↓w_gK, ↓w_dv, ↓w_tw, ↓w_rz, ↓w_no, nv_lit, nv_f, nv_add, nv_mul, nv_sub, nv_le, nv_lt, nv_eq, nv_cl, Nat.reduceMod, Nat.reduceMul, Nat.reduceAdd, Nat.zero_add, Nat.add_zero, Nat.mul_zero, decide_eq_true_eq, nv_inT, ↓w_gC, x10, exists_eq_left', kw', q1, n10, X6_isCommand_195, sw8 6, nrk21, Nat.reduceEqDiff]
      exact hv
    · have q1 := fun Q => (e11 Q).1 hcw
      simp (disch := omega) only [show hc 7 = 100913 from rfl, ↓w_bd, ↓w_rt, ↓w_bh, sm_l, sm_r, ↓w_okr, ↓w_nm, ↓w_ite, ↓reduceIte, not_true_eq_false, not_false_eq_true, and_true, true_and, and_self, Option.some.injEq, reduceCtorEq, eq_self, ↓w_rc, ↓w_gI, ↓w_gR, ↓w_aN, ↓w_aI, ↓w_aR, ↓w_aL, ↓w_pI, ↓w_pR, ↓w_sI, ↓w_sR, ↓w_sL, ↓w_nO, ↓w_nA, ↓w_nL, ↓w_ca, ↓w_ca0, ↓w_gS, ↓w_gK, ↓w_dv, ↓w_tw, ↓w_rz, ↓w_no, nv_lit, nv_f, nv_add, nv_mul, nv_sub, nv_le, nv_lt, nv_eq, nv_cl, Nat.reduceMod, Nat.reduceMul, Nat.reduceAdd, Nat.zero_add, Nat.add_zero, Nat.mul_zero, decide_eq_true_eq, nv_inT, ↓w_gC, x11, exists_eq_left', kw', q1, n10, X6_isCommand_195, sw8 7, nrk21, Nat.reduceEqDiff]
      exact hv
  · have cn : ∀ c, c < 8 → ¬ IsW S s e k (4 + c) := fun c h1 h2 => cw ⟨c, h1, h2⟩
    have hv := k' 0 (.inr ⟨cn, rfl⟩)
    have z4 := fun Q => (e4 Q).2 (cn 0 (by omega))
    have z5 := fun Q => (e5 Q).2 (cn 1 (by omega))
    have z6 := fun Q => (e6 Q).2 (cn 2 (by omega))
    have z7 := fun Q => (e7 Q).2 (cn 3 (by omega))
    have z8 := fun Q => (e8 Q).2 (cn 4 (by omega))
    have z9 := fun Q => (e9 Q).2 (cn 5 (by omega))
    have z10 := fun Q => (e10 Q).2 (cn 6 (by omega))
    have z11 := fun Q => (e11 Q).2 (cn 7 (by omega))
    generalize hsh (fun i => tb S (s + i)) (if k = 1 then e - s else 0) = X
    simp (disch := omega) only [↓w_bd, ↓w_rt, ↓w_bh, sm_l, sm_r, ↓w_okr, ↓w_nm, ↓w_ite, ↓reduceIte, not_true_eq_false, not_false_eq_true, and_true, true_and, and_self, Option.some.injEq, reduceCtorEq, eq_self, ↓w_rc, ↓w_gI, ↓w_gR, ↓w_aN, ↓w_aI, ↓w_aR, ↓w_aL, ↓w_pI, ↓w_pR, ↓w_sI, ↓w_sR, ↓w_sL, ↓w_nO, ↓w_nA, ↓w_nL, ↓w_ca, ↓w_ca0, ↓w_gS, ↓w_gK, ↓w_dv, ↓w_tw, ↓w_rz, ↓w_no, nv_lit, nv_f, nv_add, nv_mul, nv_sub, nv_le, nv_lt, nv_eq, nv_cl, Nat.reduceMod, Nat.reduceMul, Nat.reduceAdd, Nat.zero_add, Nat.add_zero, Nat.mul_zero, decide_eq_true_eq, nv_inT, ↓w_gC, x4, x5, x6, x7, x8, x9, x10, x11, exists_eq_left', kw', z4, z5, z6, z7, z8, z9, z10, z11, X6_isCommand_195, swm, nrk20, ite_self]
    exact hv
