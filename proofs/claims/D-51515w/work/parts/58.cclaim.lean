/-! A CLAIM MADE -/
/-- a claim's cells at p .. p + 4 -/
def Cm (p : Nat) (d : Hp) : Prop := (hK d p = 8 ∧ hK d (p + 1) = 51 ∧ hK d (p + 2) = 41 ∧ hK d (p + 3) = 41 ∧ hK d (p + 4) = 41) ∧ (hN d (p + 1) = 2 ∧ hN d (p + 4) = 2 ∧ hN d (p + 2) = 5 ∧ hN d (p + 3) = 5) ∧ (hR d p 5 = some (p + 1) ∧ hR d p 6 = some (p + 4) ∧ hR d (p + 1) 0 = some (p + 2) ∧ hR d (p + 1) 1 = some (p + 3))
theorem Cm.wI {p : Nat} {d : Hp} (h : Cm p d) (q : Nat) (f : Nat → Int32) : Cm p (hwI d q f) := h
theorem X8_mk_w {c b : Hp} {p : Nat} (v1 v2 v3 v4 v5 : Int32) (hp : p = hSz c) (hb : hSz b = p + 1) (hE : E0 c b) (kb : hK b p = 8) (ib : hI b p = fun _ => nv 0) (Q : Unit → Hp → Prop)
    (h : ∀ d, E0 c d → hSz d = p + 5 → hSl d = hSl b + 14 → Cm p d → (hI d p 0 = v1 ∧ hI d p 1 = v2 ∧ hI d p 2 = v3 ∧ hI d p 3 = v5 ∧ hI d p 4 = v4 ∧ hI d p 7 = nv 0 ∧ hI d p 8 = nv 0) → (hI d (p + 2) = (fun _ => nv 0) ∧ hI d (p + 3) = (fun _ => nv 0) ∧ hI d (p + 4) = fun _ => nv 0) → Q () d) : Wp (X8_init_2 p v1 v2 v3 v4 v5) b Q := by
  unfold X8_init_2
  rw [w_bd]
  refine w_n2' (n := 2) (m := 5) (by omega) (by omega) fun d1 e1 z1 l1 k1 n1 f1 => ?_
  have o1 := e1.2.2 p (by omega)
  rw [w_bd, w_pR]
  refine ⟨by rw [o1.1]; exact kb, ?_⟩
  generalize hd1 : hwR d1 p (up1 (hR d1 p) 5 (some (hSz b))) = d1'
  have r1 : hR d1' p 5 = some (p + 1) := by rw [← hd1, hR_wR, up1_s, up1_s, hb]
  have ep1 : EP (fun z => z = p) d1 d1' := by rw [← hd1]; exact (EP.rf (fun z => z = p) _).wR (.inl rfl) _
  have zd1 : hSz d1' = p + 4 := by rw [← hd1]; show hSz d1 = _; omega
  have ld1 : hSl d1' = hSl b + 12 := by rw [← hd1]; show hSl d1 = _; omega
  have Ed1 : E0 c d1' := by rw [← hd1]; exact (hE.tr e1).wR (by omega) _
  have kd1 : hK d1' p = 8 := by rw [← hd1]; show hK d1 p = 8; rw [o1.1]; exact kb
  have id1 : hI d1' p = fun _ => nv 0 := by rw [← hd1]; show hI d1 p = _; rw [o1.2.2.2.1]; exact ib
  rw [w_bd]
  refine w_nA' (n := 2) (by omega) fun d2 e2 z2 l2 k2 n2 i2 r2 => ?_
  have o2 := e2.2.2 p (by omega)
  rw [w_bd, w_pR]
  refine ⟨by rw [o2.1]; exact kd1, ?_⟩
  generalize hd2 : hwR d2 p (up1 (hR d2 p) 6 (some (hSz d1'))) = d2'
  have r2' : hR d2' p 5 = some (p + 1) ∧ hR d2' p 6 = some (p + 4) := by
    rw [← hd2, hR_wR, up1_s]
    refine ⟨?_, by rw [up1_s, zd1]⟩
    rw [up1_n _ _ (by omega), o2.2.2.1]
    exact r1
  have ep2 : EP (fun z => z = p) d2 d2' := by rw [← hd2]; exact (EP.rf (fun z => z = p) _).wR (.inl rfl) _
  have zd2 : hSz d2' = p + 5 := by rw [← hd2]; show hSz d2 = _; omega
  have ld2 : hSl d2' = hSl b + 14 := by rw [← hd2]; show hSl d2 = _; omega
  have Ed2 : E0 c d2' := by rw [← hd2]; exact (Ed1.tr e2).wR (by omega) _
  have kd2 : hK d2' p = 8 := by rw [← hd2]; show hK d2 p = 8; rw [o2.1]; exact kd1
  have id2 : hI d2' p = fun _ => nv 0 := by rw [← hd2]; show hI d2 p = _; rw [o2.2.2.2.1]; exact id1
  have x2 := ep2
  have x1 : EP (fun z => z = p) d1 d2' := (ep1.tr (e2.ep _)).tr ep2
  rw [hb] at k1 n1 f1
  rw [zd1] at k2 n2 i2
  have y1 := fun (q : Nat) (h1 : q < hSz d1) (h2 : q ≠ p) => x1.2.2 q h1 h2
  have y2 := fun (q : Nat) (h1 : q < hSz d2) (h2 : q ≠ p) => x2.2.2 q h1 h2
  have f10 := f1 0 (by omega)
  have f11 := f1 1 (by omega)
  have cm : Cm p d2' := by
    refine ⟨⟨kd2, ?_, ?_, ?_, ?_⟩, ⟨?_, ?_, ?_, ?_⟩, r2'.1, r2'.2, ?_, ?_⟩
    · rw [(y1 (p + 1) (by omega) (by omega)).1]; exact k1
    · rw [(y1 (p + 2) (by omega) (by omega)).1]; exact f10.2.1
    · rw [(y1 (p + 3) (by omega) (by omega)).1]; exact f11.2.1
    · rw [(y2 (p + 4) (by omega) (by omega)).1]; exact k2
    · rw [(y1 (p + 1) (by omega) (by omega)).2.1]; exact n1
    · rw [(y2 (p + 4) (by omega) (by omega)).2.1]; exact n2
    · rw [(y1 (p + 2) (by omega) (by omega)).2.1]; exact f10.2.2.1
    · rw [(y1 (p + 3) (by omega) (by omega)).2.1]; exact f11.2.2.1
    · rw [(y1 (p + 1) (by omega) (by omega)).2.2.1]; exact f10.1
    · rw [(y1 (p + 1) (by omega) (by omega)).2.2.1]; exact f11.1
  simp (disch := omega) only [↓w_bd, ↓w_rt, ↓w_bh, sm_l, sm_r, ↓w_okr, ↓w_nm, ↓w_ite, ↓reduceIte, not_true_eq_false, not_false_eq_true, and_true, true_and, and_self, Option.some.injEq, reduceCtorEq, eq_self, ↓w_rc, ↓w_gI, ↓w_gR, ↓w_aN, ↓w_aI, ↓w_aR, ↓w_aL, ↓w_pI, ↓w_pR, ↓w_sI, ↓w_sR, ↓w_sL, ↓w_nO, ↓w_nA, ↓w_nL, ↓w_ca, ↓w_ca0, ↓w_gS, ↓w_gK, ↓w_dv, ↓w_tw, ↓w_rz, ↓w_no, nv_lit, nv_f, nv_add, nv_mul, nv_sub, nv_le, nv_lt, nv_eq, nv_cl, Nat.reduceMod, Nat.reduceMul, Nat.reduceAdd, Nat.zero_add, Nat.add_zero, Nat.mul_zero, decide_eq_true_eq, nv_inT, kd2, hK_wI, hI_wI, up1_s, hwI_2, id2, show ∀ z, okN 0 z = true from fun _ => rfl]
  refine h _ (Ed2.wI (by omega) _) zd2 ld2 (cm.wI _ _) ?_ ?_
  · rw [hI_wI, up1_s]
    unfold up1
    simp
  · refine ⟨?_, ?_, ?_⟩
    · rw [hI_wI, up1_n _ _ (by omega), (y1 (p + 2) (by omega) (by omega)).2.2.2]; exact f10.2.2.2.1
    · rw [hI_wI, up1_n _ _ (by omega), (y1 (p + 3) (by omega) (by omega)).2.2.2]; exact f11.2.2.2.1
    · rw [hI_wI, up1_n _ _ (by omega), (y2 (p + 4) (by omega) (by omega)).2.2.2]; exact i2
theorem okC_n {a : Hp} {q n : Nat} (h : hN a q = n) (hn : n ≤ 1000) : okC a (some q) (nv 0) (nv n) = true := by
  have e : (nv n).toNatClampNeg = n := nv_cl (by omega)
  have e0 : (nv 0).toNatClampNeg = 0 := rfl
  have z : ¬ nv n < 0 := by rw [show (0 : Int32) = nv 0 from rfl, nv_lt (by omega) (by omega)]; omega
  have z0 : ¬ nv 0 < 0 := by decide
  unfold okC
  simp only [e, e0, z, z0, h, not_false_eq_true, true_and, Nat.zero_add, Nat.le_refl, decide_true]
theorem okB_41 (a : Hp) (q p n : Nat) : okB a 41 q p n = true := by unfold okB; simp
theorem X8_copy_w {B : Nat → Nat × Nat} {c : Hp} {L : Nat → Nat} {R : Nat → Int32} (hM : Mk B c L R) {k : Nat} (hk : k < nC R) (Q : Unit → Hp → Prop) {b : Hp} {p : Nat} (hp : p = hSz c) (hb : hSz b = p + 1) (hE : E0 c b) (kb : hK b p = 8) (ib : hI b p = fun _ => nv 0)
    (h : ∀ d, E0 c d → hSz d = p + 5 → hSl d = hSl b + 14 → Cm p d → (hI d p 0 = nv k ∧ hI d p 1 = cs R k 0 ∧ hI d p 2 = cs R k 1 ∧ hI d p 3 = cs R k 2 ∧ hI d p 4 = cs R k 3 ∧ hI d p 7 = cs R k 4 ∧ hI d p 8 = cs R k 5) → (∀ j, j < 2 → hI d (p + 4) j = cs R k (6 + j)) → (∀ j, j < 5 → hI d (p + 2) j = cs R k (8 + j)) → (∀ j, j < 5 → hI d (p + 3) j = cs R k (13 + j)) → Q () d) : Wp (X8_init p (some (L (40 + k)))) b Q := by
  have hMb := hM.ext hE (B' := B) (fun _ _ => rfl)
  have kk := mk_k hMb
  have ii := (mk_i hMb).2.2.2.2.2.2.1 k hk
  have k40 := kk.2.2.2.2.1 k hk
  have h20 := (mk_w hM).2.2.1.2
  unfold X8_init
  simp (disch := omega) only [↓w_bd, ↓w_gI, k40, Nat.reduceMod, true_and, ii]
  refine X8_mk_w _ _ _ _ _ hp hb hE kb ib _ fun d e1 z1 l1 cm fl zr => ?_
  have hMd := hM.ext e1 (B' := B) (fun _ _ => rfl)
  have dk := mk_k hMd
  have dr := mk_r hMd
  have dn := mk_n hMd
  have di := mk_i hMd
  have lo : ∀ r, lv R r → L r < p := fun r hr => by have := (hM.2.1 r hr).1; omega
  have l40 := lo _ (lv_40 hk)
  have l80 := lo _ (lv_80 hk)
  have l100 := lo _ (lv_100 (s := 0) hk (by omega))
  have l101 := lo _ (lv_100 (s := 1) hk (by omega))
  have r0 := dr.2.2.2.2.2.2.2 k 0 hk (by omega)
  have r1 := dr.2.2.2.2.2.2.2 k 1 hk (by omega)
  have n0 := dn.2.2.2.2.2 k 0 hk (by omega)
  have n1 := dn.2.2.2.2.2 k 1 hk (by omega)
  have kk0 := dk.2.2.2.2.2.2.2 k 0 hk (by omega)
  have kk1 := dk.2.2.2.2.2.2.2 k 1 hk (by omega)
  have i80 := fun s hs => di.2.2.2.2.2.2.2.1 k s hk hs
  have c1 : (nv 5).toNatClampNeg = 5 := rfl
  have c0 : (nv 0).toNatClampNeg = 0 := rfl
  obtain ⟨⟨ck0, ck1, ck2, ck3, ck4⟩, ⟨cn1, cn4, cn2, cn3⟩, cr5, cr6, cr0, cr1⟩ := cm
  have key : ∀ f, Wp (X8_init_26 (f + 1 + 1 + 1) p (some (L (40 + k))) (nv 0)) d Q := by
    intro f
    have oks : ∀ (x : Hp) q, hN x = hN d → hN d q = 5 → okC x (some q) (nv 0) (nv 5) = true := fun x q h1 h2 => okC_n (by rw [h1]; exact h2) (by omega)
    simp (disch := omega) only [X8_init_26, ↓w_bd, ↓w_rt, ↓w_bh, sm_l, sm_r, ↓w_okr, ↓w_nm, ↓w_ite, ↓reduceIte, not_true_eq_false, not_false_eq_true, and_true, true_and, and_self, Option.some.injEq, reduceCtorEq, eq_self, ↓w_rc, ↓w_gI, ↓w_gR, ↓w_aN, ↓w_aI, ↓w_aR, ↓w_aL, ↓w_pI, ↓w_pR, ↓w_sI, ↓w_sR, ↓w_sL, ↓w_nO, ↓w_nA, ↓w_nL, ↓w_ca, ↓w_ca0, ↓w_gS, ↓w_gK, ↓w_dv, ↓w_tw, ↓w_rz, ↓w_no, nv_lit, nv_f, nv_add, nv_mul, nv_sub, nv_le, nv_lt, nv_eq, nv_cl, Nat.reduceMod, Nat.reduceMul, Nat.reduceAdd, Nat.zero_add, Nat.add_zero, Nat.mul_zero, decide_eq_true_eq, nv_inT, ↓w_cpI, dk, dr, dn, r0, r1, n0, n1, kk0, kk1, i80, ck0, ck1, ck2, ck3, ck4, cn1, cn2, cn3, cn4, cr5, cr6, cr0, cr1, okC_n, okB_41, hK_wI, hR_wI, hN_wI, nr41, Nat.reduceLeDiff, show ∀ z, okN 0 z = true from fun _ => rfl]
    have s0 : va_cpy (hI d (L (100 + 2 * k))) (hI d (p + 2)) 0 0 5 = fun j => if j < 5 then cs R k (8 + j) else hI d (p + 2) j := by
      funext j
      unfold va_cpy
      by_cases g : j < 5
      · rw [if_pos (by omega), if_pos g, Nat.zero_add, Nat.sub_zero]
        exact di.2.2.2.2.2.2.2.2 k 0 j hk (by omega) g
      · rw [if_neg (by omega), if_neg g]
    refine ⟨kk0, ⟨okC_n (show hN d (L (100 + 2 * k + 1)) = 5 from n1) (by omega), okC_n (show hN d (p + 3) = 5 from cn3) (by omega)⟩, ?_⟩
    refine h _ ((((((e1.wI (by omega) _).wI (by omega) _).wI (by omega) _).wI (by omega) _).wI (by omega) _).wI (by omega) _) z1 l1 ⟨⟨ck0, ck1, ck2, ck3, ck4⟩, ⟨cn1, cn4, cn2, cn3⟩, cr5, cr6, cr0, cr1⟩ ?_ ?_ ?_ ?_
    · simp (disch := omega) only [hI_wI, up1_s, up1_n, fl, di.2.2.2.2.2.2.1 k hk, and_self]
    · intro j hj
      have : j = 0 ∨ j = 1 := by omega
      rcases this with rfl | rfl
      · simp (disch := omega) only [hI_wI, up1_s, up1_n, i80]
      · simp (disch := omega) only [hI_wI, up1_s, up1_n, i80]
    · intro j hj
      simp (disch := omega) only [hI_wI, up1_s, up1_n, s0, hj, if_true]
    · intro j hj
      simp (disch := omega) only [hI_wI, up1_s, up1_n]
      unfold va_cpy
      rw [if_pos (by omega), Nat.zero_add, Nat.sub_zero]
      have := di.2.2.2.2.2.2.2.2 k 1 j hk (by omega) hj
      rw [show 8 + 5 * 1 + j = 13 + j by omega] at this
      exact this
  exact key 99997
