/-! AN EMPTY MARKET whose cells lie apart from it -/
def LQ2 (q p r : Nat) : Nat := if r = 0 then q else p + (lq r - 1)
/-- an empty market: q, and p .. p + 16 -/
def Em2 (q p n : Nat) (e : Int32) (c : Hp) : Prop :=
  (hK c q = 2 ∧ hK c (p) = 3 ∧ hK c (p + 1) = 46 ∧ hK c (p + 2) = 3 ∧ hK c (p + 3) = 46 ∧ hK c (p + 4) = 48 ∧ hK c (p + 15) = 41 ∧ hK c (p + 16) = 41) ∧
  (hN c (p + 1) = 10 ∧ hN c (p + 3) = 20 ∧ hN c (p + 4) = 10 ∧ hN c (p + 15) = 7 ∧ hN c (p + 16) = n) ∧
  (hR c q 0 = some (p) ∧ hR c q 1 = some (p + 2) ∧ hR c q 2 = some (p + 4) ∧ hR c q 3 = some (p + 16) ∧ hR c q 4 = some (p + 15) ∧ hR c (p) 0 = some (p + 1) ∧ hR c (p + 2) 0 = some (p + 3)) ∧
  (∀ x, x < 10 → hR c (p + 4) x = some (p + 5 + x) ∧ hK c (p + 5 + x) = 47 ∧ hN c (p + 5 + x) = 10 ∧ hR c (p + 5 + x) = fun _ => none) ∧
  (hI c q 5 = e ∧ hI c (p) 1 = nv 0 ∧ hI c (p + 2) 1 = nv 0 ∧ (∀ j, j < 7 → hI c (p + 15) j = nv 0) ∧ ∀ j, j < n → hI c (p + 16) j = nv 10)
theorem X2_init_w2 {a b : Hp} {q p n : Nat} {e : Int32} (hq : hSz a ≤ q) (hqp : q < p) (hb : hSz b = p) (hE : E0 a b) (hk : hK b q = 2) (hn : n ≤ 4) (Q : Unit → Hp → Prop)
    (h : ∀ c, E0 a c → hSz c = p + 17 → hSl c = hSl b + 151 + n → Em2 q p n e c → EP (fun z => z = q) b c → Q () c) : Wp (X2_init q (nv n) e) b Q := by
  unfold X2_init
  refine w_sh (n := 10) (by omega) fun c1 e1 z1 l1 k1 r1 i1 ka1 na1 => ?_
  have kq1 : hK c1 q = 2 := by rw [(e1.2.2 q (by omega)).1]; exact hk
  rw [w_bd, w_pR]
  refine ⟨kq1, ?_⟩
  generalize hd1 : hwR c1 q (up1 (hR c1 q) 0 (some (hSz b))) = d1
  have rq1 : hR d1 q 0 = some (p) := by rw [← hd1, hR_wR, up1_s, up1_s, hb]
  have ep1 : EP (fun z => z = q) c1 d1 := by rw [← hd1]; exact (EP.rf (fun z => z = q) _).wR (.inl rfl) _
  have zd1 : hSz d1 = p + 2 := by rw [← hd1]; show hSz c1 = _; omega
  have ld1 : hSl d1 = hSl b + 12 := by rw [← hd1]; show hSl c1 = _; omega
  have Ed1 : E0 a d1 := by rw [← hd1]; exact (hE.tr e1).wR (by omega) _
  have kd1 : hK d1 q = 2 := by rw [← hd1]; exact kq1
  refine w_sh (n := 20) (by omega) fun c2 e2 z2 l2 k2 r2 i2 ka2 na2 => ?_
  have o2 := e2.2.2 q (by omega)
  rw [w_bd, w_pR]
  refine ⟨by rw [o2.1]; exact kd1, ?_⟩
  generalize hd2 : hwR c2 q (up1 (hR c2 q) 1 (some (hSz d1))) = d2
  have rq2 : hR d2 q 0 = some (p) ∧ hR d2 q 1 = some (p + 2) := by
    rw [← hd2, hR_wR, up1_s]
    refine ⟨?_, by rw [up1_s, zd1]⟩
    rw [up1_n _ _ (by omega), o2.2.2.1]
    exact rq1
  have ep2 : EP (fun z => z = q) c2 d2 := by rw [← hd2]; exact (EP.rf (fun z => z = q) _).wR (.inl rfl) _
  have zd2 : hSz d2 = p + 4 := by rw [← hd2]; show hSz c2 = _; omega
  have ld2 : hSl d2 = hSl b + 34 := by rw [← hd2]; show hSl c2 = _; omega
  have Ed2 : E0 a d2 := by rw [← hd2]; exact (Ed1.tr e2).wR (by omega) _
  have kd2 : hK d2 q = 2 := by rw [← hd2]; show hK c2 q = 2; rw [o2.1]; exact kd1
  rw [w_bd]
  refine w_n2' (n := 10) (m := 10) (by omega) (by omega) fun c3 e3 z3 l3 k3 n3 f3 => ?_
  have o3 := e3.2.2 q (by omega)
  rw [w_bd, w_pR]
  refine ⟨by rw [o3.1]; exact kd2, ?_⟩
  generalize hd3 : hwR c3 q (up1 (hR c3 q) 2 (some (hSz d2))) = d3
  have rq3 : hR d3 q 0 = some (p) ∧ hR d3 q 1 = some (p + 2) ∧ hR d3 q 2 = some (p + 4) := by
    rw [← hd3, hR_wR, up1_s]
    refine ⟨?_, ?_, by rw [up1_s, zd2]⟩
    · rw [up1_n _ _ (by omega), o3.2.2.1]; exact rq2.1
    · rw [up1_n _ _ (by omega), o3.2.2.1]; exact rq2.2
  have ep3 : EP (fun z => z = q) c3 d3 := by rw [← hd3]; exact (EP.rf (fun z => z = q) _).wR (.inl rfl) _
  have zd3 : hSz d3 = p + 15 := by rw [← hd3]; show hSz c3 = _; omega
  have ld3 : hSl d3 = hSl b + 144 := by rw [← hd3]; show hSl c3 = _; omega
  have Ed3 : E0 a d3 := by rw [← hd3]; exact (Ed2.tr e3).wR (by omega) _
  have kd3 : hK d3 q = 2 := by rw [← hd3]; show hK c3 q = 2; rw [o3.1]; exact kd2
  rw [w_bd]
  refine w_nA' (n := 7) (by omega) fun c4 e4 z4 l4 k4 n4 i4 r4 => ?_
  have o4 := e4.2.2 q (by omega)
  rw [w_bd, w_pR]
  refine ⟨by rw [o4.1]; exact kd3, ?_⟩
  generalize hd4 : hwR c4 q (up1 (hR c4 q) 4 (some (hSz d3))) = d4
  have rq4 : hR d4 q 0 = some (p) ∧ hR d4 q 1 = some (p + 2) ∧ hR d4 q 2 = some (p + 4) ∧ hR d4 q 4 = some (p + 15) := by
    rw [← hd4, hR_wR, up1_s]
    refine ⟨?_, ?_, ?_, by rw [up1_s, zd3]⟩
    · rw [up1_n _ _ (by omega), o4.2.2.1]; exact rq3.1
    · rw [up1_n _ _ (by omega), o4.2.2.1]; exact rq3.2.1
    · rw [up1_n _ _ (by omega), o4.2.2.1]; exact rq3.2.2
  have ep4 : EP (fun z => z = q) c4 d4 := by rw [← hd4]; exact (EP.rf (fun z => z = q) _).wR (.inl rfl) _
  have zd4 : hSz d4 = p + 16 := by rw [← hd4]; show hSz c4 = _; omega
  have ld4 : hSl d4 = hSl b + 151 := by rw [← hd4]; show hSl c4 = _; omega
  have Ed4 : E0 a d4 := by rw [← hd4]; exact (Ed3.tr e4).wR (by omega) _
  have kd4 : hK d4 q = 2 := by rw [← hd4]; show hK c4 q = 2; rw [o4.1]; exact kd3
  rw [w_bd]
  refine w_nA' (n := n) (by omega) fun c5 e5 z5 l5 k5 n5 i5 r5 => ?_
  have o5 := e5.2.2 q (by omega)
  rw [w_bd, w_pR]
  refine ⟨by rw [o5.1]; exact kd4, ?_⟩
  generalize hd5 : hwR c5 q (up1 (hR c5 q) 3 (some (hSz d4))) = d5
  have rq5 : hR d5 q 0 = some (p) ∧ hR d5 q 1 = some (p + 2) ∧ hR d5 q 2 = some (p + 4) ∧ hR d5 q 3 = some (p + 16) ∧ hR d5 q 4 = some (p + 15) := by
    rw [← hd5, hR_wR, up1_s]
    refine ⟨?_, ?_, ?_, by rw [up1_s, zd4], ?_⟩
    · rw [up1_n _ _ (by omega), o5.2.2.1]; exact rq4.1
    · rw [up1_n _ _ (by omega), o5.2.2.1]; exact rq4.2.1
    · rw [up1_n _ _ (by omega), o5.2.2.1]; exact rq4.2.2.1
    · rw [up1_n _ _ (by omega), o5.2.2.1]; exact rq4.2.2.2
  have ep5 : EP (fun z => z = q) c5 d5 := by rw [← hd5]; exact (EP.rf (fun z => z = q) _).wR (.inl rfl) _
  have zd5 : hSz d5 = p + 17 := by rw [← hd5]; show hSz c5 = _; omega
  have ld5 : hSl d5 = hSl b + 151 + n := by rw [← hd5]; show hSl c5 = _; omega
  have Ed5 : E0 a d5 := by rw [← hd5]; exact (Ed4.tr e5).wR (by omega) _
  have kd5 : hK d5 q = 2 := by rw [← hd5]; show hK c5 q = 2; rw [o5.1]; exact kd4
  -- all chains to d5
  have x5 := ep5
  have x4 : EP (fun z => z = q) c4 d5 := (ep4.tr (e5.ep _)).tr ep5
  have x3 : EP (fun z => z = q) c3 d5 := (ep3.tr (e4.ep _)).tr x4
  have x2 : EP (fun z => z = q) c2 d5 := (ep2.tr (e3.ep _)).tr x3
  have x1 : EP (fun z => z = q) c1 d5 := (ep1.tr (e2.ep _)).tr x2
  have y := fun (c : Hp) (x : EP (fun z => z = q) c d5) (z : Nat) (h1 : z < hSz c) (h2 : z ≠ q) => x.2.2 z h1 h2
  have sb : hSz b = p := hb
  rw [sb] at k1 r1 i1 ka1 na1
  rw [zd1] at k2 r2 i2 ka2 na2
  rw [zd2] at k3 n3 f3
  rw [zd3] at k4 n4 i4
  rw [zd4] at k5 n5 i5
  have t17 := y c5 x5 (p + 16) (by omega) (by omega)
  -- the loop
  have fin : ∀ (f k : Nat), k ≤ n → n - k < f → Wp (X2_init_59 f q (nv n) e (nv k)) (hwI d5 (p + 16) (fun j => if j < k then nv 10 else nv 0)) Q := by
    refine loopUp _ n ?_ ?_
    · intro f
      simp (disch := omega) only [X2_init_59, ↓w_bd, ↓w_rt, ↓w_bh, sm_l, sm_r, ↓w_okr, ↓w_nm, ↓w_ite, ↓reduceIte, not_true_eq_false, not_false_eq_true, and_true, true_and, and_self, Option.some.injEq, reduceCtorEq, eq_self, ↓w_rc, ↓w_gI, ↓w_gR, ↓w_aN, ↓w_aI, ↓w_aR, ↓w_aL, ↓w_pI, ↓w_pR, ↓w_sI, ↓w_sR, ↓w_sL, ↓w_nO, ↓w_nA, ↓w_nL, ↓w_ca, ↓w_ca0, ↓w_gS, ↓w_gK, ↓w_dv, ↓w_tw, ↓w_rz, ↓w_no, nv_lit, nv_f, nv_add, nv_mul, nv_sub, nv_le, nv_lt, nv_eq, nv_cl, Nat.reduceMod, Nat.reduceMul, Nat.reduceAdd, Nat.zero_add, Nat.add_zero, Nat.mul_zero, decide_eq_true_eq, nv_inT, Nat.le_refl, hK_wI, kd5, show okN 0 e = true from rfl]
      have ne : q ≠ p + 16 := by omega
      refine h _ ((Ed5.wI (by omega) _).wI (by omega) _) zd5 ?_ ?_ (((((e1.ep (fun z => z = q)).tr x1)).wI (.inr (by omega)) _).wI (.inl rfl) _)
      · show hSl d5 = _
        omega
      · have w := fun (z : Nat) (h1 : z ≠ q) (h2 : z ≠ p + 16) => (show hI (hwI (hwI d5 (p + 16) (fun j => if j < n then nv 10 else nv 0)) q (up1 (hI (hwI d5 (p + 16) (fun j => if j < n then nv 10 else nv 0)) q) 5 e)) z = hI d5 z by rw [hI_wI, up1_n _ _ h1, hI_wI, up1_n _ _ h2])
        refine ⟨⟨kd5, ?_, ?_, ?_, ?_, ?_, ?_, ?_⟩, ⟨?_, ?_, ?_, ?_, ?_⟩, ⟨rq5.1, rq5.2.1, rq5.2.2.1, rq5.2.2.2.1, rq5.2.2.2.2, ?_, ?_⟩, fun x hx => ⟨?_, ?_, ?_, ?_⟩, ?_, ?_, ?_, fun j hj => ?_, fun j hj => ?_⟩
        · show hK d5 _ = _; rw [(y c1 x1 (p) (by omega) (by omega)).1]; exact k1
        · show hK d5 _ = _; rw [(y c1 x1 (p + 1) (by omega) (by omega)).1]; exact ka1
        · show hK d5 _ = _; rw [(y c2 x2 (p + 2) (by omega) (by omega)).1]; exact k2
        · show hK d5 _ = _; rw [(y c2 x2 (p + 3) (by omega) (by omega)).1]; exact ka2
        · show hK d5 _ = _; rw [(y c3 x3 (p + 4) (by omega) (by omega)).1]; exact k3
        · show hK d5 _ = _; rw [(y c4 x4 (p + 15) (by omega) (by omega)).1]; exact k4
        · show hK d5 _ = _; rw [t17.1]; exact k5
        · show hN d5 _ = _; rw [(y c1 x1 (p + 1) (by omega) (by omega)).2.1]; exact na1
        · show hN d5 _ = _; rw [(y c2 x2 (p + 3) (by omega) (by omega)).2.1]; exact na2
        · show hN d5 _ = _; rw [(y c3 x3 (p + 4) (by omega) (by omega)).2.1]; exact n3
        · show hN d5 _ = _; rw [(y c4 x4 (p + 15) (by omega) (by omega)).2.1]; exact n4
        · show hN d5 _ = _; rw [t17.2.1]; exact n5
        · show hR d5 _ _ = _; rw [(y c1 x1 (p) (by omega) (by omega)).2.2.1]; exact r1
        · show hR d5 _ _ = _; rw [(y c2 x2 (p + 2) (by omega) (by omega)).2.2.1]; exact r2
        · show hR d5 _ _ = _; rw [(y c3 x3 (p + 4) (by omega) (by omega)).2.2.1]; exact (f3 x hx).1
        · show hK d5 _ = _; rw [(y c3 x3 (p + 5 + x) (by omega) (by omega)).1]; exact (f3 x hx).2.1
        · show hN d5 _ = _; rw [(y c3 x3 (p + 5 + x) (by omega) (by omega)).2.1]; exact (f3 x hx).2.2.1
        · show hR d5 _ = _; rw [(y c3 x3 (p + 5 + x) (by omega) (by omega)).2.2.1]; exact (f3 x hx).2.2.2.2
        · rw [hI_wI, up1_s, up1_s]
        · rw [w _ (by omega) (by omega), (y c1 x1 (p) (by omega) (by omega)).2.2.2]; exact i1
        · rw [w _ (by omega) (by omega), (y c2 x2 (p + 2) (by omega) (by omega)).2.2.2]; exact i2
        · rw [w _ (by omega) (by omega), (y c4 x4 (p + 15) (by omega) (by omega)).2.2.2, i4]
        · rw [hI_wI, up1_n _ _ (by omega), hI_wI, up1_s, if_pos hj]
    · intro f k hk2 ih
      have k17 : hK d5 (p + 16) = 41 := by rw [t17.1]; exact k5
      have n17 : hN d5 (p + 16) = n := by rw [t17.2.1]; exact n5
      simp (disch := omega) only [X2_init_59, ↓w_bd, ↓w_rt, ↓w_bh, sm_l, sm_r, ↓w_okr, ↓w_nm, ↓w_ite, ↓reduceIte, not_true_eq_false, not_false_eq_true, and_true, true_and, and_self, Option.some.injEq, reduceCtorEq, eq_self, ↓w_rc, ↓w_gI, ↓w_gR, ↓w_aN, ↓w_aI, ↓w_aR, ↓w_aL, ↓w_pI, ↓w_pR, ↓w_sI, ↓w_sR, ↓w_sL, ↓w_nO, ↓w_nA, ↓w_nL, ↓w_ca, ↓w_ca0, ↓w_gS, ↓w_gK, ↓w_dv, ↓w_tw, ↓w_rz, ↓w_no, nv_lit, nv_f, nv_add, nv_mul, nv_sub, nv_le, nv_lt, nv_eq, nv_cl, Nat.reduceMod, Nat.reduceMul, Nat.reduceAdd, Nat.zero_add, Nat.add_zero, Nat.mul_zero, decide_eq_true_eq, nv_inT, Nat.not_le.mpr hk2, hK_wI, hR_wI, hN_wI, kd5, rq5, k17, n17, hI_wI, up1_s, hwI_2, nr41]
      have e : up1 (fun j => if j < k then nv 10 else nv 0) k (nv 10) = fun j => if j < k + 1 then nv 10 else nv 0 := by
        funext j
        unfold up1
        by_cases c : j = k
        · rw [if_pos c, if_pos (by omega)]
        · rw [if_neg c]
          have : (j < k) = (j < k + 1) := by apply propext; omega
          simp only [this]
      rw [e]
      exact ih
  have := fin FU 0 (by omega) (by unfold FU; omega)
  have e0 : hwI d5 (p + 16) (fun j => if j < 0 then nv 10 else nv 0) = d5 := by
    have : (fun j => if j < 0 then nv 10 else nv 0) = hI d5 (p + 16) := by
      rw [t17.2.2.2, i5]
      funext j
      rw [if_neg (by omega)]
    rw [this, hwI_id]
  rw [e0] at this
  exact this
theorem Em2.mk {q p n : Nat} {e : Int32} {c : Hp} {R : Nat → Int32} {B : Nat → Nat × Nat} (h : Em2 q p n e c) (hn : n ≤ 4) (hqp : q < p) (hz : p + 17 ≤ hSz c) (hR : Er n e R) (hB : ∀ r, (r < 8 ∨ (10 ≤ r ∧ r < 20)) → B (LQ2 q p r) = (q + 1, r)) : Mk B c (LQ2 q p) R := by
  obtain ⟨⟨k0, k1, k2, k3, k4, k5, k16, k17⟩, ⟨n2, n4, n5, n16, n17⟩, ⟨r0, r1, r2, r3, r4, r5, r6⟩, hf, i5, i1, i3, it, iu⟩ := h
  obtain ⟨e0, e1, e2, e3, e4, e5, e6⟩ := hR
  have eT : nT R = n := by unfold nT; rw [e0]; exact nv_cl (by omega)
  have eH : nH R = 0 := by unfold nH; rw [e1]; rfl
  have eC : nC R = 0 := by unfold nC; rw [e3]; rfl
  have q0 : LQ2 q p 0 = q := rfl
  have q1 : LQ2 q p 1 = p := rfl
  have q2 : LQ2 q p 2 = p + 2 := rfl
  have q3 : LQ2 q p 3 = p + 1 := rfl
  have q4 : LQ2 q p 4 = p + 3 := rfl
  have q5 : LQ2 q p 5 = p + 4 := rfl
  have q6 : LQ2 q p 6 = p + 16 := rfl
  have q7 : LQ2 q p 7 = p + 15 := rfl
  have q10 : ∀ x, LQ2 q p (10 + x) = p + 5 + x := fun x => by unfold LQ2; rw [if_neg (by omega), lq_10]; omega
  have live : ∀ r, lv R r → r < 8 ∨ (10 ≤ r ∧ r < 20) := by
    intro r h
    unfold lv at h
    rw [eH, eC] at h
    omega
  refine ⟨⟨⟨by rw [eT]; exact e0, by rw [eT]; exact hn⟩, ⟨by rw [eH]; exact e1, by rw [eH]; omega⟩, ⟨by rw [eC]; exact e3, by rw [eC]; omega⟩, fun x hx => by rw [eH] at hx; omega⟩, ?_, ?_, ?_, ⟨?_, ?_, ?_⟩, ?_⟩
  · intro r hr
    have hl := live r hr
    refine ⟨?_, hB r hl, ?_⟩
    · rcases hl with g | g
      · have : r = 0 ∨ r = 1 ∨ r = 2 ∨ r = 3 ∨ r = 4 ∨ r = 5 ∨ r = 6 ∨ r = 7 := by omega
        rcases this with rfl | rfl | rfl | rfl | rfl | rfl | rfl | rfl
        · rw [q0]; omega
        · rw [q1]; omega
        · rw [q2]; omega
        · rw [q3]; omega
        · rw [q4]; omega
        · rw [q5]; omega
        · rw [q6]; omega
        · rw [q7]; omega
      · rw [show r = 10 + (r - 10) by omega, q10]; omega
    · rcases hl with g | g
      · have : r = 0 ∨ r = 1 ∨ r = 2 ∨ r = 3 ∨ r = 4 ∨ r = 5 ∨ r = 6 ∨ r = 7 := by omega
        rcases this with rfl | rfl | rfl | rfl | rfl | rfl | rfl | rfl
        · exact k0
        · exact k1
        · exact k3
        · exact k2
        · exact k4
        · exact k5
        · exact k17
        · exact k16
      · rw [show r = 10 + (r - 10) by omega, q10, kd_10 (by omega)]
        exact (hf _ (by omega)).2.1
  · unfold MkN
    rw [eT, eH, eC]
    exact ⟨⟨n2, n4, n5, n17, n16⟩, fun x hx => by rw [q10]; exact (hf x hx).2.2.1, fun x hx => by omega, fun x hx => by omega, fun x hx => by omega, fun x s hx _ => by omega⟩
  · unfold MkR
    rw [eH, eC]
    exact ⟨⟨r0, r1, r2, r3, r4, r5, r6⟩, fun x hx => by rw [q10]; exact (hf x hx).1, fun x hx => by omega, fun x hx => by omega, fun x hx => by omega, fun x hx => by omega, fun x hx => by omega, fun x s hx _ => by omega⟩
  · intro r j i g
    rcases ci_c g with d | d | d | d | d | ⟨x, hx, d | d⟩ | ⟨x, hx, d | d | d | d⟩
    · obtain ⟨rfl, rfl, rfl⟩ := d; rw [e2]; exact i5
    · obtain ⟨rfl, rfl, rfl⟩ := d; rw [e1]; exact i1
    · obtain ⟨rfl, rfl, rfl⟩ := d; rw [e3]; exact i3
    · obtain ⟨rfl, d1, rfl⟩ := d
      rw [eT] at d1
      rw [e5 j d1]
      exact iu j d1
    · obtain ⟨rfl, d1, rfl⟩ := d
      rw [e4 j d1]
      exact it j d1
    · rw [eH] at hx; omega
    · rw [eH] at hx; omega
    · rw [eC] at hx; omega
    · rw [eC] at hx; omega
    · rw [eC] at hx; omega
    · rw [eC] at hx; omega
  · intro x hx; rw [eH] at hx; omega
  · intro x hx; rw [eC] at hx; omega
  · intro x y hx hy
    refine .inl ⟨e6 x y hx hy, ?_⟩
    rw [q10, (hf x hx).2.2.2]
