/-- places of an empty market's cells behind the market itself -/
def lq (r : Nat) : Nat := if r = 0 then 0 else if r = 1 then 1 else if r = 2 then 3 else if r = 3 then 2 else if r = 4 then 4 else if r = 5 then 5 else if r = 6 then 17 else if r = 7 then 16 else r - 4
theorem lq_10 {k : Nat} : lq (10 + k) = 6 + k := by
  unfold lq
  (repeat' split) <;> omega
/-- an empty market: what lies at q .. q + 17 -/
def Em (q n : Nat) (e : Int32) (c : Hp) : Prop :=
  (hK c q = 2 ∧ hK c (q + 1) = 3 ∧ hK c (q + 2) = 46 ∧ hK c (q + 3) = 3 ∧ hK c (q + 4) = 46 ∧ hK c (q + 5) = 48 ∧ hK c (q + 16) = 41 ∧ hK c (q + 17) = 41) ∧
  (hN c (q + 2) = 10 ∧ hN c (q + 4) = 20 ∧ hN c (q + 5) = 10 ∧ hN c (q + 16) = 7 ∧ hN c (q + 17) = n) ∧
  (hR c q 0 = some (q + 1) ∧ hR c q 1 = some (q + 3) ∧ hR c q 2 = some (q + 5) ∧ hR c q 3 = some (q + 17) ∧ hR c q 4 = some (q + 16) ∧ hR c (q + 1) 0 = some (q + 2) ∧ hR c (q + 3) 0 = some (q + 4)) ∧
  (∀ x, x < 10 → hR c (q + 5) x = some (q + 6 + x) ∧ hK c (q + 6 + x) = 47 ∧ hN c (q + 6 + x) = 10 ∧ hR c (q + 6 + x) = fun _ => none) ∧
  (hI c q 5 = e ∧ hI c (q + 1) 1 = nv 0 ∧ hI c (q + 3) 1 = nv 0 ∧ (∀ j, j < 7 → hI c (q + 16) j = nv 0) ∧ ∀ j, j < n → hI c (q + 17) j = nv 10)
theorem X2_init_w {a b : Hp} {q n : Nat} {e : Int32} (hq : q = hSz a) (hb : hSz b = q + 1) (hE : E0 a b) (hk : hK b q = 2) (hn : n ≤ 4) (Q : Unit → Hp → Prop)
    (h : ∀ c, E0 a c → hSz c = q + 18 → hSl c = hSl b + 151 + n → Em q n e c → Q () c) : Wp (X2_init q (nv n) e) b Q := by
  unfold X2_init
  refine w_sh (n := 10) (by omega) fun c1 e1 z1 l1 k1 r1 i1 ka1 na1 => ?_
  have kq1 : hK c1 q = 2 := by rw [(e1.2.2 q (by omega)).1]; exact hk
  rw [w_bd, w_pR]
  refine ⟨kq1, ?_⟩
  generalize hd1 : hwR c1 q (up1 (hR c1 q) 0 (some (hSz b))) = d1
  have rq1 : hR d1 q 0 = some (q + 1) := by rw [← hd1, hR_wR, up1_s, up1_s, hb]
  have ep1 : EP (fun z => z = q) c1 d1 := by rw [← hd1]; exact (EP.rf (fun z => z = q) _).wR (.inl rfl) _
  have zd1 : hSz d1 = q + 3 := by rw [← hd1]; show hSz c1 = _; omega
  have ld1 : hSl d1 = hSl b + 12 := by rw [← hd1]; show hSl c1 = _; omega
  have Ed1 : E0 a d1 := by rw [← hd1]; exact (hE.tr e1).wR (by omega) _
  have kd1 : hK d1 q = 2 := by rw [← hd1]; exact kq1
  refine w_sh (n := 20) (by omega) fun c2 e2 z2 l2 k2 r2 i2 ka2 na2 => ?_
  have o2 := e2.2.2 q (by omega)
  rw [w_bd, w_pR]
  refine ⟨by rw [o2.1]; exact kd1, ?_⟩
  generalize hd2 : hwR c2 q (up1 (hR c2 q) 1 (some (hSz d1))) = d2
  have rq2 : hR d2 q 0 = some (q + 1) ∧ hR d2 q 1 = some (q + 3) := by
    rw [← hd2, hR_wR, up1_s]
    refine ⟨?_, by rw [up1_s, zd1]⟩
    rw [up1_n _ _ (by omega), o2.2.2.1]
    exact rq1
  have ep2 : EP (fun z => z = q) c2 d2 := by rw [← hd2]; exact (EP.rf (fun z => z = q) _).wR (.inl rfl) _
  have zd2 : hSz d2 = q + 5 := by rw [← hd2]; show hSz c2 = _; omega
  have ld2 : hSl d2 = hSl b + 34 := by rw [← hd2]; show hSl c2 = _; omega
  have Ed2 : E0 a d2 := by rw [← hd2]; exact (Ed1.tr e2).wR (by omega) _
  have kd2 : hK d2 q = 2 := by rw [← hd2]; show hK c2 q = 2; rw [o2.1]; exact kd1
  rw [w_bd]
  refine w_n2' (n := 10) (m := 10) (by omega) (by omega) fun c3 e3 z3 l3 k3 n3 f3 => ?_
  have o3 := e3.2.2 q (by omega)
  rw [w_bd, w_pR]
  refine ⟨by rw [o3.1]; exact kd2, ?_⟩
  generalize hd3 : hwR c3 q (up1 (hR c3 q) 2 (some (hSz d2))) = d3
  have rq3 : hR d3 q 0 = some (q + 1) ∧ hR d3 q 1 = some (q + 3) ∧ hR d3 q 2 = some (q + 5) := by
    rw [← hd3, hR_wR, up1_s]
    refine ⟨?_, ?_, by rw [up1_s, zd2]⟩
    · rw [up1_n _ _ (by omega), o3.2.2.1]; exact rq2.1
    · rw [up1_n _ _ (by omega), o3.2.2.1]; exact rq2.2
  have ep3 : EP (fun z => z = q) c3 d3 := by rw [← hd3]; exact (EP.rf (fun z => z = q) _).wR (.inl rfl) _
  have zd3 : hSz d3 = q + 16 := by rw [← hd3]; show hSz c3 = _; omega
  have ld3 : hSl d3 = hSl b + 144 := by rw [← hd3]; show hSl c3 = _; omega
  have Ed3 : E0 a d3 := by rw [← hd3]; exact (Ed2.tr e3).wR (by omega) _
  have kd3 : hK d3 q = 2 := by rw [← hd3]; show hK c3 q = 2; rw [o3.1]; exact kd2
  rw [w_bd]
  refine w_nA' (n := 7) (by omega) fun c4 e4 z4 l4 k4 n4 i4 r4 => ?_
  have o4 := e4.2.2 q (by omega)
  rw [w_bd, w_pR]
  refine ⟨by rw [o4.1]; exact kd3, ?_⟩
  generalize hd4 : hwR c4 q (up1 (hR c4 q) 4 (some (hSz d3))) = d4
  have rq4 : hR d4 q 0 = some (q + 1) ∧ hR d4 q 1 = some (q + 3) ∧ hR d4 q 2 = some (q + 5) ∧ hR d4 q 4 = some (q + 16) := by
    rw [← hd4, hR_wR, up1_s]
    refine ⟨?_, ?_, ?_, by rw [up1_s, zd3]⟩
    · rw [up1_n _ _ (by omega), o4.2.2.1]; exact rq3.1
    · rw [up1_n _ _ (by omega), o4.2.2.1]; exact rq3.2.1
    · rw [up1_n _ _ (by omega), o4.2.2.1]; exact rq3.2.2
  have ep4 : EP (fun z => z = q) c4 d4 := by rw [← hd4]; exact (EP.rf (fun z => z = q) _).wR (.inl rfl) _
  have zd4 : hSz d4 = q + 17 := by rw [← hd4]; show hSz c4 = _; omega
  have ld4 : hSl d4 = hSl b + 151 := by rw [← hd4]; show hSl c4 = _; omega
  have Ed4 : E0 a d4 := by rw [← hd4]; exact (Ed3.tr e4).wR (by omega) _
  have kd4 : hK d4 q = 2 := by rw [← hd4]; show hK c4 q = 2; rw [o4.1]; exact kd3
  rw [w_bd]
  refine w_nA' (n := n) (by omega) fun c5 e5 z5 l5 k5 n5 i5 r5 => ?_
  have o5 := e5.2.2 q (by omega)
  rw [w_bd, w_pR]
  refine ⟨by rw [o5.1]; exact kd4, ?_⟩
  generalize hd5 : hwR c5 q (up1 (hR c5 q) 3 (some (hSz d4))) = d5
  have rq5 : hR d5 q 0 = some (q + 1) ∧ hR d5 q 1 = some (q + 3) ∧ hR d5 q 2 = some (q + 5) ∧ hR d5 q 3 = some (q + 17) ∧ hR d5 q 4 = some (q + 16) := by
    rw [← hd5, hR_wR, up1_s]
    refine ⟨?_, ?_, ?_, by rw [up1_s, zd4], ?_⟩
    · rw [up1_n _ _ (by omega), o5.2.2.1]; exact rq4.1
    · rw [up1_n _ _ (by omega), o5.2.2.1]; exact rq4.2.1
    · rw [up1_n _ _ (by omega), o5.2.2.1]; exact rq4.2.2.1
    · rw [up1_n _ _ (by omega), o5.2.2.1]; exact rq4.2.2.2
  have ep5 : EP (fun z => z = q) c5 d5 := by rw [← hd5]; exact (EP.rf (fun z => z = q) _).wR (.inl rfl) _
  have zd5 : hSz d5 = q + 18 := by rw [← hd5]; show hSz c5 = _; omega
  have ld5 : hSl d5 = hSl b + 151 + n := by rw [← hd5]; show hSl c5 = _; omega
  have Ed5 : E0 a d5 := by rw [← hd5]; exact (Ed4.tr e5).wR (by omega) _
  have kd5 : hK d5 q = 2 := by rw [← hd5]; show hK c5 q = 2; rw [o5.1]; exact kd4
  -- all chains to d5
  have x5 := ep5
  have x4 : EP (fun z => z = q) c4 d5 := (ep4.tr (e5.ep _)).tr ep5
  have x3 : EP (fun z => z = q) c3 d5 := (ep3.tr (e4.ep _)).tr x4
  have x2 : EP (fun z => z = q) c2 d5 := (ep2.tr (e3.ep _)).tr x3
  have x1 : EP (fun z => z = q) c1 d5 := (ep1.tr (e2.ep _)).tr x2
  have y := fun (c : Hp) (x : EP (fun z => z = q) c d5) (p : Nat) (h1 : p < hSz c) (h2 : p ≠ q) => x.2.2 p h1 h2
  have sb : hSz b = q + 1 := hb
  rw [sb] at k1 r1 i1 ka1 na1
  rw [zd1] at k2 r2 i2 ka2 na2
  rw [zd2] at k3 n3 f3
  rw [zd3] at k4 n4 i4
  rw [zd4] at k5 n5 i5
  have t17 := y c5 x5 (q + 17) (by omega) (by omega)
  -- the loop
  have fin : ∀ (f k : Nat), k ≤ n → n - k < f → Wp (X2_init_59 f q (nv n) e (nv k)) (hwI d5 (q + 17) (fun j => if j < k then nv 10 else nv 0)) Q := by
    refine loopUp _ n ?_ ?_
    · intro f
      simp (disch := omega) only [X2_init_59, ↓w_bd, ↓w_rt, ↓w_bh, sm_l, sm_r, ↓w_okr, ↓w_nm, ↓w_ite, ↓reduceIte, not_true_eq_false, not_false_eq_true, and_true, true_and, and_self, Option.some.injEq, reduceCtorEq, eq_self, ↓w_rc, ↓w_gI, ↓w_gR, ↓w_aN, ↓w_aI, ↓w_aR, ↓w_aL, ↓w_pI, ↓w_pR, ↓w_sI, ↓w_sR, ↓w_sL, ↓w_nO, ↓w_nA, ↓w_nL, ↓w_ca, ↓w_ca0, ↓w_gS, ↓w_gK, ↓w_dv, ↓w_tw, ↓w_rz, ↓w_no, nv_lit, nv_f, nv_add, nv_mul, nv_sub, nv_le, nv_lt, nv_eq, nv_cl, Nat.reduceMod, Nat.reduceMul, Nat.reduceAdd, Nat.zero_add, Nat.add_zero, Nat.mul_zero, decide_eq_true_eq, nv_inT, Nat.le_refl, hK_wI, kd5, show okN 0 e = true from rfl]
      have ne : q ≠ q + 17 := by omega
      refine h _ ((Ed5.wI (by omega) _).wI (by omega) _) zd5 ?_ ?_
      · show hSl d5 = _
        omega
      · have w := fun (p : Nat) (h1 : p ≠ q) (h2 : p ≠ q + 17) => (show hI (hwI (hwI d5 (q + 17) (fun j => if j < n then nv 10 else nv 0)) q (up1 (hI (hwI d5 (q + 17) (fun j => if j < n then nv 10 else nv 0)) q) 5 e)) p = hI d5 p by rw [hI_wI, up1_n _ _ h1, hI_wI, up1_n _ _ h2])
        refine ⟨⟨kd5, ?_, ?_, ?_, ?_, ?_, ?_, ?_⟩, ⟨?_, ?_, ?_, ?_, ?_⟩, ⟨rq5.1, rq5.2.1, rq5.2.2.1, rq5.2.2.2.1, rq5.2.2.2.2, ?_, ?_⟩, fun x hx => ⟨?_, ?_, ?_, ?_⟩, ?_, ?_, ?_, fun j hj => ?_, fun j hj => ?_⟩
        · show hK d5 _ = _; rw [(y c1 x1 (q + 1) (by omega) (by omega)).1]; exact k1
        · show hK d5 _ = _; rw [(y c1 x1 (q + 2) (by omega) (by omega)).1]; exact ka1
        · show hK d5 _ = _; rw [(y c2 x2 (q + 3) (by omega) (by omega)).1]; exact k2
        · show hK d5 _ = _; rw [(y c2 x2 (q + 4) (by omega) (by omega)).1]; exact ka2
        · show hK d5 _ = _; rw [(y c3 x3 (q + 5) (by omega) (by omega)).1]; exact k3
        · show hK d5 _ = _; rw [(y c4 x4 (q + 16) (by omega) (by omega)).1]; exact k4
        · show hK d5 _ = _; rw [t17.1]; exact k5
        · show hN d5 _ = _; rw [(y c1 x1 (q + 2) (by omega) (by omega)).2.1]; exact na1
        · show hN d5 _ = _; rw [(y c2 x2 (q + 4) (by omega) (by omega)).2.1]; exact na2
        · show hN d5 _ = _; rw [(y c3 x3 (q + 5) (by omega) (by omega)).2.1]; exact n3
        · show hN d5 _ = _; rw [(y c4 x4 (q + 16) (by omega) (by omega)).2.1]; exact n4
        · show hN d5 _ = _; rw [t17.2.1]; exact n5
        · show hR d5 _ _ = _; rw [(y c1 x1 (q + 1) (by omega) (by omega)).2.2.1]; exact r1
        · show hR d5 _ _ = _; rw [(y c2 x2 (q + 3) (by omega) (by omega)).2.2.1]; exact r2
        · show hR d5 _ _ = _; rw [(y c3 x3 (q + 5) (by omega) (by omega)).2.2.1]; exact (f3 x hx).1
        · show hK d5 _ = _; rw [(y c3 x3 (q + 6 + x) (by omega) (by omega)).1]; exact (f3 x hx).2.1
        · show hN d5 _ = _; rw [(y c3 x3 (q + 6 + x) (by omega) (by omega)).2.1]; exact (f3 x hx).2.2.1
        · show hR d5 _ = _; rw [(y c3 x3 (q + 6 + x) (by omega) (by omega)).2.2.1]; exact (f3 x hx).2.2.2.2
        · rw [hI_wI, up1_s, up1_s]
        · rw [w _ (by omega) (by omega), (y c1 x1 (q + 1) (by omega) (by omega)).2.2.2]; exact i1
        · rw [w _ (by omega) (by omega), (y c2 x2 (q + 3) (by omega) (by omega)).2.2.2]; exact i2
        · rw [w _ (by omega) (by omega), (y c4 x4 (q + 16) (by omega) (by omega)).2.2.2, i4]
        · rw [hI_wI, up1_n _ _ (by omega), hI_wI, up1_s, if_pos hj]
    · intro f k hk2 ih
      have k17 : hK d5 (q + 17) = 41 := by rw [t17.1]; exact k5
      have n17 : hN d5 (q + 17) = n := by rw [t17.2.1]; exact n5
      simp (disch := omega) only [X2_init_59, ↓w_bd, ↓w_rt, ↓w_bh, sm_l, sm_r, ↓w_okr, ↓w_nm, ↓w_ite, ↓reduceIte, not_true_eq_false, not_false_eq_true, and_true, true_and, and_self, Option.some.injEq, reduceCtorEq, eq_self, ↓w_rc, ↓w_gI, ↓w_gR, ↓w_aN, ↓w_aI, ↓w_aR, ↓w_aL, ↓w_pI, ↓w_pR, ↓w_sI, ↓w_sR, ↓w_sL, ↓w_nO, ↓w_nA, ↓w_nL, ↓w_ca, ↓w_ca0, ↓w_gS, ↓w_gK, ↓w_dv, ↓w_tw, ↓w_rz, ↓w_no, nv_lit, nv_f, nv_add, nv_mul, nv_sub, nv_le, nv_lt, nv_eq, nv_cl, Nat.reduceMod, Nat.reduceMul, Nat.reduceAdd, Nat.zero_add, Nat.add_zero, Nat.mul_zero, decide_eq_true_eq, nv_inT, Nat.not_le.mpr hk2, hK_wI, hR_wI, hN_wI, kd5, rq5, k17, n17, hI_wI, up1_s, hwI_2, nr41]
      have e : up1 (fun j => if j < k then nv 10 else nv 0) k (nv 10) = fun j => if j < k + 1 then nv 10 else nv 0 := by
        funext j
        unfold up1
        by_cases c : j = k
        · rw [if_pos c, if_pos (by omega)]
        · rw [if_neg c]
          have : (j < k) = (j < k + 1) := by apply propext; omega
          simp only [this]
      rw [e]
      exact ih
  have := fin FU 0 (by omega) (by unfold FU; omega)
  have e0 : hwI d5 (q + 17) (fun j => if j < 0 then nv 10 else nv 0) = d5 := by
    have : (fun j => if j < 0 then nv 10 else nv 0) = hI d5 (q + 17) := by
      rw [t17.2.2.2, i5]
      funext j
      rw [if_neg (by omega)]
    rw [this, hwI_id]
  rw [e0] at this
  exact this
