/-! THE TWIN KEEPS ITS ROW -/
/-- what is kept: the row that is now, behind the others; of six the oldest goes -/
def sK (S : Gst) (p : Mp) : Gst := if gu S = 6 then ((fun i => if 1 ≤ i ∧ i ≤ 5 then gm S (i + 1) else if i = 6 then some p else gm S i, 6), S.2) else ((up1 (gm S) (1 + gu S) (some p), gu S + 1), S.2)
/-- only rows and the count of the kept ones have changed -/
def Tk (G : Nat → Nat) (a c : Hp) : Prop := c.1 = a.1 ∧ c.2.2 = a.2.2 ∧ (∀ q, q ≠ G 10 → q ≠ G 11 → hI c q = hI a q) ∧ (∀ j, j ≠ 4 → hI c (G 10) j = hI a (G 10) j)
theorem Tk.rf (G : Nat → Nat) (a : Hp) : Tk G a a := ⟨rfl, rfl, fun _ _ _ => rfl, fun _ _ => rfl⟩
theorem Tk.tr {G : Nat → Nat} {a b c : Hp} (h : Tk G a b) (g : Tk G b c) : Tk G a c := ⟨g.1.trans h.1, g.2.1.trans h.2.1, fun q h1 h2 => (g.2.2.1 q h1 h2).trans (h.2.2.1 q h1 h2), fun j hj => (g.2.2.2 j hj).trans (h.2.2.2 j hj)⟩
theorem Tk.k {G : Nat → Nat} {a b : Hp} (h : Tk G a b) : hK b = hK a := congrArg (fun x => x.1.2.1) h.1
theorem Tk.n {G : Nat → Nat} {a b : Hp} (h : Tk G a b) : hN b = hN a := congrArg (fun x => x.1.2.2) h.1
theorem Tk.r {G : Nat → Nat} {a b : Hp} (h : Tk G a b) : hR b = hR a := congrArg (fun x => x.1) h.2.1
theorem Tk.ft {G : Nat → Nat} {a b : Hp} (h : Tk G a b) (hF : FT G a) : FT G b := by
  unfold FT at *
  rw [h.k, h.n, h.r]
  exact hF
theorem Tk.ep {G : Nat → Nat} {a b : Hp} (h : Tk G a b) : EP (tG G) a b := by
  refine ⟨?_, congrArg (fun x => x.2) h.1, fun q _ hn => ?_⟩
  · have : hSz b = hSz a := congrArg (fun x => x.1.1.1) h.1
    omega
  · rw [h.k, h.n, h.r]
    exact ⟨rfl, rfl, rfl, h.2.2.1 q (fun e => hn ⟨10, by omega, by omega, e⟩) (fun e => hn ⟨11, by omega, by omega, e⟩)⟩
theorem tk_cpw {G : Nat → Nat} (hG : GD G) (a : Hp) (i j : Nat) : Tk G a (cpw G a i j) := ⟨rfl, rfl, fun q _ h2 => cpw_o G a i j h2, fun k _ => congrFun (cpw_o G a i j (hG.ne (by omega) (by omega) (by omega))) k⟩
theorem tk_4 (G : Nat → Nat) (a : Hp) (v : Int32) : Tk G a (hwI a (G 10) (up1 (hI a (G 10)) 4 v)) := ⟨rfl, rfl, fun q h1 _ => by rw [hI_wI, up1_n _ _ h1], fun j hj => by rw [hI_wI, up1_s, up1_n _ _ hj]⟩
theorem X5_keeps_45_w {G : Nat → Nat} {a : Hp} (hG : GD G) (hF : FT G a) {u : Nat} (hu : u < 6) (h4 : hI a (G 10) 4 = nv u) (Q : Unit → Hp → Prop)
    (hq : ∀ c, Tk G a c → hI c (G 10) 4 = nv (u + 1) → (∀ k, k < 545 → hI c (G 11) (545 * (1 + u) + k) = hI a (G 11) k) → (∀ q, (q < 545 * (1 + u) ∨ 545 * (1 + u) + 545 ≤ q) → hI c (G 11) q = hI a (G 11) q) → Q () c) : Wp (X5_keeps_45 (G 10)) a Q := by
  have n := hG.ne (show 10 < 22 by omega) (show 11 < 22 by omega) (by omega)
  have hk : hK (cpw G a 0 (1 + u)) (G 10) = 5 := hF.1.1
  have h4' : hI (cpw G a 0 (1 + u)) (G 10) 4 = nv u := by rw [cpw_o G a _ _ n]; exact h4
  simp (disch := omega) only [X5_keeps_45, ↓w_bd, ↓w_rt, ↓w_bh, sm_l, sm_r, ↓w_okr, ↓w_nm, ↓w_ite, ↓reduceIte, not_true_eq_false, not_false_eq_true, and_true, true_and, and_self, Option.some.injEq, reduceCtorEq, eq_self, ↓w_rc, ↓w_gI, ↓w_gR, ↓w_aN, ↓w_aI, ↓w_aR, ↓w_aL, ↓w_pI, ↓w_pR, ↓w_sI, ↓w_sR, ↓w_sL, ↓w_nO, ↓w_nA, ↓w_nL, ↓w_ca, ↓w_ca0, ↓w_gS, ↓w_gK, ↓w_dv, ↓w_tw, ↓w_rz, ↓w_no, nv_lit, nv_f, nv_add, nv_mul, nv_sub, nv_le, nv_lt, nv_eq, nv_cl, Nat.reduceMod, Nat.reduceMul, Nat.reduceAdd, Nat.zero_add, Nat.add_zero, Nat.mul_zero, decide_eq_true_eq, nv_inT, hF, h4, X5_copies_w hF, hk, h4', show okN 0 (nv (u + 1)) = true from rfl]
  refine hq _ ((tk_cpw hG a 0 (1 + u)).tr (tk_4 G _ _)) ?_ (fun k hk => ?_) (fun q hq => ?_)
  · rw [hI_wI, up1_s, up1_s]
  · rw [hI_wI, up1_n _ _ (Ne.symm n), cpw_r G a 0 (1 + u) k hk, Nat.mul_zero, Nat.zero_add]
  · rw [hI_wI, up1_n _ _ (Ne.symm n), cpw_n G a 0 (1 + u) q hq]
theorem X5_keeps_w {G : Nat → Nat} {S : Gst} {a : Hp} (hG : GD G) (hT : JT G S a) (hu : gu S ≤ 6) {L : Nat → Nat} {R : Nat → Int32} (h0 : gm S 0 = some (L, R)) (L' : Nat → Nat) (hmi : ∀ i p, gm S i = some p → i < 9) (Q : Unit → Hp → Prop)
    (hq : ∀ c, Tk G a c → JT G (sK S (L', R)) c → Q () c) : Wp (X5_keeps (G 10)) a Q := by
  obtain ⟨hF, t2, t3, t4, t5, t6, ⟨t7, t8⟩, ⟨t9, t10⟩, t11, t12⟩ := hT
  have n := fun i (h1 : i < 22) (h2 : i ≠ 10) => hG.ne h1 (show 10 < 22 by omega) h2
  have n1 := fun i (h1 : i < 22) (h2 : i ≠ 11) => hG.ne h1 (show 11 < 22 by omega) h2
  have r0 : ∀ k, k < 545 → hI a (G 11) k = R k := fun k hk => by
    have := t4 0 _ h0 k hk
    rwa [Nat.mul_zero, Nat.zero_add] at this
  -- all but the rows
  have rest : ∀ (S' : Gst) c, Tk G a c → S'.2 = S.2 → hI c (G 10) 4 = nv (gu S') → (∀ j, j < 2 → gm S' (7 + j) = gm S (7 + j)) → (∀ i p, gm S' i = some p → ∀ k, k < 545 → hI c (G 11) (545 * i + k) = p.2 k) → JT G S' c := by
    intro S' c hc e2 e4 e7 er
    have g := fun i (h1 : i < 22) (h2 : i ≠ 10) (h3 : i ≠ 11) => hc.2.2.1 (G i) (n i h1 h2) (n1 i h1 h3)
    have efl : gf S' = gf S ∧ gl S' = gl S ∧ gb S' = gb S ∧ ge S' = ge S ∧ go S' = go S := by
      unfold gf gl gb ge go
      rw [e2]
      exact ⟨rfl, rfl, rfl, rfl, rfl⟩
    obtain ⟨f1, f2, f3, f4, f5⟩ := efl
    refine ⟨hc.ft hF, ?_, e4, er, ?_, ?_, ⟨?_, ?_⟩, ⟨?_, ?_⟩, ?_, ?_⟩
    · rw [hc.2.2.2 3 (by omega)]; exact t2
    · intro j hj; rw [g 12 (by omega) (by omega) (by omega), e7 j hj]; exact t5 j hj
    · intro j hj; rw [g 13 (by omega) (by omega) (by omega), f1]; exact t6 j hj
    · rw [hc.2.2.2 9 (by omega), f2]; exact t7
    · intro j hj; rw [g 16 (by omega) (by omega) (by omega), f3]; rw [f2] at hj; exact t8 j hj
    · rw [hc.2.2.2 10 (by omega), f4]; exact t9
    · rw [hc.2.2.2 11 (by omega), f4]; exact t10
    · rw [hc.2.2.2 20 (by omega), f5]; exact t11
    · intro j hj; rw [g 19 (by omega) (by omega) (by omega), f5]; rw [f5] at hj; exact t12 j hj
  by_cases c6 : gu S = 6
  · have e6 : sK S (L', R) = ((fun i => if 1 ≤ i ∧ i ≤ 5 then gm S (i + 1) else if i = 6 then some (L', R) else gm S i, 6), S.2) := if_pos c6
    rw [c6] at t3
    -- the rows pass up
    have l : ∀ (f k : Nat), k ≤ 5 → 5 - k < f → ∀ b, Tk G a b → hI b (G 10) 4 = nv 6 → (∀ i k2, 1 ≤ i → i ≤ k → k2 < 545 → hI b (G 11) (545 * i + k2) = hI a (G 11) (545 * (i + 1) + k2)) → (∀ q, (q < 545 ∨ 545 * (k + 1) ≤ q) → hI b (G 11) q = hI a (G 11) q) → Wp (X5_keeps_11 f (G 10) (nv (k + 1))) b Q := by
      refine loopUp _ 5 ?_ ?_
      · intro f b hb h4 hr ho
        have hFb := hb.ft hF
        simp (disch := omega) only [X5_keeps_11, ↓w_bd, ↓w_rt, ↓w_bh, sm_l, sm_r, ↓w_okr, ↓w_nm, ↓w_ite, ↓reduceIte, not_true_eq_false, not_false_eq_true, and_true, true_and, and_self, Option.some.injEq, reduceCtorEq, eq_self, ↓w_rc, ↓w_gI, ↓w_gR, ↓w_aN, ↓w_aI, ↓w_aR, ↓w_aL, ↓w_pI, ↓w_pR, ↓w_sI, ↓w_sR, ↓w_sL, ↓w_nO, ↓w_nA, ↓w_nL, ↓w_ca, ↓w_ca0, ↓w_gS, ↓w_gK, ↓w_dv, ↓w_tw, ↓w_rz, ↓w_no, nv_lit, nv_f, nv_add, nv_mul, nv_sub, nv_le, nv_lt, nv_eq, nv_cl, Nat.reduceMod, Nat.reduceMul, Nat.reduceAdd, Nat.zero_add, Nat.add_zero, Nat.mul_zero, decide_eq_true_eq, nv_inT, hFb, h4, Nat.reduceLeDiff, Nat.reduceSub, show okN 0 (nv 5) = true from rfl]
        have hb5 := tk_4 G b (nv 5)
        refine X5_keeps_45_w hG (hb5.ft hFb) (u := 5) (by omega) (by rw [hI_wI, up1_s, up1_s]) _ fun c hc c4 cr co => ?_
        refine hq c ((hb.tr hb5).tr hc) ?_
        rw [e6]
        have e11 : hI (hwI b (G 10) (up1 (hI b (G 10)) 4 (nv 5))) (G 11) = hI b (G 11) := by rw [hI_wI, up1_n _ _ (n 11 (by omega) (by omega))]
        refine rest _ c ((hb.tr hb5).tr hc) rfl c4 (fun j hj => ?_) (fun i p hp k hk => ?_)
        · show (if 1 ≤ 7 + j ∧ 7 + j ≤ 5 then _ else if 7 + j = 6 then _ else _) = _
          rw [if_neg (by omega), if_neg (by omega)]
        · have hp : (if 1 ≤ i ∧ i ≤ 5 then gm S (i + 1) else if i = 6 then some (L', R) else gm S i) = some p := hp
          by_cases d : 1 ≤ i ∧ i ≤ 5
          · rw [if_pos d] at hp
            rw [co _ (by omega), e11, hr i k d.1 d.2 hk]
            exact t4 _ p hp k hk
          · rw [if_neg d] at hp
            by_cases d2 : i = 6
            · rw [if_pos d2] at hp
              cases hp
              subst d2
              have := cr k hk
              rw [e11, ho k (by omega)] at this
              rw [show 545 * 6 + k = 545 * (1 + 5) + k by omega, this]
              exact r0 k hk
            · rw [if_neg d2] at hp
              have h9 := hmi i p hp
              rw [co _ (by omega), e11, ho _ (by omega)]
              exact t4 i p hp k hk
      · intro f k hk2 ih b hb h4 hr ho
        have hFb := hb.ft hF
        simp (disch := omega) only [X5_keeps_11, ↓w_bd, ↓w_rt, ↓w_bh, sm_l, sm_r, ↓w_okr, ↓w_nm, ↓w_ite, ↓reduceIte, not_true_eq_false, not_false_eq_true, and_true, true_and, and_self, Option.some.injEq, reduceCtorEq, eq_self, ↓w_rc, ↓w_gI, ↓w_gR, ↓w_aN, ↓w_aI, ↓w_aR, ↓w_aL, ↓w_pI, ↓w_pR, ↓w_sI, ↓w_sR, ↓w_sL, ↓w_nO, ↓w_nA, ↓w_nL, ↓w_ca, ↓w_ca0, ↓w_gS, ↓w_gK, ↓w_dv, ↓w_tw, ↓w_rz, ↓w_no, nv_lit, nv_f, nv_add, nv_mul, nv_sub, nv_le, nv_lt, nv_eq, nv_cl, Nat.reduceMod, Nat.reduceMul, Nat.reduceAdd, Nat.zero_add, Nat.add_zero, Nat.mul_zero, decide_eq_true_eq, nv_inT, hFb, show ¬ 6 ≤ k + 1 by omega, show 1 + (k + 1) - 1 = k + 1 by omega, X5_copies_w hFb]
        have hc := tk_cpw hG b (1 + (k + 1)) (k + 1)
        refine ih _ (hb.tr hc) ?_ (fun i k2 i1 i2 h2 => ?_) (fun q hq => ?_)
        · rw [cpw_o G b _ _ (hG.ne (by omega) (by omega) (by omega))]; exact h4
        · by_cases d : i = k + 1
          · subst d
            rw [cpw_r G b _ _ k2 h2, ho _ (by omega)]
            congr 1
            omega
          · rw [cpw_n G b _ _ _ (by omega)]
            exact hr i k2 i1 (by omega) h2
        · rw [cpw_n G b _ _ _ (by omega)]
          exact ho q (by omega)
    simp (disch := omega) only [X5_keeps, ↓w_bd, ↓w_rt, ↓w_bh, sm_l, sm_r, ↓w_okr, ↓w_nm, ↓w_ite, ↓reduceIte, not_true_eq_false, not_false_eq_true, and_true, true_and, and_self, Option.some.injEq, reduceCtorEq, eq_self, ↓w_rc, ↓w_gI, ↓w_gR, ↓w_aN, ↓w_aI, ↓w_aR, ↓w_aL, ↓w_pI, ↓w_pR, ↓w_sI, ↓w_sR, ↓w_sL, ↓w_nO, ↓w_nA, ↓w_nL, ↓w_ca, ↓w_ca0, ↓w_gS, ↓w_gK, ↓w_dv, ↓w_tw, ↓w_rz, ↓w_no, nv_lit, nv_f, nv_add, nv_mul, nv_sub, nv_le, nv_lt, nv_eq, nv_cl, Nat.reduceMod, Nat.reduceMul, Nat.reduceAdd, Nat.zero_add, Nat.add_zero, Nat.mul_zero, decide_eq_true_eq, nv_inT, hF, t3]
    exact l FU 0 (by omega) (by unfold FU; omega) a (Tk.rf G a) t3 (fun i k2 i1 i2 _ => by omega) (fun q _ => rfl)
  · have e6 : sK S (L', R) = ((up1 (gm S) (1 + gu S) (some (L', R)), gu S + 1), S.2) := if_neg c6
    simp (disch := omega) only [X5_keeps, ↓w_bd, ↓w_rt, ↓w_bh, sm_l, sm_r, ↓w_okr, ↓w_nm, ↓w_ite, ↓reduceIte, not_true_eq_false, not_false_eq_true, and_true, true_and, and_self, Option.some.injEq, reduceCtorEq, eq_self, ↓w_rc, ↓w_gI, ↓w_gR, ↓w_aN, ↓w_aI, ↓w_aR, ↓w_aL, ↓w_pI, ↓w_pR, ↓w_sI, ↓w_sR, ↓w_sL, ↓w_nO, ↓w_nA, ↓w_nL, ↓w_ca, ↓w_ca0, ↓w_gS, ↓w_gK, ↓w_dv, ↓w_tw, ↓w_rz, ↓w_no, nv_lit, nv_f, nv_add, nv_mul, nv_sub, nv_le, nv_lt, nv_eq, nv_cl, Nat.reduceMod, Nat.reduceMul, Nat.reduceAdd, Nat.zero_add, Nat.add_zero, Nat.mul_zero, decide_eq_true_eq, nv_inT, hF, t3, c6]
    refine X5_keeps_45_w hG hF (show gu S < 6 by omega) t3 _ fun c hc c4 cr co => hq c hc ?_
    rw [e6]
    refine rest _ c hc rfl c4 (fun j hj => ?_) (fun i p hp k hk => ?_)
    · exact up1_n (gm S) _ (by omega)
    · have hp : up1 (gm S) (1 + gu S) (some (L', R)) i = some p := hp
      by_cases d : i = 1 + gu S
      · subst d
        rw [up1_s] at hp
        cases hp
        rw [cr k hk]
        exact r0 k hk
      · rw [up1_n _ _ d] at hp
        rw [co _ (by omega)]
        exact t4 i p hp k hk
