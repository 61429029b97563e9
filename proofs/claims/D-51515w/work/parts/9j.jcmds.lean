/-! THE COMMANDS, by both -/
def rfin (G : Nat → Nat) : Mr Unit := bd (rc 5 (some (G 10))) fun h' => bd (X5_endsLine h') fun _ => bd (gI 5 17 (some (G 10))) fun x8 => bd (pI 0 5 17 (some (G 10)) (x8 + 1)) fun _ => rt ()
def w17 (G : Nat → Nat) (c : Hp) (v : Int32) : Hp := hwI c (G 10) (up1 (hI c (G 10)) 17 v)
theorem w17_n (G : Nat → Nat) (c : Hp) (v : Int32) {j : Nat} (h : j ≠ 17) : hI (w17 G c v) (G 10) j = hI c (G 10) j := by
  unfold w17
  rw [hI_wI, up1_s, up1_n _ _ h]
theorem w17_o (G : Nat → Nat) (c : Hp) (v : Int32) {q : Nat} (h : q ≠ G 10) : hI (w17 G c v) q = hI c q := by
  unfold w17
  rw [hI_wI, up1_n _ _ h]
theorem w17_p (G : Nat → Nat) (c : Hp) (v : Int32) : Tpr G c (w17 G c v) := ⟨⟨rfl, rfl⟩, fun q h1 _ => w17_o G c v h1, fun j _ h2 => w17_n G c v h2⟩
theorem co_w17 {G : Nat → Nat} {c : Hp} (h : Co c) (hF : FT G c) (v : Int32) : Co (w17 G c v) := h.ep (P := fun q => q = G 10) ((EP.rf (fun q => q = G 10) c).wI (.inl rfl) _) (fun q hq => by rw [hq, hF.1.1]; omega)
theorem tp_w17 {G : Nat → Nat} {S : Gst} {E : Nat → Int32} {c0 c : Hp} {s e k : Nat} (hG : GD G) (h : Ts G S c s e k) (hco : Co c) (hp : Tpr G c0 c) (hE : hI c (G 17) = E) (m : Nat) : TP G S m E c0 (w17 G c (nv m)) s e k := by
  have n1610 := hG.ne (show 16 < 22 by omega) (show 10 < 22 by omega) (by omega)
  have n1710 := hG.ne (show 17 < 22 by omega) (show 10 < 22 by omega) (by omega)
  obtain ⟨h1, ⟨t1, t2, t3, t4⟩, ⟨h3, h4⟩, ⟨h5, h6, h7⟩, h8, h9⟩ := h
  have e := fun j (hj : j ≠ 17) => w17_n G c (nv m) hj
  have e16 := w17_o G c (nv m) n1610
  refine ⟨⟨h1, ⟨t1, by rw [e 9 (by omega)]; exact t2, fun j hj => by rw [e16]; exact t3 j hj, t4⟩, ⟨by rw [e 10 (by omega)]; exact h3, by rw [e 11 (by omega)]; exact h4⟩, ⟨by rw [e 12 (by omega)]; exact h5, by rw [e 13 (by omega)]; exact h6, by rw [e 14 (by omega)]; exact h7⟩, fun hk => by rw [e 15 (by omega)]; exact h8 hk, h9⟩, co_w17 hco h1 _, hp.tr (w17_p G c _), ?_, by rw [w17_o G c _ n1710]; exact hE⟩
  unfold w17
  rw [hI_wI, up1_s, up1_s]
theorem TP.n1 {G : Nat → Nat} {S : Gst} {n : Nat} {E : Nat → Int32} {c0 c : Hp} {s e k : Nat} (hG : GD G) (h : TP G S n E c0 c s e k) (m : Nat) : TP G S m E c0 (w17 G c (nv m)) s e k := tp_w17 hG h.1 h.2.1 h.2.2.1 h.2.2.2.2 m
theorem TPz.n1 {G : Nat → Nat} {c0 c : Hp} {cd ps n : Nat} (h : TPz G c0 c cd ps n) (m : Nat) : TPz G c0 (w17 G c (nv m)) cd ps m := by
  obtain ⟨⟨h1, h2, h3, h4⟩, hco, hp, h17⟩ := h
  refine ⟨⟨h1, by rw [w17_n G c _ (by omega)]; exact h2, by rw [w17_n G c _ (by omega)]; exact h3, h4⟩, co_w17 hco h1 _, hp.tr (w17_p G c _), ?_⟩
  unfold w17
  rw [hI_wI, up1_s, up1_s]
theorem w17_f (G : Nat → Nat) (c : Hp) (v : Int32) : hwI c (G 10) (up1 (hI c (G 10)) 17 v) = w17 G c v := rfl
theorem l17_f (G : Nat → Nat) (c : Hp) (i : Nat) (v : Int32) : hwI c (G 17) (up1 (hI c (G 17)) i v) = l17 G c i v := rfl
theorem rfin_z {G : Nat → Nat} {c0 c : Hp} {cd ps n : Nat} (h : TPz G c0 c cd ps n) (hn : n ≤ 1000) (Q : Unit → Hp → Prop) (kk : ∀ c', TPz G c0 c' cd ps (n + 1) → Q () c') : Wp (rfin G) c Q := by
  have h17 := h.2.2.2
  simp (disch := omega) only [rfin, ↓w_bd, ↓w_rt, ↓w_bh, sm_l, sm_r, ↓w_okr, ↓w_nm, ↓w_ite, ↓reduceIte, not_true_eq_false, not_false_eq_true, and_true, true_and, and_self, Option.some.injEq, reduceCtorEq, eq_self, ↓w_rc, ↓w_gI, ↓w_gR, ↓w_aN, ↓w_aI, ↓w_aR, ↓w_aL, ↓w_pI, ↓w_pR, ↓w_sI, ↓w_sR, ↓w_sL, ↓w_nO, ↓w_nA, ↓w_nL, ↓w_ca, ↓w_ca0, ↓w_gS, ↓w_gK, ↓w_dv, ↓w_tw, ↓w_rz, ↓w_no, nv_lit, nv_f, nv_add, nv_mul, nv_sub, nv_le, nv_lt, nv_eq, nv_cl, Nat.reduceMod, Nat.reduceMul, Nat.reduceAdd, Nat.zero_add, Nat.add_zero, Nat.mul_zero, decide_eq_true_eq, nv_inT, h.1.1, X5_endsLine_z h.1, h17, okn, w17_f]
  exact kk _ (h.n1 (n + 1))
theorem rfin_0 {G : Nat → Nat} {S : Gst} {n : Nat} {E : Nat → Int32} {c0 c : Hp} {s e k : Nat} (h : TP G S n E c0 c s e k) (hk : k ≠ 3) (hn : n ≤ 1000) (Q : Unit → Hp → Prop) (kk : ∀ c', TPz G c0 c' 1 s (n + 1) → Q () c') : Wp (rfin G) c Q := by
  have hz := h.er (cd := 1) (ps := s) (by omega) (by omega)
  have h17 := hz.2.2.2
  simp (disch := omega) only [rfin, ↓w_bd, ↓w_rt, ↓w_bh, sm_l, sm_r, ↓w_okr, ↓w_nm, ↓w_ite, ↓reduceIte, not_true_eq_false, not_false_eq_true, and_true, true_and, and_self, Option.some.injEq, reduceCtorEq, eq_self, ↓w_rc, ↓w_gI, ↓w_gR, ↓w_aN, ↓w_aI, ↓w_aR, ↓w_aL, ↓w_pI, ↓w_pR, ↓w_sI, ↓w_sR, ↓w_sL, ↓w_nO, ↓w_nA, ↓w_nL, ↓w_ca, ↓w_ca0, ↓w_gS, ↓w_gK, ↓w_dv, ↓w_tw, ↓w_rz, ↓w_no, nv_lit, nv_f, nv_add, nv_mul, nv_sub, nv_le, nv_lt, nv_eq, nv_cl, Nat.reduceMod, Nat.reduceMul, Nat.reduceAdd, Nat.zero_add, Nat.add_zero, Nat.mul_zero, decide_eq_true_eq, nv_inT, h.1.1, X5_endsLine_0 h.1 hk, hz.1.1, h17, okn, w17_f]
  exact kk _ (hz.n1 (n + 1))
theorem rfin_1 {G : Nat → Nat} {S : Gst} {n : Nat} {E : Nat → Int32} {c0 c : Hp} {s e k s' e' k' : Nat} (hG : GD G) (h : TP G S n E c0 c s e k) (hk : k = 3) (hx : Nx S e s' e' k') (hn : n ≤ 1000) (Q : Unit → Hp → Prop) (kk : ∀ c', TP G S (n + 1) E c0 c' s' e' k' → Q () c') : Wp (rfin G) c Q := by
  rw [rfin, w_bd, w_rc]
  refine ⟨by rw [h.1.1.1.1], ?_⟩
  rw [w_bd]
  refine X5_endsLine_1 hG h.1 hk hx _ fun c1 w1 w2 => ?_
  have h1 := h.tw hG w1 w2
  have h17 := h1.2.2.2.1
  simp (disch := omega) only [↓w_bd, ↓w_rt, ↓w_bh, sm_l, sm_r, ↓w_okr, ↓w_nm, ↓w_ite, ↓reduceIte, not_true_eq_false, not_false_eq_true, and_true, true_and, and_self, Option.some.injEq, reduceCtorEq, eq_self, ↓w_rc, ↓w_gI, ↓w_gR, ↓w_aN, ↓w_aI, ↓w_aR, ↓w_aL, ↓w_pI, ↓w_pR, ↓w_sI, ↓w_sR, ↓w_sL, ↓w_nO, ↓w_nA, ↓w_nL, ↓w_ca, ↓w_ca0, ↓w_gS, ↓w_gK, ↓w_dv, ↓w_tw, ↓w_rz, ↓w_no, nv_lit, nv_f, nv_add, nv_mul, nv_sub, nv_le, nv_lt, nv_eq, nv_cl, Nat.reduceMod, Nat.reduceMul, Nat.reduceAdd, Nat.zero_add, Nat.add_zero, Nat.mul_zero, decide_eq_true_eq, nv_inT, h1.1.1, h17, okn, w17_f]
  exact kk _ (h1.n1 hG (n + 1))
theorem rc_n {G : Nat → Nat} {S : Gst} {n : Nat} {E : Nat → Int32} {c0 c : Hp} {s e k : Nat} (h : TP G S n E c0 c s e k) (hn : ∀ x, x < 8 → ¬ IsW S s e k (4 + x)) (Q : Unit → Hp → Prop) : Wp (X5_readsCommand (G 10)) c Q ↔ Q () (erq G c 1 s) := by
  simp (disch := omega) only [X5_readsCommand, X5_readsCommand_16, X5_readsCommand_45, ↓w_bd, ↓w_rt, ↓w_bh, sm_l, sm_r, ↓w_okr, ↓w_nm, ↓w_ite, ↓reduceIte, not_true_eq_false, not_false_eq_true, and_true, true_and, and_self, Option.some.injEq, reduceCtorEq, eq_self, ↓w_rc, ↓w_gI, ↓w_gR, ↓w_aN, ↓w_aI, ↓w_aR, ↓w_aL, ↓w_pI, ↓w_pR, ↓w_sI, ↓w_sR, ↓w_sL, ↓w_nO, ↓w_nA, ↓w_nL, ↓w_ca, ↓w_ca0, ↓w_gS, ↓w_gK, ↓w_dv, ↓w_tw, ↓w_rz, ↓w_no, nv_lit, nv_f, nv_add, nv_mul, nv_sub, nv_le, nv_lt, nv_eq, nv_cl, Nat.reduceMod, Nat.reduceMul, Nat.reduceAdd, Nat.zero_add, Nat.add_zero, Nat.mul_zero, decide_eq_true_eq, nv_inT, h.1.1, (chere_w h.1 h.2.1).2 hn, X5_must_0 h.1]
theorem rc_f {G : Nat → Nat} {S : Gst} {n : Nat} {E : Nat → Int32} {c0 c : Hp} {s e k x : Nat} (h : TP G S n E c0 c s e k) (hx : x < 8) (hw : IsW S s e k (4 + x)) (hn : 25 ≤ n) (hn2 : n ≤ 1000) (Q : Unit → Hp → Prop) : Wp (X5_readsCommand (G 10)) c Q ↔ Q () (erq G c 4 s) := by
  have h17 := h.2.2.2.1
  have m1 := nv_m x (by omega)
  simp (disch := omega) only [X5_readsCommand, X5_readsCommand_16, X5_readsCommand_38, X5_readsCommand_45, ↓w_bd, ↓w_rt, ↓w_bh, sm_l, sm_r, ↓w_okr, ↓w_nm, ↓w_ite, ↓reduceIte, not_true_eq_false, not_false_eq_true, and_true, true_and, and_self, Option.some.injEq, reduceCtorEq, eq_self, ↓w_rc, ↓w_gI, ↓w_gR, ↓w_aN, ↓w_aI, ↓w_aR, ↓w_aL, ↓w_pI, ↓w_pR, ↓w_sI, ↓w_sR, ↓w_sL, ↓w_nO, ↓w_nA, ↓w_nL, ↓w_ca, ↓w_ca0, ↓w_gS, ↓w_gK, ↓w_dv, ↓w_tw, ↓w_rz, ↓w_no, nv_lit, nv_f, nv_add, nv_mul, nv_sub, nv_le, nv_lt, nv_eq, nv_cl, Nat.reduceMod, Nat.reduceMul, Nat.reduceAdd, Nat.zero_add, Nat.add_zero, Nat.mul_zero, decide_eq_true_eq, nv_inT, h.1.1, (chere_w h.1 h.2.1).1 x hx hw, m1, X5_must_0 h.1, X5_must_1 h.1 n10, n10, h17, hn]
theorem rc_p {G : Nat → Nat} {S : Gst} {n : Nat} {E : Nat → Int32} {c0 c : Hp} {s e k x s' e' k' : Nat} (hG : GD G) (h : TP G S n E c0 c s e k) (hx : x < 8) (hw : IsW S s e k (4 + x)) (hn : n < 25) (hnx : Nx S e s' e' k') (Q : Unit → Hp → Prop) (kk : ∀ c1, TP G S n (up1 E (5 * n) (nv x)) c0 c1 s' e' k' → Wp (bd (tl G (nv (5 * n)) (sp x) 1) fun _ => rfin G) c1 Q) : Wp (X5_readsCommand (G 10)) c Q := by
  have hF := h.1.1
  have h17 := h.2.2.2.1
  have m1 : ¬ nv x = -1 := nv_m1 (by omega)
  have l25 : ¬ (25 : Int32) ≤ nv n := by
    rw [show (25 : Int32) = nv 25 from rfl, nv_le (by omega) (by omega)]
    omega
  rw [X5_readsCommand, w_bd, w_rc]
  refine ⟨by rw [hF.1.1], ?_⟩
  rw [w_bd, (chere_w h.1 h.2.1).1 x hx hw, w_ite, if_neg m1, X5_readsCommand_16, w_bd, w_rc]
  refine ⟨by rw [hF.1.1], ?_⟩
  rw [w_bd, X5_must_1 h.1 (show ¬ (1 : Int32) = nv 0 from n10), w_ite, if_neg (show ¬ nv 1 = 0 from n10), w_bd, w_gI]
  refine ⟨by rw [hF.1.1], ?_⟩
  rw [h17, w_ite, if_neg l25, X5_readsCommand_38, w_bd, w_rc]
  refine ⟨by rw [hF.1.1], ?_⟩
  rw [w_bd, X5_must_1 h.1 (show ¬ (1 : Int32) = nv 0 from n10), w_ite, if_pos (show ¬ nv 1 = 0 from n10), w_bd, w_rc]
  refine ⟨by rw [hF.1.1], ?_⟩
  rw [w_bd]
  refine X5_gon hG h.1 hnx _ fun c1 w1 w2 => ?_
  have h1 := h.tw hG w1 w2
  have hF1 := h1.1.1
  have h171 := h1.2.2.2.1
  have h2 := h1.lay hG (5 * n) (nv x)
  have hF2 := h2.1.1
  have h172 := h2.2.2.2.1
  rw [w_bd, w_gR]
  refine ⟨by rw [hF1.1.1], ?_⟩
  rw [hF1.1.2.2.2.2.2.2.2.1, w_bd, w_gI]
  refine ⟨by rw [hF1.1.1], ?_⟩
  have e5 : (5 : Int32) * nv n = nv (5 * n) := nv_mul 5 n
  have i5 : (nv (5 * n)).toNatClampNeg = 5 * n := nv_cl (by omega)
  have n5 : inI (nv (5 * n)) (hN c1 (G 17)) = true := by
    rw [nv_in (by omega), hF1.2.2.2.2.2.2.2.2.1]
    exact decide_eq_true (by omega)
  rw [h171, e5, w_bd, w_sI]
  refine ⟨⟨hF1.2.1.2.2.2.2.2.2.1, n5⟩, ?_⟩
  rw [i5, nr41, l17_f, w_bd, w_gI]
  refine ⟨by rw [hF2.1.1], ?_⟩
  rw [h172, e5, w_bd, w_rc]
  refine ⟨by rw [hF2.1.1], ?_⟩
  rw [rn_eq G _ hx]
  exact kk _ h2
/-- numbers laid -/
theorem ls_o : ∀ (ts : List Nat) (E : Nat → Int32) (b i : Nat), i < b ∨ b + ts.length ≤ i → ls E b ts i = E i := by
  intro ts
  induction ts with
  | nil => intro E b i _; rfl
  | cons t ts ih =>
    intro E b i h
    rw [List.length_cons] at h
    rw [ls, ih _ _ _ (by omega), up1_n _ _ (by omega)]
theorem ls_v : ∀ (ts : List Nat) (E : Nat → Int32) (b j : Nat), j < ts.length → ls E b ts (b + j) = nv (ts.getD j 0) := by
  intro ts
  induction ts with
  | nil => intro E b j h; exact absurd h (Nat.not_lt_zero j)
  | cons t ts ih =>
    intro E b j h
    rw [List.length_cons] at h
    rw [ls]
    cases j with
    | zero => rw [Nat.add_zero, ls_o ts _ _ _ (by omega), up1_s]; rfl
    | succ j => rw [show b + (j + 1) = b + 1 + j by omega, ih _ _ _ (by omega)]; rfl
abbrev Cmd : Type := Nat × List Nat
def Vld (c : Cmd) : Prop := c.1 < 8 ∧ c.2.length = (sp c.1).length ∧ ∀ i, i < (sp c.1).length → c.2.getD i 0 ≤ ub ((sp c.1).getD i 0)
def Ent (E : Nat → Int32) (n : Nat) (K : Nat → Cmd) : Prop := ∀ i, i < n → E (5 * i) = nv (K i).1 ∧ ∀ j, j < (K i).2.length → E (5 * i + 1 + j) = nv ((K i).2.getD j 0)
theorem Ent.add {E : Nat → Int32} {n : Nat} {K : Nat → Cmd} (h : Ent E n K) (hv : ∀ i, i < n → (K i).2.length ≤ 4) (x : Nat) (ts : List Nat) : Ent (ls (up1 E (5 * n) (nv x)) (5 * n + 1) ts) (n + 1) (up1 K n (x, ts)) := by
  intro i hi
  by_cases c : i = n
  · rw [c, up1_s]
    exact ⟨by rw [ls_o _ _ _ _ (by omega), up1_s], fun j hj => ls_v ts _ _ j hj⟩
  · rw [up1_n _ _ c]
    have h4 := hv i (by omega)
    have hh := h i (by omega)
    exact ⟨by rw [ls_o _ _ _ _ (by omega), up1_n _ _ (by omega)]; exact hh.1, fun j hj => by rw [ls_o _ _ _ _ (by omega), up1_n _ _ (by omega)]; exact hh.2 j hj⟩
/-- the component's commands -/
def CLs (a d : Hp) (rq q5 n : Nat) (K : Nat → Cmd) : Prop := (hK d q5 = 50 ∧ hN d q5 = 26 ∧ hSz a ≤ q5 ∧ q5 < hSz d) ∧ (∀ i, i < n → ∃ q, hR d q5 i = some q ∧ q < hSz d ∧ hSz a ≤ q ∧ LamC (hSz a) rq d q (K i).1 (K i).2) ∧ ∀ i, n ≤ i → i < 26 → hR d q5 i = none
theorem CLs.mv {P : Nat → Prop} {a d d' : Hp} {rq q5 n : Nat} {K : Nat → Cmd} (h : CLs a d rq q5 n K) (g : EP P d d') (hP : ∀ x, P x → hK d x < 50) (hs : SgK d d') : CLs a d' rq q5 n K := by
  obtain ⟨⟨h1, h2, h3, h4⟩, h5, h6⟩ := h
  have o := g.2.2 q5 h4 (fun hp => by have := hP q5 hp; omega)
  have z := g.1
  refine ⟨⟨by rw [o.1]; exact h1, by rw [o.2.1]; exact h2, h3, by omega⟩, fun i hi => ?_, fun i hi hi2 => by rw [o.2.2.1]; exact h6 i hi hi2⟩
  obtain ⟨q, q1, q2, q3, q4⟩ := h5 i hi
  exact ⟨q, by rw [o.2.2.1]; exact q1, by omega, q3, q4.mv g (fun x hx => by have := hP x hx; omega) q2 hs⟩
theorem okR_l {d : Hp} {z rq q c : Nat} {ts : List Nat} (h : LamC z rq d q c ts) : okR d [73, 74, 75, 76, 77, 78] (some q) = true := by
  have b := lK_b c
  have hf : ∀ k, 73 ≤ k → k ≤ 78 → [73, 74, 75, 76, 77, 78].contains k = true := fun k h1 h2 => by
    have : k = 73 ∨ k = 74 ∨ k = 75 ∨ k = 76 ∨ k = 77 ∨ k = 78 := by omega
    rcases this with rfl | rfl | rfl | rfl | rfl | rfl <;> rfl
  show [73, 74, 75, 76, 77, 78].contains (hK d q) = true
  rw [h.1]
  exact hf _ b.1 b.2.1
/-- the twin's head -/
theorem p14_z {G : Nat → Nat} {c0 c : Hp} {cd ps n f : Nat} (h : TPz G c0 c cd ps n) (Q : Int32 → Hp → Prop) : Wp (X5_play_14 (f + 1) (G 10)) c Q ↔ Wp (X5_play_35 (G 10)) c Q := by
  have h10 := h.1.2.1
  have h1 := h.1.2.2.2
  simp (disch := omega) only [X5_play_14, ↓w_bd, ↓w_rt, ↓w_bh, sm_l, sm_r, ↓w_okr, ↓w_nm, ↓w_ite, ↓reduceIte, not_true_eq_false, not_false_eq_true, and_true, true_and, and_self, Option.some.injEq, reduceCtorEq, eq_self, ↓w_rc, ↓w_gI, ↓w_gR, ↓w_aN, ↓w_aI, ↓w_aR, ↓w_aL, ↓w_pI, ↓w_pR, ↓w_sI, ↓w_sR, ↓w_sL, ↓w_nO, ↓w_nA, ↓w_nL, ↓w_ca, ↓w_ca0, ↓w_gS, ↓w_gK, ↓w_dv, ↓w_tw, ↓w_rz, ↓w_no, nv_lit, nv_f, nv_add, nv_mul, nv_sub, nv_le, nv_lt, nv_eq, nv_cl, Nat.reduceMod, Nat.reduceMul, Nat.reduceAdd, Nat.zero_add, Nat.add_zero, Nat.mul_zero, decide_eq_true_eq, nv_inT, h.1.1, h10, show ¬ cd = 0 by omega]
theorem p14_0 {G : Nat → Nat} {S : Gst} {n f : Nat} {E : Nat → Int32} {c0 c : Hp} {s e : Nat} (h : TP G S n E c0 c s e 0) (Q : Int32 → Hp → Prop) : Wp (X5_play_14 (f + 1) (G 10)) c Q ↔ Wp (X5_play_35 (G 10)) c Q := by
  have h10 := h.1.2.2.1.1
  have h14 := h.1.2.2.2.1.2.2
  simp (disch := omega) only [X5_play_14, ↓w_bd, ↓w_rt, ↓w_bh, sm_l, sm_r, ↓w_okr, ↓w_nm, ↓w_ite, ↓reduceIte, not_true_eq_false, not_false_eq_true, and_true, true_and, and_self, Option.some.injEq, reduceCtorEq, eq_self, ↓w_rc, ↓w_gI, ↓w_gR, ↓w_aN, ↓w_aI, ↓w_aR, ↓w_aL, ↓w_pI, ↓w_pR, ↓w_sI, ↓w_sR, ↓w_sL, ↓w_nO, ↓w_nA, ↓w_nL, ↓w_ca, ↓w_ca0, ↓w_gS, ↓w_gK, ↓w_dv, ↓w_tw, ↓w_rz, ↓w_no, nv_lit, nv_f, nv_add, nv_mul, nv_sub, nv_le, nv_lt, nv_eq, nv_cl, Nat.reduceMod, Nat.reduceMul, Nat.reduceAdd, Nat.zero_add, Nat.add_zero, Nat.mul_zero, decide_eq_true_eq, nv_inT, h.1.1, h10, h14]
theorem p14_k {G : Nat → Nat} {S : Gst} {n f : Nat} {E : Nat → Int32} {c0 c : Hp} {s e k : Nat} (h : TP G S n E c0 c s e k) (hk : k ≠ 0) (Q : Int32 → Hp → Prop) : Wp (X5_play_14 (f + 1) (G 10)) c Q ↔ Wp (X5_readsCommand (G 10)) c (fun _ c' => Wp (X5_play_14 f (G 10)) c' Q) := by
  have h10 := h.1.2.2.1.1
  have h14 := h.1.2.2.2.1.2.2
  have h4 := h.1.2.2.2.2.2.2.2
  simp (disch := omega) only [X5_play_14, ↓w_bd, ↓w_rt, ↓w_bh, sm_l, sm_r, ↓w_okr, ↓w_nm, ↓w_ite, ↓reduceIte, not_true_eq_false, not_false_eq_true, and_true, true_and, and_self, Option.some.injEq, reduceCtorEq, eq_self, ↓w_rc, ↓w_gI, ↓w_gR, ↓w_aN, ↓w_aI, ↓w_aR, ↓w_aL, ↓w_pI, ↓w_pR, ↓w_sI, ↓w_sR, ↓w_sL, ↓w_nO, ↓w_nA, ↓w_nL, ↓w_ca, ↓w_ca0, ↓w_gS, ↓w_gK, ↓w_dv, ↓w_tw, ↓w_rz, ↓w_no, nv_lit, nv_f, nv_add, nv_mul, nv_sub, nv_le, nv_lt, nv_eq, nv_cl, Nat.reduceMod, Nat.reduceMul, Nat.reduceAdd, Nat.zero_add, Nat.add_zero, Nat.mul_zero, decide_eq_true_eq, nv_inT, h.1.1, h10, h14, hk]
theorem cmds_j {G : Nat → Nat} {B : Nat → Nat × Nat} {S : Gst} {a : Hp} {rq Z L q5 : Nat} (hC : JC G B S a) (hne : q5 ≠ rq) :
    ∀ (m f f2 n : Nat) (K : Nat → Cmd) (s e k : Nat) (d : Hp), (gl S - e) + (if k = 0 then 0 else 1) < m → m ≤ f → m ≤ f2 → n ≤ 25 → Cs G S a rq (Z + n) (L + 5 * n) d s e k → CLs a d rq q5 n K → (∀ i, i < n → Vld (K i)) → ∀ (Q : Ex ⊕ Option Nat → Hp → Prop),
    (∀ cd ps d' q, Ce a rq (Z + 26) (L + 130) cd ps d' q → 0 < cd → cd < 10 → (∀ E c0 c, TP G S n E c0 c s e k → ∀ Q', (∀ c' n', TPz G c0 c' cd ps n' → Wp (X5_play_35 (G 10)) c' Q') → Wp (X5_play_14 f2 (G 10)) c Q') → Q (.inl (4, q)) d') →
    (∀ n' K' s' e' d', n' ≤ 25 → Cs G S a rq (Z + 26) (L + 130) d' s' e' 0 → CLs a d' rq q5 n' K' → (∀ i, i < n' → Vld (K' i)) → (∀ E c0 c, Ent E n K → TP G S n E c0 c s e k → ∀ Q', (∀ c' E', Ent E' n' K' → TP G S n' E' c0 c' s' e' 0 → Wp (X5_play_35 (G 10)) c' Q') → Wp (X5_play_14 f2 (G 10)) c Q') → Q (.inr (some q5)) d') →
    Wp (X6_commands_8 f rq (some q5) (nv n)) d Q := by
  have hG := hC.1.gd
  intro m
  induction m with
  | zero => intro f f2 n K s e k d h; omega
  | succ m ih =>
    intro f f2 n K s e k d hmu hf hf2 hn hcs hcl hvl Q ke kok
    obtain ⟨f, rfl⟩ : ∃ g, f = g + 1 := ⟨f - 1, by omega⟩
    obtain ⟨f2, rfl⟩ : ∃ g, f2 = g + 1 := ⟨f2 - 1, by omega⟩
    have hcs' := hcs
    obtain ⟨⟨hE, hrq, hrz⟩, ⟨w, hr, hw, hwz⟩, ⟨hz, hl'⟩, he, hse, hk4⟩ := hcs'
    have hk := hr.1.1
    have r3 := hr.2.2.1
    have r4 := hr.2.2.2.1
    rw [X6_commands_8, w_bd, w_gI]
    refine ⟨by rw [hk], ?_⟩
    rw [r3, w_ite]
    have e0 : (nv (kc k) = 0) ↔ k = 0 := kc_v (v := 0) hk4 (by omega)
    by_cases c0 : k = 0
    · rw [if_pos (e0.2 c0), w_okr, w_rt]
      subst c0
      exact kok n K s e d hn ⟨⟨hE, hrq, hrz⟩, ⟨w, hr, hw, hwz⟩, ⟨by omega, by omega⟩, he, hse, hk4⟩ hcl hvl fun E c0 c hen htp Q' hq => (p14_0 htp Q').2 (hq c E hen htp)
    · rw [if_neg c0] at hmu
      obtain ⟨f3, rfl⟩ : ∃ g, f2 = g + 1 := ⟨f2 - 1, by omega⟩
      rw [if_neg (fun h => c0 (e0.1 h)), w_bd, w_gR]
      refine ⟨by rw [hk], ?_⟩
      rw [r4, w_bd, w_rc]
      refine ⟨by rw [hk], ?_⟩
      rw [w_bd]
      refine X6_isCommand_w hC hcs hr hw hwz _ fun d1 v hHw E1 hcs1 hr1 z1 l1 hv => ?_
      have hk1 := hcs1.k
      rw [w_bd, w_rc]
      refine ⟨by rw [hk1], ?_⟩
      rw [w_bh]
      have up : ∀ cd ps d' q, Ce a rq (Z + n) (L + 5 * n) cd ps d' q → Ce a rq (Z + 26) (L + 130) cd ps d' q := fun cd ps d' q h => h.up (by omega) (by omega)
      rcases hv with ⟨⟨c, h8, hcw⟩, rfl⟩ | ⟨hno, rfl⟩
      · rw [X6_require_1 n10, sm_r, w_ite]
        by_cases c25 : n = 25
        · rw [if_pos (by rw [show (25 : Int32) = nv 25 from rfl, nv_le (by omega) (by omega)]; omega), X6_commands_42, w_bd, w_rc]
          refine ⟨by rw [hk1], ?_⟩
          rw [w_bh]
          refine X6_require_0 (c := 4) hC hcs1 _ fun d' q hce => ?_
          rw [sm_l, w_rt]
          refine ke 4 s d' q (up _ _ _ _ hce) (by omega) (by omega) fun E c1 c2 htp Q' hq => ?_
          rw [p14_k htp c0, rc_f htp h8 hcw (by omega) (by omega)]
          have hz := htp.er (cd := 4) (ps := s) (by omega) (by omega)
          rw [p14_z hz]
          exact hq _ n hz
        · rw [if_neg (by rw [show (25 : Int32) = nv 25 from rfl, nv_le (by omega) (by omega)]; omega), X6_commands_42, w_bd, w_rc]
          refine ⟨by rw [hk1], ?_⟩
          rw [w_bh, X6_require_1 (show ¬ (1 : Int32) = nv 0 from n10), sm_r, w_bd, w_rc]
          refine ⟨by rw [hk1], ?_⟩
          rw [w_bd]
          refine X6_adn hC hcs1 _ fun s' e' k' hx d2 hcs2 ep2 => ?_
          have hk2 := hcs2.k
          rw [w_bd, w_rc]
          refine ⟨by rw [hk2], ?_⟩
          have hw1 : Wq d1 w c := Wq.of hr1.2.2.2.2.2.1 hr1.2.2.2.2.2.2.1 hcw
          have s12 : SgK d1 d2 := ep2.sgk fun x hx => by rw [hx, hk1]; omega
          have hw2 : Wq d2 w c := ⟨s12 _ _ _ hw1.1, hw1.2.ep (by omega) ep2 hr1.2.2.2.2.2.2.2 (fun x hx => by rw [hx, hk1]; omega)⟩
          have hwa : hSz a ≤ w := by
            rcases hw with hw | hw
            · exact hw.2
            · exact absurd hcw.1 hw.1
          have hcl1 : CLs a d1 rq q5 n K := hcl.mv hHw.ep2 (fun x hx => by rw [hx]; omega) (fun u l g hs => hHw.sg hs)
          have hcl2 : CLs a d2 rq q5 n K := hcl1.mv ep2 (fun x hx => by rw [hx, hk1]; omega) s12
          have hx' := hx
          obtain ⟨-, x4, x1, x2, x3, x5⟩ := hx'
          rw [w_bh]
          refine command_j (m := 5 * n) hC hcs2 hw2 h8 hwa (by omega) _ (fun cd ps d' q hce hc1 hc2 tw => ?_) (fun ts s2 e2 k2 d3 q hlen hbd hcs3 hee ep3 sg3 hlam hq1 hq2 tw => ?_)
          · rw [sm_l, w_rt]
            refine ke cd ps d' q (up _ _ _ _ hce) hc1 hc2 fun E c1 c2 htp Q' hq => ?_
            rw [p14_k htp c0]
            refine rc_p hG htp h8 hcw (by omega) hx _ fun c3 h3 => ?_
            rw [w_bd]
            refine w_mono (tw n _ c1 c3 h3) fun _ c4 h4 => ?_
            refine rfin_z h4 (by omega) _ fun c5 h5 => ?_
            rw [p14_z h5]
            exact hq _ _ h5
          · rw [sm_r]
            have hk3 := hcs3.k
            have hcl3 : CLs a d3 rq q5 n K := hcl2.mv ep3 (fun x hx => by
              rcases hx with hx | hx
              · omega
              · rw [hx, hk2]; omega) sg3
            obtain ⟨⟨a1, a2, a3, a4⟩, a5, a6⟩ := hcl3
            have i26 : inI (nv n) (hN d3 q5) = true := by
              rw [nv_in (by omega), a2]
              exact decide_eq_true (by omega)
            have icl : (nv n).toNatClampNeg = n := nv_cl (by omega)
            rw [w_bd, w_sR]
            refine ⟨⟨⟨a1, i26⟩, okR_l hlam⟩, ?_⟩
            rw [icl]
            obtain ⟨d4, ed4⟩ : ∃ d4, d4 = hwR d3 q5 (up1 (hR d3 q5) n (some q)) := ⟨_, rfl⟩
            rw [← ed4]
            have ep4 : EP (fun x => x = q5) d3 d4 := by rw [ed4]; exact (EP.rf (fun x => x = q5) d3).wR (.inl rfl) _
            have E4 : E0 a d4 := by rw [ed4]; exact hcs3.1.1.wR a3 _
            have z4 : hSz d4 = hSz d3 ∧ hSl d4 = hSl d3 := by rw [ed4]; exact ⟨rfl, rfl⟩
            have sg4 : SgK d3 d4 := ep4.sgk fun x hx => by rw [hx, a1]; omega
            have lam4 : ∀ q' c' ts', LamC (hSz a) rq d3 q' c' ts' → LamC (hSz a) rq d4 q' c' ts' := fun q' c' ts' h => by
              have lb := lK_b c'
              have nq : q' ≠ q5 := fun e => by have := h.1; rw [e, a1] at this; omega
              obtain ⟨h1, h2, w', h3, h5, h4⟩ := h
              refine ⟨by rw [ed4]; exact h1, by rw [ed4]; exact h2, w', ?_, h5, sg4 _ _ _ h4⟩
              rw [ed4, hR_wR, up1_n _ _ nq]
              exact h3
            have hcs4 : Cs G S a rq (Z + n + 1) (L + 5 * n + 5) d4 s2 e2 k2 := hcs3.mv E4 ep4 (fun x hx => by rw [hx, a1]; exact ⟨hne, by decide, by decide⟩) (by omega) (by omega)
            have r5 : hR d4 q5 = up1 (hR d3 q5) n (some q) := by rw [ed4, hR_wR, up1_s]
            have hcl4 : CLs a d4 rq q5 (n + 1) (up1 K n (c, ts)) := by
              refine ⟨⟨by rw [ed4]; exact a1, by rw [ed4]; exact a2, a3, by omega⟩, fun i hi => ?_, fun i hi hi2 => by rw [r5, up1_n _ _ (by omega)]; exact a6 i (by omega) hi2⟩
              by_cases ci : i = n
              · have za : hSz a ≤ hSz d2 := hcs2.1.1.1
                rw [ci, r5, up1_s, up1_s]
                exact ⟨q, rfl, by omega, by omega, lam4 _ _ _ hlam⟩
              · rw [r5, up1_n _ _ ci, up1_n _ _ ci]
                obtain ⟨q', y1, y2, y3, y4⟩ := a5 i (by omega)
                exact ⟨q', y1, by omega, y3, lam4 _ _ _ y4⟩
            have hvl4 : ∀ i, i < n + 1 → Vld (up1 K n (c, ts) i) := fun i hi => by
              by_cases ci : i = n
              · rw [ci, up1_s]
                exact ⟨h8, hlen, hbd⟩
              · rw [up1_n _ _ ci]
                exact hvl i (by omega)
            have hk4' := hcs4.k
            rw [w_bd, w_rc]
            refine ⟨by rw [hk4'], ?_⟩
            rw [w_bh]
            refine X6_end_w hC hcs4 _ (fun k3 s3 e3 k3' hx3 d5 hcs5 ep5 => ?_) (fun k3 d' q' hce => ?_)
            · rw [sm_r]
              have sg5 : SgK d4 d5 := ep5.sgk fun x hx => by rw [hx, hk4']; omega
              have hcl5 := hcl4.mv ep5 (fun x hx => by rw [hx, hk4']; omega) sg5
              have hx3' := hx3
              obtain ⟨-, y4, y1, y2, y3, y5⟩ := hx3'
              have hvl' : ∀ i, i < n → (K i).2.length ≤ 4 := fun i hi => by
                have h1 := (hvl i hi).2.1
                have h2 := (sp_b (K i).1).2.1
                omega
              have step : ∀ E c1 c2, TP G S n E c1 c2 s e k → ∀ Q' : Int32 → Hp → Prop, (∀ c', TP G S (n + 1) (ls (up1 E (5 * n) (nv c)) (5 * n + 1) ts) c1 c' s3 e3 k3' → Wp (X5_play_14 (f3 + 1) (G 10)) c' Q') → Wp (X5_play_14 (f3 + 1 + 1) (G 10)) c2 Q' := by
                intro E c1 c2 htp Q' hq
                rw [p14_k htp c0]
                refine rc_p hG htp h8 hcw (by omega) hx _ fun c3 h3 => ?_
                rw [w_bd]
                refine w_mono (tw n _ c1 c3 h3) fun _ c4 h4 => ?_
                exact rfin_1 hG h4 k3 hx3 (by omega) _ fun c5 h5 => hq c5 h5
              refine ih f (f3 + 1) (n + 1) (up1 K n (c, ts)) s3 e3 k3' d5 ?_ (by omega) (by omega) (by omega) ?_ hcl5 hvl4 Q (fun cd ps d' q' hce hc1 hc2 tw2 => ?_) (fun n' K' s' e' d' h1 h2 h3 h4 tw2 => ?_)
              · by_cases c9 : k3' = 0
                · rw [if_pos c9]
                  omega
                · rw [if_neg c9]
                  have := y5 c9
                  omega
              · rw [show Z + (n + 1) = Z + n + 1 by omega, show L + 5 * (n + 1) = L + 5 * n + 5 by omega]
                exact hcs5
              · exact ke cd ps d' q' hce hc1 hc2 fun E c1 c2 htp Q' hq => step E c1 c2 htp Q' fun c' h' => tw2 _ c1 c' h' Q' hq
              · exact kok n' K' s' e' d' h1 h2 h3 h4 fun E c1 c2 hen htp Q' hq => step E c1 c2 htp Q' fun c' h' => tw2 _ c1 c' (hen.add hvl' c ts) h' Q' hq
            · rw [sm_l, w_rt]
              refine ke 1 s2 d' q' (hce.up (by omega) (by omega)) (by omega) (by omega) fun E c1 c2 htp Q' hq => ?_
              rw [p14_k htp c0]
              refine rc_p hG htp h8 hcw (by omega) hx _ fun c3 h3 => ?_
              rw [w_bd]
              refine w_mono (tw n _ c1 c3 h3) fun _ c4 h4 => ?_
              refine rfin_0 h4 k3 (by omega) _ fun c5 h5 => ?_
              rw [p14_z h5]
              exact hq _ _ h5
      · refine X6_require_0 (c := 1) hC hcs1 _ fun d' q hce => ?_
        rw [sm_l, w_rt]
        refine ke 1 s d' q (up _ _ _ _ hce) (by omega) (by omega) fun E c1 c2 htp Q' hq => ?_
        rw [p14_k htp c0, rc_n htp hno]
        have hz := htp.er (cd := 1) (ps := s) (by omega) (by omega)
        rw [p14_z hz]
        exact hq _ n hz
