/-! A COMMAND, by both -/
theorem Sg.cgf {d : Hp} {w l : Nat} {f g : Nat → Nat} (h : Sg d w l f) (e : ∀ i, i < l → f i = g i) : Sg d w l g := by
  obtain ⟨h1, h2, v, h3, h4, h5, h6, h7⟩ := h
  exact ⟨h1, h2, v, h3, h4, h5, fun i hi => by rw [← e i hi]; exact h6 i hi, h7⟩
theorem Hs.cgf {d : Hp} {w l : Nat} {f g : Nat → Nat} (h : Hs d w l f) (e : ∀ i, i < l → f i = g i) : Hs d w l g := by
  unfold Hs at *
  rw [← hsh_cg e]
  exact h
theorem sg_u {d : Hp} {w l m : Nat} {f g : Nat → Nat} (h : Sg d w l f) (k : Sg d w m g) (fb : ∀ i, f i ≤ 255) (gb : ∀ i, g i ≤ 255) : l = m ∧ ∀ i, i < l → f i = g i := by
  obtain ⟨h1, h2, v, h3, h4, h5, h6, h7⟩ := h
  obtain ⟨k1, k2, u, k3, k4, k5, k6, k7⟩ := k
  rw [h3] at k3
  cases k3
  have e : l = m := by rw [← h5, k5]
  refine ⟨e, fun i hi => ?_⟩
  have e2 := (h6 i hi).symm.trans (k6 i (by omega))
  have b1 := fb i
  have b2 := gb i
  rw [nv_eq (by omega) (by omega)] at e2
  exact e2
/-- a command's word -/
def Wq (d : Hp) (w c : Nat) : Prop := Sg d w (wn (4 + c)) (wl (4 + c)) ∧ Hs d w (wn (4 + c)) (wl (4 + c))
theorem Wq.of {S : Gst} {d : Hp} {s e k w c : Nat} (h6 : Sg d w (if k = 1 then e - s else 0) (fun i => tb S (s + i))) (h7 : Hs d w (if k = 1 then e - s else 0) (fun i => tb S (s + i))) (hw : IsW S s e k (4 + c)) : Wq d w c := by
  obtain ⟨i1, i2, i3⟩ := hw
  rw [if_pos i1, i2] at h6 h7
  have e : ∀ i, i < wn (4 + c) → tb S (s + i) = wl (4 + c) i := fun i hi => i3 i (by omega)
  exact ⟨h6.cgf e, h7.cgf e⟩
theorem wq_hash {G : Nat → Nat} {B : Nat → Nat × Nat} {S : Gst} {a d : Hp} {rq Z L s e k w c : Nat} (hC : JC G B S a) (hcs : Cs G S a rq Z L d s e k) (hq : Wq d w c) (h8 : c < 8) (hwa : hSz a ≤ w) (Q : Int32 → Hp → Prop) (kk : ∀ d', Hw d d' w → E0 a d' → Cs G S a rq Z L d' s e k → Wq d' w c → hSz d' = hSz d → hSl d' = hSl d → Q (nv (hc c)) d') : Wp (J4_hashCode w) d Q := by
  have gl5 := hC.2.2.2.2.2.2.1.1
  have w6 := wn_b (i := 4 + c) (by omega)
  have fb : ∀ i, wl (4 + c) i ≤ 255 := fun i => wl_b (4 + c) i (by omega)
  have kq := hcs.k
  obtain ⟨⟨h1, h2, h3⟩, ⟨w', hr, hw', hwz⟩, h5, he, hse, hk4⟩ := hcs
  refine J4_hash_w hq.1 hq.2 (by omega) fb _ fun d' hd ep sg hs zz ll => ?_
  rw [hc_v h8]
  have hHw : Hw d d' w := by
    rcases hd with hd | ⟨hk, g, hd⟩
    · exact .inl hd
    · exact .inr ⟨hk, ⟨g, hd⟩, sg.2.1⟩
  have hE : E0 a d' := by
    rcases hd with rfl | ⟨hk, g, rfl⟩
    · exact h1
    · exact h1.wI hwa _
  have eK : hK d' = hK d := by
    rcases hd with rfl | ⟨hk, g, rfl⟩
    · rfl
    · rfl
  obtain ⟨r1, r2, r3, r4, r5, r6, r7, r8⟩ := hr
  have nq : ¬ rq = w := fun e0 => by
    have := hq.1.1
    rw [← e0, kq] at this
    omega
  have o := ep.2.2 rq h3 nq
  have hs' : Hs d' w' (if k = 1 then e - s else 0) (fun i => tb S (s + i)) := by
    by_cases c0 : w' = w
    · rw [c0] at r6 ⊢
      obtain ⟨u1, u2⟩ := sg_u hq.1 r6 fb (fun i => tb_b S _)
      rw [← u1]
      exact hs.cgf u2
    · by_cases c1 : hK d w = 42
      · have := hq.1.1
        omega
      · exact r7.ep hwz ep c0 (fun x hx => by rw [hx]; exact c1)
  refine kk d' hHw hE ⟨⟨hE, h2, by omega⟩, ⟨w', ⟨r1.ep ep h3 nq, by rw [o.2.2.2]; exact r2, by rw [o.2.2.2]; exact r3, by rw [o.2.2.1]; exact r4, fun hk => by rw [o.2.2.2]; exact r5 hk, hHw.sg r6, hs', r8⟩, ?_, by omega⟩, ⟨by omega, by omega⟩, he, hse, hk4⟩ ⟨sg, hs⟩ zz ll
  unfold Wrd
  rw [eK]
  exact hw'
/-- the component's number of a command -/
def c5 (c : Nat) : Int32 := if c = 0 then nv 0 else if c = 1 then nv 1 else if c = 5 then nv 2 else if c = 6 then nv 3 else if c = 7 then nv 4 else -nv 1
theorem X6_command_w {G : Nat → Nat} {B : Nat → Nat × Nat} {S : Gst} {a d : Hp} {rq Z L s e k w c : Nat} (hC : JC G B S a) (hcs : Cs G S a rq Z L d s e k) (hq : Wq d w c) (h8 : c < 8) (hwa : hSz a ≤ w) (Q : Ex ⊕ Option Nat → Hp → Prop) (kk : ∀ d', Hw d d' w → E0 a d' → Cs G S a rq Z L d' s e k → Wq d' w c → hSz d' = hSz d → hSl d' = hSl d → Wp (X6_command_127 rq (some w) (c5 c)) d' Q) : Wp (X6_command rq (some w)) d Q := by
  have w6 := wn_b (i := 4 + c) (by omega)
  rw [X6_command, w_bd, w_rc]
  refine ⟨hq.1.1, ?_⟩
  rw [w_bd]
  refine wq_hash hC hcs hq h8 hwa _ fun d' hHw hE hcs' hq' zz ll => ?_
  have kw' := hq'.1.1
  have hCo := (hcs'.jc hC).2.2.2.2.2.2.2.2.2
  have k' := kk d' hHw hE hcs' hq' zz ll
  have : c = 0 ∨ c = 1 ∨ c = 2 ∨ c = 3 ∨ c = 4 ∨ c = 5 ∨ c = 6 ∨ c = 7 := by omega
  rcases this with rfl | rfl | rfl | rfl | rfl | rfl | rfl | rfl
  · obtain ⟨u, x, y, -⟩ := co_w hCo (show 4 < 28 by omega)
    have q1 := fun Q => J4_equals_1 hq'.1 y (by omega) ⟨rfl, fun _ _ => rfl⟩ (Q := Q)
    simp (disch := omega) only [show hc 0 = 113643 from rfl, ↓w_bd, ↓w_rt, ↓w_bh, sm_l, sm_r, ↓w_okr, ↓w_nm, ↓w_ite, ↓reduceIte, not_true_eq_false, not_false_eq_true, and_true, true_and, and_self, Option.some.injEq, reduceCtorEq, eq_self, ↓w_rc, ↓w_gI, ↓w_gR, ↓w_aN, ↓w_aI, ↓w_aR, ↓w_aL, ↓w_pI, ↓w_pR, ↓w_sI, ↓w_sR, ↓w_sL, ↓w_nO, ↓w_nA, ↓w_nL, ↓w_ca, ↓w_ca0, ↓w_gS, ↓w_gK, ↓w_dv, ↓w_tw, ↓w_rz, ↓w_no, nv_lit, nv_f, nv_add, nv_mul, nv_sub, nv_le, nv_lt, nv_eq, nv_cl, Nat.reduceMod, Nat.reduceMul, Nat.reduceAdd, Nat.zero_add, Nat.add_zero, Nat.mul_zero, decide_eq_true_eq, nv_inT, ↓w_gC, x, exists_eq_left', kw', q1, n10, Nat.reduceEqDiff]
    exact k'
  · obtain ⟨u, x, y, -⟩ := co_w hCo (show 5 < 28 by omega)
    have q1 := fun Q => J4_equals_1 hq'.1 y (by omega) ⟨rfl, fun _ _ => rfl⟩ (Q := Q)
    simp (disch := omega) only [show hc 1 = 3433178 from rfl, ↓w_bd, ↓w_rt, ↓w_bh, sm_l, sm_r, ↓w_okr, ↓w_nm, ↓w_ite, ↓reduceIte, not_true_eq_false, not_false_eq_true, and_true, true_and, and_self, Option.some.injEq, reduceCtorEq, eq_self, ↓w_rc, ↓w_gI, ↓w_gR, ↓w_aN, ↓w_aI, ↓w_aR, ↓w_aL, ↓w_pI, ↓w_pR, ↓w_sI, ↓w_sR, ↓w_sL, ↓w_nO, ↓w_nA, ↓w_nL, ↓w_ca, ↓w_ca0, ↓w_gS, ↓w_gK, ↓w_dv, ↓w_tw, ↓w_rz, ↓w_no, nv_lit, nv_f, nv_add, nv_mul, nv_sub, nv_le, nv_lt, nv_eq, nv_cl, Nat.reduceMod, Nat.reduceMul, Nat.reduceAdd, Nat.zero_add, Nat.add_zero, Nat.mul_zero, decide_eq_true_eq, nv_inT, ↓w_gC, x, exists_eq_left', kw', q1, n10, Nat.reduceEqDiff]
    exact k'
  · simp (disch := omega) only [show hc 2 = 103668165 from rfl, ↓w_bd, ↓w_rt, ↓w_bh, sm_l, sm_r, ↓w_okr, ↓w_nm, ↓w_ite, ↓reduceIte, not_true_eq_false, not_false_eq_true, and_true, true_and, and_self, Option.some.injEq, reduceCtorEq, eq_self, ↓w_rc, ↓w_gI, ↓w_gR, ↓w_aN, ↓w_aI, ↓w_aR, ↓w_aL, ↓w_pI, ↓w_pR, ↓w_sI, ↓w_sR, ↓w_sL, ↓w_nO, ↓w_nA, ↓w_nL, ↓w_ca, ↓w_ca0, ↓w_gS, ↓w_gK, ↓w_dv, ↓w_tw, ↓w_rz, ↓w_no, nv_lit, nv_f, nv_add, nv_mul, nv_sub, nv_le, nv_lt, nv_eq, nv_cl, Nat.reduceMod, Nat.reduceMul, Nat.reduceAdd, Nat.zero_add, Nat.add_zero, Nat.mul_zero, decide_eq_true_eq, nv_inT, Nat.reduceEqDiff]
    exact k'
  · simp (disch := omega) only [show hc 3 = 94756344 from rfl, ↓w_bd, ↓w_rt, ↓w_bh, sm_l, sm_r, ↓w_okr, ↓w_nm, ↓w_ite, ↓reduceIte, not_true_eq_false, not_false_eq_true, and_true, true_and, and_self, Option.some.injEq, reduceCtorEq, eq_self, ↓w_rc, ↓w_gI, ↓w_gR, ↓w_aN, ↓w_aI, ↓w_aR, ↓w_aL, ↓w_pI, ↓w_pR, ↓w_sI, ↓w_sR, ↓w_sL, ↓w_nO, ↓w_nA, ↓w_nL, ↓w_ca, ↓w_ca0, ↓w_gS, ↓w_gK, ↓w_dv, ↓w_tw, ↓w_rz, ↓w_no, nv_lit, nv_f, nv_add, nv_mul, nv_sub, nv_le, nv_lt, nv_eq, nv_cl, Nat.reduceMod, Nat.reduceMul, Nat.reduceAdd, Nat.zero_add, Nat.add_zero, Nat.mul_zero, decide_eq_true_eq, nv_inT, Nat.reduceEqDiff]
    exact k'
  · simp (disch := omega) only [show hc 4 = 3092207 from rfl, ↓w_bd, ↓w_rt, ↓w_bh, sm_l, sm_r, ↓w_okr, ↓w_nm, ↓w_ite, ↓reduceIte, not_true_eq_false, not_false_eq_true, and_true, true_and, and_self, Option.some.injEq, reduceCtorEq, eq_self, ↓w_rc, ↓w_gI, ↓w_gR, ↓w_aN, ↓w_aI, ↓w_aR, ↓w_aL, ↓w_pI, ↓w_pR, ↓w_sI, ↓w_sR, ↓w_sL, ↓w_nO, ↓w_nA, ↓w_nL, ↓w_ca, ↓w_ca0, ↓w_gS, ↓w_gK, ↓w_dv, ↓w_tw, ↓w_rz, ↓w_no, nv_lit, nv_f, nv_add, nv_mul, nv_sub, nv_le, nv_lt, nv_eq, nv_cl, Nat.reduceMod, Nat.reduceMul, Nat.reduceAdd, Nat.zero_add, Nat.add_zero, Nat.mul_zero, decide_eq_true_eq, nv_inT, Nat.reduceEqDiff]
    exact k'
  · obtain ⟨u, x, y, -⟩ := co_w hCo (show 9 < 28 by omega)
    have q1 := fun Q => J4_equals_1 hq'.1 y (by omega) ⟨rfl, fun _ _ => rfl⟩ (Q := Q)
    simp (disch := omega) only [show hc 5 = 111375 from rfl, ↓w_bd, ↓w_rt, ↓w_bh, sm_l, sm_r, ↓w_okr, ↓w_nm, ↓w_ite, ↓reduceIte, not_true_eq_false, not_false_eq_true, and_true, true_and, and_self, Option.some.injEq, reduceCtorEq, eq_self, ↓w_rc, ↓w_gI, ↓w_gR, ↓w_aN, ↓w_aI, ↓w_aR, ↓w_aL, ↓w_pI, ↓w_pR, ↓w_sI, ↓w_sR, ↓w_sL, ↓w_nO, ↓w_nA, ↓w_nL, ↓w_ca, ↓w_ca0, ↓w_gS, ↓w_gK, ↓w_dv, ↓w_tw, ↓w_rz, ↓w_no, nv_lit, nv_f, nv_add, nv_mul, nv_sub, nv_le, nv_lt, nv_eq, nv_cl, Nat.reduceMod, Nat.reduceMul, Nat.reduceAdd, Nat.zero_add, Nat.add_zero, Nat.mul_zero, decide_eq_true_eq, nv_inT, ↓w_gC, x, exists_eq_left', kw', q1, n10, Nat.reduceEqDiff]
    exact k'
  · obtain ⟨u, x, y, -⟩ := co_w hCo (show 10 < 28 by omega)
    have q1 := fun Q => J4_equals_1 hq'.1 y (by omega) ⟨rfl, fun _ _ => rfl⟩ (Q := Q)
    simp (disch := omega) only [show hc 6 = 3543443 from rfl, ↓w_bd, ↓w_rt, ↓w_bh, sm_l, sm_r, ↓w_okr, ↓w_nm, ↓w_ite, ↓reduceIte, not_true_eq_false, not_false_eq_true, and_true, true_and, and_self, Option.some.injEq, reduceCtorEq, eq_self, ↓w_rc, ↓w_gI, ↓w_gR, ↓w_aN, ↓w_aI, ↓w_aR, ↓w_aL, ↓w_pI, ↓w_pR, ↓w_sI, ↓w_sR, ↓w_sL, ↓w_nO, ↓w_nA, ↓w_nL, ↓w_ca, ↓w_ca0, ↓w_gS, ↓w_gK, ↓w_dv, ↓w_tw, ↓w_rz, ↓w_no, nv_lit, nv_f, nv_add, nv_mul, nv_sub, nv_le, nv_lt, nv_eq, nv_cl, Nat.reduceMod, Nat.reduceMul, Nat.reduceAdd, Nat.zero_add, Nat.add_zero, Nat.mul_zero, decide_eq_true_eq, nv_inT, ↓w_gC, x, exists_eq_left', kw', q1, n10, Nat.reduceEqDiff]
    exact k'
  · obtain ⟨u, x, y, -⟩ := co_w hCo (show 11 < 28 by omega)
    have q1 := fun Q => J4_equals_1 hq'.1 y (by omega) ⟨rfl, fun _ _ => rfl⟩ (Q := Q)
    simp (disch := omega) only [show hc 7 = 100913 from rfl, ↓w_bd, ↓w_rt, ↓w_bh, sm_l, sm_r, ↓w_okr, ↓w_nm, ↓w_ite, ↓reduceIte, not_true_eq_false, not_false_eq_true, and_true, true_and, and_self, Option.some.injEq, reduceCtorEq, eq_self, ↓w_rc, ↓w_gI, ↓w_gR, ↓w_aN, ↓w_aI, ↓w_aR, ↓w_aL, ↓w_pI, ↓w_pR, ↓w_sI, ↓w_sR, ↓w_sL, ↓w_nO, ↓w_nA, ↓w_nL, ↓w_ca, ↓w_ca0, ↓w_gS, ↓w_gK, ↓w_dv, ↓w_tw, ↓w_rz, ↓w_no, nv_lit, nv_f, nv_add, nv_mul, nv_sub, nv_le, nv_lt, nv_eq, nv_cl, Nat.reduceMod, Nat.reduceMul, Nat.reduceAdd, Nat.zero_add, Nat.add_zero, Nat.mul_zero, decide_eq_true_eq, nv_inT, ↓w_gC, x, exists_eq_left', kw', q1, n10, Nat.reduceEqDiff]
    exact k'
/-- the commands' numbers -/
def sp (c : Nat) : List Nat := if c = 0 then [3, 9, 100, 9] else if c = 1 then [19, 4, 4] else if c = 5 then [9, 4, 9] else if c = 6 then [9, 9] else if c = 7 then [9] else [19]
theorem sp_b (c : Nat) : (∀ h, h ∈ sp c → h ≤ 100) ∧ (sp c).length ≤ 4 ∧ 1 ≤ (sp c).length := by
  unfold sp
  (repeat' split) <;> decide
/-- what a command object is -/
def lK (c : Nat) : Nat := if c = 0 then 73 else if c = 1 then 74 else if c = 5 then 75 else if c = 6 then 76 else if c = 7 then 77 else 78
def lN (c : Nat) : Nat := if c = 0 then 5 else if c = 1 then 4 else if c = 5 then 4 else if c = 6 then 3 else if c = 7 then 2 else 3
def lI (c : Nat) (xs : List Int32) : Nat → Int32 := if c = 0 then (fun j => if j = 1 then xs.getD 0 0 else if j = 2 then xs.getD 1 0 else if j = 3 then xs.getD 3 0 else if j = 4 then xs.getD 2 0 else 0) else if c = 1 ∨ c = 5 then (fun j => if j = 1 then xs.getD 0 0 else if j = 2 then xs.getD 1 0 else if j = 3 then xs.getD 2 0 else 0) else if c = 6 then (fun j => if j = 1 then xs.getD 0 0 else if j = 2 then xs.getD 1 0 else 0) else (fun j => if j = 1 then xs.getD 0 0 else 0)
def lR (c rq w : Nat) : Nat → Option Nat := if c = 2 ∨ c = 3 ∨ c = 4 then (fun j => if j = 0 then some rq else if j = 2 then some w else none) else (fun j => if j = 0 then some rq else none)
theorem s4v (v : Nat) (h : v < 5) : ((nv v).toInt < 0 ∨ 4 < (nv v).toInt) = False := eq_false (by
  rw [nv_int (by omega)]
  omega)
theorem s4m : ((-nv 1).toInt < 0 ∨ 4 < (-nv 1).toInt) = True := eq_true (by decide)
theorem c127 (rq w : Nat) {c : Nat} (h8 : c < 8) : X6_command_127 rq (some w) (c5 c) = cl rq (sp c) (fun xs => bd (nL (lK c) (lN c) (lI c xs) (lR c rq w)) fun q => okr (rt (some q))) := by
  have : c = 0 ∨ c = 1 ∨ c = 2 ∨ c = 3 ∨ c = 4 ∨ c = 5 ∨ c = 6 ∨ c = 7 := by omega
  rcases this with rfl | rfl | rfl | rfl | rfl | rfl | rfl | rfl
  · unfold X6_command_127
    rw [if_neg (by decide), if_pos (by decide)]
    rfl
  · unfold X6_command_127
    rw [if_neg (by decide), if_neg (by decide), if_pos (by decide)]
    rfl
  · unfold X6_command_127
    rw [if_pos (by decide)]
    rfl
  · unfold X6_command_127
    rw [if_pos (by decide)]
    rfl
  · unfold X6_command_127
    rw [if_pos (by decide)]
    rfl
  · unfold X6_command_127
    rw [if_neg (by decide), if_neg (by decide), if_neg (by decide), if_pos (by decide)]
    rfl
  · unfold X6_command_127
    rw [if_neg (by decide), if_neg (by decide), if_neg (by decide), if_neg (by decide), if_pos (by decide)]
    rfl
  · unfold X6_command_127
    rw [if_neg (by decide), if_neg (by decide), if_neg (by decide), if_neg (by decide), if_neg (by decide), if_pos (by decide)]
    rfl
theorem rn_eq (G : Nat → Nat) (v : Int32) {c : Nat} (h8 : c < 8) : X5_readsNumbers (G 10) v (nv c) = tl G v (sp c) 1 := by
  have : c = 0 ∨ c = 1 ∨ c = 2 ∨ c = 3 ∨ c = 4 ∨ c = 5 ∨ c = 6 ∨ c = 7 := by omega
  rcases this with rfl | rfl | rfl | rfl | rfl | rfl | rfl | rfl
  · unfold X5_readsNumbers
    rw [if_neg (by decide), if_pos (by decide)]
    rfl
  · unfold X5_readsNumbers
    rw [if_neg (by decide), if_neg (by decide), if_pos (by decide)]
    rfl
  · unfold X5_readsNumbers
    rw [if_neg (by decide), if_neg (by decide), if_neg (by decide), if_pos (by decide)]
    rfl
  · unfold X5_readsNumbers
    rw [if_neg (by decide), if_neg (by decide), if_neg (by decide), if_neg (by decide), if_pos (by decide)]
    rfl
  · unfold X5_readsNumbers
    rw [if_neg (by decide), if_neg (by decide), if_neg (by decide), if_neg (by decide), if_neg (by decide), if_pos (by decide)]
    rfl
  · unfold X5_readsNumbers
    rw [if_neg (by decide), if_neg (by decide), if_neg (by decide), if_neg (by decide), if_neg (by decide), if_neg (by decide), if_pos (by decide)]
    rfl
  · unfold X5_readsNumbers
    rw [if_neg (by decide), if_neg (by decide), if_neg (by decide), if_neg (by decide), if_neg (by decide), if_neg (by decide), if_neg (by decide), if_pos (by decide)]
    rfl
  · unfold X5_readsNumbers
    rw [if_neg (by decide), if_neg (by decide), if_neg (by decide), if_neg (by decide), if_neg (by decide), if_neg (by decide), if_neg (by decide), if_neg (by decide), if_pos (by decide)]
    rfl
theorem w_nL' {k n : Nat} {fI : Nat → Int32} {fR : Nat → Option Nat} {b : Hp} {Q : Nat → Hp → Prop} (h : ∀ c, E0 b c → hSz c = hSz b + 1 → hSl c = hSl b + n → hK c (hSz b) = k → hI c (hSz b) = fI → hR c (hSz b) = fR → Q (hSz b) c) : Wp (nL k n fI fR) b Q := by
  rw [w_nL]
  refine h _ ((E0.rf b).new _ _ _ _ _) rfl rfl ?_ ?_ ?_
  · rw [hK_new, up1_s]
  · rw [hI_new, up1_s]
  · rw [hR_new, up1_s]
/-- a command object -/
def LamC (z rq : Nat) (d : Hp) (q c : Nat) (ts : List Nat) : Prop := hK d q = lK c ∧ hI d q = lI c (ts.map nv) ∧ ∃ w, hR d q = lR c rq w ∧ z ≤ w ∧ Sg d w (wn (4 + c)) (wl (4 + c))
def SgK (d d' : Hp) : Prop := ∀ u l f, Sg d u l f → Sg d' u l f
theorem lK_b (c : Nat) : 73 ≤ lK c ∧ lK c ≤ 78 ∧ lN c ≤ 5 := by
  unfold lK lN
  (repeat' split) <;> omega
theorem LamC.mv {P : Nat → Prop} {z rq : Nat} {d d' : Hp} {q c : Nat} {ts : List Nat} (h : LamC z rq d q c ts) (g : EP P d d') (hP : ∀ x, P x → hK d x < 60) (hq : q < hSz d) (hs : SgK d d') : LamC z rq d' q c ts := by
  obtain ⟨h1, h2, w, h3, h5, h4⟩ := h
  have b := lK_b c
  have o := g.2.2 q hq (fun hp => by have := hP q hp; omega)
  exact ⟨by rw [o.1]; exact h1, by rw [o.2.2.2]; exact h2, w, by rw [o.2.2.1]; exact h3, h5, hs _ _ _ h4⟩
theorem EP.sgk {P : Nat → Prop} {d d' : Hp} (g : EP P d d') (hP : ∀ x, P x → hK d x % 100 ≠ 13 ∧ hK d x % 100 ≠ 42) : SgK d d' := fun u l f h => h.ep g (fun x hx => ⟨fun e => (hP x hx).1 (by rw [e]), hP x hx⟩)
theorem SgK.tr {a b c : Hp} (h : SgK a b) (g : SgK b c) : SgK a c := fun u l f x => g u l f (h u l f x)
theorem Hw.ep2 {d d' : Hp} {w : Nat} (h : Hw d d' w) : EP (fun x => hK d x = 13) d d' := h.ep.mono fun x hx => by rw [hx.1]; exact hx.2
theorem command_j {G : Nat → Nat} {B : Nat → Nat × Nat} {S : Gst} {a d : Hp} {rq Z L s e k w c m : Nat} (hC : JC G B S a) (hcs : Cs G S a rq Z L d s e k) (hq : Wq d w c) (h8 : c < 8) (hwa : hSz a ≤ w) (hm : m + 5 ≤ 125) (Q : Ex ⊕ Option Nat → Hp → Prop)
    (ke : ∀ cd ps d' q, Ce a rq Z L cd ps d' q → 0 < cd → cd < 10 → (∀ n E c0 c', TP G S n E c0 c' s e k → Wp (tl G (nv m) (sp c) 1) c' (fun _ c'' => TPz G c0 c'' cd ps n)) → Q (.inl (4, q)) d')
    (kk : ∀ ts s' e' k' d' q, ts.length = (sp c).length → (∀ i, i < (sp c).length → ts.getD i 0 ≤ ub ((sp c).getD i 0)) → Cs G S a rq (Z + 1) (L + 5) d' s' e' k' → e ≤ e' → EP (fun x => hK d x = 13 ∨ x = rq) d d' → SgK d d' → LamC (hSz a) rq d' q c ts → hSz d ≤ q → q < hSz d' → (∀ n E c0 c', TP G S n E c0 c' s e k → Wp (tl G (nv m) (sp c) 1) c' (fun _ c'' => TP G S n (ls E (m + 1) ts) c0 c'' s' e' k')) → Q (.inr (some q)) d') :
    Wp (X6_command rq (some w)) d Q := by
  have sb := sp_b c
  refine X6_command_w hC hcs hq h8 hwa Q fun d1 hHw E1 hcs1 hq1 z1 l1 => ?_
  rw [c127 rq w h8]
  refine args_j (m := m) hC (sp c) 1 s e k d1 _ Q sb.1 (by omega) hcs1 ke fun ts s' e' k' d2 hl hv hcs2 he ep2 tw => ?_
  rw [w_bd]
  refine w_nL' fun d3 E3 z3 l3 k3 i3 r3 => ?_
  rw [w_okr, w_rt]
  have kq1 := hcs1.k
  have kq2 := hcs2.k
  have nb := (lK_b c).2.2
  have s2 : SgK d1 d2 := ep2.sgk fun x hx => by rw [hx, kq1]; omega
  have s3 : SgK d2 d3 := (E3.ep (fun _ => False)).sgk fun x hx => hx.elim
  have hE2 := hcs2.1.1
  have hz2 : hSz d ≤ hSz d2 := by have := ep2.1; omega
  have eK : hK d1 = hK d := by
    rcases hHw with rfl | ⟨hk, ⟨g, rfl⟩, -⟩
    · rfl
    · rfl
  refine kk ts s' e' k' d3 (hSz d2) hl hv (hcs2.mv (P := fun _ => False) (hE2.tr E3) (E3.ep _) (fun x hx => hx.elim) (by omega) (by omega)) he ?_ ?_ ⟨k3, i3, w, r3, hwa, s3 _ _ _ (s2 _ _ _ hq1.1)⟩ hz2 (by omega) tw
  · exact ((hHw.ep2.mono fun x hx => .inl hx).tr (ep2.mono fun x hx => .inr hx)).tr (E3.ep _)
  · exact (show SgK d d1 from fun u l f h => hHw.sg h).tr (s2.tr s3)
/-- which command the twin sees -/
theorem chere_w {G : Nat → Nat} {S : Gst} {c : Hp} {s e k : Nat} (h : Ts G S c s e k) (hCo : Co c) :
    (∀ x, x < 8 → IsW S s e k (4 + x) → ∀ Q, Wp (X5_commandHere (G 10)) c Q ↔ Q (nv x) c) ∧ ((∀ x, x < 8 → ¬ IsW S s e k (4 + x)) → ∀ Q, Wp (X5_commandHere (G 10)) c Q ↔ Q (-nv 1) c) := by
  obtain ⟨u0, x0, y0, -⟩ := co_w hCo (show 17 < 28 by omega)
  obtain ⟨u1, x1, y1, -⟩ := co_w hCo (show 18 < 28 by omega)
  obtain ⟨u2, x2, y2, -⟩ := co_w hCo (show 19 < 28 by omega)
  obtain ⟨u3, x3, y3, -⟩ := co_w hCo (show 20 < 28 by omega)
  obtain ⟨u4, x4, y4, -⟩ := co_w hCo (show 21 < 28 by omega)
  obtain ⟨u5, x5, y5, -⟩ := co_w hCo (show 22 < 28 by omega)
  obtain ⟨u6, x6, y6, -⟩ := co_w hCo (show 23 < 28 by omega)
  obtain ⟨u7, x7, y7, -⟩ := co_w hCo (show 24 < 28 by omega)
  have i := fun x (hx : x < 8) => (isw_t (S := S) (s := s) (e := e) (k := k) (i := 2 + x) (by omega))
  have z := fun x (hx : x < 8) (g : ¬ IsW S s e k (4 + x)) => (show ¬ IsW S s e k (17 + x) from fun y => g (by
    have := (i x hx).1 (by rw [show 15 + (2 + x) = 17 + x by omega]; exact y)
    rw [show 2 + (2 + x) = 4 + x by omega] at this
    exact this))
  have o := fun x (hx : x < 8) (g : IsW S s e k (4 + x)) => (show IsW S s e k (17 + x) from by
    have := (i x hx).2 (by rw [show 2 + (2 + x) = 4 + x by omega]; exact g)
    rw [show 15 + (2 + x) = 17 + x by omega] at this
    exact this)
  have z0 := fun g Q => X5_isWord_0 h (by omega) y0 (z 0 (by omega) g) (Q := Q)
  have z1 := fun g Q => X5_isWord_0 h (by omega) y1 (z 1 (by omega) g) (Q := Q)
  have z2 := fun g Q => X5_isWord_0 h (by omega) y2 (z 2 (by omega) g) (Q := Q)
  have z3 := fun g Q => X5_isWord_0 h (by omega) y3 (z 3 (by omega) g) (Q := Q)
  have z4 := fun g Q => X5_isWord_0 h (by omega) y4 (z 4 (by omega) g) (Q := Q)
  have z5 := fun g Q => X5_isWord_0 h (by omega) y5 (z 5 (by omega) g) (Q := Q)
  have z6 := fun g Q => X5_isWord_0 h (by omega) y6 (z 6 (by omega) g) (Q := Q)
  have z7 := fun g Q => X5_isWord_0 h (by omega) y7 (z 7 (by omega) g) (Q := Q)
  refine ⟨fun x hx hw Q => ?_, fun hn Q => ?_⟩
  · have ne : ∀ y, y < 8 → y ≠ x → ¬ IsW S s e k (4 + y) := fun y hy hne g => hne (isw_2 hy hx g hw)
    have : x = 0 ∨ x = 1 ∨ x = 2 ∨ x = 3 ∨ x = 4 ∨ x = 5 ∨ x = 6 ∨ x = 7 := by omega
    rcases this with rfl | rfl | rfl | rfl | rfl | rfl | rfl | rfl
    · have q := fun Q => X5_isWord_1 h (by omega) y0 (o 0 (by omega) hw) (Q := Q)
      simp (disch := omega) only [X5_commandHere, X5_commandHere_93, ↓w_bd, ↓w_rt, ↓w_bh, sm_l, sm_r, ↓w_okr, ↓w_nm, ↓w_ite, ↓reduceIte, not_true_eq_false, not_false_eq_true, and_true, true_and, and_self, Option.some.injEq, reduceCtorEq, eq_self, ↓w_rc, ↓w_gI, ↓w_gR, ↓w_aN, ↓w_aI, ↓w_aR, ↓w_aL, ↓w_pI, ↓w_pR, ↓w_sI, ↓w_sR, ↓w_sL, ↓w_nO, ↓w_nA, ↓w_nL, ↓w_ca, ↓w_ca0, ↓w_gS, ↓w_gK, ↓w_dv, ↓w_tw, ↓w_rz, ↓w_no, nv_lit, nv_f, nv_add, nv_mul, nv_sub, nv_le, nv_lt, nv_eq, nv_cl, Nat.reduceMod, Nat.reduceMul, Nat.reduceAdd, Nat.zero_add, Nat.add_zero, Nat.mul_zero, decide_eq_true_eq, nv_inT, ↓w_gC, x0, exists_eq_left', h.1, q, n10]
    · have q := fun Q => X5_isWord_1 h (by omega) y1 (o 1 (by omega) hw) (Q := Q)
      simp (disch := omega) only [X5_commandHere, X5_commandHere_93, ↓w_bd, ↓w_rt, ↓w_bh, sm_l, sm_r, ↓w_okr, ↓w_nm, ↓w_ite, ↓reduceIte, not_true_eq_false, not_false_eq_true, and_true, true_and, and_self, Option.some.injEq, reduceCtorEq, eq_self, ↓w_rc, ↓w_gI, ↓w_gR, ↓w_aN, ↓w_aI, ↓w_aR, ↓w_aL, ↓w_pI, ↓w_pR, ↓w_sI, ↓w_sR, ↓w_sL, ↓w_nO, ↓w_nA, ↓w_nL, ↓w_ca, ↓w_ca0, ↓w_gS, ↓w_gK, ↓w_dv, ↓w_tw, ↓w_rz, ↓w_no, nv_lit, nv_f, nv_add, nv_mul, nv_sub, nv_le, nv_lt, nv_eq, nv_cl, Nat.reduceMod, Nat.reduceMul, Nat.reduceAdd, Nat.zero_add, Nat.add_zero, Nat.mul_zero, decide_eq_true_eq, nv_inT, ↓w_gC, x0, x1, exists_eq_left', h.1, z0 (ne 0 (by omega) (by omega)), q, n10]
    · have q := fun Q => X5_isWord_1 h (by omega) y2 (o 2 (by omega) hw) (Q := Q)
      simp (disch := omega) only [X5_commandHere, X5_commandHere_93, ↓w_bd, ↓w_rt, ↓w_bh, sm_l, sm_r, ↓w_okr, ↓w_nm, ↓w_ite, ↓reduceIte, not_true_eq_false, not_false_eq_true, and_true, true_and, and_self, Option.some.injEq, reduceCtorEq, eq_self, ↓w_rc, ↓w_gI, ↓w_gR, ↓w_aN, ↓w_aI, ↓w_aR, ↓w_aL, ↓w_pI, ↓w_pR, ↓w_sI, ↓w_sR, ↓w_sL, ↓w_nO, ↓w_nA, ↓w_nL, ↓w_ca, ↓w_ca0, ↓w_gS, ↓w_gK, ↓w_dv, ↓w_tw, ↓w_rz, ↓w_no, nv_lit, nv_f, nv_add, nv_mul, nv_sub, nv_le, nv_lt, nv_eq, nv_cl, Nat.reduceMod, Nat.reduceMul, Nat.reduceAdd, Nat.zero_add, Nat.add_zero, Nat.mul_zero, decide_eq_true_eq, nv_inT, ↓w_gC, x0, x1, x2, exists_eq_left', h.1, z0 (ne 0 (by omega) (by omega)), z1 (ne 1 (by omega) (by omega)), q, n10]
    · have q := fun Q => X5_isWord_1 h (by omega) y3 (o 3 (by omega) hw) (Q := Q)
      simp (disch := omega) only [X5_commandHere, X5_commandHere_93, ↓w_bd, ↓w_rt, ↓w_bh, sm_l, sm_r, ↓w_okr, ↓w_nm, ↓w_ite, ↓reduceIte, not_true_eq_false, not_false_eq_true, and_true, true_and, and_self, Option.some.injEq, reduceCtorEq, eq_self, ↓w_rc, ↓w_gI, ↓w_gR, ↓w_aN, ↓w_aI, ↓w_aR, ↓w_aL, ↓w_pI, ↓w_pR, ↓w_sI, ↓w_sR, ↓w_sL, ↓w_nO, ↓w_nA, ↓w_nL, ↓w_ca, ↓w_ca0, ↓w_gS, ↓w_gK, ↓w_dv, ↓w_tw, ↓w_rz, ↓w_no, nv_lit, nv_f, nv_add, nv_mul, nv_sub, nv_le, nv_lt, nv_eq, nv_cl, Nat.reduceMod, Nat.reduceMul, Nat.reduceAdd, Nat.zero_add, Nat.add_zero, Nat.mul_zero, decide_eq_true_eq, nv_inT, ↓w_gC, x0, x1, x2, x3, exists_eq_left', h.1, z0 (ne 0 (by omega) (by omega)), z1 (ne 1 (by omega) (by omega)), z2 (ne 2 (by omega) (by omega)), q, n10]
    · have q := fun Q => X5_isWord_1 h (by omega) y4 (o 4 (by omega) hw) (Q := Q)
      simp (disch := omega) only [X5_commandHere, X5_commandHere_93, ↓w_bd, ↓w_rt, ↓w_bh, sm_l, sm_r, ↓w_okr, ↓w_nm, ↓w_ite, ↓reduceIte, not_true_eq_false, not_false_eq_true, and_true, true_and, and_self, Option.some.injEq, reduceCtorEq, eq_self, ↓w_rc, ↓w_gI, ↓w_gR, ↓w_aN, ↓w_aI, ↓w_aR, ↓w_aL, ↓w_pI, ↓w_pR, ↓w_sI, ↓w_sR, ↓w_sL, ↓w_nO, ↓w_nA, ↓w_nL, ↓w_ca, ↓w_ca0, ↓w_gS, ↓w_gK, ↓w_dv, ↓w_tw, ↓w_rz, ↓w_no, nv_lit, nv_f, nv_add, nv_mul, nv_sub, nv_le, nv_lt, nv_eq, nv_cl, Nat.reduceMod, Nat.reduceMul, Nat.reduceAdd, Nat.zero_add, Nat.add_zero, Nat.mul_zero, decide_eq_true_eq, nv_inT, ↓w_gC, x0, x1, x2, x3, x4, exists_eq_left', h.1, z0 (ne 0 (by omega) (by omega)), z1 (ne 1 (by omega) (by omega)), z2 (ne 2 (by omega) (by omega)), z3 (ne 3 (by omega) (by omega)), q, n10]
    · have q := fun Q => X5_isWord_1 h (by omega) y5 (o 5 (by omega) hw) (Q := Q)
      simp (disch := omega) only [X5_commandHere, X5_commandHere_93, ↓w_bd, ↓w_rt, ↓w_bh, sm_l, sm_r, ↓w_okr, ↓w_nm, ↓w_ite, ↓reduceIte, not_true_eq_false, not_false_eq_true, and_true, true_and, and_self, Option.some.injEq, reduceCtorEq, eq_self, ↓w_rc, ↓w_gI, ↓w_gR, ↓w_aN, ↓w_aI, ↓w_aR, ↓w_aL, ↓w_pI, ↓w_pR, ↓w_sI, ↓w_sR, ↓w_sL, ↓w_nO, ↓w_nA, ↓w_nL, ↓w_ca, ↓w_ca0, ↓w_gS, ↓w_gK, ↓w_dv, ↓w_tw, ↓w_rz, ↓w_no, nv_lit, nv_f, nv_add, nv_mul, nv_sub, nv_le, nv_lt, nv_eq, nv_cl, Nat.reduceMod, Nat.reduceMul, Nat.reduceAdd, Nat.zero_add, Nat.add_zero, Nat.mul_zero, decide_eq_true_eq, nv_inT, ↓w_gC, x0, x1, x2, x3, x4, x5, exists_eq_left', h.1, z0 (ne 0 (by omega) (by omega)), z1 (ne 1 (by omega) (by omega)), z2 (ne 2 (by omega) (by omega)), z3 (ne 3 (by omega) (by omega)), z4 (ne 4 (by omega) (by omega)), q, n10]
    · have q := fun Q => X5_isWord_1 h (by omega) y6 (o 6 (by omega) hw) (Q := Q)
      simp (disch := omega) only [X5_commandHere, X5_commandHere_93, ↓w_bd, ↓w_rt, ↓w_bh, sm_l, sm_r, ↓w_okr, ↓w_nm, ↓w_ite, ↓reduceIte, not_true_eq_false, not_false_eq_true, and_true, true_and, and_self, Option.some.injEq, reduceCtorEq, eq_self, ↓w_rc, ↓w_gI, ↓w_gR, ↓w_aN, ↓w_aI, ↓w_aR, ↓w_aL, ↓w_pI, ↓w_pR, ↓w_sI, ↓w_sR, ↓w_sL, ↓w_nO, ↓w_nA, ↓w_nL, ↓w_ca, ↓w_ca0, ↓w_gS, ↓w_gK, ↓w_dv, ↓w_tw, ↓w_rz, ↓w_no, nv_lit, nv_f, nv_add, nv_mul, nv_sub, nv_le, nv_lt, nv_eq, nv_cl, Nat.reduceMod, Nat.reduceMul, Nat.reduceAdd, Nat.zero_add, Nat.add_zero, Nat.mul_zero, decide_eq_true_eq, nv_inT, ↓w_gC, x0, x1, x2, x3, x4, x5, x6, exists_eq_left', h.1, z0 (ne 0 (by omega) (by omega)), z1 (ne 1 (by omega) (by omega)), z2 (ne 2 (by omega) (by omega)), z3 (ne 3 (by omega) (by omega)), z4 (ne 4 (by omega) (by omega)), z5 (ne 5 (by omega) (by omega)), q, n10]
    · have q := fun Q => X5_isWord_1 h (by omega) y7 (o 7 (by omega) hw) (Q := Q)
      simp (disch := omega) only [X5_commandHere, X5_commandHere_93, ↓w_bd, ↓w_rt, ↓w_bh, sm_l, sm_r, ↓w_okr, ↓w_nm, ↓w_ite, ↓reduceIte, not_true_eq_false, not_false_eq_true, and_true, true_and, and_self, Option.some.injEq, reduceCtorEq, eq_self, ↓w_rc, ↓w_gI, ↓w_gR, ↓w_aN, ↓w_aI, ↓w_aR, ↓w_aL, ↓w_pI, ↓w_pR, ↓w_sI, ↓w_sR, ↓w_sL, ↓w_nO, ↓w_nA, ↓w_nL, ↓w_ca, ↓w_ca0, ↓w_gS, ↓w_gK, ↓w_dv, ↓w_tw, ↓w_rz, ↓w_no, nv_lit, nv_f, nv_add, nv_mul, nv_sub, nv_le, nv_lt, nv_eq, nv_cl, Nat.reduceMod, Nat.reduceMul, Nat.reduceAdd, Nat.zero_add, Nat.add_zero, Nat.mul_zero, decide_eq_true_eq, nv_inT, ↓w_gC, x0, x1, x2, x3, x4, x5, x6, x7, exists_eq_left', h.1, z0 (ne 0 (by omega) (by omega)), z1 (ne 1 (by omega) (by omega)), z2 (ne 2 (by omega) (by omega)), z3 (ne 3 (by omega) (by omega)), z4 (ne 4 (by omega) (by omega)), z5 (ne 5 (by omega) (by omega)), z6 (ne 6 (by omega) (by omega)), q, n10]
  · simp (disch := omega) only [X5_commandHere, X5_commandHere_93, ↓w_bd, ↓w_rt, ↓w_bh, sm_l, sm_r, ↓w_okr, ↓w_nm, ↓w_ite, ↓reduceIte, not_true_eq_false, not_false_eq_true, and_true, true_and, and_self, Option.some.injEq, reduceCtorEq, eq_self, ↓w_rc, ↓w_gI, ↓w_gR, ↓w_aN, ↓w_aI, ↓w_aR, ↓w_aL, ↓w_pI, ↓w_pR, ↓w_sI, ↓w_sR, ↓w_sL, ↓w_nO, ↓w_nA, ↓w_nL, ↓w_ca, ↓w_ca0, ↓w_gS, ↓w_gK, ↓w_dv, ↓w_tw, ↓w_rz, ↓w_no, nv_lit, nv_f, nv_add, nv_mul, nv_sub, nv_le, nv_lt, nv_eq, nv_cl, Nat.reduceMod, Nat.reduceMul, Nat.reduceAdd, Nat.zero_add, Nat.add_zero, Nat.mul_zero, decide_eq_true_eq, nv_inT, ↓w_gC, x0, x1, x2, x3, x4, x5, x6, x7, exists_eq_left', h.1, z0 (hn 0 (by omega)), z1 (hn 1 (by omega)), z2 (hn 2 (by omega)), z3 (hn 3 (by omega)), z4 (hn 4 (by omega)), z5 (hn 5 (by omega)), z6 (hn 6 (by omega)), z7 (hn 7 (by omega)), n10]
