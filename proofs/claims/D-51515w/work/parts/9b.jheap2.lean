/-! A HEAP IS READ, by both -/
theorem isw_t {S : Gst} {s e k i : Nat} (hi : i < 13) : IsW S s e k (15 + i) ↔ IsW S s e k (2 + i) := by
  have hf : ∀ i : Fin 13, sT.getD (15 + i.val) [] = sT.getD (2 + i.val) [] := by decide +kernel
  have e1 : sT.getD (15 + i) [] = sT.getD (2 + i) [] := hf ⟨i, hi⟩
  unfold IsW wn wl
  rw [e1]
/-- a row that is being read: n towers, m heaps -/
def Lw (R : Nat → Int32) (n m : Nat) : Prop := (1 ≤ n ∧ n ≤ 4 ∧ R 0 = nv n) ∧ (R 1 = nv m ∧ m ≤ 10) ∧ R 3 = nv 0 ∧ (∀ j, j < n → R (11 + j) = nv 10) ∧ (∀ x y, x < 10 → y < 10 → fc R x y = -1) ∧ (∀ h, h < m → ∃ o r, o < n ∧ 1 ≤ r ∧ r ≤ 5 ∧ R (15 + 7 * h) = nv o ∧ R (15 + 7 * h + 1) = nv r ∧ ∀ i, i < r → ∃ t, t ≤ 9 ∧ R (15 + 7 * h + (2 + i)) = nv t) ∧ ∀ h, m ≤ h → h < 10 → R (15 + 7 * h + 1) = nv 0
theorem rw1_o {R : Nat → Int32} {m v j : Nat} {fs : Nat → Nat} {i : Nat} (h1 : i ≠ 1) (h2 : i < 15 + 7 * m ∨ 15 + 7 * m + 2 + j ≤ i) (h3 : i ≠ 15 + 7 * m ∧ i ≠ 15 + 7 * m + 1) : rw1 R m v j fs i = R i := by
  unfold rw1
  rw [if_neg h1, if_neg h3.1, if_neg h3.2, if_neg (by omega)]
theorem Lw.add {R : Nat → Int32} {n m v j : Nat} {fs : Nat → Nat} (h : Lw R n m) (hm : m < 10) (hv : v < n) (h1 : 1 ≤ j) (h5 : j ≤ 5) (hf : ∀ i, i < j → fs i ≤ 9) : Lw (rw1 R m v j fs) n (m + 1) := by
  obtain ⟨⟨a1, a2, a3⟩, ⟨b1, b2⟩, c, t, f, hh, z⟩ := h
  refine ⟨⟨a1, a2, by rw [rw1_o (by omega) (by omega) (by omega)]; exact a3⟩, ⟨if_pos rfl, by omega⟩, by rw [rw1_o (by omega) (by omega) (by omega)]; exact c, fun i hi => by rw [rw1_o (by omega) (by omega) (by omega)]; exact t i hi, fun x y hx hy => by unfold fc; rw [rw1_o (by omega) (by omega) (by omega)]; exact f x y hx hy, fun g hg => ?_, fun g hg hg2 => by rw [rw1_o (by omega) (by omega) (by omega)]; exact z g (by omega) hg2⟩
  by_cases e : g = m
  · subst e
    refine ⟨v, j, hv, h1, h5, ?_, rw1_n R g v j fs, fun i hi => ⟨fs i, hf i hi, ?_⟩⟩
    · unfold rw1
      rw [if_neg (by omega), if_pos rfl]
    · unfold rw1
      rw [if_neg (by omega), if_neg (by omega), if_neg (by omega), if_pos (by omega), show 15 + 7 * g + (2 + i) - (15 + 7 * g + 2) = i by omega]
  · obtain ⟨o, r, q1, q2, q3, q4, q5, q6⟩ := hh g (by omega)
    refine ⟨o, r, q1, q2, q3, by rw [rw1_o (by omega) (by omega) (by omega)]; exact q4, by rw [rw1_o (by omega) (by omega) (by omega)]; exact q5, fun i hi => ?_⟩
    rw [rw1_o (by omega) (by omega) (by omega)]
    exact q6 i hi
theorem Lw.ro {R : Nat → Int32} {n m : Nat} (h : Lw R n m) (h2 : 2 ≤ m) : Ro R := by
  obtain ⟨⟨a1, a2, a3⟩, ⟨b1, b2⟩, c, t, f, hh, z⟩ := h
  have eT : nT R = n := by unfold nT; rw [a3]; exact nv_cl (by omega)
  have eH : nH R = m := by unfold nH; rw [b1]; exact nv_cl (by omega)
  have eC : nC R = 0 := by unfold nC; rw [c]; rfl
  refine ⟨⟨⟨by rw [eT]; exact a3, by omega, by omega⟩, ⟨by rw [eH]; exact b1, by omega, by omega⟩, ⟨by rw [eC]; exact c, by omega⟩, fun g hg => ?_, fun g hg => by omega⟩, fun x y hx hy => .inl (f x y hx hy), fun g s r hg => by omega, fun g r hg hr => ?_, fun k hk => ⟨10, by omega, t k (by omega)⟩, fun g hg => by omega⟩
  · obtain ⟨o, r, q1, q2, q3, q4, q5, q6⟩ := hh g (by omega)
    have eR : nR R g = r := by unfold nR; rw [q5]; exact nv_cl (by omega)
    have eO : ow R g = o := by unfold ow; rw [q4]; exact nv_cl (by omega)
    exact ⟨by rw [eR]; exact q5, by omega, by omega, by rw [eO]; exact q4, by omega⟩
  · obtain ⟨o, r', q1, q2, q3, q4, q5, q6⟩ := hh g (by omega)
    have eR : nR R g = r' := by unfold nR; rw [q5]; exact nv_cl (by omega)
    exact q6 r (by omega)
theorem Mq.row {B : Nat → Nat × Nat} {a d : Hp} {mq y z : Nat} {R : Nat → Int32} (h : Mq B a mq y z d R) : ∃ l1 l6, hR d mq 0 = some l1 ∧ hK d l1 = 3 ∧ hI d l1 1 = nv (nH R) ∧ hR d mq 3 = some l6 ∧ hK d l6 = 41 ∧ hN d l6 = nT R := by
  obtain ⟨B', L, h1, h2, h3, -⟩ := h
  have kk := mk_k h1
  have rr := mk_r h1
  have nn := mk_n h1
  have ii := mk_i h1
  refine ⟨L 1, L 6, by rw [← h3]; exact rr.1.1, kk.1.2.1, ii.1.2.1, by rw [← h3]; exact rr.1.2.2.2.1, kk.1.2.2.2.2.2.2.1, nn.1.2.2.2.1⟩
theorem X5_newHeap_w {G : Nat → Nat} {c : Hp} {R : Nat → Int32} {m : Nat} (hG : GD G) (hF : FO G c 10 R) (h1 : R 1 = nv m) (hm : m < 10) (v : Int32) (Q : Unit → Hp → Prop) : Wp (X5_newHeap (G 10) v) c Q ↔ Q () (ly G (ly G c 10 (15 + 7 * m) v) 10 1 (nv (m + 1))) := by
  have get1 := fun Q => X5_get_w hF (show 1 < 545 by omega) (Q := Q)
  rw [h1] at get1
  have lay1 := fun Q => X5_layHeap_w hF hm (show 0 < 7 by omega) v Q
  rw [Nat.add_zero] at lay1
  have hF2 := hF.ly hG (k := 15 + 7 * m) (by omega) v
  have ad := fun Q => X5_adds_w hF2 (show 1 < 545 by omega) (nv 1) Q
  rw [up1_n _ _ (by omega), h1, nv_add] at ad
  simp (disch := omega) only [X5_newHeap, ↓w_bd, ↓w_rt, ↓w_bh, sm_l, sm_r, ↓w_okr, ↓w_nm, ↓w_ite, ↓reduceIte, not_true_eq_false, not_false_eq_true, and_true, true_and, and_self, Option.some.injEq, reduceCtorEq, eq_self, ↓w_rc, ↓w_gI, ↓w_gR, ↓w_aN, ↓w_aI, ↓w_aR, ↓w_aL, ↓w_pI, ↓w_pR, ↓w_sI, ↓w_sR, ↓w_sL, ↓w_nO, ↓w_nA, ↓w_nL, ↓w_ca, ↓w_ca0, ↓w_gS, ↓w_gK, ↓w_dv, ↓w_tw, ↓w_rz, ↓w_no, nv_lit, nv_f, nv_add, nv_mul, nv_sub, nv_le, nv_lt, nv_eq, nv_cl, Nat.reduceMod, Nat.reduceMul, Nat.reduceAdd, Nat.zero_add, Nat.add_zero, Nat.mul_zero, decide_eq_true_eq, nv_inT, hF.1, get1, lay1, hF2.1, ad]
/-- the twin's heap, once its owner is told: an error before -/
theorem heap_z {G : Nat → Nat} (hG : GD G) {c0 c : Hp} {R : Nat → Int32} {m cd ps : Nat} (h : TE G c0 c cd ps) (hF : FO G c 10 R) (h1 : R 1 = nv m) (hm : m < 10) (v : Int32) : Wp (bd (rc 5 (some (G 10))) fun h' => bd (X5_newHeap h' v) fun _ => bd (rc 5 (some (G 10))) fun h' => bd (X5_get h' 1) fun x6 => X5_readsHeap_66 FU (G 10) (x6 - 1)) c (fun _ c' => TE G c0 c' cd ps) := by
  have hz := (h.lay hG (i := 15 + 7 * m) (by omega) v).lay hG (i := 1) (by omega) (nv (m + 1))
  have hF2 := (hF.ly hG (k := 15 + 7 * m) (by omega) v).ly hG (k := 1) (by omega) (nv (m + 1))
  have get1 := fun Q => X5_get_w hF2 (show 1 < 545 by omega) (Q := Q)
  rw [up1_s] at get1
  have rz := fun Q => rows_z (f := FU - 1) hz m Q
  rw [show FU - 1 + 1 = FU by unfold FU; rfl] at rz
  simp (disch := omega) only [↓w_bd, ↓w_rt, ↓w_bh, sm_l, sm_r, ↓w_okr, ↓w_nm, ↓w_ite, ↓reduceIte, not_true_eq_false, not_false_eq_true, and_true, true_and, and_self, Option.some.injEq, reduceCtorEq, eq_self, ↓w_rc, ↓w_gI, ↓w_gR, ↓w_aN, ↓w_aI, ↓w_aR, ↓w_aL, ↓w_pI, ↓w_pR, ↓w_sI, ↓w_sR, ↓w_sL, ↓w_nO, ↓w_nA, ↓w_nL, ↓w_ca, ↓w_ca0, ↓w_gS, ↓w_gK, ↓w_dv, ↓w_tw, ↓w_rz, ↓w_no, nv_lit, nv_f, nv_add, nv_mul, nv_sub, nv_le, nv_lt, nv_eq, nv_cl, Nat.reduceMod, Nat.reduceMul, Nat.reduceAdd, Nat.zero_add, Nat.add_zero, Nat.mul_zero, decide_eq_true_eq, nv_inT, hF.1, X5_newHeap_w hG hF h1 hm, hF2.1, get1, nv_sub, show m + 1 - 1 = m by omega, rz]
  exact hz
theorem heap_s {G : Nat → Nat} (hG : GD G) {S : Gst} {c0 c : Hp} {R : Nat → Int32} {n m v s e k : Nat} (h : TL G S R c0 c s e k) (hL : Lw R n m) (hm : m < 10) (Q : Unit → Hp → Prop) (kk : ∀ c', TL G S (rw1 R m v 0 (fun _ => 0)) c0 c' s e k → Wp (tp G FU m 0) c' Q) : Wp (bd (rc 5 (some (G 10))) fun h' => bd (X5_newHeap h' (nv v)) fun _ => bd (rc 5 (some (G 10))) fun h' => bd (X5_get h' 1) fun x6 => X5_readsHeap_66 FU (G 10) (x6 - 1)) c Q := by
  have h1 := hL.2.1.1
  have hz := (h.lay hG (i := 15 + 7 * m) (by omega) (nv v)).lay hG (i := 1) (by omega) (nv (m + 1))
  have hF := h.2.1
  have hF2 := hz.2.1
  have get1 := fun Q => X5_get_w hF2 (show 1 < 545 by omega) (Q := Q)
  rw [up1_s] at get1
  simp (disch := omega) only [↓w_bd, ↓w_rt, ↓w_bh, sm_l, sm_r, ↓w_okr, ↓w_nm, ↓w_ite, ↓reduceIte, not_true_eq_false, not_false_eq_true, and_true, true_and, and_self, Option.some.injEq, reduceCtorEq, eq_self, ↓w_rc, ↓w_gI, ↓w_gR, ↓w_aN, ↓w_aI, ↓w_aR, ↓w_aL, ↓w_pI, ↓w_pR, ↓w_sI, ↓w_sR, ↓w_sL, ↓w_nO, ↓w_nA, ↓w_nL, ↓w_ca, ↓w_ca0, ↓w_gS, ↓w_gK, ↓w_dv, ↓w_tw, ↓w_rz, ↓w_no, nv_lit, nv_f, nv_add, nv_mul, nv_sub, nv_le, nv_lt, nv_eq, nv_cl, Nat.reduceMod, Nat.reduceMul, Nat.reduceAdd, Nat.zero_add, Nat.add_zero, Nat.mul_zero, decide_eq_true_eq, nv_inT, hF.1, X5_newHeap_w hG hF h1 hm, hF2.1, get1, nv_sub, show m + 1 - 1 = m by omega]
  have := kk _ (hz.cg fun i hi => ?_)
  · unfold tp at this
    rw [if_pos rfl] at this
    exact this
  · unfold rw1 up1
    dsimp only
    by_cases c1 : i = 1
    · rw [if_pos c1, if_pos c1]
    · rw [if_neg c1, if_neg c1]
      by_cases c2 : i = 15 + 7 * m
      · rw [if_pos c2, if_pos c2]
      · rw [if_neg c2, if_neg c2]
        by_cases c3 : i = 15 + 7 * m + 1
        · rw [if_pos c3, c3]; exact hL.2.2.2.2.2.2 m (Nat.le_refl _) hm
        · rw [if_neg c3, if_neg (by omega)]
theorem heap_j {G : Nat → Nat} {B : Nat → Nat × Nat} {S : Gst} {a d : Hp} {rq Z L mq n m s e k : Nat} {R : Nat → Int32} (hC : JC G B S a) (hcs : Cs G S a rq Z L d s e k) (hmq : Mq B a mq rq rq d R) (hL : Lw R n m) (Q : Ex ⊕ Unit → Hp → Prop)
    (ke : ∀ cd ps d' q, Ce a rq (Z + 10) (L + 30) cd ps d' q → 0 < cd → cd < 10 → (∀ c0 c, TL G S R c0 c s e k → Wp (X5_readsHeap (G 10)) c (fun _ c' => TE G c0 c' cd ps)) → Q (.inl (4, q)) d')
    (kok : ∀ R' s' e' k' d', Lw R' n (m + 1) → Cs G S a rq (Z + 10) (L + 30) d' s' e' k' → e < e' → m < 10 → Mq B a mq rq rq d' R' → (∀ c0 c, TL G S R c0 c s e k → Wp (X5_readsHeap (G 10)) c (fun _ c' => TL G S R' c0 c' s' e' k')) → Q (.inr ()) d') : Wp (X6_heap rq (some mq)) d Q := by
  have hG := hC.1.gd
  have hcs' := hcs
  obtain ⟨⟨hE, hrq, hrz⟩, ⟨w, hr, hw, hwz⟩, ⟨hz, hl'⟩, he, hse, hk4⟩ := hcs'
  have hr' := hr
  obtain ⟨hb, r1, r3, r4, r5, r6, r7, r8⟩ := hr'
  have hk := hb.1
  have gl5 := hC.2.2.2.2.2.2.1.1
  have hCo := (hcs.jc hC).2.2.2.2.2.2.2.2.2
  obtain ⟨u, u1, u2, u3, u4⟩ := co_w hCo (show 2 < 28 by omega)
  have kw : hK d w % 100 = 13 := r6.1
  have hEq := fun Q => cs_eq gl5 hcs hr u2 (show 2 < 28 by omega) (Nat.le_refl 2) (Q := Q)
  obtain ⟨⟨n1, n2, n3⟩, ⟨m1, m2⟩, -⟩ := id hL
  have eH : nH R = m := by unfold nH; rw [m1]; exact nv_cl (by omega)
  have eT : nT R = n := by unfold nT; rw [n3]; exact nv_cl (by omega)
  obtain ⟨l1, l6, q1, q2, q3, q4, q5, q6⟩ := hmq.row
  obtain ⟨km, zm⟩ := hmq.k
  rw [eH] at q3
  rw [eT] at q6
  have up : ∀ cd ps d' q, Ce a rq Z L cd ps d' q → Ce a rq (Z + 10) (L + 30) cd ps d' q := fun _ _ _ _ h => h.up (by omega) (by omega)
  have hco : ∀ {R' : Nat → Int32} {c0 c s e k}, TL G S R' c0 c s e k → ∃ u, hS c 115 = some u ∧ Sg c u (wn 15) (wl 15) := fun h => by
    obtain ⟨u, u1, u2, -⟩ := co_w h.2.2.1 (show 15 < 28 by omega)
    exact ⟨u, u1, u2⟩
  by_cases c1 : IsW S s e k 2
  · have eq1 := fun Q => (hEq Q).1 c1
    have c15 : IsW S s e k (15 + 0) := (isw_t (by omega)).mpr c1
    simp (disch := omega) only [X6_heap, ↓w_bd, ↓w_rt, ↓w_bh, sm_l, sm_r, ↓w_okr, ↓w_nm, ↓w_ite, ↓reduceIte, not_true_eq_false, not_false_eq_true, and_true, true_and, and_self, Option.some.injEq, reduceCtorEq, eq_self, ↓w_rc, ↓w_gI, ↓w_gR, ↓w_aN, ↓w_aI, ↓w_aR, ↓w_ca, ↓w_ca0, nv_lit, nv_f, nv_add, nv_mul, nv_sub, nv_le, nv_lt, nv_eq, nv_cl, Nat.reduceMod, Nat.reduceMul, Nat.reduceAdd, Nat.zero_add, Nat.add_zero, Nat.mul_zero, decide_eq_true_eq, nv_inT, hk, r4, ↓w_gC, u1, exists_eq_left', Option.some.injEq, kw, eq1, X6_require_1 n10, km, q1, q2, q3]
    by_cases c2 : 10 ≤ m
    · simp (disch := omega) only [c2, X6_heap_32, ↓w_bd, ↓w_rt, ↓w_bh, sm_l, sm_r, ↓w_okr, ↓w_nm, ↓w_ite, ↓reduceIte, not_true_eq_false, not_false_eq_true, and_true, true_and, and_self, Option.some.injEq, reduceCtorEq, eq_self, ↓w_rc, ↓w_gI, ↓w_gR, ↓w_aN, ↓w_aI, ↓w_aR, ↓w_ca, ↓w_ca0, nv_lit, nv_f, nv_add, nv_mul, nv_sub, nv_le, nv_lt, nv_eq, nv_cl, Nat.reduceMod, Nat.reduceMul, Nat.reduceAdd, Nat.zero_add, Nat.add_zero, Nat.mul_zero, decide_eq_true_eq, nv_inT, hk]
      refine X6_require_0 hC hcs _ fun d' q hce => ke 4 s d' q (up _ _ _ _ hce) (by omega) (by omega) fun c0 c h => ?_
      obtain ⟨u', v1, v2⟩ := hco h
      have hz := h.er hG (cd := 4) (ps := s) (by omega) (by omega)
      have get1 := fun Q => X5_get_w h.2.1 (show 1 < 545 by omega) (Q := Q)
      rw [m1] at get1
      simp (disch := omega) only [X5_readsHeap, X5_readsHeap_30, X5_readsHeap_37, ↓w_bd, ↓w_rt, ↓w_bh, sm_l, sm_r, ↓w_okr, ↓w_nm, ↓w_ite, ↓reduceIte, not_true_eq_false, not_false_eq_true, and_true, true_and, and_self, Option.some.injEq, reduceCtorEq, eq_self, ↓w_rc, ↓w_gI, ↓w_gR, ↓w_aN, ↓w_aI, ↓w_aR, ↓w_aL, ↓w_pI, ↓w_pR, ↓w_sI, ↓w_sR, ↓w_sL, ↓w_nO, ↓w_nA, ↓w_nL, ↓w_ca, ↓w_ca0, ↓w_gS, ↓w_gK, ↓w_dv, ↓w_tw, ↓w_rz, ↓w_no, nv_lit, nv_f, nv_add, nv_mul, nv_sub, nv_le, nv_lt, nv_eq, nv_cl, Nat.reduceMod, Nat.reduceMul, Nat.reduceAdd, Nat.zero_add, Nat.add_zero, Nat.mul_zero, decide_eq_true_eq, nv_inT, h.1.1, ↓w_gC, v1, exists_eq_left', Option.some.injEq, X5_isWord_1 h.1 (show 15 < 28 by omega) v2 c15, X5_must_1 h.1 n10, n10, get1, c2, X5_must_0 h.1]
      exact hz
    · simp (disch := omega) only [c2, X6_heap_32, ↓w_bd, ↓w_rt, ↓w_bh, sm_l, sm_r, ↓w_okr, ↓w_nm, ↓w_ite, ↓reduceIte, not_true_eq_false, not_false_eq_true, and_true, true_and, and_self, Option.some.injEq, reduceCtorEq, eq_self, ↓w_rc, ↓w_gI, ↓w_gR, ↓w_aN, ↓w_aI, ↓w_aR, ↓w_ca, ↓w_ca0, nv_lit, nv_f, nv_add, nv_mul, nv_sub, nv_le, nv_lt, nv_eq, nv_cl, Nat.reduceMod, Nat.reduceMul, Nat.reduceAdd, Nat.zero_add, Nat.add_zero, Nat.mul_zero, decide_eq_true_eq, nv_inT, hk, X6_require_1 n10]
      refine X6_adn hC hcs _ fun s1 e1 k1 hx1 d1 hcs1 ep1 => ?_
      have hmq1 : Mq B a mq rq rq d1 R := hmq.ep (ep1.mono fun x hx => .inl hx) (by rw [hk]; omega) (by rw [hk]; omega)
      obtain ⟨l1', l6', -, -, -, p4, p5, p6⟩ := hmq1.row
      obtain ⟨km1, zm1⟩ := hmq1.k
      rw [eT] at p6
      have ke1 := hcs1.k
      simp (disch := omega) only [↓w_bd, ↓w_rt, ↓w_bh, sm_l, sm_r, ↓w_okr, ↓w_nm, ↓w_ite, ↓reduceIte, not_true_eq_false, not_false_eq_true, and_true, true_and, and_self, Option.some.injEq, reduceCtorEq, eq_self, ↓w_rc, ↓w_gI, ↓w_gR, ↓w_aN, ↓w_aI, ↓w_aR, ↓w_ca, ↓w_ca0, nv_lit, nv_f, nv_add, nv_mul, nv_sub, nv_le, nv_lt, nv_eq, nv_cl, Nat.reduceMod, Nat.reduceMul, Nat.reduceAdd, Nat.zero_add, Nat.add_zero, Nat.mul_zero, decide_eq_true_eq, nv_inT, km1, p4, p5, p6, ke1, nv_sub]
      -- the twin up to the owner
      have tw1 : ∀ c0 c (Q' : Unit → Hp → Prop), TL G S R c0 c s e k → (∀ c', TL G S R c0 c' s1 e1 k1 → Wp (bd (X5_reads (G 10) (nv 0) (nv (n - 1))) fun x4 => bd (rc 5 (some (G 10))) fun h' => bd (X5_newHeap h' x4) fun _ => bd (rc 5 (some (G 10))) fun h' => bd (X5_get h' 1) fun x6 => X5_readsHeap_66 FU (G 10) (x6 - 1)) c' Q') → Wp (X5_readsHeap (G 10)) c Q' := by
        intro c0 c Q' h kk'
        obtain ⟨u', v1, v2⟩ := hco h
        have get1 := fun Q => X5_get_w h.2.1 (show 1 < 545 by omega) (Q := Q)
        rw [m1] at get1
        simp (disch := omega) only [X5_readsHeap, X5_readsHeap_30, ↓w_bd, ↓w_rt, ↓w_bh, sm_l, sm_r, ↓w_okr, ↓w_nm, ↓w_ite, ↓reduceIte, not_true_eq_false, not_false_eq_true, and_true, true_and, and_self, Option.some.injEq, reduceCtorEq, eq_self, ↓w_rc, ↓w_gI, ↓w_gR, ↓w_aN, ↓w_aI, ↓w_aR, ↓w_ca, ↓w_ca0, nv_lit, nv_f, nv_add, nv_mul, nv_sub, nv_le, nv_lt, nv_eq, nv_cl, Nat.reduceMod, Nat.reduceMul, Nat.reduceAdd, Nat.zero_add, Nat.add_zero, Nat.mul_zero, decide_eq_true_eq, nv_inT, h.1.1, ↓w_gC, v1, exists_eq_left', Option.some.injEq, X5_isWord_1 h.1 (show 15 < 28 by omega) v2 c15, X5_must_1 h.1 n10, n10, get1, c2]
        refine X5_gon hG h.1 hx1 _ fun c' g1 g2 => ?_
        have h' := h.tw hG g1 g2
        have get0 := fun Q => X5_get_w h'.2.1 (show 0 < 545 by omega) (Q := Q)
        rw [n3] at get0
        have := kk' c' h'
        simp (disch := omega) only [↓w_bd, ↓w_rt, ↓w_bh, sm_l, sm_r, ↓w_okr, ↓w_nm, ↓w_ite, ↓reduceIte, not_true_eq_false, not_false_eq_true, and_true, true_and, and_self, Option.some.injEq, reduceCtorEq, eq_self, ↓w_rc, ↓w_gI, ↓w_gR, ↓w_aN, ↓w_aI, ↓w_aR, ↓w_ca, ↓w_ca0, nv_lit, nv_f, nv_add, nv_mul, nv_sub, nv_le, nv_lt, nv_eq, nv_cl, Nat.reduceMod, Nat.reduceMul, Nat.reduceAdd, Nat.zero_add, Nat.add_zero, Nat.mul_zero, decide_eq_true_eq, nv_inT, h'.1.1, get0, nv_sub] at this ⊢
        exact this
      refine X6_number_w hC hcs1 (by omega) (by omega) _ (fun h2 g1 g2 s2 e2 k2 hx2 d2 hcs2 ep2 => ?_) (fun cd hcd d' q hce => ?_)
      · have hmq2 : Mq B a mq rq rq d2 R := hmq1.ep (ep2.mono fun x hx => .inl hx) (by rw [ke1]; omega) (by rw [ke1]; omega)
        simp (disch := omega) only [↓w_bd, ↓w_rt, ↓w_bh, sm_l, sm_r, ↓w_okr, ↓w_nm, ↓w_ite, ↓reduceIte, not_true_eq_false, not_false_eq_true, and_true, true_and, and_self, Option.some.injEq, reduceCtorEq, eq_self, ↓w_rc, ↓w_gI, ↓w_gR, ↓w_aN, ↓w_aI, ↓w_aR, ↓w_ca, ↓w_ca0, nv_lit, nv_f, nv_add, nv_mul, nv_sub, nv_le, nv_lt, nv_eq, nv_cl, Nat.reduceMod, Nat.reduceMul, Nat.reduceAdd, Nat.zero_add, Nat.add_zero, Nat.mul_zero, decide_eq_true_eq, nv_inT]
        refine w_nA' (n := 5) (by omega) fun d3 e3 z3 l3 ck cn ci cr => ?_
        have E2 := hcs2.1.1
        have rz2 := hcs2.1.2.2
        have hcs3 : Cs G S a rq (Z + 1) (L + 5) d3 s2 e2 k2 := hcs2.mv (P := fun _ => False) (E2.tr e3) (e3.ep _) (fun x hx => hx.elim) (by omega) (by omega)
        have hmq3 : Mq B a mq rq (hSz d2) d3 R := hmq2.e0 e3 E2.1 rz2 (Nat.le_refl _)
        have he1 : s1 ≤ e1 ∧ e1 < e2 ∨ k2 = 0 := by
          by_cases c0 : k2 = 0
          · exact .inr c0
          · exact .inl ⟨hx1.2.2.2.1, hx2.2.2.2.2.2 c0⟩
        have e01 : e < e1 := hx1.2.2.2.2.2 (by omega)
        have tvb : tvl S s1 e1 < n := by omega
        refine rows_j hC (by omega) eH (by have := E2.1; omega) (by omega) 502 FU FU s2 e2 k2 0 (fun _ => 0) d3 (by split <;> omega) (by unfold FU; omega) (by unfold FU; omega) (by omega) (fun i hi => absurd hi (Nat.not_lt_zero i)) hcs3 ck cn (fun i hi => absurd hi (Nat.not_lt_zero i)) hmq3 (by omega) Q (fun cd ps d' q hce hc1 hc2 ht => ?_) (fun j' fs' s' e' k' d' g1' g2' g3' g4' g5' g6' ht => ?_)
        · refine ke cd ps d' q (hce.up (by omega) (by omega)) hc1 hc2 fun c0 c h => tw1 c0 c _ h fun c1 h1 => ?_
          rw [w_bd]
          refine X5_reads_1 hG h1.1 h2 (by omega) (by omega) ⟨g1, g2⟩ hx2 _ fun c' t1 t2 => ?_
          have h' := h1.tw hG t1 t2
          exact heap_s hG h' hL (by omega) _ fun c2 hc2' => ht c0 c2 hc2'
        · refine kok (rw1 R m (tvl S s1 e1) j' fs') s' e' k' d' (hL.add (by omega) tvb g1' g2' g3') (g4'.mv (P := fun _ => False) g4'.1.1 (EP.rf _ _) (fun x hx => hx.elim) (by omega) (by omega)) ?_ (by omega) g6' fun c0 c h => tw1 c0 c _ h fun c1 h1 => ?_
          · have := hx2.2.2.1; have := hx2.2.2.2.1; omega
          · rw [w_bd]
            refine X5_reads_1 hG h1.1 h2 (by omega) (by omega) ⟨g1, g2⟩ hx2 _ fun c' t1 t2 => ?_
            have h' := h1.tw hG t1 t2
            exact heap_s hG h' hL (by omega) _ fun c2 hc2' => ht c0 c2 hc2'
      · refine ke cd s1 d' q (up _ _ _ _ hce) (by omega) (by omega) fun c0 c h => tw1 c0 c _ h fun c1 h1 => ?_
        have hz := h1.er hG (cd := cd) (ps := s1) (by omega) (by omega)
        rw [w_bd, X5_reads_0 h1.1 (by omega) (by omega) hcd]
        exact heap_z hG hz (h1.2.1.tww hG (erq_z h1.1.1 (by omega) (by omega)).2 hz.1.1) m1 (by omega) (nv 0)
  · have eq1 := fun Q => (hEq Q).2 c1
    have c15 : ¬ IsW S s e k (15 + 0) := fun h => c1 ((isw_t (by omega)).mp h)
    simp (disch := omega) only [X6_heap, ↓w_bd, ↓w_rt, ↓w_bh, sm_l, sm_r, ↓w_okr, ↓w_nm, ↓w_ite, ↓reduceIte, not_true_eq_false, not_false_eq_true, and_true, true_and, and_self, Option.some.injEq, reduceCtorEq, eq_self, ↓w_rc, ↓w_gI, ↓w_gR, ↓w_aN, ↓w_aI, ↓w_aR, ↓w_ca, ↓w_ca0, nv_lit, nv_f, nv_add, nv_mul, nv_sub, nv_le, nv_lt, nv_eq, nv_cl, Nat.reduceMod, Nat.reduceMul, Nat.reduceAdd, Nat.zero_add, Nat.add_zero, Nat.mul_zero, decide_eq_true_eq, nv_inT, hk, r4, ↓w_gC, u1, exists_eq_left', Option.some.injEq, kw, eq1]
    refine X6_require_0 hC hcs _ fun d' q hce => ke 1 s d' q (up _ _ _ _ hce) (by omega) (by omega) fun c0 c h => ?_
    obtain ⟨u', v1, v2⟩ := hco h
    have hz := h.er hG (cd := 1) (ps := s) (by omega) (by omega)
    simp (disch := omega) only [X5_readsHeap, X5_readsHeap_37, ↓w_bd, ↓w_rt, ↓w_bh, sm_l, sm_r, ↓w_okr, ↓w_nm, ↓w_ite, ↓reduceIte, not_true_eq_false, not_false_eq_true, and_true, true_and, and_self, Option.some.injEq, reduceCtorEq, eq_self, ↓w_rc, ↓w_gI, ↓w_gR, ↓w_aN, ↓w_aI, ↓w_aR, ↓w_aL, ↓w_pI, ↓w_pR, ↓w_sI, ↓w_sR, ↓w_sL, ↓w_nO, ↓w_nA, ↓w_nL, ↓w_ca, ↓w_ca0, ↓w_gS, ↓w_gK, ↓w_dv, ↓w_tw, ↓w_rz, ↓w_no, nv_lit, nv_f, nv_add, nv_mul, nv_sub, nv_le, nv_lt, nv_eq, nv_cl, Nat.reduceMod, Nat.reduceMul, Nat.reduceAdd, Nat.zero_add, Nat.add_zero, Nat.mul_zero, decide_eq_true_eq, nv_inT, h.1.1, ↓w_gC, v1, exists_eq_left', Option.some.injEq, X5_isWord_0 h.1 (show 15 < 28 by omega) v2 c15, X5_must_0 h.1]
    exact hz
