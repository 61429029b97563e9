/-! A HEAP'S ROWS ARE READ, by both -/
theorem J13_copyOf_2_w {d : Hp} {q n j : Nat} (hk : hK d q = 41) (hn : hN d q = n) (hj : j ≤ n) (h1 : n ≤ 100) (hq : q < hSz d) (Q : Option Nat → Hp → Prop)
    (kk : ∀ d', E0 d d' → hSz d' = hSz d + 1 → hSl d' = hSl d + j → hK d' (hSz d) = 41 → hN d' (hSz d) = j → (∀ i, i < j → hI d' (hSz d) i = hI d q i) → Q (some (hSz d)) d') : Wp (J13_copyOf_2 (some q) (nv j)) d Q := by
  by_cases c : j = n
  · simp (disch := omega) only [J13_copyOf_2, ↓w_bd, ↓w_rt, ↓w_bh, sm_l, sm_r, ↓w_okr, ↓w_nm, ↓w_ite, ↓reduceIte, not_true_eq_false, not_false_eq_true, and_true, true_and, and_self, Option.some.injEq, reduceCtorEq, eq_self, ↓w_rc, ↓w_gI, ↓w_gR, ↓w_aN, ↓w_aI, ↓w_aR, ↓w_ca, ↓w_ca0, nv_lit, nv_f, nv_add, nv_mul, nv_sub, nv_le, nv_lt, nv_eq, nv_cl, Nat.reduceMod, Nat.reduceMul, Nat.reduceAdd, Nat.zero_add, Nat.add_zero, Nat.mul_zero, decide_eq_true_eq, nv_inT, hk, hn, c]
    refine w_cA' (n := n) hk hn fun c1 e1 z1 l1 ck cn ci => ?_
    simp (disch := omega) only [↓w_bd, ↓w_rt, ↓w_bh, sm_l, sm_r, ↓w_okr, ↓w_nm, ↓w_ite, ↓reduceIte, not_true_eq_false, not_false_eq_true, and_true, true_and, and_self, Option.some.injEq, reduceCtorEq, eq_self, ↓w_rc, ↓w_gI, ↓w_gR, ↓w_aN, ↓w_aI, ↓w_aR, ↓w_ca, ↓w_ca0, nv_lit, nv_f, nv_add, nv_mul, nv_sub, nv_le, nv_lt, nv_eq, nv_cl, Nat.reduceMod, Nat.reduceMul, Nat.reduceAdd, Nat.zero_add, Nat.add_zero, Nat.mul_zero, decide_eq_true_eq, nv_inT, ↓w_caW, ck]
    exact kk _ e1 z1 (by omega) ck (by omega) (fun i hi => by rw [ci])
  · simp (disch := omega) only [J13_copyOf_2, ↓w_bd, ↓w_rt, ↓w_bh, sm_l, sm_r, ↓w_okr, ↓w_nm, ↓w_ite, ↓reduceIte, not_true_eq_false, not_false_eq_true, and_true, true_and, and_self, Option.some.injEq, reduceCtorEq, eq_self, ↓w_rc, ↓w_gI, ↓w_gR, ↓w_aN, ↓w_aI, ↓w_aR, ↓w_ca, ↓w_ca0, nv_lit, nv_f, nv_add, nv_mul, nv_sub, nv_le, nv_lt, nv_eq, nv_cl, Nat.reduceMod, Nat.reduceMul, Nat.reduceAdd, Nat.zero_add, Nat.add_zero, Nat.mul_zero, decide_eq_true_eq, nv_inT, hk, hn, c]
    refine w_nA' (n := j) (by omega) fun c1 e1 z1 l1 ck cn ci cr => ?_
    have o := e1.2.2 q hq
    have kq : hK c1 q = 41 := by rw [o.1]; exact hk
    have nq : hN c1 q = n := by rw [o.2.1]; exact hn
    have m1 : mn (nv n) (nv j) = nv j := by rw [mn_nv (by omega) (by omega), Nat.min_eq_right (by omega)]
    have c0 : (nv 0).toNatClampNeg = 0 := rfl
    have cj : (nv j).toNatClampNeg = j := nv_cl (by omega)
    have o1 : okC c1 (some q) (nv 0) (nv j) = true := by
      have e0 : (nv 0).toNatClampNeg = 0 := rfl
      have z : ¬ nv j < 0 := by rw [show (0 : Int32) = nv 0 from rfl, nv_lt (by omega) (by omega)]; omega
      have z0 : ¬ nv 0 < 0 := by decide
      unfold okC
      simp only [cj, e0, z, z0, nq, not_false_eq_true, true_and, Nat.zero_add, decide_eq_true_eq]
      omega
    have o2 : okC c1 (some (hSz d)) (nv 0) (nv j) = true := okC_n cn (by omega)
    simp (disch := omega) only [↓w_bd, ↓w_rt, ↓w_bh, sm_l, sm_r, ↓w_okr, ↓w_nm, ↓w_ite, ↓reduceIte, not_true_eq_false, not_false_eq_true, and_true, true_and, and_self, Option.some.injEq, reduceCtorEq, eq_self, ↓w_rc, ↓w_gI, ↓w_gR, ↓w_aN, ↓w_aI, ↓w_aR, ↓w_ca, ↓w_ca0, nv_lit, nv_f, nv_add, nv_mul, nv_sub, nv_le, nv_lt, nv_eq, nv_cl, Nat.reduceMod, Nat.reduceMul, Nat.reduceAdd, Nat.zero_add, Nat.add_zero, Nat.mul_zero, decide_eq_true_eq, nv_inT, kq, nq, J12_min_w, m1, ↓w_cpI, ck, o1, o2, okB_41, c0, cj]
    refine kk _ (e1.wI (Nat.le_refl _) _) z1 l1 ck cn fun i hi => ?_
    rw [hI_wI, up1_s, o.2.2.2.1]
    unfold va_cpy
    rw [if_pos (by omega), Nat.zero_add, Nat.sub_zero]
/-- a token parser's state goes over a step that leaves it alone -/
theorem Cs.mv {G : Nat → Nat} {S : Gst} {a d d' : Hp} {rq Z L Z' L' s e k : Nat} {P : Nat → Prop} (h : Cs G S a rq Z L d s e k) (hE : E0 a d') (g : EP P d d') (hP : ∀ x, P x → x ≠ rq ∧ hK d x % 100 ≠ 13 ∧ hK d x % 100 ≠ 42) (hz : hSz d' + Z ≤ hSz d + Z') (hl : hSl d' + L ≤ hSl d + L') : Cs G S a rq Z' L' d' s e k := by
  obtain ⟨⟨h1, h2, h3⟩, ⟨w, ⟨r1, r2, r3, r4, r5, r6, r7, r8⟩, hw, hwz⟩, ⟨hz', hl'⟩, h4⟩ := h
  have hPr : ¬ P rq := fun hp => (hP rq hp).1 rfl
  have hPw : ¬ P w := fun hp => (hP w hp).2.1 r6.1
  have o := g.2.2 rq h3 hPr
  have ow := g.2.2 w hwz hPw
  refine ⟨⟨hE, h2, Nat.lt_of_lt_of_le h3 g.1⟩, ⟨w, ⟨r1.ep g h3 hPr, by rw [o.2.2.2]; exact r2, by rw [o.2.2.2]; exact r3, by rw [o.2.2.1]; exact r4, fun hk => by rw [o.2.2.2]; exact r5 hk, r6.ep g (fun x hx => ⟨fun e' => by have := (hP x hx).2.1; rw [e'] at this; exact this rfl, (hP x hx).2⟩), r7.ep hwz g hPw (fun x hx e' => by have := (hP x hx).2.2; rw [e'] at this; exact this rfl), r8⟩, ?_, Nat.lt_of_lt_of_le hwz g.1⟩, ⟨by omega, by omega⟩, h4⟩
  rcases hw with hw | hw
  · exact .inl hw
  · exact .inr ⟨hw.1, by rw [ow.1]; exact hw.2⟩
theorem Ce.up {a d : Hp} {rq Z L Z' L' c s q : Nat} (h : Ce a rq Z L c s d q) (hz : Z ≤ Z') (hl : L ≤ L') : Ce a rq Z' L' c s d q := ⟨h.1, h.2.1, by have := h.2.2.1; omega, by have := h.2.2.2; omega⟩
/-- the row with the heap m of j rows -/
def rw1 (R : Nat → Int32) (m v j : Nat) (fs : Nat → Nat) (i : Nat) : Int32 := if i = 1 then nv (m + 1) else if i = 15 + 7 * m then nv v else if i = 15 + 7 * m + 1 then nv j else if 15 + 7 * m + 2 ≤ i ∧ i < 15 + 7 * m + 2 + j then nv (fs (i - (15 + 7 * m + 2))) else R i
theorem rw1_s (R : Nat → Int32) (m v j t : Nat) (fs : Nat → Nat) (i : Nat) : up1 (up1 (rw1 R m v j fs) (15 + 7 * m + (2 + j)) (nv t)) (15 + 7 * m + 1) (nv (j + 1)) i = rw1 R m v (j + 1) (fun x => if x = j then t else fs x) i := by
  unfold rw1 up1
  dsimp only
  by_cases c1 : i = 1
  · rw [if_neg (by omega), if_neg (by omega), if_pos c1, if_pos c1]
  · by_cases c2 : i = 15 + 7 * m
    · rw [if_neg (by omega), if_neg (by omega), if_neg c1, if_pos c2, if_neg c1, if_pos c2]
    · by_cases c3 : i = 15 + 7 * m + 1
      · rw [if_pos c3, if_neg c1, if_neg c2, if_pos c3]
      · by_cases c4 : i = 15 + 7 * m + (2 + j)
        · rw [if_neg c3, if_pos c4, if_neg c1, if_neg c2, if_neg c3, if_pos (by omega), if_pos (by omega)]
        · rw [if_neg c3, if_neg c4, if_neg c1, if_neg c2, if_neg c3, if_neg c1, if_neg c2, if_neg c3]
          by_cases c5 : 15 + 7 * m + 2 ≤ i ∧ i < 15 + 7 * m + 2 + j
          · rw [if_pos c5, if_pos (by omega), if_neg (by omega)]
          · rw [if_neg c5, if_neg (by omega)]
/-- the twin at the head of the rows -/
def tp (G : Nat → Nat) (f m j : Nat) : Mr Unit := if j = 0 then X5_readsHeap_66 f (G 10) (nv m) else (bd (gI 5 10 (some (G 10))) fun x2 => if ¬ x2 = nv 0 then X5_readsHeap_128 (G 10) else bd (gI 5 14 (some (G 10))) fun x3 => if x3 = nv 2 then X5_readsHeap_66 f (G 10) (nv m) else X5_readsHeap_128 (G 10))
def TcE (G : Nat → Nat) (S : Gst) (R : Nat → Int32) (m v : Nat) (f j : Nat) (fs : Nat → Nat) (s e k cd ps : Nat) : Prop := ∀ c0 c, TL G S (rw1 R m v j fs) c0 c s e k → Wp (tp G f m j) c (fun _ c' => TE G c0 c' cd ps)
def TcK (G : Nat → Nat) (S : Gst) (R : Nat → Int32) (m v : Nat) (f j : Nat) (fs : Nat → Nat) (s e k : Nat) (j' : Nat) (fs' : Nat → Nat) (s' e' k' : Nat) : Prop := ∀ c0 c, TL G S (rw1 R m v j fs) c0 c s e k → Wp (tp G f m j) c (fun _ c' => TL G S (rw1 R m v j' fs') c0 c' s' e' k')
/-- an error at the head: the twin runs out -/
theorem rows_z {G : Nat → Nat} {c0 c : Hp} {f cd ps : Nat} (h : TE G c0 c cd ps) (m : Nat) (Q : Unit → Hp → Prop) : Wp (X5_readsHeap_66 (f + 1) (G 10) (nv m)) c Q ↔ Q () c := by
  have h10 := h.1.2.1
  have h1 := h.1.2.2.2
  simp (disch := omega) only [X5_readsHeap_66, X5_readsHeap_92, X5_readsHeap_97, X5_readsHeap_109, X5_readsHeap_128, ↓w_bd, ↓w_rt, ↓w_bh, sm_l, sm_r, ↓w_okr, ↓w_nm, ↓w_ite, ↓reduceIte, not_true_eq_false, not_false_eq_true, and_true, true_and, and_self, Option.some.injEq, reduceCtorEq, eq_self, ↓w_rc, ↓w_gI, ↓w_gR, ↓w_aN, ↓w_aI, ↓w_aR, ↓w_aL, ↓w_pI, ↓w_pR, ↓w_sI, ↓w_sR, ↓w_sL, ↓w_nO, ↓w_nA, ↓w_nL, ↓w_ca, ↓w_ca0, ↓w_gS, ↓w_gK, ↓w_dv, ↓w_tw, ↓w_rz, ↓w_no, nv_lit, nv_f, nv_add, nv_mul, nv_sub, nv_le, nv_lt, nv_eq, nv_cl, Nat.reduceMod, Nat.reduceMul, Nat.reduceAdd, Nat.zero_add, Nat.add_zero, Nat.mul_zero, decide_eq_true_eq, nv_inT, h.1.1, X5_looks_z h.1, X5_must_z h.1, X5_goesOn_z h.1, X5_endsLine_z h.1, h10, show ¬ cd = 0 by omega]
/-- the head at a token that is no row's: told by the end -/
theorem tail_e {G : Nat → Nat} (hG : GD G) {S : Gst} {R : Nat → Int32} {m v f j : Nat} {fs : Nat → Nat} {s e k : Nat} (hj : 0 < j) (hk : k ≠ 2) (h3 : k ≠ 3) : TcE G S R m v f j fs s e k 1 s := by
  intro c0 c h
  have h10 := h.1.2.2.1.1
  have h14 := h.1.2.2.2.1.2.2
  have hk4 := h.1.2.2.2.2.2.2.2
  simp (disch := omega) only [tp, X5_readsHeap_128, ↓w_bd, ↓w_rt, ↓w_bh, sm_l, sm_r, ↓w_okr, ↓w_nm, ↓w_ite, ↓reduceIte, not_true_eq_false, not_false_eq_true, and_true, true_and, and_self, Option.some.injEq, reduceCtorEq, eq_self, ↓w_rc, ↓w_gI, ↓w_gR, ↓w_aN, ↓w_aI, ↓w_aR, ↓w_aL, ↓w_pI, ↓w_pR, ↓w_sI, ↓w_sR, ↓w_sL, ↓w_nO, ↓w_nA, ↓w_nL, ↓w_ca, ↓w_ca0, ↓w_gS, ↓w_gK, ↓w_dv, ↓w_tw, ↓w_rz, ↓w_no, nv_lit, nv_f, nv_add, nv_mul, nv_sub, nv_le, nv_lt, nv_eq, nv_cl, Nat.reduceMod, Nat.reduceMul, Nat.reduceAdd, Nat.zero_add, Nat.add_zero, Nat.mul_zero, decide_eq_true_eq, nv_inT, h.1.1, h10, h14, hk, show ¬ j = 0 by omega, X5_endsLine_0 h.1 h3]
  exact h.er hG (by omega) (by omega)
theorem tail_k {G : Nat → Nat} (hG : GD G) {S : Gst} {R : Nat → Int32} {m v f j : Nat} {fs : Nat → Nat} {s e k s' e' k' : Nat} (hj : 0 < j) (h3 : k = 3) (hx : Nx S e s' e' k') : TcK G S R m v f j fs s e k j fs s' e' k' := by
  intro c0 c h
  have h10 := h.1.2.2.1.1
  have h14 := h.1.2.2.2.1.2.2
  rw [h3] at h14
  simp (disch := omega) only [tp, X5_readsHeap_128, ↓w_bd, ↓w_rt, ↓w_bh, sm_l, sm_r, ↓w_okr, ↓w_nm, ↓w_ite, ↓reduceIte, not_true_eq_false, not_false_eq_true, and_true, true_and, and_self, Option.some.injEq, reduceCtorEq, eq_self, ↓w_rc, ↓w_gI, ↓w_gR, ↓w_aN, ↓w_aI, ↓w_aR, ↓w_aL, ↓w_pI, ↓w_pR, ↓w_sI, ↓w_sR, ↓w_sL, ↓w_nO, ↓w_nA, ↓w_nL, ↓w_ca, ↓w_ca0, ↓w_gS, ↓w_gK, ↓w_dv, ↓w_tw, ↓w_rz, ↓w_no, nv_lit, nv_f, nv_add, nv_mul, nv_sub, nv_le, nv_lt, nv_eq, nv_cl, Nat.reduceMod, Nat.reduceMul, Nat.reduceAdd, Nat.zero_add, Nat.add_zero, Nat.mul_zero, decide_eq_true_eq, nv_inT, h.1.1, h10, h14, show ¬ j = 0 by omega]
  exact X5_endsLine_1 hG h.1 h3 hx _ fun c' g1 g2 => h.tw hG g1 g2
/-- the head at a number is the loop -/
theorem tp_2 {G : Nat → Nat} {S : Gst} {R : Nat → Int32} {m f j : Nat} {s e k : Nat} {c0 c : Hp} (h : TL G S R c0 c s e k) (hk : j = 0 ∨ k = 2) (Q : Unit → Hp → Prop) : Wp (tp G f m j) c Q ↔ Wp (X5_readsHeap_66 f (G 10) (nv m)) c Q := by
  by_cases j0 : j = 0
  · unfold tp
    rw [if_pos j0]
  · have h10 := h.1.2.2.1.1
    have h14 := h.1.2.2.2.1.2.2
    have hk2 : k = 2 := by omega
    rw [hk2] at h14
    simp (disch := omega) only [tp, ↓w_bd, ↓w_rt, ↓w_bh, sm_l, sm_r, ↓w_okr, ↓w_nm, ↓w_ite, ↓reduceIte, not_true_eq_false, not_false_eq_true, and_true, true_and, and_self, Option.some.injEq, reduceCtorEq, eq_self, ↓w_rc, ↓w_gI, ↓w_gR, ↓w_aN, ↓w_aI, ↓w_aR, ↓w_aL, ↓w_pI, ↓w_pR, ↓w_sI, ↓w_sR, ↓w_sL, ↓w_nO, ↓w_nA, ↓w_nL, ↓w_ca, ↓w_ca0, ↓w_gS, ↓w_gK, ↓w_dv, ↓w_tw, ↓w_rz, ↓w_no, nv_lit, nv_f, nv_add, nv_mul, nv_sub, nv_le, nv_lt, nv_eq, nv_cl, Nat.reduceMod, Nat.reduceMul, Nat.reduceAdd, Nat.zero_add, Nat.add_zero, Nat.mul_zero, decide_eq_true_eq, nv_inT, h.1.1, h10, h14, j0]
