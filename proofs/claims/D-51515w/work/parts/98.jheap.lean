/-! A MARKET IS READ: the states of both -/
theorem FO.cg {G : Nat → Nat} {a : Hp} {o : Nat} {R R' : Nat → Int32} (h : FO G a o R) (g : ∀ k, k < 545 → R k = R' k) : FO G a o R' := ⟨h.1, h.2.1, h.2.2.1, fun k hk => (h.2.2.2 k hk).trans (g k hk)⟩
def Tl (G : Nat → Nat) (a c : Hp) : Prop := (c.1 = a.1 ∧ c.2.2 = a.2.2) ∧ (∀ q, q ≠ G 10 → q ≠ G 11 → hI c q = hI a q) ∧ (∀ k, k < 5450 → hI c (G 11) k = hI a (G 11) k) ∧ ∀ j, (j < 10 ∨ 15 < j) → hI c (G 10) j = hI a (G 10) j
theorem Tl.rf (G : Nat → Nat) (a : Hp) : Tl G a a := ⟨⟨rfl, rfl⟩, fun _ _ _ => rfl, fun _ _ => rfl, fun _ _ => rfl⟩
theorem Tl.tr {G : Nat → Nat} {a b c : Hp} (h : Tl G a b) (g : Tl G b c) : Tl G a c := ⟨⟨g.1.1.trans h.1.1, g.1.2.trans h.1.2⟩, fun q h1 h2 => (g.2.1 q h1 h2).trans (h.2.1 q h1 h2), fun k hk => (g.2.2.1 k hk).trans (h.2.2.1 k hk), fun j h1 => (g.2.2.2 j h1).trans (h.2.2.2 j h1)⟩
theorem Tw.tl {G : Nat → Nat} {a c : Hp} (hG : GD G) (h : Tw G a c) : Tl G a c := ⟨⟨h.1, h.2.1⟩, fun q h1 _ => h.2.2.1 q h1, fun k _ => by rw [h.2.2.1 (G 11) (hG.ne (by omega) (by omega) (by omega))], h.2.2.2⟩
theorem ly_tl {G : Nat → Nat} (hG : GD G) (c : Hp) (k : Nat) (v : Int32) : Tl G c (ly G c 10 k v) := by
  unfold ly
  refine ⟨⟨rfl, rfl⟩, fun q h1 h2 => by rw [hI_wI, up1_n _ _ h2], fun i hi => by rw [hI_wI, up1_s, up1_n _ _ (by omega)], fun j hj => by rw [hI_wI, up1_n _ _ (hG.ne (by omega) (by omega) (by omega))]⟩
theorem FO.tww {G : Nat → Nat} {a c : Hp} {o : Nat} {R : Nat → Int32} (hG : GD G) (h : FO G a o R) (g : Tw G a c) (hF : FT G c) : FO G c o R := ⟨hF, by rw [g.2.2.2 3 (by omega)]; exact h.2.1, h.2.2.1, fun k hk => by rw [g.2.2.1 (G 11) (hG.ne (by omega) (by omega) (by omega))]; exact h.2.2.2 k hk⟩
theorem Co.lay {G : Nat → Nat} {c : Hp} (h : Co c) (hF : FT G c) (o k : Nat) (v : Int32) : Co (ly G c o k v) := h.ep (P := fun q => q = G 11) ((EP.rf (fun q => q = G 11) c).wI (.inl rfl) _) (fun q hq => by rw [hq, hF.2.1.1]; omega)
theorem Ts.lay {G : Nat → Nat} {S : Gst} {c : Hp} {s e k : Nat} (hG : GD G) (h : Ts G S c s e k) (o i : Nat) (v : Int32) : Ts G S (ly G c o i v) s e k := by
  have n16 : hI (ly G c o i v) (G 16) = hI c (G 16) := by
    show hI (hwI c (G 11) _) (G 16) = _
    rw [hI_wI, up1_n _ _ (hG.ne (by omega) (by omega) (by omega))]
  have n10'' : hI (ly G c o i v) (G 10) = hI c (G 10) := by
    show hI (hwI c (G 11) _) (G 10) = _
    rw [hI_wI, up1_n _ _ (hG.ne (by omega) (by omega) (by omega))]
  obtain ⟨h1, ⟨t1, t2, t3, t4⟩, ⟨h3, h4⟩, ⟨h5, h6, h7⟩, h8, h9⟩ := h
  exact ⟨h1, ⟨t1, by rw [n10'']; exact t2, fun j hj => by rw [n16]; exact t3 j hj, t4⟩, ⟨by rw [n10'']; exact h3, by rw [n10'']; exact h4⟩, ⟨by rw [n10'']; exact h5, by rw [n10'']; exact h6, by rw [n10'']; exact h7⟩, fun hk => by rw [n10'']; exact h8 hk, h9⟩
theorem Tz.lay {G : Nat → Nat} {c : Hp} {cd ps : Nat} (hG : GD G) (h : Tz G c cd ps) (o i : Nat) (v : Int32) : Tz G (ly G c o i v) cd ps := by
  have n10'' : hI (ly G c o i v) (G 10) = hI c (G 10) := by
    show hI (hwI c (G 11) _) (G 10) = _
    rw [hI_wI, up1_n _ _ (hG.ne (by omega) (by omega) (by omega))]
  obtain ⟨h1, h2, h3, h4⟩ := h
  exact ⟨h1, by rw [n10'']; exact h2, by rw [n10'']; exact h3, h4⟩
def TL (G : Nat → Nat) (S : Gst) (R : Nat → Int32) (c0 c : Hp) (s e k : Nat) : Prop := Ts G S c s e k ∧ FO G c 10 R ∧ Co c ∧ Tl G c0 c
def TE (G : Nat → Nat) (c0 c : Hp) (cd ps : Nat) : Prop := Tz G c cd ps ∧ (∃ R, FO G c 10 R) ∧ Tl G c0 c
theorem TL.tw {G : Nat → Nat} {S : Gst} {R : Nat → Int32} {c0 c c' : Hp} {s e k s' e' k' : Nat} (hG : GD G) (h : TL G S R c0 c s e k) (g : Tw G c c') (t : Ts G S c' s' e' k') : TL G S R c0 c' s' e' k' := ⟨t, h.2.1.tww hG g t.1, h.2.2.1.tw g h.1.1, h.2.2.2.tr (g.tl hG)⟩
theorem TL.er {G : Nat → Nat} {S : Gst} {R : Nat → Int32} {c0 c : Hp} {s e k cd ps : Nat} (hG : GD G) (h : TL G S R c0 c s e k) (h1 : 0 < cd) (h2 : cd < 10) : TE G c0 (erq G c cd ps) cd ps := by
  obtain ⟨z1, z2⟩ := erq_z (G := G) (c := c) (s := ps) h.1.1 h1 h2
  exact ⟨z1, ⟨R, h.2.1.tww hG z2 z1.1⟩, h.2.2.2.tr (z2.tl hG)⟩
theorem TL.lay {G : Nat → Nat} {S : Gst} {R : Nat → Int32} {c0 c : Hp} {s e k : Nat} (hG : GD G) (h : TL G S R c0 c s e k) {i : Nat} (hi : i < 545) (v : Int32) : TL G S (up1 R i v) c0 (ly G c 10 i v) s e k := ⟨h.1.lay hG _ _ _, h.2.1.ly hG hi v, h.2.2.1.lay h.1.1 _ _ _, h.2.2.2.tr (ly_tl hG _ _ _)⟩
theorem TE.lay {G : Nat → Nat} {c0 c : Hp} {cd ps : Nat} (hG : GD G) (h : TE G c0 c cd ps) {i : Nat} (hi : i < 545) (v : Int32) : TE G c0 (ly G c 10 i v) cd ps := by
  obtain ⟨h1, ⟨R, h2⟩, h3⟩ := h
  exact ⟨h1.lay hG _ _ _, ⟨_, h2.ly hG hi v⟩, h3.tr (ly_tl hG _ _ _)⟩
theorem TL.cg {G : Nat → Nat} {S : Gst} {R R' : Nat → Int32} {c0 c : Hp} {s e k : Nat} (h : TL G S R c0 c s e k) (g : ∀ k, k < 545 → R k = R' k) : TL G S R' c0 c s e k := ⟨h.1, h.2.1.cg g, h.2.2⟩
/-- the component's market under way; y, z lie outside it -/
def Mq (B : Nat → Nat × Nat) (a : Hp) (mq y z : Nat) (d : Hp) (R : Nat → Int32) : Prop := ∃ B' L, Mk B' d L R ∧ (∀ x, x < hSz a → B' x = B x) ∧ L 0 = mq ∧ (∀ r, lv R r → hSz a ≤ L r) ∧ (B' y).1 ≠ mq + 1 ∧ (B' z).1 ≠ mq + 1
theorem Mq.ep {B : Nat → Nat × Nat} {a d d' : Hp} {mq y z : Nat} {R : Nat → Int32} (h : Mq B a mq y z d R) (g : EP (fun x => x = y ∨ x = z) d d') (hy : hK d y ≠ 10) (hz : hK d z ≠ 10) : Mq B a mq y z d' R := by
  obtain ⟨B', L, h1, h2, h3, h4, h5, h6⟩ := h
  refine ⟨B', L, h1.ep g (fun q hq => ?_) (fun _ _ => rfl), h2, h3, h4, h5, h6⟩
  rcases hq with rfl | rfl
  · exact ⟨by rw [h3]; exact h5, hy⟩
  · exact ⟨by rw [h3]; exact h6, hz⟩
theorem Mq.e0 {B : Nat → Nat × Nat} {a d d' : Hp} {mq y z z' : Nat} {R : Nat → Int32} (h : Mq B a mq y z d R) (g : E0 d d') (ha : hSz a ≤ hSz d) (hy : y < hSz d) (hz : hSz d ≤ z') : Mq B a mq y z' d' R := by
  obtain ⟨B', L, h1, h2, h3, h4, h5, h6⟩ := h
  refine ⟨fun x => if x < hSz d then B' x else (0, 0), L, h1.ep (g.ep (fun _ => False)) (fun _ hq => hq.elim) (fun q hq => if_pos hq), fun x hx => ?_, h3, h4, ?_, ?_⟩
  · show (if x < hSz d then B' x else (0, 0)) = B x
    rw [if_pos (by omega)]; exact h2 x hx
  · show (if y < hSz d then B' y else (0, 0)).1 ≠ mq + 1
    rw [if_pos hy]; exact h5
  · show (if z' < hSz d then B' z' else (0, 0)).1 ≠ mq + 1
    rw [if_neg (by omega)]; exact (Nat.succ_ne_zero mq).symm
theorem X2_addHeap_w {B : Nat → Nat × Nat} {a d : Hp} {mq y z k v n ar : Nat} {f : Nat → Int32} {R R' : Nat → Int32} (h : Mq B a mq y z d R) (hE : E0 a d) (hk : nH R = k) (hk10 : k < 10) (ka : hK d ar = 41) (na : hN d ar = n) (ia : ∀ i, i < n → hI d ar i = f i) (n5 : n ≤ 5) (hy : y < hSz d) (hz : z < hSz d) (hky : hK d y ≠ 10) (hkz : hK d z ≠ 10) (hza : ar < hSz d)
    (r1 : ∀ i, i ≠ 1 → (i < 15 + 7 * k ∨ 15 + 7 * k + 7 ≤ i) → R' i = R i) (r2 : R' 1 = nv (k + 1)) (r3 : R' (15 + 7 * k) = nv v) (r4 : R' (15 + 7 * k + 1) = nv n) (r5 : ∀ r, r < n → R' (15 + 7 * k + (2 + r)) = f r) (Q : Unit → Hp → Prop)
    (kk : ∀ d', E0 a d' → Mq B a mq y y d' R' → EP (fun x => (hSz a ≤ x ∧ (hK d x = 3 ∨ hK d x = 46))) d d' → hSz d' = hSz d + 2 → hSl d' = hSl d + 3 + n → Q () d') : Wp (X2_addHeap mq (nv v) (some ar)) d Q := by
  obtain ⟨B', L, h1, h2, h3, h4, h5, h6⟩ := h
  have kk1 := mk_k h1
  have rr1 := mk_r h1
  have ii1 := mk_i h1
  have r0 := rr1.1.1
  have i1 := ii1.1.2.1
  rw [h3] at r0
  rw [hk] at i1
  have k0 : hK d mq = 2 := by rw [← h3]; exact kk1.1.1
  have kL1 : hK d (L 1) = 3 := kk1.1.2.1
  have hp := fun r (hr : lv R r) => (h1.2.1 r hr).1
  have mz : mq < hSz d := by rw [← h3]; exact hp 0 (lv_0 (by omega))
  have az := hE.1
  unfold X2_addHeap
  simp (disch := omega) only [↓w_bd, ↓w_rt, ↓w_bh, sm_l, sm_r, ↓w_okr, ↓w_nm, ↓w_ite, ↓reduceIte, not_true_eq_false, not_false_eq_true, and_true, true_and, and_self, Option.some.injEq, reduceCtorEq, eq_self, ↓w_rc, ↓w_gI, ↓w_gR, ↓w_aN, ↓w_aI, ↓w_aR, ↓w_ca, ↓w_ca0, nv_lit, nv_f, nv_add, nv_mul, nv_sub, nv_le, nv_lt, nv_eq, nv_cl, Nat.reduceMod, Nat.reduceMul, Nat.reduceAdd, Nat.zero_add, Nat.add_zero, Nat.mul_zero, decide_eq_true_eq, nv_inT, k0, r0]
  refine w_nO' fun c1 e1 z1 l1 ck1 ci1 cr1 => ?_
  have hM1 := h1.ext e1 (B' := B') (fun _ _ => rfl)
  have q0 : hK c1 mq = 2 := by rw [(e1.2.2 mq mz).1]; exact k0
  have qr0 : hR c1 mq 0 = some (L 1) := by rw [(e1.2.2 mq mz).2.2.1]; exact r0
  have oa := e1.2.2 ar hza
  have qi1 := (mk_i hM1).1.2.1
  rw [hk] at qi1
  simp (disch := omega) only [↓w_bd, ↓w_rt, ↓w_bh, sm_l, sm_r, ↓w_okr, ↓w_nm, ↓w_ite, ↓reduceIte, not_true_eq_false, not_false_eq_true, and_true, true_and, and_self, Option.some.injEq, reduceCtorEq, eq_self, ↓w_rc, ↓w_gI, ↓w_gR, ↓w_aN, ↓w_aI, ↓w_aR, ↓w_ca, ↓w_ca0, nv_lit, nv_f, nv_add, nv_mul, nv_sub, nv_le, nv_lt, nv_eq, nv_cl, Nat.reduceMod, Nat.reduceMul, Nat.reduceAdd, Nat.zero_add, Nat.add_zero, Nat.mul_zero, decide_eq_true_eq, nv_inT, q0, qr0, mk_k hM1, qi1, X4_init]
  refine w_cA' (n := n) (by rw [oa.1]; exact ka) (by rw [oa.2.1]; exact na) fun c2 e2 z2 l2 ck2 cn2 ci2 => ?_
  have hM2 := hM1.ext e2 (B' := B') (fun _ _ => rfl)
  have kp2 : hK c2 (hSz d) = 4 := by rw [(e2.2.2 _ (by omega)).1]; exact ck1
  have ck2' : hK c2 (hSz c1) = 41 := ck2
  obtain ⟨c3, ec3⟩ : ∃ c3, c3 = hwR (hwI (hwI c2 (hSz d) (up1 (hI c2 (hSz d)) 0 (nv k))) (hSz d) (up1 (up1 (hI c2 (hSz d)) 0 (nv k)) 2 (nv v))) (hSz d) (up1 (hR c2 (hSz d)) 1 (some (hSz c1))) := ⟨_, rfl⟩
  simp (disch := omega) only [↓w_bd, ↓w_rt, ↓w_bh, sm_l, sm_r, ↓w_okr, ↓w_nm, ↓w_ite, ↓reduceIte, not_true_eq_false, not_false_eq_true, and_true, true_and, and_self, Option.some.injEq, reduceCtorEq, eq_self, ↓w_rc, ↓w_gI, ↓w_gR, ↓w_aN, ↓w_aI, ↓w_aR, ↓w_ca, ↓w_ca0, nv_lit, nv_f, nv_add, nv_mul, nv_sub, nv_le, nv_lt, nv_eq, nv_cl, Nat.reduceMod, Nat.reduceMul, Nat.reduceAdd, Nat.zero_add, Nat.add_zero, Nat.mul_zero, decide_eq_true_eq, nv_inT, ↓w_caW, ck2', X4_init_2, ↓w_pI, ↓w_pR, kp2, hK_wI, hI_wI, up1_s, hR_wI, okn]
  rw [← ec3]
  have E3 : E0 d c3 := by
    rw [ec3]
    exact (((e1.tr e2).wI (Nat.le_refl _) _).wI (Nat.le_refl _) _).wR (Nat.le_refl _) _
  have hM3 := h1.ext E3 (B' := B') (fun _ _ => rfl)
  have kp3 : hK c3 (hSz d) = 4 := by rw [ec3]; exact kp2
  have s3 : hSz c3 = hSz d + 2 ∧ hSl c3 = hSl d + 3 + n := by
    rw [ec3]
    refine ⟨?_, ?_⟩
    · show hSz c2 = _; omega
    · show hSl c2 = _; omega
  have p1 : hSz c1 = hSz d + 1 := z1
  have kq3 : hK c3 (hSz d + 1) = 41 := by rw [ec3, ← p1]; exact ck2
  have nq3 : hN c3 (hSz d + 1) = n := by rw [ec3, ← p1]; exact cn2
  have rp3 : hR c3 (hSz d) 1 = some (hSz d + 1) := by rw [ec3, hR_wR, up1_s, up1_s, p1]
  have ip0 : hI c3 (hSz d) 0 = nv k := by rw [ec3, hI_wR, hI_wI, up1_s, up1_n _ _ (by omega), up1_s]
  have ip2 : hI c3 (hSz d) 2 = nv v := by rw [ec3, hI_wR, hI_wI, up1_s, up1_s]
  have iq3 : ∀ r, r < n → hI c3 (hSz d + 1) r = f r := fun r hr => by
    rw [ec3, hI_wR, hI_wI, up1_n _ _ (by omega), hI_wI, up1_n _ _ (by omega), ← p1, ci2, oa.2.2.2.1]
    exact ia r hr
  simp (disch := omega) only [↓w_bd, ↓w_rt, ↓w_bh, sm_l, sm_r, ↓w_okr, ↓w_nm, ↓w_ite, ↓reduceIte, not_true_eq_false, not_false_eq_true, and_true, true_and, and_self, Option.some.injEq, reduceCtorEq, eq_self, ↓w_rc, ↓w_gI, ↓w_gR, ↓w_aN, ↓w_aI, ↓w_aR, ↓w_ca, ↓w_ca0, nv_lit, nv_f, nv_add, nv_mul, nv_sub, nv_le, nv_lt, nv_eq, nv_cl, Nat.reduceMod, Nat.reduceMul, Nat.reduceAdd, Nat.zero_add, Nat.add_zero, Nat.mul_zero, decide_eq_true_eq, nv_inT, mk_k hM3, X3_add_h hM3 hk hk10 kp3]
  have l1z := h4 1 (lv_0 (by omega))
  have l3z := h4 3 (lv_0 (by omega))
  have kL3 : hK d (L 3) = 46 := kk1.1.2.2.2.1
  refine kk _ (((hE.tr E3).wR l3z _).wI l1z _) ⟨up1 (up1 B' (hSz d) (L 0 + 1, 20 + k)) (hSz d + 1) (L 0 + 1, 30 + k), up1 (up1 L (20 + k) (hSz d)) (30 + k) (hSz d + 1), ?_, ?_, ?_, ?_, ?_, ?_⟩ ?_ ?_ ?_
  · refine hM3.addHeap (n := n) hk.symm (by omega) ⟨by omega, by omega⟩ (fun r hr => ⟨by have := hp r hr; omega, by have := hp r hr; omega⟩) (by omega) kp3 kq3 nq3 n5 rp3 ip0 r1 r2 (by rw [r3, ip2]) r4 (fun r hr => by rw [r5 r hr, iq3 r hr]) ?_ ?_ ?_
    · intro x h1 h2
      rw [up1_n _ _ h2, up1_n _ _ h1]
    · rw [up1_n _ _ (by omega), up1_s]
    · rw [up1_s]
  · intro x hx
    rw [up1_n _ _ (by omega), up1_n _ _ (by omega)]
    exact h2 x hx
  · rw [up1_n _ _ (by omega), up1_n _ _ (by omega)]; exact h3
  · intro r hr
    have eH : nH R' = k + 1 := by unfold nH; rw [r2]; exact nv_cl (by omega)
    have eC : nC R' = nC R := by unfold nC; rw [r1 3 (by omega) (by omega)]
    by_cases g1 : r = 30 + k
    · rw [g1, up1_s]; omega
    · rw [up1_n _ _ g1]
      by_cases g2 : r = 20 + k
      · rw [g2, up1_s]; omega
      · rw [up1_n _ _ g2]
        refine h4 r ?_
        unfold lv at hr ⊢
        rw [eH, eC] at hr
        rw [hk]
        omega
  · rw [up1_n _ _ (by omega), up1_n _ _ (by omega)]; exact h5
  · rw [up1_n _ _ (by omega), up1_n _ _ (by omega)]; exact h5
  · exact ((E3.ep _).wR (.inl ⟨l3z, .inr kL3⟩) _).wI (.inl ⟨l1z, .inl kL1⟩) _
  · exact s3.1
  · exact s3.2
