/-! A MARKET IS READ, by both -/
theorem kind0 {G : Nat → Nat} {S : Gst} {a d : Hp} {rq Z L s e k : Nat} (h : Cs G S a rq Z L d s e k) : hI d rq 3 = nv (kc k) ∧ hK d rq = 6 := by
  obtain ⟨-, ⟨w, hr, -⟩, -⟩ := h
  exact ⟨hr.2.2.1, hr.1.1⟩
theorem heaps_j {G : Nat → Nat} {B : Nat → Nat × Nat} {S : Gst} {a : Hp} {rq mq n : Nat} (hC : JC G B S a) :
    ∀ (t f f2 m s e k Z L : Nat) (R : Nat → Int32) (d : Hp), 11 - m < t → t ≤ f → t < f2 → Lw R n m → Cs G S a rq Z L d s e k → Mq B a mq rq rq d R → ∀ (Q : Ex ⊕ (Option Nat) → Hp → Prop),
    (∀ cd ps d' q, Ce a rq (Z + 10 * (11 - m)) (L + 30 * (11 - m)) cd ps d' q → 0 < cd → cd < 10 → (∀ c0 c, TL G S R c0 c s e k → ∀ Q' : Int32 → Hp → Prop, (∀ c', TE G c0 c' cd ps → Wp (X5_load_103 (G 10)) c' Q') → Wp (X5_load_73 f2 (G 10)) c Q') → Q (.inl (4, q)) d') →
    (∀ R' m' s' e' d', 2 ≤ m' → Lw R' n m' → Cs G S a rq (Z + 10 * (11 - m)) (L + 30 * (11 - m)) d' s' e' 0 → Mq B a mq rq rq d' R' → (∀ c0 c, TL G S R c0 c s e k → ∀ Q' : Int32 → Hp → Prop, (∀ c', TL G S R' c0 c' s' e' 0 → Wp (X5_load_103 (G 10)) c' Q') → Wp (X5_load_73 f2 (G 10)) c Q') → Q (.inr (some mq)) d') →
    Wp (X6_market_33 f rq (some mq)) d Q := by
  intro t
  induction t with
  | zero => intro f f2 m s e k Z L R d h; omega
  | succ t ih =>
    intro f f2 m s e k Z L R d hm hf hf2 hL hcs hmq Q ke kok
    obtain ⟨f, rfl⟩ : ∃ g, f = g + 1 := ⟨f - 1, by omega⟩
    obtain ⟨f2, rfl⟩ : ∃ g, f2 = g + 1 := ⟨f2 - 1, by omega⟩
    obtain ⟨r3, hk⟩ := kind0 hcs
    have hk4 : k ≤ 4 := hcs.2.2.2.2.2
    obtain ⟨⟨n1, n2, n3⟩, ⟨m1, m2⟩, -⟩ := id hL
    have eH : nH R = m := by unfold nH; rw [m1]; exact nv_cl (by omega)
    obtain ⟨l1, l6, q1, q2, q3, -⟩ := hmq.row
    obtain ⟨km, zm⟩ := hmq.k
    rw [eH] at q3
    have e0 : nv 0 = nv (kc 0) := rfl
    by_cases c : k = 0 ∧ 2 ≤ m
    · have r3' : hI d rq 3 = nv 0 := by rw [r3, c.1]; rfl
      have c2 := c.2
      have ck := c.1
      subst ck
      simp (disch := omega) only [X6_market_33, ↓w_bd, ↓w_rt, ↓w_bh, sm_l, sm_r, ↓w_okr, ↓w_nm, ↓w_ite, ↓reduceIte, not_true_eq_false, not_false_eq_true, and_true, true_and, and_self, Option.some.injEq, reduceCtorEq, eq_self, ↓w_rc, ↓w_gI, ↓w_gR, ↓w_aN, ↓w_aI, ↓w_aR, ↓w_ca, ↓w_ca0, nv_lit, nv_f, nv_add, nv_mul, nv_sub, nv_le, nv_lt, nv_eq, nv_cl, Nat.reduceMod, Nat.reduceMul, Nat.reduceAdd, Nat.zero_add, Nat.add_zero, Nat.mul_zero, decide_eq_true_eq, nv_inT, hk, r3', km, q1, q2, q3, c2]
      refine kok R m s e d c2 hL (hcs.mv (P := fun _ => False) hcs.1.1 (EP.rf _ _) (fun x hx => hx.elim) (by omega) (by omega)) hmq fun c0 c' h Q' kk => ?_
      have get1 := fun Q => X5_get_w h.2.1 (show 1 < 545 by omega) (Q := Q)
      rw [m1] at get1
      have h14 := h.1.2.2.2.1.2.2
      simp (disch := omega) only [X5_load_73, ↓w_bd, ↓w_rt, ↓w_bh, sm_l, sm_r, ↓w_okr, ↓w_nm, ↓w_ite, ↓reduceIte, not_true_eq_false, not_false_eq_true, and_true, true_and, and_self, Option.some.injEq, reduceCtorEq, eq_self, ↓w_rc, ↓w_gI, ↓w_gR, ↓w_aN, ↓w_aI, ↓w_aR, ↓w_aL, ↓w_pI, ↓w_pR, ↓w_sI, ↓w_sR, ↓w_sL, ↓w_nO, ↓w_nA, ↓w_nL, ↓w_ca, ↓w_ca0, ↓w_gS, ↓w_gK, ↓w_dv, ↓w_tw, ↓w_rz, ↓w_no, nv_lit, nv_f, nv_add, nv_mul, nv_sub, nv_le, nv_lt, nv_eq, nv_cl, Nat.reduceMod, Nat.reduceMul, Nat.reduceAdd, Nat.zero_add, Nat.add_zero, Nat.mul_zero, decide_eq_true_eq, nv_inT, h.1.1, h.1.2.2.1.1, get1, h14, show ¬ m < 2 by omega]
      exact kk c' h
    · have go : Wp (X6_market_51 (X6_market_33 f) rq (some mq)) d Q := by
        simp (disch := omega) only [X6_market_51, ↓w_bd, ↓w_rt, ↓w_bh, sm_l, sm_r, ↓w_okr, ↓w_nm, ↓w_ite, ↓reduceIte, not_true_eq_false, not_false_eq_true, and_true, true_and, and_self, Option.some.injEq, reduceCtorEq, eq_self, ↓w_rc, ↓w_gI, ↓w_gR, ↓w_aN, ↓w_aI, ↓w_aR, ↓w_ca, ↓w_ca0, nv_lit, nv_f, nv_add, nv_mul, nv_sub, nv_le, nv_lt, nv_eq, nv_cl, Nat.reduceMod, Nat.reduceMul, Nat.reduceAdd, Nat.zero_add, Nat.add_zero, Nat.mul_zero, decide_eq_true_eq, nv_inT, hk]
        have tw : ∀ c0 c' (Q' : Int32 → Hp → Prop), TL G S R c0 c' s e k → Wp (X5_readsHeap (G 10)) c' (fun _ b => Wp (X5_load_73 f2 (G 10)) b Q') → Wp (X5_load_73 (f2 + 1) (G 10)) c' Q' := by
          intro c0 c' Q' h kk
          have get1 := fun Q => X5_get_w h.2.1 (show 1 < 545 by omega) (Q := Q)
          rw [m1] at get1
          have h14 := h.1.2.2.2.1.2.2
          by_cases cm : m < 2
          · simp (disch := omega) only [X5_load_73, X5_load_96, ↓w_bd, ↓w_rt, ↓w_bh, sm_l, sm_r, ↓w_okr, ↓w_nm, ↓w_ite, ↓reduceIte, not_true_eq_false, not_false_eq_true, and_true, true_and, and_self, Option.some.injEq, reduceCtorEq, eq_self, ↓w_rc, ↓w_gI, ↓w_gR, ↓w_aN, ↓w_aI, ↓w_aR, ↓w_aL, ↓w_pI, ↓w_pR, ↓w_sI, ↓w_sR, ↓w_sL, ↓w_nO, ↓w_nA, ↓w_nL, ↓w_ca, ↓w_ca0, ↓w_gS, ↓w_gK, ↓w_dv, ↓w_tw, ↓w_rz, ↓w_no, nv_lit, nv_f, nv_add, nv_mul, nv_sub, nv_le, nv_lt, nv_eq, nv_cl, Nat.reduceMod, Nat.reduceMul, Nat.reduceAdd, Nat.zero_add, Nat.add_zero, Nat.mul_zero, decide_eq_true_eq, nv_inT, h.1.1, h.1.2.2.1.1, get1, cm]
            exact kk
          · simp (disch := omega) only [X5_load_73, X5_load_96, ↓w_bd, ↓w_rt, ↓w_bh, sm_l, sm_r, ↓w_okr, ↓w_nm, ↓w_ite, ↓reduceIte, not_true_eq_false, not_false_eq_true, and_true, true_and, and_self, Option.some.injEq, reduceCtorEq, eq_self, ↓w_rc, ↓w_gI, ↓w_gR, ↓w_aN, ↓w_aI, ↓w_aR, ↓w_aL, ↓w_pI, ↓w_pR, ↓w_sI, ↓w_sR, ↓w_sL, ↓w_nO, ↓w_nA, ↓w_nL, ↓w_ca, ↓w_ca0, ↓w_gS, ↓w_gK, ↓w_dv, ↓w_tw, ↓w_rz, ↓w_no, nv_lit, nv_f, nv_add, nv_mul, nv_sub, nv_le, nv_lt, nv_eq, nv_cl, Nat.reduceMod, Nat.reduceMul, Nat.reduceAdd, Nat.zero_add, Nat.add_zero, Nat.mul_zero, decide_eq_true_eq, nv_inT, h.1.1, h.1.2.2.1.1, get1, cm, h14, show ¬ k = 0 by omega]
            exact kk
        refine heap_j hC hcs hmq hL _ (fun cd ps d' q hce hc1 hc2 ht => ?_) (fun R' s' e' k' d' hL' hcs' he hm10 hmq' ht => ?_)
        · refine ke cd ps d' q (hce.up (by omega) (by omega)) hc1 hc2 fun c0 c' h Q' kk => tw c0 c' Q' h (w_mono (ht c0 c' h) fun _ b hb => ?_)
          obtain ⟨g, rfl⟩ : ∃ g, f2 = g + 1 := ⟨f2 - 1, by omega⟩
          simp (disch := omega) only [X5_load_73, ↓w_bd, ↓w_rt, ↓w_bh, sm_l, sm_r, ↓w_okr, ↓w_nm, ↓w_ite, ↓reduceIte, not_true_eq_false, not_false_eq_true, and_true, true_and, and_self, Option.some.injEq, reduceCtorEq, eq_self, ↓w_rc, ↓w_gI, ↓w_gR, ↓w_aN, ↓w_aI, ↓w_aR, ↓w_aL, ↓w_pI, ↓w_pR, ↓w_sI, ↓w_sR, ↓w_sL, ↓w_nO, ↓w_nA, ↓w_nL, ↓w_ca, ↓w_ca0, ↓w_gS, ↓w_gK, ↓w_dv, ↓w_tw, ↓w_rz, ↓w_no, nv_lit, nv_f, nv_add, nv_mul, nv_sub, nv_le, nv_lt, nv_eq, nv_cl, Nat.reduceMod, Nat.reduceMul, Nat.reduceAdd, Nat.zero_add, Nat.add_zero, Nat.mul_zero, decide_eq_true_eq, nv_inT, hb.1.1, hb.1.2.1, show ¬ cd = 0 by omega]
          exact kk b hb
        · have eZ : Z + 10 * (11 - m) = Z + 10 + 10 * (11 - (m + 1)) := by omega
          have eL : L + 30 * (11 - m) = L + 30 + 30 * (11 - (m + 1)) := by omega
          refine ih f f2 (m + 1) s' e' k' (Z + 10) (L + 30) R' d' (by omega) (by omega) (by omega) hL' hcs' hmq' Q (fun cd ps d2 q hce hc1 hc2 ht2 => ?_) (fun R2 m2' s2 e2 d2 g1 g2 g3 g4 ht2 => ?_)
          · rw [← eZ, ← eL] at hce
            exact ke cd ps d2 q hce hc1 hc2 fun c0 c' h Q' kk => tw c0 c' Q' h (w_mono (ht c0 c' h) fun _ b hb => ht2 c0 b hb Q' kk)
          · rw [← eZ, ← eL] at g3
            exact kok R2 m2' s2 e2 d2 g1 g2 g3 g4 fun c0 c' h Q' kk => tw c0 c' Q' h (w_mono (ht c0 c' h) fun _ b hb => ht2 c0 b hb Q' kk)
      by_cases ck : k = 0
      · have r3' : hI d rq 3 = nv 0 := by rw [r3, ck]; rfl
        simp (disch := omega) only [X6_market_33, ↓w_bd, ↓w_rt, ↓w_bh, sm_l, sm_r, ↓w_okr, ↓w_nm, ↓w_ite, ↓reduceIte, not_true_eq_false, not_false_eq_true, and_true, true_and, and_self, Option.some.injEq, reduceCtorEq, eq_self, ↓w_rc, ↓w_gI, ↓w_gR, ↓w_aN, ↓w_aI, ↓w_aR, ↓w_ca, ↓w_ca0, nv_lit, nv_f, nv_add, nv_mul, nv_sub, nv_le, nv_lt, nv_eq, nv_cl, Nat.reduceMod, Nat.reduceMul, Nat.reduceAdd, Nat.zero_add, Nat.add_zero, Nat.mul_zero, decide_eq_true_eq, nv_inT, hk, r3', km, q1, q2, q3, show ¬ 2 ≤ m by omega]
        exact go
      · have r3' : ¬ hI d rq 3 = nv 0 := by rw [r3, e0, kc_v hk4 (by omega)]; exact ck
        simp (disch := omega) only [X6_market_33, ↓w_bd, ↓w_rt, ↓w_bh, sm_l, sm_r, ↓w_okr, ↓w_nm, ↓w_ite, ↓reduceIte, not_true_eq_false, not_false_eq_true, and_true, true_and, and_self, Option.some.injEq, reduceCtorEq, eq_self, ↓w_rc, ↓w_gI, ↓w_gR, ↓w_aN, ↓w_aI, ↓w_aR, ↓w_ca, ↓w_ca0, nv_lit, nv_f, nv_add, nv_mul, nv_sub, nv_le, nv_lt, nv_eq, nv_cl, Nat.reduceMod, Nat.reduceMul, Nat.reduceAdd, Nat.zero_add, Nat.add_zero, Nat.mul_zero, decide_eq_true_eq, nv_inT, hk, r3']
        exact go
/-- the twin's program behind the first word -/
def tld4 (G : Nat → Nat) : Mr Int32 := X5_load_73 FU (G 10)
def tld3 (G : Nat → Nat) : Mr Int32 := bd (rc 5 (some (G 10))) fun h' => bd (X5_endsLine h') fun _ => tld4 G
def tld2 (G : Nat → Nat) : Mr Int32 := bd (rc 5 (some (G 10))) fun h' => bd (X5_reads h' (nv 0) (nv 9)) fun x7 => bd (rc 5 (some (G 10))) fun h' => bd (X5_lay h' (nv 2) x7) fun _ => tld3 G
def tld1 (G : Nat → Nat) : Mr Int32 := bd (rc 5 (some (G 10))) fun h' => bd (X5_reads h' (nv 1) (nv 4)) fun x5 => bd (rc 5 (some (G 10))) fun h' => bd (X5_lay h' (nv 0) x5) fun _ => tld2 G
def tld0 (G : Nat → Nat) : Mr Int32 := bd (gC 116) fun x3 => bd (rc 5 (some (G 10))) fun h' => bd (X5_mustWord h' (some x3)) fun _ => tld1 G
theorem tld4_z {G : Nat → Nat} {c0 c : Hp} {cd ps : Nat} (h : TE G c0 c cd ps) (Q : Int32 → Hp → Prop) (kk : ∀ c', TE G c0 c' cd ps → Wp (X5_load_103 (G 10)) c' Q) : Wp (tld4 G) c Q := by
  have h1 := h.1.2.2.2
  unfold tld4
  rw [show FU = (FU - 1) + 1 by unfold FU; rfl]
  simp (disch := omega) only [X5_load_73, ↓w_bd, ↓w_rt, ↓w_bh, sm_l, sm_r, ↓w_okr, ↓w_nm, ↓w_ite, ↓reduceIte, not_true_eq_false, not_false_eq_true, and_true, true_and, and_self, Option.some.injEq, reduceCtorEq, eq_self, ↓w_rc, ↓w_gI, ↓w_gR, ↓w_aN, ↓w_aI, ↓w_aR, ↓w_aL, ↓w_pI, ↓w_pR, ↓w_sI, ↓w_sR, ↓w_sL, ↓w_nO, ↓w_nA, ↓w_nL, ↓w_ca, ↓w_ca0, ↓w_gS, ↓w_gK, ↓w_dv, ↓w_tw, ↓w_rz, ↓w_no, nv_lit, nv_f, nv_add, nv_mul, nv_sub, nv_le, nv_lt, nv_eq, nv_cl, Nat.reduceMod, Nat.reduceMul, Nat.reduceAdd, Nat.zero_add, Nat.add_zero, Nat.mul_zero, decide_eq_true_eq, nv_inT, h.1.1, h.1.2.1, show ¬ cd = 0 by omega]
  exact kk c h
theorem tld3_z {G : Nat → Nat} {c0 c : Hp} {cd ps : Nat} (h : TE G c0 c cd ps) (Q : Int32 → Hp → Prop) (kk : ∀ c', TE G c0 c' cd ps → Wp (X5_load_103 (G 10)) c' Q) : Wp (tld3 G) c Q := by
  simp (disch := omega) only [tld3, ↓w_bd, ↓w_rt, ↓w_bh, sm_l, sm_r, ↓w_okr, ↓w_nm, ↓w_ite, ↓reduceIte, not_true_eq_false, not_false_eq_true, and_true, true_and, and_self, Option.some.injEq, reduceCtorEq, eq_self, ↓w_rc, ↓w_gI, ↓w_gR, ↓w_aN, ↓w_aI, ↓w_aR, ↓w_ca, ↓w_ca0, nv_lit, nv_f, nv_add, nv_mul, nv_sub, nv_le, nv_lt, nv_eq, nv_cl, Nat.reduceMod, Nat.reduceMul, Nat.reduceAdd, Nat.zero_add, Nat.add_zero, Nat.mul_zero, decide_eq_true_eq, nv_inT, h.1.1, X5_endsLine_z h.1]
  exact tld4_z h Q kk
theorem tld2_z {G : Nat → Nat} (hG : GD G) {c0 c : Hp} {cd ps : Nat} (h : TE G c0 c cd ps) (Q : Int32 → Hp → Prop) (kk : ∀ c', TE G c0 c' cd ps → Wp (X5_load_103 (G 10)) c' Q) : Wp (tld2 G) c Q := by
  have hl := h.lay hG (i := 2) (by omega) (nv 0)
  obtain ⟨R, hF⟩ := h.2.1
  simp (disch := omega) only [tld2, ↓w_bd, ↓w_rt, ↓w_bh, sm_l, sm_r, ↓w_okr, ↓w_nm, ↓w_ite, ↓reduceIte, not_true_eq_false, not_false_eq_true, and_true, true_and, and_self, Option.some.injEq, reduceCtorEq, eq_self, ↓w_rc, ↓w_gI, ↓w_gR, ↓w_aN, ↓w_aI, ↓w_aR, ↓w_ca, ↓w_ca0, nv_lit, nv_f, nv_add, nv_mul, nv_sub, nv_le, nv_lt, nv_eq, nv_cl, Nat.reduceMod, Nat.reduceMul, Nat.reduceAdd, Nat.zero_add, Nat.add_zero, Nat.mul_zero, decide_eq_true_eq, nv_inT, h.1.1, X5_reads_z h.1, X5_lay_w hF]
  exact tld3_z hl Q kk
theorem tld1_z {G : Nat → Nat} (hG : GD G) {c0 c : Hp} {cd ps : Nat} (h : TE G c0 c cd ps) (Q : Int32 → Hp → Prop) (kk : ∀ c', TE G c0 c' cd ps → Wp (X5_load_103 (G 10)) c' Q) : Wp (tld1 G) c Q := by
  have hl := h.lay hG (i := 0) (by omega) (nv 1)
  obtain ⟨R, hF⟩ := h.2.1
  simp (disch := omega) only [tld1, ↓w_bd, ↓w_rt, ↓w_bh, sm_l, sm_r, ↓w_okr, ↓w_nm, ↓w_ite, ↓reduceIte, not_true_eq_false, not_false_eq_true, and_true, true_and, and_self, Option.some.injEq, reduceCtorEq, eq_self, ↓w_rc, ↓w_gI, ↓w_gR, ↓w_aN, ↓w_aI, ↓w_aR, ↓w_ca, ↓w_ca0, nv_lit, nv_f, nv_add, nv_mul, nv_sub, nv_le, nv_lt, nv_eq, nv_cl, Nat.reduceMod, Nat.reduceMul, Nat.reduceAdd, Nat.zero_add, Nat.add_zero, Nat.mul_zero, decide_eq_true_eq, nv_inT, h.1.1, X5_reads_z h.1, X5_lay_w hF]
  exact tld2_z hG hl Q kk
/-- the row that a load starts from -/
def R00 (i : Nat) : Int32 := if 11 ≤ i ∧ i < 15 then nv 10 else if 85 ≤ i ∧ i < 185 then -nv 1 else nv 0
def R0e (n e : Nat) : Nat → Int32 := up1 (up1 R00 0 (nv n)) 2 (nv e)
theorem r0e_lw {n e : Nat} (h1 : 1 ≤ n) (h4 : n ≤ 4) : Lw (R0e n e) n 0 ∧ Er n (nv e) (R0e n e) := by
  have o : ∀ i, i ≠ 0 → i ≠ 2 → R0e n e i = R00 i := fun i a b => by unfold R0e; rw [up1_n _ _ b, up1_n _ _ a]
  have e0 : R0e n e 0 = nv n := by unfold R0e; rw [up1_n _ _ (by omega), up1_s]
  have e2 : R0e n e 2 = nv e := by unfold R0e; rw [up1_s]
  have z : ∀ i, i ≠ 0 → i ≠ 2 → (i < 11 ∨ (15 ≤ i ∧ i < 85) ∨ 185 ≤ i) → R0e n e i = nv 0 := fun i a b c => by
    rw [o i a b]; unfold R00; rw [if_neg (by omega), if_neg (by omega)]
  have t : ∀ j, j < n → R0e n e (11 + j) = nv 10 := fun j hj => by
    rw [o _ (by omega) (by omega)]; unfold R00; rw [if_pos (by omega)]
  have f : ∀ x y, x < 10 → y < 10 → fc (R0e n e) x y = -1 := fun x y hx hy => by
    unfold fc; rw [o _ (by omega) (by omega)]; unfold R00; rw [if_neg (by omega), if_pos (by omega)]; rfl
  exact ⟨⟨⟨h1, h4, e0⟩, ⟨z 1 (by omega) (by omega) (by omega), by omega⟩, z 3 (by omega) (by omega) (by omega), t, f, fun h hh => absurd hh (Nat.not_lt_zero h), fun h h1 h2 => z _ (by omega) (by omega) (by omega)⟩, e0, z 1 (by omega) (by omega) (by omega), e2, z 3 (by omega) (by omega) (by omega), fun j hj => z _ (by omega) (by omega) (by omega), t, f⟩
theorem market_j {G : Nat → Nat} {B : Nat → Nat × Nat} {S : Gst} {a d : Hp} {rq Z L s e k : Nat} (hC : JC G B S a) (hcs : Cs G S a rq Z L d s e k) (Q : Ex ⊕ (Option Nat) → Hp → Prop)
    (ke : ∀ cd ps d' q, Ce a rq (Z + 200) (L + 600) cd ps d' q → 0 < cd → cd < 10 → (∀ c0 c, TL G S R00 c0 c s e k → ∀ Q' : Int32 → Hp → Prop, (∀ c', TE G c0 c' cd ps → Wp (X5_load_103 (G 10)) c' Q') → Wp (tld0 G) c Q') → Q (.inl (4, q)) d')
    (kok : ∀ R' n m s' e' mq d', 2 ≤ m → Lw R' n m → Cs G S a rq (Z + 200) (L + 600) d' s' e' 0 → Mq B a mq rq rq d' R' → hSz a ≤ mq → (∀ c0 c, TL G S R00 c0 c s e k → ∀ Q' : Int32 → Hp → Prop, (∀ c', TL G S R' c0 c' s' e' 0 → Wp (X5_load_103 (G 10)) c' Q') → Wp (tld0 G) c Q') → Q (.inr (some mq)) d') : Wp (X6_market rq) d Q := by
  have hG := hC.1.gd
  have hk := hcs.k
  have hCo := (hcs.jc hC).2.2.2.2.2.2.2.2.2
  obtain ⟨u, u1, u2, u3, u4⟩ := co_w hCo (show 3 < 28 by omega)
  have up : ∀ cd ps d' q, Ce a rq Z L cd ps d' q → Ce a rq (Z + 200) (L + 600) cd ps d' q := fun _ _ _ _ h => h.up (by omega) (by omega)
  have hco : ∀ {R' : Nat → Int32} {c0 c s e k}, TL G S R' c0 c s e k → ∃ u, hS c 116 = some u ∧ Sg c u (wn 16) (wl 16) := fun h => by
    obtain ⟨u, u1, u2, -⟩ := co_w h.2.2.1 (show 16 < 28 by omega)
    exact ⟨u, u1, u2⟩
  simp (disch := omega) only [X6_market, ↓w_bd, ↓w_rt, ↓w_bh, sm_l, sm_r, ↓w_okr, ↓w_nm, ↓w_ite, ↓reduceIte, not_true_eq_false, not_false_eq_true, and_true, true_and, and_self, Option.some.injEq, reduceCtorEq, eq_self, ↓w_rc, ↓w_gI, ↓w_gR, ↓w_aN, ↓w_aI, ↓w_aR, ↓w_ca, ↓w_ca0, nv_lit, nv_f, nv_add, nv_mul, nv_sub, nv_le, nv_lt, nv_eq, nv_cl, Nat.reduceMod, Nat.reduceMul, Nat.reduceAdd, Nat.zero_add, Nat.add_zero, Nat.mul_zero, decide_eq_true_eq, nv_inT, ↓w_gC, u1, exists_eq_left', Option.some.injEq, hk]
  refine X6_word_w hC hcs (by omega) (by omega) u2 _ (fun c1 s1 e1 k1 hx1 d1 hcs1 ep1 => ?_) (fun c1 d' q hce => ?_)
  · have c16 : IsW S s e k (15 + 1) := (isw_t (by omega)).mpr c1
    have tw0 : ∀ c0 c (Q' : Int32 → Hp → Prop), TL G S R00 c0 c s e k → (∀ c', TL G S R00 c0 c' s1 e1 k1 → Wp (tld1 G) c' Q') → Wp (tld0 G) c Q' := by
      intro c0 c Q' h kk
      obtain ⟨u', v1, v2⟩ := hco h
      simp (disch := omega) only [tld0, ↓w_bd, ↓w_rt, ↓w_bh, sm_l, sm_r, ↓w_okr, ↓w_nm, ↓w_ite, ↓reduceIte, not_true_eq_false, not_false_eq_true, and_true, true_and, and_self, Option.some.injEq, reduceCtorEq, eq_self, ↓w_rc, ↓w_gI, ↓w_gR, ↓w_aN, ↓w_aI, ↓w_aR, ↓w_ca, ↓w_ca0, nv_lit, nv_f, nv_add, nv_mul, nv_sub, nv_le, nv_lt, nv_eq, nv_cl, Nat.reduceMod, Nat.reduceMul, Nat.reduceAdd, Nat.zero_add, Nat.add_zero, Nat.mul_zero, decide_eq_true_eq, nv_inT, h.1.1, ↓w_gC, v1, exists_eq_left', Option.some.injEq]
      exact X5_mustWord_1 hG h.1 (by omega) v2 c16 hx1 _ fun c' g1 g2 => kk c' (h.tw hG g1 g2)
    have hk1 := hcs1.k
    simp (disch := omega) only [↓w_bd, ↓w_rt, ↓w_bh, sm_l, sm_r, ↓w_okr, ↓w_nm, ↓w_ite, ↓reduceIte, not_true_eq_false, not_false_eq_true, and_true, true_and, and_self, Option.some.injEq, reduceCtorEq, eq_self, ↓w_rc, ↓w_gI, ↓w_gR, ↓w_aN, ↓w_aI, ↓w_aR, ↓w_ca, ↓w_ca0, nv_lit, nv_f, nv_add, nv_mul, nv_sub, nv_le, nv_lt, nv_eq, nv_cl, Nat.reduceMod, Nat.reduceMul, Nat.reduceAdd, Nat.zero_add, Nat.add_zero, Nat.mul_zero, decide_eq_true_eq, nv_inT, hk1]
    refine X6_number_w hC hcs1 (by omega) (by omega) _ (fun h2 g1 g2 s2 e2 k2 hx2 d2 hcs2 ep2 => ?_) (fun cd hcd d' q hce => ?_)
    · have tw1 : ∀ c0 c (Q' : Int32 → Hp → Prop), TL G S R00 c0 c s1 e1 k1 → (∀ c', TL G S (up1 R00 0 (nv (tvl S s1 e1))) c0 c' s2 e2 k2 → Wp (tld2 G) c' Q') → Wp (tld1 G) c Q' := by
        intro c0 c Q' h kk
        simp (disch := omega) only [tld1, ↓w_bd, ↓w_rt, ↓w_bh, sm_l, sm_r, ↓w_okr, ↓w_nm, ↓w_ite, ↓reduceIte, not_true_eq_false, not_false_eq_true, and_true, true_and, and_self, Option.some.injEq, reduceCtorEq, eq_self, ↓w_rc, ↓w_gI, ↓w_gR, ↓w_aN, ↓w_aI, ↓w_aR, ↓w_ca, ↓w_ca0, nv_lit, nv_f, nv_add, nv_mul, nv_sub, nv_le, nv_lt, nv_eq, nv_cl, Nat.reduceMod, Nat.reduceMul, Nat.reduceAdd, Nat.zero_add, Nat.add_zero, Nat.mul_zero, decide_eq_true_eq, nv_inT, h.1.1]
        refine X5_reads_1 hG h.1 h2 (by omega) (by omega) ⟨g1, g2⟩ hx2 _ fun c' t1 t2 => ?_
        have h' := h.tw hG t1 t2
        simp (disch := omega) only [↓w_bd, ↓w_rt, ↓w_bh, sm_l, sm_r, ↓w_okr, ↓w_nm, ↓w_ite, ↓reduceIte, not_true_eq_false, not_false_eq_true, and_true, true_and, and_self, Option.some.injEq, reduceCtorEq, eq_self, ↓w_rc, ↓w_gI, ↓w_gR, ↓w_aN, ↓w_aI, ↓w_aR, ↓w_ca, ↓w_ca0, nv_lit, nv_f, nv_add, nv_mul, nv_sub, nv_le, nv_lt, nv_eq, nv_cl, Nat.reduceMod, Nat.reduceMul, Nat.reduceAdd, Nat.zero_add, Nat.add_zero, Nat.mul_zero, decide_eq_true_eq, nv_inT, h'.1.1, X5_lay_w h'.2.1]
        exact kk _ (h'.lay hG (by omega) _)
      simp (disch := omega) only [↓w_bd, ↓w_rt, ↓w_bh, sm_l, sm_r, ↓w_okr, ↓w_nm, ↓w_ite, ↓reduceIte, not_true_eq_false, not_false_eq_true, and_true, true_and, and_self, Option.some.injEq, reduceCtorEq, eq_self, ↓w_rc, ↓w_gI, ↓w_gR, ↓w_aN, ↓w_aI, ↓w_aR, ↓w_ca, ↓w_ca0, nv_lit, nv_f, nv_add, nv_mul, nv_sub, nv_le, nv_lt, nv_eq, nv_cl, Nat.reduceMod, Nat.reduceMul, Nat.reduceAdd, Nat.zero_add, Nat.add_zero, Nat.mul_zero, decide_eq_true_eq, nv_inT]
      refine w_nO' fun d3 e3 z3 l3 ck3 ci3 cr3 => ?_
      have E2 := hcs2.1.1
      have rz2 := hcs2.1.2.2
      have hcs3 : Cs G S a rq (Z + 1) (L + 6) d3 s2 e2 k2 := hcs2.mv (P := fun _ => False) (E2.tr e3) (e3.ep _) (fun x hx => hx.elim) (by omega) (by omega)
      have hk3 := hcs3.k
      obtain ⟨mq, emq⟩ : ∃ mq, mq = hSz d2 := ⟨_, rfl⟩
      rw [← emq] at ck3 ⊢
      have amq : hSz a ≤ mq := by have := E2.1; omega
      have rmq : rq ≠ mq := by omega
      simp (disch := omega) only [↓w_bd, ↓w_rt, ↓w_bh, sm_l, sm_r, ↓w_okr, ↓w_nm, ↓w_ite, ↓reduceIte, not_true_eq_false, not_false_eq_true, and_true, true_and, and_self, Option.some.injEq, reduceCtorEq, eq_self, ↓w_rc, ↓w_gI, ↓w_gR, ↓w_aN, ↓w_aI, ↓w_aR, ↓w_ca, ↓w_ca0, nv_lit, nv_f, nv_add, nv_mul, nv_sub, nv_le, nv_lt, nv_eq, nv_cl, Nat.reduceMod, Nat.reduceMul, Nat.reduceAdd, Nat.zero_add, Nat.add_zero, Nat.mul_zero, decide_eq_true_eq, nv_inT, hk3]
      refine X6_number_w hC hcs3 (by omega) (by omega) _ (fun h4 g3 g4 s4 e4 k4 hx4 d4 hcs4 ep4 => ?_) (fun cd hcd d' q hce => ?_)
      · have tw2 : ∀ c0 c (Q' : Int32 → Hp → Prop), TL G S (up1 R00 0 (nv (tvl S s1 e1))) c0 c s2 e2 k2 → (∀ c', TL G S (R0e (tvl S s1 e1) (tvl S s2 e2)) c0 c' s4 e4 k4 → Wp (tld3 G) c' Q') → Wp (tld2 G) c Q' := by
          intro c0 c Q' h kk
          simp (disch := omega) only [tld2, ↓w_bd, ↓w_rt, ↓w_bh, sm_l, sm_r, ↓w_okr, ↓w_nm, ↓w_ite, ↓reduceIte, not_true_eq_false, not_false_eq_true, and_true, true_and, and_self, Option.some.injEq, reduceCtorEq, eq_self, ↓w_rc, ↓w_gI, ↓w_gR, ↓w_aN, ↓w_aI, ↓w_aR, ↓w_ca, ↓w_ca0, nv_lit, nv_f, nv_add, nv_mul, nv_sub, nv_le, nv_lt, nv_eq, nv_cl, Nat.reduceMod, Nat.reduceMul, Nat.reduceAdd, Nat.zero_add, Nat.add_zero, Nat.mul_zero, decide_eq_true_eq, nv_inT, h.1.1]
          refine X5_reads_1 hG h.1 h4 (by omega) (by omega) ⟨g3, g4⟩ hx4 _ fun c' t1 t2 => ?_
          have h' := h.tw hG t1 t2
          simp (disch := omega) only [↓w_bd, ↓w_rt, ↓w_bh, sm_l, sm_r, ↓w_okr, ↓w_nm, ↓w_ite, ↓reduceIte, not_true_eq_false, not_false_eq_true, and_true, true_and, and_self, Option.some.injEq, reduceCtorEq, eq_self, ↓w_rc, ↓w_gI, ↓w_gR, ↓w_aN, ↓w_aI, ↓w_aR, ↓w_ca, ↓w_ca0, nv_lit, nv_f, nv_add, nv_mul, nv_sub, nv_le, nv_lt, nv_eq, nv_cl, Nat.reduceMod, Nat.reduceMul, Nat.reduceAdd, Nat.zero_add, Nat.add_zero, Nat.mul_zero, decide_eq_true_eq, nv_inT, h'.1.1, X5_lay_w h'.2.1]
          exact kk _ (h'.lay hG (by omega) _)
        have z4 := ep4.1
        have km4 : hK d4 mq = 2 := by rw [(ep4.2.2 mq (by omega) (Ne.symm rmq)).1]; exact ck3
        simp (disch := omega) only [↓w_bd, ↓w_rt, ↓w_bh, sm_l, sm_r, ↓w_okr, ↓w_nm, ↓w_ite, ↓reduceIte, not_true_eq_false, not_false_eq_true, and_true, true_and, and_self, Option.some.injEq, reduceCtorEq, eq_self, ↓w_rc, ↓w_gI, ↓w_gR, ↓w_aN, ↓w_aI, ↓w_aR, ↓w_ca, ↓w_ca0, nv_lit, nv_f, nv_add, nv_mul, nv_sub, nv_le, nv_lt, nv_eq, nv_cl, Nat.reduceMod, Nat.reduceMul, Nat.reduceAdd, Nat.zero_add, Nat.add_zero, Nat.mul_zero, decide_eq_true_eq, nv_inT]
        obtain ⟨hLw, hEr⟩ := r0e_lw (n := tvl S s1 e1) (e := tvl S s2 e2) g1 g2
        refine X2_init_w2 (q := mq) (p := hSz d4) amq (by omega) rfl hcs4.1.1 km4 g2 _ fun d5 e5 z5 l5 em5 ep5 => ?_
        have hMk := em5.mk g2 (by omega) (by omega) hEr (B := fun x => if x < hSz a then B x else if x = mq then (mq + 1, 0) else if hSz d4 ≤ x then (mq + 1, il (x - hSz d4 + 1)) else (0, 0)) (fun r hr => by
          have a4 := hcs4.1.1.1
          by_cases r0 : r = 0
          · subst r0
            show (if mq < hSz a then B mq else if mq = mq then (mq + 1, 0) else if hSz d4 ≤ mq then (mq + 1, il (mq - hSz d4 + 1)) else (0, 0)) = _
            rw [if_neg (by omega), if_pos rfl]
          · have lq1 : 1 ≤ lq r := by
              unfold lq
              (repeat' split) <;> omega
            have eL : LQ2 mq (hSz d4) r = hSz d4 + (lq r - 1) := by unfold LQ2; rw [if_neg r0]
            rw [eL]
            show (if hSz d4 + (lq r - 1) < hSz a then B (hSz d4 + (lq r - 1)) else if hSz d4 + (lq r - 1) = mq then (mq + 1, 0) else if hSz d4 ≤ hSz d4 + (lq r - 1) then (mq + 1, il (hSz d4 + (lq r - 1) - hSz d4 + 1)) else (0, 0)) = _
            rw [if_neg (by omega), if_neg (by omega), if_pos (by omega), show hSz d4 + (lq r - 1) - hSz d4 + 1 = lq r by omega, il_lq hr])
        have hrz4 := hcs4.1.2.2
        have hra := hcs4.1.2.1
        have hmq5 : Mq B a mq rq rq d5 (R0e (tvl S s1 e1) (tvl S s2 e2)) := by
          have hb : ((fun x => if x < hSz a then B x else if x = mq then (mq + 1, 0) else if hSz d4 ≤ x then (mq + 1, il (x - hSz d4 + 1)) else (0, 0)) rq).1 ≠ mq + 1 := by
            show (if rq < hSz a then B rq else if rq = mq then (mq + 1, 0) else if hSz d4 ≤ rq then (mq + 1, il (rq - hSz d4 + 1)) else (0, 0)).1 ≠ mq + 1
            rw [if_neg (by omega), if_neg rmq, if_neg (by omega)]
            exact (Nat.succ_ne_zero mq).symm
          refine ⟨_, _, hMk, fun x hx => if_pos hx, rfl, fun r hr => ?_, hb, hb⟩
          unfold LQ2
          have a4 := hcs4.1.1.1
          split <;> omega
        have hcs5 : Cs G S a rq (Z + 18) (L + 161) d5 s4 e4 k4 := hcs4.mv e5 ep5 (fun x hx => by rw [hx, km4]; exact ⟨Ne.symm rmq, by decide, by decide⟩) (by omega) (by omega)
        have hk5 := hcs5.k
        simp (disch := omega) only [↓w_bd, ↓w_rt, ↓w_bh, sm_l, sm_r, ↓w_okr, ↓w_nm, ↓w_ite, ↓reduceIte, not_true_eq_false, not_false_eq_true, and_true, true_and, and_self, Option.some.injEq, reduceCtorEq, eq_self, ↓w_rc, ↓w_gI, ↓w_gR, ↓w_aN, ↓w_aI, ↓w_aR, ↓w_ca, ↓w_ca0, nv_lit, nv_f, nv_add, nv_mul, nv_sub, nv_le, nv_lt, nv_eq, nv_cl, Nat.reduceMod, Nat.reduceMul, Nat.reduceAdd, Nat.zero_add, Nat.add_zero, Nat.mul_zero, decide_eq_true_eq, nv_inT, hk5]
        refine X6_end_w hC hcs5 _ (fun k3 s6 e6 k6 hx6 d6 hcs6 ep6 => ?_) (fun k3 d' q hce => ?_)
        · have tw3 : ∀ c0 c (Q' : Int32 → Hp → Prop), TL G S (R0e (tvl S s1 e1) (tvl S s2 e2)) c0 c s4 e4 k4 → (∀ c', TL G S (R0e (tvl S s1 e1) (tvl S s2 e2)) c0 c' s6 e6 k6 → Wp (tld4 G) c' Q') → Wp (tld3 G) c Q' := by
            intro c0 c Q' h kk
            simp (disch := omega) only [tld3, ↓w_bd, ↓w_rt, ↓w_bh, sm_l, sm_r, ↓w_okr, ↓w_nm, ↓w_ite, ↓reduceIte, not_true_eq_false, not_false_eq_true, and_true, true_and, and_self, Option.some.injEq, reduceCtorEq, eq_self, ↓w_rc, ↓w_gI, ↓w_gR, ↓w_aN, ↓w_aI, ↓w_aR, ↓w_ca, ↓w_ca0, nv_lit, nv_f, nv_add, nv_mul, nv_sub, nv_le, nv_lt, nv_eq, nv_cl, Nat.reduceMod, Nat.reduceMul, Nat.reduceAdd, Nat.zero_add, Nat.add_zero, Nat.mul_zero, decide_eq_true_eq, nv_inT, h.1.1]
            exact X5_endsLine_1 hG h.1 k3 hx6 _ fun c' t1 t2 => kk c' (h.tw hG t1 t2)
          have hmq6 := hmq5.ep (ep6.mono fun x hx => .inl hx) (by rw [hk5]; omega) (by rw [hk5]; omega)
          refine heaps_j hC 12 FU FU 0 s6 e6 k6 (Z + 18) (L + 161) _ d6 (by omega) (by unfold FU; omega) (by unfold FU; omega) hLw hcs6 hmq6 Q (fun cd ps d' q hce hc1 hc2 ht => ?_) (fun R' m' s' e' d' h1' h2' h3' h4' ht => ?_)
          · exact ke cd ps d' q (hce.up (by omega) (by omega)) hc1 hc2 fun c0 c h Q' kk => tw0 c0 c Q' h fun c1 h1 => tw1 c0 c1 Q' h1 fun c2 h2 => tw2 c0 c2 Q' h2 fun c3 h3 => tw3 c0 c3 Q' h3 fun c4 h4 => ht c0 c4 h4 Q' kk
          · exact kok R' _ m' s' e' mq d' h1' h2' (h3'.mv (P := fun _ => False) h3'.1.1 (EP.rf _ _) (fun x hx => hx.elim) (by omega) (by omega)) h4' amq fun c0 c h Q' kk => tw0 c0 c Q' h fun c1 h1 => tw1 c0 c1 Q' h1 fun c2 h2 => tw2 c0 c2 Q' h2 fun c3 h3 => tw3 c0 c3 Q' h3 fun c4 h4 => ht c0 c4 h4 Q' kk
        · refine ke 1 s4 d' q (hce.up (by omega) (by omega)) (by omega) (by omega) fun c0 c h Q' kk => tw0 c0 c Q' h fun c1 h1 => tw1 c0 c1 Q' h1 fun c2 h2 => tw2 c0 c2 Q' h2 fun c3 h3 => ?_
          simp (disch := omega) only [tld3, ↓w_bd, ↓w_rt, ↓w_bh, sm_l, sm_r, ↓w_okr, ↓w_nm, ↓w_ite, ↓reduceIte, not_true_eq_false, not_false_eq_true, and_true, true_and, and_self, Option.some.injEq, reduceCtorEq, eq_self, ↓w_rc, ↓w_gI, ↓w_gR, ↓w_aN, ↓w_aI, ↓w_aR, ↓w_ca, ↓w_ca0, nv_lit, nv_f, nv_add, nv_mul, nv_sub, nv_le, nv_lt, nv_eq, nv_cl, Nat.reduceMod, Nat.reduceMul, Nat.reduceAdd, Nat.zero_add, Nat.add_zero, Nat.mul_zero, decide_eq_true_eq, nv_inT, h3.1.1, X5_endsLine_0 h3.1 k3]
          exact tld4_z (h3.er hG (by omega) (by omega)) Q' kk
      · refine ke cd s2 d' q (hce.up (by omega) (by omega)) (by omega) (by omega) fun c0 c h Q' kk => tw0 c0 c Q' h fun c1 h1 => tw1 c0 c1 Q' h1 fun c2 h2 => ?_
        have hz := h2.er hG (cd := cd) (ps := s2) (by omega) (by omega)
        obtain ⟨R', hF⟩ := hz.2.1
        simp (disch := omega) only [tld2, ↓w_bd, ↓w_rt, ↓w_bh, sm_l, sm_r, ↓w_okr, ↓w_nm, ↓w_ite, ↓reduceIte, not_true_eq_false, not_false_eq_true, and_true, true_and, and_self, Option.some.injEq, reduceCtorEq, eq_self, ↓w_rc, ↓w_gI, ↓w_gR, ↓w_aN, ↓w_aI, ↓w_aR, ↓w_ca, ↓w_ca0, nv_lit, nv_f, nv_add, nv_mul, nv_sub, nv_le, nv_lt, nv_eq, nv_cl, Nat.reduceMod, Nat.reduceMul, Nat.reduceAdd, Nat.zero_add, Nat.add_zero, Nat.mul_zero, decide_eq_true_eq, nv_inT, h2.1.1, X5_reads_0 h2.1 (show 0 ≤ 100 by omega) (show 9 ≤ 100 by omega) hcd, hz.1.1, X5_lay_w hF]
        exact tld3_z (hz.lay hG (by omega) _) Q' kk
    · refine ke cd s1 d' q (up _ _ _ _ hce) (by omega) (by omega) fun c0 c h Q' kk => tw0 c0 c Q' h fun c1 h1 => ?_
      have hz := h1.er hG (cd := cd) (ps := s1) (by omega) (by omega)
      obtain ⟨R', hF⟩ := hz.2.1
      simp (disch := omega) only [tld1, ↓w_bd, ↓w_rt, ↓w_bh, sm_l, sm_r, ↓w_okr, ↓w_nm, ↓w_ite, ↓reduceIte, not_true_eq_false, not_false_eq_true, and_true, true_and, and_self, Option.some.injEq, reduceCtorEq, eq_self, ↓w_rc, ↓w_gI, ↓w_gR, ↓w_aN, ↓w_aI, ↓w_aR, ↓w_ca, ↓w_ca0, nv_lit, nv_f, nv_add, nv_mul, nv_sub, nv_le, nv_lt, nv_eq, nv_cl, Nat.reduceMod, Nat.reduceMul, Nat.reduceAdd, Nat.zero_add, Nat.add_zero, Nat.mul_zero, decide_eq_true_eq, nv_inT, h1.1.1, X5_reads_0 h1.1 (show 1 ≤ 100 by omega) (show 4 ≤ 100 by omega) hcd, hz.1.1, X5_lay_w hF]
      exact tld2_z hG (hz.lay hG (by omega) _) Q' kk
  · have c16 : ¬ IsW S s e k (15 + 1) := fun h => c1 ((isw_t (by omega)).mp h)
    refine ke 1 s d' q (up _ _ _ _ hce) (by omega) (by omega) fun c0 c h Q' kk => ?_
    obtain ⟨u', v1, v2⟩ := hco h
    have hz := h.er hG (cd := 1) (ps := s) (by omega) (by omega)
    simp (disch := omega) only [tld0, ↓w_bd, ↓w_rt, ↓w_bh, sm_l, sm_r, ↓w_okr, ↓w_nm, ↓w_ite, ↓reduceIte, not_true_eq_false, not_false_eq_true, and_true, true_and, and_self, Option.some.injEq, reduceCtorEq, eq_self, ↓w_rc, ↓w_gI, ↓w_gR, ↓w_aN, ↓w_aI, ↓w_aR, ↓w_ca, ↓w_ca0, nv_lit, nv_f, nv_add, nv_mul, nv_sub, nv_le, nv_lt, nv_eq, nv_cl, Nat.reduceMod, Nat.reduceMul, Nat.reduceAdd, Nat.zero_add, Nat.add_zero, Nat.mul_zero, decide_eq_true_eq, nv_inT, h.1.1, ↓w_gC, v1, exists_eq_left', Option.some.injEq, X5_mustWord_0 h.1 (show 16 < 28 by omega) v2 c16]
    exact tld1_z hG hz Q' kk
