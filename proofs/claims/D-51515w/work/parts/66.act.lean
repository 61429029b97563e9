/-! ACTS: the component acts; the twin will act alike -/
theorem okn (x : Int32) : okN 0 x = true := rfl
def Frm (G : Nat → Nat) (B : Nat → Nat × Nat) (a b : Hp) : Prop := (hSz a ≤ hSz b ∧ hS b = hS a) ∧ Kp a b ∧ ∀ q, q < hSz a → (B q).1 = 0 → (∀ i, i < 8 → q ≠ G i) → hK b q = hK a q ∧ hN b q = hN a q ∧ hR b q = hR a q ∧ hI b q = hI a q
theorem Frm.tr {G : Nat → Nat} {B B' : Nat → Nat × Nat} {a b c : Hp} (h : Frm G B a b) (hB : ∀ q, q < hSz a → B' q = B q) (g : Frm G B' b c) : Frm G B a c := ⟨⟨Nat.le_trans h.1.1 g.1.1, g.1.2.trans h.1.2⟩, h.2.1.tr h.1.1 g.2.1, fun q hq h0 hi => by
  have e1 := h.2.2 q hq h0 hi
  have e2 := g.2.2 q (Nat.lt_of_lt_of_le hq h.1.1) (by rw [hB q hq]; exact h0) hi
  exact ⟨e2.1.trans e1.1, e2.2.1.trans e1.2.1, e2.2.2.1.trans e1.2.2.1, e2.2.2.2.trans e1.2.2.2⟩⟩
theorem EP.fr {P : Nat → Prop} {G : Nat → Nat} {B : Nat → Nat × Nat} {a b : Hp} (h : EP P a b) (hP : ∀ q, P q → q < hSz a → ((B q).1 ≠ 0 ∨ ∃ i, i < 8 ∧ q = G i) ∧ hK a q < 100) : Frm G B a b := ⟨⟨h.1, h.2.1⟩, fun q hq hk => by
    have := h.2.2 q hq (fun hp => by have := (hP q hp hq).2; omega)
    exact ⟨this.1, this.2.1, this.2.2.2⟩, fun q hq h0 hi => h.2.2 q hq (fun hp => by
    rcases (hP q hp hq).1 with e | ⟨i, h1, h2⟩
    · exact e h0
    · exact hi i h1 h2)⟩
theorem E0.fr {a b : Hp} (h : E0 a b) (G : Nat → Nat) (B : Nat → Nat × Nat) : Frm G B a b := (h.ep (fun _ => False)).fr (fun _ hq => hq.elim)
theorem Frm.ep {G : Nat → Nat} {B : Nat → Nat × Nat} {a b : Hp} (h : Frm G B a b) : EP (fun q => (B q).1 ≠ 0 ∨ ∃ i, i < 8 ∧ q = G i) a b := ⟨h.1.1, h.1.2, fun q hq hn => h.2.2 q hq (Decidable.byContradiction fun e => hn (.inl e)) (fun i hi e => hn (.inr ⟨i, hi, e⟩))⟩
theorem Frm.t {G : Nat → Nat} {B : Nat → Nat × Nat} {S : Gst} {a b : Hp} (h : Frm G B a b) (hA : JA G B a) (hT : JT G S a) : JT G S b := hT.ep h.ep (fun i hi => (hA i hi).1) (fun q hq => by
  rintro ⟨i, h1, h2, rfl⟩
  rcases hq with e | ⟨j, j1, j2⟩
  · rw [(hA i (by omega)).2] at e; exact e rfl
  · have := hA.gd i j (by omega) (by omega) j2
    omega)
/-- the twin's step: what it may touch -/
def Tf (G : Nat → Nat) (c d : Hp) : Prop := d.1 = c.1 ∧ d.2.2 = c.2.2 ∧ (∀ q, q ≠ G 10 → q ≠ G 11 → q ≠ G 12 → q ≠ G 13 → q ≠ G 14 → q ≠ G 15 → q ≠ G 18 → q ≠ G 19 → hI d q = hI c q) ∧ ∀ j, j ≠ 4 → j ≠ 5 → j ≠ 20 → hI d (G 10) j = hI c (G 10) j
theorem Tf.rf (G : Nat → Nat) (c : Hp) : Tf G c c := ⟨rfl, rfl, fun _ _ _ _ _ _ _ _ _ => rfl, fun _ _ _ _ => rfl⟩
theorem Tf.tr {G : Nat → Nat} {a b c : Hp} (h : Tf G a b) (g : Tf G b c) : Tf G a c := ⟨g.1.trans h.1, g.2.1.trans h.2.1, fun q h1 h2 h3 h4 h5 h6 h7 h8 => (g.2.2.1 q h1 h2 h3 h4 h5 h6 h7 h8).trans (h.2.2.1 q h1 h2 h3 h4 h5 h6 h7 h8), fun j h1 h2 h3 => (g.2.2.2 j h1 h2 h3).trans (h.2.2.2 j h1 h2 h3)⟩
theorem Tf.k {G : Nat → Nat} {a b : Hp} (h : Tf G a b) : hK b = hK a := congrArg (fun x => x.1.2.1) h.1
theorem Tf.n {G : Nat → Nat} {a b : Hp} (h : Tf G a b) : hN b = hN a := congrArg (fun x => x.1.2.2) h.1
theorem Tf.r {G : Nat → Nat} {a b : Hp} (h : Tf G a b) : hR b = hR a := congrArg (fun x => x.1) h.2.1
theorem Tf.l {G : Nat → Nat} {a b : Hp} (h : Tf G a b) : hL b = hL a := congrArg (fun x => x.2) h.2.1
theorem Tf.sz {G : Nat → Nat} {a b : Hp} (h : Tf G a b) : hSz b = hSz a := congrArg (fun x => x.1.1.1) h.1
theorem Tf.sl {G : Nat → Nat} {a b : Hp} (h : Tf G a b) : hSl b = hSl a := congrArg (fun x => x.1.1.2) h.1
theorem Tf.ep {G : Nat → Nat} {a b : Hp} (h : Tf G a b) : EP (tG G) a b := by
  refine ⟨by rw [h.sz]; omega, congrArg (fun x => x.2) h.1, fun q _ hn => ?_⟩
  rw [h.k, h.n, h.r]
  exact ⟨rfl, rfl, rfl, h.2.2.1 q (fun e => hn ⟨10, by omega, by omega, e⟩) (fun e => hn ⟨11, by omega, by omega, e⟩) (fun e => hn ⟨12, by omega, by omega, e⟩) (fun e => hn ⟨13, by omega, by omega, e⟩) (fun e => hn ⟨14, by omega, by omega, e⟩) (fun e => hn ⟨15, by omega, by omega, e⟩) (fun e => hn ⟨18, by omega, by omega, e⟩) (fun e => hn ⟨19, by omega, by omega, e⟩)⟩
theorem Tf.thr (G : Nat → Nat) (c : Hp) (v : Int32) : Tf G c (th G c v) := ⟨rfl, rfl, fun q h1 _ _ _ _ _ _ _ => th_o G c v h1, fun j _ h2 _ => th_n G c v h2⟩
theorem Sx.tf {G : Nat → Nat} {a b : Hp} (hG : GD G) (h : Sx G a b) : Tf G a b := ⟨h.1, h.2.1, fun q _ _ _ _ h5 h6 h7 _ => h.2.2 q h5 h6 h7, fun j _ _ _ => congrFun (h.2.2 (G 10) (hG.ne (by omega) (by omega) (by omega)) (hG.ne (by omega) (by omega) (by omega)) (hG.ne (by omega) (by omega) (by omega))) j⟩
theorem Tk.tf {G : Nat → Nat} {a b : Hp} (h : Tk G a b) : Tf G a b := ⟨h.1, h.2.1, fun q h1 h2 _ _ _ _ _ _ => h.2.2.1 q h1 h2, fun j h1 _ _ => h.2.2.2 j h1⟩
/-- what a run of both says: thrown (by κ), or told -/
def Rs (κ : Nat → Nat) (r : Ex ⊕ Int32) (w t : Int32) : Prop := match r with
  | .inl e => κ e.1 ≠ 0 ∧ κ e.1 < 100 ∧ t = nv (κ e.1)
  | .inr v => t = nv 0 ∧ w = v
def Ap (κ : Nat → Nat) (G : Nat → Nat) (B : Nat → Nat × Nat) (S : Gst) (a : Hp) (n : Mr Int32) (r : Ex ⊕ Int32) (b : Hp) : Prop :=
  ∃ B' S', (JC G B' S' b ∧ Frm G B a b ∧ (∀ q, q < hSz a → B' q = B q) ∧ hSz b ≤ hSz a + 400 ∧ hSl b ≤ hSl a + 2500) ∧ ∀ c, JT G S c → Wp n c (fun w d => JT G S' d ∧ Tf G c d ∧ Rs κ r w (hI d (G 10) 5))
abbrev Act (κ : Nat → Nat) (G : Nat → Nat) (B : Nat → Nat × Nat) (S : Gst) (a : Hp) (m : Mr (Ex ⊕ Int32)) (n : Mr Int32) : Prop := Wp m a (Ap κ G B S a n)
theorem Act.op {κ : Nat → Nat} {G : Nat → Nat} {B : Nat → Nat × Nat} {S : Gst} {a : Hp} {m : Nat → Mr (Ex ⊕ Int32)} {n : Mr Int32} (hC : JC G B S a) (hT : JT G S a) (hA : Act κ G B S a (m (G 0)) n) {hd : Ex → Mr Int32} (hh : ∀ e b, κ e.1 ≠ 0 → ∀ Q, Wp (hd e) b Q ↔ Q (nv (κ e.1)) b) :
    OpL G a (bd (rc 1 (some (G 0))) fun h' => bh (m h') hd fun x1 => bd (sL 44 (some (G 20)) 0 ((x1.toInt64).toUInt64)) fun _ => rt 0) n := by
  unfold OpL
  rw [w_bd, w_rc]
  refine ⟨by rw [hC.2.1.1.1], ?_⟩
  rw [w_bh]
  refine w_mono hA fun r b hb => ?_
  obtain ⟨B', S', ⟨jc, fr, hB, hz, hl⟩, tw⟩ := hb
  have hTb := fr.t hC.1 hT
  have fin : ∀ (x : Int32) (b' d : Hp) (w : Int32), (b' = b ∨ ∃ f, b' = hwL b (G 20) f) → JT G S' d → Tf G b' d → hI d (G 10) 5 = x → (x = nv 0 → hL d (G 20) 0 = w.toInt64.toUInt64) → Post G a x w d := by
    intro x b' d w hb' hjt htf h5 hv
    have hz2 : hSz b' = hSz b ∧ hSl b' = hSl b := by rcases hb' with rfl | ⟨f, rfl⟩ <;> exact ⟨rfl, rfl⟩
    have jcb : JC G B' S' b' := by
      rcases hb' with rfl | ⟨f, rfl⟩
      · exact jc
      · exact jc.wL _ _
    have hTb' : JT G S b' := by
      rcases hb' with rfl | ⟨f, rfl⟩
      · exact hTb
      · exact hTb.wL _ _
    have kb : Kp b b' := by rcases hb' with rfl | ⟨f, rfl⟩ <;> exact fun _ _ _ => ⟨rfl, rfl, rfl⟩
    refine ⟨h5, hv, ⟨B', S', jcb.tw hTb'.1 htf.ep, hjt⟩, ⟨by rw [htf.sz]; omega, by rw [htf.sl]; omega⟩, ?_⟩
    exact (fr.2.1.tr fr.1.1 kb).tr (by rw [hz2.1]; exact fr.1.1) (htf.ep.kp (fun q hq => tG_k hTb'.1 hq))
  cases r with
  | inl e =>
    rw [sm_l]
    obtain ⟨w0, d0, -, -, -, hr0⟩ := (tw b hTb)
    rw [hh e b hr0.1]
    refine w_mono (tw b hTb) fun w d hd => ?_
    obtain ⟨h1, h2, h3, h4, h5⟩ := hd
    exact fin _ b d w (.inl rfl) h1 h2 h5 (fun e0 => absurd e0 (by rw [nv_eq (by omega) (by omega)]; exact h3))
  | inr x =>
    rw [sm_r]
    simp (disch := omega) only [↓w_bd, ↓w_rt, ↓w_bh, sm_l, sm_r, ↓w_okr, ↓w_nm, ↓w_ite, ↓reduceIte, not_true_eq_false, not_false_eq_true, and_true, true_and, and_self, Option.some.injEq, reduceCtorEq, eq_self, ↓w_rc, ↓w_gI, ↓w_gR, ↓w_aN, ↓w_aI, ↓w_aR, ↓w_aL, ↓w_pI, ↓w_pR, ↓w_sI, ↓w_sR, ↓w_sL, ↓w_nO, ↓w_nA, ↓w_nL, ↓w_ca, ↓w_ca0, ↓w_gS, ↓w_gK, ↓w_dv, ↓w_tw, ↓w_rz, ↓w_no, nv_lit, nv_f, nv_add, nv_mul, nv_sub, nv_le, nv_lt, nv_eq, nv_cl, Nat.reduceMod, Nat.reduceMul, Nat.reduceAdd, Nat.zero_add, Nat.add_zero, Nat.mul_zero, decide_eq_true_eq, nv_inT, jc.2.1]
    refine w_mono (tw (ol G b x) (hTb.wL _ _)) fun w d hd => ?_
    obtain ⟨h1, h2, h3, h4⟩ := hd
    refine fin _ _ d w (.inr ⟨_, rfl⟩) h1 h2 h3 (fun _ => ?_)
    rw [h2.l, h4]
    exact ol_0 G b x
/-! refused -/
def sF (S : Gst) (i : Nat) : Gst := (S.1, ((up1 (gf S) i (gf S i + nv 1), S.2.1.2), S.2.2))
def rfc (G : Nat → Nat) (a : Hp) (i : Nat) : Hp := hwI a (G 4) (up1 (hI a (G 4)) i (hI a (G 4) i + nv 1))
def rft (G : Nat → Nat) (a : Hp) (i : Nat) : Hp := hwI a (G 13) (up1 (hI a (G 13)) i (hI a (G 13) i + nv 1))
theorem rfc_ep (G : Nat → Nat) (a : Hp) (i : Nat) : EP (fun q => q = G 4) a (rfc G a i) := (EP.rf (fun q => q = G 4) a).wI (.inl rfl) _
theorem JC.rf {G : Nat → Nat} {B : Nat → Nat × Nat} {S : Gst} {a : Hp} (h : JC G B S a) (i : Nat) : JC G B (sF S i) (rfc G a i) := by
  have hG := h.1.gd
  have ep := rfc_ep G a i
  obtain ⟨j1, j2, j3, j4, j5, j6, j7, j8, j9, j10⟩ := h
  have e := fun j (hj : j < 22) (hn : j ≠ 4) => (ep.2.2 (G j) (j1 j hj).1 (hG.ne hj (by omega) hn)).2.2.2
  have k4 := j2.2.1.2.2.2.1
  refine ⟨j1, ?_, ⟨j3.1, fun k p hp => ?_, j3.2.2⟩, ?_, j5, ?_, ?_, ?_, ?_, j10.ep ep (fun q hq => by rw [hq, k4]; omega)⟩
  · unfold JX at *
    rw [e 5 (by omega) (by omega)]
    exact j2
  · obtain ⟨q1, q2, q3⟩ := j3.2.1 k p hp
    refine ⟨q1, q2.ep ep (fun q hq => ?_) (fun _ _ => rfl), q3⟩
    rw [hq, (j1 4 (by omega)).2, k4]
    exact ⟨by simp, by omega⟩
  · unfold JD at *
    rw [e 2 (by omega) (by omega)]
    exact j4
  · intro k hk
    show hI (hwI a (G 4) _) (G 4) k = up1 (gf S) i (gf S i + nv 1) k
    rw [hI_wI, up1_s]
    by_cases c : k = i
    · rw [c, up1_s, up1_s]
      rw [c] at hk
      rw [j6 i hk]
    · rw [up1_n _ _ c, up1_n _ _ c]
      exact j6 k hk
  · unfold JL at *
    rw [e 0 (by omega) (by omega), e 1 (by omega) (by omega)]
    exact j7
  · unfold JE at *
    rw [e 0 (by omega) (by omega)]
    exact j8
  · unfold JO at *
    rw [e 5 (by omega) (by omega), e 7 (by omega) (by omega)]
    exact j9
theorem X1_refuse_w {G : Nat → Nat} {B : Nat → Nat × Nat} {S : Gst} {a : Hp} (hC : JC G B S a) {i : Nat} (hi : i < 10) (Q : Int32 → Hp → Prop) : Wp (X1_refuse (G 0) (nv i)) a Q ↔ Q (-nv i) (rfc G a i) := by
  have hJ := hC.2.1
  simp (disch := omega) only [X1_refuse, ↓w_bd, ↓w_rt, ↓w_bh, sm_l, sm_r, ↓w_okr, ↓w_nm, ↓w_ite, ↓reduceIte, not_true_eq_false, not_false_eq_true, and_true, true_and, and_self, Option.some.injEq, reduceCtorEq, eq_self, ↓w_rc, ↓w_gI, ↓w_gR, ↓w_aN, ↓w_aI, ↓w_aR, ↓w_aL, ↓w_pI, ↓w_pR, ↓w_sI, ↓w_sR, ↓w_sL, ↓w_nO, ↓w_nA, ↓w_nL, ↓w_ca, ↓w_ca0, ↓w_gS, ↓w_gK, ↓w_dv, ↓w_tw, ↓w_rz, ↓w_no, nv_lit, nv_f, nv_add, nv_mul, nv_sub, nv_le, nv_lt, nv_eq, nv_cl, Nat.reduceMod, Nat.reduceMul, Nat.reduceAdd, Nat.zero_add, Nat.add_zero, Nat.mul_zero, decide_eq_true_eq, nv_inT, hJ, nr41]
  rfl
theorem JT.rf {G : Nat → Nat} {S : Gst} {a : Hp} (hG : GD G) (h : JT G S a) (i : Nat) : JT G (sF S i) (rft G a i) ∧ Tf G a (rft G a i) := by
  have e := fun j (hj : j < 22) (hn : j ≠ 13) => (((EP.rf (fun q => q = G 13) a).wI (.inl rfl) (up1 (hI a (G 13)) i (hI a (G 13) i + nv 1)) : EP _ a (rft G a i))).2.2
  have o := fun q (hn : q ≠ G 13) => (show hI (rft G a i) q = hI a q by unfold rft; rw [hI_wI, up1_n _ _ hn])
  have n := fun j (hj : j < 22) (hn : j ≠ 13) => o (G j) (hG.ne hj (by omega) hn)
  refine ⟨?_, rfl, rfl, fun q _ _ _ h4 _ _ _ _ => o q h4, fun j _ _ _ => congrFun (n 10 (by omega) (by omega)) j⟩
  obtain ⟨h1, h2, h3, h4, h5, h6, ⟨h7, h8⟩, h9, h11⟩ := h
  refine ⟨h1, ?_, ?_, ?_, ?_, fun k hk => ?_, ⟨?_, ?_⟩, ?_, ?_⟩
  · rw [n 10 (by omega) (by omega)]; exact h2
  · rw [n 10 (by omega) (by omega)]; exact h3
  · rw [n 11 (by omega) (by omega)]; exact h4
  · rw [n 12 (by omega) (by omega)]; exact h5
  · show hI (hwI a (G 13) _) (G 13) k = up1 (gf S) i (gf S i + nv 1) k
    rw [hI_wI, up1_s]
    by_cases c : k = i
    · rw [c, up1_s, up1_s]
      rw [c] at hk
      rw [h6 i hk]
    · rw [up1_n _ _ c, up1_n _ _ c]
      exact h6 k hk
  · rw [n 10 (by omega) (by omega)]; exact h7
  · rw [n 16 (by omega) (by omega)]; exact h8
  · rw [n 10 (by omega) (by omega)]; exact h9
  · rw [n 10 (by omega) (by omega), n 19 (by omega) (by omega)]; exact h11
theorem X5_refuses_w {G : Nat → Nat} {a : Hp} (hF : FT G a) {i : Nat} (hi : i < 10) (Q : Int32 → Hp → Prop) : Wp (X5_refuses (G 10) (nv i)) a Q ↔ Q (-nv i) (rft G a i) := by
  simp (disch := omega) only [X5_refuses, ↓w_bd, ↓w_rt, ↓w_bh, sm_l, sm_r, ↓w_okr, ↓w_nm, ↓w_ite, ↓reduceIte, not_true_eq_false, not_false_eq_true, and_true, true_and, and_self, Option.some.injEq, reduceCtorEq, eq_self, ↓w_rc, ↓w_gI, ↓w_gR, ↓w_aN, ↓w_aI, ↓w_aR, ↓w_aL, ↓w_pI, ↓w_pR, ↓w_sI, ↓w_sR, ↓w_sL, ↓w_nO, ↓w_nA, ↓w_nL, ↓w_ca, ↓w_ca0, ↓w_gS, ↓w_gK, ↓w_dv, ↓w_tw, ↓w_rz, ↓w_no, nv_lit, nv_f, nv_add, nv_mul, nv_sub, nv_le, nv_lt, nv_eq, nv_cl, Nat.reduceMod, Nat.reduceMul, Nat.reduceAdd, Nat.zero_add, Nat.add_zero, Nat.mul_zero, decide_eq_true_eq, nv_inT, hF, nr41]
  rfl
theorem ap_ref {κ : Nat → Nat} {G : Nat → Nat} {B : Nat → Nat × Nat} {S : Gst} {a b : Hp} {n : Mr Int32} (hC : JC G B S a) (hE : E0 a b) (hz : hSz b ≤ hSz a + 400) (hl : hSl b ≤ hSl a + 2500) {i : Nat} (hi : i < 10)
    (hn : ∀ c, JT G S c → ∀ Q, (∀ d, Sx G (th G c (nv 0)) d → Wp (X5_refuses (G 10) (nv i)) d Q) → Wp n c Q) : Ap κ G B S a n (.inr (-nv i)) (rfc G b i) := by
  have hG := hC.1.gd
  have hb := hC.e0 hE
  refine ⟨B, sF S i, ⟨hb.rf i, (hE.fr G B).tr (fun _ _ => rfl) ((rfc_ep G b i).fr fun q hq _ => ?_), fun _ _ => rfl, hz, hl⟩, fun c hc => hn c hc _ fun d hd => ?_⟩
  · rw [hq]
    exact ⟨.inr ⟨4, by omega, rfl⟩, by rw [hb.2.1.2.1.2.2.2.1]; omega⟩
  · have hd2 : JT G S d := (hc.th hG (nv 0)).sx hG hd
    rw [X5_refuses_w hd2.1 hi]
    refine ⟨(hd2.rf hG i).1, ((Tf.thr G c (nv 0)).tr (hd.tf hG)).tr (hd2.rf hG i).2, ?_, rfl⟩
    show hI (hwI d (G 13) _) (G 10) 5 = nv 0
    rw [hI_wI, up1_n _ _ (hG.ne (by omega) (by omega) (by omega)), hd.2.2 (G 10) (hG.ne (by omega) (by omega) (by omega)) (hG.ne (by omega) (by omega) (by omega)) (hG.ne (by omega) (by omega) (by omega)), th_5]
theorem ap_x {κ : Nat → Nat} {G : Nat → Nat} {B : Nat → Nat × Nat} {S : Gst} {a b : Hp} {n : Mr Int32} (hC : JC G B S a) (hE : E0 a b) (hz : hSz b ≤ hSz a + 400) (hl : hSl b ≤ hSl a + 2500) {e : Ex} {k : Nat} (hk : κ e.1 = k) (h0 : k ≠ 0) (h1 : k < 100)
    (hn : ∀ c, JT G S c → ∀ Q, (∀ w, Q w (th G c (nv k))) → Wp n c Q) : Ap κ G B S a n (.inl e) b := by
  have hG := hC.1.gd
  refine ⟨B, S, ⟨hC.e0 hE, hE.fr G B, fun _ _ => rfl, hz, hl⟩, fun c hc => hn c hc _ fun w => ⟨hc.th hG _, Tf.thr G c _, ?_, ?_, ?_⟩⟩
  · rw [hk]; exact h0
  · rw [hk]; exact h1
  · rw [hk, th_5]
/-! the component's market laid anew -/
def Cn (G : Nat → Nat) (B : Nat → Nat × Nat) (a b : Hp) (L : Nat → Nat) (R : Nat → Int32) : Prop := Mk B b L R ∧ EP (fun q => q < hSz a ∧ (B q).1 = L 0 + 1 ∧ hK a q < 100 ∧ hK a q ≠ 10) a b ∧ (∀ q, q < hSz a → hK b q = hK a q) ∧ (FX G a L → FX G b L) ∧ (B (G 0)).1 = 0
theorem Cn.rf {G : Nat → Nat} {B : Nat → Nat × Nat} {a : Hp} {L : Nat → Nat} {R : Nat → Int32} (hM : Mk B a L R) (h0 : (B (G 0)).1 = 0) : Cn G B a a L R := ⟨hM, EP.rf _ a, fun _ _ => rfl, id, h0⟩
theorem kd_b (r : Nat) : kd r < 100 ∧ kd r ≠ 10 := by
  unfold kd
  (repeat' split) <;> omega
theorem Cn.P {G : Nat → Nat} {B : Nat → Nat × Nat} {a b : Hp} {L : Nat → Nat} {R : Nat → Int32} (h : Cn G B a b L R) {r : Nat} (hr : lv R r) : (L r < hSz a ∧ (B (L r)).1 = L 0 + 1 ∧ hK a (L r) < 100 ∧ hK a (L r) ≠ 10) ∨ hSz a ≤ L r := by
  by_cases c : L r < hSz a
  · have h1 := h.1.2.1 r hr
    rw [h.2.2.1 _ c] at h1
    refine .inl ⟨c, by rw [h1.2.1], ?_, ?_⟩
    · rw [h1.2.2]; exact (kd_b r).1
    · rw [h1.2.2]; exact (kd_b r).2
  · exact .inr (by omega)
theorem Cn.n0 {G : Nat → Nat} {B : Nat → Nat × Nat} {a b : Hp} {L : Nat → Nat} {R : Nat → Int32} (h : Cn G B a b L R) {r : Nat} (hr : lv R r) : G 0 ≠ L r := fun e => by
  have h1 := (h.1.2.1 r hr).2.1
  have h2 := h.2.2.2.2
  rw [e, h1] at h2
  simp at h2
theorem Cn.wI {G : Nat → Nat} {B : Nat → Nat × Nat} {a b : Hp} {L : Nat → Nat} {R : Nat → Int32} (h : Cn G B a b L R) {r j i : Nat} (v : Int32) (hc : Ci R r j i) (h0 : i ≠ 0) (h1 : i ≠ 1) (h3 : i ≠ 3) (hR : ∀ x, x < 10 → i ≠ 15 + 7 * x + 1) (hf : i < 85 ∨ 185 ≤ i) : Cn G B a (hwI b (L r) (up1 (hI b (L r)) j v)) L (up1 R i v) :=
  ⟨h.1.wI v hc h0 h1 h3 (fun x hx => hR x (by have := (mk_w h.1).2.1.2; omega)) hf, h.2.1.wI (h.P (ci_lv hc)) _, h.2.2.1, h.2.2.2.1, h.2.2.2.2⟩
theorem Cn.wF {G : Nat → Nat} {B : Nat → Nat × Nat} {a b : Hp} {L : Nat → Nat} {R : Nat → Int32} (h : Cn G B a b L R) {x y : Nat} (hx : x < 10) (hy : y < 10) {v : Option Nat} {w : Int32} (hv : (w = -1 ∧ v = none) ∨ ∃ f, v = some f ∧ x ≠ y ∧ W3 w ∧ Fw_ b f x y w) : Cn G B a (hwR b (L (10 + x)) (up1 (hR b (L (10 + x))) y v)) L (up1 R (85 + 10 * x + y) w) := by
  refine ⟨h.1.wF hx hy hv, h.2.1.wR (h.P (lv_10 hx)) _, h.2.2.1, fun hx0 => ⟨(h.2.2.2.1 hx0).1, ?_, (h.2.2.2.1 hx0).2.2⟩, h.2.2.2.2⟩
  rw [hR_wR, up1_n _ _ (h.n0 (lv_10 hx))]
  exact (h.2.2.2.1 hx0).2.1
theorem Cn.e0 {G : Nat → Nat} {B : Nat → Nat × Nat} {a b c : Hp} {L : Nat → Nat} {R : Nat → Int32} (h : Cn G B a b L R) (g : E0 b c) : Cn G B a c L R :=
  ⟨h.1.ext g (fun _ _ => rfl), h.2.1.tr (g.ep _), fun q hq => ((g.2.2 q (Nat.lt_of_lt_of_le hq h.2.1.1)).1).trans (h.2.2.1 q hq), fun hx0 => (h.2.2.2.1 hx0).ext g, h.2.2.2.2⟩
/-! the twin's row laid anew -/
def Tn (G : Nat → Nat) (a c : Hp) (R : Nat → Int32) : Prop := (c.1 = a.1 ∧ c.2.2 = a.2.2) ∧ (∀ q, q ≠ G 14 → q ≠ G 15 → q ≠ G 18 → q ≠ G 11 → q ≠ G 10 → hI c q = hI a q) ∧ (∀ j, j ≠ 5 → hI c (G 10) j = hI a (G 10) j) ∧ (∀ j, 545 ≤ j → j < 4905 → hI c (G 11) j = hI a (G 11) j) ∧ (∀ k, k < 545 → hI c (G 11) k = R k) ∧ hI c (G 10) 5 = hI a (G 10) 5
theorem Tn.rf {G : Nat → Nat} {a : Hp} {R : Nat → Int32} (h : FO G a 0 R) : Tn G a a R := ⟨⟨rfl, rfl⟩, fun _ _ _ _ _ _ => rfl, fun _ _ => rfl, fun _ _ _ => rfl, fun k hk => by have := h.2.2.2 k hk; rwa [Nat.mul_zero, Nat.zero_add] at this, rfl⟩
theorem Tn.fo {G : Nat → Nat} {a c : Hp} {R R0 : Nat → Int32} (h : Tn G a c R) (hF : FO G a 0 R0) : FO G c 0 R := by
  have eK : hK c = hK a := congrArg (fun x => x.1.2.1) h.1.1
  have eN : hN c = hN a := congrArg (fun x => x.1.2.2) h.1.1
  have eR : hR c = hR a := congrArg (fun x => x.1) h.1.2
  refine ⟨?_, ?_, by omega, fun k hk => by rw [Nat.mul_zero, Nat.zero_add]; exact h.2.2.2.2.1 k hk⟩
  · have := hF.1
    unfold FT at *
    rw [eK, eN, eR]
    exact this
  · rw [h.2.2.1 3 (by omega)]; exact hF.2.1
theorem Tn.lay {G : Nat → Nat} {a c : Hp} {R : Nat → Int32} (hG : GD G) (h : Tn G a c R) {k : Nat} (hk : k < 545) (v : Int32) : Tn G a (ly G c 0 k v) (up1 R k v) := by
  have n := hG.ne (show 10 < 22 by omega) (show 11 < 22 by omega) (by omega)
  have o : ∀ q, q ≠ G 11 → hI (ly G c 0 k v) q = hI c q := fun q hq => by unfold ly; rw [hI_wI, up1_n _ _ hq]
  have s : ∀ j, hI (ly G c 0 k v) (G 11) j = up1 (hI c (G 11)) k v j := fun j => by unfold ly; rw [hI_wI, up1_s, Nat.mul_zero, Nat.zero_add]
  refine ⟨h.1, fun q h1 h2 h3 h4 h5 => by rw [o q h4]; exact h.2.1 q h1 h2 h3 h4 h5, fun j hj => by rw [o _ n]; exact h.2.2.1 j hj, fun j h1 h2 => ?_, fun j hj => ?_, by rw [o _ n]; exact h.2.2.2.2.2⟩
  · rw [s, up1_n _ _ (by omega)]; exact h.2.2.2.1 j h1 h2
  · rw [s]
    by_cases d : j = k
    · rw [d, up1_s, up1_s]
    · rw [up1_n _ _ d, up1_n _ _ d]; exact h.2.2.2.2.1 j hj
theorem Tn.sx {G : Nat → Nat} {a c d : Hp} {R : Nat → Int32} (hG : GD G) (h : Tn G a c R) (g : Sx G c d) : Tn G a d R := by
  have e := fun i (hi : i < 22) (hn : i ≠ 14 ∧ i ≠ 15 ∧ i ≠ 18) => g.2.2 (G i) (hG.ne hi (by omega) hn.1) (hG.ne hi (by omega) hn.2.1) (hG.ne hi (by omega) hn.2.2)
  exact ⟨⟨g.1.trans h.1.1, g.2.1.trans h.1.2⟩, fun q h1 h2 h3 h4 h5 => (g.2.2 q h1 h2 h3).trans (h.2.1 q h1 h2 h3 h4 h5), fun j hj => by rw [e 10 (by omega) (by omega)]; exact h.2.2.1 j hj, fun j h1 h2 => by rw [e 11 (by omega) (by omega)]; exact h.2.2.2.1 j h1 h2, fun k hk => by rw [e 11 (by omega) (by omega)]; exact h.2.2.2.2.1 k hk, by rw [e 10 (by omega) (by omega)]; exact h.2.2.2.2.2⟩
theorem Tn.jt {G : Nat → Nat} {S : Gst} {a c : Hp} {L : Nat → Nat} {R : Nat → Int32} (hG : GD G) (hm : ∀ i p, gm S i = some p → i < 9) (hT : JT G S a) (h : Tn G a c R) : JT G (sN S (L, R)) c :=
  JT.now hG hm hT h.1.1 h.1.2 (fun i hi h1 h2 h3 h4 h5 => h.2.1 (G i) (hG.ne hi (by omega) h1) (hG.ne hi (by omega) h2) (hG.ne hi (by omega) h3) (hG.ne hi (by omega) h4) (hG.ne hi (by omega) h5)) h.2.2.1 h.2.2.2.1 h.2.2.2.2.1
theorem Tn.tf {G : Nat → Nat} {a c : Hp} {R : Nat → Int32} (h : Tn G a c R) : Tf G a c := ⟨h.1.1, h.1.2, fun q h1 h2 _ _ h5 h6 h7 _ => h.2.1 q h5 h6 h7 h2 h1, fun j _ h2 _ => h.2.2.1 j h2⟩
theorem sK_0 (S : Gst) (p : Mp) : gm (sK S p) 0 = gm S 0 := by
  unfold sK
  split
  · show (if 1 ≤ 0 ∧ 0 ≤ 5 then gm S (0 + 1) else if 0 = 6 then some p else gm S 0) = _
    rw [if_neg (by omega), if_neg (by omega)]
  · exact up1_n (gm S) _ (by omega)
/-- kept, then laid anew -/
theorem ap_nowL {κ : Nat → Nat} {G : Nat → Nat} {B B1 B2 : Nat → Nat × Nat} {S : Gst} {a b1 b : Hp} {L L' L2 : Nat → Nat} {R R' : Nat → Int32} {n : Mr Int32} {v : Int32} (hL : L2 0 = L 0) (hC : JC G B S a) (h0 : gm S 0 = some (L, R)) (hF : Frm G B a b1) (hB : ∀ q, q < hSz a → B1 q = B q) (hC1 : JC G B1 (sK S (L', R)) b1) (hn : Cn G B2 b1 b L2 R') (hB2 : ∀ q, q < hSz b1 → B2 q = B1 q) (hR : Ro R')
    (hz : hSz b ≤ hSz a + 400) (hl : hSl b ≤ hSl a + 2500) (tw : ∀ c, JT G S c → ∀ Q, (∀ c1 d, Tf G c c1 → hI c1 (G 10) 5 = nv 0 → JT G (sK S (L', R)) c1 → Tn G c1 d R' → Q v d) → Wp n c Q) : Ap κ G B S a n (.inr v) b := by
  have hG := hC.1.gd
  have g0 : gm (sK S (L', R)) 0 = some (L, R) := (sK_0 S _).trans h0
  have hP : ∀ q, (q < hSz b1 ∧ (B2 q).1 = L2 0 + 1 ∧ hK b1 q < 100 ∧ hK b1 q ≠ 10) → (B1 q).1 = L 0 + 1 ∧ hK b1 q < 100 ∧ hK b1 q ≠ 10 := fun q hq => ⟨by rw [← hB2 q hq.1, ← hL]; exact hq.2.1, hq.2.2⟩
  refine ⟨B2, sN (sK S (L', R)) (L2, R'), ⟨JC.nowL hL hC1 g0 hn.2.1 hP hB2 hn.1 hR, hF.tr hB (hn.2.1.fr fun q hq _ => ⟨.inl ?_, hq.2.2.1⟩), fun q hq => (hB2 q (Nat.lt_of_lt_of_le hq hF.1.1)).trans (hB q hq), hz, hl⟩, fun c hc => tw c hc _ fun c1 d h1 h5 h2 h3 => ⟨h3.jt hG (fun i p hp => (hC1.2.2.1.2.1 i p hp).1) h2, h1.tr h3.tf, ?_, rfl⟩⟩
  · rw [(hP q hq).1]; omega
  · rw [h3.2.2.2.2.2]; exact h5
theorem ap_now {κ : Nat → Nat} {G : Nat → Nat} {B B1 B2 : Nat → Nat × Nat} {S : Gst} {a b1 b : Hp} {L L' : Nat → Nat} {R R' : Nat → Int32} {n : Mr Int32} {v : Int32} (hC : JC G B S a) (h0 : gm S 0 = some (L, R)) (hF : Frm G B a b1) (hB : ∀ q, q < hSz a → B1 q = B q) (hC1 : JC G B1 (sK S (L', R)) b1) (hn : Cn G B2 b1 b L R') (hB2 : ∀ q, q < hSz b1 → B2 q = B1 q) (hR : Ro R')
    (hz : hSz b ≤ hSz a + 400) (hl : hSl b ≤ hSl a + 2500) (tw : ∀ c, JT G S c → ∀ Q, (∀ c1 d, Tf G c c1 → hI c1 (G 10) 5 = nv 0 → JT G (sK S (L', R)) c1 → Tn G c1 d R' → Q v d) → Wp n c Q) : Ap κ G B S a n (.inr v) b := ap_nowL rfl hC h0 hF hB hC1 hn hB2 hR hz hl tw
/-- the twin keeps -/
theorem keeps_t {G : Nat → Nat} {B : Nat → Nat × Nat} {S : Gst} {a b c : Hp} (hC : JC G B S a) (hT : JT G S c) (hb : Sx G (th G c (nv 0)) b) {L : Nat → Nat} {R : Nat → Int32} (h0 : gm S 0 = some (L, R)) (L' : Nat → Nat) (Q : Unit → Hp → Prop) (hq : ∀ d, Tf G c d → hI d (G 10) 5 = nv 0 → JT G (sK S (L', R)) d → FO G d 0 R → Q () d) : Wp (X5_keeps (G 10)) b Q := by
  have hG := hC.1.gd
  refine X5_keeps_w hG ((hT.th hG (nv 0)).sx hG hb) hC.2.2.2.1.1 h0 L' (fun i p hp => (hC.2.2.1.2.1 i p hp).1) Q fun d h1 h2 => hq d (((Tf.thr G c (nv 0)).tr (hb.tf hG)).tr h1.tf) ?_ h2 (h2.fo (p := (L, R)) ((sK_0 S _).trans h0))
  rw [h1.2.2.2 5 (by omega), hb.2.2 (G 10) (hG.ne (by omega) (by omega) (by omega)) (hG.ne (by omega) (by omega) (by omega)) (hG.ne (by omega) (by omega) (by omega)), th_5]
/-- the component keeps -/
theorem keep_c {G : Nat → Nat} {B : Nat → Nat × Nat} {S : Gst} {a b : Hp} (hC : JC G B S a) (hE : E0 a b) {L : Nat → Nat} {R : Nat → Int32} (h0 : gm S 0 = some (L, R)) (Q : Unit → Hp → Prop)
    (h : ∀ d B' L', JC G B' (sK S (L', R)) d → Frm G B a d → (∀ x, x < hSz a → B' x = B x) → Mk B' d L R → FX G d L → Cn G B' d d L R → hSz d ≤ hSz b + 141 → hSl d ≤ hSl b + 706 → Q () d) : Wp (X1_keep (G 0)) b Q := by
  have hb := hC.e0 hE
  refine X1_keep_w hb h0 Q fun d B' L' q1 q2 q3 q4 q5 => ?_
  have g0 : gm (sK S (L', R)) 0 = some (L, R) := (sK_0 S _).trans h0
  have hM : Mk B' d L R := (JM.e q1 g0).1
  have hX : FX G d L := by
    obtain ⟨p, e1, e2⟩ := q1.2.2.1.1
    rw [g0] at e1
    cases e1
    exact ⟨q1.2.1.1.1, e2, (q1.1 0 (by omega)).1⟩
  refine h d B' L' q1 ((hE.fr G B).tr (fun _ _ => rfl) (q2.fr fun q hq _ => ⟨.inr ?_, pq_k hb q (p26_q hq)⟩)) (fun x hx => q3 x (Nat.lt_of_lt_of_le hx hE.1)) hM hX (Cn.rf hM (by rw [(q1.1 0 (by omega)).2])) q4 q5
  rcases hq with e | e
  · exact ⟨2, by omega, e⟩
  · exact ⟨6, by omega, e⟩
/-- the pairs of side 0 -/
theorem mk_p0 {B : Nat → Nat × Nat} {a : Hp} {L : Nat → Nat} {R : Nat → Int32} (hM : Mk B a L R) {c : Nat} (hc : c < nC R) : (hK a (L (100 + 2 * c)) = 41 ∧ hN a (L (100 + 2 * c)) = 5) ∧ ∀ r, r < 5 → hI a (L (100 + 2 * c)) r = cs R c (8 + r) := by
  have l : lv R (100 + 2 * c + 0) := lv_100 hc (by omega)
  have k := (hM.2.1 _ l).2.2
  have kk : kd (100 + 2 * c + 0) = 41 := by
    unfold kd
    (repeat' split) <;> omega
  refine ⟨⟨by rw [kk] at k; exact k, (mk_n hM).2.2.2.2.2 c 0 hc (by omega)⟩, fun r hr => ?_⟩
  exact (mk_i hM).2.2.2.2.2.2.2.2 c 0 r hc (by omega) hr
