/-! TEXT -/
theorem b255 (x : Int32) : x.toInt8.toInt32 &&& nv 255 = x &&& nv 255 := by
  apply Int32.toBitVec_inj.mp
  rw [Int32.toBitVec_and, Int32.toBitVec_and, Int8.toBitVec_toInt32, Int32.toBitVec_toInt8]
  have e : (nv 255).toBitVec = (255 : BitVec 32) := by decide
  rw [e]
  ext i hi
  by_cases c : i < 8
  · simp [BitVec.getElem_signExtend, c, hi]
  · have : (255#32)[i] = false := by
      have hf : ∀ j : Fin 32, ¬ j.val < 8 → (255#32).getLsbD j.val = false := by decide
      rw [← BitVec.getLsbD_eq_getElem hi]
      exact hf ⟨i, hi⟩ c
    simp [this]
theorem i8_r (x : Int32) : -128 ≤ x.toInt8.toInt32 ∧ x.toInt8.toInt32 ≤ 127 := by
  rw [Int32.le_iff_toInt_le, Int32.le_iff_toInt_le, Int8.toInt_toInt32]
  have h1 := Int8.le_toInt x.toInt8
  have h2 := Int8.toInt_lt x.toInt8
  have e1 : (-128 : Int32).toInt = -128 := by decide
  have e2 : (127 : Int32).toInt = 127 := by decide
  rw [e1, e2]
  omega
theorem i8_i (x : Int32) : x.toInt8.toInt32.toInt8.toInt32 = x.toInt8.toInt32 := by
  rw [Int8.toInt8_toInt32]
theorem nr42 (x : Int32) : nrA 42 (x.toInt8.toInt32) = x.toInt8.toInt32 := i8_i x
def sX (S : Gst) (l : Nat) (b : Nat → Int32) : Gst := (S.1, ((gf S, (l, b)), S.2.2))
def P01 (G : Nat → Nat) (q : Nat) : Prop := q = G 0 ∨ q = G 1
theorem JC.tx {G : Nat → Nat} {B : Nat → Nat × Nat} {S : Gst} {a b : Hp} (h : JC G B S a) (l : Nat) (f : Nat → Int32) (g : EP (P01 G) a b) (k : hK b = hK a ∧ hN b = hN a ∧ hR b = hR a) (e0 : ∀ j, j ≠ 1 → hI b (G 0) j = hI a (G 0) j) (jl : JL G (sX S l f) b) : JC G B (sX S l f) b := by
  have hG := h.1.gd
  obtain ⟨j1, j2, j3, j4, j5, j6, j7, j8, j9, j10⟩ := h
  have hP : ∀ q, P01 G q → (B q).1 = 0 ∧ hK a q < 100 ∧ hK a q ≠ 10 := by
    rintro q (rfl | rfl)
    · rw [(j1 0 (by omega)).2, j2.1.1]; exact ⟨rfl, by omega, by omega⟩
    · rw [(j1 1 (by omega)).2, j2.2.1.1]; exact ⟨rfl, by omega, by omega⟩
  have e := fun i (hi : i < 22) (hn : i ≠ 0 ∧ i ≠ 1) => (g.2.2 (G i) (j1 i hi).1 (fun hp => by
    rcases hp with e | e
    · exact hn.1 (hG i 0 hi (by omega) e)
    · exact hn.2 (hG i 1 hi (by omega) e))).2.2.2
  refine ⟨fun i hi => ⟨Nat.lt_of_lt_of_le (j1 i hi).1 g.1, (j1 i hi).2⟩, ?_, ⟨?_, fun i p hp => ?_, j3.2.2⟩, ?_, ?_, ?_, jl, ?_, ?_, j10.ep g (fun q hq => (hP q hq).2.1)⟩
  · unfold JX at *
    rw [k.1, k.2.1, k.2.2, e 5 (by omega) (by omega)]
    exact j2
  · rw [k.2.2]; exact j3.1
  · obtain ⟨q1, q2, q3⟩ := j3.2.1 i p hp
    exact ⟨q1, q2.ep g (fun q hq => ⟨by have := (hP q hq).1; omega, (hP q hq).2.2⟩) (fun _ _ => rfl), q3⟩
  · unfold JD at *
    rw [e 2 (by omega) (by omega), k.2.2]; exact j4
  · unfold JS at *
    rw [k.2.2]; exact j5
  · unfold JF at *
    rw [e 4 (by omega) (by omega)]; exact j6
  · unfold JE at *
    rw [e0 2 (by omega), e0 3 (by omega)]; exact j8
  · unfold JO at *
    rw [e 5 (by omega) (by omega), e 7 (by omega) (by omega)]; exact j9
theorem JT.tx {G : Nat → Nat} {S : Gst} {a b : Hp} (hG : GD G) (h : JT G S a) (l : Nat) (f : Nat → Int32) (k : b.1 = a.1 ∧ b.2.2 = a.2.2) (e : ∀ q, q ≠ G 10 → q ≠ G 16 → hI b q = hI a q) (e10 : ∀ j, j ≠ 5 → j ≠ 9 → hI b (G 10) j = hI a (G 10) j) (h9 : hI b (G 10) 9 = nv l) (h16 : ∀ i, i < l → hI b (G 16) i = f i &&& 255) : JT G (sX S l f) b := by
  have eK : hK b = hK a := congrArg (fun x => x.1.2.1) k.1
  have eN : hN b = hN a := congrArg (fun x => x.1.2.2) k.1
  have eR : hR b = hR a := congrArg (fun x => x.1) k.2
  have n := fun i (h1 : i < 22) (h2 : i ≠ 10 ∧ i ≠ 16) => e (G i) (hG.ne h1 (by omega) h2.1) (hG.ne h1 (by omega) h2.2)
  obtain ⟨h1, h2, h3, h4, h5, h6, ⟨h7, h8⟩, ⟨hh9, h10⟩, h11, h12⟩ := h
  refine ⟨?_, ?_, ?_, ?_, ?_, ?_, ⟨h9, h16⟩, ⟨?_, ?_⟩, ?_, ?_⟩
  · unfold FT at *
    rw [eK, eN, eR]
    exact h1
  · rw [e10 _ (by omega) (by omega)]; exact h2
  · rw [e10 _ (by omega) (by omega)]; exact h3
  · rw [n 11 (by omega) (by omega)]; exact h4
  · rw [n 12 (by omega) (by omega)]; exact h5
  · rw [n 13 (by omega) (by omega)]; exact h6
  · rw [e10 _ (by omega) (by omega)]; exact hh9
  · rw [e10 _ (by omega) (by omega)]; exact h10
  · rw [e10 _ (by omega) (by omega)]; exact h11
  · rw [n 19 (by omega) (by omega)]; exact h12
/-- behind a step of both: the twin's step touches what is its own -/
theorem after_h {G : Nat → Nat} {B B' : Nat → Nat × Nat} {S S' : Gst} {a b c : Hp} (hC : JC G B S a) (hT : JT G S a) (fr : Frm G B a b) (jc : JC G B' S' b) (hz : hSz b ≤ hSz a + 50000) (hl : hSl b ≤ hSl a + 228000) (jt : JT G S' c) (ep : EP (tG G) b c) (k : hSz c = hSz b ∧ hSl c = hSl b) : After G a c := by
  have hTb := fr.t hC.1 hT
  refine ⟨⟨B', S', jc.tw hTb.1 ep, jt⟩, ⟨by rw [k.1]; omega, by rw [k.2]; omega⟩, ?_⟩
  exact fr.2.1.tr fr.1.1 (ep.kp (fun q hq => tG_k hTb.1 hq))
/-- one byte behind the text -/
def tx1 (G : Nat → Nat) (a : Hp) (l : Nat) (v : Int32) : Hp := hwI (hwI a (G 1) (up1 (hI a (G 1)) l v)) (G 0) (up1 (hI (hwI a (G 1) (up1 (hI a (G 1)) l v)) (G 0)) 1 (nv (l + 1)))
theorem tx1_c {G : Nat → Nat} {B : Nat → Nat × Nat} {S : Gst} {a : Hp} (h : JC G B S a) (hl : gl S < 500) (v : Int32) (hv : -128 ≤ v ∧ v ≤ 127) : JC G B (sX S (gl S + 1) (up1 (gb S) (gl S) v)) (tx1 G a (gl S) v) ∧ EP (P01 G) a (tx1 G a (gl S) v) := by
  have hG := h.1.gd
  have n := hG.ne (show 0 < 22 by omega) (show 1 < 22 by omega) (by omega)
  have ep : EP (P01 G) a (tx1 G a (gl S) v) := ((EP.rf _ a).wI (.inl (.inr rfl)) _).wI (.inl (.inl rfl)) _
  have i0 : ∀ j, hI (tx1 G a (gl S) v) (G 0) j = up1 (hI a (G 0)) 1 (nv (gl S + 1)) j := fun j => by unfold tx1; rw [hI_wI, up1_s, hI_wI, up1_n _ _ n]
  have i1 : ∀ j, hI (tx1 G a (gl S) v) (G 1) j = up1 (hI a (G 1)) (gl S) v j := fun j => by unfold tx1; rw [hI_wI, up1_n _ _ (Ne.symm n), hI_wI, up1_s]
  obtain ⟨l1, l2, l3⟩ := h.2.2.2.2.2.2.1
  refine ⟨h.tx _ _ ep ⟨rfl, rfl, rfl⟩ (fun j hj => by rw [i0, up1_n _ _ hj]) ⟨by show gl S + 1 ≤ 500; omega, by rw [i0, up1_s]; rfl, fun i hi => ?_⟩, ep⟩
  have hi' : i < gl S + 1 := hi
  show hI (tx1 G a (gl S) v) (G 1) i = up1 (gb S) (gl S) v i ∧ -128 ≤ up1 (gb S) (gl S) v i ∧ up1 (gb S) (gl S) v i ≤ 127
  rw [i1]
  by_cases c : i = gl S
  · rw [c, up1_s, up1_s]; exact ⟨rfl, hv⟩
  · rw [up1_n _ _ c, up1_n _ _ c]; exact l3 i (by omega)
theorem X1_app_step {G : Nat → Nat} {B : Nat → Nat × Nat} {S : Gst} {a d : Hp} (h : JC G B S d) (hl : gl S < 500) (fr : Frm G B a d) (x : Int32) (K : Mr (Ex ⊕ Int32)) (Q : Ex ⊕ Int32 → Hp → Prop) (kk : ∀ e, JC G B (sX S (gl S + 1) (up1 (gb S) (gl S) (x.toInt8.toInt32))) e → Frm G B a e → hSz e = hSz d → hSl e = hSl d → Wp K e Q) :
    Wp (bd (gR 1 0 (some (G 0))) fun x2 => bd (gI 1 1 (some (G 0))) fun x3 => bd (sI 42 x2 x3 (x.toInt8.toInt32)) fun _ => bd (gI 1 1 (some (G 0))) fun x4 => bd (pI 0 1 1 (some (G 0)) (x4 + nv 1)) fun _ => K) d Q := by
  have hJ := h.2.1
  have n := h.1.gd.ne (show 0 < 22 by omega) (show 1 < 22 by omega) (by omega)
  obtain ⟨l1, l2, l3⟩ := h.2.2.2.2.2.2.1
  have i0 : hI (hwI d (G 1) (up1 (hI d (G 1)) (gl S) (x.toInt8.toInt32))) (G 0) 1 = nv (gl S) := by rw [hI_wI, up1_n _ _ n]; exact l2
  simp (disch := omega) only [↓w_bd, ↓w_rt, ↓w_bh, sm_l, sm_r, ↓w_okr, ↓w_nm, ↓w_ite, ↓reduceIte, not_true_eq_false, not_false_eq_true, and_true, true_and, and_self, Option.some.injEq, reduceCtorEq, eq_self, ↓w_rc, ↓w_gI, ↓w_gR, ↓w_aN, ↓w_aI, ↓w_aR, ↓w_aL, ↓w_pI, ↓w_pR, ↓w_sI, ↓w_sR, ↓w_sL, ↓w_nO, ↓w_nA, ↓w_nL, ↓w_ca, ↓w_ca0, ↓w_gS, ↓w_gK, ↓w_dv, ↓w_tw, ↓w_rz, ↓w_no, nv_lit, nv_f, nv_add, nv_mul, nv_sub, nv_le, nv_lt, nv_eq, nv_cl, Nat.reduceMod, Nat.reduceMul, Nat.reduceAdd, Nat.zero_add, Nat.add_zero, Nat.mul_zero, decide_eq_true_eq, nv_inT, hJ, l2, nr42, hK_wI, i0, okn]
  obtain ⟨c1, c2⟩ := tx1_c h hl _ (i8_r x)
  refine kk _ c1 (fr.tr (fun _ _ => rfl) (c2.fr fun q hq _ => ?_)) rfl rfl
  rcases hq with e | e
  · rw [e]; exact ⟨.inr ⟨0, by omega, rfl⟩, by rw [hJ.1.1]; omega⟩
  · rw [e]; exact ⟨.inr ⟨1, by omega, rfl⟩, by rw [hJ.2.1.1]; omega⟩
/-- the places of the bytes of a number -/
def wk (k : Nat) : Int32 := nv 24 - nv (8 * k)
theorem wk_n (k : Nat) : wk k + -nv 8 = wk (k + 1) := by
  unfold wk
  rw [show 8 * (k + 1) = 8 * k + 8 by omega, ← nv_add]
  simp only [Int32.sub_eq_add_neg, Int32.neg_add]
  ac_rfl
theorem wk_4 : wk 4 < nv 0 := by decide
theorem wk_l {k : Nat} (hk : k < 4) : ¬ wk k < nv 0 := by
  have hf : ∀ j : Fin 4, ¬ wk j.val < nv 0 := by decide
  exact hf ⟨k, hk⟩
def bts (S : Gst) (v : Int32) : Nat → Nat → Int32
  | 0 => gb S
  | k + 1 => up1 (bts S v k) (gl S + k) ((v >>> (wk k &&& nv 31)).toInt8.toInt32)
theorem X1_app_w {G : Nat → Nat} {B : Nat → Nat × Nat} {S : Gst} {a : Hp} (h : JC G B S a) (hl : gl S + 4 ≤ 500) (v : Int32) (Q : Ex ⊕ Int32 → Hp → Prop) (kk : ∀ e, JC G B (sX S (gl S + 4) (bts S v 4)) e → Frm G B a e → hSz e = hSz a → hSl e = hSl a → Q (.inr (nv (gl S + 4))) e) : Wp (X1_appendText_23 FU (G 0) v (nv 24)) a Q := by
  have l : ∀ (f k : Nat), k ≤ 4 → 4 - k < f → ∀ d, JC G B (sX S (gl S + k) (bts S v k)) d → Frm G B a d → hSz d = hSz a → hSl d = hSl a → Wp (X1_appendText_23 f (G 0) v (wk k)) d Q := by
    refine loopUp _ 4 ?_ ?_
    · intro f d hd fr z l
      have hJ := hd.2.1
      have l2 : hI d (G 0) 1 = nv (gl S + 4) := hd.2.2.2.2.2.2.1.2.1
      simp (disch := omega) only [X1_appendText_23, ↓w_bd, ↓w_rt, ↓w_bh, sm_l, sm_r, ↓w_okr, ↓w_nm, ↓w_ite, ↓reduceIte, not_true_eq_false, not_false_eq_true, and_true, true_and, and_self, Option.some.injEq, reduceCtorEq, eq_self, ↓w_rc, ↓w_gI, ↓w_gR, ↓w_aN, ↓w_aI, ↓w_aR, ↓w_aL, ↓w_pI, ↓w_pR, ↓w_sI, ↓w_sR, ↓w_sL, ↓w_nO, ↓w_nA, ↓w_nL, ↓w_ca, ↓w_ca0, ↓w_gS, ↓w_gK, ↓w_dv, ↓w_tw, ↓w_rz, ↓w_no, nv_lit, nv_f, nv_add, nv_mul, nv_sub, nv_le, nv_lt, nv_eq, nv_cl, Nat.reduceMod, Nat.reduceMul, Nat.reduceAdd, Nat.zero_add, Nat.add_zero, Nat.mul_zero, decide_eq_true_eq, nv_inT, wk_4, hJ, l2]
      exact kk d hd fr z l
    · intro f k hk ih d hd fr z l
      unfold X1_appendText_23
      rw [w_ite, if_neg (show ¬ wk k < (0 : Int32) from wk_l hk)]
      simp only [nv_lit]
      refine X1_app_step hd (show gl S + k < 500 by omega) fr _ _ _ fun e he fe ze le => ?_
      rw [wk_n]
      exact ih e he fe (ze.trans z) (le.trans l)
  exact l FU 0 (by omega) (by unfold FU; omega) a h (((E0.rf a).fr G B)) rfl rfl
theorem X5_app_w {G : Nat → Nat} {S : Gst} {c : Hp} (hG : GD G) (hT : JT G S c) (hl : gl S + 4 ≤ 500) (v : Int32) (Q : Int32 → Hp → Prop) (kk : ∀ d, JT G (sX S (gl S + 4) (bts S v 4)) d → EP (tG G) c d → d.1 = c.1 → d.2.2 = c.2.2 → hI d (G 10) 5 = hI c (G 10) 5 → Q (nv (gl S + 4)) d) : Wp (X5_appendText_35 FU (G 10) v (nv 24)) c Q := by
  have n := hG.ne (show 10 < 22 by omega) (show 16 < 22 by omega) (by omega)
  have l : ∀ (f k : Nat), k ≤ 4 → 4 - k < f → ∀ d, JT G (sX S (gl S + k) (bts S v k)) d → EP (tG G) c d → d.1 = c.1 → d.2.2 = c.2.2 → hI d (G 10) 5 = hI c (G 10) 5 → Wp (X5_appendText_35 f (G 10) v (wk k)) d Q := by
    refine loopUp _ 4 ?_ ?_
    · intro f d hd ep e1 e2 e5
      have h9 : hI d (G 10) 9 = nv (gl S + 4) := hd.2.2.2.2.2.2.1.1
      simp (disch := omega) only [X5_appendText_35, ↓w_bd, ↓w_rt, ↓w_bh, sm_l, sm_r, ↓w_okr, ↓w_nm, ↓w_ite, ↓reduceIte, not_true_eq_false, not_false_eq_true, and_true, true_and, and_self, Option.some.injEq, reduceCtorEq, eq_self, ↓w_rc, ↓w_gI, ↓w_gR, ↓w_aN, ↓w_aI, ↓w_aR, ↓w_aL, ↓w_pI, ↓w_pR, ↓w_sI, ↓w_sR, ↓w_sL, ↓w_nO, ↓w_nA, ↓w_nL, ↓w_ca, ↓w_ca0, ↓w_gS, ↓w_gK, ↓w_dv, ↓w_tw, ↓w_rz, ↓w_no, nv_lit, nv_f, nv_add, nv_mul, nv_sub, nv_le, nv_lt, nv_eq, nv_cl, Nat.reduceMod, Nat.reduceMul, Nat.reduceAdd, Nat.zero_add, Nat.add_zero, Nat.mul_zero, decide_eq_true_eq, nv_inT, wk_4, hd.1, h9]
      exact kk d hd ep e1 e2 e5
    · intro f k hk ih d hd ep e1 e2 e5
      have h9 : hI d (G 10) 9 = nv (gl S + k) := hd.2.2.2.2.2.2.1.1
      have hF := hd.1
      have i9 : ∀ g, hI (hwI d (G 16) g) (G 10) 9 = nv (gl S + k) := fun g => by rw [hI_wI, up1_n _ _ n]; exact h9
      simp (disch := omega) only [X5_appendText_35, ↓w_bd, ↓w_rt, ↓w_bh, sm_l, sm_r, ↓w_okr, ↓w_nm, ↓w_ite, ↓reduceIte, not_true_eq_false, not_false_eq_true, and_true, true_and, and_self, Option.some.injEq, reduceCtorEq, eq_self, ↓w_rc, ↓w_gI, ↓w_gR, ↓w_aN, ↓w_aI, ↓w_aR, ↓w_aL, ↓w_pI, ↓w_pR, ↓w_sI, ↓w_sR, ↓w_sL, ↓w_nO, ↓w_nA, ↓w_nL, ↓w_ca, ↓w_ca0, ↓w_gS, ↓w_gK, ↓w_dv, ↓w_tw, ↓w_rz, ↓w_no, nv_lit, nv_f, nv_add, nv_mul, nv_sub, nv_le, nv_lt, nv_eq, nv_cl, Nat.reduceMod, Nat.reduceMul, Nat.reduceAdd, Nat.zero_add, Nat.add_zero, Nat.mul_zero, decide_eq_true_eq, nv_inT, wk_l hk, hF, h9, nr41, hK_wI, i9, okn, wk_n]
      have oo : ∀ q f g, q ≠ G 10 → q ≠ G 16 → hI (hwI (hwI d (G 16) f) (G 10) g) q = hI d q := fun q f g h1 h2 => by rw [hI_wI, up1_n _ _ h1, hI_wI, up1_n _ _ h2]
      refine ih _ ?_ (ep.tr (((EP.rf _ d).wI (.inl ⟨16, by omega, by omega, rfl⟩) _).wI (.inl ⟨10, by omega, by omega, rfl⟩) _)) e1 e2 ?_
      · refine JT.tx hG hd (gl S + (k + 1)) (bts S v (k + 1)) ⟨rfl, rfl⟩ (fun q h1 h2 => oo q _ _ h1 h2) (fun j h1 h2 => ?_) ?_ (fun i hi => ?_)
        · rw [hI_wI, up1_s, up1_n _ _ h2, hI_wI, up1_n _ _ n]
        · rw [hI_wI, up1_s, up1_s]; rfl
        · rw [hI_wI, up1_n _ _ (Ne.symm n), hI_wI, up1_s]
          show _ = up1 (bts S v k) (gl S + k) ((v >>> (wk k &&& nv 31)).toInt8.toInt32) i &&& 255
          by_cases ei : i = gl S + k
          · rw [ei, up1_s, up1_s]
            exact (b255 _).symm
          · rw [up1_n _ _ ei, up1_n _ _ ei]
            exact hd.2.2.2.2.2.2.1.2 i (by show i < gl S + k; omega)
      · rw [hI_wI, up1_s, up1_n _ _ (by omega), hI_wI, up1_n _ _ n]; exact e5
  exact l FU 0 (by omega) (by unfold FU; omega) c hT (EP.rf _ c) rfl rfl rfl
theorem op_appendText {G : Nat → Nat} {B : Nat → Nat × Nat} {S : Gst} {a : Hp} (hC : JC G B S a) (hT : JT G S a) (v : Int32) : OpL G a (X0_appendText (some (G 0)) v (some (G 20))) (X5_appendText (G 10) v) := by
  have hG := hC.1.gd
  have hJ := hC.2.1
  have hs : ∀ i, i < 22 → G i < hSz a := fun i hi => (hC.1 i hi).1
  obtain ⟨l1, l2, l3⟩ := hC.2.2.2.2.2.2.1
  by_cases h : 500 < gl S + 4
  · have hTb := hT.e0 (tw_e a) hs
    have t5 := th_5 G (tw_ a) (nv 0)
    have hk5 : hK (th G (tw_ a) (nv 0)) (G 10) = 5 := hTb.1.1.1
    have h9 : hI (th G (tw_ a) (nv 0)) (G 10) 9 = nv (gl S) := by rw [th_n _ _ _ (by omega)]; exact hTb.2.2.2.2.2.2.1.1
    simp (disch := omega) only [OpL, X0_appendText, X1_appendText, X1_appendText_17, ↓w_bd, ↓w_rt, ↓w_bh, sm_l, sm_r, ↓w_okr, ↓w_nm, ↓w_ite, ↓reduceIte, not_true_eq_false, not_false_eq_true, and_true, true_and, and_self, Option.some.injEq, reduceCtorEq, eq_self, ↓w_rc, ↓w_gI, ↓w_gR, ↓w_aN, ↓w_aI, ↓w_aR, ↓w_aL, ↓w_pI, ↓w_pR, ↓w_sI, ↓w_sR, ↓w_sL, ↓w_nO, ↓w_nA, ↓w_nL, ↓w_ca, ↓w_ca0, ↓w_gS, ↓w_gK, ↓w_dv, ↓w_tw, ↓w_rz, ↓w_no, nv_lit, nv_f, nv_add, nv_mul, nv_sub, nv_le, nv_lt, nv_eq, nv_cl, Nat.reduceMod, Nat.reduceMul, Nat.reduceAdd, Nat.zero_add, Nat.add_zero, Nat.mul_zero, decide_eq_true_eq, nv_inT, hJ, l2, h, X1_requireState_0, Nat.reduceEqDiff]
    simp (disch := omega) only [X5_appendText, ↓w_bd, ↓w_rt, ↓w_bh, sm_l, sm_r, ↓w_okr, ↓w_nm, ↓w_ite, ↓reduceIte, not_true_eq_false, not_false_eq_true, and_true, true_and, and_self, Option.some.injEq, reduceCtorEq, eq_self, ↓w_rc, ↓w_gI, ↓w_gR, ↓w_aN, ↓w_aI, ↓w_aR, ↓w_aL, ↓w_pI, ↓w_pR, ↓w_sI, ↓w_sR, ↓w_sL, ↓w_nO, ↓w_nA, ↓w_nL, ↓w_ca, ↓w_ca0, ↓w_gS, ↓w_gK, ↓w_dv, ↓w_tw, ↓w_rz, ↓w_no, nv_lit, nv_f, nv_add, nv_mul, nv_sub, nv_le, nv_lt, nv_eq, nv_cl, Nat.reduceMod, Nat.reduceMul, Nat.reduceAdd, Nat.zero_add, Nat.add_zero, Nat.mul_zero, decide_eq_true_eq, nv_inT, th_f, th_K, th_N, th_R, th_5, th_2, okn0, Nat.reduceEqDiff, hTb.1, h9, h]
    simp (disch := omega) only [X5_appendText_23, ↓w_bd, ↓w_rt, ↓w_bh, sm_l, sm_r, ↓w_okr, ↓w_nm, ↓w_ite, ↓reduceIte, not_true_eq_false, not_false_eq_true, and_true, true_and, and_self, Option.some.injEq, reduceCtorEq, eq_self, ↓w_rc, ↓w_gI, ↓w_gR, ↓w_aN, ↓w_aI, ↓w_aR, ↓w_aL, ↓w_pI, ↓w_pR, ↓w_sI, ↓w_sR, ↓w_sL, ↓w_nO, ↓w_nA, ↓w_nL, ↓w_ca, ↓w_ca0, ↓w_gS, ↓w_gK, ↓w_dv, ↓w_tw, ↓w_rz, ↓w_no, nv_lit, nv_f, nv_add, nv_mul, nv_sub, nv_le, nv_lt, nv_eq, nv_cl, Nat.reduceMod, Nat.reduceMul, Nat.reduceAdd, Nat.zero_add, Nat.add_zero, Nat.mul_zero, decide_eq_true_eq, nv_inT, hk5, X5_holds_0 hk5 t5, th_2]
    exact post_x hC hT (tw_e a) (by rw [tw_z]; omega) (by rw [tw_l]; omega) (by omega) (by omega) _
  · simp (disch := omega) only [OpL, X0_appendText, X1_appendText, X1_appendText_17, ↓w_bd, ↓w_rt, ↓w_bh, sm_l, sm_r, ↓w_okr, ↓w_nm, ↓w_ite, ↓reduceIte, not_true_eq_false, not_false_eq_true, and_true, true_and, and_self, Option.some.injEq, reduceCtorEq, eq_self, ↓w_rc, ↓w_gI, ↓w_gR, ↓w_aN, ↓w_aI, ↓w_aR, ↓w_aL, ↓w_pI, ↓w_pR, ↓w_sI, ↓w_sR, ↓w_sL, ↓w_nO, ↓w_nA, ↓w_nL, ↓w_ca, ↓w_ca0, ↓w_gS, ↓w_gK, ↓w_dv, ↓w_tw, ↓w_rz, ↓w_no, nv_lit, nv_f, nv_add, nv_mul, nv_sub, nv_le, nv_lt, nv_eq, nv_cl, Nat.reduceMod, Nat.reduceMul, Nat.reduceAdd, Nat.zero_add, Nat.add_zero, Nat.mul_zero, decide_eq_true_eq, nv_inT, hJ, l2, h, X1_requireState_1 n10]
    refine X1_app_w hC (by omega) v _ fun e he fr z l => ?_
    have hJe := he.2.1
    have hTe := (fr.t hC.1 hT).wL (G 20) (up1 (hL e (G 20)) 0 (nv (gl S + 4)).toInt64.toUInt64)
    simp (disch := omega) only [↓w_bd, ↓w_rt, ↓w_bh, sm_l, sm_r, ↓w_okr, ↓w_nm, ↓w_ite, ↓reduceIte, not_true_eq_false, not_false_eq_true, and_true, true_and, and_self, Option.some.injEq, reduceCtorEq, eq_self, ↓w_rc, ↓w_gI, ↓w_gR, ↓w_aN, ↓w_aI, ↓w_aR, ↓w_aL, ↓w_pI, ↓w_pR, ↓w_sI, ↓w_sR, ↓w_sL, ↓w_nO, ↓w_nA, ↓w_nL, ↓w_ca, ↓w_ca0, ↓w_gS, ↓w_gK, ↓w_dv, ↓w_tw, ↓w_rz, ↓w_no, nv_lit, nv_f, nv_add, nv_mul, nv_sub, nv_le, nv_lt, nv_eq, nv_cl, Nat.reduceMod, Nat.reduceMul, Nat.reduceAdd, Nat.zero_add, Nat.add_zero, Nat.mul_zero, decide_eq_true_eq, nv_inT, hJe, ol_f]
    have hTo : JT G S (ol G e (nv (gl S + 4))) := hTe
    have t5 := th_5 G (ol G e (nv (gl S + 4))) (nv 0)
    have hT0 := hTo.th hG (nv 0)
    have hk5 : hK (th G (ol G e (nv (gl S + 4))) (nv 0)) (G 10) = 5 := hT0.1.1.1
    have h9 : hI (th G (ol G e (nv (gl S + 4))) (nv 0)) (G 10) 9 = nv (gl S) := hT0.2.2.2.2.2.2.1.1
    simp (disch := omega) only [X5_appendText, ↓w_bd, ↓w_rt, ↓w_bh, sm_l, sm_r, ↓w_okr, ↓w_nm, ↓w_ite, ↓reduceIte, not_true_eq_false, not_false_eq_true, and_true, true_and, and_self, Option.some.injEq, reduceCtorEq, eq_self, ↓w_rc, ↓w_gI, ↓w_gR, ↓w_aN, ↓w_aI, ↓w_aR, ↓w_aL, ↓w_pI, ↓w_pR, ↓w_sI, ↓w_sR, ↓w_sL, ↓w_nO, ↓w_nA, ↓w_nL, ↓w_ca, ↓w_ca0, ↓w_gS, ↓w_gK, ↓w_dv, ↓w_tw, ↓w_rz, ↓w_no, nv_lit, nv_f, nv_add, nv_mul, nv_sub, nv_le, nv_lt, nv_eq, nv_cl, Nat.reduceMod, Nat.reduceMul, Nat.reduceAdd, Nat.zero_add, Nat.add_zero, Nat.mul_zero, decide_eq_true_eq, nv_inT, th_f, th_K, th_N, th_R, th_5, th_2, okn0, Nat.reduceEqDiff, hTo.1, h9, h]
    simp (disch := omega) only [X5_appendText_23, ↓w_bd, ↓w_rt, ↓w_bh, sm_l, sm_r, ↓w_okr, ↓w_nm, ↓w_ite, ↓reduceIte, not_true_eq_false, not_false_eq_true, and_true, true_and, and_self, Option.some.injEq, reduceCtorEq, eq_self, ↓w_rc, ↓w_gI, ↓w_gR, ↓w_aN, ↓w_aI, ↓w_aR, ↓w_aL, ↓w_pI, ↓w_pR, ↓w_sI, ↓w_sR, ↓w_sL, ↓w_nO, ↓w_nA, ↓w_nL, ↓w_ca, ↓w_ca0, ↓w_gS, ↓w_gK, ↓w_dv, ↓w_tw, ↓w_rz, ↓w_no, nv_lit, nv_f, nv_add, nv_mul, nv_sub, nv_le, nv_lt, nv_eq, nv_cl, Nat.reduceMod, Nat.reduceMul, Nat.reduceAdd, Nat.zero_add, Nat.add_zero, Nat.mul_zero, decide_eq_true_eq, nv_inT, hk5, X5_holds_1 hk5 t5 n10, n10]
    refine X5_app_w hG hT0 (by omega) v _ fun d jd ep e1 e2 e5 => ?_
    have ep2 : EP (tG G) (ol G e (nv (gl S + 4))) d := (th_ep G _ (nv 0)).tr ep
    have zz : hSz d = hSz e ∧ hSl d = hSl e := ⟨congrArg (fun x => x.1.1.1) e1, congrArg (fun x => x.1.1.2) e1⟩
    refine ⟨by rw [e5]; exact t5, fun _ => ?_, ?_⟩
    · have : hL d = hL (ol G e (nv (gl S + 4))) := congrArg (fun x => x.2) e2
      rw [this]
      exact ol_0 G e _
    · exact after_h (b := ol G e (nv (gl S + 4))) hC hT fr (he.wL _ _) (by show hSz e ≤ _; omega) (by show hSl e ≤ _; omega) jd ep2 zz
theorem op_truncateText {G : Nat → Nat} {B : Nat → Nat × Nat} {S : Gst} {a : Hp} (hC : JC G B S a) (hT : JT G S a) (v : Int32) : OpL G a (X0_truncateText (some (G 0)) v (some (G 20))) (X5_truncateText (G 10) v) := by
  have hG := hC.1.gd
  have hJ := hC.2.1
  have hs : ∀ i, i < 22 → G i < hSz a := fun i hi => (hC.1 i hi).1
  obtain ⟨l1, l2, l3⟩ := hC.2.2.2.2.2.2.1
  by_cases h : inr v (gl S + 1)
  · obtain ⟨k, rfl, hk⟩ := inr_k h
    have hb := bw_1' h (by omega) (show gl S + 1 = gl S + 1 from rfl)
    obtain ⟨b, eb⟩ : ∃ b, b = hwI a (G 0) (up1 (hI a (G 0)) 1 (nv k)) := ⟨_, rfl⟩
    have ep : EP (P01 G) a b := by rw [eb]; exact (EP.rf _ a).wI (.inl (.inl rfl)) _
    have i0 : ∀ j, hI b (G 0) j = up1 (hI a (G 0)) 1 (nv k) j := fun j => by rw [eb, hI_wI, up1_s]
    have i1 : hI b (G 1) = hI a (G 1) := by rw [eb, hI_wI, up1_n _ _ (hG.ne (by omega) (by omega) (by omega))]
    have jb : JC G B (sX S k (gb S)) b := hC.tx k (gb S) ep (by rw [eb]; exact ⟨rfl, rfl, rfl⟩) (fun j hj => by rw [i0, up1_n _ _ hj]) ⟨by show k ≤ 500; omega, by rw [i0, up1_s]; rfl, fun i hi => by rw [i1]; exact l3 i (by have : i < k := hi; omega)⟩
    have fr : Frm G B a b := ep.fr fun q hq _ => by
      rcases hq with e | e
      · rw [e]; exact ⟨.inr ⟨0, by omega, rfl⟩, by rw [hJ.1.1]; omega⟩
      · rw [e]; exact ⟨.inr ⟨1, by omega, rfl⟩, by rw [hJ.2.1.1]; omega⟩
    have hJb := jb.2.1
    have b1 : hI b (G 0) 1 = nv k := by rw [i0, up1_s]
    simp (disch := omega) only [OpL, X0_truncateText, X1_truncateText, ↓w_bd, ↓w_rt, ↓w_bh, sm_l, sm_r, ↓w_okr, ↓w_nm, ↓w_ite, ↓reduceIte, not_true_eq_false, not_false_eq_true, and_true, true_and, and_self, Option.some.injEq, reduceCtorEq, eq_self, ↓w_rc, ↓w_gI, ↓w_gR, ↓w_aN, ↓w_aI, ↓w_aR, ↓w_aL, ↓w_pI, ↓w_pR, ↓w_sI, ↓w_sR, ↓w_sL, ↓w_nO, ↓w_nA, ↓w_nL, ↓w_ca, ↓w_ca0, ↓w_gS, ↓w_gK, ↓w_dv, ↓w_tw, ↓w_rz, ↓w_no, nv_lit, nv_f, nv_add, nv_mul, nv_sub, nv_le, nv_lt, nv_eq, nv_cl, Nat.reduceMod, Nat.reduceMul, Nat.reduceAdd, Nat.zero_add, Nat.add_zero, Nat.mul_zero, decide_eq_true_eq, nv_inT, hJ, l2, X1_isBetween_w, hb, X1_requireArgument_1 n10, okn, ← eb, hJb, b1, ol_f]
    have hTo : JT G S (ol G b (nv k)) := (fr.t hC.1 hT).wL (G 20) (up1 (hL b (G 20)) 0 (nv k).toInt64.toUInt64)
    have t5 := th_5 G (ol G b (nv k)) (nv 0)
    have hT0 := hTo.th hG (nv 0)
    have hk5 : hK (th G (ol G b (nv k)) (nv 0)) (G 10) = 5 := hT0.1.1.1
    have h9 : hI (th G (ol G b (nv k)) (nv 0)) (G 10) 9 = nv (gl S) := hT0.2.2.2.2.2.2.1.1
    simp (disch := omega) only [X5_truncateText, ↓w_bd, ↓w_rt, ↓w_bh, sm_l, sm_r, ↓w_okr, ↓w_nm, ↓w_ite, ↓reduceIte, not_true_eq_false, not_false_eq_true, and_true, true_and, and_self, Option.some.injEq, reduceCtorEq, eq_self, ↓w_rc, ↓w_gI, ↓w_gR, ↓w_aN, ↓w_aI, ↓w_aR, ↓w_aL, ↓w_pI, ↓w_pR, ↓w_sI, ↓w_sR, ↓w_sL, ↓w_nO, ↓w_nA, ↓w_nL, ↓w_ca, ↓w_ca0, ↓w_gS, ↓w_gK, ↓w_dv, ↓w_tw, ↓w_rz, ↓w_no, nv_lit, nv_f, nv_add, nv_mul, nv_sub, nv_le, nv_lt, nv_eq, nv_cl, Nat.reduceMod, Nat.reduceMul, Nat.reduceAdd, Nat.zero_add, Nat.add_zero, Nat.mul_zero, decide_eq_true_eq, nv_inT, th_f, th_K, th_N, th_R, th_5, th_2, okn0, Nat.reduceEqDiff, hTo.1, h9, X5_in_w, hb, hk5, X5_holds_1 hk5 t5 n10, n10, okn]
    have tb : JT G (sX S k (gb S)) (hwI (th G (ol G b (nv k)) (nv 0)) (G 10) (up1 (hI (th G (ol G b (nv k)) (nv 0)) (G 10)) 9 (nv k))) := by
      refine hT0.tx hG k (gb S) ⟨rfl, rfl⟩ (fun q h1 _ => by rw [hI_wI, up1_n _ _ h1]) (fun j _ h2 => by rw [hI_wI, up1_s, up1_n _ _ h2]) (by rw [hI_wI, up1_s, up1_s]) (fun i hi => ?_)
      rw [hI_wI, up1_n _ _ (hG.ne (by omega) (by omega) (by omega))]
      exact hT0.2.2.2.2.2.2.1.2 i (by omega)
    refine ⟨?_, fun _ => ol_0 G b _, ?_⟩
    · rw [hI_wI, up1_s, up1_n _ _ (by omega)]; exact t5
    · exact after_h (b := ol G b (nv k)) hC hT fr (jb.wL _ _) (by rw [eb]; show hSz a ≤ _; omega) (by rw [eb]; show hSl a ≤ _; omega) tb ((th_ep G _ (nv 0)).tr ((EP.rf _ _).wI (.inl ⟨10, by omega, by omega, rfl⟩) _)) ⟨rfl, rfl⟩
  · have hb := bw_0' h (by omega) (show gl S + 1 = gl S + 1 from rfl)
    have hTb := hT.e0 (tw_e a) hs
    have t5 := th_5 G (tw_ a) (nv 0)
    have hk5 : hK (th G (tw_ a) (nv 0)) (G 10) = 5 := hTb.1.1.1
    have h9 : hI (th G (tw_ a) (nv 0)) (G 10) 9 = nv (gl S) := by rw [th_n _ _ _ (by omega)]; exact hTb.2.2.2.2.2.2.1.1
    simp (disch := omega) only [OpL, X0_truncateText, X1_truncateText, ↓w_bd, ↓w_rt, ↓w_bh, sm_l, sm_r, ↓w_okr, ↓w_nm, ↓w_ite, ↓reduceIte, not_true_eq_false, not_false_eq_true, and_true, true_and, and_self, Option.some.injEq, reduceCtorEq, eq_self, ↓w_rc, ↓w_gI, ↓w_gR, ↓w_aN, ↓w_aI, ↓w_aR, ↓w_aL, ↓w_pI, ↓w_pR, ↓w_sI, ↓w_sR, ↓w_sL, ↓w_nO, ↓w_nA, ↓w_nL, ↓w_ca, ↓w_ca0, ↓w_gS, ↓w_gK, ↓w_dv, ↓w_tw, ↓w_rz, ↓w_no, nv_lit, nv_f, nv_add, nv_mul, nv_sub, nv_le, nv_lt, nv_eq, nv_cl, Nat.reduceMod, Nat.reduceMul, Nat.reduceAdd, Nat.zero_add, Nat.add_zero, Nat.mul_zero, decide_eq_true_eq, nv_inT, hJ, l2, X1_isBetween_w, hb, X1_requireArgument_0]
    simp (disch := omega) only [X5_truncateText, ↓w_bd, ↓w_rt, ↓w_bh, sm_l, sm_r, ↓w_okr, ↓w_nm, ↓w_ite, ↓reduceIte, not_true_eq_false, not_false_eq_true, and_true, true_and, and_self, Option.some.injEq, reduceCtorEq, eq_self, ↓w_rc, ↓w_gI, ↓w_gR, ↓w_aN, ↓w_aI, ↓w_aR, ↓w_aL, ↓w_pI, ↓w_pR, ↓w_sI, ↓w_sR, ↓w_sL, ↓w_nO, ↓w_nA, ↓w_nL, ↓w_ca, ↓w_ca0, ↓w_gS, ↓w_gK, ↓w_dv, ↓w_tw, ↓w_rz, ↓w_no, nv_lit, nv_f, nv_add, nv_mul, nv_sub, nv_le, nv_lt, nv_eq, nv_cl, Nat.reduceMod, Nat.reduceMul, Nat.reduceAdd, Nat.zero_add, Nat.add_zero, Nat.mul_zero, decide_eq_true_eq, nv_inT, th_f, th_K, th_N, th_R, th_5, th_2, okn0, Nat.reduceEqDiff, hTb.1, h9, X5_in_w, hb, X5_holds_0 hk5 t5]
    exact post_x hC hT (tw_e a) (by rw [tw_z]; omega) (by rw [tw_l]; omega) (by omega) (by omega) _
