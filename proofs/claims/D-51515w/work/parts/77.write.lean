/-! A LINE IS WRITTEN OUT -/
def sO (S : Gst) (o : Nat × (Nat → Int32)) : Gst := (S.1, (S.2.1, (S.2.2.1, o)))
def P57 (G : Nat → Nat) (q : Nat) : Prop := q = G 5 ∨ q = G 7
theorem JC.ou {G : Nat → Nat} {B : Nat → Nat × Nat} {S : Gst} {a b : Hp} (h : JC G B S a) (o : Nat × (Nat → Int32)) (g : EP (P57 G) a b) (k : hK b = hK a ∧ hN b = hN a ∧ hR b = hR a) (h1 : hI b (G 5) 1 = nv 0) (jo : JO G (sO S o) b) : JC G B (sO S o) b := by
  have hG := h.1.gd
  obtain ⟨j1, j2, j3, j4, j5, j6, j7, j8, j9, j10⟩ := h
  have hP : ∀ q, P57 G q → (B q).1 = 0 ∧ hK a q < 100 ∧ hK a q ≠ 10 := by
    rintro q (rfl | rfl)
    · rw [(j1 5 (by omega)).2, j2.2.1.2.2.2.2.1]; exact ⟨rfl, by omega, by omega⟩
    · rw [(j1 7 (by omega)).2, j2.2.1.2.2.2.2.2.2.1]; exact ⟨rfl, by omega, by omega⟩
  have e := fun i (hi : i < 22) (hn : i ≠ 5 ∧ i ≠ 7) => (g.2.2 (G i) (j1 i hi).1 (fun hp => by
    rcases hp with e | e
    · exact hn.1 (hG i 5 hi (by omega) e)
    · exact hn.2 (hG i 7 hi (by omega) e))).2.2.2
  refine ⟨fun i hi => ⟨Nat.lt_of_lt_of_le (j1 i hi).1 g.1, (j1 i hi).2⟩, ?_, ⟨?_, fun i p hp => ?_, j3.2.2⟩, ?_, ?_, ?_, ?_, ?_, jo, j10.ep g (fun q hq => (hP q hq).2.1)⟩
  · unfold JX at *
    rw [k.1, k.2.1, k.2.2, h1]
    exact ⟨j2.1, j2.2.1, j2.2.2.1, j2.2.2.2.1, j2.2.2.2.2.1, rfl⟩
  · rw [k.2.2]; exact j3.1
  · obtain ⟨q1, q2, q3⟩ := j3.2.1 i p hp
    exact ⟨q1, q2.ep g (fun q hq => ⟨by have := (hP q hq).1; omega, (hP q hq).2.2⟩) (fun _ _ => rfl), q3⟩
  · unfold JD at *
    rw [e 2 (by omega) (by omega), k.2.2]; exact j4
  · unfold JS at *
    rw [k.2.2]; exact j5
  · unfold JF at *
    rw [e 4 (by omega) (by omega)]; exact j6
  · unfold JL at *
    rw [e 0 (by omega) (by omega), e 1 (by omega) (by omega)]; exact j7
  · unfold JE at *
    rw [e 0 (by omega) (by omega)]; exact j8
theorem JT.ou {G : Nat → Nat} {S : Gst} {a b : Hp} (hG : GD G) (h : JT G S a) (o : Nat × (Nat → Int32)) (k : b.1 = a.1 ∧ b.2.2 = a.2.2) (e : ∀ q, q ≠ G 10 → q ≠ G 19 → q ≠ G 14 → q ≠ G 15 → q ≠ G 18 → hI b q = hI a q) (e10 : ∀ j, j ≠ 5 → j ≠ 20 → hI b (G 10) j = hI a (G 10) j) (h20 : hI b (G 10) 20 = nv o.1) (h19 : ∀ i, i < o.1 → hI b (G 19) i = o.2 i) : JT G (sO S o) b := by
  have eK : hK b = hK a := congrArg (fun x => x.1.2.1) k.1
  have eN : hN b = hN a := congrArg (fun x => x.1.2.2) k.1
  have eR : hR b = hR a := congrArg (fun x => x.1) k.2
  have n := fun i (h1 : i < 22) (h2 : i ≠ 10 ∧ i ≠ 19 ∧ i ≠ 14 ∧ i ≠ 15 ∧ i ≠ 18) => e (G i) (hG.ne h1 (by omega) h2.1) (hG.ne h1 (by omega) h2.2.1) (hG.ne h1 (by omega) h2.2.2.1) (hG.ne h1 (by omega) h2.2.2.2.1) (hG.ne h1 (by omega) h2.2.2.2.2)
  obtain ⟨h1, h2, h3, h4, h5, h6, ⟨h7, h8⟩, ⟨h9, h10⟩, h11⟩ := h
  refine ⟨?_, ?_, ?_, ?_, ?_, ?_, ⟨?_, ?_⟩, ⟨?_, ?_⟩, h20, h19⟩
  · unfold FT at *
    rw [eK, eN, eR]
    exact h1
  · rw [e10 _ (by omega) (by omega)]; exact h2
  · rw [e10 _ (by omega) (by omega)]; exact h3
  · rw [n 11 (by omega) (by omega)]; exact h4
  · rw [n 12 (by omega) (by omega)]; exact h5
  · rw [n 13 (by omega) (by omega)]; exact h6
  · rw [e10 _ (by omega) (by omega)]; exact h7
  · rw [n 16 (by omega) (by omega)]; exact h8
  · rw [e10 _ (by omega) (by omega)]; exact h9
  · rw [e10 _ (by omega) (by omega)]; exact h10
/-- the sign of a word -/
def wc (w : Int32) : Nat := if w = nv 0 then 62 else if w = nv 1 then 60 else if w = nv 2 then 61 else 63
theorem wc_b (w : Int32) : 60 ≤ wc w ∧ wc w ≤ 63 := by
  unfold wc
  (repeat' split) <;> omega
theorem kn_4 {R : Nat → Int32} (h : Fs R) (hH : nH R ≤ 10) {x y : Nat} (hx : x < nH R) (hy : y < nH R) : kn R x y = -nv 1 ∨ kn R x y = nv 0 ∨ kn R x y = nv 1 ∨ kn R x y = nv 2 := by
  rcases kn_ws h hH hx hy with e | e
  · exact .inl e
  · rw [e]
    exact .inr (wd_3 _ _)
theorem Wm.o {s n : Nat} {b : Hp} {D : Nat → Nat → Int32} (h : Wm s n b D) {q : Nat} (hq : q < s) (f : Nat → Int32) : Wm s n (hwI b q f) D := by
  refine ⟨⟨h.1.1, ?_, h.1.2.2⟩, h.2.1, h.2.2.1, h.2.2.2.1, fun u w hu hw => ?_⟩
  · rw [hI_wI, up1_n _ _ (by omega)]; exact h.1.2.1
  · rw [hI_wI, up1_n _ _ (by omega)]; exact h.2.2.2.2 u w hu hw
def apd (G : Nat → Nat) (d : Hp) (j c : Nat) : Hp := hwI (hwI d (G 5) (up1 (hI d (G 5)) 3 (nv (j + 1)))) (G 7) (up1 (hI (hwI d (G 5) (up1 (hI d (G 5)) 3 (nv (j + 1)))) (G 7)) j (nv c))
theorem ch_8 : ∀ k : Fin 4, nrA 42 ((nv (60 + k.val)).toInt8.toInt32) = nv (60 + k.val) ∧ ¬ nv 255 < nv (60 + k.val) := by decide +kernel
theorem cap_ok : ∀ j : Fin 11, nv j.val - (nv 16 >>> (nv 0 &&& nv 31)) ≤ nv 0 := by decide +kernel
theorem n1_0 : ¬ (1 : Int32) = 0 := by decide
theorem nrk21 : nrk 2 (nv 1) = true := by decide
theorem nrk20 : nrk 2 (nv 0) = true := by decide
theorem J3_append_w {G : Nat → Nat} {B : Nat → Nat × Nat} {S : Gst} {d : Hp} {j c : Nat} {w : Nat → Int32} (hC : JC G B (sO S (j, w)) d) (hj : j < 10) (h1 : 60 ≤ c) (h2 : c ≤ 63) (Q : Option Nat → Hp → Prop) : Wp (J3_append (G 5) (nv c)) d Q ↔ Q (some (G 5)) (apd G d j c) := by
  have hJ := hC.2.1
  have hc0 : hI d (G 5) 1 = nv 0 := hJ.2.2.2.2.2
  have h3 : hI d (G 5) 3 = nv j := hC.2.2.2.2.2.2.2.2.1.2.1
  obtain ⟨e1, e2⟩ := ch_8 ⟨c - 60, by omega⟩
  rw [show 60 + (c - 60) = c by omega] at e1 e2
  have ca := cap_ok ⟨j + 1, by omega⟩
  dsimp only at ca
  simp (disch := omega) only [J3_append, J2_append, J2_ensureCapacityInternal, J2_ensureCapacityInternal_38, J2_isLatin1, J2_isLatin1_18, J14_canEncode, J14_canEncode_12, ↓w_bd, ↓w_rt, ↓w_bh, sm_l, sm_r, ↓w_okr, ↓w_nm, ↓w_ite, ↓reduceIte, not_true_eq_false, not_false_eq_true, and_true, true_and, and_self, Option.some.injEq, reduceCtorEq, eq_self, ↓w_rc, ↓w_gI, ↓w_gR, ↓w_aN, ↓w_aI, ↓w_aR, ↓w_aL, ↓w_pI, ↓w_pR, ↓w_sI, ↓w_sR, ↓w_sL, ↓w_nO, ↓w_nA, ↓w_nL, ↓w_ca, ↓w_ca0, ↓w_gS, ↓w_gK, ↓w_dv, ↓w_tw, ↓w_rz, ↓w_no, nv_lit, nv_f, nv_add, nv_mul, nv_sub, nv_le, nv_lt, nv_eq, nv_cl, Nat.reduceMod, Nat.reduceMul, Nat.reduceAdd, Nat.zero_add, Nat.add_zero, Nat.mul_zero, decide_eq_true_eq, nv_inT, hJ, hc0, h3, ca, n10, nrk21, e1, e2, okn, hK_wI, hR_wI, hN_wI]
  rfl
theorem apd_c {G : Nat → Nat} {B : Nat → Nat × Nat} {S : Gst} {d : Hp} {j c : Nat} {w : Nat → Int32} (hC : JC G B (sO S (j, w)) d) (hj : j < 10) (h1 : 60 ≤ c) (h2 : c ≤ 63) (hw : w j = nv c) : JC G B (sO S (j + 1, w)) (apd G d j c) ∧ EP (P57 G) d (apd G d j c) := by
  have hG := hC.1.gd
  have ep : EP (P57 G) d (apd G d j c) := ((EP.rf _ d).wI (.inl (.inl rfl)) _).wI (.inl (.inr rfl)) _
  have n57 := hG.ne (show 5 < 22 by omega) (show 7 < 22 by omega) (by omega)
  obtain ⟨o1, o2, o3⟩ := hC.2.2.2.2.2.2.2.2.1
  have i5 : ∀ i, hI (apd G d j c) (G 5) i = up1 (hI d (G 5)) 3 (nv (j + 1)) i := fun i => by unfold apd; rw [hI_wI, up1_n _ _ n57, hI_wI, up1_s]
  have i7 : ∀ i, hI (apd G d j c) (G 7) i = up1 (hI d (G 7)) j (nv c) i := fun i => by unfold apd; rw [hI_wI, up1_s, hI_wI, up1_n _ _ (Ne.symm n57)]
  refine ⟨JC.ou (S := sO S (j, w)) hC (j + 1, w) ep ⟨rfl, rfl, rfl⟩ ?_ ⟨by show j + 1 ≤ 10; omega, ?_, fun i hi => ?_⟩, ep⟩
  · rw [i5, up1_n _ _ (by omega)]; exact hC.2.1.2.2.2.2.2
  · rw [i5, up1_s]; rfl
  · have hi' : i < j + 1 := hi
    show hI (apd G d j c) (G 7) i = w i ∧ ∃ k, 60 ≤ k ∧ k ≤ 63 ∧ w i = nv k
    rw [i7]
    by_cases e : i = j
    · rw [e, up1_s, hw]; exact ⟨rfl, c, h1, h2, rfl⟩
    · rw [up1_n _ _ e]; exact o3 i (by show i < j; omega)
theorem J4_at_w {b : Hp} (hCo : Co b) {i : Nat} (hi : i < 3) (Q : Int32 → Hp → Prop) (h : Q (nv (if i = 0 then 62 else if i = 1 then 60 else 61)) b) : Wp (bd (gC 100) fun x8 => bd (rc 13 (some x8)) fun h' => J4_charAt h' (nv i)) b Q := by
  obtain ⟨q, v, h1, ⟨h2, h3⟩, ⟨h4, h5, h6, -⟩, h7, h8, h9⟩ := hCo.2 0 (by omega)
  have e : hI b v i = nv (if i = 0 then 62 else if i = 1 then 60 else 61) := by
    rw [h9 i (by show i < 3; exact hi)]
    have : i = 0 ∨ i = 1 ∨ i = 2 := by omega
    rcases this with rfl | rfl | rfl <;> rfl
  have hN : hN b v = 3 := h8
  have h6' : hI b q 1 = nv 0 := h6
  obtain ⟨q1, q2⟩ := ch_ok ⟨if i = 0 then 62 else if i = 1 then 60 else 61, by (repeat' split) <;> omega⟩ (by dsimp only; (repeat' split) <;> omega)
  rw [w_bd, w_gC]
  refine ⟨q, h1, ?_⟩
  simp (disch := omega) only [J4_charAt, J4_isLatin1, J4_isLatin1_18, J14_charAt, J4_checkIndex, J15_checkIndex, ↓w_bd, ↓w_rt, ↓w_bh, sm_l, sm_r, ↓w_okr, ↓w_nm, ↓w_ite, ↓reduceIte, not_true_eq_false, not_false_eq_true, and_true, true_and, and_self, Option.some.injEq, reduceCtorEq, eq_self, ↓w_rc, ↓w_gI, ↓w_gR, ↓w_aN, ↓w_aI, ↓w_aR, ↓w_aL, ↓w_pI, ↓w_pR, ↓w_sI, ↓w_sR, ↓w_sL, ↓w_nO, ↓w_nA, ↓w_nL, ↓w_ca, ↓w_ca0, ↓w_gS, ↓w_gK, ↓w_dv, ↓w_tw, ↓w_rz, ↓w_no, nv_lit, nv_f, nv_add, nv_mul, nv_sub, nv_le, nv_lt, nv_eq, nv_cl, Nat.reduceMod, Nat.reduceMul, Nat.reduceAdd, Nat.zero_add, Nat.add_zero, Nat.mul_zero, decide_eq_true_eq, nv_inT, h4, h5, h6', n10, nrk21, h7, hN, e, q1, q2, Nat.not_lt_zero, hi]
  exact h
theorem X1_write_29_w {G : Nat → Nat} {B : Nat → Nat × Nat} {S : Gst} {a d : Hp} {L : Nat → Nat} {R : Nat → Int32} {s x : Nat} {D : Nat → Nat → Int32} (hC : JC G B (sO S (0, fun i => nv (wc (kn R x i)))) d) (h0 : gm S 0 = some (L, R)) (hD : CD R D) (hW : Wm s (nH R) d D) (hs : ∀ i, i < 22 → G i < s) (hx : x < nH R) (hF : Frm G B a d) (Q : Ex ⊕ Int32 → Hp → Prop)
    (kk : ∀ b, JC G B (sO S (nH R, fun i => nv (wc (kn R x i)))) b → Frm G B a b → hSz b = hSz d → hSl b = hSl d → Q (.inr (nv (nH R))) b) : Wp (X1_write_29 FU (G 0) (nv x) (some s) (nv 0)) d Q := by
  have hR : Ro R := (JM.e (S := sO S (0, fun i => nv (wc (kn R x i)))) hC (p := (L, R)) h0).2.2.2
  have h10 := sh_H10 hR.1
  have hFs := hR.2.1
  have l : ∀ (f j : Nat), j ≤ nH R → nH R - j < f → ∀ b, JC G B (sO S (j, fun i => nv (wc (kn R x i)))) b → Wm s (nH R) b D → Frm G B a b → hSz b = hSz d → hSl b = hSl d → Wp (X1_write_29 f (G 0) (nv x) (some s) (nv j)) b Q := by
    refine loopUp _ (nH R) ?_ ?_
    · intro f b jc hw fr z l
      have hM : Mk B b L R := (JM.e (S := sO S (nH R, fun i => nv (wc (kn R x i)))) jc (p := (L, R)) h0).1
      have hJ := jc.2.1
      have hX : FX G b L := by
        obtain ⟨p, e1, e2⟩ := jc.2.2.1.1
        have e1 : gm S 0 = some p := e1
        rw [h0] at e1
        cases e1
        exact ⟨hJ.1.1, e2, (jc.1 0 (by omega)).1⟩
      have h3 : hI b (G 5) 3 = nv (nH R) := jc.2.2.2.2.2.2.2.2.1.2.1
      simp (disch := omega) only [X1_write_29, ↓w_bd, ↓w_rt, ↓w_bh, sm_l, sm_r, ↓w_okr, ↓w_nm, ↓w_ite, ↓reduceIte, not_true_eq_false, not_false_eq_true, and_true, true_and, and_self, Option.some.injEq, reduceCtorEq, eq_self, ↓w_rc, ↓w_gI, ↓w_gR, ↓w_aN, ↓w_aI, ↓w_aR, ↓w_aL, ↓w_pI, ↓w_pR, ↓w_sI, ↓w_sR, ↓w_sL, ↓w_nO, ↓w_nA, ↓w_nL, ↓w_ca, ↓w_ca0, ↓w_gS, ↓w_gK, ↓w_dv, ↓w_tw, ↓w_rz, ↓w_no, nv_lit, nv_f, nv_add, nv_mul, nv_sub, nv_le, nv_lt, nv_eq, nv_cl, Nat.reduceMod, Nat.reduceMul, Nat.reduceAdd, Nat.zero_add, Nat.add_zero, Nat.mul_zero, decide_eq_true_eq, nv_inT, mk_k hM, mk_n hM, mk_r hM, mk_i hM, hX, hJ, Nat.le_refl, J3_length, J2_length, h3]
      exact kk b jc fr z l
    · intro f j hj ih b jc hw fr z l
      have hM : Mk B b L R := (JM.e (S := sO S (j, fun i => nv (wc (kn R x i)))) jc (p := (L, R)) h0).1
      have hJ := jc.2.1
      have hX : FX G b L := by
        obtain ⟨p, e1, e2⟩ := jc.2.2.1.1
        have e1 : gm S 0 = some p := e1
        rw [h0] at e1
        cases e1
        exact ⟨hJ.1.1, e2, (jc.1 0 (by omega)).1⟩
      have hCo : Co b := jc.2.2.2.2.2.2.2.2.2
      have hwb := wc_b (kn R x j)
      obtain ⟨a1, a2⟩ := apd_c jc (by omega) hwb.1 hwb.2 rfl
      have go := ih (apd G b j (wc (kn R x j))) a1 ((hw.o (hs 5 (by omega)) _).o (hs 7 (by omega)) _) (fr.tr (fun _ _ => rfl) (a2.fr fun q hq _ => ?_)) z l
      · have hk9 := hw.r.1.1
        rcases kn_4 hFs h10 hx hj with e | e | e | e
        · have ew : wc (kn R x j) = 63 := by rw [e]; decide
          rw [ew] at go a1
          simp (disch := omega) only [X1_write_29, ↓w_bd, ↓w_rt, ↓w_bh, sm_l, sm_r, ↓w_okr, ↓w_nm, ↓w_ite, ↓reduceIte, not_true_eq_false, not_false_eq_true, and_true, true_and, and_self, Option.some.injEq, reduceCtorEq, eq_self, ↓w_rc, ↓w_gI, ↓w_gR, ↓w_aN, ↓w_aI, ↓w_aR, ↓w_aL, ↓w_pI, ↓w_pR, ↓w_sI, ↓w_sR, ↓w_sL, ↓w_nO, ↓w_nA, ↓w_nL, ↓w_ca, ↓w_ca0, ↓w_gS, ↓w_gK, ↓w_dv, ↓w_tw, ↓w_rz, ↓w_no, nv_lit, nv_f, nv_add, nv_mul, nv_sub, nv_le, nv_lt, nv_eq, nv_cl, Nat.reduceMod, Nat.reduceMul, Nat.reduceAdd, Nat.zero_add, Nat.add_zero, Nat.mul_zero, decide_eq_true_eq, nv_inT, mk_k hM, mk_n hM, mk_r hM, mk_i hM, hX, hJ, Nat.not_le.mpr hj, hk9, X9_known_w hFs h10 hD hw, e, X1_write_74, J3_append_w jc (show j < 10 by omega) (show 60 ≤ 63 by omega) (show 63 ≤ 63 by omega)]
          exact go
        · have ew : wc (kn R x j) = 62 := by rw [e]; decide
          rw [ew] at go a1
          simp (disch := omega) only [X1_write_29, ↓w_bd, ↓w_rt, ↓w_bh, sm_l, sm_r, ↓w_okr, ↓w_nm, ↓w_ite, ↓reduceIte, not_true_eq_false, not_false_eq_true, and_true, true_and, and_self, Option.some.injEq, reduceCtorEq, eq_self, ↓w_rc, ↓w_gI, ↓w_gR, ↓w_aN, ↓w_aI, ↓w_aR, ↓w_aL, ↓w_pI, ↓w_pR, ↓w_sI, ↓w_sR, ↓w_sL, ↓w_nO, ↓w_nA, ↓w_nL, ↓w_ca, ↓w_ca0, ↓w_gS, ↓w_gK, ↓w_dv, ↓w_tw, ↓w_rz, ↓w_no, nv_lit, nv_f, nv_add, nv_mul, nv_sub, nv_le, nv_lt, nv_eq, nv_cl, Nat.reduceMod, Nat.reduceMul, Nat.reduceAdd, Nat.zero_add, Nat.add_zero, Nat.mul_zero, decide_eq_true_eq, nv_inT, mk_k hM, mk_n hM, mk_r hM, mk_i hM, hX, hJ, Nat.not_le.mpr hj, hk9, X9_known_w hFs h10 hD hw, e, show ¬ nv 0 = -nv 1 by decide]
          have at' := J4_at_w hCo (i := 0) (by omega) (fun x9 b => Wp (X1_write_74 (X1_write_29 f) (G 0) (nv x) (some s) (nv j) (some (G 5)) x9) b Q)
          simp only [w_bd, w_rc] at at' ⊢
          refine at' ?_
          show Wp (X1_write_74 (X1_write_29 f) (G 0) (nv x) (some s) (nv j) (some (G 5)) (nv 62)) b Q
          simp (disch := omega) only [↓w_bd, ↓w_rt, ↓w_bh, sm_l, sm_r, ↓w_okr, ↓w_nm, ↓w_ite, ↓reduceIte, not_true_eq_false, not_false_eq_true, and_true, true_and, and_self, Option.some.injEq, reduceCtorEq, eq_self, ↓w_rc, ↓w_gI, ↓w_gR, ↓w_aN, ↓w_aI, ↓w_aR, ↓w_aL, ↓w_pI, ↓w_pR, ↓w_sI, ↓w_sR, ↓w_sL, ↓w_nO, ↓w_nA, ↓w_nL, ↓w_ca, ↓w_ca0, ↓w_gS, ↓w_gK, ↓w_dv, ↓w_tw, ↓w_rz, ↓w_no, nv_lit, nv_f, nv_add, nv_mul, nv_sub, nv_le, nv_lt, nv_eq, nv_cl, Nat.reduceMod, Nat.reduceMul, Nat.reduceAdd, Nat.zero_add, Nat.add_zero, Nat.mul_zero, decide_eq_true_eq, nv_inT, hJ, X1_write_74, J3_append_w jc (show j < 10 by omega) (show 60 ≤ 62 by omega) (show 62 ≤ 63 by omega)]
          exact go
        · have ew : wc (kn R x j) = 60 := by rw [e]; decide
          rw [ew] at go a1
          simp (disch := omega) only [X1_write_29, ↓w_bd, ↓w_rt, ↓w_bh, sm_l, sm_r, ↓w_okr, ↓w_nm, ↓w_ite, ↓reduceIte, not_true_eq_false, not_false_eq_true, and_true, true_and, and_self, Option.some.injEq, reduceCtorEq, eq_self, ↓w_rc, ↓w_gI, ↓w_gR, ↓w_aN, ↓w_aI, ↓w_aR, ↓w_aL, ↓w_pI, ↓w_pR, ↓w_sI, ↓w_sR, ↓w_sL, ↓w_nO, ↓w_nA, ↓w_nL, ↓w_ca, ↓w_ca0, ↓w_gS, ↓w_gK, ↓w_dv, ↓w_tw, ↓w_rz, ↓w_no, nv_lit, nv_f, nv_add, nv_mul, nv_sub, nv_le, nv_lt, nv_eq, nv_cl, Nat.reduceMod, Nat.reduceMul, Nat.reduceAdd, Nat.zero_add, Nat.add_zero, Nat.mul_zero, decide_eq_true_eq, nv_inT, mk_k hM, mk_n hM, mk_r hM, mk_i hM, hX, hJ, Nat.not_le.mpr hj, hk9, X9_known_w hFs h10 hD hw, e, show ¬ nv 1 = -nv 1 by decide]
          have at' := J4_at_w hCo (i := 1) (by omega) (fun x9 b => Wp (X1_write_74 (X1_write_29 f) (G 0) (nv x) (some s) (nv j) (some (G 5)) x9) b Q)
          simp only [w_bd, w_rc] at at' ⊢
          refine at' ?_
          show Wp (X1_write_74 (X1_write_29 f) (G 0) (nv x) (some s) (nv j) (some (G 5)) (nv 60)) b Q
          simp (disch := omega) only [↓w_bd, ↓w_rt, ↓w_bh, sm_l, sm_r, ↓w_okr, ↓w_nm, ↓w_ite, ↓reduceIte, not_true_eq_false, not_false_eq_true, and_true, true_and, and_self, Option.some.injEq, reduceCtorEq, eq_self, ↓w_rc, ↓w_gI, ↓w_gR, ↓w_aN, ↓w_aI, ↓w_aR, ↓w_aL, ↓w_pI, ↓w_pR, ↓w_sI, ↓w_sR, ↓w_sL, ↓w_nO, ↓w_nA, ↓w_nL, ↓w_ca, ↓w_ca0, ↓w_gS, ↓w_gK, ↓w_dv, ↓w_tw, ↓w_rz, ↓w_no, nv_lit, nv_f, nv_add, nv_mul, nv_sub, nv_le, nv_lt, nv_eq, nv_cl, Nat.reduceMod, Nat.reduceMul, Nat.reduceAdd, Nat.zero_add, Nat.add_zero, Nat.mul_zero, decide_eq_true_eq, nv_inT, hJ, X1_write_74, J3_append_w jc (show j < 10 by omega) (show 60 ≤ 60 by omega) (show 60 ≤ 63 by omega)]
          exact go
        · have ew : wc (kn R x j) = 61 := by rw [e]; decide
          rw [ew] at go a1
          simp (disch := omega) only [X1_write_29, ↓w_bd, ↓w_rt, ↓w_bh, sm_l, sm_r, ↓w_okr, ↓w_nm, ↓w_ite, ↓reduceIte, not_true_eq_false, not_false_eq_true, and_true, true_and, and_self, Option.some.injEq, reduceCtorEq, eq_self, ↓w_rc, ↓w_gI, ↓w_gR, ↓w_aN, ↓w_aI, ↓w_aR, ↓w_aL, ↓w_pI, ↓w_pR, ↓w_sI, ↓w_sR, ↓w_sL, ↓w_nO, ↓w_nA, ↓w_nL, ↓w_ca, ↓w_ca0, ↓w_gS, ↓w_gK, ↓w_dv, ↓w_tw, ↓w_rz, ↓w_no, nv_lit, nv_f, nv_add, nv_mul, nv_sub, nv_le, nv_lt, nv_eq, nv_cl, Nat.reduceMod, Nat.reduceMul, Nat.reduceAdd, Nat.zero_add, Nat.add_zero, Nat.mul_zero, decide_eq_true_eq, nv_inT, mk_k hM, mk_n hM, mk_r hM, mk_i hM, hX, hJ, Nat.not_le.mpr hj, hk9, X9_known_w hFs h10 hD hw, e, show ¬ nv 2 = -nv 1 by decide]
          have at' := J4_at_w hCo (i := 2) (by omega) (fun x9 b => Wp (X1_write_74 (X1_write_29 f) (G 0) (nv x) (some s) (nv j) (some (G 5)) x9) b Q)
          simp only [w_bd, w_rc] at at' ⊢
          refine at' ?_
          show Wp (X1_write_74 (X1_write_29 f) (G 0) (nv x) (some s) (nv j) (some (G 5)) (nv 61)) b Q
          simp (disch := omega) only [↓w_bd, ↓w_rt, ↓w_bh, sm_l, sm_r, ↓w_okr, ↓w_nm, ↓w_ite, ↓reduceIte, not_true_eq_false, not_false_eq_true, and_true, true_and, and_self, Option.some.injEq, reduceCtorEq, eq_self, ↓w_rc, ↓w_gI, ↓w_gR, ↓w_aN, ↓w_aI, ↓w_aR, ↓w_aL, ↓w_pI, ↓w_pR, ↓w_sI, ↓w_sR, ↓w_sL, ↓w_nO, ↓w_nA, ↓w_nL, ↓w_ca, ↓w_ca0, ↓w_gS, ↓w_gK, ↓w_dv, ↓w_tw, ↓w_rz, ↓w_no, nv_lit, nv_f, nv_add, nv_mul, nv_sub, nv_le, nv_lt, nv_eq, nv_cl, Nat.reduceMod, Nat.reduceMul, Nat.reduceAdd, Nat.zero_add, Nat.add_zero, Nat.mul_zero, decide_eq_true_eq, nv_inT, hJ, X1_write_74, J3_append_w jc (show j < 10 by omega) (show 60 ≤ 61 by omega) (show 61 ≤ 63 by omega)]
          exact go
      · rcases hq with e | e
        · rw [e]; exact ⟨.inr ⟨5, by omega, rfl⟩, by rw [hJ.2.1.2.2.2.2.1]; omega⟩
        · rw [e]; exact ⟨.inr ⟨7, by omega, rfl⟩, by rw [hJ.2.1.2.2.2.2.2.2.1]; omega⟩
  exact l FU 0 (by omega) (by unfold FU; omega) d hC hW hF rfl rfl
theorem X5_write_31_w {G : Nat → Nat} {S : Gst} {c : Hp} {L : Nat → Nat} {R : Nat → Int32} {x : Nat} (hG : GD G) (hRo : Ro R) (hx : x < nH R) (h0 : gm S 0 = some (L, R)) (hT : JT G S c) (h20 : hI c (G 10) 20 = nv (nH R)) (h5 : hI c (G 10) 5 = nv 0) (Q : Int32 → Hp → Prop)
    (kk : ∀ d, JT G (sO S (nH R, fun i => nv (wc (kn R x i)))) d → Tf G c d → hI d (G 10) 5 = nv 0 → Q (nv (nH R)) d) : Wp (X5_write_31 FU (G 10) (nv x) (nv 0)) c Q := by
  have hS := hRo.1
  have hFs := hRo.2.1
  have h10 := sh_H10 hS
  have n19 := hG.ne (show 10 < 22 by omega) (show 19 < 22 by omega) (by omega)
  have l : ∀ (f j : Nat), j ≤ nH R → nH R - j < f → ∀ d, (d.1 = c.1 ∧ d.2.2 = c.2.2) → (∀ q, q ≠ G 19 → q ≠ G 14 → q ≠ G 15 → q ≠ G 18 → hI d q = hI c q) → (∀ i, i < j → hI d (G 19) i = nv (wc (kn R x i))) → Wp (X5_write_31 f (G 10) (nv x) (nv j)) d Q := by
    have fo : ∀ d : Hp, (d.1 = c.1 ∧ d.2.2 = c.2.2) → (∀ q, q ≠ G 19 → q ≠ G 14 → q ≠ G 15 → q ≠ G 18 → hI d q = hI c q) → FO G d 0 R ∧ hI d (G 10) = hI c (G 10) := by
      intro d k e
      have eK : hK d = hK c := congrArg (fun x => x.1.2.1) k.1
      have eN : hN d = hN c := congrArg (fun x => x.1.2.2) k.1
      have eR : hR d = hR c := congrArg (fun x => x.1) k.2
      have n := fun i (h1 : i < 22) (h2 : i ≠ 19 ∧ i ≠ 14 ∧ i ≠ 15 ∧ i ≠ 18) => e (G i) (hG.ne h1 (by omega) h2.1) (hG.ne h1 (by omega) h2.2.1) (hG.ne h1 (by omega) h2.2.2.1) (hG.ne h1 (by omega) h2.2.2.2)
      have f := hT.fo (p := (L, R)) h0
      refine ⟨?_, n 10 (by omega) (by omega)⟩
      unfold FO FT at *
      rw [eK, eN, eR, n 10 (by omega) (by omega), n 11 (by omega) (by omega)]
      exact f
    refine loopUp _ (nH R) ?_ ?_
    · intro f d k e e19
      obtain ⟨f0, e10⟩ := fo d k e
      have h20' : hI d (G 10) 20 = nv (nH R) := by rw [e10]; exact h20
      simp (disch := omega) only [X5_write_31, ↓w_bd, ↓w_rt, ↓w_bh, sm_l, sm_r, ↓w_okr, ↓w_nm, ↓w_ite, ↓reduceIte, not_true_eq_false, not_false_eq_true, and_true, true_and, and_self, Option.some.injEq, reduceCtorEq, eq_self, ↓w_rc, ↓w_gI, ↓w_gR, ↓w_aN, ↓w_aI, ↓w_aR, ↓w_aL, ↓w_pI, ↓w_pR, ↓w_sI, ↓w_sR, ↓w_sL, ↓w_nO, ↓w_nA, ↓w_nL, ↓w_ca, ↓w_ca0, ↓w_gS, ↓w_gK, ↓w_dv, ↓w_tw, ↓w_rz, ↓w_no, nv_lit, nv_f, nv_add, nv_mul, nv_sub, nv_le, nv_lt, nv_eq, nv_cl, Nat.reduceMod, Nat.reduceMul, Nat.reduceAdd, Nat.zero_add, Nat.add_zero, Nat.mul_zero, decide_eq_true_eq, nv_inT, f0.1, h20', Nat.le_refl]
      refine kk d (hT.ou hG (nH R, fun i => nv (wc (kn R x i))) k (fun q _ h2 h3 h4 h5 => e q h2 h3 h4 h5) (fun j _ _ => by rw [e10]) h20' e19) ⟨k.1, k.2, fun q _ _ _ _ g5 g6 g7 g8 => e q g8 g5 g6 g7, fun j _ _ _ => by rw [e10]⟩ (by rw [e10]; exact h5)
    · intro f j hj ih d k e e19
      obtain ⟨f0, e10⟩ := fo d k e
      have h20' : hI d (G 10) 20 = nv (nH R) := by rw [e10]; exact h20
      simp (disch := omega) only [X5_write_31, ↓w_bd, ↓w_rt, ↓w_bh, sm_l, sm_r, ↓w_okr, ↓w_nm, ↓w_ite, ↓reduceIte, not_true_eq_false, not_false_eq_true, and_true, true_and, and_self, Option.some.injEq, reduceCtorEq, eq_self, ↓w_rc, ↓w_gI, ↓w_gR, ↓w_aN, ↓w_aI, ↓w_aR, ↓w_aL, ↓w_pI, ↓w_pR, ↓w_sI, ↓w_sR, ↓w_sL, ↓w_nO, ↓w_nA, ↓w_nL, ↓w_ca, ↓w_ca0, ↓w_gS, ↓w_gK, ↓w_dv, ↓w_tw, ↓w_rz, ↓w_no, nv_lit, nv_f, nv_add, nv_mul, nv_sub, nv_le, nv_lt, nv_eq, nv_cl, Nat.reduceMod, Nat.reduceMul, Nat.reduceAdd, Nat.zero_add, Nat.add_zero, Nat.mul_zero, decide_eq_true_eq, nv_inT, f0.1, h20', Nat.not_le.mpr hj]
      refine X5_knownOf_w f0 hG hS hFs hx hj _ fun b hb => ?_
      have kb : b.1 = c.1 ∧ b.2.2 = c.2.2 := ⟨hb.1.trans k.1, hb.2.1.trans k.2⟩
      have eb : ∀ q, q ≠ G 19 → q ≠ G 14 → q ≠ G 15 → q ≠ G 18 → hI b q = hI c q := fun q g1 g2 g3 g4 => (hb.2.2 q g2 g3 g4).trans (e q g1 g2 g3 g4)
      have eb19 : hI b (G 19) = hI d (G 19) := hb.2.2 _ (hG.ne (by omega) (by omega) (by omega)) (hG.ne (by omega) (by omega) (by omega)) (hG.ne (by omega) (by omega) (by omega))
      obtain ⟨fb, eb10⟩ := fo b kb eb
      have go : Wp (X5_write_31 f (G 10) (nv x) (nv (j + 1))) (hwI b (G 19) (up1 (hI b (G 19)) j (nv (wc (kn R x j))))) Q := by
        refine ih _ kb (fun q g1 g2 g3 g4 => ?_) (fun i hi => ?_)
        · rw [hI_wI, up1_n _ _ g1]; exact eb q g1 g2 g3 g4
        · rw [hI_wI, up1_s]
          by_cases ei : i = j
          · rw [ei, up1_s]
          · rw [up1_n _ _ ei, eb19]
            exact e19 i (by omega)
      rcases kn_4 hFs h10 hx hj with e0 | e0 | e0 | e0
      · have ew : wc (kn R x j) = 63 := by rw [e0]; decide
        rw [ew] at go
        simp (disch := omega) only [↓w_bd, ↓w_rt, ↓w_bh, sm_l, sm_r, ↓w_okr, ↓w_nm, ↓w_ite, ↓reduceIte, not_true_eq_false, not_false_eq_true, and_true, true_and, and_self, Option.some.injEq, reduceCtorEq, eq_self, ↓w_rc, ↓w_gI, ↓w_gR, ↓w_aN, ↓w_aI, ↓w_aR, ↓w_aL, ↓w_pI, ↓w_pR, ↓w_sI, ↓w_sR, ↓w_sL, ↓w_nO, ↓w_nA, ↓w_nL, ↓w_ca, ↓w_ca0, ↓w_gS, ↓w_gK, ↓w_dv, ↓w_tw, ↓w_rz, ↓w_no, nv_lit, nv_f, nv_add, nv_mul, nv_sub, nv_le, nv_lt, nv_eq, nv_cl, Nat.reduceMod, Nat.reduceMul, Nat.reduceAdd, Nat.zero_add, Nat.add_zero, Nat.mul_zero, decide_eq_true_eq, nv_inT, fb.1, e0, show ¬ -nv 1 = nv 0 by decide, show ¬ -nv 1 = nv 1 by decide, show ¬ -nv 1 = nv 2 by decide, X5_write_82, nr41]
        exact go
      · have ew : wc (kn R x j) = 62 := by rw [e0]; decide
        rw [ew] at go
        simp (disch := omega) only [↓w_bd, ↓w_rt, ↓w_bh, sm_l, sm_r, ↓w_okr, ↓w_nm, ↓w_ite, ↓reduceIte, not_true_eq_false, not_false_eq_true, and_true, true_and, and_self, Option.some.injEq, reduceCtorEq, eq_self, ↓w_rc, ↓w_gI, ↓w_gR, ↓w_aN, ↓w_aI, ↓w_aR, ↓w_aL, ↓w_pI, ↓w_pR, ↓w_sI, ↓w_sR, ↓w_sL, ↓w_nO, ↓w_nA, ↓w_nL, ↓w_ca, ↓w_ca0, ↓w_gS, ↓w_gK, ↓w_dv, ↓w_tw, ↓w_rz, ↓w_no, nv_lit, nv_f, nv_add, nv_mul, nv_sub, nv_le, nv_lt, nv_eq, nv_cl, Nat.reduceMod, Nat.reduceMul, Nat.reduceAdd, Nat.zero_add, Nat.add_zero, Nat.mul_zero, decide_eq_true_eq, nv_inT, fb.1, e0, X5_write_82, nr41]
        exact go
      · have ew : wc (kn R x j) = 60 := by rw [e0]; decide
        rw [ew] at go
        simp (disch := omega) only [↓w_bd, ↓w_rt, ↓w_bh, sm_l, sm_r, ↓w_okr, ↓w_nm, ↓w_ite, ↓reduceIte, not_true_eq_false, not_false_eq_true, and_true, true_and, and_self, Option.some.injEq, reduceCtorEq, eq_self, ↓w_rc, ↓w_gI, ↓w_gR, ↓w_aN, ↓w_aI, ↓w_aR, ↓w_aL, ↓w_pI, ↓w_pR, ↓w_sI, ↓w_sR, ↓w_sL, ↓w_nO, ↓w_nA, ↓w_nL, ↓w_ca, ↓w_ca0, ↓w_gS, ↓w_gK, ↓w_dv, ↓w_tw, ↓w_rz, ↓w_no, nv_lit, nv_f, nv_add, nv_mul, nv_sub, nv_le, nv_lt, nv_eq, nv_cl, Nat.reduceMod, Nat.reduceMul, Nat.reduceAdd, Nat.zero_add, Nat.add_zero, Nat.mul_zero, decide_eq_true_eq, nv_inT, fb.1, e0, n10, X5_write_82, nr41]
        exact go
      · have ew : wc (kn R x j) = 61 := by rw [e0]; decide
        rw [ew] at go
        simp (disch := omega) only [↓w_bd, ↓w_rt, ↓w_bh, sm_l, sm_r, ↓w_okr, ↓w_nm, ↓w_ite, ↓reduceIte, not_true_eq_false, not_false_eq_true, and_true, true_and, and_self, Option.some.injEq, reduceCtorEq, eq_self, ↓w_rc, ↓w_gI, ↓w_gR, ↓w_aN, ↓w_aI, ↓w_aR, ↓w_aL, ↓w_pI, ↓w_pR, ↓w_sI, ↓w_sR, ↓w_sL, ↓w_nO, ↓w_nA, ↓w_nL, ↓w_ca, ↓w_ca0, ↓w_gS, ↓w_gK, ↓w_dv, ↓w_tw, ↓w_rz, ↓w_no, nv_lit, nv_f, nv_add, nv_mul, nv_sub, nv_le, nv_lt, nv_eq, nv_cl, Nat.reduceMod, Nat.reduceMul, Nat.reduceAdd, Nat.zero_add, Nat.add_zero, Nat.mul_zero, decide_eq_true_eq, nv_inT, fb.1, e0, show ¬ nv 2 = nv 0 by decide, show ¬ nv 2 = nv 1 by decide, X5_write_82, nr41]
        exact go
  exact l FU 0 (by omega) (by unfold FU; omega) c ⟨rfl, rfl⟩ (fun _ _ _ _ _ => rfl) (fun i hi => by omega)
/-- the line is emptied -/
theorem J3_setLength_w {G : Nat → Nat} {B : Nat → Nat × Nat} {S : Gst} {a : Hp} (hC : JC G B S a) (w : Nat → Int32) (Q : Unit → Hp → Prop)
    (h : ∀ b, JC G B (sO S (0, w)) b → EP (P57 G) a b → (∀ q, q ≠ G 5 → hI b q = hI a q) → b.1 = a.1 → b.2.2 = a.2.2 → Q () b) : Wp (J3_setLength (G 5) (nv 0)) a Q := by
  have hJ := hC.2.1
  have hc0 : hI a (G 5) 1 = nv 0 := hJ.2.2.2.2.2
  obtain ⟨o1, o2, -⟩ := hC.2.2.2.2.2.2.2.2.1
  have ca := cap_ok ⟨0, by omega⟩
  dsimp only at ca
  have key : ∀ f : Nat → Int32, f 1 = nv 0 → f 3 = nv 0 → Q () (hwI a (G 5) f) := fun f h1 h3 => by
    have ep : EP (P57 G) a (hwI a (G 5) f) := (EP.rf _ a).wI (.inl (.inl rfl)) f
    refine h _ (hC.ou (0, w) ep ⟨rfl, rfl, rfl⟩ ?_ ⟨by show 0 ≤ 10; omega, ?_, fun i hi => absurd hi (Nat.not_lt_zero i)⟩) ep (fun q hq => by rw [hI_wI, up1_n _ _ hq]) rfl rfl
    · rw [hI_wI, up1_s]; exact h1
    · rw [hI_wI, up1_s]; exact h3
  have k20 : okN 2 (nv 1) = true := by decide
  by_cases z : (go S).1 = 0
  · rw [z] at o2
    simp (disch := omega) only [J3_setLength, J2_setLength, J2_setLength_76, J2_ensureCapacityInternal, J2_ensureCapacityInternal_38, ↓w_bd, ↓w_rt, ↓w_bh, sm_l, sm_r, ↓w_okr, ↓w_nm, ↓w_ite, ↓reduceIte, not_true_eq_false, not_false_eq_true, and_true, true_and, and_self, Option.some.injEq, reduceCtorEq, eq_self, ↓w_rc, ↓w_gI, ↓w_gR, ↓w_aN, ↓w_aI, ↓w_aR, ↓w_aL, ↓w_pI, ↓w_pR, ↓w_sI, ↓w_sR, ↓w_sL, ↓w_nO, ↓w_nA, ↓w_nL, ↓w_ca, ↓w_ca0, ↓w_gS, ↓w_gK, ↓w_dv, ↓w_tw, ↓w_rz, ↓w_no, nv_lit, nv_f, nv_add, nv_mul, nv_sub, nv_le, nv_lt, nv_eq, nv_cl, Nat.reduceMod, Nat.reduceMul, Nat.reduceAdd, Nat.zero_add, Nat.add_zero, Nat.mul_zero, decide_eq_true_eq, nv_inT, hJ, hc0, o2, ca, okn, Nat.le_refl]
    refine key _ ?_ ?_
    · rw [up1_n _ _ (by omega)]; exact hc0
    · rw [up1_s]
  · have z' : ¬ (go S).1 ≤ 0 := by omega
    simp (disch := omega) only [J3_setLength, J2_setLength, J2_setLength_76, J2_ensureCapacityInternal, J2_ensureCapacityInternal_38, ↓w_bd, ↓w_rt, ↓w_bh, sm_l, sm_r, ↓w_okr, ↓w_nm, ↓w_ite, ↓reduceIte, not_true_eq_false, not_false_eq_true, and_true, true_and, and_self, Option.some.injEq, reduceCtorEq, eq_self, ↓w_rc, ↓w_gI, ↓w_gR, ↓w_aN, ↓w_aI, ↓w_aR, ↓w_aL, ↓w_pI, ↓w_pR, ↓w_sI, ↓w_sR, ↓w_sL, ↓w_nO, ↓w_nA, ↓w_nL, ↓w_ca, ↓w_ca0, ↓w_gS, ↓w_gK, ↓w_dv, ↓w_tw, ↓w_rz, ↓w_no, nv_lit, nv_f, nv_add, nv_mul, nv_sub, nv_le, nv_lt, nv_eq, nv_cl, Nat.reduceMod, Nat.reduceMul, Nat.reduceAdd, Nat.zero_add, Nat.add_zero, Nat.mul_zero, decide_eq_true_eq, nv_inT, hJ, hc0, o2, ca, okn, Nat.le_refl, Nat.zero_le, z', k20, hK_wI, hI_wI, up1_s, hwI_2]
    refine key _ ?_ ?_
    · rw [up1_n _ _ (by omega), up1_n _ _ (by omega)]; exact hc0
    · rw [up1_s]
theorem act_write {G : Nat → Nat} {B : Nat → Nat × Nat} {S : Gst} {a : Hp} (hC : JC G B S a) (v : Int32) : Act κi G B S a (X1_write (G 0) v) (X5_write (G 10) v) := by
  obtain ⟨L, R, hM0, hRo, hX0, h0⟩ := startC hC
  have hG := hC.1.gd
  have hS := hRo.1
  have hFs := hRo.2.1
  have h10 := sh_H10 hS
  have h2 := sh_H2 hS
  have hE := va1_e a v
  have hX := hX0.ext hE
  have hM := hM0.ext hE (fun _ _ => rfl)
  have hCb := hC.e0 hE
  have hJ := hCb.2.1
  by_cases hv : inr v (nH R)
  · obtain ⟨x, rfl, hx⟩ := inr_k hv
    simp (disch := omega) only [X1_write, ↓w_bd, ↓w_rt, ↓w_bh, sm_l, sm_r, ↓w_okr, ↓w_nm, ↓w_ite, ↓reduceIte, not_true_eq_false, not_false_eq_true, and_true, true_and, and_self, Option.some.injEq, reduceCtorEq, eq_self, ↓w_rc, ↓w_gI, ↓w_gR, ↓w_aN, ↓w_aI, ↓w_aR, ↓w_aL, ↓w_pI, ↓w_pR, ↓w_sI, ↓w_sR, ↓w_sL, ↓w_nO, ↓w_nA, ↓w_nL, ↓w_ca, ↓w_ca0, ↓w_gS, ↓w_gK, ↓w_dv, ↓w_tw, ↓w_rz, ↓w_no, nv_lit, nv_f, nv_add, nv_mul, nv_sub, nv_le, nv_lt, nv_eq, nv_cl, Nat.reduceMod, Nat.reduceMul, Nat.reduceAdd, Nat.zero_add, Nat.add_zero, Nat.mul_zero, decide_eq_true_eq, nv_inT, mk_k hM, mk_n hM, mk_r hM, mk_i hM, hX, hJ, X1_isBetween_w, X1_requireArgument_1 n10, X1_requireArgument_0, X1_requireIndex_1 n10, X1_requireIndex_0, Nat.reduceEqDiff, okn, hX0, va1_f, va2_f, hK_new, hN_new, hK_wI, hN_wI, up1_s, Nat.reduceLeDiff, Nat.not_lt_zero, X1_requireHeaps_1 hM hX hv (va1_q a _)]
    refine X2_ways_w hM hFs _ fun b D hD hW => ?_
    have hE2 := hE.tr hW.1
    have hC2 := hC.e0 hE2
    have hJ2 := hC2.2.1
    have hmul := Nat.mul_le_mul h10 h10
    have hzb : hSz b ≤ hSz a + 13 := by rw [hW.2.1, va1_z]; omega
    have hlb : hSl b ≤ hSl a + 113 := by rw [hW.2.2.1, va1_l]; omega
    simp (disch := omega) only [↓w_bd, ↓w_rt, ↓w_bh, sm_l, sm_r, ↓w_okr, ↓w_nm, ↓w_ite, ↓reduceIte, not_true_eq_false, not_false_eq_true, and_true, true_and, and_self, Option.some.injEq, reduceCtorEq, eq_self, ↓w_rc, ↓w_gI, ↓w_gR, ↓w_aN, ↓w_aI, ↓w_aR, ↓w_aL, ↓w_pI, ↓w_pR, ↓w_sI, ↓w_sR, ↓w_sL, ↓w_nO, ↓w_nA, ↓w_nL, ↓w_ca, ↓w_ca0, ↓w_gS, ↓w_gK, ↓w_dv, ↓w_tw, ↓w_rz, ↓w_no, nv_lit, nv_f, nv_add, nv_mul, nv_sub, nv_le, nv_lt, nv_eq, nv_cl, Nat.reduceMod, Nat.reduceMul, Nat.reduceAdd, Nat.zero_add, Nat.add_zero, Nat.mul_zero, decide_eq_true_eq, nv_inT, hJ2]
    refine J3_setLength_w hC2 (fun i => nv (wc (kn R x i))) _ fun c jc ep eI e1 e2 => ?_
    have zc : hSz c = hSz b ∧ hSl c = hSl b := ⟨congrArg (fun x => x.1.1.1) e1, congrArg (fun x => x.1.1.2) e1⟩
    have hs : ∀ i, i < 22 → G i < hSz (va1 a (nv x)) := fun i hi => (hCb.1 i hi).1
    have hWc : Wm (hSz (va1 a (nv x))) (nH R) c D := by
      have h := hW.2.2.2
      have s5 := hs 5 (by omega)
      have eK : hK c = hK b := congrArg (fun x => x.1.2.1) e1
      have eN : hN c = hN b := congrArg (fun x => x.1.2.2) e1
      have eR : hR c = hR b := congrArg (fun x => x.1) e2
      unfold Wm at *
      rw [eK, eN, eR, eI _ (by omega)]
      refine ⟨h.1, h.2.1, h.2.2.1, h.2.2.2.1, fun u w hu hw => ?_⟩
      rw [eI _ (by omega)]
      exact h.2.2.2.2 u w hu hw
    have fr : Frm G B a c := (hE2.fr G B).tr (fun _ _ => rfl) (ep.fr fun q hq _ => by
      rcases hq with e | e
      · rw [e]; exact ⟨.inr ⟨5, by omega, rfl⟩, by rw [hJ2.2.1.2.2.2.2.1]; omega⟩
      · rw [e]; exact ⟨.inr ⟨7, by omega, rfl⟩, by rw [hJ2.2.1.2.2.2.2.2.2.1]; omega⟩)
    refine X1_write_29_w jc h0 hD hWc hs hx fr _ fun d jd frd zd ld => ?_
    refine ⟨B, _, ⟨jd, frd, fun _ _ => rfl, by omega, by omega⟩, fun c' hc' => ?_⟩
    obtain ⟨hF, hF0⟩ := jt_f0 hG hc' h0
    have t5 := th_5 G c' (nv 0)
    simp (disch := omega) only [X5_write, ↓w_bd, ↓w_rt, ↓w_bh, sm_l, sm_r, ↓w_okr, ↓w_nm, ↓w_ite, ↓reduceIte, not_true_eq_false, not_false_eq_true, and_true, true_and, and_self, Option.some.injEq, reduceCtorEq, eq_self, ↓w_rc, ↓w_gI, ↓w_gR, ↓w_aN, ↓w_aI, ↓w_aR, ↓w_aL, ↓w_pI, ↓w_pR, ↓w_sI, ↓w_sR, ↓w_sL, ↓w_nO, ↓w_nA, ↓w_nL, ↓w_ca, ↓w_ca0, ↓w_gS, ↓w_gK, ↓w_dv, ↓w_tw, ↓w_rz, ↓w_no, nv_lit, nv_f, nv_add, nv_mul, nv_sub, nv_le, nv_lt, nv_eq, nv_cl, Nat.reduceMod, Nat.reduceMul, Nat.reduceAdd, Nat.zero_add, Nat.add_zero, Nat.mul_zero, decide_eq_true_eq, nv_inT, th_f, th_K, th_N, th_R, th_5, th_2, okn0, Nat.reduceEqDiff, hF.1, hF0.1, X5_in_w, X5_holds_1 hF0.1.1.1 t5 n10, X5_holds_0 hF0.1.1.1 t5, n10, X5_isHeap_1 hF0 hS hv, X5_get_w hF0, sh_H hS]
    have hT0 := hc'.th hG (nv 0)
    -- the length is told first
    obtain ⟨b2, eb2⟩ : ∃ b2, b2 = hwI (th G c' (nv 0)) (G 10) (up1 (hI (th G c' (nv 0)) (G 10)) 20 (nv (nH R))) := ⟨_, rfl⟩
    rw [← eb2]
    have o10 : ∀ j, j ≠ 20 → hI b2 (G 10) j = hI (th G c' (nv 0)) (G 10) j := fun j hj => by rw [eb2, hI_wI, up1_s, up1_n _ _ hj]
    have oo : ∀ q, q ≠ G 10 → hI b2 q = hI (th G c' (nv 0)) q := fun q hq => by rw [eb2, hI_wI, up1_n _ _ hq]
    have h20 : hI b2 (G 10) 20 = nv (nH R) := by rw [eb2, hI_wI, up1_s, up1_s]
    have k2 : b2.1 = (th G c' (nv 0)).1 ∧ b2.2.2 = (th G c' (nv 0)).2.2 := by rw [eb2]; exact ⟨rfl, rfl⟩
    have hT2 : JT G (sO S (nH R, hI b2 (G 19))) b2 := hT0.ou hG _ k2 (fun q g1 _ _ _ _ => oo q g1) (fun j _ g2 => o10 j g2) h20 (fun _ _ => rfl)
    have tf2 : Tf G c' b2 := (Tf.thr G c' (nv 0)).tr ⟨k2.1, k2.2, fun q g1 _ _ _ _ _ _ _ => oo q g1, fun j _ _ g3 => o10 j g3⟩
    refine ⟨rfl, ?_⟩
    refine X5_write_31_w hG hRo hx (S := sO S (nH R, hI b2 (G 19))) h0 hT2 h20 (by rw [o10 _ (by omega)]; exact t5) _ fun d2 jt tf h5 => ?_
    exact ⟨jt, tf2.tr tf, h5, rfl⟩
  · simp (disch := omega) only [X1_write, ↓w_bd, ↓w_rt, ↓w_bh, sm_l, sm_r, ↓w_okr, ↓w_nm, ↓w_ite, ↓reduceIte, not_true_eq_false, not_false_eq_true, and_true, true_and, and_self, Option.some.injEq, reduceCtorEq, eq_self, ↓w_rc, ↓w_gI, ↓w_gR, ↓w_aN, ↓w_aI, ↓w_aR, ↓w_aL, ↓w_pI, ↓w_pR, ↓w_sI, ↓w_sR, ↓w_sL, ↓w_nO, ↓w_nA, ↓w_nL, ↓w_ca, ↓w_ca0, ↓w_gS, ↓w_gK, ↓w_dv, ↓w_tw, ↓w_rz, ↓w_no, nv_lit, nv_f, nv_add, nv_mul, nv_sub, nv_le, nv_lt, nv_eq, nv_cl, Nat.reduceMod, Nat.reduceMul, Nat.reduceAdd, Nat.zero_add, Nat.add_zero, Nat.mul_zero, decide_eq_true_eq, nv_inT, mk_k hM, mk_n hM, mk_r hM, mk_i hM, hX, hJ, X1_isBetween_w, X1_requireArgument_1 n10, X1_requireArgument_0, X1_requireIndex_1 n10, X1_requireIndex_0, Nat.reduceEqDiff, okn, hX0, va1_f, va2_f, hK_new, hN_new, hK_wI, hN_wI, up1_s, Nat.reduceLeDiff, Nat.not_lt_zero, X1_requireHeaps_x hM hX (by omega) hv (va1_q a _)]
    refine ap_x hC (hE.tr (tw_e _)) (by rw [tw_z, va1_z]; omega) (by rw [tw_l, va1_l]; omega) (k := 1) rfl (by omega) (by omega) fun c hc Q hq => ?_
    obtain ⟨hF, hF0⟩ := jt_f0 hG hc h0
    have t5 := th_5 G c (nv 0)
    simp (disch := omega) only [X5_write, ↓w_bd, ↓w_rt, ↓w_bh, sm_l, sm_r, ↓w_okr, ↓w_nm, ↓w_ite, ↓reduceIte, not_true_eq_false, not_false_eq_true, and_true, true_and, and_self, Option.some.injEq, reduceCtorEq, eq_self, ↓w_rc, ↓w_gI, ↓w_gR, ↓w_aN, ↓w_aI, ↓w_aR, ↓w_aL, ↓w_pI, ↓w_pR, ↓w_sI, ↓w_sR, ↓w_sL, ↓w_nO, ↓w_nA, ↓w_nL, ↓w_ca, ↓w_ca0, ↓w_gS, ↓w_gK, ↓w_dv, ↓w_tw, ↓w_rz, ↓w_no, nv_lit, nv_f, nv_add, nv_mul, nv_sub, nv_le, nv_lt, nv_eq, nv_cl, Nat.reduceMod, Nat.reduceMul, Nat.reduceAdd, Nat.zero_add, Nat.add_zero, Nat.mul_zero, decide_eq_true_eq, nv_inT, th_f, th_K, th_N, th_R, th_5, th_2, okn0, Nat.reduceEqDiff, hF.1, hF0.1, X5_in_w, X5_holds_1 hF0.1.1.1 t5 n10, X5_holds_0 hF0.1.1.1 t5, X5_isHeap_0 hF0 hS hv]
    exact hq _
theorem op_write {G : Nat → Nat} {B : Nat → Nat × Nat} {S : Gst} {a : Hp} (hC : JC G B S a) (hT : JT G S a) (v : Int32) : OpL G a (X0_write (some (G 0)) v (some (G 20))) (X5_write (G 10) v) :=
  Act.op (m := fun h => X1_write h v) hC hT (act_write hC v) fun _ _ h Q => hd_i h Q
