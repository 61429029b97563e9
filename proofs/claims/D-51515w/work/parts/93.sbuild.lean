/-! WORDS ARE BUILT: the builder grows -/
theorem z31 : (nv 0 &&& nv 31) = 0 := by decide
theorem shr0 (x : Int32) : x >>> (nv 0 &&& nv 31) = x := by
  rw [z31]
  exact Int32.shiftRight_zero
theorem shl0 (x : Int32) : x <<< (nv 0 &&& nv 31) = x := by
  rw [z31]
  exact Int32.shiftLeft_zero
/-- a builder q over the bytes v: cap places, j letters f -/
def Bd (d : Hp) (q v cap j : Nat) (f : Nat → Nat) : Prop := (hK d q = 12 ∧ hR d q 0 = some v ∧ hI d q 1 = nv 0 ∧ hI d q 3 = nv j) ∧ (hK d v = 42 ∧ hN d v = cap) ∧ (∀ i, i < cap → hI d v i = if i < j then nv (f i) else nv 0) ∧ j ≤ cap ∧ q ≠ v ∧ q < hSz d ∧ v < hSz d
theorem by_ok {c : Nat} (h : c ≤ 127) : nrA 42 ((nv c).toInt8.toInt32) = nv c ∧ ¬ nv 255 < nv c ∧ -128 ≤ nv c ∧ nv c ≤ 127 := by
  have hf : ∀ c : Fin 128, nrA 42 ((nv c.val).toInt8.toInt32) = nv c.val ∧ ¬ nv 255 < nv c.val ∧ -128 ≤ nv c.val ∧ nv c.val ≤ 127 := by decide +kernel
  exact hf ⟨c, by omega⟩
theorem J2_is_w {d : Hp} {q : Nat} (hk : hK d q = 12) (h1 : hI d q 1 = nv 0) (Q : Int32 → Hp → Prop) : Wp (J2_isLatin1 q) d Q ↔ Q (nv 1) d := by
  simp (disch := omega) only [J2_isLatin1, J2_isLatin1_18, ↓w_bd, ↓w_rt, ↓w_bh, sm_l, sm_r, ↓w_okr, ↓w_nm, ↓w_ite, ↓reduceIte, not_true_eq_false, not_false_eq_true, and_true, true_and, and_self, Option.some.injEq, reduceCtorEq, eq_self, ↓w_rc, ↓w_gI, ↓w_gR, ↓w_aN, ↓w_aI, ↓w_aR, ↓w_aL, ↓w_pI, ↓w_pR, ↓w_sI, ↓w_sR, ↓w_sL, ↓w_nO, ↓w_nA, ↓w_nL, ↓w_ca, ↓w_ca0, ↓w_gS, ↓w_gK, ↓w_dv, ↓w_tw, ↓w_rz, ↓w_no, nv_lit, nv_f, nv_add, nv_mul, nv_sub, nv_le, nv_lt, nv_eq, nv_cl, Nat.reduceMod, Nat.reduceMul, Nat.reduceAdd, Nat.zero_add, Nat.add_zero, Nat.mul_zero, decide_eq_true_eq, nv_inT, hk, h1, n10, nrk21]
theorem J14_can_w {c : Nat} (h : c ≤ 127) (d : Hp) (Q : Int32 → Hp → Prop) : Wp (J14_canEncode (nv c)) d Q ↔ Q (nv 1) d := by
  have := (by_ok h).2.1
  simp (disch := omega) only [J14_canEncode, J14_canEncode_12, ↓w_bd, ↓w_rt, ↓w_bh, sm_l, sm_r, ↓w_okr, ↓w_nm, ↓w_ite, ↓reduceIte, not_true_eq_false, not_false_eq_true, and_true, true_and, and_self, Option.some.injEq, reduceCtorEq, eq_self, ↓w_rc, ↓w_gI, ↓w_gR, ↓w_aN, ↓w_aI, ↓w_aR, ↓w_aL, ↓w_pI, ↓w_pR, ↓w_sI, ↓w_sR, ↓w_sL, ↓w_nO, ↓w_nA, ↓w_nL, ↓w_ca, ↓w_ca0, ↓w_gS, ↓w_gK, ↓w_dv, ↓w_tw, ↓w_rz, ↓w_no, nv_lit, nv_f, nv_add, nv_mul, nv_sub, nv_le, nv_lt, nv_eq, nv_cl, Nat.reduceMod, Nat.reduceMul, Nat.reduceAdd, Nat.zero_add, Nat.add_zero, Nat.mul_zero, decide_eq_true_eq, nv_inT, show ¬ 255 < c by omega, nrk21]
theorem nv_subI {m n : Nat} (hm : m ≤ 100000) (hn : n ≤ 100000) : (nv m - nv n).toInt = (m : Int) - n := by
  rw [Int32.toInt_sub, nv_int (by omega), nv_int (by omega)]
  first
    | exact Int.bmod_eq_of_le (by omega) (by omega)
    | exact Int.bmod_eq_self_of_le (by omega) (by omega)
theorem nv_sub_le {m n : Nat} (h : m ≤ n) (hn : n ≤ 100000) : nv m - nv n ≤ nv 0 := by
  rw [Int32.le_iff_toInt_le, nv_subI (by omega) hn, nv_int (by omega)]
  omega
theorem nv_sub_gt {m n : Nat} (h : n < m) (hm : m ≤ 100000) : ¬ nv m - nv n ≤ nv 0 := by
  rw [Int32.le_iff_toInt_le, nv_subI hm (by omega), nv_int (by omega)]
  omega
theorem J2_ens_0 {d : Hp} {q v cap j m : Nat} {f : Nat → Nat} (hB : Bd d q v cap j f) (hc : cap ≤ 2000) (hm : m ≤ cap) (Q : Unit → Hp → Prop) : Wp (J2_ensureCapacityInternal q (nv m)) d Q ↔ Q () d := by
  obtain ⟨⟨k1, k2, k3, k4⟩, ⟨k5, k6⟩, -, -, -, -, -⟩ := hB
  have ca : nv m - nv cap ≤ nv 0 := nv_sub_le hm (by omega)
  simp (disch := omega) only [J2_ensureCapacityInternal, J2_ensureCapacityInternal_38, ↓w_bd, ↓w_rt, ↓w_bh, sm_l, sm_r, ↓w_okr, ↓w_nm, ↓w_ite, ↓reduceIte, not_true_eq_false, not_false_eq_true, and_true, true_and, and_self, Option.some.injEq, reduceCtorEq, eq_self, ↓w_rc, ↓w_gI, ↓w_gR, ↓w_aN, ↓w_aI, ↓w_aR, ↓w_aL, ↓w_pI, ↓w_pR, ↓w_sI, ↓w_sR, ↓w_sL, ↓w_nO, ↓w_nA, ↓w_nL, ↓w_ca, ↓w_ca0, ↓w_gS, ↓w_gK, ↓w_dv, ↓w_tw, ↓w_rz, ↓w_no, nv_lit, nv_f, nv_add, nv_mul, nv_sub, nv_le, nv_lt, nv_eq, nv_cl, Nat.reduceMod, Nat.reduceMul, Nat.reduceAdd, Nat.zero_add, Nat.add_zero, Nat.mul_zero, decide_eq_true_eq, nv_inT, k1, k2, k3, k5, k6, shr0, ca]
/-- more room: twice as much and two -/
theorem J2_ens_1 {a d : Hp} {q v cap j : Nat} {f : Nat → Nat} (hE : E0 a d) (hqa : hSz a ≤ q) (hB : Bd d q v cap j f) (h16 : 16 ≤ cap) (hc : cap ≤ 480) (hj : j = cap) (hf : ∀ i, i < j → f i ≤ 127) (Q : Unit → Hp → Prop)
    (kk : ∀ d', E0 a d' → Bd d' q (hSz d) (2 * cap + 2) j f → hSz d' = hSz d + 1 → hSl d' = hSl d + (2 * cap + 2) → EP (fun x => x = q) d d' → Q () d') : Wp (J2_ensureCapacityInternal q (nv (j + 1))) d Q := by
  obtain ⟨⟨k1, k2, k3, k4⟩, ⟨k5, k6⟩, hv, hjc, hne, zq, zv⟩ := hB
  subst hj
  have m1 : mx (nv 1) (nv (j + 2)) = nv (j + 2) := by rw [mx_nv (by omega) (by omega), Nat.max_eq_right (by omega)]
  have ej : j + (j + 2) = 2 * j + 2 := by omega
  unfold J2_ensureCapacityInternal
  simp (disch := omega) only [↓w_bd, ↓w_rt, ↓w_bh, sm_l, sm_r, ↓w_okr, ↓w_nm, ↓w_ite, ↓reduceIte, not_true_eq_false, not_false_eq_true, and_true, true_and, and_self, Option.some.injEq, reduceCtorEq, eq_self, ↓w_rc, ↓w_gI, ↓w_gR, ↓w_aN, ↓w_aI, ↓w_aR, ↓w_ca, ↓w_ca0, nv_lit, nv_f, nv_add, nv_mul, nv_sub, nv_le, nv_lt, nv_eq, nv_cl, Nat.reduceMod, Nat.reduceMul, Nat.reduceAdd, Nat.zero_add, Nat.add_zero, Nat.mul_zero, decide_eq_true_eq, nv_inT, k1, k2, k3, k5, k6, shr0, J2_newCapacity, shl0, J11_newLength, J12_max_w, show j + 1 - j = 1 by omega, show ¬ 1 ≤ 0 by omega, m1, ej, show ¬ 2 * j + 2 ≤ 0 by omega, show ¬ 2147483639 < 2 * j + 2 by omega, show ¬ 2 * j + 2 = 2147483647 by omega, J13_copyOf, show ¬ 2 * j + 2 = j by omega]
  refine w_nA' (n := 2 * j + 2) (by omega) fun c e1 z1 l1 ck cn ci cr => ?_
  have oq := e1.2.2 q zq
  have ov := e1.2.2 v zv
  have mnj : mn (nv j) (nv (2 * j + 2)) = nv j := by rw [mn_nv (by omega) (by omega), Nat.min_eq_left (by omega)]
  have vk : hK c v = 42 := by rw [ov.1]; exact k5
  have vn : hN c v = j := by rw [ov.2.1]; exact k6
  have qk : hK c q = 12 := by rw [oq.1]; exact k1
  have o1 : okC c (some v) (nv 0) (nv j) = true := okC_n vn (by omega)
  have o2 : okC c (some (hSz d)) (nv 0) (nv j) = true := by
    have e : (nv j).toNatClampNeg = j := nv_cl (by omega)
    have e0 : (nv 0).toNatClampNeg = 0 := rfl
    have z : ¬ nv j < 0 := by rw [show (0 : Int32) = nv 0 from rfl, nv_lt (by omega) (by omega)]; omega
    have z0 : ¬ nv 0 < 0 := by decide
    unfold okC
    simp only [e, e0, z, z0, cn, not_false_eq_true, true_and, Nat.zero_add, decide_eq_true_eq]
    omega
  have vi : ∀ i, i < j → hI c v i = nv (f i) := fun i hi => by rw [ov.2.2.2.1, hv i hi, if_pos hi]
  have ob : okB c 42 v 0 j = true := by
    unfold okB
    rw [Bool.or_eq_true]
    right
    rw [List.all_eq_true]
    intro i hi
    have hi2 : i < j := List.mem_range.mp hi
    rw [Nat.zero_add, vi i hi2, Bool.and_eq_true]
    exact ⟨decide_eq_true (by_ok (hf i hi2)).2.2.1, decide_eq_true (by_ok (hf i hi2)).2.2.2⟩
  have c0 : (nv 0).toNatClampNeg = 0 := rfl
  have cj : (nv j).toNatClampNeg = j := nv_cl (by omega)
  simp (disch := omega) only [↓w_bd, ↓w_rt, ↓w_bh, sm_l, sm_r, ↓w_okr, ↓w_nm, ↓w_ite, ↓reduceIte, not_true_eq_false, not_false_eq_true, and_true, true_and, and_self, Option.some.injEq, reduceCtorEq, eq_self, ↓w_rc, ↓w_gI, ↓w_gR, ↓w_aN, ↓w_aI, ↓w_aR, ↓w_ca, ↓w_ca0, nv_lit, nv_f, nv_add, nv_mul, nv_sub, nv_le, nv_lt, nv_eq, nv_cl, Nat.reduceMod, Nat.reduceMul, Nat.reduceAdd, Nat.zero_add, Nat.add_zero, Nat.mul_zero, decide_eq_true_eq, nv_inT, vk, vn, J12_min_w, mnj, ↓w_cpI, ck, o1, o2, ob, ↓w_pR, hK_wI, qk, c0, cj, J2_ensureCapacityInternal_38]
  have nq : q ≠ hSz d := by omega
  have E1 : E0 d c := e1
  refine kk _ (((hE.tr e1).wI (by have := hE.1; omega) _).wR hqa _) ⟨⟨qk, ?_, ?_, ?_⟩, ⟨ck, cn⟩, fun i hi => ?_, by omega, nq, ?_, ?_⟩ z1 l1 ?_
  · rw [hR_wR, up1_s, up1_s]
  · rw [hI_wR, hI_wI, up1_n _ _ nq, oq.2.2.2.1]; exact k3
  · rw [hI_wR, hI_wI, up1_n _ _ nq, oq.2.2.2.1]; exact k4
  · rw [hI_wR, hI_wI, up1_s, ci]
    unfold va_cpy
    by_cases c2 : i < j
    · rw [if_pos (by omega), if_pos c2, Nat.zero_add, Nat.sub_zero]
      exact vi i c2
    · rw [if_neg (by omega), if_neg c2]
  · show q < hSz c
    omega
  · show hSz d < hSz c
    omega
  · exact ((e1.ep (fun x => x = q)).wI (.inr (Nat.le_refl _)) _).wR (.inl rfl) _
/-- a letter behind the word -/
def bap (d : Hp) (q v j c : Nat) : Hp := hwI (hwI d q (up1 (hI d q) 3 (nv (j + 1)))) v (up1 (hI (hwI d q (up1 (hI d q) 3 (nv (j + 1)))) v) j (nv c))
theorem bap_b {d : Hp} {q v cap j : Nat} {f : Nat → Nat} (hB : Bd d q v cap j f) (hj : j < cap) : Bd (bap d q v j (f j)) q v cap (j + 1) f ∧ EP (fun x => x = q ∨ x = v) d (bap d q v j (f j)) := by
  obtain ⟨⟨k1, k2, k3, k4⟩, ⟨k5, k6⟩, hv, hjc, hne, zq, zv⟩ := hB
  have iq : ∀ i, hI (bap d q v j (f j)) q i = up1 (hI d q) 3 (nv (j + 1)) i := fun i => by unfold bap; rw [hI_wI, up1_n _ _ hne, hI_wI, up1_s]
  have iv : ∀ i, hI (bap d q v j (f j)) v i = up1 (hI d v) j (nv (f j)) i := fun i => by unfold bap; rw [hI_wI, up1_s, hI_wI, up1_n _ _ (Ne.symm hne)]
  refine ⟨⟨⟨k1, k2, ?_, ?_⟩, ⟨k5, k6⟩, fun i hi => ?_, by omega, hne, zq, zv⟩, ((EP.rf _ d).wI (.inl (.inl rfl)) _).wI (.inl (.inr rfl)) _⟩
  · rw [iq, up1_n _ _ (by omega)]; exact k3
  · rw [iq, up1_s]
  · rw [iv]
    by_cases e : i = j
    · rw [e, up1_s, if_pos (by omega)]
    · rw [up1_n _ _ e, hv i hi]
      by_cases g : i < j
      · rw [if_pos g, if_pos (by omega)]
      · rw [if_neg g, if_neg (by omega)]
theorem J3_app_0 {d : Hp} {q v cap j : Nat} {f : Nat → Nat} (hB : Bd d q v cap j f) (hc : cap ≤ 2000) (hj : j < cap) (hf : f j ≤ 127) (Q : Option Nat → Hp → Prop) : Wp (bd (rc 12 (some q)) fun h' => bd (J2_isLatin1 h') fun x3 =>
  if x3 = 0 then (
    J2_append_45 q (nv (f j)))
  else
    bd (J14_canEncode (nv (f j))) fun x4 =>
    if x4 = 0 then (
      J2_append_45 q (nv (f j)))
    else
      bd (gR 12 0 (some q)) fun x5 =>
      bd (gI 12 3 (some q)) fun x6 =>
      bd (pI 0 12 3 (some q) (x6 + 1)) fun _ =>
      bd (sI 42 x5 x6 ((nv (f j)).toInt8.toInt32)) fun _ =>
      rt (some q)) d Q ↔ Q (some q) (bap d q v j (f j)) := by
  obtain ⟨⟨k1, k2, k3, k4⟩, ⟨k5, k6⟩, hv, hjc, hne, zq, zv⟩ := hB
  obtain ⟨e1, e2, -, -⟩ := by_ok hf
  simp (disch := omega) only [↓w_bd, ↓w_rt, ↓w_bh, sm_l, sm_r, ↓w_okr, ↓w_nm, ↓w_ite, ↓reduceIte, not_true_eq_false, not_false_eq_true, and_true, true_and, and_self, Option.some.injEq, reduceCtorEq, eq_self, ↓w_rc, ↓w_gI, ↓w_gR, ↓w_aN, ↓w_aI, ↓w_aR, ↓w_aL, ↓w_pI, ↓w_pR, ↓w_sI, ↓w_sR, ↓w_sL, ↓w_nO, ↓w_nA, ↓w_nL, ↓w_ca, ↓w_ca0, ↓w_gS, ↓w_gK, ↓w_dv, ↓w_tw, ↓w_rz, ↓w_no, nv_lit, nv_f, nv_add, nv_mul, nv_sub, nv_le, nv_lt, nv_eq, nv_cl, Nat.reduceMod, Nat.reduceMul, Nat.reduceAdd, Nat.zero_add, Nat.add_zero, Nat.mul_zero, decide_eq_true_eq, nv_inT, k1, k2, k3, k4, k5, k6, J2_is_w k1 k3, J14_can_w hf, n10, e1, okn, hK_wI, hN_wI]
  rfl
def Cap (c : Nat) : Prop := c = 16 ∨ c = 34 ∨ c = 70 ∨ c = 142 ∨ c = 286 ∨ c = 574
theorem J3_app_w {a d : Hp} {q v cap j : Nat} {f : Nat → Nat} (hE : E0 a d) (hqa : hSz a ≤ q) (hva : hSz a ≤ v) (hB : Bd d q v cap j f) (hc : Cap cap) (hj : j ≤ 500) (hf : ∀ i, i ≤ j → f i ≤ 127) (Q : Option Nat → Hp → Prop)
    (kk : ∀ d' v' cap', E0 a d' → hSz a ≤ v' → Bd d' q v' cap' (j + 1) f → (j < cap ∧ cap' = cap ∧ hSz d' = hSz d ∧ hSl d' = hSl d ∧ v' = v) ∨ (cap ≤ j ∧ cap' = 2 * cap + 2 ∧ hSz d' = hSz d + 1 ∧ hSl d' = hSl d + cap' ∧ v' = hSz d) → EP (fun x => x = q ∨ x = v) d d' → Cap cap' → Q (some q) d') : Wp (J3_append q (nv (f j))) d Q := by
  have hB' := hB
  obtain ⟨⟨k1, k2, k3, k4⟩, ⟨k5, k6⟩, hv, hjc, hne, zq, zv⟩ := hB'
  have hcb : 16 ≤ cap ∧ cap ≤ 574 ∧ (cap ≤ 500 → cap ≤ 286) := by unfold Cap at hc; omega
  unfold J3_append
  rw [w_bd, w_rc]
  refine ⟨by rw [k1], ?_⟩
  rw [w_bd]
  unfold J2_append
  rw [w_bd, w_gI]
  refine ⟨by rw [k1], ?_⟩
  rw [k4, w_bd, w_rc]
  refine ⟨by rw [k1], ?_⟩
  rw [w_bd, show nv j + 1 = nv (j + 1) from nv_add j 1]
  by_cases c : j < cap
  · rw [J2_ens_0 hB (by omega) (by omega), J3_app_0 hB (by omega) c (hf j (Nat.le_refl _)), w_rt]
    obtain ⟨b1, b2⟩ := bap_b hB c
    exact kk _ v cap ((hE.wI hqa _).wI hva _) hva b1 (.inl ⟨c, rfl, rfl, rfl, rfl⟩) b2 hc
  · have ej : j = cap := by omega
    refine J2_ens_1 hE hqa hB (by omega) (by omega) ej (fun i hi => hf i (by omega)) _ fun d1 e1 hB1 z1 l1 p1 => ?_
    rw [J3_app_0 hB1 (by omega) (by omega) (hf j (Nat.le_refl _)), w_rt]
    obtain ⟨b1, b2⟩ := bap_b hB1 (show j < 2 * cap + 2 by omega)
    refine kk _ (hSz d) (2 * cap + 2) ((e1.wI hqa _).wI hE.1 _) hE.1 b1 (.inr ⟨by omega, rfl, z1, l1, rfl⟩) ?_ (by unfold Cap at hc ⊢; omega)
    have p2 : EP (fun x => x = q ∨ x = v) d d1 := p1.mono fun x hx => .inl hx
    exact (p2.wI (.inl (.inl rfl)) _).wI (.inr (Nat.le_refl _)) _
