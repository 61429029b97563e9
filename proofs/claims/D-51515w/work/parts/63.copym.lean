/-! A MARKET COPIED -/
/-- rows with one row of facts more -/
def rF (Rn R : Nat → Int32) (k i : Nat) : Int32 := if 85 + 10 * k ≤ i ∧ i < 85 + 10 * k + 10 then R i else Rn i
def CpF (a : Hp) (q : Nat) (B : Nat → Nat × Nat) (k : Nat) (R : Nat → Int32) (c : Hp) (z l : Nat) : Prop := ∃ B' Ln Rn, E0 a c ∧ (∀ x, x < hSz a → B' x = B x) ∧ Mk B' c Ln Rn ∧ Ln 0 = q ∧ (∀ i, i < 4 → Rn i = R i) ∧ (∀ x y, x < k → y < 10 → fc Rn x y = fc R x y) ∧ (∀ i, 15 ≤ i → i < 15 + 7 * nH R → Rn i = R i) ∧ (∀ i, 185 ≤ i → i < 185 + 18 * nC R → Rn i = R i) ∧ (∀ r, lv Rn r → hSz a ≤ Ln r) ∧ hSz c ≤ z ∧ hSl c ≤ l
theorem CpI.f {B : Nat → Nat × Nat} {a c : Hp} {L : Nat → Nat} {R : Nat → Int32} (hM : Mk B a L R) {q z l : Nat} (h : CpI a q B (nH R) (nC R) R c z l) : CpF a q B 0 R c z l := by
  obtain ⟨B', Ln, Rn, hE, hB, hN, hq, eH, eC, ⟨e0, e2⟩, ef, eh, ec, lve, hz, hl⟩ := h
  refine ⟨B', Ln, Rn, hE, hB, hN, hq, fun i hi => ?_, fun x y hx => absurd hx (by omega), eh, ec, lve, hz, hl⟩
  have : i = 0 ∨ i = 1 ∨ i = 2 ∨ i = 3 := by omega
  rcases this with rfl | rfl | rfl | rfl
  · exact e0
  · rw [(mk_w hN).2.1.1, (mk_w hM).2.1.1, eH]
  · exact e2
  · rw [(mk_w hN).2.2.1.1, (mk_w hM).2.2.1.1, eC]
def rT (Rn R : Nat → Int32) (n i : Nat) : Int32 := if 11 ≤ i ∧ i < 11 + n then R i else Rn i
def rU (Rn R : Nat → Int32) (n i : Nat) : Int32 := if 4 ≤ i ∧ i < 11 then R i else rT Rn R n i
theorem rT_n (Rn R : Nat → Int32) (n : Nat) {i : Nat} (h : i < 11 ∨ 11 + n ≤ i) : rT Rn R n i = Rn i := if_neg (by omega)
theorem rT_s (Rn R : Nat → Int32) (n : Nat) {i : Nat} (h : 11 ≤ i ∧ i < 11 + n) : rT Rn R n i = R i := if_pos h
theorem rU_n (Rn R : Nat → Int32) (n : Nat) {i : Nat} (h : i < 4 ∨ 11 + n ≤ i) : rU Rn R n i = Rn i := (if_neg (by omega)).trans (rT_n Rn R n (by omega))
theorem rU_s (Rn R : Nat → Int32) (n : Nat) {i : Nat} (h : 4 ≤ i ∧ i < 11 + n) : rU Rn R n i = R i := by
  unfold rU
  split
  · rfl
  · exact rT_s Rn R n (by omega)
theorem copy_end {B : Nat → Nat × Nat} {a : Hp} {L : Nat → Nat} {R : Nat → Int32} (hM : Mk B a L R) {q z l : Nat} (hq : hSz a ≤ q) (Q : Unit → Hp → Prop) (h : ∀ c B' Ln, E0 a c → (∀ x, x < hSz a → B' x = B x) → Mk B' c Ln R → Ln 0 = q → (∀ r, lv R r → hSz a ≤ Ln r) → hSz c ≤ z → hSl c ≤ l → Q () c) : ∀ c, CpF a q B 10 R c z l → ∀ f, Wp (X2_init_2_103 (f + 1) q (some (L 0)) (nv 10)) c Q := by
  intro c hc f
  obtain ⟨B', Ln, Rn, hE, hB, hN, eq, e4, ef, eh, ec, lve, hz, hl⟩ := hc
  have hMc := hM.ext hE hB
  have eT : nT Rn = nT R := by unfold nT; rw [e4 0 (by omega)]
  have eH : nH Rn = nH R := by unfold nH; rw [e4 1 (by omega)]
  have eC : nC Rn = nC R := by unfold nC; rw [e4 3 (by omega)]
  have hT := (mk_w hM).1.2
  have kk := mk_k hN
  have rr : hR c q 3 = some (Ln 6) ∧ hR c q 4 = some (Ln 7) := by
    have := mk_r hN
    unfold MkR at this
    rw [eq] at this
    exact ⟨this.1.2.2.2.1, this.1.2.2.2.2.1⟩
  rw [eq] at kk
  have nn := mk_n hN
  unfold MkN at nn
  rw [eT] at nn
  have l6 := lve 6 (lv_0 (by omega))
  have l7 := lve 7 (lv_0 (by omega))
  have m6 := (hM.2.1 6 (lv_0 (by omega))).1
  have m7 := (hM.2.1 7 (lv_0 (by omega))).1
  have i6 := (mk_i hMc).2.1
  have i7 := (mk_i hMc).2.2.1
  have c0 : (nv 0).toNatClampNeg = 0 := rfl
  have cT : (nv (nT R)).toNatClampNeg = nT R := nv_cl (by omega)
  have c7 : (nv 7).toNatClampNeg = 7 := rfl
  have o1 : okC c (some (L 6)) (nv 0) (nv (nT R)) = true := okC_n (mk_n hMc).1.2.2.2.1 (by omega)
  have o2 : okC c (some (Ln 6)) (nv 0) (nv (nT R)) = true := okC_n nn.1.2.2.2.1 (by omega)
  have o3 : ∀ v, okC (hwI c (Ln 6) v) (some (L 7)) (nv 0) (nv 7) = true := fun v => okC_n (a := hwI c (Ln 6) v) (q := L 7) (mk_n hMc).1.2.2.2.2 (by omega)
  have o4 : ∀ v, okC (hwI c (Ln 6) v) (some (Ln 7)) (nv 0) (nv 7) = true := fun v => okC_n (a := hwI c (Ln 6) v) (q := Ln 7) nn.1.2.2.2.2 (by omega)
  simp (disch := omega) only [X2_init_2_103, ↓w_bd, ↓w_rt, ↓w_bh, sm_l, sm_r, ↓w_okr, ↓w_nm, ↓w_ite, ↓reduceIte, not_true_eq_false, not_false_eq_true, and_true, true_and, and_self, Option.some.injEq, reduceCtorEq, eq_self, ↓w_rc, ↓w_gI, ↓w_gR, ↓w_aN, ↓w_aI, ↓w_aR, ↓w_ca, ↓w_ca0, nv_lit, nv_f, nv_add, nv_mul, nv_sub, nv_le, nv_lt, nv_eq, nv_cl, Nat.reduceMod, Nat.reduceMul, Nat.reduceAdd, Nat.zero_add, Nat.add_zero, Nat.mul_zero, decide_eq_true_eq, nv_inT, ↓w_cpI, mk_k hMc, mk_r hMc, mk_n hMc, kk, rr, nn, Nat.le_refl, o1, o2, o3, o4, okB_41, c0, cT, c7, hK_wI, hR_wI, hN_wI, hI_wI]
  have hN1 := hN.w67 (s := 6) (.inl rfl) (g := va_cpy (hI c (L 6)) (hI c (Ln 6)) 0 0 (nT R)) (R' := rT Rn R (nT R)) (fun i hi => rT_n _ _ _ (by omega)) (fun j hj => by
    rw [eT] at hj
    rw [if_pos rfl, rT_s _ _ _ (by omega)]
    unfold va_cpy
    rw [if_pos (by omega), Nat.zero_add, Nat.sub_zero]
    exact i6 j hj) (fun j hj => by
    rw [if_neg (by omega), rT_n _ _ _ (by omega)]
    exact (mk_i hN).2.2.1 j hj)
  have eT1 : nT (rT Rn R (nT R)) = nT R := by
    unfold nT
    rw [rT_n _ _ _ (by omega)]
    exact eT
  have e7 : hI (hwI c (Ln 6) (va_cpy (hI c (L 6)) (hI c (Ln 6)) 0 0 (nT R))) (L 7) = hI c (L 7) := by rw [hI_wI, up1_n _ _ (by omega)]
  have hN2 := hN1.w67 (s := 7) (.inr rfl) (g := va_cpy (hI c (L 7)) (hI (hwI c (Ln 6) (va_cpy (hI c (L 6)) (hI c (Ln 6)) 0 0 (nT R))) (Ln 7)) 0 0 7) (R' := rU Rn R (nT R)) (fun i hi => if_neg (by omega)) (fun j hj => by
    rw [eT1] at hj
    have e : rU Rn R (nT R) (11 + j) = rT Rn R (nT R) (11 + j) := if_neg (by omega)
    rw [if_neg (by omega), e]
    exact (mk_i hN1).2.1 j (by rw [eT1]; exact hj)) (fun j hj => by
    rw [if_pos rfl, rU_s _ _ _ (by omega)]
    unfold va_cpy
    rw [if_pos (by omega), Nat.zero_add, Nat.sub_zero]
    exact i7 j hj)
  rw [hI_wI] at hN2
  have e7' : up1 (hI c) (Ln 6) (va_cpy (hI c (L 6)) (hI c (Ln 6)) 0 0 (nT R)) (L 7) = hI c (L 7) := up1_n _ _ (by omega)
  rw [e7']
  have eH2 : nH (rU Rn R (nT R)) = nH R := by
    unfold nH
    rw [rU_n _ _ _ (by omega)]
    exact eH
  have eC2 : nC (rU Rn R (nT R)) = nC R := by
    unfold nC
    rw [rU_n _ _ _ (by omega)]
    exact eC
  have eT2 : nT (rU Rn R (nT R)) = nT R := by
    unfold nT
    rw [rU_n _ _ _ (by omega)]
    exact eT
  refine h _ B' Ln ((hE.wI l6 _).wI l7 _) hB (hN2.cg ?_ ?_ ?_ ?_ ?_ ?_) eq (fun r hr => lve r (by unfold lv at *; rw [eH, eC]; exact hr)) hz hl
  · rw [rU_n _ _ _ (by omega)]; exact (e4 0 (by omega)).symm
  · rw [rU_n _ _ _ (by omega)]; exact (e4 1 (by omega)).symm
  · rw [rU_n _ _ _ (by omega)]; exact (e4 3 (by omega)).symm
  · intro x hx
    rw [eH2] at hx
    rw [rU_n _ _ _ (by omega)]
    exact (eh _ (by omega) (by omega)).symm
  · intro r j i hi
    have h4 : i < 4 ∨ (4 ≤ i ∧ i < 11) ∨ (11 ≤ i ∧ i < 11 + nT R) ∨ (15 ≤ i ∧ i < 15 + 7 * nH R) ∨ (185 ≤ i ∧ i < 185 + 18 * nC R) := by
      have hc := ci_c hi
      rw [eH2, eC2, eT2] at hc
      rcases hc with c | c | c | c | c | ⟨z, hz, c | c⟩ | ⟨z, hz, c | c | c | c⟩ <;> omega
    rcases h4 with c | c | c | c | c
    · rw [rU_n _ _ _ (by omega)]; exact (e4 i c).symm
    · rw [rU_s _ _ _ (by omega)]
    · rw [rU_s _ _ _ (by omega)]
    · rw [rU_n _ _ _ (by omega)]; exact (eh i c.1 c.2).symm
    · rw [rU_n _ _ _ (by omega)]; exact (ec i c.1 c.2).symm
  · intro x y hx hy
    have := ef x y hx hy
    unfold fc at *
    rw [rU_n _ _ _ (by omega)]
    exact this.symm
theorem copy_facts {B : Nat → Nat × Nat} {a : Hp} {L : Nat → Nat} {R : Nat → Int32} (hM : Mk B a L R) {q z l : Nat} (hq : hSz a ≤ q) (Q : Unit → Hp → Prop) (h : ∀ c B' Ln, E0 a c → (∀ x, x < hSz a → B' x = B x) → Mk B' c Ln R → Ln 0 = q → (∀ r, lv R r → hSz a ≤ Ln r) → hSz c ≤ z → hSl c ≤ l → Q () c) : ∀ c, CpF a q B 0 R c z l → Wp (X2_init_2_103 FU q (some (L 0)) (nv 0)) c Q := by
  have h10 := (mk_w hM).2.1.2
  have h20 := (mk_w hM).2.2.1.2
  have lp : ∀ (f k : Nat), k ≤ 10 → 10 - k < f → ∀ c, CpF a q B k R c z l → Wp (X2_init_2_103 f q (some (L 0)) (nv k)) c Q := by
    refine loopUp _ 10 ?_ ?_
    · intro f c hc
      exact copy_end hM hq Q h c hc f
    · intro f k hk2 ih c hc
      obtain ⟨B', Ln, Rn, hE, hB, hN, eq, e4, ef, eh, ec, lve, hz, hl⟩ := hc
      have hMc := hM.ext hE hB
      have eH : nH Rn = nH R := by unfold nH; rw [e4 1 (by omega)]
      have eC : nC Rn = nC R := by unfold nC; rw [e4 3 (by omega)]
      have kk := mk_k hN
      have rr : hR c q 2 = some (Ln 5) := by
        have := mk_r hN
        unfold MkR at this
        rw [eq] at this
        exact this.1.2.2.1
      rw [eq] at kk
      have r5 := (mk_r hN).2.1
      have nn := mk_n hN
      have c0 : (nv 0).toNatClampNeg = 0 := rfl
      have c10 : (nv 10).toNatClampNeg = 10 := rfl
      have o1 : okC c (some (L (10 + k))) (nv 0) (nv 10) = true := okC_n ((mk_n hMc).2.1 k hk2) (by omega)
      have o2 : okC c (some (Ln (10 + k))) (nv 0) (nv 10) = true := okC_n (nn.2.1 k hk2) (by omega)
      have ff := fun y hy => mk_f hMc k y hk2 hy
      have oa : (List.range 10).all (fun j => okR c [10] (hR c (L (10 + k)) j)) = true := by
        rw [List.all_eq_true]
        intro j hj
        have hj2 : j < 10 := List.mem_range.mp hj
        rcases ff j hj2 with ⟨-, e⟩ | ⟨f1, e, -, -, f2⟩
        · rw [e]; rfl
        · rw [e]; exact okR_f f2
      simp (disch := omega) only [X2_init_2_103, ↓w_bd, ↓w_rt, ↓w_bh, sm_l, sm_r, ↓w_okr, ↓w_nm, ↓w_ite, ↓reduceIte, not_true_eq_false, not_false_eq_true, and_true, true_and, and_self, Option.some.injEq, reduceCtorEq, eq_self, ↓w_rc, ↓w_gI, ↓w_gR, ↓w_aN, ↓w_aI, ↓w_aR, ↓w_ca, ↓w_ca0, nv_lit, nv_f, nv_add, nv_mul, nv_sub, nv_le, nv_lt, nv_eq, nv_cl, Nat.reduceMod, Nat.reduceMul, Nat.reduceAdd, Nat.zero_add, Nat.add_zero, Nat.mul_zero, decide_eq_true_eq, nv_inT, ↓w_cpR, mk_k hMc, mk_r hMc, mk_n hMc, kk, rr, r5, nn, Nat.not_le.mpr hk2, o1, o2, oa, c0, c10]
      have l10 := lve (10 + k) (lv_10 hk2)
      have rFo : ∀ i, i < 85 + 10 * k ∨ 85 + 10 * k + 10 ≤ i → rF Rn R k i = Rn i := fun i hi => if_neg (by omega)
      have rFs : ∀ y, y < 10 → fc (rF Rn R k) k y = fc R k y := fun y hy => if_pos (by omega)
      have rFn : ∀ x y, x < 10 → y < 10 → x ≠ k → fc (rF Rn R k) x y = fc Rn x y := fun x y hx hy hn => if_neg (by omega)
      refine ih _ ⟨B', Ln, rF Rn R k, hE.wR l10 _, hB, hN.rF hk2 (fun i hi => rFo i (by omega)) rFn ?_, eq, ?_, ?_, ?_, ?_, ?_, hz, hl⟩
      · intro y hy
        have e : va_cpy (hR c (L (10 + k))) (hR c (Ln (10 + k))) 0 0 10 y = hR c (L (10 + k)) y := by
          unfold va_cpy
          rw [if_pos (by omega), Nat.zero_add, Nat.sub_zero]
        rw [e, rFs y hy]
        exact ff y hy
      · intro i hi
        rw [rFo i (by omega)]; exact e4 i hi
      · intro x y hx hy
        by_cases d : x = k
        · rw [d]; exact rFs y hy
        · rw [rFn x y (by omega) hy d]; exact ef x y (by omega) hy
      · intro i h1 h2
        rw [rFo i (by omega)]; exact eh i h1 h2
      · intro i h1 h2
        rw [rFo i (by omega)]; exact ec i h1 h2
      · intro r hr
        refine lve r ?_
        have d1 : nH (rF Rn R k) = nH Rn := by unfold nH; rw [rFo _ (by omega)]
        have d2 : nC (rF Rn R k) = nC Rn := by unfold nC; rw [rFo _ (by omega)]
        unfold lv at *
        rw [d1, d2] at hr
        exact hr
  intro c hc
  exact lp FU 0 (by omega) (by unfold FU; omega) c hc
def il (y : Nat) : Nat := if y = 0 then 0 else if y = 1 then 1 else if y = 2 then 3 else if y = 3 then 2 else if y = 4 then 4 else if y = 5 then 5 else if y = 17 then 6 else if y = 16 then 7 else y + 4
theorem il_lq {r : Nat} (h : r < 8 ∨ (10 ≤ r ∧ r < 20)) : il (lq r) = r := by
  have hf : ∀ r : Fin 20, (r.val < 8 ∨ 10 ≤ r.val) → il (lq r.val) = r.val := by decide
  exact hf ⟨r, by omega⟩ (h.imp id fun g => g.1)
/-- a market copied: the same row, fresh cells -/
theorem X2_copy_w {B : Nat → Nat × Nat} {a : Hp} {L : Nat → Nat} {R : Nat → Int32} (hM : Mk B a L R) {q : Nat} {b : Hp} (hq : q = hSz a) (hb : hSz b = q + 1) (hE : E0 a b) (hk : hK b q = 2) (Q : Unit → Hp → Prop)
    (h : ∀ c B' Ln, E0 a c → (∀ x, x < hSz a → B' x = B x) → Mk B' c Ln R → Ln 0 = q → (∀ r, lv R r → hSz a ≤ Ln r) → hSz c ≤ hSz b + 140 → hSl c ≤ hSl b + 700 → Q () c) : Wp (X2_init_2 q (some (L 0))) b Q := by
  have hT := (mk_w hM).1.2
  have hMb := hM.ext hE (B' := B) (fun _ _ => rfl)
  unfold X2_init_2
  simp (disch := omega) only [↓w_bd, ↓w_rt, ↓w_bh, sm_l, sm_r, ↓w_okr, ↓w_nm, ↓w_ite, ↓reduceIte, not_true_eq_false, not_false_eq_true, and_true, true_and, and_self, Option.some.injEq, reduceCtorEq, eq_self, ↓w_rc, ↓w_gI, ↓w_gR, ↓w_aN, ↓w_aI, ↓w_aR, ↓w_ca, ↓w_ca0, nv_lit, nv_f, nv_add, nv_mul, nv_sub, nv_le, nv_lt, nv_eq, nv_cl, Nat.reduceMod, Nat.reduceMul, Nat.reduceAdd, Nat.zero_add, Nat.add_zero, Nat.mul_zero, decide_eq_true_eq, nv_inT, mk_k hMb, mk_r hMb, mk_n hMb, mk_i hMb]
  refine X2_init_w hq hb hE hk hT _ fun c e1 z1 l1 em => ?_
  let Rn : Nat → Int32 := fun i => if i = 0 then R 0 else if i = 2 then R 2 else if 11 ≤ i ∧ i < 15 then nv 10 else if 85 ≤ i ∧ i < 185 then -1 else nv 0
  have hEr : Er (nT R) (R 2) Rn := ⟨(mk_w hM).1.1, rfl, rfl, rfl, fun j hj => by
    show Rn (4 + j) = _
    simp only [Rn]
    rw [if_neg (by omega), if_neg (by omega), if_neg (by omega), if_neg (by omega)], fun j hj => by
    simp only [Rn]
    rw [if_neg (by omega), if_neg (by omega), if_pos (by omega)], fun x y hx hy => by
    simp only [fc, Rn]
    rw [if_neg (by omega), if_neg (by omega), if_neg (by omega), if_pos (by omega)]⟩
  have hMk := em.mk hT (by omega) hEr (B := fun x => if x < q then B x else (q + 1, il (x - q))) (fun r hr => by
    have : q + lq r - q = lq r := by omega
    show (if q + lq r < q then B (q + lq r) else (q + 1, il (q + lq r - q))) = _
    rw [if_neg (by omega), this, il_lq hr])
  refine copy_heaps hM _ (copy_claims hM _ fun c hc => copy_facts hM (by omega) Q (fun d B' Ln g1 g2 g3 g4 g5 g6 g7 => h d B' Ln g1 g2 g3 g4 g5 (by omega) (by omega)) c (hc.f hM)) c (z := q + 18) (l := hSl c) ⟨_, _, _, e1, fun x hx => if_pos (by omega), hMk, rfl, rfl, rfl, ⟨rfl, rfl⟩, hEr.2.2.2.2.2.2, fun i h1 h2 => absurd h1 (by omega), fun i h1 h2 => absurd h1 (by omega), fun r _ => by unfold LQ; omega, by omega, by omega⟩
