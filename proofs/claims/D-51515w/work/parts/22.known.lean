theorem st1_row {R : Nat → Int32} {b : Nat} {D : Nat → Nat → Int32} (h : Sd R D) (hb : b < nH R) {y : Nat} (hy : y < nH R) : st1 R b D b y = D b y := by
  unfold st1
  by_cases c : D b b ≠ 0 ∧ D b y ≠ 0
  · rw [if_pos c]
    rcases (h b y hb hy).1 with e | e
    · exact absurd e c.2
    · exact e.2.symm
  · rw [if_neg c]
def cur (R : Nat → Int32) (b f t : Nat) (D : Nat → Nat → Int32) (u v : Nat) : Int32 := if u < f ∨ (u = f ∧ v < t) then st1 R b D u v else D u v
abbrev WS (a : Hp) (s n z w : Nat) (b : Hp) (D : Nat → Nat → Int32) : Prop := E0 a b ∧ hSz b = z ∧ hSl b = w ∧ Wm s n b D
theorem X9_close_32_w {R : Nat → Int32} (hF : Fs R) (h10 : nH R ≤ 10) {a : Hp} {s z w : Nat} (hs : hSz a ≤ s) {D : Nat → Nat → Int32} (hD : Sd R D) {m f : Nat} (hm : m < nH R) (hf : f < nH R) (k2 : Nat → Int32 → Mr Unit) (k12 : Nat → Int32 → Int32 → Mr Unit) (Q : Unit → Hp → Prop)
    (hk : ∀ b, WS a s (nH R) z w b (cur R m (f + 1) 0 D) → Wp (k12 s (nv m) (nv (f + 1))) b Q) :
    ∀ b, WS a s (nH R) z w b (cur R m f 0 D) → Wp (X9_close_32 k2 k12 FU s (nv m) (nv f) (D f m) (nv 0)) b Q := by
  have endc : ∀ b, WS a s (nH R) z w b (cur R m f (nH R) D) → Wp (k12 s (nv m) (nv (f + 1))) b Q := by
    intro b hb
    refine hk b ⟨hb.1, hb.2.1, hb.2.2.1, hb.2.2.2.cg fun u v hu hv => ?_⟩
    unfold cur
    have : (u < f ∨ (u = f ∧ v < nH R)) = (u < f + 1 ∨ (u = f + 1 ∧ v < 0)) := by apply propext; omega
    simp only [this]
  by_cases c0 : D f m = 0
  · intro b hb
    rw [c0]
    have e : FU = 99999 + 1 := rfl
    rw [e]
    have : nv 0 ≤ nv 0 := Int32.le_refl _
    simp (disch := omega) only [X9_close_32, X9_close_97, ↓w_bd, ↓w_rt, ↓w_bh, sm_l, sm_r, ↓w_okr, ↓w_nm, ↓w_ite, ↓reduceIte, not_true_eq_false, not_false_eq_true, and_true, true_and, and_self, Option.some.injEq, reduceCtorEq, eq_self, ↓w_rc, ↓w_gI, ↓w_gR, ↓w_aN, ↓w_aI, ↓w_aR, ↓w_aL, ↓w_pI, ↓w_pR, ↓w_sI, ↓w_sR, ↓w_sL, ↓w_nO, ↓w_nA, ↓w_nL, ↓w_ca, ↓w_ca0, ↓w_gS, ↓w_gK, ↓w_dv, ↓w_tw, ↓w_rz, ↓w_no, nv_lit, nv_f, nv_add, nv_mul, nv_sub, nv_le, nv_lt, nv_eq, nv_cl, Nat.reduceMod, Nat.reduceMul, Nat.reduceAdd, Nat.zero_add, Nat.add_zero, Nat.mul_zero, decide_eq_true_eq, nv_inT, Nat.le_refl]
    refine endc b ⟨hb.1, hb.2.1, hb.2.2.1, hb.2.2.2.cg fun u v hu hv => ?_⟩
    unfold cur
    by_cases c : u = f
    · have e1 : ¬ (u < f ∨ (u = f ∧ v < 0)) := by omega
      have e2 : (u < f ∨ (u = f ∧ v < nH R)) := by omega
      rw [if_neg e1, if_pos e2, c]
      unfold st1
      rw [if_neg (fun g => g.1 c0)]
    · have : (u < f ∨ (u = f ∧ v < 0)) = (u < f ∨ (u = f ∧ v < nH R)) := by apply propext; omega
      simp only [this]
  · have hp : ¬ D f m ≤ nv 0 := by rw [sd_pos hD hf hm]; exact c0
    have l : ∀ (g k : Nat), k ≤ nH R → nH R - k < g → ∀ b, WS a s (nH R) z w b (cur R m f k D) → Wp (X9_close_32 k2 k12 g s (nv m) (nv f) (D f m) (nv k)) b Q := by
      refine loopUp _ (nH R) ?_ ?_
      · intro g b hb
        have hr := hb.2.2.2.r
        simp (disch := omega) only [X9_close_32, X9_close_97, ↓w_bd, ↓w_rt, ↓w_bh, sm_l, sm_r, ↓w_okr, ↓w_nm, ↓w_ite, ↓reduceIte, not_true_eq_false, not_false_eq_true, and_true, true_and, and_self, Option.some.injEq, reduceCtorEq, eq_self, ↓w_rc, ↓w_gI, ↓w_gR, ↓w_aN, ↓w_aI, ↓w_aR, ↓w_aL, ↓w_pI, ↓w_pR, ↓w_sI, ↓w_sR, ↓w_sL, ↓w_nO, ↓w_nA, ↓w_nL, ↓w_ca, ↓w_ca0, ↓w_gS, ↓w_gK, ↓w_dv, ↓w_tw, ↓w_rz, ↓w_no, nv_lit, nv_f, nv_add, nv_mul, nv_sub, nv_le, nv_lt, nv_eq, nv_cl, Nat.reduceMod, Nat.reduceMul, Nat.reduceAdd, Nat.zero_add, Nat.add_zero, Nat.mul_zero, decide_eq_true_eq, nv_inT, Nat.le_refl, hp, hr]
        exact endc b hb
      · intro g k hk2 ih b hb
        have hr := hb.2.2.2.r
        have r1 : cur R m f k D m k = D m k := by
          unfold cur
          split
          · exact st1_row hD hm hk2
          · rfl
        have r2 : cur R m f k D f k = D f k := by
          unfold cur
          rw [if_neg (by omega)]
        have step : ∀ b', WS a s (nH R) z w b' (fun u v => if u = f ∧ v = k then st1 R m D f k else cur R m f k D u v) → Wp (X9_close_32 k2 k12 g s (nv m) (nv f) (D f m) (nv (k + 1))) b' Q := by
          intro b' hb'
          refine ih b' ⟨hb'.1, hb'.2.1, hb'.2.2.1, hb'.2.2.2.cg fun u v hu hv => ?_⟩
          unfold cur
          by_cases c : u = f ∧ v = k
          · rw [if_pos c, if_pos (by omega), c.1, c.2]
          · rw [if_neg c]
            have : (u < f ∨ (u = f ∧ v < k)) = (u < f ∨ (u = f ∧ v < k + 1)) := by apply propext; omega
            simp only [this]
        by_cases c1 : D m k = 0
        · have hq : D m k ≤ nv 0 := by rw [c1]; exact Int32.le_refl _
          simp (disch := omega) only [X9_close_32, X9_close_97, X9_close_91, ↓w_bd, ↓w_rt, ↓w_bh, sm_l, sm_r, ↓w_okr, ↓w_nm, ↓w_ite, ↓reduceIte, not_true_eq_false, not_false_eq_true, and_true, true_and, and_self, Option.some.injEq, reduceCtorEq, eq_self, ↓w_rc, ↓w_gI, ↓w_gR, ↓w_aN, ↓w_aI, ↓w_aR, ↓w_aL, ↓w_pI, ↓w_pR, ↓w_sI, ↓w_sR, ↓w_sL, ↓w_nO, ↓w_nA, ↓w_nL, ↓w_ca, ↓w_ca0, ↓w_gS, ↓w_gK, ↓w_dv, ↓w_tw, ↓w_rz, ↓w_no, nv_lit, nv_f, nv_add, nv_mul, nv_sub, nv_le, nv_lt, nv_eq, nv_cl, Nat.reduceMod, Nat.reduceMul, Nat.reduceAdd, Nat.zero_add, Nat.add_zero, Nat.mul_zero, decide_eq_true_eq, nv_inT, Nat.not_le.mpr hk2, hp, hr, r1, hq]
          refine step b ⟨hb.1, hb.2.1, hb.2.2.1, hb.2.2.2.cg fun u v hu hv => ?_⟩
          by_cases c : u = f ∧ v = k
          · rw [if_pos c, c.1, c.2, r2]
            unfold st1
            rw [if_neg (fun g => g.2 c1)]
          · rw [if_neg c]
        · have hq : ¬ D m k ≤ nv 0 := by rw [sd_pos hD hm hk2]; exact c1
          simp (disch := omega) only [X9_close_32, X9_close_97, X9_close_91, ↓w_bd, ↓w_rt, ↓w_bh, sm_l, sm_r, ↓w_okr, ↓w_nm, ↓w_ite, ↓reduceIte, not_true_eq_false, not_false_eq_true, and_true, true_and, and_self, Option.some.injEq, reduceCtorEq, eq_self, ↓w_rc, ↓w_gI, ↓w_gR, ↓w_aN, ↓w_aI, ↓w_aR, ↓w_aL, ↓w_pI, ↓w_pR, ↓w_sI, ↓w_sR, ↓w_sL, ↓w_nO, ↓w_nA, ↓w_nL, ↓w_ca, ↓w_ca0, ↓w_gS, ↓w_gK, ↓w_dv, ↓w_tw, ↓w_rz, ↓w_no, nv_lit, nv_f, nv_add, nv_mul, nv_sub, nv_le, nv_lt, nv_eq, nv_cl, Nat.reduceMod, Nat.reduceMul, Nat.reduceAdd, Nat.zero_add, Nat.add_zero, Nat.mul_zero, decide_eq_true_eq, nv_inT, Nat.not_le.mpr hk2, hp, hr, r1, r2, hq, J12_max_w]
          refine step _ ⟨hb.1.wI (by omega) _, hb.2.1, hb.2.2.1, (hb.2.2.2.set f k _).cg fun u v hu hv => ?_⟩
          by_cases c : u = f ∧ v = k
          · rw [if_pos c, if_pos c]
            show mx (D f k) (mx (D f m) (D m k)) = _
            rw [mx_vl hF h10 hD hf hm hk2 c0 c1]
            unfold st1
            rw [if_pos ⟨c0, c1⟩]
          · rw [if_neg c, if_neg c]
    exact l FU 0 (by omega) (by unfold FU; omega)
theorem X9_close_w {R : Nat → Int32} (hF : Fs R) (h10 : nH R ≤ 10) {a : Hp} {s z w : Nat} (hs : hSz a ≤ s) (Q : Unit → Hp → Prop)
    (hk : ∀ b D, CD R D → WS a s (nH R) z w b D → Q () b) : ∀ b, WS a s (nH R) z w b (e0_ R) → Wp (X9_close s) b Q := by
  have mid : ∀ m, m < nH R → ∀ (k2 : Nat → Int32 → Mr Unit) (D : Nat → Nat → Int32), Sd R D → (∀ b, WS a s (nH R) z w b (st1 R m D) → Wp (k2 s (nv (m + 1))) b Q) → ∀ b, WS a s (nH R) z w b D → Wp (X9_close_12 k2 FU s (nv m) (nv 0)) b Q := by
    intro m hm k2 D hD hk
    have l : ∀ (g k : Nat), k ≤ nH R → nH R - k < g → ∀ b, WS a s (nH R) z w b (cur R m k 0 D) → Wp (X9_close_12 k2 g s (nv m) (nv k)) b Q := by
      refine loopUp _ (nH R) ?_ ?_
      · intro g b hb
        have hr := hb.2.2.2.r
        simp (disch := omega) only [X9_close_12, ↓w_bd, ↓w_rt, ↓w_bh, sm_l, sm_r, ↓w_okr, ↓w_nm, ↓w_ite, ↓reduceIte, not_true_eq_false, not_false_eq_true, and_true, true_and, and_self, Option.some.injEq, reduceCtorEq, eq_self, ↓w_rc, ↓w_gI, ↓w_gR, ↓w_aN, ↓w_aI, ↓w_aR, ↓w_aL, ↓w_pI, ↓w_pR, ↓w_sI, ↓w_sR, ↓w_sL, ↓w_nO, ↓w_nA, ↓w_nL, ↓w_ca, ↓w_ca0, ↓w_gS, ↓w_gK, ↓w_dv, ↓w_tw, ↓w_rz, ↓w_no, nv_lit, nv_f, nv_add, nv_mul, nv_sub, nv_le, nv_lt, nv_eq, nv_cl, Nat.reduceMod, Nat.reduceMul, Nat.reduceAdd, Nat.zero_add, Nat.add_zero, Nat.mul_zero, decide_eq_true_eq, nv_inT, Nat.le_refl, hr]
        refine hk b ⟨hb.1, hb.2.1, hb.2.2.1, hb.2.2.2.cg fun u v hu hv => ?_⟩
        unfold cur
        rw [if_pos (by omega)]
      · intro g k hk2 ih b hb
        have hr := hb.2.2.2.r
        have e : cur R m k 0 D k m = D k m := by unfold cur; rw [if_neg (by omega)]
        simp (disch := omega) only [X9_close_12, ↓w_bd, ↓w_rt, ↓w_bh, sm_l, sm_r, ↓w_okr, ↓w_nm, ↓w_ite, ↓reduceIte, not_true_eq_false, not_false_eq_true, and_true, true_and, and_self, Option.some.injEq, reduceCtorEq, eq_self, ↓w_rc, ↓w_gI, ↓w_gR, ↓w_aN, ↓w_aI, ↓w_aR, ↓w_aL, ↓w_pI, ↓w_pR, ↓w_sI, ↓w_sR, ↓w_sL, ↓w_nO, ↓w_nA, ↓w_nL, ↓w_ca, ↓w_ca0, ↓w_gS, ↓w_gK, ↓w_dv, ↓w_tw, ↓w_rz, ↓w_no, nv_lit, nv_f, nv_add, nv_mul, nv_sub, nv_le, nv_lt, nv_eq, nv_cl, Nat.reduceMod, Nat.reduceMul, Nat.reduceAdd, Nat.zero_add, Nat.add_zero, Nat.mul_zero, decide_eq_true_eq, nv_inT, Nat.not_le.mpr hk2, hr, e]
        exact X9_close_32_w hF h10 hs hD hm hk2 k2 _ Q ih b hb
    intro b hb
    refine l FU 0 (by omega) (by unfold FU; omega) b ⟨hb.1, hb.2.1, hb.2.2.1, hb.2.2.2.cg fun u v hu hv => ?_⟩
    unfold cur
    rw [if_neg (by omega)]
  have l : ∀ (g k : Nat), k ≤ nH R → nH R - k < g → ∀ b D, Sd R D → Th R k D → WS a s (nH R) z w b D → Wp (X9_close_2 g s (nv k)) b Q := by
    refine loopUp _ (nH R) ?_ ?_
    · intro g b D h1 h2 hb
      have hr := hb.2.2.2.r
      simp (disch := omega) only [X9_close_2, ↓w_bd, ↓w_rt, ↓w_bh, sm_l, sm_r, ↓w_okr, ↓w_nm, ↓w_ite, ↓reduceIte, not_true_eq_false, not_false_eq_true, and_true, true_and, and_self, Option.some.injEq, reduceCtorEq, eq_self, ↓w_rc, ↓w_gI, ↓w_gR, ↓w_aN, ↓w_aI, ↓w_aR, ↓w_aL, ↓w_pI, ↓w_pR, ↓w_sI, ↓w_sR, ↓w_sL, ↓w_nO, ↓w_nA, ↓w_nL, ↓w_ca, ↓w_ca0, ↓w_gS, ↓w_gK, ↓w_dv, ↓w_tw, ↓w_rz, ↓w_no, nv_lit, nv_f, nv_add, nv_mul, nv_sub, nv_le, nv_lt, nv_eq, nv_cl, Nat.reduceMod, Nat.reduceMul, Nat.reduceAdd, Nat.zero_add, Nat.add_zero, Nat.mul_zero, decide_eq_true_eq, nv_inT, Nat.le_refl, hr]
      exact hk b D (cd_of h1 h2) hb
    · intro g k hk2 ih b D h1 h2 hb
      have hr := hb.2.2.2.r
      simp (disch := omega) only [X9_close_2, ↓w_bd, ↓w_rt, ↓w_bh, sm_l, sm_r, ↓w_okr, ↓w_nm, ↓w_ite, ↓reduceIte, not_true_eq_false, not_false_eq_true, and_true, true_and, and_self, Option.some.injEq, reduceCtorEq, eq_self, ↓w_rc, ↓w_gI, ↓w_gR, ↓w_aN, ↓w_aI, ↓w_aR, ↓w_aL, ↓w_pI, ↓w_pR, ↓w_sI, ↓w_sR, ↓w_sL, ↓w_nO, ↓w_nA, ↓w_nL, ↓w_ca, ↓w_ca0, ↓w_gS, ↓w_gK, ↓w_dv, ↓w_tw, ↓w_rz, ↓w_no, nv_lit, nv_f, nv_add, nv_mul, nv_sub, nv_le, nv_lt, nv_eq, nv_cl, Nat.reduceMod, Nat.reduceMul, Nat.reduceAdd, Nat.zero_add, Nat.add_zero, Nat.mul_zero, decide_eq_true_eq, nv_inT, Nat.not_le.mpr hk2, hr]
      exact mid k hk2 _ D h1 (fun b' hb' => ih b' _ (st1_sd hk2 h1) (st1_th hk2 h2) hb') b hb
  intro b hb
  exact l FU 0 (by omega) (by unfold FU; omega) b _ (sd_0 hF h10) (fun b x y hb => absurd hb (by omega)) hb
theorem X2_ways_w {B : Nat → Nat × Nat} {a : Hp} {L : Nat → Nat} {R : Nat → Int32} (hM : Mk B a L R) (hF : Fs R) (Q : Option Nat → Hp → Prop)
    (hk : ∀ b D, CD R D → WS a (hSz a) (nH R) (hSz a + 2 + nH R) (hSl a + 2 + nH R + nH R * nH R) b D → Q (some (hSz a)) b) : Wp (X2_ways (L 0)) a Q := by
  have h10 := (mk_w hM).2.1.2
  have e1 : E0 a (hNew a 9 0 2 (fun _ => nv 0) (fun _ => none)) := (E0.rf a).new _ _ _ _ _
  have hM1 := hM.ext e1 (fun _ _ => rfl)
  have hfr : hK (hNew a 9 0 2 (fun _ => nv 0) (fun _ => none)) (hSz a) = 9 := by rw [hK_new, up1_s]
  have i0 : ¬ nv (nH R) < 0 := by
    rw [show (0 : Int32) = nv 0 from rfl, nv_lt (by omega) (by omega)]
    omega
  have c1 : (nv (nH R)).toNatClampNeg = nH R := nv_cl (by omega)
  have l : ∀ (g k : Nat), k ≤ nH R → nH R - k < g → ∀ b, WS a (hSz a) (nH R) (hSz a + 2 + nH R) (hSl a + 2 + nH R + nH R * nH R) b (pD R k 0) → Wp (X2_ways_17 g (L 0) (some (hSz a)) (nv k)) b Q := by
    refine loopUp _ (nH R) ?_ ?_
    · intro g b hb
      have hr := hb.2.2.2.r
      have hM := hM.ext hb.1 (fun _ _ => rfl)
      simp (disch := omega) only [X2_ways_17, ↓w_bd, ↓w_rt, ↓w_bh, sm_l, sm_r, ↓w_okr, ↓w_nm, ↓w_ite, ↓reduceIte, not_true_eq_false, not_false_eq_true, and_true, true_and, and_self, Option.some.injEq, reduceCtorEq, eq_self, ↓w_rc, ↓w_gI, ↓w_gR, ↓w_aN, ↓w_aI, ↓w_aR, ↓w_aL, ↓w_pI, ↓w_pR, ↓w_sI, ↓w_sR, ↓w_sL, ↓w_nO, ↓w_nA, ↓w_nL, ↓w_ca, ↓w_ca0, ↓w_gS, ↓w_gK, ↓w_dv, ↓w_tw, ↓w_rz, ↓w_no, nv_lit, nv_f, nv_add, nv_mul, nv_sub, nv_le, nv_lt, nv_eq, nv_cl, Nat.reduceMod, Nat.reduceMul, Nat.reduceAdd, Nat.zero_add, Nat.add_zero, Nat.mul_zero, decide_eq_true_eq, nv_inT, Nat.le_refl, mk_k hM, mk_n hM, mk_r hM, mk_i hM, hr]
      refine X9_close_w hF h10 (Nat.le_refl _) _ (fun b' D hD hb' => ?_) b ⟨hb.1, hb.2.1, hb.2.2.1, hb.2.2.2.cg fun u v hu hv => ?_⟩
      · exact hk b' D hD hb'
      · unfold pD
        rw [if_pos (by omega)]
    · intro g k hk2 ih b hb
      have hM2 := hM
      have hM := hM.ext hb.1 (fun _ _ => rfl)
      simp (disch := omega) only [X2_ways_17, ↓w_bd, ↓w_rt, ↓w_bh, sm_l, sm_r, ↓w_okr, ↓w_nm, ↓w_ite, ↓reduceIte, not_true_eq_false, not_false_eq_true, and_true, true_and, and_self, Option.some.injEq, reduceCtorEq, eq_self, ↓w_rc, ↓w_gI, ↓w_gR, ↓w_aN, ↓w_aI, ↓w_aR, ↓w_aL, ↓w_pI, ↓w_pR, ↓w_sI, ↓w_sR, ↓w_sL, ↓w_nO, ↓w_nA, ↓w_nL, ↓w_ca, ↓w_ca0, ↓w_gS, ↓w_gK, ↓w_dv, ↓w_tw, ↓w_rz, ↓w_no, nv_lit, nv_f, nv_add, nv_mul, nv_sub, nv_le, nv_lt, nv_eq, nv_cl, Nat.reduceMod, Nat.reduceMul, Nat.reduceAdd, Nat.zero_add, Nat.add_zero, Nat.mul_zero, decide_eq_true_eq, nv_inT, Nat.not_le.mpr hk2, mk_k hM, mk_n hM, mk_r hM, mk_i hM]
      exact X2_ways_30_w hM2 hF rfl hk2 _ Q (fun b h1 h2 h3 h4 => ih b ⟨h1, h2, h3, h4⟩) b hb.1 hb.2.1 hb.2.2.1 hb.2.2.2
  have hM := hM1
  simp (disch := omega) only [X2_ways, X9_init, ↓w_n2, ↓w_bd, ↓w_rt, ↓w_bh, sm_l, sm_r, ↓w_okr, ↓w_nm, ↓w_ite, ↓reduceIte, not_true_eq_false, not_false_eq_true, and_true, true_and, and_self, Option.some.injEq, reduceCtorEq, eq_self, ↓w_rc, ↓w_gI, ↓w_gR, ↓w_aN, ↓w_aI, ↓w_aR, ↓w_aL, ↓w_pI, ↓w_pR, ↓w_sI, ↓w_sR, ↓w_sL, ↓w_nO, ↓w_nA, ↓w_nL, ↓w_ca, ↓w_ca0, ↓w_gS, ↓w_gK, ↓w_dv, ↓w_tw, ↓w_rz, ↓w_no, nv_lit, nv_f, nv_add, nv_mul, nv_sub, nv_le, nv_lt, nv_eq, nv_cl, Nat.reduceMod, Nat.reduceMul, Nat.reduceAdd, Nat.zero_add, Nat.add_zero, Nat.mul_zero, decide_eq_true_eq, nv_inT, mk_k hM, mk_n hM, mk_r hM, mk_i hM, hfr, hK_wI, hSz_wI, hSz_new, show okN 0 (nv (nH R)) = true from rfl, i0]
  refine ⟨by omega, ?_, ?_⟩
  · rw [(hRows_out 41 (nH R) (nH R) _ (hSz a) (.inl (by simp only [hSz_new, hSz_wI]; omega))).1, hK_new, up1_n _ _ (by rw [hSz_wI, hSz_new]; omega), hK_wI]
    exact hfr
  · refine l FU 0 (by omega) (by unfold FU; omega) _ ⟨?_, ?_, ?_, ?_⟩
    · exact (((e1.wI (Nat.le_refl _) _).new _ _ _ _ _).rows _ _ _).wR (Nat.le_refl _) _
    · rw [hSz_wR, hRows_sz]; simp only [hSz_new, hSz_wI]
    · rw [hSl_wR, hRows_sl]; simp only [hSl_new, hSl_wI]
    · have out : ∀ q, q < hSz a + 2 → _ := fun q hq => hRows_out 41 (nH R) (nH R) (hNew (hwI (hNew a 9 0 2 (fun _ => nv 0) (fun _ => none)) (hSz a) (up1 (hI (hNew a 9 0 2 (fun _ => nv 0) (fun _ => none)) (hSz a)) 0 (nv (nH R)))) 51 (nH R) (nH R) (fun _ => nv 0) (fun j => if j < nH R then some (hSz a + 1 + 1 + j) else none)) q (.inl (by simp only [hSz_new, hSz_wI]; omega))
      have ins := fun x hx => hRows_in 41 (nH R) (nH R) (hNew (hwI (hNew a 9 0 2 (fun _ => nv 0) (fun _ => none)) (hSz a) (up1 (hI (hNew a 9 0 2 (fun _ => nv 0) (fun _ => none)) (hSz a)) 0 (nv (nH R)))) 51 (nH R) (nH R) (fun _ => nv 0) (fun j => if j < nH R then some (hSz a + 1 + 1 + j) else none)) x hx
      simp only [hSz_new, hSz_wI] at ins
      refine ⟨⟨?_, ?_, ?_, ?_, ?_⟩, ?_, ?_, ?_, ?_⟩
      · rw [hK_wR, (out _ (by omega)).1, hK_new, up1_n _ _ (by rw [hSz_wI, hSz_new]; omega), hK_wI]; exact hfr
      · rw [hI_wR, (out _ (by omega)).2.2.1, hI_new, up1_n _ _ (by rw [hSz_wI, hSz_new]; omega), hI_wI, up1_s, up1_s]
      · rw [hR_wR, up1_s, up1_s]
      · rw [hK_wR, (out _ (by omega)).1, hK_new, hSz_wI, hSz_new, up1_s]
      · rw [hN_wR, (out _ (by omega)).2.1, hN_new, hSz_wI, hSz_new, up1_s]
      · intro x hx
        rw [hR_wR, up1_n _ _ (by omega), (out _ (by omega)).2.2.2.1, hR_new, hSz_wI, hSz_new, up1_s, if_pos hx]
      · intro x hx
        rw [hK_wR]
        exact (ins x hx).1
      · intro x hx
        rw [hN_wR]
        exact (ins x hx).2.1
      · intro x y hx hy
        rw [hI_wR]
        have := (ins x hx).2.2.1
        rw [show hSz a + 2 + x = hSz a + 1 + 1 + x by omega, this]
        unfold pD
        rw [if_neg (by omega)]
