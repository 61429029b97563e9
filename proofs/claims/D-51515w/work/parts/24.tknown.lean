theorem dd_desc {E : Nat → Nat → Prop} {n y m : Nat} : ∀ {j x : Nat}, x < n → dd E n x y = some j → m ≤ j → ∃ u, u < n ∧ dd E n u y = some m := by
  intro j
  induction j with
  | zero => intro x hx h hm; exact ⟨x, hx, by rw [h]; congr 1; omega⟩
  | succ j ih =>
    intro x hx h hm
    by_cases c : m = j + 1
    · exact ⟨x, hx, by rw [h, c]⟩
    · obtain ⟨z, h1, h2, h3⟩ := ds_pr (dd_some.mp h)
      exact ih h1 (dd_some.mpr h3) (by omega)
theorem X5_walks_70_w {G : Nat → Nat} {a : Hp} {o : Nat} {R : Nat → Int32} (hF : FO G a o R) (hG : GD G) (hS : Sh R) (hFs : Fs R) {w t m : Nat} (hw : w < 2) (ht : t < nH R) (hm : m < nH R) (k53 : Nat → Int32 → Int32 → Int32 → Int32 → Mr Unit) (Q : Unit → Hp → Prop)
    (hk : ∀ b z, z < 2 → (z = 0 → ∀ u, u < nH R → dd (Ed R (nv w)) (nH R) u t ≠ some (m + 1)) → Wl G R w t a b (fun _ => m + 1) → Wp (k53 (G 10) (nv w) (nv (nH R)) (nv z) (nv (m + 1))) b Q) :
    ∀ b, Wl G R w t a b (fun _ => m) → Wp (X5_walks_70 k53 FU (G 10) (nv w) (nv (nH R)) (nv 0) (nv m) (nv 0)) b Q := by
  have h10 := sh_H10 hS
  have hdl : ∀ u, u < nH R → ∀ k, dd (Ed R (nv w)) (nH R) u t = some k → k < 1000 := fun u hu k hk => by have := dd_lt hu hk; omega
  have l : ∀ (f x : Nat), x ≤ nH R → nH R - x < f → ∀ b z, z < 2 → (z = 0 → ∀ u, u < x → dd (Ed R (nv w)) (nH R) u t ≠ some (m + 1)) → Wl G R w t a b (fun u => if u < x then m + 1 else m) → Wp (X5_walks_70 k53 f (G 10) (nv w) (nv (nH R)) (nv z) (nv m) (nv x)) b Q := by
    refine loopUp _ (nH R) ?_ ?_
    · intro f b z hz hzn hb
      simp (disch := omega) only [X5_walks_70, ↓w_bd, ↓w_rt, ↓w_bh, sm_l, sm_r, ↓w_okr, ↓w_nm, ↓w_ite, ↓reduceIte, not_true_eq_false, not_false_eq_true, and_true, true_and, and_self, Option.some.injEq, reduceCtorEq, eq_self, ↓w_rc, ↓w_gI, ↓w_gR, ↓w_aN, ↓w_aI, ↓w_aR, ↓w_aL, ↓w_pI, ↓w_pR, ↓w_sI, ↓w_sR, ↓w_sL, ↓w_nO, ↓w_nA, ↓w_nL, ↓w_ca, ↓w_ca0, ↓w_gS, ↓w_gK, ↓w_dv, ↓w_tw, ↓w_rz, ↓w_no, nv_lit, nv_f, nv_add, nv_mul, nv_sub, nv_le, nv_lt, nv_eq, nv_cl, Nat.reduceMod, Nat.reduceMul, Nat.reduceAdd, Nat.zero_add, Nat.add_zero, Nat.mul_zero, decide_eq_true_eq, nv_inT, Nat.le_refl]
      refine hk b z hz hzn (hb.cg fun u hu => .inl ?_)
      rw [if_pos hu]
    · intro f x hx2 ih b z hz hzn hb
      have hFb := hF.sx hG hb.1
      have hfx := hb.2.1 x hx2
      dsimp only at hfx
      rw [if_neg (Nat.lt_irrefl x)] at hfx
      have hq := fl_m1 (dd (Ed R (nv w)) (nH R) x t) m (hdl x hx2)
      by_cases c : ∀ k, dd (Ed R (nv w)) (nH R) x t = some k → m < k
      · have q1 : hI b (G 14) x = -nv 1 := by rw [hfx, hq]; exact c
        simp (disch := omega) only [X5_walks_70, ↓w_bd, ↓w_rt, ↓w_bh, sm_l, sm_r, ↓w_okr, ↓w_nm, ↓w_ite, ↓reduceIte, not_true_eq_false, not_false_eq_true, and_true, true_and, and_self, Option.some.injEq, reduceCtorEq, eq_self, ↓w_rc, ↓w_gI, ↓w_gR, ↓w_aN, ↓w_aI, ↓w_aR, ↓w_aL, ↓w_pI, ↓w_pR, ↓w_sI, ↓w_sR, ↓w_sL, ↓w_nO, ↓w_nA, ↓w_nL, ↓w_ca, ↓w_ca0, ↓w_gS, ↓w_gK, ↓w_dv, ↓w_tw, ↓w_rz, ↓w_no, nv_lit, nv_f, nv_add, nv_mul, nv_sub, nv_le, nv_lt, nv_eq, nv_cl, Nat.reduceMod, Nat.reduceMul, Nat.reduceAdd, Nat.zero_add, Nat.add_zero, Nat.mul_zero, decide_eq_true_eq, nv_inT, Nat.not_le.mpr hx2, hFb.1, q1]
        exact X5_walks_93_w hF hG hS hFs hw ht hx2 hm k53 _ Q c z hz hzn (fun b z h1 h2 h3 => ih b z h1 h2 h3) b hb
      · have q0 : ¬ hI b (G 14) x = -nv 1 := by rw [hfx, hq]; exact c
        simp (disch := omega) only [X5_walks_70, X5_walks_195, ↓w_bd, ↓w_rt, ↓w_bh, sm_l, sm_r, ↓w_okr, ↓w_nm, ↓w_ite, ↓reduceIte, not_true_eq_false, not_false_eq_true, and_true, true_and, and_self, Option.some.injEq, reduceCtorEq, eq_self, ↓w_rc, ↓w_gI, ↓w_gR, ↓w_aN, ↓w_aI, ↓w_aR, ↓w_aL, ↓w_pI, ↓w_pR, ↓w_sI, ↓w_sR, ↓w_sL, ↓w_nO, ↓w_nA, ↓w_nL, ↓w_ca, ↓w_ca0, ↓w_gS, ↓w_gK, ↓w_dv, ↓w_tw, ↓w_rz, ↓w_no, nv_lit, nv_f, nv_add, nv_mul, nv_sub, nv_le, nv_lt, nv_eq, nv_cl, Nat.reduceMod, Nat.reduceMul, Nat.reduceAdd, Nat.zero_add, Nat.add_zero, Nat.mul_zero, decide_eq_true_eq, nv_inT, Nat.not_le.mpr hx2, hFb.1, q0]
        have hj : ∃ j, dd (Ed R (nv w)) (nH R) x t = some j ∧ j ≤ m := by
          cases q : dd (Ed R (nv w)) (nH R) x t with
          | none => rw [q] at c; exact absurd (fun k h => by cases h) c
          | some j =>
            refine ⟨j, rfl, ?_⟩
            by_cases g : j ≤ m
            · exact g
            · exact absurd (fun k h => by rw [q] at h; cases h; omega) c
        obtain ⟨j, hj1, hj2⟩ := hj
        refine ih b z hz (fun g u hu => ?_) (hb.cg fun u hu => ?_)
        · by_cases c : u = x
          · rw [c, hj1]
            intro e
            cases e
            omega
          · exact hzn g u (by omega)
        · by_cases c : u = x
          · right
            intro k hk
            rw [c, hj1] at hk
            cases hk
            simp only [c, Nat.lt_irrefl, if_false, Nat.lt_succ_self, if_true]
            omega
          · left
            have : (u < x) = (u < x + 1) := by apply propext; omega
            simp only [this]
  intro b hb
  refine l FU 0 (by omega) (by unfold FU; omega) b 0 (by omega) (fun _ u hu => absurd hu (by omega)) (hb.cg fun u hu => .inl ?_)
  rw [if_neg (by omega)]
theorem X5_walks_w {G : Nat → Nat} {a : Hp} {o : Nat} {R : Nat → Int32} (hF : FO G a o R) (hG : GD G) (hS : Sh R) (hFs : Fs R) {w t : Nat} (hw : w < 2) (ht : t < nH R) (Q : Unit → Hp → Prop)
    (hk : ∀ b, Wl G R w t a b (fun _ => nH R) → Q () b) : Wp (X5_walks (G 10) (nv t) (nv w)) a Q := by
  have h10 := sh_H10 hS
  have n14 : G 14 ≠ G 15 := hG.ne (by omega) (by omega) (by omega)
  have l53 : ∀ (f m : Nat), m ≤ nH R → nH R - m < f → ∀ b z, z < 2 → (z = 0 → ∀ u, u < nH R → dd (Ed R (nv w)) (nH R) u t ≠ some m) → Wl G R w t a b (fun _ => m) → Wp (X5_walks_53 f (G 10) (nv w) (nv (nH R)) (nv z) (nv m)) b Q := by
    refine loopUp _ (nH R) ?_ ?_
    · intro f b z hz hzn hb
      simp (disch := omega) only [X5_walks_53, X5_walks_207, ↓w_bd, ↓w_rt, ↓w_bh, sm_l, sm_r, ↓w_okr, ↓w_nm, ↓w_ite, ↓reduceIte, not_true_eq_false, not_false_eq_true, and_true, true_and, and_self, Option.some.injEq, reduceCtorEq, eq_self, ↓w_rc, ↓w_gI, ↓w_gR, ↓w_aN, ↓w_aI, ↓w_aR, ↓w_aL, ↓w_pI, ↓w_pR, ↓w_sI, ↓w_sR, ↓w_sL, ↓w_nO, ↓w_nA, ↓w_nL, ↓w_ca, ↓w_ca0, ↓w_gS, ↓w_gK, ↓w_dv, ↓w_tw, ↓w_rz, ↓w_no, nv_lit, nv_f, nv_add, nv_mul, nv_sub, nv_le, nv_lt, nv_eq, nv_cl, Nat.reduceMod, Nat.reduceMul, Nat.reduceAdd, Nat.zero_add, Nat.add_zero, Nat.mul_zero, decide_eq_true_eq, nv_inT, Nat.le_refl]
      exact hk b hb
    · intro f m hm2 ih b z hz hzn hb
      have : z = 0 ∨ z = 1 := by omega
      rcases this with rfl | rfl
      · simp (disch := omega) only [X5_walks_53, X5_walks_207, ↓w_bd, ↓w_rt, ↓w_bh, sm_l, sm_r, ↓w_okr, ↓w_nm, ↓w_ite, ↓reduceIte, not_true_eq_false, not_false_eq_true, and_true, true_and, and_self, Option.some.injEq, reduceCtorEq, eq_self, ↓w_rc, ↓w_gI, ↓w_gR, ↓w_aN, ↓w_aI, ↓w_aR, ↓w_aL, ↓w_pI, ↓w_pR, ↓w_sI, ↓w_sR, ↓w_sL, ↓w_nO, ↓w_nA, ↓w_nL, ↓w_ca, ↓w_ca0, ↓w_gS, ↓w_gK, ↓w_dv, ↓w_tw, ↓w_rz, ↓w_no, nv_lit, nv_f, nv_add, nv_mul, nv_sub, nv_le, nv_lt, nv_eq, nv_cl, Nat.reduceMod, Nat.reduceMul, Nat.reduceAdd, Nat.zero_add, Nat.add_zero, Nat.mul_zero, decide_eq_true_eq, nv_inT, Nat.not_le.mpr hm2]
        refine hk b (hb.cg fun u hu => .inr fun k hk => ?_)
        have : k < m := by
          by_cases g : k < m
          · exact g
          · obtain ⟨v, hv, e⟩ := dd_desc hu hk (show m ≤ k by omega)
            exact absurd e (hzn rfl v hv)
        omega
      · simp (disch := omega) only [X5_walks_53, X5_walks_207, ↓w_bd, ↓w_rt, ↓w_bh, sm_l, sm_r, ↓w_okr, ↓w_nm, ↓w_ite, ↓reduceIte, not_true_eq_false, not_false_eq_true, and_true, true_and, and_self, Option.some.injEq, reduceCtorEq, eq_self, ↓w_rc, ↓w_gI, ↓w_gR, ↓w_aN, ↓w_aI, ↓w_aR, ↓w_aL, ↓w_pI, ↓w_pR, ↓w_sI, ↓w_sR, ↓w_sL, ↓w_nO, ↓w_nA, ↓w_nL, ↓w_ca, ↓w_ca0, ↓w_gS, ↓w_gK, ↓w_dv, ↓w_tw, ↓w_rz, ↓w_no, nv_lit, nv_f, nv_add, nv_mul, nv_sub, nv_le, nv_lt, nv_eq, nv_cl, Nat.reduceMod, Nat.reduceMul, Nat.reduceAdd, Nat.zero_add, Nat.add_zero, Nat.mul_zero, decide_eq_true_eq, nv_inT, Nat.not_le.mpr hm2, show ¬ nv 1 = nv 0 by decide]
        exact X5_walks_70_w hF hG hS hFs hw ht hm2 _ Q (fun b z h1 h2 h3 => ih b z h1 h2 h3) b hb
  have l9 : ∀ (f k : Nat), k ≤ nH R → nH R - k < f → ∀ b, Sx G a b → (∀ u, u < k → hI b (G 14) u = if u = t then 0 else -1) → (∀ u, u < k → hI b (G 15) u = 0) → Wp (X5_walks_9 f (G 10) (nv t) (nv w) (nv (nH R)) (nv k)) b Q := by
    refine loopUp _ (nH R) ?_ ?_
    · intro f b hb h1 h2
      simp (disch := omega) only [X5_walks_9, ↓w_bd, ↓w_rt, ↓w_bh, sm_l, sm_r, ↓w_okr, ↓w_nm, ↓w_ite, ↓reduceIte, not_true_eq_false, not_false_eq_true, and_true, true_and, and_self, Option.some.injEq, reduceCtorEq, eq_self, ↓w_rc, ↓w_gI, ↓w_gR, ↓w_aN, ↓w_aI, ↓w_aR, ↓w_aL, ↓w_pI, ↓w_pR, ↓w_sI, ↓w_sR, ↓w_sL, ↓w_nO, ↓w_nA, ↓w_nL, ↓w_ca, ↓w_ca0, ↓w_gS, ↓w_gK, ↓w_dv, ↓w_tw, ↓w_rz, ↓w_no, nv_lit, nv_f, nv_add, nv_mul, nv_sub, nv_le, nv_lt, nv_eq, nv_cl, Nat.reduceMod, Nat.reduceMul, Nat.reduceAdd, Nat.zero_add, Nat.add_zero, Nat.mul_zero, decide_eq_true_eq, nv_inT, Nat.le_refl]
      refine l53 FU 0 (by omega) (by unfold FU; omega) b 1 (by omega) (fun g => by omega) ⟨hb, fun x hx => ?_, fun _ x hx => ?_⟩
      · rw [h1 x hx]
        by_cases c : x = t
        · rw [if_pos c, c, dd_0]; rfl
        · rw [if_neg c]
          cases q : dd (Ed R (nv w)) (nH R) x t with
          | none => rfl
          | some j =>
            have : j ≠ 0 := fun e => c (dd_z (e ▸ q))
            simp only [fl]
            rw [if_neg (by omega)]
      · rw [h2 x hx]
        cases q : dd (Ed R (nv w)) (nH R) x t with
        | none => rfl
        | some j =>
          simp only [sl]
          split
          · have : j = 0 := by omega
            subst this
            have := dd_z q
            subst this
            unfold sv
            rw [if_neg Int32.lt_irrefl]
          · rfl
    · intro f k hk2 ih b hb h1 h2
      have hFb := hF.sx hG hb
      have u15 : ∀ f, hI (hwI b (G 14) f) (G 15) = hI b (G 15) := fun f => by rw [hI_wI, up1_n _ _ (Ne.symm n14)]
      have fin : ∀ v : Int32, (v = if k = t then 0 else -1) → Wp (X5_walks_9 f (G 10) (nv t) (nv w) (nv (nH R)) (nv (k + 1))) (hwI (hwI b (G 14) (up1 (hI b (G 14)) k v)) (G 15) (up1 (hI b (G 15)) k 0)) Q := by
        intro v hv
        refine ih _ ((hb.w (.inl rfl) _).w (.inr (.inl rfl)) _) (fun u hu => ?_) (fun u hu => ?_)
        · rw [hI_wI, up1_n _ _ n14, hI_wI, up1_s]
          by_cases c : u = k
          · rw [c, up1_s]; exact hv
          · rw [up1_n _ _ c]; exact h1 u (by omega)
        · rw [hI_wI, up1_s]
          by_cases c : u = k
          · rw [c, up1_s]
          · rw [up1_n _ _ c]; exact h2 u (by omega)
      by_cases c : k = t
      · have i : ¬ nH R ≤ t := by omega
        simp (disch := omega) only [X5_walks_9, X5_walks_32, ↓w_bd, ↓w_rt, ↓w_bh, sm_l, sm_r, ↓w_okr, ↓w_nm, ↓w_ite, ↓reduceIte, not_true_eq_false, not_false_eq_true, and_true, true_and, and_self, Option.some.injEq, reduceCtorEq, eq_self, ↓w_rc, ↓w_gI, ↓w_gR, ↓w_aN, ↓w_aI, ↓w_aR, ↓w_aL, ↓w_pI, ↓w_pR, ↓w_sI, ↓w_sR, ↓w_sL, ↓w_nO, ↓w_nA, ↓w_nL, ↓w_ca, ↓w_ca0, ↓w_gS, ↓w_gK, ↓w_dv, ↓w_tw, ↓w_rz, ↓w_no, nv_lit, nv_f, nv_add, nv_mul, nv_sub, nv_le, nv_lt, nv_eq, nv_cl, Nat.reduceMod, Nat.reduceMul, Nat.reduceAdd, Nat.zero_add, Nat.add_zero, Nat.mul_zero, decide_eq_true_eq, nv_inT, Nat.not_le.mpr hk2, hFb.1, hK_wI, hR_wI, hN_wI, u15, c, i]
        have := fin 0 (by rw [if_pos c])
        rw [c] at this
        exact this
      · simp (disch := omega) only [X5_walks_9, X5_walks_32, ↓w_bd, ↓w_rt, ↓w_bh, sm_l, sm_r, ↓w_okr, ↓w_nm, ↓w_ite, ↓reduceIte, not_true_eq_false, not_false_eq_true, and_true, true_and, and_self, Option.some.injEq, reduceCtorEq, eq_self, ↓w_rc, ↓w_gI, ↓w_gR, ↓w_aN, ↓w_aI, ↓w_aR, ↓w_aL, ↓w_pI, ↓w_pR, ↓w_sI, ↓w_sR, ↓w_sL, ↓w_nO, ↓w_nA, ↓w_nL, ↓w_ca, ↓w_ca0, ↓w_gS, ↓w_gK, ↓w_dv, ↓w_tw, ↓w_rz, ↓w_no, nv_lit, nv_f, nv_add, nv_mul, nv_sub, nv_le, nv_lt, nv_eq, nv_cl, Nat.reduceMod, Nat.reduceMul, Nat.reduceAdd, Nat.zero_add, Nat.add_zero, Nat.mul_zero, decide_eq_true_eq, nv_inT, Nat.not_le.mpr hk2, hFb.1, hK_wI, hR_wI, hN_wI, u15, c]
        exact fin (-1) (by rw [if_neg c])
  simp (disch := omega) only [X5_walks, ↓w_bd, ↓w_rt, ↓w_bh, sm_l, sm_r, ↓w_okr, ↓w_nm, ↓w_ite, ↓reduceIte, not_true_eq_false, not_false_eq_true, and_true, true_and, and_self, Option.some.injEq, reduceCtorEq, eq_self, ↓w_rc, ↓w_gI, ↓w_gR, ↓w_aN, ↓w_aI, ↓w_aR, ↓w_aL, ↓w_pI, ↓w_pR, ↓w_sI, ↓w_sR, ↓w_sL, ↓w_nO, ↓w_nA, ↓w_nL, ↓w_ca, ↓w_ca0, ↓w_gS, ↓w_gK, ↓w_dv, ↓w_tw, ↓w_rz, ↓w_no, nv_lit, nv_f, nv_add, nv_mul, nv_sub, nv_le, nv_lt, nv_eq, nv_cl, Nat.reduceMod, Nat.reduceMul, Nat.reduceAdd, Nat.zero_add, Nat.add_zero, Nat.mul_zero, decide_eq_true_eq, nv_inT, hF.1, X5_get_w hF, sh_H hS]
  exact l9 FU 0 (by omega) (by unfold FU; omega) a (Sx.rf G a) (fun u hu => absurd hu (by omega)) (fun u hu => absurd hu (by omega))
/-- what the distances are in the end -/
theorem fl_on {E : Nat → Nat → Prop} {n x t : Nat} (hx : x < n) : fl (dd E n x t) n = on (dd E n x t) := by
  cases q : dd E n x t with
  | none => rfl
  | some k =>
    have := dd_lt hx q
    simp only [fl, on]
    rw [if_pos (by omega)]
theorem X5_knownOf_w {G : Nat → Nat} {a : Hp} {o : Nat} {R : Nat → Int32} (hF : FO G a o R) (hG : GD G) (hS : Sh R) (hFs : Fs R) {x t : Nat} (hx : x < nH R) (ht : t < nH R) (Q : Int32 → Hp → Prop)
    (hk : ∀ b, Sx G a b → Q (kn R x t) b) : Wp (X5_knownOf (G 10) (nv x) (nv t)) a Q := by
  have h10 := sh_H10 hS
  by_cases c : x = t
  · have e : kn R x t = 2 := by rw [c]; exact kn_self R t
    have := hk a (Sx.rf G a)
    rw [e] at this
    simp (disch := omega) only [X5_knownOf, ↓w_bd, ↓w_rt, ↓w_bh, sm_l, sm_r, ↓w_okr, ↓w_nm, ↓w_ite, ↓reduceIte, not_true_eq_false, not_false_eq_true, and_true, true_and, and_self, Option.some.injEq, reduceCtorEq, eq_self, ↓w_rc, ↓w_gI, ↓w_gR, ↓w_aN, ↓w_aI, ↓w_aR, ↓w_aL, ↓w_pI, ↓w_pR, ↓w_sI, ↓w_sR, ↓w_sL, ↓w_nO, ↓w_nA, ↓w_nL, ↓w_ca, ↓w_ca0, ↓w_gS, ↓w_gK, ↓w_dv, ↓w_tw, ↓w_rz, ↓w_no, nv_lit, nv_f, nv_add, nv_mul, nv_sub, nv_le, nv_lt, nv_eq, nv_cl, Nat.reduceMod, Nat.reduceMul, Nat.reduceAdd, Nat.zero_add, Nat.add_zero, Nat.mul_zero, decide_eq_true_eq, nv_inT, c]
    exact this
  · simp (disch := omega) only [X5_knownOf, ↓w_bd, ↓w_rt, ↓w_bh, sm_l, sm_r, ↓w_okr, ↓w_nm, ↓w_ite, ↓reduceIte, not_true_eq_false, not_false_eq_true, and_true, true_and, and_self, Option.some.injEq, reduceCtorEq, eq_self, ↓w_rc, ↓w_gI, ↓w_gR, ↓w_aN, ↓w_aI, ↓w_aR, ↓w_aL, ↓w_pI, ↓w_pR, ↓w_sI, ↓w_sR, ↓w_sL, ↓w_nO, ↓w_nA, ↓w_nL, ↓w_ca, ↓w_ca0, ↓w_gS, ↓w_gK, ↓w_dv, ↓w_tw, ↓w_rz, ↓w_no, nv_lit, nv_f, nv_add, nv_mul, nv_sub, nv_le, nv_lt, nv_eq, nv_cl, Nat.reduceMod, Nat.reduceMul, Nat.reduceAdd, Nat.zero_add, Nat.add_zero, Nat.mul_zero, decide_eq_true_eq, nv_inT, c, hF.1]
    refine X5_walks_w hF hG hS hFs (w := 1) (by omega) ht _ fun b hb => ?_
    have hFb := hF.sx hG hb.1
    have f1 := hb.2.1 x hx
    have s1 := hb.2.2 rfl x hx
    rw [fl_on hx] at f1
    cases q : dd (Ed R 1) (nH R) x t with
    | some j =>
      have hj := dd_lt hx q
      have q' : dd (Ed R (nv 1)) (nH R) x t = some j := q
      rw [q'] at f1 s1
      have f1' : hI b (G 14) x = nv j := f1
      have s1' : hI b (G 15) x = sv R t x := by
        rw [s1]
        simp only [sl]
        rw [if_pos (by omega)]
      have hne := nv_m1 (k := j) (by omega)
      have e : kn R x t = if sz R t < sz R x then 0 else 2 := by
        unfold kn
        rw [if_neg c, q]
      have hq := hk b hb.1
      rw [e] at hq
      by_cases g : sz R t < sz R x
      · rw [if_pos g] at hq
        have s2 : hI b (G 15) x = nv 1 := by rw [s1']; unfold sv; rw [if_pos g]; rfl
        simp (disch := omega) only [X5_knownOf_37, ↓w_bd, ↓w_rt, ↓w_bh, sm_l, sm_r, ↓w_okr, ↓w_nm, ↓w_ite, ↓reduceIte, not_true_eq_false, not_false_eq_true, and_true, true_and, and_self, Option.some.injEq, reduceCtorEq, eq_self, ↓w_rc, ↓w_gI, ↓w_gR, ↓w_aN, ↓w_aI, ↓w_aR, ↓w_aL, ↓w_pI, ↓w_pR, ↓w_sI, ↓w_sR, ↓w_sL, ↓w_nO, ↓w_nA, ↓w_nL, ↓w_ca, ↓w_ca0, ↓w_gS, ↓w_gK, ↓w_dv, ↓w_tw, ↓w_rz, ↓w_no, nv_lit, nv_f, nv_add, nv_mul, nv_sub, nv_le, nv_lt, nv_eq, nv_cl, Nat.reduceMod, Nat.reduceMul, Nat.reduceAdd, Nat.zero_add, Nat.add_zero, Nat.mul_zero, decide_eq_true_eq, nv_inT, hFb.1, f1', hne, s2, show ¬ nv 1 = nv 0 by decide]
        exact hq
      · rw [if_neg g] at hq
        have s2 : hI b (G 15) x = nv 0 := by rw [s1']; unfold sv; rw [if_neg g]; rfl
        simp (disch := omega) only [X5_knownOf_37, ↓w_bd, ↓w_rt, ↓w_bh, sm_l, sm_r, ↓w_okr, ↓w_nm, ↓w_ite, ↓reduceIte, not_true_eq_false, not_false_eq_true, and_true, true_and, and_self, Option.some.injEq, reduceCtorEq, eq_self, ↓w_rc, ↓w_gI, ↓w_gR, ↓w_aN, ↓w_aI, ↓w_aR, ↓w_aL, ↓w_pI, ↓w_pR, ↓w_sI, ↓w_sR, ↓w_sL, ↓w_nO, ↓w_nA, ↓w_nL, ↓w_ca, ↓w_ca0, ↓w_gS, ↓w_gK, ↓w_dv, ↓w_tw, ↓w_rz, ↓w_no, nv_lit, nv_f, nv_add, nv_mul, nv_sub, nv_le, nv_lt, nv_eq, nv_cl, Nat.reduceMod, Nat.reduceMul, Nat.reduceAdd, Nat.zero_add, Nat.add_zero, Nat.mul_zero, decide_eq_true_eq, nv_inT, hFb.1, f1', hne, s2]
        exact hq
    | none =>
      have q' : dd (Ed R (nv 1)) (nH R) x t = none := q
      rw [q'] at f1
      have f1' : hI b (G 14) x = -nv 1 := f1
      simp (disch := omega) only [X5_knownOf_59, ↓w_bd, ↓w_rt, ↓w_bh, sm_l, sm_r, ↓w_okr, ↓w_nm, ↓w_ite, ↓reduceIte, not_true_eq_false, not_false_eq_true, and_true, true_and, and_self, Option.some.injEq, reduceCtorEq, eq_self, ↓w_rc, ↓w_gI, ↓w_gR, ↓w_aN, ↓w_aI, ↓w_aR, ↓w_aL, ↓w_pI, ↓w_pR, ↓w_sI, ↓w_sR, ↓w_sL, ↓w_nO, ↓w_nA, ↓w_nL, ↓w_ca, ↓w_ca0, ↓w_gS, ↓w_gK, ↓w_dv, ↓w_tw, ↓w_rz, ↓w_no, nv_lit, nv_f, nv_add, nv_mul, nv_sub, nv_le, nv_lt, nv_eq, nv_cl, Nat.reduceMod, Nat.reduceMul, Nat.reduceAdd, Nat.zero_add, Nat.add_zero, Nat.mul_zero, decide_eq_true_eq, nv_inT, hFb.1, f1']
      refine X5_walks_w hFb hG hS hFs (w := 0) (by omega) ht _ fun b2 hb2 => ?_
      have hFb2 := hFb.sx hG hb2.1
      have f2 := hb2.2.1 x hx
      rw [fl_on hx] at f2
      have hq := hk b2 (hb.1.tr hb2.1)
      unfold kn at hq
      rw [if_neg c, q] at hq
      cases q2 : dd (Ed R 0) (nH R) x t with
      | some j =>
        have hj := dd_lt hx q2
        have q2' : dd (Ed R (nv 0)) (nH R) x t = some j := q2
        rw [q2'] at f2
        have f2' : hI b2 (G 14) x = nv j := f2
        have hne := nv_m1 (k := j) (by omega)
        rw [q2] at hq
        simp (disch := omega) only [X5_knownOf_59, ↓w_bd, ↓w_rt, ↓w_bh, sm_l, sm_r, ↓w_okr, ↓w_nm, ↓w_ite, ↓reduceIte, not_true_eq_false, not_false_eq_true, and_true, true_and, and_self, Option.some.injEq, reduceCtorEq, eq_self, ↓w_rc, ↓w_gI, ↓w_gR, ↓w_aN, ↓w_aI, ↓w_aR, ↓w_aL, ↓w_pI, ↓w_pR, ↓w_sI, ↓w_sR, ↓w_sL, ↓w_nO, ↓w_nA, ↓w_nL, ↓w_ca, ↓w_ca0, ↓w_gS, ↓w_gK, ↓w_dv, ↓w_tw, ↓w_rz, ↓w_no, nv_lit, nv_f, nv_add, nv_mul, nv_sub, nv_le, nv_lt, nv_eq, nv_cl, Nat.reduceMod, Nat.reduceMul, Nat.reduceAdd, Nat.zero_add, Nat.add_zero, Nat.mul_zero, decide_eq_true_eq, nv_inT, hFb2.1, f2', hne]
        exact hq
      | none =>
        have q2' : dd (Ed R (nv 0)) (nH R) x t = none := q2
        rw [q2'] at f2
        have f2' : hI b2 (G 14) x = -nv 1 := f2
        rw [q2] at hq
        simp (disch := omega) only [X5_knownOf_59, ↓w_bd, ↓w_rt, ↓w_bh, sm_l, sm_r, ↓w_okr, ↓w_nm, ↓w_ite, ↓reduceIte, not_true_eq_false, not_false_eq_true, and_true, true_and, and_self, Option.some.injEq, reduceCtorEq, eq_self, ↓w_rc, ↓w_gI, ↓w_gR, ↓w_aN, ↓w_aI, ↓w_aR, ↓w_aL, ↓w_pI, ↓w_pR, ↓w_sI, ↓w_sR, ↓w_sL, ↓w_nO, ↓w_nA, ↓w_nL, ↓w_ca, ↓w_ca0, ↓w_gS, ↓w_gK, ↓w_dv, ↓w_tw, ↓w_rz, ↓w_no, nv_lit, nv_f, nv_add, nv_mul, nv_sub, nv_le, nv_lt, nv_eq, nv_cl, Nat.reduceMod, Nat.reduceMul, Nat.reduceAdd, Nat.zero_add, Nat.add_zero, Nat.mul_zero, decide_eq_true_eq, nv_inT, hFb2.1, f2']
        exact hq
