/-! THE WALKS ONCE MORE: G 18 stays -/
def Sz (G : Nat → Nat) (a b : Hp) : Prop := b.1 = a.1 ∧ b.2.2 = a.2.2 ∧ ∀ q, q ≠ G 14 → q ≠ G 15 → hI b q = hI a q
theorem Sz.rf (G : Nat → Nat) (a : Hp) : Sz G a a := ⟨rfl, rfl, fun _ _ _ => rfl⟩
theorem Sz.tr {G : Nat → Nat} {a b c : Hp} (h : Sz G a b) (g : Sz G b c) : Sz G a c := ⟨g.1.trans h.1, g.2.1.trans h.2.1, fun q h1 h2 => (g.2.2 q h1 h2).trans (h.2.2 q h1 h2)⟩
theorem Sz.w {G : Nat → Nat} {a b : Hp} (h : Sz G a b) {q : Nat} (hq : q = G 14 ∨ q = G 15 ∨ False) (f : Nat → Int32) : Sz G a (hwI b q f) := by
  refine ⟨h.1, h.2.1, fun p h1 h2 => ?_⟩
  rw [hI_wI, up1_n _ _ (by rcases hq with e | e | e; rw [e]; exact h1; rw [e]; exact h2; exact e.elim)]
  exact h.2.2 p h1 h2
theorem Sz.k {G : Nat → Nat} {a b : Hp} (h : Sz G a b) : hK b = hK a := congrArg (fun x => x.1.2.1) h.1
theorem Sz.n {G : Nat → Nat} {a b : Hp} (h : Sz G a b) : hN b = hN a := congrArg (fun x => x.1.2.2) h.1
theorem Sz.r {G : Nat → Nat} {a b : Hp} (h : Sz G a b) : hR b = hR a := congrArg (fun x => x.1) h.2.1
theorem FO.szz {G : Nat → Nat} {a b : Hp} {o : Nat} {R : Nat → Int32} (hG : GD G) (h : FO G a o R) (g : Sz G a b) : FO G b o R := by
  have e10 := g.2.2 (G 10) (hG.ne (by omega) (by omega) (by omega)) (hG.ne (by omega) (by omega) (by omega))
  have e11 := g.2.2 (G 11) (hG.ne (by omega) (by omega) (by omega)) (hG.ne (by omega) (by omega) (by omega))
  unfold FO FT at *
  rw [g.k, g.n, g.r, e10, e11]
  exact h
def Wl_z (G : Nat → Nat) (R : Nat → Int32) (w t : Nat) (a b : Hp) (m : Nat → Nat) : Prop :=
  Sz G a b ∧ (∀ x, x < nH R → hI b (G 14) x = fl (dd (Ed R (nv w)) (nH R) x t) (m x)) ∧ (w = 1 → ∀ x, x < nH R → hI b (G 15) x = sl (dd (Ed R (nv w)) (nH R) x t) (m x) (sv R t x))
theorem Wl_z.cg {G : Nat → Nat} {R : Nat → Int32} {w t : Nat} {a b : Hp} {m m' : Nat → Nat} (h : Wl_z G R w t a b m) (g : ∀ x, x < nH R → m x = m' x ∨ ∀ k, dd (Ed R (nv w)) (nH R) x t = some k → (k ≤ m x ↔ k ≤ m' x)) : Wl_z G R w t a b m' := by
  have e : ∀ x, x < nH R → fl (dd (Ed R (nv w)) (nH R) x t) (m x) = fl (dd (Ed R (nv w)) (nH R) x t) (m' x) ∧ ∀ s, sl (dd (Ed R (nv w)) (nH R) x t) (m x) s = sl (dd (Ed R (nv w)) (nH R) x t) (m' x) s := by
    intro x hx
    rcases g x hx with e | e
    · rw [e]; exact ⟨rfl, fun _ => rfl⟩
    · cases q : dd (Ed R (nv w)) (nH R) x t with
      | none => exact ⟨rfl, fun _ => rfl⟩
      | some k =>
        have := e k q
        simp only [fl, sl, this]
        exact ⟨trivial, fun _ => trivial⟩
  exact ⟨h.1, fun x hx => (h.2.1 x hx).trans (e x hx).1, fun h1 x hx => (h.2.2 h1 x hx).trans ((e x hx).2 _)⟩
theorem X5_walks_93_w_z {G : Nat → Nat} {a : Hp} {o : Nat} {R : Nat → Int32} (hF : FO G a o R) (hG : GD G) (hS : Sh R) (hFs : Fs R) {w t m x : Nat} (hw : w < 2) (ht : t < nH R) (hx : x < nH R) (hm : m < nH R) (k53 : Nat → Int32 → Int32 → Int32 → Int32 → Mr Unit) (k70 : Nat → Int32 → Int32 → Int32 → Int32 → Int32 → Mr Unit) (Q : Unit → Hp → Prop)
    (hx0 : ∀ k, dd (Ed R (nv w)) (nH R) x t = some k → m < k) (z : Nat) (hz : z < 2) (hzn : z = 0 → ∀ u, u < x → dd (Ed R (nv w)) (nH R) u t ≠ some (m + 1))
    (hk : ∀ b z, z < 2 → (z = 0 → ∀ u, u < x + 1 → dd (Ed R (nv w)) (nH R) u t ≠ some (m + 1)) → Wl_z G R w t a b (fun u => if u < x + 1 then m + 1 else m) → Wp (k70 (G 10) (nv w) (nv (nH R)) (nv z) (nv m) (nv (x + 1))) b Q) :
    ∀ b, Wl_z G R w t a b (fun u => if u < x then m + 1 else m) → Wp (X5_walks_93 k53 k70 FU (G 10) (nv w) (nv (nH R)) (nv z) (nv m) (nv x) (nv 0)) b Q := by
  have h10 := sh_H10 hS
  have hdl : ∀ u, u < nH R → ∀ k, dd (Ed R (nv w)) (nH R) u t = some k → k < 1000 := fun u hu k hk => by have := dd_lt hu hk; omega
  have hwm : ¬ nv w = -nv 1 := nv_m1 (by omega)
  have n14 : G 15 ≠ G 14 := hG.ne (by omega) (by omega) (by omega)
  have l : ∀ (f k : Nat), k ≤ nH R → nH R - k < f → ∀ b z, z < 2 →
      (((z = 0 → ∀ u, u < x → dd (Ed R (nv w)) (nH R) u t ≠ some (m + 1)) ∧ (∀ i, i < k → ¬ (dd (Ed R (nv w)) (nH R) i t = some m ∧ Ed R (nv w) x i)) ∧ Wl_z G R w t a b (fun u => if u < x then m + 1 else m)) ∨ (z = 1 ∧ dd (Ed R (nv w)) (nH R) x t = some (m + 1) ∧ Wl_z G R w t a b (fun u => if u < x + 1 then m + 1 else m))) →
      Wp (X5_walks_93 k53 k70 f (G 10) (nv w) (nv (nH R)) (nv z) (nv m) (nv x) (nv k)) b Q := by
    refine loopUp _ (nH R) ?_ ?_
    · intro f b z hz h
      simp (disch := omega) only [X5_walks_93, X5_walks_195, ↓w_bd, ↓w_rt, ↓w_bh, sm_l, sm_r, ↓w_okr, ↓w_nm, ↓w_ite, ↓reduceIte, not_true_eq_false, not_false_eq_true, and_true, true_and, and_self, Option.some.injEq, reduceCtorEq, eq_self, ↓w_rc, ↓w_gI, ↓w_gR, ↓w_aN, ↓w_aI, ↓w_aR, ↓w_aL, ↓w_pI, ↓w_pR, ↓w_sI, ↓w_sR, ↓w_sL, ↓w_nO, ↓w_nA, ↓w_nL, ↓w_ca, ↓w_ca0, ↓w_gS, ↓w_gK, ↓w_dv, ↓w_tw, ↓w_rz, ↓w_no, nv_lit, nv_f, nv_add, nv_mul, nv_sub, nv_le, nv_lt, nv_eq, nv_cl, Nat.reduceMod, Nat.reduceMul, Nat.reduceAdd, Nat.zero_add, Nat.add_zero, Nat.mul_zero, decide_eq_true_eq, nv_inT, Nat.le_refl]
      rcases h with ⟨h1, h2, h3⟩ | ⟨h1, h2, h3⟩
      · have hne : dd (Ed R (nv w)) (nH R) x t ≠ some (m + 1) := by
          intro e
          obtain ⟨i, i1, i2, i3⟩ := (dd_step hx0).mp e
          exact h2 i i1 ⟨i2, i3⟩
        refine hk b z hz (fun g u hu => ?_) (h3.cg fun u hu => ?_)
        · by_cases c : u = x
          · rw [c]; exact hne
          · exact h1 g u (by omega)
        · by_cases c : u = x
          · right
            intro j hj
            rw [c] at hj
            have g1 := hx0 j hj
            have g2 : j ≠ m + 1 := fun e => hne (e ▸ hj)
            simp only [c, Nat.lt_irrefl, if_false, Nat.lt_succ_self, if_true]
            omega
          · left
            have : (u < x) = (u < x + 1) := by apply propext; omega
            simp only [this]
      · refine hk b z hz (fun g => by omega) h3
    · intro f k hk2 ih b z hz h
      have hWb : ∃ mm : Nat → Nat, (∀ u, m ≤ mm u) ∧ Wl_z G R w t a b mm := by
        rcases h with ⟨-, -, h3⟩ | ⟨-, -, h3⟩
        · exact ⟨_, fun u => by (try dsimp only); split <;> omega, h3⟩
        · exact ⟨_, fun u => by (try dsimp only); split <;> omega, h3⟩
      obtain ⟨mm, hmm, hWb⟩ := hWb
      have hFb := hF.szz hG hWb.1
      have hfk := hWb.2.1 k hk2
      have hq := fl_eq (dd (Ed R (nv w)) (nH R) k t) m (mm k) (hmm k) (by omega) (hdl k hk2)
      have skip : ¬ (dd (Ed R (nv w)) (nH R) k t = some m ∧ Ed R (nv w) x k) → Wp (X5_walks_93 k53 k70 f (G 10) (nv w) (nv (nH R)) (nv z) (nv m) (nv x) (nv (k + 1))) b Q := by
        intro hn
        refine ih b z hz ?_
        rcases h with ⟨h1, h2, h3⟩ | h3
        · refine .inl ⟨h1, fun i hi => ?_, h3⟩
          by_cases c : i = k
          · rw [c]; exact hn
          · exact h2 i (by omega)
        · exact .inr h3
      by_cases c1 : dd (Ed R (nv w)) (nH R) k t = some m
      · have q1 : hI b (G 14) k = nv m := by rw [hfk, hq]; exact c1
        by_cases c2 : fc R x k = -nv 1
        · simp (disch := omega) only [X5_walks_93, X5_walks_189, ↓w_bd, ↓w_rt, ↓w_bh, sm_l, sm_r, ↓w_okr, ↓w_nm, ↓w_ite, ↓reduceIte, not_true_eq_false, not_false_eq_true, and_true, true_and, and_self, Option.some.injEq, reduceCtorEq, eq_self, ↓w_rc, ↓w_gI, ↓w_gR, ↓w_aN, ↓w_aI, ↓w_aR, ↓w_aL, ↓w_pI, ↓w_pR, ↓w_sI, ↓w_sR, ↓w_sL, ↓w_nO, ↓w_nA, ↓w_nL, ↓w_ca, ↓w_ca0, ↓w_gS, ↓w_gK, ↓w_dv, ↓w_tw, ↓w_rz, ↓w_no, nv_lit, nv_f, nv_add, nv_mul, nv_sub, nv_le, nv_lt, nv_eq, nv_cl, Nat.reduceMod, Nat.reduceMul, Nat.reduceAdd, Nat.zero_add, Nat.add_zero, Nat.mul_zero, decide_eq_true_eq, nv_inT, Nat.not_le.mpr hk2, hFb.1, q1, X5_factOf_w hFb, c2]
          exact skip fun g => g.2.1 c2
        · by_cases c3 : fc R x k = nv w
          · simp (disch := omega) only [X5_walks_93, X5_walks_189, ↓w_bd, ↓w_rt, ↓w_bh, sm_l, sm_r, ↓w_okr, ↓w_nm, ↓w_ite, ↓reduceIte, not_true_eq_false, not_false_eq_true, and_true, true_and, and_self, Option.some.injEq, reduceCtorEq, eq_self, ↓w_rc, ↓w_gI, ↓w_gR, ↓w_aN, ↓w_aI, ↓w_aR, ↓w_aL, ↓w_pI, ↓w_pR, ↓w_sI, ↓w_sR, ↓w_sL, ↓w_nO, ↓w_nA, ↓w_nL, ↓w_ca, ↓w_ca0, ↓w_gS, ↓w_gK, ↓w_dv, ↓w_tw, ↓w_rz, ↓w_no, nv_lit, nv_f, nv_add, nv_mul, nv_sub, nv_le, nv_lt, nv_eq, nv_cl, Nat.reduceMod, Nat.reduceMul, Nat.reduceAdd, Nat.zero_add, Nat.add_zero, Nat.mul_zero, decide_eq_true_eq, nv_inT, Nat.not_le.mpr hk2, hFb.1, q1, X5_factOf_w hFb, hwm, c3]
            exact skip fun g => g.2.2 c3
          · have hE : Ed R (nv w) x k := ⟨c2, c3⟩
            have hdx : dd (Ed R (nv w)) (nH R) x t = some (m + 1) := (dd_step hx0).mpr ⟨k, hk2, c1, hE⟩
            have h2m : ¬ nv 2 = -nv 1 := by decide
            have h2w : ¬ 2 = w := by omega
            have hFf : ∀ f, FO G (hwI b (G 14) f) o R := fun f => hFb.szz hG ((Sz.rf G b).w (.inl rfl) f)
            have hfF : ∀ f Q, Wp (X5_factOf (G 10) (nv x) (nv k)) (hwI b (G 14) f) Q ↔ Q (fc R x k) (hwI b (G 14) f) := fun f Q => X5_factOf_w (hFf f) (by omega) (by omega) Q
            have u15 : ∀ f, hI (hwI b (G 14) f) (G 15) = hI b (G 15) := fun f => by rw [hI_wI, up1_n _ _ n14]
            -- what is laid
            have fin : ∀ s, (w = 1 → s = sv R t x) → Wp (X5_walks_93 k53 k70 f (G 10) (nv w) (nv (nH R)) (nv 1) (nv m) (nv x) (nv (k + 1))) (hwI (hwI b (G 14) (up1 (hI b (G 14)) x (nv (m + 1)))) (G 15) (up1 (hI b (G 15)) x s)) Q := by
              intro s hs
              refine ih _ 1 (by omega) (.inr ⟨rfl, hdx, ?_⟩)
              refine ⟨(hWb.1.w (.inl rfl) _).w (.inr (.inl rfl)) _, fun u hu => ?_, fun g u hu => ?_⟩
              · rw [hI_wI, up1_n _ _ (Ne.symm n14), hI_wI, up1_s]
                by_cases c : u = x
                · subst c
                  rw [up1_s, hdx]
                  simp only [fl, Nat.lt_succ_self, if_true, Nat.le_refl]
                · rw [up1_n _ _ c]
                  rcases h with ⟨-, -, h3⟩ | ⟨-, -, h3⟩
                  · rw [h3.2.1 u hu]
                    have : (u < x) = (u < x + 1) := by apply propext; omega
                    simp only [this]
                  · rw [h3.2.1 u hu]
              · rw [hI_wI, up1_s]
                by_cases c : u = x
                · subst c
                  rw [up1_s, hdx, hs g]
                  simp only [sl, Nat.lt_succ_self, if_true, Nat.le_refl]
                · rw [up1_n _ _ c]
                  rcases h with ⟨-, -, h3⟩ | ⟨-, -, h3⟩
                  · rw [h3.2.2 g u hu]
                    have : (u < x) = (u < x + 1) := by apply propext; omega
                    simp only [this]
                  · rw [h3.2.2 g u hu]
            -- the flags
            have fx : w = 1 → hI b (G 15) x = 0 ∨ hI b (G 15) x = sv R t x := by
              intro g
              rcases h with ⟨-, -, h3⟩ | ⟨-, -, h3⟩
              · left
                rw [h3.2.2 g x hx, hdx]
                simp only [sl, Nat.lt_irrefl, if_false]
                rw [if_neg (by omega)]
              · right
                rw [h3.2.2 g x hx, hdx]
                simp only [sl, Nat.lt_succ_self, if_true, Nat.le_refl]
            have fk : w = 1 → hI b (G 15) k = sv R t k := by
              intro g
              rw [hWb.2.2 g k hk2, c1]
              simp only [sl, hmm k, if_true]
            have key : w = 1 → sz R t ≤ sz R k ∧ sz R k ≤ sz R x ∧ (fc R x k = nv 2 ↔ sz R x = sz R k) := by
              intro g
              subst g
              exact ⟨(pth_le hFs h10 hk2 (dd_some.mp c1).1).1, ed_le hFs h10 hx hk2 hE, (ed_2 hFs h10 hx hk2 hE).1⟩
            by_cases c4 : hI b (G 15) k = nv 0
            · by_cases c5 : fc R x k = nv 2
              · simp (disch := omega) only [X5_walks_93, X5_walks_182, X5_walks_187, X5_walks_189, ↓w_bd, ↓w_rt, ↓w_bh, sm_l, sm_r, ↓w_okr, ↓w_nm, ↓w_ite, ↓reduceIte, not_true_eq_false, not_false_eq_true, and_true, true_and, and_self, Option.some.injEq, reduceCtorEq, eq_self, ↓w_rc, ↓w_gI, ↓w_gR, ↓w_aN, ↓w_aI, ↓w_aR, ↓w_aL, ↓w_pI, ↓w_pR, ↓w_sI, ↓w_sR, ↓w_sL, ↓w_nO, ↓w_nA, ↓w_nL, ↓w_ca, ↓w_ca0, ↓w_gS, ↓w_gK, ↓w_dv, ↓w_tw, ↓w_rz, ↓w_no, nv_lit, nv_f, nv_add, nv_mul, nv_sub, nv_le, nv_lt, nv_eq, nv_cl, Nat.reduceMod, Nat.reduceMul, Nat.reduceAdd, Nat.zero_add, Nat.add_zero, Nat.mul_zero, decide_eq_true_eq, nv_inT, Nat.not_le.mpr hk2, hFb.1, q1, X5_factOf_w hFb, h2m, h2w, c4, hK_wI, hR_wI, hN_wI, u15, hfF, c5, show nrA 41 (nv (m + 1)) = nv (m + 1) from rfl]
                refine fin _ fun g => ?_
                obtain ⟨k1, k2, k3⟩ := key g
                have e1 : sv R t x = 0 := by
                  have := fk g
                  rw [c4] at this
                  unfold sv at *
                  rw [k3.mp c5]
                  exact this.symm
                rcases fx g with e | e <;> rw [e]
                · rw [e1]; rfl
                · rw [e1]; rfl
              · simp (disch := omega) only [X5_walks_93, X5_walks_182, X5_walks_187, X5_walks_189, ↓w_bd, ↓w_rt, ↓w_bh, sm_l, sm_r, ↓w_okr, ↓w_nm, ↓w_ite, ↓reduceIte, not_true_eq_false, not_false_eq_true, and_true, true_and, and_self, Option.some.injEq, reduceCtorEq, eq_self, ↓w_rc, ↓w_gI, ↓w_gR, ↓w_aN, ↓w_aI, ↓w_aR, ↓w_aL, ↓w_pI, ↓w_pR, ↓w_sI, ↓w_sR, ↓w_sL, ↓w_nO, ↓w_nA, ↓w_nL, ↓w_ca, ↓w_ca0, ↓w_gS, ↓w_gK, ↓w_dv, ↓w_tw, ↓w_rz, ↓w_no, nv_lit, nv_f, nv_add, nv_mul, nv_sub, nv_le, nv_lt, nv_eq, nv_cl, Nat.reduceMod, Nat.reduceMul, Nat.reduceAdd, Nat.zero_add, Nat.add_zero, Nat.mul_zero, decide_eq_true_eq, nv_inT, Nat.not_le.mpr hk2, hFb.1, q1, X5_factOf_w hFb, c2, c3, c4, hK_wI, hR_wI, hN_wI, u15, hfF, c5, show nrA 41 (nv (m + 1)) = nv (m + 1) from rfl]
                refine fin _ fun g => ?_
                obtain ⟨k1, k2, k3⟩ := key g
                have e1 : sv R t x = 1 := by
                  unfold sv
                  rw [if_pos]
                  have : sz R x ≠ sz R k := fun e => c5 (k3.mpr e)
                  simp only [Int32.le_iff_toInt_le, Int32.lt_iff_toInt_lt, ne_eq, ← Int32.toInt_inj] at *
                  omega
                rcases fx g with e | e <;> rw [e]
                · rw [e1]; rfl
                · rw [e1]; rfl
            · simp (disch := omega) only [X5_walks_93, X5_walks_182, X5_walks_187, X5_walks_189, ↓w_bd, ↓w_rt, ↓w_bh, sm_l, sm_r, ↓w_okr, ↓w_nm, ↓w_ite, ↓reduceIte, not_true_eq_false, not_false_eq_true, and_true, true_and, and_self, Option.some.injEq, reduceCtorEq, eq_self, ↓w_rc, ↓w_gI, ↓w_gR, ↓w_aN, ↓w_aI, ↓w_aR, ↓w_aL, ↓w_pI, ↓w_pR, ↓w_sI, ↓w_sR, ↓w_sL, ↓w_nO, ↓w_nA, ↓w_nL, ↓w_ca, ↓w_ca0, ↓w_gS, ↓w_gK, ↓w_dv, ↓w_tw, ↓w_rz, ↓w_no, nv_lit, nv_f, nv_add, nv_mul, nv_sub, nv_le, nv_lt, nv_eq, nv_cl, Nat.reduceMod, Nat.reduceMul, Nat.reduceAdd, Nat.zero_add, Nat.add_zero, Nat.mul_zero, decide_eq_true_eq, nv_inT, Nat.not_le.mpr hk2, hFb.1, q1, X5_factOf_w hFb, c2, c3, c4, hK_wI, hR_wI, hN_wI, u15, show nrA 41 (nv (m + 1)) = nv (m + 1) from rfl]
              refine fin _ fun g => ?_
              obtain ⟨k1, k2, k3⟩ := key g
              have e1 : sv R t x = 1 := by
                have hk := fk g
                unfold sv at *
                rw [if_pos]
                by_cases q : sz R t < sz R k
                · simp only [Int32.le_iff_toInt_le, Int32.lt_iff_toInt_lt] at *
                  omega
                · rw [if_neg q] at hk
                  exact absurd hk c4
              rcases fx g with e | e <;> rw [e]
              · rw [e1]; rfl
              · rw [e1]; rfl
      · have q0 : ¬ hI b (G 14) k = nv m := by rw [hfk, hq]; exact c1
        simp (disch := omega) only [X5_walks_93, X5_walks_189, ↓w_bd, ↓w_rt, ↓w_bh, sm_l, sm_r, ↓w_okr, ↓w_nm, ↓w_ite, ↓reduceIte, not_true_eq_false, not_false_eq_true, and_true, true_and, and_self, Option.some.injEq, reduceCtorEq, eq_self, ↓w_rc, ↓w_gI, ↓w_gR, ↓w_aN, ↓w_aI, ↓w_aR, ↓w_aL, ↓w_pI, ↓w_pR, ↓w_sI, ↓w_sR, ↓w_sL, ↓w_nO, ↓w_nA, ↓w_nL, ↓w_ca, ↓w_ca0, ↓w_gS, ↓w_gK, ↓w_dv, ↓w_tw, ↓w_rz, ↓w_no, nv_lit, nv_f, nv_add, nv_mul, nv_sub, nv_le, nv_lt, nv_eq, nv_cl, Nat.reduceMod, Nat.reduceMul, Nat.reduceAdd, Nat.zero_add, Nat.add_zero, Nat.mul_zero, decide_eq_true_eq, nv_inT, Nat.not_le.mpr hk2, hFb.1, q0]
        exact skip fun g => c1 g.1
  intro b hb
  exact l FU 0 (by omega) (by unfold FU; omega) b z hz (.inl ⟨hzn, fun i hi => absurd hi (by omega), hb⟩)
theorem X5_walks_70_w_z {G : Nat → Nat} {a : Hp} {o : Nat} {R : Nat → Int32} (hF : FO G a o R) (hG : GD G) (hS : Sh R) (hFs : Fs R) {w t m : Nat} (hw : w < 2) (ht : t < nH R) (hm : m < nH R) (k53 : Nat → Int32 → Int32 → Int32 → Int32 → Mr Unit) (Q : Unit → Hp → Prop)
    (hk : ∀ b z, z < 2 → (z = 0 → ∀ u, u < nH R → dd (Ed R (nv w)) (nH R) u t ≠ some (m + 1)) → Wl_z G R w t a b (fun _ => m + 1) → Wp (k53 (G 10) (nv w) (nv (nH R)) (nv z) (nv (m + 1))) b Q) :
    ∀ b, Wl_z G R w t a b (fun _ => m) → Wp (X5_walks_70 k53 FU (G 10) (nv w) (nv (nH R)) (nv 0) (nv m) (nv 0)) b Q := by
  have h10 := sh_H10 hS
  have hdl : ∀ u, u < nH R → ∀ k, dd (Ed R (nv w)) (nH R) u t = some k → k < 1000 := fun u hu k hk => by have := dd_lt hu hk; omega
  have l : ∀ (f x : Nat), x ≤ nH R → nH R - x < f → ∀ b z, z < 2 → (z = 0 → ∀ u, u < x → dd (Ed R (nv w)) (nH R) u t ≠ some (m + 1)) → Wl_z G R w t a b (fun u => if u < x then m + 1 else m) → Wp (X5_walks_70 k53 f (G 10) (nv w) (nv (nH R)) (nv z) (nv m) (nv x)) b Q := by
    refine loopUp _ (nH R) ?_ ?_
    · intro f b z hz hzn hb
      simp (disch := omega) only [X5_walks_70, ↓w_bd, ↓w_rt, ↓w_bh, sm_l, sm_r, ↓w_okr, ↓w_nm, ↓w_ite, ↓reduceIte, not_true_eq_false, not_false_eq_true, and_true, true_and, and_self, Option.some.injEq, reduceCtorEq, eq_self, ↓w_rc, ↓w_gI, ↓w_gR, ↓w_aN, ↓w_aI, ↓w_aR, ↓w_aL, ↓w_pI, ↓w_pR, ↓w_sI, ↓w_sR, ↓w_sL, ↓w_nO, ↓w_nA, ↓w_nL, ↓w_ca, ↓w_ca0, ↓w_gS, ↓w_gK, ↓w_dv, ↓w_tw, ↓w_rz, ↓w_no, nv_lit, nv_f, nv_add, nv_mul, nv_sub, nv_le, nv_lt, nv_eq, nv_cl, Nat.reduceMod, Nat.reduceMul, Nat.reduceAdd, Nat.zero_add, Nat.add_zero, Nat.mul_zero, decide_eq_true_eq, nv_inT, Nat.le_refl]
      refine hk b z hz hzn (hb.cg fun u hu => .inl ?_)
      rw [if_pos hu]
    · intro f x hx2 ih b z hz hzn hb
      have hFb := hF.szz hG hb.1
      have hfx := hb.2.1 x hx2
      dsimp only at hfx
      rw [if_neg (Nat.lt_irrefl x)] at hfx
      have hq := fl_m1 (dd (Ed R (nv w)) (nH R) x t) m (hdl x hx2)
      by_cases c : ∀ k, dd (Ed R (nv w)) (nH R) x t = some k → m < k
      · have q1 : hI b (G 14) x = -nv 1 := by rw [hfx, hq]; exact c
        simp (disch := omega) only [X5_walks_70, ↓w_bd, ↓w_rt, ↓w_bh, sm_l, sm_r, ↓w_okr, ↓w_nm, ↓w_ite, ↓reduceIte, not_true_eq_false, not_false_eq_true, and_true, true_and, and_self, Option.some.injEq, reduceCtorEq, eq_self, ↓w_rc, ↓w_gI, ↓w_gR, ↓w_aN, ↓w_aI, ↓w_aR, ↓w_aL, ↓w_pI, ↓w_pR, ↓w_sI, ↓w_sR, ↓w_sL, ↓w_nO, ↓w_nA, ↓w_nL, ↓w_ca, ↓w_ca0, ↓w_gS, ↓w_gK, ↓w_dv, ↓w_tw, ↓w_rz, ↓w_no, nv_lit, nv_f, nv_add, nv_mul, nv_sub, nv_le, nv_lt, nv_eq, nv_cl, Nat.reduceMod, Nat.reduceMul, Nat.reduceAdd, Nat.zero_add, Nat.add_zero, Nat.mul_zero, decide_eq_true_eq, nv_inT, Nat.not_le.mpr hx2, hFb.1, q1]
        exact X5_walks_93_w_z hF hG hS hFs hw ht hx2 hm k53 _ Q c z hz hzn (fun b z h1 h2 h3 => ih b z h1 h2 h3) b hb
      · have q0 : ¬ hI b (G 14) x = -nv 1 := by rw [hfx, hq]; exact c
        simp (disch := omega) only [X5_walks_70, X5_walks_195, ↓w_bd, ↓w_rt, ↓w_bh, sm_l, sm_r, ↓w_okr, ↓w_nm, ↓w_ite, ↓reduceIte, not_true_eq_false, not_false_eq_true, and_true, true_and, and_self, Option.some.injEq, reduceCtorEq, eq_self, ↓w_rc, ↓w_gI, ↓w_gR, ↓w_aN, ↓w_aI, ↓w_aR, ↓w_aL, ↓w_pI, ↓w_pR, ↓w_sI, ↓w_sR, ↓w_sL, ↓w_nO, ↓w_nA, ↓w_nL, ↓w_ca, ↓w_ca0, ↓w_gS, ↓w_gK, ↓w_dv, ↓w_tw, ↓w_rz, ↓w_no, nv_lit, nv_f, nv_add, nv_mul, nv_sub, nv_le, nv_lt, nv_eq, nv_cl, Nat.reduceMod, Nat.reduceMul, Nat.reduceAdd, Nat.zero_add, Nat.add_zero, Nat.mul_zero, decide_eq_true_eq, nv_inT, Nat.not_le.mpr hx2, hFb.1, q0]
        have hj : ∃ j, dd (Ed R (nv w)) (nH R) x t = some j ∧ j ≤ m := by
          cases q : dd (Ed R (nv w)) (nH R) x t with
          | none => rw [q] at c; exact absurd (fun k h => by cases h) c
          | some j =>
            refine ⟨j, rfl, ?_⟩
            by_cases g : j ≤ m
            · exact g
            · exact absurd (fun k h => by rw [q] at h; cases h; omega) c
        obtain ⟨j, hj1, hj2⟩ := hj
        refine ih b z hz (fun g u hu => ?_) (hb.cg fun u hu => ?_)
        · by_cases c : u = x
          · rw [c, hj1]
            intro e
            cases e
            omega
          · exact hzn g u (by omega)
        · by_cases c : u = x
          · right
            intro k hk
            rw [c, hj1] at hk
            cases hk
            simp only [c, Nat.lt_irrefl, if_false, Nat.lt_succ_self, if_true]
            omega
          · left
            have : (u < x) = (u < x + 1) := by apply propext; omega
            simp only [this]
  intro b hb
  refine l FU 0 (by omega) (by unfold FU; omega) b 0 (by omega) (fun _ u hu => absurd hu (by omega)) (hb.cg fun u hu => .inl ?_)
  rw [if_neg (by omega)]
theorem X5_walks_w_z {G : Nat → Nat} {a : Hp} {o : Nat} {R : Nat → Int32} (hF : FO G a o R) (hG : GD G) (hS : Sh R) (hFs : Fs R) {w t : Nat} (hw : w < 2) (ht : t < nH R) (Q : Unit → Hp → Prop)
    (hk : ∀ b, Wl_z G R w t a b (fun _ => nH R) → Q () b) : Wp (X5_walks (G 10) (nv t) (nv w)) a Q := by
  have h10 := sh_H10 hS
  have n14 : G 14 ≠ G 15 := hG.ne (by omega) (by omega) (by omega)
  have l53 : ∀ (f m : Nat), m ≤ nH R → nH R - m < f → ∀ b z, z < 2 → (z = 0 → ∀ u, u < nH R → dd (Ed R (nv w)) (nH R) u t ≠ some m) → Wl_z G R w t a b (fun _ => m) → Wp (X5_walks_53 f (G 10) (nv w) (nv (nH R)) (nv z) (nv m)) b Q := by
    refine loopUp _ (nH R) ?_ ?_
    · intro f b z hz hzn hb
      simp (disch := omega) only [X5_walks_53, X5_walks_207, ↓w_bd, ↓w_rt, ↓w_bh, sm_l, sm_r, ↓w_okr, ↓w_nm, ↓w_ite, ↓reduceIte, not_true_eq_false, not_false_eq_true, and_true, true_and, and_self, Option.some.injEq, reduceCtorEq, eq_self, ↓w_rc, ↓w_gI, ↓w_gR, ↓w_aN, ↓w_aI, ↓w_aR, ↓w_aL, ↓w_pI, ↓w_pR, ↓w_sI, ↓w_sR, ↓w_sL, ↓w_nO, ↓w_nA, ↓w_nL, ↓w_ca, ↓w_ca0, ↓w_gS, ↓w_gK, ↓w_dv, ↓w_tw, ↓w_rz, ↓w_no, nv_lit, nv_f, nv_add, nv_mul, nv_sub, nv_le, nv_lt, nv_eq, nv_cl, Nat.reduceMod, Nat.reduceMul, Nat.reduceAdd, Nat.zero_add, Nat.add_zero, Nat.mul_zero, decide_eq_true_eq, nv_inT, Nat.le_refl]
      exact hk b hb
    · intro f m hm2 ih b z hz hzn hb
      have : z = 0 ∨ z = 1 := by omega
      rcases this with rfl | rfl
      · simp (disch := omega) only [X5_walks_53, X5_walks_207, ↓w_bd, ↓w_rt, ↓w_bh, sm_l, sm_r, ↓w_okr, ↓w_nm, ↓w_ite, ↓reduceIte, not_true_eq_false, not_false_eq_true, and_true, true_and, and_self, Option.some.injEq, reduceCtorEq, eq_self, ↓w_rc, ↓w_gI, ↓w_gR, ↓w_aN, ↓w_aI, ↓w_aR, ↓w_aL, ↓w_pI, ↓w_pR, ↓w_sI, ↓w_sR, ↓w_sL, ↓w_nO, ↓w_nA, ↓w_nL, ↓w_ca, ↓w_ca0, ↓w_gS, ↓w_gK, ↓w_dv, ↓w_tw, ↓w_rz, ↓w_no, nv_lit, nv_f, nv_add, nv_mul, nv_sub, nv_le, nv_lt, nv_eq, nv_cl, Nat.reduceMod, Nat.reduceMul, Nat.reduceAdd, Nat.zero_add, Nat.add_zero, Nat.mul_zero, decide_eq_true_eq, nv_inT, Nat.not_le.mpr hm2]
        refine hk b (hb.cg fun u hu => .inr fun k hk => ?_)
        have : k < m := by
          by_cases g : k < m
          · exact g
          · obtain ⟨v, hv, e⟩ := dd_desc hu hk (show m ≤ k by omega)
            exact absurd e (hzn rfl v hv)
        omega
      · simp (disch := omega) only [X5_walks_53, X5_walks_207, ↓w_bd, ↓w_rt, ↓w_bh, sm_l, sm_r, ↓w_okr, ↓w_nm, ↓w_ite, ↓reduceIte, not_true_eq_false, not_false_eq_true, and_true, true_and, and_self, Option.some.injEq, reduceCtorEq, eq_self, ↓w_rc, ↓w_gI, ↓w_gR, ↓w_aN, ↓w_aI, ↓w_aR, ↓w_aL, ↓w_pI, ↓w_pR, ↓w_sI, ↓w_sR, ↓w_sL, ↓w_nO, ↓w_nA, ↓w_nL, ↓w_ca, ↓w_ca0, ↓w_gS, ↓w_gK, ↓w_dv, ↓w_tw, ↓w_rz, ↓w_no, nv_lit, nv_f, nv_add, nv_mul, nv_sub, nv_le, nv_lt, nv_eq, nv_cl, Nat.reduceMod, Nat.reduceMul, Nat.reduceAdd, Nat.zero_add, Nat.add_zero, Nat.mul_zero, decide_eq_true_eq, nv_inT, Nat.not_le.mpr hm2, show ¬ nv 1 = nv 0 by decide]
        exact X5_walks_70_w_z hF hG hS hFs hw ht hm2 _ Q (fun b z h1 h2 h3 => ih b z h1 h2 h3) b hb
  have l9 : ∀ (f k : Nat), k ≤ nH R → nH R - k < f → ∀ b, Sz G a b → (∀ u, u < k → hI b (G 14) u = if u = t then 0 else -1) → (∀ u, u < k → hI b (G 15) u = 0) → Wp (X5_walks_9 f (G 10) (nv t) (nv w) (nv (nH R)) (nv k)) b Q := by
    refine loopUp _ (nH R) ?_ ?_
    · intro f b hb h1 h2
      simp (disch := omega) only [X5_walks_9, ↓w_bd, ↓w_rt, ↓w_bh, sm_l, sm_r, ↓w_okr, ↓w_nm, ↓w_ite, ↓reduceIte, not_true_eq_false, not_false_eq_true, and_true, true_and, and_self, Option.some.injEq, reduceCtorEq, eq_self, ↓w_rc, ↓w_gI, ↓w_gR, ↓w_aN, ↓w_aI, ↓w_aR, ↓w_aL, ↓w_pI, ↓w_pR, ↓w_sI, ↓w_sR, ↓w_sL, ↓w_nO, ↓w_nA, ↓w_nL, ↓w_ca, ↓w_ca0, ↓w_gS, ↓w_gK, ↓w_dv, ↓w_tw, ↓w_rz, ↓w_no, nv_lit, nv_f, nv_add, nv_mul, nv_sub, nv_le, nv_lt, nv_eq, nv_cl, Nat.reduceMod, Nat.reduceMul, Nat.reduceAdd, Nat.zero_add, Nat.add_zero, Nat.mul_zero, decide_eq_true_eq, nv_inT, Nat.le_refl]
      refine l53 FU 0 (by omega) (by unfold FU; omega) b 1 (by omega) (fun g => by omega) ⟨hb, fun x hx => ?_, fun _ x hx => ?_⟩
      · rw [h1 x hx]
        by_cases c : x = t
        · rw [if_pos c, c, dd_0]; rfl
        · rw [if_neg c]
          cases q : dd (Ed R (nv w)) (nH R) x t with
          | none => rfl
          | some j =>
            have : j ≠ 0 := fun e => c (dd_z (e ▸ q))
            simp only [fl]
            rw [if_neg (by omega)]
      · rw [h2 x hx]
        cases q : dd (Ed R (nv w)) (nH R) x t with
        | none => rfl
        | some j =>
          simp only [sl]
          split
          · have : j = 0 := by omega
            subst this
            have := dd_z q
            subst this
            unfold sv
            rw [if_neg Int32.lt_irrefl]
          · rfl
    · intro f k hk2 ih b hb h1 h2
      have hFb := hF.szz hG hb
      have u15 : ∀ f, hI (hwI b (G 14) f) (G 15) = hI b (G 15) := fun f => by rw [hI_wI, up1_n _ _ (Ne.symm n14)]
      have fin : ∀ v : Int32, (v = if k = t then 0 else -1) → Wp (X5_walks_9 f (G 10) (nv t) (nv w) (nv (nH R)) (nv (k + 1))) (hwI (hwI b (G 14) (up1 (hI b (G 14)) k v)) (G 15) (up1 (hI b (G 15)) k 0)) Q := by
        intro v hv
        refine ih _ ((hb.w (.inl rfl) _).w (.inr (.inl rfl)) _) (fun u hu => ?_) (fun u hu => ?_)
        · rw [hI_wI, up1_n _ _ n14, hI_wI, up1_s]
          by_cases c : u = k
          · rw [c, up1_s]; exact hv
          · rw [up1_n _ _ c]; exact h1 u (by omega)
        · rw [hI_wI, up1_s]
          by_cases c : u = k
          · rw [c, up1_s]
          · rw [up1_n _ _ c]; exact h2 u (by omega)
      by_cases c : k = t
      · have i : ¬ nH R ≤ t := by omega
        simp (disch := omega) only [X5_walks_9, X5_walks_32, ↓w_bd, ↓w_rt, ↓w_bh, sm_l, sm_r, ↓w_okr, ↓w_nm, ↓w_ite, ↓reduceIte, not_true_eq_false, not_false_eq_true, and_true, true_and, and_self, Option.some.injEq, reduceCtorEq, eq_self, ↓w_rc, ↓w_gI, ↓w_gR, ↓w_aN, ↓w_aI, ↓w_aR, ↓w_aL, ↓w_pI, ↓w_pR, ↓w_sI, ↓w_sR, ↓w_sL, ↓w_nO, ↓w_nA, ↓w_nL, ↓w_ca, ↓w_ca0, ↓w_gS, ↓w_gK, ↓w_dv, ↓w_tw, ↓w_rz, ↓w_no, nv_lit, nv_f, nv_add, nv_mul, nv_sub, nv_le, nv_lt, nv_eq, nv_cl, Nat.reduceMod, Nat.reduceMul, Nat.reduceAdd, Nat.zero_add, Nat.add_zero, Nat.mul_zero, decide_eq_true_eq, nv_inT, Nat.not_le.mpr hk2, hFb.1, hK_wI, hR_wI, hN_wI, u15, c, i]
        have := fin 0 (by rw [if_pos c])
        rw [c] at this
        exact this
      · simp (disch := omega) only [X5_walks_9, X5_walks_32, ↓w_bd, ↓w_rt, ↓w_bh, sm_l, sm_r, ↓w_okr, ↓w_nm, ↓w_ite, ↓reduceIte, not_true_eq_false, not_false_eq_true, and_true, true_and, and_self, Option.some.injEq, reduceCtorEq, eq_self, ↓w_rc, ↓w_gI, ↓w_gR, ↓w_aN, ↓w_aI, ↓w_aR, ↓w_aL, ↓w_pI, ↓w_pR, ↓w_sI, ↓w_sR, ↓w_sL, ↓w_nO, ↓w_nA, ↓w_nL, ↓w_ca, ↓w_ca0, ↓w_gS, ↓w_gK, ↓w_dv, ↓w_tw, ↓w_rz, ↓w_no, nv_lit, nv_f, nv_add, nv_mul, nv_sub, nv_le, nv_lt, nv_eq, nv_cl, Nat.reduceMod, Nat.reduceMul, Nat.reduceAdd, Nat.zero_add, Nat.add_zero, Nat.mul_zero, decide_eq_true_eq, nv_inT, Nat.not_le.mpr hk2, hFb.1, hK_wI, hR_wI, hN_wI, u15, c]
        exact fin (-1) (by rw [if_neg c])
  simp (disch := omega) only [X5_walks, ↓w_bd, ↓w_rt, ↓w_bh, sm_l, sm_r, ↓w_okr, ↓w_nm, ↓w_ite, ↓reduceIte, not_true_eq_false, not_false_eq_true, and_true, true_and, and_self, Option.some.injEq, reduceCtorEq, eq_self, ↓w_rc, ↓w_gI, ↓w_gR, ↓w_aN, ↓w_aI, ↓w_aR, ↓w_aL, ↓w_pI, ↓w_pR, ↓w_sI, ↓w_sR, ↓w_sL, ↓w_nO, ↓w_nA, ↓w_nL, ↓w_ca, ↓w_ca0, ↓w_gS, ↓w_gK, ↓w_dv, ↓w_tw, ↓w_rz, ↓w_no, nv_lit, nv_f, nv_add, nv_mul, nv_sub, nv_le, nv_lt, nv_eq, nv_cl, Nat.reduceMod, Nat.reduceMul, Nat.reduceAdd, Nat.zero_add, Nat.add_zero, Nat.mul_zero, decide_eq_true_eq, nv_inT, hF.1, X5_get_w hF, sh_H hS]
  exact l9 FU 0 (by omega) (by unfold FU; omega) a (Sz.rf G a) (fun u hu => absurd hu (by omega)) (fun u hu => absurd hu (by omega))
theorem X5_knownOf_w_z {G : Nat → Nat} {a : Hp} {o : Nat} {R : Nat → Int32} (hF : FO G a o R) (hG : GD G) (hS : Sh R) (hFs : Fs R) {x t : Nat} (hx : x < nH R) (ht : t < nH R) (Q : Int32 → Hp → Prop)
    (hk : ∀ b, Sz G a b → Q (kn R x t) b) : Wp (X5_knownOf (G 10) (nv x) (nv t)) a Q := by
  have h10 := sh_H10 hS
  by_cases c : x = t
  · have e : kn R x t = 2 := by rw [c]; exact kn_self R t
    have := hk a (Sz.rf G a)
    rw [e] at this
    simp (disch := omega) only [X5_knownOf, ↓w_bd, ↓w_rt, ↓w_bh, sm_l, sm_r, ↓w_okr, ↓w_nm, ↓w_ite, ↓reduceIte, not_true_eq_false, not_false_eq_true, and_true, true_and, and_self, Option.some.injEq, reduceCtorEq, eq_self, ↓w_rc, ↓w_gI, ↓w_gR, ↓w_aN, ↓w_aI, ↓w_aR, ↓w_aL, ↓w_pI, ↓w_pR, ↓w_sI, ↓w_sR, ↓w_sL, ↓w_nO, ↓w_nA, ↓w_nL, ↓w_ca, ↓w_ca0, ↓w_gS, ↓w_gK, ↓w_dv, ↓w_tw, ↓w_rz, ↓w_no, nv_lit, nv_f, nv_add, nv_mul, nv_sub, nv_le, nv_lt, nv_eq, nv_cl, Nat.reduceMod, Nat.reduceMul, Nat.reduceAdd, Nat.zero_add, Nat.add_zero, Nat.mul_zero, decide_eq_true_eq, nv_inT, c]
    exact this
  · simp (disch := omega) only [X5_knownOf, ↓w_bd, ↓w_rt, ↓w_bh, sm_l, sm_r, ↓w_okr, ↓w_nm, ↓w_ite, ↓reduceIte, not_true_eq_false, not_false_eq_true, and_true, true_and, and_self, Option.some.injEq, reduceCtorEq, eq_self, ↓w_rc, ↓w_gI, ↓w_gR, ↓w_aN, ↓w_aI, ↓w_aR, ↓w_aL, ↓w_pI, ↓w_pR, ↓w_sI, ↓w_sR, ↓w_sL, ↓w_nO, ↓w_nA, ↓w_nL, ↓w_ca, ↓w_ca0, ↓w_gS, ↓w_gK, ↓w_dv, ↓w_tw, ↓w_rz, ↓w_no, nv_lit, nv_f, nv_add, nv_mul, nv_sub, nv_le, nv_lt, nv_eq, nv_cl, Nat.reduceMod, Nat.reduceMul, Nat.reduceAdd, Nat.zero_add, Nat.add_zero, Nat.mul_zero, decide_eq_true_eq, nv_inT, c, hF.1]
    refine X5_walks_w_z hF hG hS hFs (w := 1) (by omega) ht _ fun b hb => ?_
    have hFb := hF.szz hG hb.1
    have f1 := hb.2.1 x hx
    have s1 := hb.2.2 rfl x hx
    rw [fl_on hx] at f1
    cases q : dd (Ed R 1) (nH R) x t with
    | some j =>
      have hj := dd_lt hx q
      have q' : dd (Ed R (nv 1)) (nH R) x t = some j := q
      rw [q'] at f1 s1
      have f1' : hI b (G 14) x = nv j := f1
      have s1' : hI b (G 15) x = sv R t x := by
        rw [s1]
        simp only [sl]
        rw [if_pos (by omega)]
      have hne := nv_m1 (k := j) (by omega)
      have e : kn R x t = if sz R t < sz R x then 0 else 2 := by
        unfold kn
        rw [if_neg c, q]
      have hq := hk b hb.1
      rw [e] at hq
      by_cases g : sz R t < sz R x
      · rw [if_pos g] at hq
        have s2 : hI b (G 15) x = nv 1 := by rw [s1']; unfold sv; rw [if_pos g]; rfl
        simp (disch := omega) only [X5_knownOf_37, ↓w_bd, ↓w_rt, ↓w_bh, sm_l, sm_r, ↓w_okr, ↓w_nm, ↓w_ite, ↓reduceIte, not_true_eq_false, not_false_eq_true, and_true, true_and, and_self, Option.some.injEq, reduceCtorEq, eq_self, ↓w_rc, ↓w_gI, ↓w_gR, ↓w_aN, ↓w_aI, ↓w_aR, ↓w_aL, ↓w_pI, ↓w_pR, ↓w_sI, ↓w_sR, ↓w_sL, ↓w_nO, ↓w_nA, ↓w_nL, ↓w_ca, ↓w_ca0, ↓w_gS, ↓w_gK, ↓w_dv, ↓w_tw, ↓w_rz, ↓w_no, nv_lit, nv_f, nv_add, nv_mul, nv_sub, nv_le, nv_lt, nv_eq, nv_cl, Nat.reduceMod, Nat.reduceMul, Nat.reduceAdd, Nat.zero_add, Nat.add_zero, Nat.mul_zero, decide_eq_true_eq, nv_inT, hFb.1, f1', hne, s2, show ¬ nv 1 = nv 0 by decide]
        exact hq
      · rw [if_neg g] at hq
        have s2 : hI b (G 15) x = nv 0 := by rw [s1']; unfold sv; rw [if_neg g]; rfl
        simp (disch := omega) only [X5_knownOf_37, ↓w_bd, ↓w_rt, ↓w_bh, sm_l, sm_r, ↓w_okr, ↓w_nm, ↓w_ite, ↓reduceIte, not_true_eq_false, not_false_eq_true, and_true, true_and, and_self, Option.some.injEq, reduceCtorEq, eq_self, ↓w_rc, ↓w_gI, ↓w_gR, ↓w_aN, ↓w_aI, ↓w_aR, ↓w_aL, ↓w_pI, ↓w_pR, ↓w_sI, ↓w_sR, ↓w_sL, ↓w_nO, ↓w_nA, ↓w_nL, ↓w_ca, ↓w_ca0, ↓w_gS, ↓w_gK, ↓w_dv, ↓w_tw, ↓w_rz, ↓w_no, nv_lit, nv_f, nv_add, nv_mul, nv_sub, nv_le, nv_lt, nv_eq, nv_cl, Nat.reduceMod, Nat.reduceMul, Nat.reduceAdd, Nat.zero_add, Nat.add_zero, Nat.mul_zero, decide_eq_true_eq, nv_inT, hFb.1, f1', hne, s2]
        exact hq
    | none =>
      have q' : dd (Ed R (nv 1)) (nH R) x t = none := q
      rw [q'] at f1
      have f1' : hI b (G 14) x = -nv 1 := f1
      simp (disch := omega) only [X5_knownOf_59, ↓w_bd, ↓w_rt, ↓w_bh, sm_l, sm_r, ↓w_okr, ↓w_nm, ↓w_ite, ↓reduceIte, not_true_eq_false, not_false_eq_true, and_true, true_and, and_self, Option.some.injEq, reduceCtorEq, eq_self, ↓w_rc, ↓w_gI, ↓w_gR, ↓w_aN, ↓w_aI, ↓w_aR, ↓w_aL, ↓w_pI, ↓w_pR, ↓w_sI, ↓w_sR, ↓w_sL, ↓w_nO, ↓w_nA, ↓w_nL, ↓w_ca, ↓w_ca0, ↓w_gS, ↓w_gK, ↓w_dv, ↓w_tw, ↓w_rz, ↓w_no, nv_lit, nv_f, nv_add, nv_mul, nv_sub, nv_le, nv_lt, nv_eq, nv_cl, Nat.reduceMod, Nat.reduceMul, Nat.reduceAdd, Nat.zero_add, Nat.add_zero, Nat.mul_zero, decide_eq_true_eq, nv_inT, hFb.1, f1']
      refine X5_walks_w_z hFb hG hS hFs (w := 0) (by omega) ht _ fun b2 hb2 => ?_
      have hFb2 := hFb.szz hG hb2.1
      have f2 := hb2.2.1 x hx
      rw [fl_on hx] at f2
      have hq := hk b2 (hb.1.tr hb2.1)
      unfold kn at hq
      rw [if_neg c, q] at hq
      cases q2 : dd (Ed R 0) (nH R) x t with
      | some j =>
        have hj := dd_lt hx q2
        have q2' : dd (Ed R (nv 0)) (nH R) x t = some j := q2
        rw [q2'] at f2
        have f2' : hI b2 (G 14) x = nv j := f2
        have hne := nv_m1 (k := j) (by omega)
        rw [q2] at hq
        simp (disch := omega) only [X5_knownOf_59, ↓w_bd, ↓w_rt, ↓w_bh, sm_l, sm_r, ↓w_okr, ↓w_nm, ↓w_ite, ↓reduceIte, not_true_eq_false, not_false_eq_true, and_true, true_and, and_self, Option.some.injEq, reduceCtorEq, eq_self, ↓w_rc, ↓w_gI, ↓w_gR, ↓w_aN, ↓w_aI, ↓w_aR, ↓w_aL, ↓w_pI, ↓w_pR, ↓w_sI, ↓w_sR, ↓w_sL, ↓w_nO, ↓w_nA, ↓w_nL, ↓w_ca, ↓w_ca0, ↓w_gS, ↓w_gK, ↓w_dv, ↓w_tw, ↓w_rz, ↓w_no, nv_lit, nv_f, nv_add, nv_mul, nv_sub, nv_le, nv_lt, nv_eq, nv_cl, Nat.reduceMod, Nat.reduceMul, Nat.reduceAdd, Nat.zero_add, Nat.add_zero, Nat.mul_zero, decide_eq_true_eq, nv_inT, hFb2.1, f2', hne]
        exact hq
      | none =>
        have q2' : dd (Ed R (nv 0)) (nH R) x t = none := q2
        rw [q2'] at f2
        have f2' : hI b2 (G 14) x = -nv 1 := f2
        rw [q2] at hq
        simp (disch := omega) only [X5_knownOf_59, ↓w_bd, ↓w_rt, ↓w_bh, sm_l, sm_r, ↓w_okr, ↓w_nm, ↓w_ite, ↓reduceIte, not_true_eq_false, not_false_eq_true, and_true, true_and, and_self, Option.some.injEq, reduceCtorEq, eq_self, ↓w_rc, ↓w_gI, ↓w_gR, ↓w_aN, ↓w_aI, ↓w_aR, ↓w_aL, ↓w_pI, ↓w_pR, ↓w_sI, ↓w_sR, ↓w_sL, ↓w_nO, ↓w_nA, ↓w_nL, ↓w_ca, ↓w_ca0, ↓w_gS, ↓w_gK, ↓w_dv, ↓w_tw, ↓w_rz, ↓w_no, nv_lit, nv_f, nv_add, nv_mul, nv_sub, nv_le, nv_lt, nv_eq, nv_cl, Nat.reduceMod, Nat.reduceMul, Nat.reduceAdd, Nat.zero_add, Nat.add_zero, Nat.mul_zero, decide_eq_true_eq, nv_inT, hFb2.1, f2']
        exact hq
