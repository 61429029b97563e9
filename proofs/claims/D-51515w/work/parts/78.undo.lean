/-! UNDO, SAVE, RESTORE -/
theorem hwR_2 (a : Hp) (q : Nat) (f g : Nat → Option Nat) : hwR (hwR a q f) q g = hwR a q g := by
  unfold hwR
  have : up1 (up1 (hR a) q f) q g = up1 (hR a) q g := up1_2 _ _ _ _
  show (_, _) = (_, _)
  congr 1
  congr 1
  congr 1
theorem after_g {G : Nat → Nat} {B B' : Nat → Nat × Nat} {S S' : Gst} {a b c : Hp} (hC : JC G B S a) (hT : JT G S a) (fr : Frm G B a b) (jc : JC G B' S' b) (hz : hSz b ≤ hSz a + 50000) (hl : hSl b ≤ hSl a + 228000) (jt : JT G S' c) (tf : Tf G b c) : After G a c := by
  have hTb := fr.t hC.1 hT
  refine ⟨⟨B', S', jc.tw hTb.1 tf.ep, jt⟩, ⟨by rw [tf.sz]; omega, by rw [tf.sl]; omega⟩, ?_⟩
  exact fr.2.1.tr fr.1.1 (tf.ep.kp (fun q hq => tG_k hTb.1 hq))
theorem JT.gen {G : Nat → Nat} {S S' : Gst} {a c : Hp} (hG : GD G) (h : JT G S a) (k : c.1 = a.1 ∧ c.2.2 = a.2.2) (e : ∀ q, q ≠ G 10 → q ≠ G 11 → q ≠ G 12 → hI c q = hI a q) (e10 : ∀ j, j ≠ 4 → j ≠ 5 → hI c (G 10) j = hI a (G 10) j) (hS2 : S'.2 = S.2) (h4 : hI c (G 10) 4 = nv (gu S')) (hr : ∀ i p, gm S' i = some p → ∀ k, k < 545 → hI c (G 11) (545 * i + k) = p.2 k) (h12 : ∀ j, j < 2 → hI c (G 12) j = if (gm S' (7 + j)).isSome then 1 else 0) : JT G S' c := by
  have eK : hK c = hK a := congrArg (fun x => x.1.2.1) k.1
  have eN : hN c = hN a := congrArg (fun x => x.1.2.2) k.1
  have eR : hR c = hR a := congrArg (fun x => x.1) k.2
  have n := fun i (h1 : i < 22) (h2 : i ≠ 10 ∧ i ≠ 11 ∧ i ≠ 12) => e (G i) (hG.ne h1 (by omega) h2.1) (hG.ne h1 (by omega) h2.2.1) (hG.ne h1 (by omega) h2.2.2)
  have efl : gf S' = gf S ∧ gl S' = gl S ∧ gb S' = gb S ∧ ge S' = ge S ∧ go S' = go S := by
    unfold gf gl gb ge go
    rw [hS2]
    exact ⟨rfl, rfl, rfl, rfl, rfl⟩
  obtain ⟨f1, f2, f3, f4, f5⟩ := efl
  obtain ⟨h1, h2, -, -, -, h6, ⟨h7, h8⟩, ⟨h9, h10⟩, h11, h12'⟩ := h
  refine ⟨?_, ?_, h4, hr, h12, ?_, ⟨?_, ?_⟩, ⟨?_, ?_⟩, ?_, ?_⟩
  · unfold FT at *
    rw [eK, eN, eR]
    exact h1
  · rw [e10 _ (by omega) (by omega)]; exact h2
  · rw [n 13 (by omega) (by omega), f1]; exact h6
  · rw [e10 _ (by omega) (by omega), f2]; exact h7
  · rw [n 16 (by omega) (by omega), f2, f3]; exact h8
  · rw [e10 _ (by omega) (by omega), f4]; exact h9
  · rw [e10 _ (by omega) (by omega), f4]; exact h10
  · rw [e10 _ (by omega) (by omega), f5]; exact h11
  · rw [n 19 (by omega) (by omega), f5]; exact h12'
/-- the last kept market comes back -/
def sU (S : Gst) : Gst := ((fun i => if i = 0 then gm S (gu S) else if i = gu S then none else gm S i, gu S - 1), S.2)
theorem dec_f : ∀ h : Fin 17, ∀ u : Fin 17, 0 < u.val → (if nv 0 ≤ nv ((h.val + u.val) % 17) + -nv 1 then nv ((h.val + u.val) % 17) + -nv 1 else nv 17 - nv 1) = nv ((h.val + u.val - 1) % 17) := by decide +kernel
theorem J1_dec_w {h u : Nat} (hh : h < 17) (hu : u < 17) (h0 : 0 < u) (a : Hp) (Q : Int32 → Hp → Prop) : Wp (J1_dec (nv ((h + u) % 17)) (nv 17)) a Q ↔ Q (nv ((h + u - 1) % 17)) a := by
  have e := dec_f ⟨h, hh⟩ ⟨u, hu⟩ h0
  dsimp only at e
  unfold J1_dec J1_dec_11
  rw [w_ite]
  by_cases g : nv 0 ≤ nv ((h + u) % 17) + -nv 1
  · rw [if_pos g] at e
    rw [if_pos (show (0 : Int32) ≤ nv ((h + u) % 17) + (-1) from g), w_rt]
    exact iff_of_eq (congrArg (fun z => Q z a) e)
  · rw [if_neg g] at e
    rw [if_neg (show ¬ (0 : Int32) ≤ nv ((h + u) % 17) + (-1) from g), w_rt]
    exact iff_of_eq (congrArg (fun z => Q z a) e)
theorem J1_removeLast_w {G : Nat → Nat} {c : Hp} {h u q : Nat} (hD : Dq G c h ((h + u) % 17)) (hu : u < 17) (h0 : 0 < u) (hq : hR c (G 6) ((h + u - 1) % 17) = some q) (Q : Option Nat → Hp → Prop) : Wp (J1_removeLast (G 2)) c Q ↔ Q (some q) (hwR (hwI c (G 2) (up1 (hI c (G 2)) 2 (nv ((h + u - 1) % 17)))) (G 6) (up1 (hR c (G 6)) ((h + u - 1) % 17) none)) := by
  obtain ⟨⟨k2, r2, k6, n6⟩, i1, i2, hh, ht⟩ := hD
  have ok : ∀ z, okR z [4, 8, 2] none = true := fun _ => rfl
  have h17 : (h + u - 1) % 17 < 17 := Nat.mod_lt _ (by omega)
  simp (disch := omega) only [J1_removeLast, J1_pollLast, J1_pollLast_34, J1_elementAt, ↓w_bd, ↓w_rt, ↓w_bh, sm_l, sm_r, ↓w_okr, ↓w_nm, ↓w_ite, ↓reduceIte, not_true_eq_false, not_false_eq_true, and_true, true_and, and_self, Option.some.injEq, reduceCtorEq, eq_self, ↓w_rc, ↓w_gI, ↓w_gR, ↓w_aN, ↓w_aI, ↓w_aR, ↓w_aL, ↓w_pI, ↓w_pR, ↓w_sI, ↓w_sR, ↓w_sL, ↓w_nO, ↓w_nA, ↓w_nL, ↓w_ca, ↓w_ca0, ↓w_gS, ↓w_gK, ↓w_dv, ↓w_tw, ↓w_rz, ↓w_no, nv_lit, nv_f, nv_add, nv_mul, nv_sub, nv_le, nv_lt, nv_eq, nv_cl, Nat.reduceMod, Nat.reduceMul, Nat.reduceAdd, Nat.zero_add, Nat.add_zero, Nat.mul_zero, decide_eq_true_eq, nv_inT, k2, r2, k6, n6, i1, i2, ok, hq, hK_wI, hR_wI, hN_wI, J1_dec_w hh hu h0, okn]
theorem op_undo {G : Nat → Nat} {B : Nat → Nat × Nat} {S : Gst} {a : Hp} (hC : JC G B S a) (hT : JT G S a) : OpE G a (X1_undo (G 0)) (X5_undo (G 10)) := by
  have hG := hC.1.gd
  have hJ := hC.2.1
  have hs : ∀ i, i < 22 → G i < hSz a := fun i hi => (hC.1 i hi).1
  obtain ⟨d1, d2, hd, d3, d4, d5, d6⟩ := hC.2.2.2.1
  have hD : Dq G a hd ((hd + gu S) % 17) := ⟨⟨hJ.2.1.2.1, hJ.2.2.2.1, hJ.2.1.2.2.2.2.2.1, hJ.2.2.1.2.2.2.1⟩, d4, d5, d3, Nat.mod_lt _ (by omega)⟩
  have h17 : (hd + gu S) % 17 < 17 := Nat.mod_lt _ (by omega)
  have t5 := th_5 G a (nv 0)
  have hT0 := hT.th hG (nv 0)
  have t4 : hI (th G a (nv 0)) (G 10) 4 = nv (gu S) := hT0.2.2.1
  have hFT := hT.1
  by_cases hu : gu S = 0
  · have e1 : (hd + gu S) % 17 = hd := by omega
    rw [e1] at d5
    rw [hu] at t4
    simp (disch := omega) only [OpE, X1_undo, J1_isEmpty, J1_isEmpty_16, ↓w_bd, ↓w_rt, ↓w_bh, sm_l, sm_r, ↓w_okr, ↓w_nm, ↓w_ite, ↓reduceIte, not_true_eq_false, not_false_eq_true, and_true, true_and, and_self, Option.some.injEq, reduceCtorEq, eq_self, ↓w_rc, ↓w_gI, ↓w_gR, ↓w_aN, ↓w_aI, ↓w_aR, ↓w_aL, ↓w_pI, ↓w_pR, ↓w_sI, ↓w_sR, ↓w_sL, ↓w_nO, ↓w_nA, ↓w_nL, ↓w_ca, ↓w_ca0, ↓w_gS, ↓w_gK, ↓w_dv, ↓w_tw, ↓w_rz, ↓w_no, nv_lit, nv_f, nv_add, nv_mul, nv_sub, nv_le, nv_lt, nv_eq, nv_cl, Nat.reduceMod, Nat.reduceMul, Nat.reduceAdd, Nat.zero_add, Nat.add_zero, Nat.mul_zero, decide_eq_true_eq, nv_inT, hJ, d4, d5, nrk21, n10, X5_undo, th_f, th_K, t4, hFT, okn]
    exact post_e hC hT (E0.rf a) (by omega) (by omega) (Sx.rf _ _)
  · have ne : ¬ hd = (hd + gu S) % 17 := by omega
    obtain ⟨p, hp⟩ : ∃ p, gm S (gu S) = some p := by
      have := d2 (gu S - 1) (by omega)
      rw [show 1 + (gu S - 1) = gu S by omega] at this
      cases c : gm S (gu S) with
      | none => have := this.mp c; omega
      | some p => exact ⟨p, rfl⟩
    have r0 : hR a (G 6) ((hd + gu S - 1) % 17) = some (p.1 0) := by
      have := d6 (gu S - 1) p (by omega) (by rw [show 1 + (gu S - 1) = gu S by omega]; exact hp)
      rwa [show hd + (gu S - 1) = hd + gu S - 1 by omega] at this
    have hMp := (JM.e hC hp).1
    have kp : hK a (p.1 0) = 2 := (mk_k hMp).1.1
    have n := fun i j (hi : i < 22) (hj : j < 22) (hn : i ≠ j) => hG.ne hi hj hn
    -- the component's heap
    obtain ⟨b, eb⟩ : ∃ b, b = hwR (hwR (hwI a (G 2) (up1 (hI a (G 2)) 2 (nv ((hd + gu S - 1) % 17)))) (G 6) (up1 (hR a (G 6)) ((hd + gu S - 1) % 17) none)) (G 0) (up1 (hR (hwR (hwI a (G 2) (up1 (hI a (G 2)) 2 (nv ((hd + gu S - 1) % 17)))) (G 6) (up1 (hR a (G 6)) ((hd + gu S - 1) % 17) none)) (G 0)) 4 (some (p.1 0))) := ⟨_, rfl⟩
    have ep : EP (Pq G) a b := by
      rw [eb]
      exact (((EP.rf _ a).wI (.inl (.inr (.inl rfl))) _).wR (.inl (.inr (.inr (.inr rfl)))) _).wR (.inl (.inl rfl)) _
    have b0 : ∀ j, hR b (G 0) j = up1 (hR a (G 0)) 4 (some (p.1 0)) j := fun j => by rw [eb, hR_wR, up1_s, hR_wR, up1_n _ _ (n 0 6 (by omega) (by omega) (by omega)), hR_wI]
    have b6 : ∀ j, hR b (G 6) j = up1 (hR a (G 6)) ((hd + gu S - 1) % 17) none j := fun j => by rw [eb, hR_wR, up1_n _ _ (n 6 0 (by omega) (by omega) (by omega)), hR_wR, up1_s]
    have bo : ∀ q, q ≠ G 0 → q ≠ G 6 → hR b q = hR a q := fun q h1 h2 => by rw [eb, hR_wR, up1_n _ _ h1, hR_wR, up1_n _ _ h2, hR_wI]
    have i2 : ∀ j, hI b (G 2) j = up1 (hI a (G 2)) 2 (nv ((hd + gu S - 1) % 17)) j := fun j => by rw [eb, hI_wR, hI_wR, hI_wI, up1_s]
    have io : ∀ q, q ≠ G 2 → hI b q = hI a q := fun q h1 => by rw [eb, hI_wR, hI_wR, hI_wI, up1_n _ _ h1]
    have kb : hK b = hK a ∧ hN b = hN a := by rw [eb]; exact ⟨rfl, rfl⟩
    have gmi : ∀ i, gm (sU S) i = if i = 0 then gm S (gu S) else if i = gu S then none else gm S i := fun _ => rfl
    have gm0 : gm (sU S) 0 = some p := by rw [gmi, if_pos rfl]; exact hp
    have gmr : ∀ i q, gm (sU S) i = some q → ∃ j, gm S j = some q ∧ i ≠ gu S ∧ j = if i = 0 then gu S else i := by
      intro i q hq
      rw [gmi] at hq
      split at hq <;> rename_i g1
      · exact ⟨gu S, hq, by omega, by rw [if_pos g1]⟩
      · split at hq <;> rename_i g2
        · cases hq
        · exact ⟨i, hq, g2, by rw [if_neg g1]⟩
    have gus : gu (sU S) = gu S - 1 := rfl
    have jb : JC G B (sU S) b := by
      refine hC.gen ep (fun _ _ => rfl) rfl (fun j hj => by rw [b0, up1_n _ _ hj]) (io _ (n 0 2 (by omega) (by omega) (by omega))) (.inl kb.1) ⟨by rw [kb.2]; exact hJ.2.2.1.2.1, by rw [kb.2]; exact hJ.2.2.1.2.2.2.1⟩ (by rw [bo _ (n 2 0 (by omega) (by omega) (by omega)) (n 2 6 (by omega) (by omega) (by omega))]; exact hJ.2.2.2.1) ⟨⟨p, gm0, by rw [b0, up1_s]⟩, fun i q hq => ?_, fun i j q q' hij hq hq' => ?_⟩ ⟨?_, fun i hi => ?_, hd, d3, ?_, ?_, fun i q hi hq => ?_⟩ fun j hj => ?_
      · obtain ⟨j, hj, h6, ej⟩ := gmr i q hq
        obtain ⟨m1, m2, m3, m4⟩ := JM.e hC hj
        refine ⟨?_, m1.ep ep (fun z hz => pq_P hC _ z hz) (fun _ _ => rfl), m4⟩
        split at ej <;> omega
      · obtain ⟨i', hi', i6, ei⟩ := gmr i q hq
        obtain ⟨j', hj', j6, ej⟩ := gmr j q' hq'
        refine hC.2.2.1.2.2 i' j' q q' ?_ hi' hj'
        intro e
        apply hij
        split at ei <;> split at ej <;> omega
      · rw [gus]; omega
      · rw [gus, gmi, if_neg (by omega)]
        by_cases c1 : 1 + i = gu S
        · rw [if_pos c1]
          simp
          omega
        · rw [if_neg c1, d2 i hi]
          omega
      · rw [i2, up1_n _ _ (by omega)]; exact d4
      · rw [i2, up1_s, gus]
        congr 1
        omega
      · rw [gus] at hi
        rw [gmi, if_neg (by omega), if_neg (by omega)] at hq
        rw [b6, up1_n _ _ (by omega)]
        exact d6 i q (by omega) hq
      · rw [gmi, if_neg (by omega), if_neg (by omega), bo _ (n 3 0 (by omega) (by omega) (by omega)) (n 3 6 (by omega) (by omega) (by omega))]
        exact hC.2.2.2.2.1 j hj
    have frb : Frm G B a b := ep.fr fun q hq _ => ⟨.inr (by
      rcases hq with e | e | e | e
      · exact ⟨0, by omega, e⟩
      · exact ⟨2, by omega, e⟩
      · exact ⟨3, by omega, e⟩
      · exact ⟨6, by omega, e⟩), pq_k hC q hq⟩
    have hTb := frb.t hC.1 hT
    have hDb : Dq G b hd ((hd + (gu S - 1)) % 17) := ⟨⟨jb.2.1.2.1.2.1, jb.2.1.2.2.2.1, jb.2.1.2.1.2.2.2.2.2.1, jb.2.1.2.2.1.2.2.2.1⟩, by rw [i2, up1_n _ _ (by omega)]; exact d4, by rw [i2, up1_s]; congr 1; omega, d3, Nat.mod_lt _ (by omega)⟩
    have h17' : (hd + gu S - 1) % 17 < 17 := Nat.mod_lt _ (by omega)
    have jbJ := jb.2.1
    simp (disch := omega) only [OpE, X1_undo, J1_isEmpty, J1_isEmpty_16, ↓w_bd, ↓w_rt, ↓w_bh, sm_l, sm_r, ↓w_okr, ↓w_nm, ↓w_ite, ↓reduceIte, not_true_eq_false, not_false_eq_true, and_true, true_and, and_self, Option.some.injEq, reduceCtorEq, eq_self, ↓w_rc, ↓w_gI, ↓w_gR, ↓w_aN, ↓w_aI, ↓w_aR, ↓w_aL, ↓w_pI, ↓w_pR, ↓w_sI, ↓w_sR, ↓w_sL, ↓w_nO, ↓w_nA, ↓w_nL, ↓w_ca, ↓w_ca0, ↓w_gS, ↓w_gK, ↓w_dv, ↓w_tw, ↓w_rz, ↓w_no, nv_lit, nv_f, nv_add, nv_mul, nv_sub, nv_le, nv_lt, nv_eq, nv_cl, Nat.reduceMod, Nat.reduceMul, Nat.reduceAdd, Nat.zero_add, Nat.add_zero, Nat.mul_zero, decide_eq_true_eq, nv_inT, hJ, d4, d5, ne, nrk20, n10, J1_removeLast_w hD (show gu S < 17 by omega) (show 0 < gu S by omega) r0, hK_wR, hK_wI, kp, List.contains_cons, List.contains_nil, Nat.reduceBEq, Bool.or_true, Bool.true_or, Bool.or_false, BEq.rfl, List.contains_cons, Nat.reduceBEq, Bool.true_or, ← eb, jbJ, J1_size_w hDb (show gu S - 1 < 17 by omega)]
    -- the twin
    have tb5 := th_5 G b (nv 0)
    have hTb0 := hTb.th hG (nv 0)
    have tb4 : hI (th G b (nv 0)) (G 10) 4 = nv (gu S) := hTb0.2.2.1
    have hFb := hTb.1
    have hu' : ¬ gu S = 0 := hu
    obtain ⟨c, ec⟩ : ∃ c, c = hwI (th G b (nv 0)) (G 10) (up1 (hI (th G b (nv 0)) (G 10)) 4 (nv (gu S - 1))) := ⟨_, rfl⟩
    have kc : c.1 = b.1 ∧ c.2.2 = b.2.2 := by rw [ec]; exact ⟨rfl, rfl⟩
    have c4 : hI c (G 10) 4 = nv (gu S - 1) := by rw [ec, hI_wI, up1_s, up1_s]
    have c10 : ∀ j, j ≠ 4 → j ≠ 5 → hI c (G 10) j = hI b (G 10) j := fun j h4 h5 => by rw [ec, hI_wI, up1_s, up1_n _ _ h4]; exact th_n G b _ h5
    have c5 : hI c (G 10) 5 = nv 0 := by rw [ec, hI_wI, up1_s, up1_n _ _ (by omega)]; exact tb5
    have co : ∀ q, q ≠ G 10 → hI c q = hI b q := fun q h1 => by rw [ec, hI_wI, up1_n _ _ h1]; exact th_o G b _ h1
    have cF : FT G c := by
      have eK : hK c = hK b := congrArg (fun x => x.1.2.1) kc.1
      have eN : hN c = hN b := congrArg (fun x => x.1.2.2) kc.1
      have eR : hR c = hR b := congrArg (fun x => x.1) kc.2
      have := hFb
      unfold FT at *
      rw [eK, eN, eR]
      exact this
    simp (disch := omega) only [X5_undo, ↓w_bd, ↓w_rt, ↓w_bh, sm_l, sm_r, ↓w_okr, ↓w_nm, ↓w_ite, ↓reduceIte, not_true_eq_false, not_false_eq_true, and_true, true_and, and_self, Option.some.injEq, reduceCtorEq, eq_self, ↓w_rc, ↓w_gI, ↓w_gR, ↓w_aN, ↓w_aI, ↓w_aR, ↓w_aL, ↓w_pI, ↓w_pR, ↓w_sI, ↓w_sR, ↓w_sL, ↓w_nO, ↓w_nA, ↓w_nL, ↓w_ca, ↓w_ca0, ↓w_gS, ↓w_gK, ↓w_dv, ↓w_tw, ↓w_rz, ↓w_no, nv_lit, nv_f, nv_add, nv_mul, nv_sub, nv_le, nv_lt, nv_eq, nv_cl, Nat.reduceMod, Nat.reduceMul, Nat.reduceAdd, Nat.zero_add, Nat.add_zero, Nat.mul_zero, decide_eq_true_eq, nv_inT, th_f, th_K, tb4, hFb, okn, hu']
    rw [← ec]
    have n1110 := n 10 11 (by omega) (by omega) (by omega)
    have w4 : hI (cpw G c (1 + (gu S - 1)) 0) (G 10) 4 = nv (gu S - 1) := by rw [cpw_o G c _ _ n1110]; exact c4
    have wk : hK (cpw G c (1 + (gu S - 1)) 0) (G 10) = 5 := cF.1.1
    simp (disch := omega) only [↓w_bd, ↓w_rt, ↓w_bh, sm_l, sm_r, ↓w_okr, ↓w_nm, ↓w_ite, ↓reduceIte, not_true_eq_false, not_false_eq_true, and_true, true_and, and_self, Option.some.injEq, reduceCtorEq, eq_self, ↓w_rc, ↓w_gI, ↓w_gR, ↓w_aN, ↓w_aI, ↓w_aR, ↓w_aL, ↓w_pI, ↓w_pR, ↓w_sI, ↓w_sR, ↓w_sL, ↓w_nO, ↓w_nA, ↓w_nL, ↓w_ca, ↓w_ca0, ↓w_gS, ↓w_gK, ↓w_dv, ↓w_tw, ↓w_rz, ↓w_no, nv_lit, nv_f, nv_add, nv_mul, nv_sub, nv_le, nv_lt, nv_eq, nv_cl, Nat.reduceMod, Nat.reduceMul, Nat.reduceAdd, Nat.zero_add, Nat.add_zero, Nat.mul_zero, decide_eq_true_eq, nv_inT, cF, c4, X5_copies_w cF, w4, wk]
    refine after_g hC hT frb jb ?_ ?_ (JT.gen (c := cpw G c (1 + (gu S - 1)) 0) hG hTb ⟨kc.1, kc.2⟩ (fun q h1 h2 _ => by rw [cpw_o G c _ _ h2]; exact co q h1) (fun j h4 h5 => by rw [cpw_o G c _ _ n1110]; exact c10 j h4 h5) rfl w4 (fun i q hq k hk => ?_) (fun j hj => ?_)) ⟨kc.1, kc.2, fun q h1 h2 _ _ _ _ _ _ => by rw [cpw_o G c _ _ h2]; exact co q h1, fun j h4 h5 _ => by rw [cpw_o G c _ _ n1110]; exact c10 j h4 h5⟩
    · rw [eb]; show hSz a ≤ _; omega
    · rw [eb]; show hSl a ≤ _; omega
    · obtain ⟨j, hj, h6, ej⟩ := gmr i q hq
      have := hTb.2.2.2.1 j q hj k hk
      by_cases e : i = 0
      · rw [if_pos e] at ej
        rw [e, Nat.mul_zero, Nat.zero_add]
        have cr := cpw_r G c (1 + (gu S - 1)) 0 k hk
        rw [Nat.mul_zero, Nat.zero_add] at cr
        rw [cr, co _ (n 11 10 (by omega) (by omega) (by omega)), ← this, ej, show 1 + (gu S - 1) = gu S by omega]
      · rw [if_neg e] at ej
        rw [cpw_n G c _ _ _ (by omega), co _ (n 11 10 (by omega) (by omega) (by omega)), ← this, ej]
    · have e7 : gm (sU S) (7 + j) = gm S (7 + j) := by rw [gmi, if_neg (by omega), if_neg (by omega)]
      rw [e7, cpw_o G c _ _ (n 12 11 (by omega) (by omega) (by omega)), co _ (n 12 10 (by omega) (by omega) (by omega))]
      exact hTb.2.2.2.2.1 j hj
