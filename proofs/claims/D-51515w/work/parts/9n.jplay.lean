/-! PLAY -/
def w9 (G : Nat → Nat) (c : Hp) : Hp := hwI c (G 10) (up1 (hI c (G 10)) 9 (nv 0))
theorem w9_f (G : Nat → Nat) (c : Hp) : hwI c (G 10) (up1 (hI c (G 10)) 9 (nv 0)) = w9 G c := rfl
theorem w9_n (G : Nat → Nat) (c : Hp) {j : Nat} (h : j ≠ 9) : hI (w9 G c) (G 10) j = hI c (G 10) j := by
  unfold w9
  rw [hI_wI, up1_s, up1_n _ _ h]
theorem w9_9 (G : Nat → Nat) (c : Hp) : hI (w9 G c) (G 10) 9 = nv 0 := by
  unfold w9
  rw [hI_wI, up1_s, up1_s]
theorem w9_o (G : Nat → Nat) (c : Hp) {q : Nat} (h : q ≠ G 10) : hI (w9 G c) q = hI c q := by
  unfold w9
  rw [hI_wI, up1_n _ _ h]
theorem p35_z {G : Nat → Nat} {c0 c : Hp} {cd ps n : Nat} (h : TPz G c0 c cd ps n) (Q : Int32 → Hp → Prop) : Wp (X5_play_35 (G 10)) c Q ↔ Q (-nv 1) (w9 G c) := by
  have h10 : hI (w9 G c) (G 10) 10 = nv cd := by rw [w9_n G c (by omega)]; exact h.1.2.1
  have h1 := h.1.2.2.2
  have hF := h.1.1
  have hF9 : FT G (w9 G c) := hF
  simp (disch := omega) only [X5_play_35, ↓w_bd, ↓w_rt, ↓w_bh, sm_l, sm_r, ↓w_okr, ↓w_nm, ↓w_ite, ↓reduceIte, not_true_eq_false, not_false_eq_true, and_true, true_and, and_self, Option.some.injEq, reduceCtorEq, eq_self, ↓w_rc, ↓w_gI, ↓w_gR, ↓w_aN, ↓w_aI, ↓w_aR, ↓w_aL, ↓w_pI, ↓w_pR, ↓w_sI, ↓w_sR, ↓w_sL, ↓w_nO, ↓w_nA, ↓w_nL, ↓w_ca, ↓w_ca0, ↓w_gS, ↓w_gK, ↓w_dv, ↓w_tw, ↓w_rz, ↓w_no, nv_lit, nv_f, nv_add, nv_mul, nv_sub, nv_le, nv_lt, nv_eq, nv_cl, Nat.reduceMod, Nat.reduceMul, Nat.reduceAdd, Nat.zero_add, Nat.add_zero, Nat.mul_zero, decide_eq_true_eq, nv_inT, hF, okn, w9_f, hF9, h10, show ¬ cd = 0 by omega]
theorem p35_0 {G : Nat → Nat} {S : Gst} {n : Nat} {E : Nat → Int32} {c0 c : Hp} {s e k : Nat} (h : TP G S n E c0 c s e k) (Q : Int32 → Hp → Prop) : Wp (X5_play_35 (G 10)) c Q ↔ Wp (X5_play_55 FU (G 10) (nv 0) (nv 1) (nv 0)) (w9 G c) Q := by
  have h10 : hI (w9 G c) (G 10) 10 = nv 0 := by rw [w9_n G c (by omega)]; exact h.1.2.2.1.1
  have hF := h.1.1
  have hF9 : FT G (w9 G c) := hF
  simp (disch := omega) only [X5_play_35, ↓w_bd, ↓w_rt, ↓w_bh, sm_l, sm_r, ↓w_okr, ↓w_nm, ↓w_ite, ↓reduceIte, not_true_eq_false, not_false_eq_true, and_true, true_and, and_self, Option.some.injEq, reduceCtorEq, eq_self, ↓w_rc, ↓w_gI, ↓w_gR, ↓w_aN, ↓w_aI, ↓w_aR, ↓w_aL, ↓w_pI, ↓w_pR, ↓w_sI, ↓w_sR, ↓w_sL, ↓w_nO, ↓w_nA, ↓w_nL, ↓w_ca, ↓w_ca0, ↓w_gS, ↓w_gK, ↓w_dv, ↓w_tw, ↓w_rz, ↓w_no, nv_lit, nv_f, nv_add, nv_mul, nv_sub, nv_le, nv_lt, nv_eq, nv_cl, Nat.reduceMod, Nat.reduceMul, Nat.reduceAdd, Nat.zero_add, Nat.add_zero, Nat.mul_zero, decide_eq_true_eq, nv_inT, hF, okn, w9_f, hF9, h10]
theorem play_s {G : Nat → Nat} {S : Gst} {c : Hp} {s e k : Nat} (hG : GD G) (hT : JT G S c) (hCo : Co c) (h5 : gl S ≤ 500) (hx : Nx S 0 s e k) (Q : Int32 → Hp → Prop) (kk : ∀ c', TP G S 0 (hI c (G 17)) (th G c (nv 0)) c' s e k → Wp (X5_play_14 FU (G 10)) c' Q) : Wp (X5_play (G 10)) c Q := by
  obtain ⟨hF, -, -, -, -, -, ⟨t9, t16⟩, -⟩ := hT
  have n1610 := hG.ne (show 16 < 22 by omega) (show 10 < 22 by omega) (by omega)
  have n1710 := hG.ne (show 17 < 22 by omega) (show 10 < 22 by omega) (by omega)
  have hF0 : FT G (th G c (nv 0)) := hF
  have hCo0 : Co (th G c (nv 0)) := hCo.cg hF ⟨rfl, rfl⟩ fun q h1 _ _ => th_o G c _ h1
  have hTx : Tx G (th G c (nv 0)) (tb S) (gl S) := ⟨h5, by rw [th_n G c _ (by omega)]; exact t9, fun i hi => by rw [th_o G c _ n1610, t16 i hi]; exact tb_v S i, tb_b S⟩
  rw [X5_play, w_bd, w_pI]
  refine ⟨⟨hF.1.1, okn _⟩, ?_⟩
  rw [show hwI c (G 10) (up1 (hI c (G 10)) 5 0) = th G c (nv 0) from rfl, w_bd, w_rc]
  refine ⟨by rw [hF0.1.1], ?_⟩
  rw [w_bd]
  refine X5_starts_w hG hF0 hTx hx _ fun c1 w1 w2 => ?_
  rw [w_bd, w_pI]
  refine ⟨⟨w2.1.1.1, okn _⟩, ?_⟩
  refine kk _ (tp_w17 hG w2 (hCo0.tw w1 hF0) w1.tpr ?_ 0)
  rw [w1.2.2.1 _ n1710, th_o G c _ n1710]
/-- the twin behind its parser, laid for the acts or the end -/
theorem play_t {G : Nat → Nat} {S S' : Gst} {b c : Hp} (hG : GD G) (hT : JT G S b) (g : Tpr G (th G b (nv 0)) c) (hS : gm S' = gm S ∧ gu S' = gu S ∧ gf S' = gf S ∧ go S' = go S) (h9 : gl S' = 0) (e10 : hI c (G 10) 10 = (ge S').1 ∧ hI c (G 10) 11 = (ge S').2) : JT G S' (w9 G c) := by
  have n1110 := hG.ne (show 11 < 22 by omega) (show 10 < 22 by omega) (by omega)
  have n1117 := hG.ne (show 11 < 22 by omega) (show 17 < 22 by omega) (by omega)
  refine load_t hG hT ⟨g.1.1, g.1.2⟩ (fun q h1 h2 h3 => ?_) ?_ ?_ (w9_9 G c) h9 ⟨?_, ?_⟩ ?_ (fun i p hp k hk => ?_) (fun j hj => by rw [hS.1]) ⟨hS.2.2.1, hS.2.2.2⟩
  · rw [w9_o G c h1, g.2.1 q h1 h3, th_o G b _ h1]
  · rw [w9_n G c (by omega), g.2.2 3 (by omega) (by omega), th_n G b _ (by omega)]; exact hT.2.1
  · rw [w9_n G c (by omega), g.2.2 4 (by omega) (by omega), th_n G b _ (by omega), hS.2.1]; exact hT.2.2.1
  · rw [w9_n G c (by omega)]; exact e10.1
  · rw [w9_n G c (by omega)]; exact e10.2
  · rw [w9_n G c (by omega), g.2.2 20 (by omega) (by omega), th_n G b _ (by omega)]
  · rw [hS.1] at hp
    rw [w9_o G c n1110, g.2.1 _ n1110 n1117, th_o G b _ n1110]
    exact hT.2.2.2.1 i p hp k hk
theorem TP.sE {G : Nat → Nat} {S : Gst} {n : Nat} {E : Nat → Int32} {c0 c : Hp} {s e k : Nat} {x y : Int32} (h : TP G S n E c0 c s e k) : TP G (sE S x y) n E c0 c s e k := h
theorem op_play {G : Nat → Nat} {B : Nat → Nat × Nat} {S : Gst} {a : Hp} (hC : JC G B S a) (hT : JT G S a) : OpE G a (X1_play (G 0)) (X5_play (G 10)) := by
  have hG := hC.1.gd
  have hJ := hC.2.1
  have hs : ∀ i, i < 22 → G i < hSz a := fun i hi => (hC.1 i hi).1
  have n := fun i j (hi : i < 22) (hj : j < 22) (hn : i ≠ j) => hG.ne hi hj hn
  obtain ⟨l5, l2, l3⟩ := hC.2.2.2.2.2.2.1
  obtain ⟨a1, ea1⟩ : ∃ a1, a1 = hwI a (G 0) (up1 (up1 (hI a (G 0)) 2 (nv 0)) 3 (-nv 1)) := ⟨_, rfl⟩
  have i1 : ∀ j, hI a1 (G 0) j = up1 (up1 (hI a (G 0)) 2 (nv 0)) 3 (-nv 1) j := fun j => by rw [ea1, hI_wI, up1_s]
  have ep1 : EP (fun q => q = G 0) a a1 := by rw [ea1]; exact (EP.rf (fun q => q = G 0) a).wI (.inl rfl) _
  have k1 : hK a1 = hK a ∧ hN a1 = hN a ∧ hR a1 = hR a := by rw [ea1]; exact ⟨rfl, rfl, rfl⟩
  have z1 : hSz a1 = hSz a ∧ hSl a1 = hSl a := by rw [ea1]; exact ⟨rfl, rfl⟩
  have hC1 : JC G B (sE S (nv 0) (-nv 1)) a1 := by
    refine hC.i0 ep1 k1 ⟨rfl, rfl, rfl⟩ ⟨l5, by rw [i1, up1_n _ _ (by omega), up1_n _ _ (by omega)]; exact l2, fun i hi => ?_⟩ ⟨by rw [i1, up1_n _ _ (by omega), up1_s]; rfl, by rw [i1, up1_s]; rfl⟩
    rw [ea1, hI_wI, up1_n _ _ (n 1 0 (by omega) (by omega) (by omega))]
    exact l3 i hi
  obtain ⟨s, e, k, hx⟩ := nx_ex S (Nat.zero_le (gl S))
  have hx1 : Nx (sE S (nv 0) (-nv 1)) 0 s e k := hx
  unfold OpE X1_play
  rw [w_bd, w_pI]
  refine ⟨⟨hJ.1.1, okn _⟩, ?_⟩
  rw [w_bd, w_pI]
  refine ⟨⟨hJ.1.1, okn _⟩, ?_⟩
  have e1 : hwI (hwI a (G 0) (up1 (hI a (G 0)) 2 0)) (G 0) (up1 (hI (hwI a (G 0) (up1 (hI a (G 0)) 2 0)) (G 0)) 3 (-1)) = a1 := by
    rw [ea1, hI_wI, up1_s, hwI_2]
    rfl
  rw [e1, w_bd]
  refine w_nO' fun d0 e0 z0 l0 k0 i0 r0 => ?_
  obtain ⟨rq, erq⟩ : ∃ rq, rq = hSz a1 := ⟨_, rfl⟩
  rw [← erq] at k0 i0 z0 ⊢
  rw [w_bd]
  refine X6_init_w hC1 e0 z0 (by omega) k0 i0 hx1 _ fun d1 hcs => ?_
  have hk1 := hcs.k
  rw [w_bd, w_rc]
  refine ⟨by rw [hk1], ?_⟩
  rw [w_bh, X6_commands, w_bd]
  refine w_nA' (n := 26) (by omega) fun d2 e2 z2 l2' k2 n2 i2 r2 => ?_
  have zd1 : hSz a1 ≤ hSz d1 := hcs.1.1.1
  have hcs2 : Cs G (sE S (nv 0) (-nv 1)) a1 rq (hSz d0 + 1) (hSl d0 + 26) d2 s e k := hcs.mv (P := fun _ => False) (hcs.1.1.tr e2) (e2.ep _) (fun x hx => hx.elim) (by omega) (by omega)
  have hne : hSz d1 ≠ rq := by have := hcs.1.2.2; omega
  have hcl : CLs a1 d2 rq (hSz d1) 0 (fun _ => (0, [])) := ⟨⟨k2, n2, zd1, by omega⟩, fun i hi => absurd hi (Nat.not_lt_zero i), fun i _ _ => by rw [r2]⟩
  have gl5 : gl (sE S (nv 0) (-nv 1)) ≤ 500 := l5
  have hmu : (gl (sE S (nv 0) (-nv 1)) - e) + (if k = 0 then 0 else 1) < FU := by
    unfold FU
    split <;> omega
  refine cmds_j (Z := hSz d0 + 1) (L := hSl d0 + 26) hC1 hne FU FU FU 0 (fun _ => (0, [])) s e k d2 hmu (Nat.le_refl _) (Nat.le_refl _) (by omega) hcs2 hcl (fun i hi => absurd hi (Nat.not_lt_zero i)) _ (fun cd ps d3 q hce hc1 hc2 tw => ?_) (fun n' K' s' e' d3 hn' hcs3 hcl3 hvl3 tw => ?_)
  · obtain ⟨E2, ⟨q1, q2, q3⟩, zz, ll⟩ := hce
    have hC2 := hC1.e0 E2
    have hJ2 := hC2.2.1
    obtain ⟨b, eb⟩ : ∃ b, b = hwI d3 (G 0) (up1 (up1 (up1 (hI d3 (G 0)) 2 (nv cd)) 3 (nv ps)) 1 (nv 0)) := ⟨_, rfl⟩
    have nq : q ≠ G 0 := fun e' => by rw [e', hJ2.1.1] at q1; omega
    simp (disch := omega) only [↓w_bd, ↓w_rt, ↓w_bh, sm_l, sm_r, ↓w_okr, ↓w_nm, ↓w_ite, ↓reduceIte, not_true_eq_false, not_false_eq_true, and_true, true_and, and_self, Option.some.injEq, reduceCtorEq, eq_self, ↓w_rc, ↓w_gI, ↓w_gR, ↓w_aN, ↓w_aI, ↓w_aR, ↓w_aL, ↓w_pI, ↓w_pR, ↓w_sI, ↓w_sR, ↓w_sL, ↓w_nO, ↓w_nA, ↓w_nL, ↓w_ca, ↓w_ca0, ↓w_gS, ↓w_gK, ↓w_dv, ↓w_tw, ↓w_rz, ↓w_no, nv_lit, nv_f, nv_add, nv_mul, nv_sub, nv_le, nv_lt, nv_eq, nv_cl, Nat.reduceMod, Nat.reduceMul, Nat.reduceAdd, Nat.zero_add, Nat.add_zero, Nat.mul_zero, decide_eq_true_eq, nv_inT, X1_wrong, hJ2, q1, q2, q3, okn, hK_wI, hI_wI, up1_s, hwI_2, up1_n, nq, ne_eq]
    rw [← eb]
    have ib : ∀ j, hI b (G 0) j = up1 (up1 (up1 (hI d3 (G 0)) 2 (nv cd)) 3 (nv ps)) 1 (nv 0) j := fun j => by rw [eb, hI_wI, up1_s]
    have epb : EP (Pq G) a b := by
      rw [eb]
      exact ((ep1.mono (fun x h => .inl h)).tr (E2.ep _)).wI (.inl (.inl rfl)) _
    have frb := pq_fr hC epb
    have zb : hSz b = hSz d3 ∧ hSl b = hSl d3 := by rw [eb]; exact ⟨rfl, rfl⟩
    have jb : JC G B (sX (sE S (nv cd) (nv ps)) 0 (gb S)) b := by
      refine hC2.i0 (S' := sX (sE S (nv cd) (nv ps)) 0 (gb S)) (by rw [eb]; exact (EP.rf (fun q => q = G 0) d3).wI (.inl rfl) _) (by rw [eb]; exact ⟨rfl, rfl, rfl⟩) ⟨rfl, rfl, rfl⟩ ⟨Nat.zero_le _, by rw [ib, up1_s]; rfl, fun i hi => absurd hi (Nat.not_lt_zero i)⟩ ⟨?_, ?_⟩
      · rw [ib, up1_n _ _ (by omega), up1_n _ _ (by omega), up1_s]; rfl
      · rw [ib, up1_n _ _ (by omega), up1_s]; rfl
    have hTb := frb.t hC.1 hT
    refine play_s hG hTb jb.2.2.2.2.2.2.2.2.2 l5 hx _ fun c' tp => ?_
    refine tw _ _ c' tp.sE _ fun c2 n2 te => ?_
    rw [p35_z te]
    obtain ⟨⟨hF2, z10, z11, -, -⟩, -, tl2, -⟩ := te
    have jt : JT G (sX (sE S (nv cd) (nv ps)) 0 (gb S)) (w9 G c2) := play_t hG hTb tl2 ⟨rfl, rfl, rfl, rfl⟩ rfl ⟨z10, z11⟩
    have k3 : (w9 G c2).1 = b.1 ∧ (w9 G c2).2.2 = b.2.2 := ⟨tl2.1.1, tl2.1.2⟩
    obtain ⟨ep3, zc3⟩ := tg_ep (G := G) k3 fun q h1 h2 h3 => by rw [w9_o G c2 h1, tl2.2.1 q h1 h3, th_o G b _ h1]
    have af := after_h hC hT frb jb (by omega) (by omega) jt ep3 zc3
    exact ⟨rfl, af⟩
  · have hC2 := hC1
    have E2 := hcs3.1.1
    have zcs := hcs3.2.2.1
    have e5 := hcs3.2.2.2.1
    obtain ⟨a2, ea2⟩ : ∃ a2, a2 = hwI d3 (G 0) (up1 (hI d3 (G 0)) 1 (nv 0)) := ⟨_, rfl⟩
    obtain ⟨B', eB'⟩ : ∃ B' : Nat → Nat × Nat, B' = fun q => if q < hSz a1 then (if (hK a1 q % 100 ≠ 42 ∧ hK a1 q % 100 ≠ 13) ∨ (B q).1 = 0 then B q else (0, 0)) else (0, 0) := ⟨_, rfl⟩
    have b0 : ∀ q, (hSz a1 ≤ q ∨ hK a1 q % 100 = 42 ∨ hK a1 q % 100 = 13) → (B' q).1 = 0 := fun q hq => by
      rw [eB']
      dsimp only
      split
      · split
        · rename_i h1 h2
          rcases h2 with h2 | h2
          · omega
          · exact h2
        · rfl
      · rfl
    have bk : ∀ q, q < hSz a1 → (B q).1 = 0 → B' q = B q := fun q h1 h2 => by
      rw [eB']
      dsimp only
      rw [if_pos h1, if_pos (.inr h2)]
    have hCc : JC G B' (sE S (nv 0) (-nv 1)) a1 := hC1.cb (fun i hi => bk _ (hC1.1 i hi).1 (by rw [(hC1.1 i hi).2])) fun q h1 h2 h3 => by
      rw [eB']
      dsimp only
      rw [if_pos h1, if_pos (.inl ⟨h2, h3⟩)]
    have hC3 := hCc.e0 E2
    have hJ3 := hC3.2.1
    have jE := hC3.2.2.2.2.2.2.2.1
    have k2' : hK a2 = hK d3 ∧ hN a2 = hN d3 ∧ hR a2 = hR d3 := by rw [ea2]; exact ⟨rfl, rfl, rfl⟩
    have zz2 : hSz a2 = hSz d3 ∧ hSl a2 = hSl d3 := by rw [ea2]; exact ⟨rfl, rfl⟩
    have ia2 : ∀ j, hI a2 (G 0) j = up1 (hI d3 (G 0)) 1 (nv 0) j := fun j => by rw [ea2, hI_wI, up1_s]
    have io2 : ∀ q, q ≠ G 0 → hI a2 q = hI d3 q := fun q hq => by rw [ea2, hI_wI, up1_n _ _ hq]
    have j2 : JC G B' (sX (sE S (nv 0) (-nv 1)) 0 (gb S)) a2 := by
      refine hC3.i0 (S' := sX (sE S (nv 0) (-nv 1)) 0 (gb S)) (by rw [ea2]; exact (EP.rf (fun q => q = G 0) d3).wI (.inl rfl) _) k2' ⟨rfl, rfl, rfl⟩ ⟨Nat.zero_le _, by rw [ia2, up1_s]; rfl, fun i hi => absurd hi (Nat.not_lt_zero i)⟩ ⟨?_, ?_⟩
      · rw [ia2, up1_n _ _ (by omega)]; exact jE.1
      · rw [ia2, up1_n _ _ (by omega)]; exact jE.2
    have epa : EP (Pq G) a a2 := by
      rw [ea2]
      exact ((ep1.mono (fun x h => .inl h)).tr (E2.ep _)).wI (.inl (.inl rfl)) _
    have fra := pq_fr hC epa
    have gz : ∀ i, i < 22 → G i < hSz a1 := fun i hi => (hC1.1 i hi).1
    have sf0 : ∀ q, q < hSz d3 → hSz a1 ≤ q → Sf G B' a2 q := fun q h1 h2 => ⟨by omega, b0 q (.inl h2), fun i hi e' => by have := gz i (by omega); omega⟩
    have pl : PlS G B' a2 rq (hSz d1) n' K' := by
      obtain ⟨⟨c1, c2, c3, c4⟩, c5, c6⟩ := hcl3
      obtain ⟨w0, hr0, -⟩ := hcs3.2.1
      refine ⟨⟨sf0 rq hcs3.1.2.2 hcs3.1.2.1, by rw [k2'.1]; exact hcs3.k, by rw [k2'.2.2]; exact hr0.1.2.1⟩, ⟨sf0 _ c4 c3, by rw [k2'.1]; exact c1, by rw [k2'.2.1]; exact c2⟩, fun i hi => ?_, fun i h1 h2 => by rw [k2'.2.2]; exact c6 i h1 h2⟩
      obtain ⟨q, x1, x2, x3, x4, x5, w, x6, x7, y1, y2, v, y3, y4, y5, y6, y7, y8, y9⟩ := c5 i hi
      have g0 : ∀ q, hSz a1 ≤ q → q ≠ G 0 := fun q hq e' => by have := gz 0 (by omega); omega
      have h8 := (hvl3 i hi).1
      have wb := wn_b (i := 4 + (K' i).1) (by omega)
      have sfv : Sf G B' a2 v := by
        by_cases hv : hSz a1 ≤ v
        · exact sf0 v y8 hv
        · have ov := E2.2.2 v (by omega)
          have kv : hK a1 v % 100 = 42 := by rw [← ov.1]; exact y4
          have nv1 : hN a1 v = wn (4 + (K' i).1) := by rw [← ov.2.1]; exact y5
          obtain ⟨⟨p0, -⟩, ⟨p1, p2, p3, p4, p5, p6, p7, -⟩, ⟨m1, -, -, -, m7, -⟩, -⟩ := hC1.2.1
          refine ⟨by omega, b0 v (.inr (.inl kv)), fun i hi e' => ?_⟩
          rw [e'] at kv nv1
          have : i = 0 ∨ i = 1 ∨ i = 2 ∨ i = 3 ∨ i = 4 ∨ i = 5 ∨ i = 6 ∨ i = 7 := by omega
          rcases this with rfl | rfl | rfl | rfl | rfl | rfl | rfl | rfl <;> omega
      have nv0 : v ≠ G 0 := fun e' => sfv.2.2 0 (by omega) e'
      refine ⟨q, by rw [k2'.2.2]; exact x1, ⟨by rw [k2'.1]; exact x4, by rw [io2 q (g0 q x3)]; exact x5, sf0 q x2 x3⟩, w, v, by rw [k2'.2.2]; exact x6, ⟨sf0 w y7 x7, sfv⟩, ⟨by rw [k2'.1]; exact y1, by rw [io2 w (g0 w x7)]; exact y2, by rw [k2'.2.2]; exact y3, y9⟩, by rw [k2'.1]; exact y4, by rw [k2'.2.1]; exact y5, fun j hj => by rw [io2 v nv0]; exact y6 j hj⟩
    rw [sm_r, w_bd, w_pI]
    refine ⟨⟨hJ3.1.1, okn _⟩, ?_⟩
    rw [show hwI d3 (G 0) (up1 (hI d3 (G 0)) 1 0) = a2 from ea2.symm]
    refine w_mono (acts_j hn' hvl3 n' 0 FU FU B' _ a2 (by omega) (Nat.zero_le _) (by unfold FU; omega) (by unfold FU; omega) j2 pl) fun r b hb => ?_
    obtain ⟨B2, S2, ⟨jb, frb, zb, lb⟩, twb⟩ := hb
    have fr : Frm G B a b := frm_tr2 fra (fun q hq h0 => by rw [bk q (by omega) h0]; exact h0) frb
    have hTb := fr.t hC.1 hT
    refine play_s hG hTb jb.2.2.2.2.2.2.2.2.2 l5 hx _ fun c' tp => ?_
    refine tw _ _ c' (fun i hi => absurd hi (Nat.not_lt_zero i)) tp.sE _ fun c2 E' hen te => ?_
    rw [p35_0 te]
    obtain ⟨⟨hF2, -, ⟨z10, z11⟩, -⟩, -, tl2, h17, hE'⟩ := te
    have jt : JT G (sX (sE S (nv 0) (-nv 1)) 0 (gb S)) (w9 G c2) := play_t hG hTb tl2 ⟨rfl, rfl, rfl, rfl⟩ rfl ⟨z10, z11⟩
    have k3 : (w9 G c2).1 = b.1 ∧ (w9 G c2).2.2 = b.2.2 := ⟨tl2.1.1, tl2.1.2⟩
    obtain ⟨ep3, zc3⟩ := tg_ep (G := G) k3 fun q h1 h2 h3 => by rw [w9_o G c2 h1, tl2.2.1 q h1 h3, th_o G b _ h1]
    refine w_mono (twb _ jt (by rw [w9_n G c2 (by omega)]; exact h17) (by rw [w9_o G c2 (n 17 10 (by omega) (by omega) (by omega)), hE']; exact hen)) fun w d hd => ?_
    obtain ⟨rfl, jd, td⟩ := hd
    have hzl := td.sz
    have hll := td.sl
    refine ⟨rfl, after_h hC hT fr jb ?_ ?_ jd (ep3.tr td.ep) ⟨by rw [hzl]; exact zc3.1, by rw [hll]; exact zc3.2⟩⟩
    · omega
    · omega
