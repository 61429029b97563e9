/-! THE ROWS, both loops -/
theorem rw1_n (R : Nat → Int32) (m v j : Nat) (fs : Nat → Nat) : rw1 R m v j fs (15 + 7 * m + 1) = nv j := by
  unfold rw1
  rw [if_neg (by omega), if_neg (by omega), if_pos rfl]
/-- the twin's turn at a number that is a row's, one that is not, and at an error -/
theorem turn_e {G : Nat → Nat} (hG : GD G) {S : Gst} {R : Nat → Int32} {m v f j : Nat} {fs : Nat → Nat} {s e k cd : Nat} (hm : m < 10) (hj : j = 0 ∨ k = 2) (g : (k ≠ 2 ∧ cd = 1) ∨ (k = 2 ∧ ¬ (0 ≤ tvl S s e ∧ tvl S s e ≤ 9) ∧ cd = 2)) : TcE G S R m v (f + 1) j fs s e k cd s := by
  intro c0 c h
  rw [tp_2 h hj]
  have hz := h.er hG (cd := cd) (ps := s) (by omega) (by omega)
  have h10 := hz.1.2.1
  simp (disch := omega) only [X5_readsHeap_66, X5_readsHeap_92, X5_readsHeap_97, X5_readsHeap_109, X5_readsHeap_128, ↓w_bd, ↓w_rt, ↓w_bh, sm_l, sm_r, ↓w_okr, ↓w_nm, ↓w_ite, ↓reduceIte, not_true_eq_false, not_false_eq_true, and_true, true_and, and_self, Option.some.injEq, reduceCtorEq, eq_self, ↓w_rc, ↓w_gI, ↓w_gR, ↓w_aN, ↓w_aI, ↓w_aR, ↓w_aL, ↓w_pI, ↓w_pR, ↓w_sI, ↓w_sR, ↓w_sL, ↓w_nO, ↓w_nA, ↓w_nL, ↓w_ca, ↓w_ca0, ↓w_gS, ↓w_gK, ↓w_dv, ↓w_tw, ↓w_rz, ↓w_no, nv_lit, nv_f, nv_add, nv_mul, nv_sub, nv_le, nv_lt, nv_eq, nv_cl, Nat.reduceMod, Nat.reduceMul, Nat.reduceAdd, Nat.zero_add, Nat.add_zero, Nat.mul_zero, decide_eq_true_eq, nv_inT, h.1.1, X5_looks_0 h.1 (show 0 ≤ 100 by omega) (show 9 ≤ 100 by omega) g, hz.1.1, X5_must_z hz.1, X5_goesOn_z hz.1, X5_endsLine_z hz.1, h10, show ¬ cd = 0 by omega]
  exact hz
theorem turn_5 {G : Nat → Nat} (hG : GD G) {S : Gst} {R : Nat → Int32} {m v f j : Nat} {fs : Nat → Nat} {s e k : Nat} (hm : m < 10) (hk : k = 2) (g : 0 ≤ tvl S s e ∧ tvl S s e ≤ 9) (hj : j = 5) : TcE G S R m v (f + 1) j fs s e k 3 s := by
  intro c0 c h
  rw [tp_2 h (.inr hk)]
  have hz := h.er hG (cd := 3) (ps := s) (by omega) (by omega)
  have h10 := h.1.2.2.1.1
  have z10 := hz.1.2.1
  have hp := fun Q => X5_hp_w h.2.1 hm (show 1 < 7 by omega) (Q := Q)
  rw [rw1_n, hj] at hp
  simp (disch := omega) only [X5_readsHeap_66, X5_readsHeap_97, X5_readsHeap_109, X5_readsHeap_128, ↓w_bd, ↓w_rt, ↓w_bh, sm_l, sm_r, ↓w_okr, ↓w_nm, ↓w_ite, ↓reduceIte, not_true_eq_false, not_false_eq_true, and_true, true_and, and_self, Option.some.injEq, reduceCtorEq, eq_self, ↓w_rc, ↓w_gI, ↓w_gR, ↓w_aN, ↓w_aI, ↓w_aR, ↓w_aL, ↓w_pI, ↓w_pR, ↓w_sI, ↓w_sR, ↓w_sL, ↓w_nO, ↓w_nA, ↓w_nL, ↓w_ca, ↓w_ca0, ↓w_gS, ↓w_gK, ↓w_dv, ↓w_tw, ↓w_rz, ↓w_no, nv_lit, nv_f, nv_add, nv_mul, nv_sub, nv_le, nv_lt, nv_eq, nv_cl, Nat.reduceMod, Nat.reduceMul, Nat.reduceAdd, Nat.zero_add, Nat.add_zero, Nat.mul_zero, decide_eq_true_eq, nv_inT, h.1.1, X5_looks_1 h.1 hk (show 0 ≤ 100 by omega) (show 9 ≤ 100 by omega) g, h10, hp, X5_must_0 h.1, hz.1.1, z10, X5_goesOn_z hz.1, X5_endsLine_z hz.1, Nat.le_refl]
  exact hz
theorem turn_k {G : Nat → Nat} (hG : GD G) {S : Gst} {R : Nat → Int32} {m v f j : Nat} {fs : Nat → Nat} {s e k s' e' k' : Nat} (hm : m < 10) (hk : k = 2) (g : 0 ≤ tvl S s e ∧ tvl S s e ≤ 9) (hj : j < 5) (hx : Nx S e s' e' k') {c0 c : Hp} (h : TL G S (rw1 R m v j fs) c0 c s e k) (Q : Unit → Hp → Prop)
    (kk : ∀ c', TL G S (rw1 R m v (j + 1) (fun x => if x = j then tvl S s e else fs x)) c0 c' s' e' k' → Wp (tp G f m (j + 1)) c' Q) : Wp (tp G (f + 1) m j) c Q := by
  rw [tp_2 h (.inr hk)]
  have h10 := h.1.2.2.1.1
  have hp := fun Q => X5_hp_w h.2.1 hm (show 1 < 7 by omega) (Q := Q)
  rw [rw1_n] at hp
  have g1 : rw1 R m v j fs 1 = nv (m + 1) := if_pos rfl
  have get1 := fun Q => X5_get_w h.2.1 (show 1 < 545 by omega) (Q := Q)
  rw [g1] at get1
  have hl1 := h.lay hG (i := 15 + 7 * m + (2 + j)) (by omega) (nv (tvl S s e))
  have lay1 := fun Q => X5_layHeap_w h.2.1 hm (show 2 + j < 7 by omega) (nv (tvl S s e)) Q
  have hp2 := fun Q => X5_hp_w hl1.2.1 hm (show 1 < 7 by omega) (Q := Q)
  rw [up1_n _ _ (by omega), rw1_n] at hp2
  have hl2 := hl1.lay hG (i := 15 + 7 * m + 1) (by omega) (nv (j + 1))
  have lay2 := fun Q => X5_layHeap_w hl1.2.1 hm (show 1 < 7 by omega) (nv (j + 1)) Q
  have hl3 := hl2.cg (R' := rw1 R m v (j + 1) (fun x => if x = j then tvl S s e else fs x)) (fun i _ => rw1_s R m v j _ fs i)
  simp (disch := omega) only [X5_readsHeap_66, X5_readsHeap_92, X5_readsHeap_97, X5_readsHeap_109, X5_newRow, ↓w_bd, ↓w_rt, ↓w_bh, sm_l, sm_r, ↓w_okr, ↓w_nm, ↓w_ite, ↓reduceIte, not_true_eq_false, not_false_eq_true, and_true, true_and, and_self, Option.some.injEq, reduceCtorEq, eq_self, ↓w_rc, ↓w_gI, ↓w_gR, ↓w_aN, ↓w_aI, ↓w_aR, ↓w_aL, ↓w_pI, ↓w_pR, ↓w_sI, ↓w_sR, ↓w_sL, ↓w_nO, ↓w_nA, ↓w_nL, ↓w_ca, ↓w_ca0, ↓w_gS, ↓w_gK, ↓w_dv, ↓w_tw, ↓w_rz, ↓w_no, nv_lit, nv_f, nv_add, nv_mul, nv_sub, nv_le, nv_lt, nv_eq, nv_cl, Nat.reduceMod, Nat.reduceMul, Nat.reduceAdd, Nat.zero_add, Nat.add_zero, Nat.mul_zero, decide_eq_true_eq, nv_inT, h.1.1, X5_looks_1 h.1 hk (show 0 ≤ 100 by omega) (show 9 ≤ 100 by omega) g, h10, hp, X5_must_1 h.1 n10, show ¬ 5 ≤ j by omega, n10, get1, nv_sub, show m + 1 - 1 = m by omega, lay1, hl1.1.1, hp2, lay2, hl3.1.1]
  refine X5_gon hG hl3.1 hx _ fun c' t1 t2 => ?_
  have hn := hl3.tw hG t1 t2
  have := kk c' hn
  unfold tp at this
  rw [if_neg (by omega), w_bd, w_gI] at this
  exact this
theorem Cs.k {G : Nat → Nat} {S : Gst} {a d : Hp} {rq Z L s e k : Nat} (h : Cs G S a rq Z L d s e k) : hK d rq = 6 := by
  obtain ⟨-, ⟨w, hr, -⟩, -⟩ := h
  exact hr.1.1
theorem Mq.k {B : Nat → Nat × Nat} {a d : Hp} {mq y z : Nat} {R : Nat → Int32} (h : Mq B a mq y z d R) : hK d mq = 2 ∧ mq < hSz d := by
  obtain ⟨B', L, h1, h2, h3, -⟩ := h
  rw [← h3]
  exact ⟨(mk_k h1).1.1, (h1.2.1 0 (lv_0 (by omega))).1⟩
theorem rows_j {G : Nat → Nat} {B : Nat → Nat × Nat} {S : Gst} {a : Hp} {rq Z L mq q6 m v : Nat} {R : Nat → Int32} (hC : JC G B S a) (hm : m < 10) (h1 : nH R = m) (haq : hSz a ≤ q6) (hne : q6 ≠ rq) :
    ∀ (n f f2 s e k j : Nat) (fs : Nat → Nat) (d : Hp), (gl S - e) + (if k = 0 then 0 else 1) < n → n ≤ f → n ≤ f2 → j ≤ 5 → (∀ i, i < j → fs i ≤ 9) → Cs G S a rq Z L d s e k → hK d q6 = 41 → hN d q6 = 5 → (∀ i, i < j → hI d q6 i = nv (fs i)) → Mq B a mq rq q6 d R → q6 < hSz d → ∀ (Q : Ex ⊕ Unit → Hp → Prop),
    (∀ cd ps d' q, Ce a rq Z L cd ps d' q → 0 < cd → cd < 10 → TcE G S R m v f2 j fs s e k cd ps → Q (.inl (4, q)) d') →
    (∀ j' fs' s' e' k' d', 1 ≤ j' → j' ≤ 5 → (∀ i, i < j' → fs' i ≤ 9) → Cs G S a rq (Z + 3) (L + 20) d' s' e' k' → e ≤ e' → Mq B a mq rq rq d' (rw1 R m v j' fs') → TcK G S R m v f2 j fs s e k j' fs' s' e' k' → Q (.inr ()) d') →
    Wp (X6_heap_60 f rq (some mq) (nv v) (some q6) (nv j)) d Q := by
  have hG := hC.1.gd
  intro n
  induction n with
  | zero => intro f f2 s e k j fs d h; omega
  | succ n ih =>
    intro f f2 s e k j fs d hmu hf hf2 hj hfs hcs hk6 hn6 hi6 hmq hz6 Q ke kok
    obtain ⟨f, rfl⟩ : ∃ g, f = g + 1 := ⟨f - 1, by omega⟩
    obtain ⟨f2, rfl⟩ : ∃ g, f2 = g + 1 := ⟨f2 - 1, by omega⟩
    have hcs' := hcs
    obtain ⟨⟨hE, hrq, hrz⟩, ⟨w, ⟨hb, r1, r3, r4, r5, r6, r7, r8⟩, hw, hwz⟩, ⟨hz, hl'⟩, he, hse, hk4⟩ := hcs'
    have hk := hb.1
    have e110 : nv 110 = nv (kc 2) := rfl
    have tb' := tvl_b S s e
    have gl5 := hC.2.2.2.2.2.2.1.1
    by_cases k2 : k = 2
    · have r3' : hI d rq 3 = nv 110 := by rw [r3, k2]; rfl
      have i2 : hI d rq 2 = nv (min 1000000 (tvl S s e)) := r5 k2
      have hbw : bw (nv (min 1000000 (tvl S s e))) (nv 0) (nv 9) = if 0 ≤ tvl S s e ∧ tvl S s e ≤ 9 then nv 1 else nv 0 := by
        rw [bwn (by omega) (by omega) (by omega)]
        by_cases g : tvl S s e ≤ 9
        · rw [if_pos (by omega), if_pos (by omega)]
        · rw [if_neg (by omega), if_neg (by omega)]
      -- both ways into 74
      have go : Wp (X6_heap_74 (X6_heap_60 f) rq (some mq) (nv v) (some q6) (nv j)) d Q := by
        by_cases g : 0 ≤ tvl S s e ∧ tvl S s e ≤ 9
        · rw [if_pos g] at hbw
          by_cases j5 : j = 5
          · simp (disch := omega) only [X6_heap_74, X6_heap_108, ↓w_bd, ↓w_rt, ↓w_bh, sm_l, sm_r, ↓w_okr, ↓w_nm, ↓w_ite, ↓reduceIte, not_true_eq_false, not_false_eq_true, and_true, true_and, and_self, Option.some.injEq, reduceCtorEq, eq_self, ↓w_rc, ↓w_gI, ↓w_gR, ↓w_aN, ↓w_aI, ↓w_aR, ↓w_ca, ↓w_ca0, nv_lit, nv_f, nv_add, nv_mul, nv_sub, nv_le, nv_lt, nv_eq, nv_cl, Nat.reduceMod, Nat.reduceMul, Nat.reduceAdd, Nat.zero_add, Nat.add_zero, Nat.mul_zero, decide_eq_true_eq, nv_inT, hk, r3', i2, X1_isBetween_w, hbw, n10, j5, Nat.le_refl]
            exact X6_require_0 hC hcs _ fun d' q hce => ke 3 s d' q hce (by omega) (by omega) (turn_5 hG hm k2 g j5)
          · simp (disch := omega) only [X6_heap_74, X6_heap_103, X6_heap_108, ↓w_bd, ↓w_rt, ↓w_bh, sm_l, sm_r, ↓w_okr, ↓w_nm, ↓w_ite, ↓reduceIte, not_true_eq_false, not_false_eq_true, and_true, true_and, and_self, Option.some.injEq, reduceCtorEq, eq_self, ↓w_rc, ↓w_gI, ↓w_gR, ↓w_aN, ↓w_aI, ↓w_aR, ↓w_ca, ↓w_ca0, nv_lit, nv_f, nv_add, nv_mul, nv_sub, nv_le, nv_lt, nv_eq, nv_cl, Nat.reduceMod, Nat.reduceMul, Nat.reduceAdd, Nat.zero_add, Nat.add_zero, Nat.mul_zero, decide_eq_true_eq, nv_inT, hk, r3', i2, X1_isBetween_w, hbw, n10, show ¬ 5 ≤ j by omega, X6_require_1 n10]
            refine X6_number_w hC hcs (by omega) (by omega) _ (fun _ _ _ s' e' k' hx d' hcs2 ep2 => ?_) (fun cd hcd => by omega)
            have o6 := ep2.2.2 q6 hz6 hne
            have k6' : hK d' q6 = 41 := by rw [o6.1]; exact hk6
            have n6' : hN d' q6 = 5 := by rw [o6.2.1]; exact hn6
            have okA : nrA 41 (nv (tvl S s e)) = nv (tvl S s e) := nr41 _
            have hj5 : j < 5 := by omega
            simp (disch := omega) only [↓w_bd, ↓w_rt, ↓w_bh, sm_l, sm_r, ↓w_okr, ↓w_nm, ↓w_ite, ↓reduceIte, not_true_eq_false, not_false_eq_true, and_true, true_and, and_self, Option.some.injEq, reduceCtorEq, eq_self, ↓w_rc, ↓w_gI, ↓w_gR, ↓w_aN, ↓w_aI, ↓w_aR, ↓w_ca, ↓w_ca0, nv_lit, nv_f, nv_add, nv_mul, nv_sub, nv_le, nv_lt, nv_eq, nv_cl, Nat.reduceMod, Nat.reduceMul, Nat.reduceAdd, Nat.zero_add, Nat.add_zero, Nat.mul_zero, decide_eq_true_eq, nv_inT, ↓w_sI, k6', n6', okA]
            obtain ⟨d3, ed3⟩ : ∃ d3, d3 = hwI d' q6 (up1 (hI d' q6) j (nv (tvl S s e))) := ⟨_, rfl⟩
            rw [← ed3]
            have ep3 : EP (fun x => x = q6) d' d3 := by rw [ed3]; exact (EP.rf (fun x => x = q6) d').wI (.inl rfl) _
            have E3 : E0 a d3 := by rw [ed3]; exact hcs2.1.1.wI haq _
            have z3 : hSz d3 = hSz d' ∧ hSl d3 = hSl d' := by rw [ed3]; exact ⟨rfl, rfl⟩
            have hcs3 : Cs G S a rq Z L d3 s' e' k' := hcs2.mv E3 ep3 (fun x hx => by rw [hx, k6']; exact ⟨hne, by decide, by decide⟩) (by omega) (by omega)
            have hx' := hx
            obtain ⟨-, x4, x1, x2, x3, x5⟩ := hx'
            have hmq3 : Mq B a mq rq q6 d3 R := (hmq.ep (ep2.mono fun x hx => .inl hx) (by rw [hk]; omega) (by rw [hk6]; omega)).ep (ep3.mono fun x hx => .inr hx) (by rw [hcs2.k]; omega) (by rw [k6']; omega)
            refine ih f f2 s' e' k' (j + 1) (fun x => if x = j then tvl S s e else fs x) d3 ?_ (by omega) (by omega) (by omega) ?_ hcs3 (by rw [ed3]; exact k6') (by rw [ed3]; exact n6') ?_ hmq3 (by have := ep2.1; omega) Q ?_ ?_
            · by_cases c0 : k' = 0
              · rw [if_pos c0]
                rw [if_neg (by omega)] at hmu
                omega
              · have := x5 c0
                rw [if_neg c0]
                rw [if_neg (by omega)] at hmu
                omega
            · intro i hi
              try dsimp only
              split
              · exact g.2
              · exact hfs i (by omega)
            · intro i hi
              rw [ed3, hI_wI, up1_s]
              by_cases c0 : i = j
              · rw [c0, up1_s]; try dsimp only
                rw [if_pos rfl]
              · rw [up1_n _ _ c0, o6.2.2.2, hi6 i (by omega)]; try dsimp only
                rw [if_neg c0]
            · intro cd ps d4 q hce hc1 hc2 ht
              exact ke cd ps d4 q hce hc1 hc2 (fun c0 c h => turn_k hG hm k2 g hj5 hx h _ fun c' hc' => ht c0 c' hc')
            · intro j' fs' s2 e2 k2' d4 g1 g2 g3 g4 g5 g6 ht
              exact kok j' fs' s2 e2 k2' d4 g1 g2 g3 g4 (by omega) g6 (fun c0 c h => turn_k hG hm k2 g hj5 hx h _ fun c' hc' => ht c0 c' hc')
        · rw [if_neg g] at hbw
          simp (disch := omega) only [X6_heap_74, X6_heap_103, X6_heap_108, ↓w_bd, ↓w_rt, ↓w_bh, sm_l, sm_r, ↓w_okr, ↓w_nm, ↓w_ite, ↓reduceIte, not_true_eq_false, not_false_eq_true, and_true, true_and, and_self, Option.some.injEq, reduceCtorEq, eq_self, ↓w_rc, ↓w_gI, ↓w_gR, ↓w_aN, ↓w_aI, ↓w_aR, ↓w_ca, ↓w_ca0, nv_lit, nv_f, nv_add, nv_mul, nv_sub, nv_le, nv_lt, nv_eq, nv_cl, Nat.reduceMod, Nat.reduceMul, Nat.reduceAdd, Nat.zero_add, Nat.add_zero, Nat.mul_zero, decide_eq_true_eq, nv_inT, hk, r3', i2, X1_isBetween_w, hbw, X6_require_1 n10]
          refine X6_number_w hC hcs (by omega) (by omega) _ (fun _ g1 g2 => absurd ⟨g1, g2⟩ g) (fun cd hcd d' q hce => ?_)
          exact ke cd s d' q hce (by omega) (by omega) (turn_e hG hm (.inr k2) hcd)
      by_cases j0 : j = 0
      · simp (disch := omega) only [X6_heap_60, ↓w_bd, ↓w_rt, ↓w_bh, sm_l, sm_r, ↓w_okr, ↓w_nm, ↓w_ite, ↓reduceIte, not_true_eq_false, not_false_eq_true, and_true, true_and, and_self, Option.some.injEq, reduceCtorEq, eq_self, ↓w_rc, ↓w_gI, ↓w_gR, ↓w_aN, ↓w_aI, ↓w_aR, ↓w_ca, ↓w_ca0, nv_lit, nv_f, nv_add, nv_mul, nv_sub, nv_le, nv_lt, nv_eq, nv_cl, Nat.reduceMod, Nat.reduceMul, Nat.reduceAdd, Nat.zero_add, Nat.add_zero, Nat.mul_zero, decide_eq_true_eq, nv_inT, j0]
        rw [j0] at go
        exact go
      · simp (disch := omega) only [X6_heap_60, ↓w_bd, ↓w_rt, ↓w_bh, sm_l, sm_r, ↓w_okr, ↓w_nm, ↓w_ite, ↓reduceIte, not_true_eq_false, not_false_eq_true, and_true, true_and, and_self, Option.some.injEq, reduceCtorEq, eq_self, ↓w_rc, ↓w_gI, ↓w_gR, ↓w_aN, ↓w_aI, ↓w_aR, ↓w_ca, ↓w_ca0, nv_lit, nv_f, nv_add, nv_mul, nv_sub, nv_le, nv_lt, nv_eq, nv_cl, Nat.reduceMod, Nat.reduceMul, Nat.reduceAdd, Nat.zero_add, Nat.add_zero, Nat.mul_zero, decide_eq_true_eq, nv_inT, j0, hk, r3']
        exact go
    · have r3' : ¬ hI d rq 3 = nv 110 := by rw [r3, e110, kc_v hk4 (by omega)]; exact k2
      by_cases j0 : j = 0
      · simp (disch := omega) only [X6_heap_60, X6_heap_74, X6_heap_103, X6_heap_108, ↓w_bd, ↓w_rt, ↓w_bh, sm_l, sm_r, ↓w_okr, ↓w_nm, ↓w_ite, ↓reduceIte, not_true_eq_false, not_false_eq_true, and_true, true_and, and_self, Option.some.injEq, reduceCtorEq, eq_self, ↓w_rc, ↓w_gI, ↓w_gR, ↓w_aN, ↓w_aI, ↓w_aR, ↓w_ca, ↓w_ca0, nv_lit, nv_f, nv_add, nv_mul, nv_sub, nv_le, nv_lt, nv_eq, nv_cl, Nat.reduceMod, Nat.reduceMul, Nat.reduceAdd, Nat.zero_add, Nat.add_zero, Nat.mul_zero, decide_eq_true_eq, nv_inT, j0, hk, r3', X6_require_1 n10]
        refine X6_number_w hC hcs (by omega) (by omega) _ (fun h => absurd h k2) (fun cd hcd d' q hce => ?_)
        exact ke cd s d' q hce (by omega) (by omega) (turn_e hG hm (.inl j0) (by omega))
      · simp (disch := omega) only [X6_heap_60, ↓w_bd, ↓w_rt, ↓w_bh, sm_l, sm_r, ↓w_okr, ↓w_nm, ↓w_ite, ↓reduceIte, not_true_eq_false, not_false_eq_true, and_true, true_and, and_self, Option.some.injEq, reduceCtorEq, eq_self, ↓w_rc, ↓w_gI, ↓w_gR, ↓w_aN, ↓w_aI, ↓w_aR, ↓w_ca, ↓w_ca0, nv_lit, nv_f, nv_add, nv_mul, nv_sub, nv_le, nv_lt, nv_eq, nv_cl, Nat.reduceMod, Nat.reduceMul, Nat.reduceAdd, Nat.zero_add, Nat.add_zero, Nat.mul_zero, decide_eq_true_eq, nv_inT, j0, hk, r3']
        refine X6_end_w hC hcs _ (fun k3 s' e' k' hx d' hcs2 ep2 => ?_) (fun k3 d' q hce => ?_)
        · have o6 := ep2.2.2 q6 hz6 hne
          have k6' : hK d' q6 = 41 := by rw [o6.1]; exact hk6
          have n6' : hN d' q6 = 5 := by rw [o6.2.1]; exact hn6
          have hmq2 : Mq B a mq rq q6 d' R := hmq.ep (ep2.mono fun x hx => .inl hx) (by rw [hk]; omega) (by rw [hk6]; omega)
          have z6' : q6 < hSz d' := by have := ep2.1; omega
          simp (disch := omega) only [↓w_bd, ↓w_rt, ↓w_bh, sm_l, sm_r, ↓w_okr, ↓w_nm, ↓w_ite, ↓reduceIte, not_true_eq_false, not_false_eq_true, and_true, true_and, and_self, Option.some.injEq, reduceCtorEq, eq_self, ↓w_rc, ↓w_gI, ↓w_gR, ↓w_aN, ↓w_aI, ↓w_aR, ↓w_ca, ↓w_ca0, nv_lit, nv_f, nv_add, nv_mul, nv_sub, nv_le, nv_lt, nv_eq, nv_cl, Nat.reduceMod, Nat.reduceMul, Nat.reduceAdd, Nat.zero_add, Nat.add_zero, Nat.mul_zero, decide_eq_true_eq, nv_inT]
          refine J13_copyOf_2_w k6' n6' hj (by omega) z6' _ fun d3 e3 z3 l3 ck cn ci => ?_
          have hE2 := hcs2.1.1
          have hrz2 := hcs2.1.2.2
          have E3 := hE2.tr e3
          have hmq3 : Mq B a mq rq (hSz d') d3 R := hmq2.e0 e3 hE2.1 hrz2 (Nat.le_refl _)
          obtain ⟨km, zm⟩ := hmq3.k
          have hcs3 : Cs G S a rq (Z + 1) (L + 5) d3 s' e' k' := hcs2.mv (P := fun _ => False) E3 (e3.ep _) (fun x hx => hx.elim) (by omega) (by omega)
          simp (disch := omega) only [↓w_bd, ↓w_rt, ↓w_bh, sm_l, sm_r, ↓w_okr, ↓w_nm, ↓w_ite, ↓reduceIte, not_true_eq_false, not_false_eq_true, and_true, true_and, and_self, Option.some.injEq, reduceCtorEq, eq_self, ↓w_rc, ↓w_gI, ↓w_gR, ↓w_aN, ↓w_aI, ↓w_aR, ↓w_ca, ↓w_ca0, nv_lit, nv_f, nv_add, nv_mul, nv_sub, nv_le, nv_lt, nv_eq, nv_cl, Nat.reduceMod, Nat.reduceMul, Nat.reduceAdd, Nat.zero_add, Nat.add_zero, Nat.mul_zero, decide_eq_true_eq, nv_inT, km]
          refine X2_addHeap_w (f := fun i => nv (fs i)) (R' := rw1 R m v j fs) hmq3 E3 h1 hm ck cn (fun i hi => by rw [ci i hi, o6.2.2.2, hi6 i hi]) hj (by omega) (by omega) (by rw [hcs3.k]; omega) (by rw [ck]; omega) (by omega) (fun i h1 h2 => ?_) ?_ ?_ ?_ (fun r hr => ?_) _ fun d4 E4 hmq4 ep4 z4 l4 => ?_
          · unfold rw1
            rw [if_neg h1, if_neg (by omega), if_neg (by omega), if_neg (by omega)]
          · exact if_pos rfl
          · unfold rw1
            rw [if_neg (by omega), if_pos rfl]
          · exact rw1_n R m v j fs
          · unfold rw1
            rw [if_neg (by omega), if_neg (by omega), if_neg (by omega), if_pos (by omega), show 15 + 7 * m + (2 + r) - (15 + 7 * m + 2) = r by omega]
          · exact kok j fs s' e' k' d4 (by omega) hj hfs (hcs3.mv E4 ep4 (fun x hx => ⟨fun e' => by rw [e', hcs3.k] at hx; omega, by omega, by omega⟩) (by omega) (by omega)) (by have := hx.2.2.1; have := hx.2.2.2.1; omega) hmq4 (tail_k hG (by omega) k3 hx)
        · exact ke 1 s d' q hce (by omega) (by omega) (tail_e hG (by omega) k2 k3)
