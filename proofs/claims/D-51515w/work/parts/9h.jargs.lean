/-! A COMMAND's NUMBERS, by both -/
theorem m1_nv : ¬ -nv 1 = nv 0 ∧ ¬ -nv 1 = nv 1 ∧ ¬ -nv 1 = nv 2 := by decide
theorem nv_m (k : Nat) (h : k < 1000) : (nv k = -nv 1) = False := eq_false (nv_m1 (by omega))
def cnum (rq h : Nat) : Mr (Ex ⊕ Int32) := if h = 100 then X6_said rq else X6_number rq (nv 0) (nv h)
def tnum (u h : Nat) : Mr Int32 := if h = 100 then X5_readsWord u else X5_reads u (nv 0) (nv h)
def cl {β : Type} (rq : Nat) : List Nat → (List Int32 → Mr (Ex ⊕ β)) → Mr (Ex ⊕ β)
  | [], K => K []
  | h :: hs, K => bd (rc 6 (some rq)) fun h' => bh (cnum h' h) (fun e => rt (.inl e)) fun x => cl rq hs (fun xs => K (x :: xs))
def tl (G : Nat → Nat) (v1 : Int32) : List Nat → Nat → Mr Unit
  | [], _ => rt ()
  | h :: hs, j => bd (gR 5 16 (some (G 10))) fun x1 => bd (rc 5 (some (G 10))) fun h' => bd (tnum h' h) fun x2 => bd (sI 41 x1 (v1 + nv j) x2) fun _ => tl G v1 hs (j + 1)
/-- what a number's place may hold -/
def ub (h : Nat) : Nat := if h = 100 then 2 else h
theorem X6_said_w {G : Nat → Nat} {B : Nat → Nat × Nat} {S : Gst} {a d : Hp} {rq Z L s e k : Nat} (hC : JC G B S a) (h : Cs G S a rq Z L d s e k) (Q : Ex ⊕ Int32 → Hp → Prop)
    (k1 : ∀ t, t < 3 → IsW S s e k (12 + t) → (∀ u, u < t → ¬ IsW S s e k (12 + u)) → ∀ s' e' k', Nx S e s' e' k' → ∀ d', Cs G S a rq Z L d' s' e' k' → EP (fun x => x = rq) d d' → Q (.inr (nv t)) d')
    (k2 : (∀ u, u < 3 → ¬ IsW S s e k (12 + u)) → ∀ d' q, Ce a rq Z L 1 s d' q → Q (.inl (4, q)) d') : Wp (X6_said rq) d Q := by
  have h' := h
  obtain ⟨⟨hE, hrq, hrz⟩, ⟨w, hr, hw, hwz⟩, ⟨hz, hl'⟩, he, hse, hk4⟩ := h'
  have gl5 := hC.2.2.2.2.2.2.1.1
  have hk := hr.1.1
  have r4 := hr.2.2.2.1
  have kw : hK d w % 100 = 13 := hr.2.2.2.2.2.1.1
  have hCo := (h.jc hC).2.2.2.2.2.2.2.2.2
  obtain ⟨u0, x0, y0, -⟩ := co_w hCo (show 12 < 28 by omega)
  obtain ⟨u1, x1, y1, -⟩ := co_w hCo (show 13 < 28 by omega)
  obtain ⟨u2, x2, y2, -⟩ := co_w hCo (show 14 < 28 by omega)
  have e0 := fun Q => cs_eq gl5 h hr y0 (show 12 < 28 by omega) (by omega) (Q := Q)
  have e1 := fun Q => cs_eq gl5 h hr y1 (show 13 < 28 by omega) (by omega) (Q := Q)
  have e2 := fun Q => cs_eq gl5 h hr y2 (show 14 < 28 by omega) (by omega) (Q := Q)
  by_cases c0 : IsW S s e k 12
  · have q0 := fun Q => (e0 Q).1 c0
    simp (disch := omega) only [X6_said, X6_said_49, X6_said_61, ↓w_bd, ↓w_rt, ↓w_bh, sm_l, sm_r, ↓w_okr, ↓w_nm, ↓w_ite, ↓reduceIte, not_true_eq_false, not_false_eq_true, and_true, true_and, and_self, Option.some.injEq, reduceCtorEq, eq_self, ↓w_rc, ↓w_gI, ↓w_gR, ↓w_aN, ↓w_aI, ↓w_aR, ↓w_aL, ↓w_pI, ↓w_pR, ↓w_sI, ↓w_sR, ↓w_sL, ↓w_nA, ↓w_nL, ↓w_ca, ↓w_ca0, ↓w_gS, ↓w_gK, ↓w_dv, ↓w_tw, ↓w_rz, ↓w_no, nv_lit, nv_f, nv_add, nv_mul, nv_sub, nv_le, nv_lt, nv_eq, nv_cl, Nat.reduceMod, Nat.reduceMul, Nat.reduceAdd, Nat.zero_add, Nat.add_zero, Nat.mul_zero, decide_eq_true_eq, nv_inT, ↓w_gC, x0, exists_eq_left', hk, r4, kw, q0, n10, nv_m, X6_require_1 n10]
    exact X6_adn hC h _ fun s' e' k' hx d' h1 h2 => k1 0 (by omega) c0 (fun u hu => absurd hu (Nat.not_lt_zero u)) s' e' k' hx d' h1 h2
  · have q0 := fun Q => (e0 Q).2 c0
    by_cases c1 : IsW S s e k 13
    · have q1 := fun Q => (e1 Q).1 c1
      simp (disch := omega) only [X6_said, X6_said_49, X6_said_61, ↓w_bd, ↓w_rt, ↓w_bh, sm_l, sm_r, ↓w_okr, ↓w_nm, ↓w_ite, ↓reduceIte, not_true_eq_false, not_false_eq_true, and_true, true_and, and_self, Option.some.injEq, reduceCtorEq, eq_self, ↓w_rc, ↓w_gI, ↓w_gR, ↓w_aN, ↓w_aI, ↓w_aR, ↓w_aL, ↓w_pI, ↓w_pR, ↓w_sI, ↓w_sR, ↓w_sL, ↓w_nA, ↓w_nL, ↓w_ca, ↓w_ca0, ↓w_gS, ↓w_gK, ↓w_dv, ↓w_tw, ↓w_rz, ↓w_no, nv_lit, nv_f, nv_add, nv_mul, nv_sub, nv_le, nv_lt, nv_eq, nv_cl, Nat.reduceMod, Nat.reduceMul, Nat.reduceAdd, Nat.zero_add, Nat.add_zero, Nat.mul_zero, decide_eq_true_eq, nv_inT, ↓w_gC, x0, x1, exists_eq_left', hk, r4, kw, q0, q1, n10, nv_m, X6_require_1 n10]
      exact X6_adn hC h _ fun s' e' k' hx d' h1 h2 => k1 1 (by omega) c1 (fun u hu => by rw [show u = 0 by omega]; exact c0) s' e' k' hx d' h1 h2
    · have q1 := fun Q => (e1 Q).2 c1
      by_cases c2 : IsW S s e k 14
      · have q2 := fun Q => (e2 Q).1 c2
        simp (disch := omega) only [X6_said, X6_said_49, X6_said_61, ↓w_bd, ↓w_rt, ↓w_bh, sm_l, sm_r, ↓w_okr, ↓w_nm, ↓w_ite, ↓reduceIte, not_true_eq_false, not_false_eq_true, and_true, true_and, and_self, Option.some.injEq, reduceCtorEq, eq_self, ↓w_rc, ↓w_gI, ↓w_gR, ↓w_aN, ↓w_aI, ↓w_aR, ↓w_aL, ↓w_pI, ↓w_pR, ↓w_sI, ↓w_sR, ↓w_sL, ↓w_nA, ↓w_nL, ↓w_ca, ↓w_ca0, ↓w_gS, ↓w_gK, ↓w_dv, ↓w_tw, ↓w_rz, ↓w_no, nv_lit, nv_f, nv_add, nv_mul, nv_sub, nv_le, nv_lt, nv_eq, nv_cl, Nat.reduceMod, Nat.reduceMul, Nat.reduceAdd, Nat.zero_add, Nat.add_zero, Nat.mul_zero, decide_eq_true_eq, nv_inT, ↓w_gC, x0, x1, x2, exists_eq_left', hk, r4, kw, q0, q1, q2, n10, nv_m, X6_require_1 n10]
        exact X6_adn hC h _ fun s' e' k' hx d' h1 h2 => k1 2 (by omega) c2 (fun u hu => by
          have : u = 0 ∨ u = 1 := by omega
          rcases this with rfl | rfl
          · exact c0
          · exact c1) s' e' k' hx d' h1 h2
      · have q2 := fun Q => (e2 Q).2 c2
        simp (disch := omega) only [X6_said, X6_said_49, X6_said_61, ↓w_bd, ↓w_rt, ↓w_bh, sm_l, sm_r, ↓w_okr, ↓w_nm, ↓w_ite, ↓reduceIte, not_true_eq_false, not_false_eq_true, and_true, true_and, and_self, Option.some.injEq, reduceCtorEq, eq_self, ↓w_rc, ↓w_gI, ↓w_gR, ↓w_aN, ↓w_aI, ↓w_aR, ↓w_aL, ↓w_pI, ↓w_pR, ↓w_sI, ↓w_sR, ↓w_sL, ↓w_nA, ↓w_nL, ↓w_ca, ↓w_ca0, ↓w_gS, ↓w_gK, ↓w_dv, ↓w_tw, ↓w_rz, ↓w_no, nv_lit, nv_f, nv_add, nv_mul, nv_sub, nv_le, nv_lt, nv_eq, nv_cl, Nat.reduceMod, Nat.reduceMul, Nat.reduceAdd, Nat.zero_add, Nat.add_zero, Nat.mul_zero, decide_eq_true_eq, nv_inT, ↓w_gC, x0, x1, x2, exists_eq_left', hk, r4, kw, q0, q1, q2, n10]
        exact X6_require_0 hC h _ fun d' q hce => k2 (fun u hu => by
          have : u = 0 ∨ u = 1 ∨ u = 2 := by omega
          rcases this with rfl | rfl | rfl
          · exact c0
          · exact c1
          · exact c2) d' q hce
/-- the twin's -/
theorem tword_w {G : Nat → Nat} {S : Gst} {c : Hp} {s e k : Nat} (h : Ts G S c s e k) (hCo : Co c) :
    (∀ t, t < 3 → IsW S s e k (12 + t) → (∀ u, u < t → ¬ IsW S s e k (12 + u)) → ∀ Q, Wp (X5_readsWord (G 10)) c Q ↔ Wp (X5_readsWord_53 (G 10) (nv t) (some (G 10)) (nv 1)) c Q) ∧
    ((∀ u, u < 3 → ¬ IsW S s e k (12 + u)) → ∀ Q, Wp (X5_readsWord (G 10)) c Q ↔ Wp (X5_readsWord_53 (G 10) (-nv 1) (some (G 10)) (nv 0)) c Q) := by
  obtain ⟨u0, x0, y0, -⟩ := co_w hCo (show 25 < 28 by omega)
  obtain ⟨u1, x1, y1, -⟩ := co_w hCo (show 26 < 28 by omega)
  obtain ⟨u2, x2, y2, -⟩ := co_w hCo (show 27 < 28 by omega)
  have i0 : IsW S s e k 25 ↔ IsW S s e k 12 := isw_t (i := 10) (by omega)
  have i1 : IsW S s e k 26 ↔ IsW S s e k 13 := isw_t (i := 11) (by omega)
  have i2 : IsW S s e k 27 ↔ IsW S s e k 14 := isw_t (i := 12) (by omega)
  refine ⟨fun t ht h1 h2 Q => ?_, fun h2 Q => ?_⟩
  · have : t = 0 ∨ t = 1 ∨ t = 2 := by omega
    rcases this with rfl | rfl | rfl
    · have q0 := fun Q => X5_isWord_1 h (by omega) y0 (i0.2 h1) (Q := Q)
      simp (disch := omega) only [X5_readsWord, X5_readsWord_41, ↓w_bd, ↓w_rt, ↓w_bh, sm_l, sm_r, ↓w_okr, ↓w_nm, ↓w_ite, ↓reduceIte, not_true_eq_false, not_false_eq_true, and_true, true_and, and_self, Option.some.injEq, reduceCtorEq, eq_self, ↓w_rc, ↓w_gI, ↓w_gR, ↓w_aN, ↓w_aI, ↓w_aR, ↓w_aL, ↓w_pI, ↓w_pR, ↓w_sI, ↓w_sR, ↓w_sL, ↓w_nO, ↓w_nA, ↓w_nL, ↓w_ca, ↓w_ca0, ↓w_gS, ↓w_gK, ↓w_dv, ↓w_tw, ↓w_rz, ↓w_no, nv_lit, nv_f, nv_add, nv_mul, nv_sub, nv_le, nv_lt, nv_eq, nv_cl, Nat.reduceMod, Nat.reduceMul, Nat.reduceAdd, Nat.zero_add, Nat.add_zero, Nat.mul_zero, decide_eq_true_eq, nv_inT, ↓w_gC, x0, exists_eq_left', h.1, q0, n10, nv_m]
    · have q0 := fun Q => X5_isWord_0 h (by omega) y0 (fun g => h2 0 (by omega) (i0.1 g)) (Q := Q)
      have q1 := fun Q => X5_isWord_1 h (by omega) y1 (i1.2 h1) (Q := Q)
      simp (disch := omega) only [X5_readsWord, X5_readsWord_41, ↓w_bd, ↓w_rt, ↓w_bh, sm_l, sm_r, ↓w_okr, ↓w_nm, ↓w_ite, ↓reduceIte, not_true_eq_false, not_false_eq_true, and_true, true_and, and_self, Option.some.injEq, reduceCtorEq, eq_self, ↓w_rc, ↓w_gI, ↓w_gR, ↓w_aN, ↓w_aI, ↓w_aR, ↓w_aL, ↓w_pI, ↓w_pR, ↓w_sI, ↓w_sR, ↓w_sL, ↓w_nO, ↓w_nA, ↓w_nL, ↓w_ca, ↓w_ca0, ↓w_gS, ↓w_gK, ↓w_dv, ↓w_tw, ↓w_rz, ↓w_no, nv_lit, nv_f, nv_add, nv_mul, nv_sub, nv_le, nv_lt, nv_eq, nv_cl, Nat.reduceMod, Nat.reduceMul, Nat.reduceAdd, Nat.zero_add, Nat.add_zero, Nat.mul_zero, decide_eq_true_eq, nv_inT, ↓w_gC, x0, x1, exists_eq_left', h.1, q0, q1, n10, nv_m]
    · have q0 := fun Q => X5_isWord_0 h (by omega) y0 (fun g => h2 0 (by omega) (i0.1 g)) (Q := Q)
      have q1 := fun Q => X5_isWord_0 h (by omega) y1 (fun g => h2 1 (by omega) (i1.1 g)) (Q := Q)
      have q2 := fun Q => X5_isWord_1 h (by omega) y2 (i2.2 h1) (Q := Q)
      simp (disch := omega) only [X5_readsWord, X5_readsWord_41, ↓w_bd, ↓w_rt, ↓w_bh, sm_l, sm_r, ↓w_okr, ↓w_nm, ↓w_ite, ↓reduceIte, not_true_eq_false, not_false_eq_true, and_true, true_and, and_self, Option.some.injEq, reduceCtorEq, eq_self, ↓w_rc, ↓w_gI, ↓w_gR, ↓w_aN, ↓w_aI, ↓w_aR, ↓w_aL, ↓w_pI, ↓w_pR, ↓w_sI, ↓w_sR, ↓w_sL, ↓w_nO, ↓w_nA, ↓w_nL, ↓w_ca, ↓w_ca0, ↓w_gS, ↓w_gK, ↓w_dv, ↓w_tw, ↓w_rz, ↓w_no, nv_lit, nv_f, nv_add, nv_mul, nv_sub, nv_le, nv_lt, nv_eq, nv_cl, Nat.reduceMod, Nat.reduceMul, Nat.reduceAdd, Nat.zero_add, Nat.add_zero, Nat.mul_zero, decide_eq_true_eq, nv_inT, ↓w_gC, x0, x1, x2, exists_eq_left', h.1, q0, q1, q2, n10, nv_m]
  · have q0 := fun Q => X5_isWord_0 h (by omega) y0 (fun g => h2 0 (by omega) (i0.1 g)) (Q := Q)
    have q1 := fun Q => X5_isWord_0 h (by omega) y1 (fun g => h2 1 (by omega) (i1.1 g)) (Q := Q)
    have q2 := fun Q => X5_isWord_0 h (by omega) y2 (fun g => h2 2 (by omega) (i2.1 g)) (Q := Q)
    simp (disch := omega) only [X5_readsWord, X5_readsWord_41, ↓w_bd, ↓w_rt, ↓w_bh, sm_l, sm_r, ↓w_okr, ↓w_nm, ↓w_ite, ↓reduceIte, not_true_eq_false, not_false_eq_true, and_true, true_and, and_self, Option.some.injEq, reduceCtorEq, eq_self, ↓w_rc, ↓w_gI, ↓w_gR, ↓w_aN, ↓w_aI, ↓w_aR, ↓w_aL, ↓w_pI, ↓w_pR, ↓w_sI, ↓w_sR, ↓w_sL, ↓w_nO, ↓w_nA, ↓w_nL, ↓w_ca, ↓w_ca0, ↓w_gS, ↓w_gK, ↓w_dv, ↓w_tw, ↓w_rz, ↓w_no, nv_lit, nv_f, nv_add, nv_mul, nv_sub, nv_le, nv_lt, nv_eq, nv_cl, Nat.reduceMod, Nat.reduceMul, Nat.reduceAdd, Nat.zero_add, Nat.add_zero, Nat.mul_zero, decide_eq_true_eq, nv_inT, ↓w_gC, x0, x1, x2, exists_eq_left', h.1, q0, q1, q2, n10]
theorem tword_z {G : Nat → Nat} {c : Hp} {cd ps : Nat} (h : Tz G c cd ps) (hCo : Co c) (Q : Int32 → Hp → Prop) : Wp (X5_readsWord (G 10)) c Q ↔ Q (-nv 1) c := by
  obtain ⟨u0, x0, y0, -⟩ := co_w hCo (show 25 < 28 by omega)
  obtain ⟨u1, x1, y1, -⟩ := co_w hCo (show 26 < 28 by omega)
  obtain ⟨u2, x2, y2, -⟩ := co_w hCo (show 27 < 28 by omega)
  simp (disch := omega) only [X5_readsWord, X5_readsWord_41, X5_readsWord_53, ↓w_bd, ↓w_rt, ↓w_bh, sm_l, sm_r, ↓w_okr, ↓w_nm, ↓w_ite, ↓reduceIte, not_true_eq_false, not_false_eq_true, and_true, true_and, and_self, Option.some.injEq, reduceCtorEq, eq_self, ↓w_rc, ↓w_gI, ↓w_gR, ↓w_aN, ↓w_aI, ↓w_aR, ↓w_aL, ↓w_pI, ↓w_pR, ↓w_sI, ↓w_sR, ↓w_sL, ↓w_nO, ↓w_nA, ↓w_nL, ↓w_ca, ↓w_ca0, ↓w_gS, ↓w_gK, ↓w_dv, ↓w_tw, ↓w_rz, ↓w_no, nv_lit, nv_f, nv_add, nv_mul, nv_sub, nv_le, nv_lt, nv_eq, nv_cl, Nat.reduceMod, Nat.reduceMul, Nat.reduceAdd, Nat.zero_add, Nat.add_zero, Nat.mul_zero, decide_eq_true_eq, nv_inT, ↓w_gC, x0, x1, x2, exists_eq_left', h.1, X5_isWord_z h, X5_must_z h, X5_goesOn_z h, n10]
/-- one number, at a token and at an error -/
theorem num_j {G : Nat → Nat} {B : Nat → Nat × Nat} {S : Gst} {a d : Hp} {rq Z L s e k h : Nat} (hC : JC G B S a) (hc : Cs G S a rq Z L d s e k) (hh : h ≤ 100) (Q : Ex ⊕ Int32 → Hp → Prop)
    (ke : ∀ cd, 0 < cd → cd < 10 → (∀ c, Ts G S c s e k → Co c → ∀ Q' : Int32 → Hp → Prop, (∀ v, Q' v (erq G c cd s)) → Wp (tnum (G 10) h) c Q') → ∀ d' q, Ce a rq Z L cd s d' q → Q (.inl (4, q)) d')
    (kk : ∀ t, t ≤ ub h → ∀ s' e' k', Nx S e s' e' k' → (∀ c, Ts G S c s e k → Co c → ∀ Q' : Int32 → Hp → Prop, (∀ c', Tw G c c' → Ts G S c' s' e' k' → Q' (nv t) c') → Wp (tnum (G 10) h) c Q') → ∀ d', Cs G S a rq Z L d' s' e' k' → EP (fun x => x = rq) d d' → Q (.inr (nv t)) d') : Wp (cnum rq h) d Q := by
  have hG := hC.1.gd
  by_cases c : h = 100
  · unfold cnum
    unfold tnum at ke kk
    unfold ub at kk
    rw [if_pos c]
    rw [if_pos c] at ke
    simp only [if_pos c] at kk
    refine X6_said_w hC hc Q (fun t ht h1 h2 s' e' k' hx d' hd ep => ?_) (fun h2 d' q hce => ?_)
    · refine kk t (by omega) s' e' k' hx (fun c hts hco Q' hq => ?_) d' hd ep
      rw [(tword_w hts hco).1 t ht h1 h2]
      simp (disch := omega) only [X5_readsWord_53, ↓w_bd, ↓w_rt, ↓w_bh, sm_l, sm_r, ↓w_okr, ↓w_nm, ↓w_ite, ↓reduceIte, not_true_eq_false, not_false_eq_true, and_true, true_and, and_self, Option.some.injEq, reduceCtorEq, eq_self, ↓w_rc, ↓w_gI, ↓w_gR, ↓w_aN, ↓w_aI, ↓w_aR, ↓w_aL, ↓w_pI, ↓w_pR, ↓w_sI, ↓w_sR, ↓w_sL, ↓w_nO, ↓w_nA, ↓w_nL, ↓w_ca, ↓w_ca0, ↓w_gS, ↓w_gK, ↓w_dv, ↓w_tw, ↓w_rz, ↓w_no, nv_lit, nv_f, nv_add, nv_mul, nv_sub, nv_le, nv_lt, nv_eq, nv_cl, Nat.reduceMod, Nat.reduceMul, Nat.reduceAdd, Nat.zero_add, Nat.add_zero, Nat.mul_zero, decide_eq_true_eq, nv_inT, hts.1, X5_must_1 hts n10]
      exact X5_gon hG hts hx _ hq
    · refine ke 1 (by omega) (by omega) (fun c hts hco Q' hq => ?_) d' q hce
      rw [(tword_w hts hco).2 h2]
      have hz := (erq_z (cd := 1) (s := s) hts.1 (by omega) (by omega)).1
      simp (disch := omega) only [X5_readsWord_53, ↓w_bd, ↓w_rt, ↓w_bh, sm_l, sm_r, ↓w_okr, ↓w_nm, ↓w_ite, ↓reduceIte, not_true_eq_false, not_false_eq_true, and_true, true_and, and_self, Option.some.injEq, reduceCtorEq, eq_self, ↓w_rc, ↓w_gI, ↓w_gR, ↓w_aN, ↓w_aI, ↓w_aR, ↓w_aL, ↓w_pI, ↓w_pR, ↓w_sI, ↓w_sR, ↓w_sL, ↓w_nO, ↓w_nA, ↓w_nL, ↓w_ca, ↓w_ca0, ↓w_gS, ↓w_gK, ↓w_dv, ↓w_tw, ↓w_rz, ↓w_no, nv_lit, nv_f, nv_add, nv_mul, nv_sub, nv_le, nv_lt, nv_eq, nv_cl, Nat.reduceMod, Nat.reduceMul, Nat.reduceAdd, Nat.zero_add, Nat.add_zero, Nat.mul_zero, decide_eq_true_eq, nv_inT, hts.1, X5_must_0 hts, hz.1, X5_goesOn_z hz]
      exact hq _
  · unfold cnum
    unfold tnum at ke kk
    unfold ub at kk
    rw [if_neg c]
    rw [if_neg c] at ke
    simp only [if_neg c] at kk
    refine X6_number_w hC hc (by omega) hh Q (fun h1 h2 h3 s' e' k' hx d' hd ep => ?_) (fun cd hcd d' q hce => ?_)
    · exact kk (tvl S s e) h3 s' e' k' hx (fun c hts hco Q' hq => X5_reads_1 hG hts h1 (by omega) hh ⟨h2, h3⟩ hx Q' hq) d' hd ep
    · refine ke cd (by omega) (by omega) (fun c hts hco Q' hq => ?_) d' q hce
      rw [X5_reads_0 hts (by omega) hh hcd]
      exact hq _
theorem num_z {G : Nat → Nat} {c : Hp} {cd ps : Nat} (h : Tz G c cd ps) (hCo : Co c) (u : Nat) (Q : Int32 → Hp → Prop) (kk : ∀ v, Q v c) : Wp (tnum (G 10) u) c Q := by
  unfold tnum
  by_cases c : u = 100
  · rw [if_pos c, tword_z h hCo]; exact kk _
  · rw [if_neg c, X5_reads_z h]; exact kk _
/-! the twin's commands -/
def Tpr (G : Nat → Nat) (a c : Hp) : Prop := (c.1 = a.1 ∧ c.2.2 = a.2.2) ∧ (∀ q, q ≠ G 10 → q ≠ G 17 → hI c q = hI a q) ∧ ∀ j, (j < 10 ∨ 15 < j) → j ≠ 17 → hI c (G 10) j = hI a (G 10) j
theorem Tpr.rf (G : Nat → Nat) (a : Hp) : Tpr G a a := ⟨⟨rfl, rfl⟩, fun _ _ _ => rfl, fun _ _ _ => rfl⟩
theorem Tpr.tr {G : Nat → Nat} {a b c : Hp} (h : Tpr G a b) (g : Tpr G b c) : Tpr G a c := ⟨⟨g.1.1.trans h.1.1, g.1.2.trans h.1.2⟩, fun q h1 h2 => (g.2.1 q h1 h2).trans (h.2.1 q h1 h2), fun j h1 h2 => (g.2.2 j h1 h2).trans (h.2.2 j h1 h2)⟩
theorem Tw.tpr {G : Nat → Nat} {a c : Hp} (h : Tw G a c) : Tpr G a c := ⟨⟨h.1, h.2.1⟩, fun q h1 _ => h.2.2.1 q h1, fun j h1 _ => h.2.2.2 j h1⟩
/-- the twin's parser in a play: n commands, E their numbers -/
def TP (G : Nat → Nat) (S : Gst) (n : Nat) (E : Nat → Int32) (c0 c : Hp) (s e k : Nat) : Prop := Ts G S c s e k ∧ Co c ∧ Tpr G c0 c ∧ hI c (G 10) 17 = nv n ∧ hI c (G 17) = E
def TPz (G : Nat → Nat) (c0 c : Hp) (cd ps n : Nat) : Prop := Tz G c cd ps ∧ Co c ∧ Tpr G c0 c ∧ hI c (G 10) 17 = nv n
theorem TP.tw {G : Nat → Nat} {S : Gst} {n : Nat} {E : Nat → Int32} {c0 c c' : Hp} {s e k s' e' k' : Nat} (hG : GD G) (h : TP G S n E c0 c s e k) (g : Tw G c c') (t : Ts G S c' s' e' k') : TP G S n E c0 c' s' e' k' := ⟨t, h.2.1.tw g h.1.1, h.2.2.1.tr g.tpr, by rw [g.2.2.2 17 (by omega)]; exact h.2.2.2.1, by rw [g.2.2.1 (G 17) (hG.ne (by omega) (by omega) (by omega))]; exact h.2.2.2.2⟩
theorem TP.er {G : Nat → Nat} {S : Gst} {n : Nat} {E : Nat → Int32} {c0 c : Hp} {s e k cd ps : Nat} (h : TP G S n E c0 c s e k) (h1 : 0 < cd) (h2 : cd < 10) : TPz G c0 (erq G c cd ps) cd ps n := by
  obtain ⟨z1, z2⟩ := erq_z (G := G) (c := c) (s := ps) h.1.1 h1 h2
  exact ⟨z1, h.2.1.tw z2 h.1.1, h.2.2.1.tr z2.tpr, by rw [z2.2.2.2 17 (by omega)]; exact h.2.2.2.1⟩
/-- a write into the commands' numbers -/
def l17 (G : Nat → Nat) (c : Hp) (i : Nat) (v : Int32) : Hp := hwI c (G 17) (up1 (hI c (G 17)) i v)
theorem l17_o (G : Nat → Nat) (c : Hp) (i : Nat) (v : Int32) {q : Nat} (h : q ≠ G 17) : hI (l17 G c i v) q = hI c q := by
  unfold l17
  rw [hI_wI, up1_n _ _ h]
theorem l17_p (G : Nat → Nat) (c : Hp) (i : Nat) (v : Int32) (hG : GD G) : Tpr G c (l17 G c i v) := ⟨⟨rfl, rfl⟩, fun q _ h2 => l17_o G c i v h2, fun j _ _ => by rw [l17_o G c i v (hG.ne (by omega) (by omega) (by omega))]⟩
theorem Co.w17 {G : Nat → Nat} {c : Hp} (h : Co c) (hF : FT G c) (i : Nat) (v : Int32) : Co (l17 G c i v) := h.ep (P := fun q => q = G 17) ((EP.rf (fun q => q = G 17) c).wI (.inl rfl) _) (fun q hq => by
  obtain ⟨-, ⟨k11, k12, k13, k14, k15, k16, k17, k18, k19⟩, -⟩ := hF
  rw [hq]; omega)
theorem TP.lay {G : Nat → Nat} {S : Gst} {n : Nat} {E : Nat → Int32} {c0 c : Hp} {s e k : Nat} (hG : GD G) (h : TP G S n E c0 c s e k) (i : Nat) (v : Int32) : TP G S n (up1 E i v) c0 (l17 G c i v) s e k := by
  have n1017 := hG.ne (show 10 < 22 by omega) (show 17 < 22 by omega) (by omega)
  have n1617 := hG.ne (show 16 < 22 by omega) (show 17 < 22 by omega) (by omega)
  obtain ⟨⟨h1, ⟨t1, t2, t3, t4⟩, ⟨h3, h4⟩, ⟨h5, h6, h7⟩, h8, h9⟩, hco, hp, h17, hE⟩ := h
  have e10 := l17_o G c i v n1017
  have e16 := l17_o G c i v n1617
  refine ⟨⟨h1, ⟨t1, by rw [e10]; exact t2, fun j hj => by rw [e16]; exact t3 j hj, t4⟩, ⟨by rw [e10]; exact h3, by rw [e10]; exact h4⟩, ⟨by rw [e10]; exact h5, by rw [e10]; exact h6, by rw [e10]; exact h7⟩, fun hk => by rw [e10]; exact h8 hk, h9⟩, hco.w17 h1 i v, hp.tr (l17_p G c i v hG), by rw [e10]; exact h17, ?_⟩
  show hI (hwI c (G 17) _) (G 17) = _
  rw [hI_wI, up1_s, hE]
theorem TPz.lay {G : Nat → Nat} {c0 c : Hp} {cd ps n : Nat} (hG : GD G) (h : TPz G c0 c cd ps n) (i : Nat) (v : Int32) : TPz G c0 (l17 G c i v) cd ps n := by
  have n1017 := hG.ne (show 10 < 22 by omega) (show 17 < 22 by omega) (by omega)
  have e10 := l17_o G c i v n1017
  obtain ⟨⟨h1, h2, h3, h4⟩, hco, hp, h17⟩ := h
  exact ⟨⟨h1, by rw [e10]; exact h2, by rw [e10]; exact h3, h4⟩, hco.w17 h1 i v, hp.tr (l17_p G c i v hG), by rw [e10]; exact h17⟩
/-- numbers laid -/
def ls (E : Nat → Int32) : Nat → List Nat → Nat → Int32
  | _, [] => E
  | b, t :: ts => ls (up1 E b (nv t)) (b + 1) ts
theorem tl_z {G : Nat → Nat} (hG : GD G) {c0 : Hp} {cd ps n m : Nat} : ∀ (hs : List Nat) (j : Nat) (c : Hp), TPz G c0 c cd ps n → m + j + hs.length ≤ 125 → ∀ Q : Unit → Hp → Prop, (∀ c', TPz G c0 c' cd ps n → Q () c') → Wp (tl G (nv m) hs j) c Q := by
  intro hs
  induction hs with
  | nil => intro j c h hn Q kk; exact (w_rt _ _ _).2 (kk c h)
  | cons u hs ih =>
    intro j c h hn Q kk
    rw [List.length_cons] at hn
    have hF := h.1.1
    simp (disch := omega) only [tl, ↓w_bd, ↓w_rt, ↓w_bh, sm_l, sm_r, ↓w_okr, ↓w_nm, ↓w_ite, ↓reduceIte, not_true_eq_false, not_false_eq_true, and_true, true_and, and_self, Option.some.injEq, reduceCtorEq, eq_self, ↓w_rc, ↓w_gI, ↓w_gR, ↓w_aN, ↓w_aI, ↓w_aR, ↓w_aL, ↓w_pI, ↓w_pR, ↓w_sI, ↓w_sR, ↓w_sL, ↓w_nO, ↓w_nA, ↓w_nL, ↓w_ca, ↓w_ca0, ↓w_gS, ↓w_gK, ↓w_dv, ↓w_tw, ↓w_rz, ↓w_no, nv_lit, nv_f, nv_add, nv_mul, nv_sub, nv_le, nv_lt, nv_eq, nv_cl, Nat.reduceMod, Nat.reduceMul, Nat.reduceAdd, Nat.zero_add, Nat.add_zero, Nat.mul_zero, decide_eq_true_eq, nv_inT, hF]
    refine num_z h.1 h.2.1 u _ fun v => ?_
    simp (disch := omega) only [↓w_bd, ↓w_rt, ↓w_bh, sm_l, sm_r, ↓w_okr, ↓w_nm, ↓w_ite, ↓reduceIte, not_true_eq_false, not_false_eq_true, and_true, true_and, and_self, Option.some.injEq, reduceCtorEq, eq_self, ↓w_rc, ↓w_gI, ↓w_gR, ↓w_aN, ↓w_aI, ↓w_aR, ↓w_aL, ↓w_pI, ↓w_pR, ↓w_sI, ↓w_sR, ↓w_sL, ↓w_nO, ↓w_nA, ↓w_nL, ↓w_ca, ↓w_ca0, ↓w_gS, ↓w_gK, ↓w_dv, ↓w_tw, ↓w_rz, ↓w_no, nv_lit, nv_f, nv_add, nv_mul, nv_sub, nv_le, nv_lt, nv_eq, nv_cl, Nat.reduceMod, Nat.reduceMul, Nat.reduceAdd, Nat.zero_add, Nat.add_zero, Nat.mul_zero, decide_eq_true_eq, nv_inT, hF, nr41]
    exact ih (j + 1) _ (h.lay hG (m + j) v) (by omega) Q kk
theorem args_j {G : Nat → Nat} {B : Nat → Nat × Nat} {S : Gst} {a : Hp} {rq Z L m : Nat} {β : Type} (hC : JC G B S a) :
    ∀ (hs : List Nat) (j s e k : Nat) (d : Hp) (K : List Int32 → Mr (Ex ⊕ β)) (Q : Ex ⊕ β → Hp → Prop), (∀ h, h ∈ hs → h ≤ 100) → m + j + hs.length ≤ 125 → Cs G S a rq Z L d s e k →
    (∀ cd ps d' q, Ce a rq Z L cd ps d' q → 0 < cd → cd < 10 → (∀ n E c0 c, TP G S n E c0 c s e k → Wp (tl G (nv m) hs j) c (fun _ c' => TPz G c0 c' cd ps n)) → Q (.inl (4, q)) d') →
    (∀ ts s' e' k' d', ts.length = hs.length → (∀ i, i < hs.length → ts.getD i 0 ≤ ub (hs.getD i 0)) → Cs G S a rq Z L d' s' e' k' → e ≤ e' → EP (fun x => x = rq) d d' → (∀ n E c0 c, TP G S n E c0 c s e k → Wp (tl G (nv m) hs j) c (fun _ c' => TP G S n (ls E (m + j) ts) c0 c' s' e' k')) → Wp (K (ts.map nv)) d' Q) →
    Wp (cl rq hs K) d Q := by
  have hG := hC.1.gd
  intro hs
  induction hs with
  | nil =>
    intro j s e k d K Q hb hn hcs ke kk
    exact kk [] s e k d rfl (fun i hi => absurd hi (Nat.not_lt_zero i)) hcs (Nat.le_refl e) (EP.rf _ _) (fun n E c0 c h => (w_rt _ _ _).2 h)
  | cons u hs ih =>
    intro j s e k d K Q hb hn hcs ke kk
    rw [List.length_cons] at hn
    unfold cl
    rw [w_bd, w_rc]
    refine ⟨by rw [hcs.k], ?_⟩
    rw [w_bh]
    refine num_j hC hcs (hb u (List.mem_cons_self ..)) _ (fun cd h1 h2 tw d' q hce => ?_) (fun t ht s' e' k' hx tw d' hcs2 ep => ?_)
    · rw [sm_l, w_rt]
      refine ke cd s d' q hce h1 h2 fun n E c0 c h => ?_
      simp (disch := omega) only [tl, ↓w_bd, ↓w_rt, ↓w_bh, sm_l, sm_r, ↓w_okr, ↓w_nm, ↓w_ite, ↓reduceIte, not_true_eq_false, not_false_eq_true, and_true, true_and, and_self, Option.some.injEq, reduceCtorEq, eq_self, ↓w_rc, ↓w_gI, ↓w_gR, ↓w_aN, ↓w_aI, ↓w_aR, ↓w_aL, ↓w_pI, ↓w_pR, ↓w_sI, ↓w_sR, ↓w_sL, ↓w_nO, ↓w_nA, ↓w_nL, ↓w_ca, ↓w_ca0, ↓w_gS, ↓w_gK, ↓w_dv, ↓w_tw, ↓w_rz, ↓w_no, nv_lit, nv_f, nv_add, nv_mul, nv_sub, nv_le, nv_lt, nv_eq, nv_cl, Nat.reduceMod, Nat.reduceMul, Nat.reduceAdd, Nat.zero_add, Nat.add_zero, Nat.mul_zero, decide_eq_true_eq, nv_inT, h.1.1]
      refine tw c h.1 h.2.1 _ fun v => ?_
      have hz := h.er (ps := s) h1 h2
      simp (disch := omega) only [↓w_bd, ↓w_rt, ↓w_bh, sm_l, sm_r, ↓w_okr, ↓w_nm, ↓w_ite, ↓reduceIte, not_true_eq_false, not_false_eq_true, and_true, true_and, and_self, Option.some.injEq, reduceCtorEq, eq_self, ↓w_rc, ↓w_gI, ↓w_gR, ↓w_aN, ↓w_aI, ↓w_aR, ↓w_aL, ↓w_pI, ↓w_pR, ↓w_sI, ↓w_sR, ↓w_sL, ↓w_nO, ↓w_nA, ↓w_nL, ↓w_ca, ↓w_ca0, ↓w_gS, ↓w_gK, ↓w_dv, ↓w_tw, ↓w_rz, ↓w_no, nv_lit, nv_f, nv_add, nv_mul, nv_sub, nv_le, nv_lt, nv_eq, nv_cl, Nat.reduceMod, Nat.reduceMul, Nat.reduceAdd, Nat.zero_add, Nat.add_zero, Nat.mul_zero, decide_eq_true_eq, nv_inT, hz.1.1, nr41]
      exact tl_z hG hs (j + 1) _ (hz.lay hG (m + j) v) (by omega) _ fun c' h => h
    · rw [sm_r]
      have step : ∀ n E c0 c, TP G S n E c0 c s e k → ∀ Q' : Unit → Hp → Prop, (∀ c', TP G S n (up1 E (m + j) (nv t)) c0 c' s' e' k' → Wp (tl G (nv m) hs (j + 1)) c' Q') → Wp (tl G (nv m) (u :: hs) j) c Q' := by
        intro n E c0 c h Q' hq
        simp (disch := omega) only [tl, ↓w_bd, ↓w_rt, ↓w_bh, sm_l, sm_r, ↓w_okr, ↓w_nm, ↓w_ite, ↓reduceIte, not_true_eq_false, not_false_eq_true, and_true, true_and, and_self, Option.some.injEq, reduceCtorEq, eq_self, ↓w_rc, ↓w_gI, ↓w_gR, ↓w_aN, ↓w_aI, ↓w_aR, ↓w_aL, ↓w_pI, ↓w_pR, ↓w_sI, ↓w_sR, ↓w_sL, ↓w_nO, ↓w_nA, ↓w_nL, ↓w_ca, ↓w_ca0, ↓w_gS, ↓w_gK, ↓w_dv, ↓w_tw, ↓w_rz, ↓w_no, nv_lit, nv_f, nv_add, nv_mul, nv_sub, nv_le, nv_lt, nv_eq, nv_cl, Nat.reduceMod, Nat.reduceMul, Nat.reduceAdd, Nat.zero_add, Nat.add_zero, Nat.mul_zero, decide_eq_true_eq, nv_inT, h.1.1]
        refine tw c h.1 h.2.1 _ fun c' w1 w2 => ?_
        have h2 := h.tw hG w1 w2
        simp (disch := omega) only [↓w_bd, ↓w_rt, ↓w_bh, sm_l, sm_r, ↓w_okr, ↓w_nm, ↓w_ite, ↓reduceIte, not_true_eq_false, not_false_eq_true, and_true, true_and, and_self, Option.some.injEq, reduceCtorEq, eq_self, ↓w_rc, ↓w_gI, ↓w_gR, ↓w_aN, ↓w_aI, ↓w_aR, ↓w_aL, ↓w_pI, ↓w_pR, ↓w_sI, ↓w_sR, ↓w_sL, ↓w_nO, ↓w_nA, ↓w_nL, ↓w_ca, ↓w_ca0, ↓w_gS, ↓w_gK, ↓w_dv, ↓w_tw, ↓w_rz, ↓w_no, nv_lit, nv_f, nv_add, nv_mul, nv_sub, nv_le, nv_lt, nv_eq, nv_cl, Nat.reduceMod, Nat.reduceMul, Nat.reduceAdd, Nat.zero_add, Nat.add_zero, Nat.mul_zero, decide_eq_true_eq, nv_inT, h2.1.1, nr41]
        exact hq _ (h2.lay hG (m + j) (nv t))
      refine ih (j + 1) s' e' k' d' _ Q (fun h hm => hb h (List.mem_cons_of_mem _ hm)) (by omega) hcs2 (fun cd ps d2 q hce h1 h2 tw2 => ?_) (fun ts s2 e2 k2 d2 hl hv hcs3 he ep2 tw2 => ?_)
      · exact ke cd ps d2 q hce h1 h2 fun n E c0 c h => step n E c0 c h _ fun c' hc' => tw2 n _ c0 c' hc'
      · refine kk (t :: ts) s2 e2 k2 d2 (by rw [List.length_cons, List.length_cons, hl]) (fun i hi => ?_) hcs3 (by have := hx.2.2.1; have := hx.2.2.2.1; omega) (ep.tr ep2) fun n E c0 c h => step n E c0 c h _ fun c' hc' => tw2 n _ c0 c' hc'
        cases i with
        | zero => exact ht
        | succ i => exact hv i (by rw [List.length_cons] at hi; omega)
