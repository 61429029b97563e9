/-! THE TEXT'S TOKENS, told once for both readers -/
/-- letters of the text -/
def tb (S : Gst) (i : Nat) : Nat := (gb S i).toBitVec.toNat % 256
theorem tb_b (S : Gst) (i : Nat) : tb S i ≤ 255 := by
  unfold tb
  have := Nat.mod_lt (gb S i).toBitVec.toNat (show 0 < 256 by omega)
  omega
theorem tb_v (S : Gst) (i : Nat) : gb S i &&& nv 255 = nv (tb S i) := by
  apply Int32.toBitVec_inj.mp
  apply BitVec.eq_of_toNat_eq
  have e : (nv 255).toBitVec = (255 : BitVec 32) := by decide
  rw [Int32.toBitVec_and, e, BitVec.toNat_and]
  have e2 : (255 : BitVec 32).toNat = 2 ^ 8 - 1 := by decide
  rw [e2, Nat.and_two_pow_sub_one_eq_mod]
  have h := tb_b S i
  have e3 : (nv (tb S i)).toBitVec = BitVec.ofNat 32 (tb S i) := rfl
  rw [e3, BitVec.toNat_ofNat, Nat.mod_eq_of_lt (show tb S i < 2 ^ 32 by omega)]
  rfl
def blk (t : Nat) : Prop := t = 32 ∨ t = 10
def ltr (t : Nat) : Prop := 97 ≤ t ∧ t ≤ 122
def dgt (t : Nat) : Prop := 48 ≤ t ∧ t ≤ 57
/-- s is the first place from p on that is no p -/
def Run (P : Nat → Prop) (n p s : Nat) : Prop := p ≤ s ∧ s ≤ n ∧ (∀ i, p ≤ i → i < s → P i) ∧ (s = n ∨ ¬ P s)
theorem run_ex (P : Nat → Prop) (n : Nat) : ∀ j p, p + j = n → ∃ s, Run P n p s := by
  intro j
  induction j with
  | zero => intro p hp; exact ⟨p, Nat.le_refl _, by omega, fun i h1 h2 => by omega, .inl (by omega)⟩
  | succ j ih =>
    intro p hp
    by_cases c : P p
    · obtain ⟨s, h1, h2, h3, h4⟩ := ih (p + 1) (by omega)
      refine ⟨s, by omega, h2, fun i g1 g2 => ?_, h4⟩
      by_cases e : i = p
      · rw [e]; exact c
      · exact h3 i (by omega) g2
    · exact ⟨p, Nat.le_refl _, by omega, fun i h1 h2 => by omega, .inr c⟩
/-- a number's value, as the twin counts it -/
def tv (t : Nat → Nat) (s : Nat) : Nat → Nat
  | 0 => 0
  | j + 1 => if tv t s j ≤ 999999 then 10 * tv t s j + t (s + j) - 48 else tv t s j
/-- a token of the text t of n bytes, from place p: its start, its end, its kind -/
def Tok (t : Nat → Nat) (n p s e k : Nat) : Prop := Run (fun i => blk (t i)) n p s ∧
  ((k = 0 ∧ s = n ∧ e = s) ∨ (k = 1 ∧ s < n ∧ ltr (t s) ∧ Run (fun i => ltr (t i)) n s e) ∨ (k = 2 ∧ s < n ∧ dgt (t s) ∧ Run (fun i => dgt (t i)) n s e) ∨ (k = 3 ∧ s < n ∧ t s = 59 ∧ e = s + 1) ∨ (k = 4 ∧ s < n ∧ ¬ ltr (t s) ∧ ¬ dgt (t s) ∧ t s ≠ 59 ∧ e = s + 1))
theorem tok_ex (t : Nat → Nat) {n p : Nat} (hp : p ≤ n) : ∃ s e k, Tok t n p s e k ∧ k ≤ 4 ∧ p ≤ s ∧ s ≤ e ∧ e ≤ n ∧ (k ≠ 0 → p < e) := by
  obtain ⟨s, h1, h2, h3, h4⟩ := run_ex (fun i => blk (t i)) n (n - p) p (by omega)
  by_cases c0 : s = n
  · exact ⟨s, s, 0, ⟨⟨h1, h2, h3, h4⟩, .inl ⟨rfl, c0, rfl⟩⟩, by omega, h1, Nat.le_refl _, h2, fun h => absurd rfl h⟩
  · have hs : s < n := by omega
    by_cases c1 : ltr (t s)
    · obtain ⟨e, g1, g2, g3, g4⟩ := run_ex (fun i => ltr (t i)) n (n - s) s (by omega)
      have : s < e := by
        rcases Nat.lt_or_ge s e with g | g
        · exact g
        · have : e = s := by omega
          subst this
          rcases g4 with g4 | g4
          · omega
          · exact absurd c1 g4
      exact ⟨s, e, 1, ⟨⟨h1, h2, h3, h4⟩, .inr (.inl ⟨rfl, hs, c1, g1, g2, g3, g4⟩)⟩, by omega, h1, g1, g2, fun _ => by omega⟩
    · by_cases c2 : dgt (t s)
      · obtain ⟨e, g1, g2, g3, g4⟩ := run_ex (fun i => dgt (t i)) n (n - s) s (by omega)
        have : s < e := by
          rcases Nat.lt_or_ge s e with g | g
          · exact g
          · have : e = s := by omega
            subst this
            rcases g4 with g4 | g4
            · omega
            · exact absurd c2 g4
        exact ⟨s, e, 2, ⟨⟨h1, h2, h3, h4⟩, .inr (.inr (.inl ⟨rfl, hs, c2, g1, g2, g3, g4⟩))⟩, by omega, h1, g1, g2, fun _ => by omega⟩
      · by_cases c3 : t s = 59
        · exact ⟨s, s + 1, 3, ⟨⟨h1, h2, h3, h4⟩, .inr (.inr (.inr (.inl ⟨rfl, hs, c3, rfl⟩)))⟩, by omega, h1, by omega, by omega, fun _ => by omega⟩
        · exact ⟨s, s + 1, 4, ⟨⟨h1, h2, h3, h4⟩, .inr (.inr (.inr (.inr ⟨rfl, hs, c1, c2, c3, rfl⟩)))⟩, by omega, h1, by omega, by omega, fun _ => by omega⟩
theorem tv_b (t : Nat → Nat) (s : Nat) (ht : ∀ i, t i ≤ 255) : ∀ j, tv t s j ≤ 10000300 := by
  intro j
  induction j with
  | zero => unfold tv; omega
  | succ j ih =>
    unfold tv
    have := ht (s + j)
    split <;> omega
/-! the twin's reader -/
/-- the twin's reader stands at a token -/
def Rdt (G : Nat → Nat) (c : Hp) (s e k : Nat) : Prop := hI c (G 10) 12 = nv e ∧ hI c (G 10) 13 = nv s ∧ hI c (G 10) 14 = nv k
/-- only what the reader writes has changed -/
def Tr (G : Nat → Nat) (a c : Hp) : Prop := c.1 = a.1 ∧ c.2.2 = a.2.2 ∧ (∀ q, q ≠ G 10 → hI c q = hI a q) ∧ ∀ j, j ≠ 12 → j ≠ 13 → j ≠ 14 → j ≠ 15 → hI c (G 10) j = hI a (G 10) j
theorem Tr.rf (G : Nat → Nat) (a : Hp) : Tr G a a := ⟨rfl, rfl, fun _ _ => rfl, fun _ _ _ _ _ => rfl⟩
theorem Tr.tr {G : Nat → Nat} {a b c : Hp} (h : Tr G a b) (g : Tr G b c) : Tr G a c := ⟨g.1.trans h.1, g.2.1.trans h.2.1, fun q h1 => (g.2.2.1 q h1).trans (h.2.2.1 q h1), fun j h1 h2 h3 h4 => (g.2.2.2 j h1 h2 h3 h4).trans (h.2.2.2 j h1 h2 h3 h4)⟩
theorem Tr.w {G : Nat → Nat} {a b : Hp} (h : Tr G a b) {j : Nat} (hj : j = 12 ∨ j = 13 ∨ j = 14 ∨ j = 15) (v : Int32) : Tr G a (hwI b (G 10) (up1 (hI b (G 10)) j v)) := by
  refine ⟨h.1, h.2.1, fun q h1 => by rw [hI_wI, up1_n _ _ h1]; exact h.2.2.1 q h1, fun i h1 h2 h3 h4 => ?_⟩
  rw [hI_wI, up1_s, up1_n _ _ (by omega)]
  exact h.2.2.2 i h1 h2 h3 h4
theorem Tr.f {G : Nat → Nat} {a c : Hp} (h : Tr G a c) (hF : FT G a) : FT G c := by
  have eK : hK c = hK a := congrArg (fun x => x.1.2.1) h.1
  have eN : hN c = hN a := congrArg (fun x => x.1.2.2) h.1
  have eR : hR c = hR a := congrArg (fun x => x.1) h.2.1
  unfold FT at *
  rw [eK, eN, eR]
  exact hF
/-- the text as the twin holds it -/
def Tx (G : Nat → Nat) (c : Hp) (t : Nat → Nat) (n : Nat) : Prop := n ≤ 500 ∧ hI c (G 10) 9 = nv n ∧ (∀ i, i < n → hI c (G 16) i = nv (t i)) ∧ ∀ i, t i ≤ 255
theorem Tx.tr {G : Nat → Nat} {a c : Hp} {t : Nat → Nat} {n : Nat} (hG : GD G) (h : Tx G a t n) (g : Tr G a c) : Tx G c t n := by
  refine ⟨h.1, by rw [g.2.2.2 9 (by omega) (by omega) (by omega) (by omega)]; exact h.2.1, fun i hi => ?_, h.2.2.2⟩
  rw [g.2.2.1 (G 16) (hG.ne (by omega) (by omega) (by omega))]
  exact h.2.2.1 i hi
theorem X5_isByte_w {G : Nat → Nat} {c : Hp} {t : Nat → Nat} {n p lo hi : Nat} (hF : FT G c) (hT : Tx G c t n) (hp : hI c (G 10) 12 = nv p) (hp2 : p ≤ n) (hl : lo < 1000) (hh : hi < 1000) (Q : Int32 → Hp → Prop) : Wp (X5_isByte (G 10) (nv lo) (nv hi)) c Q ↔ Q (if p < n ∧ lo ≤ t p ∧ t p ≤ hi then nv 1 else nv 0) c := by
  obtain ⟨h1, h2, h3, h4⟩ := hT
  by_cases g : p < n
  · have ht := h4 p
    have e3 := h3 p g
    by_cases q : lo ≤ t p ∧ t p ≤ hi
    · rw [if_pos ⟨g, q⟩]
      have hb : bw (nv (t p)) (nv lo) (nv hi) = nv 1 := by
        unfold bw
        rw [if_neg (by rw [nv_lt (by omega) (by omega)]; omega), if_neg (by rw [nv_lt (by omega) (by omega)]; omega)]
        rfl
      simp (disch := omega) only [X5_isByte, X5_isByte_32, X5_isByte_33, ↓w_bd, ↓w_rt, ↓w_bh, sm_l, sm_r, ↓w_okr, ↓w_nm, ↓w_ite, ↓reduceIte, not_true_eq_false, not_false_eq_true, and_true, true_and, and_self, Option.some.injEq, reduceCtorEq, eq_self, ↓w_rc, ↓w_gI, ↓w_gR, ↓w_aN, ↓w_aI, ↓w_aR, ↓w_aL, ↓w_pI, ↓w_pR, ↓w_sI, ↓w_sR, ↓w_sL, ↓w_nO, ↓w_nA, ↓w_nL, ↓w_ca, ↓w_ca0, ↓w_gS, ↓w_gK, ↓w_dv, ↓w_tw, ↓w_rz, ↓w_no, nv_lit, nv_f, nv_add, nv_mul, nv_sub, nv_le, nv_lt, nv_eq, nv_cl, Nat.reduceMod, Nat.reduceMul, Nat.reduceAdd, Nat.zero_add, Nat.add_zero, Nat.mul_zero, decide_eq_true_eq, nv_inT, hF, hp, h2, e3, X5_in_w, hb, n10, nrk21, show ¬ n ≤ p by omega]
    · rw [if_neg (fun e => q e.2)]
      have hb : bw (nv (t p)) (nv lo) (nv hi) = nv 0 := by
        unfold bw
        by_cases c1 : t p < lo
        · rw [if_pos (by rw [nv_lt (by omega) (by omega)]; exact c1)]
          rfl
        · rw [if_neg (by rw [nv_lt (by omega) (by omega)]; exact c1), if_pos (by rw [nv_lt (by omega) (by omega)]; omega)]
          rfl
      simp (disch := omega) only [X5_isByte, X5_isByte_32, X5_isByte_33, ↓w_bd, ↓w_rt, ↓w_bh, sm_l, sm_r, ↓w_okr, ↓w_nm, ↓w_ite, ↓reduceIte, not_true_eq_false, not_false_eq_true, and_true, true_and, and_self, Option.some.injEq, reduceCtorEq, eq_self, ↓w_rc, ↓w_gI, ↓w_gR, ↓w_aN, ↓w_aI, ↓w_aR, ↓w_aL, ↓w_pI, ↓w_pR, ↓w_sI, ↓w_sR, ↓w_sL, ↓w_nO, ↓w_nA, ↓w_nL, ↓w_ca, ↓w_ca0, ↓w_gS, ↓w_gK, ↓w_dv, ↓w_tw, ↓w_rz, ↓w_no, nv_lit, nv_f, nv_add, nv_mul, nv_sub, nv_le, nv_lt, nv_eq, nv_cl, Nat.reduceMod, Nat.reduceMul, Nat.reduceAdd, Nat.zero_add, Nat.add_zero, Nat.mul_zero, decide_eq_true_eq, nv_inT, hF, hp, h2, e3, X5_in_w, hb, nrk20, show ¬ n ≤ p by omega]
  · rw [if_neg (fun e => g e.1)]
    simp (disch := omega) only [X5_isByte, X5_isByte_32, X5_isByte_33, ↓w_bd, ↓w_rt, ↓w_bh, sm_l, sm_r, ↓w_okr, ↓w_nm, ↓w_ite, ↓reduceIte, not_true_eq_false, not_false_eq_true, and_true, true_and, and_self, Option.some.injEq, reduceCtorEq, eq_self, ↓w_rc, ↓w_gI, ↓w_gR, ↓w_aN, ↓w_aI, ↓w_aR, ↓w_aL, ↓w_pI, ↓w_pR, ↓w_sI, ↓w_sR, ↓w_sL, ↓w_nO, ↓w_nA, ↓w_nL, ↓w_ca, ↓w_ca0, ↓w_gS, ↓w_gK, ↓w_dv, ↓w_tw, ↓w_rz, ↓w_no, nv_lit, nv_f, nv_add, nv_mul, nv_sub, nv_le, nv_lt, nv_eq, nv_cl, Nat.reduceMod, Nat.reduceMul, Nat.reduceAdd, Nat.zero_add, Nat.add_zero, Nat.mul_zero, decide_eq_true_eq, nv_inT, hF, hp, h2, nrk20, show n ≤ p by omega]
theorem byte_1 {t : Nat → Nat} {n p v : Nat} (h : ¬ (p < n ∧ t p = v)) : (if p < n ∧ v ≤ t p ∧ t p ≤ v then nv 1 else nv 0) = nv 0 := if_neg (fun e => h ⟨e.1, by omega⟩)
theorem X5_next_w {G : Nat → Nat} {c : Hp} {t : Nat → Nat} {n p s e k : Nat} (hG : GD G) (hF : FT G c) (hT : Tx G c t n) (hp : hI c (G 10) 12 = nv p) (tk : Tok t n p s e k) (hse : s ≤ e) (hen : e ≤ n) (Q : Unit → Hp → Prop)
    (kk : ∀ d, Tr G c d → Rdt G d s e k → (k = 2 → hI d (G 10) 15 = nv (tv t s (e - s))) → Q () d) : Wp (X5_next (G 10)) c Q := by
  obtain ⟨⟨r1, r2, r3, r4⟩, cs5⟩ := tk
  have hn5 := hT.1
  have ht := hT.2.2.2
  -- a word
  have word : k = 1 → Run (fun i => ltr (t i)) n s e → ∀ (f i : Nat), i ≤ e → e - i < f → s ≤ i → ∀ d, Tr G c d → hI d (G 10) 12 = nv i → hI d (G 10) 13 = nv s → Wp (X5_next_73 f (G 10)) d Q := by
    intro hk1 hr
    refine loopUp _ e ?_ ?_
    · intro f hs d hd h12 h13
      have fd := hd.f hF
      have hb : (if e < n ∧ 97 ≤ t e ∧ t e ≤ 122 then nv 1 else nv 0) = nv 0 := if_neg (fun g => by
        rcases hr.2.2.2 with q | q
        · omega
        · exact q g.2)
      have hby := fun Q => X5_isByte_w (lo := 97) (hi := 122) fd (hT.tr hG hd) h12 hen (by omega) (by omega) Q
      rw [hb] at hby
      simp (disch := omega) only [X5_next_73, X5_next_223, ↓w_bd, ↓w_rt, ↓w_bh, sm_l, sm_r, ↓w_okr, ↓w_nm, ↓w_ite, ↓reduceIte, not_true_eq_false, not_false_eq_true, and_true, true_and, and_self, Option.some.injEq, reduceCtorEq, eq_self, ↓w_rc, ↓w_gI, ↓w_gR, ↓w_aN, ↓w_aI, ↓w_aR, ↓w_aL, ↓w_pI, ↓w_pR, ↓w_sI, ↓w_sR, ↓w_sL, ↓w_nO, ↓w_nA, ↓w_nL, ↓w_ca, ↓w_ca0, ↓w_gS, ↓w_gK, ↓w_dv, ↓w_tw, ↓w_rz, ↓w_no, nv_lit, nv_f, nv_add, nv_mul, nv_sub, nv_le, nv_lt, nv_eq, nv_cl, Nat.reduceMod, Nat.reduceMul, Nat.reduceAdd, Nat.zero_add, Nat.add_zero, Nat.mul_zero, decide_eq_true_eq, nv_inT, fd, hby, okn]
      refine kk _ (hd.w (by omega) _) ⟨?_, ?_, ?_⟩ (fun h => by omega)
      · rw [hI_wI, up1_s, up1_n _ _ (by omega)]; exact h12
      · rw [hI_wI, up1_s, up1_n _ _ (by omega)]; exact h13
      · rw [hI_wI, up1_s, up1_s, hk1]
    · intro f i hi ih hs d hd h12 h13
      have fd := hd.f hF
      have hl := hr.2.2.1 i hs hi
      have hb : (if i < n ∧ 97 ≤ t i ∧ t i ≤ 122 then nv 1 else nv 0) = nv 1 := if_pos ⟨by omega, hl⟩
      have hby := fun Q => X5_isByte_w (lo := 97) (hi := 122) fd (hT.tr hG hd) h12 (by omega) (by omega) (by omega) Q
      rw [hb] at hby
      simp (disch := omega) only [X5_next_73, X5_next_223, ↓w_bd, ↓w_rt, ↓w_bh, sm_l, sm_r, ↓w_okr, ↓w_nm, ↓w_ite, ↓reduceIte, not_true_eq_false, not_false_eq_true, and_true, true_and, and_self, Option.some.injEq, reduceCtorEq, eq_self, ↓w_rc, ↓w_gI, ↓w_gR, ↓w_aN, ↓w_aI, ↓w_aR, ↓w_aL, ↓w_pI, ↓w_pR, ↓w_sI, ↓w_sR, ↓w_sL, ↓w_nO, ↓w_nA, ↓w_nL, ↓w_ca, ↓w_ca0, ↓w_gS, ↓w_gK, ↓w_dv, ↓w_tw, ↓w_rz, ↓w_no, nv_lit, nv_f, nv_add, nv_mul, nv_sub, nv_le, nv_lt, nv_eq, nv_cl, Nat.reduceMod, Nat.reduceMul, Nat.reduceAdd, Nat.zero_add, Nat.add_zero, Nat.mul_zero, decide_eq_true_eq, nv_inT, fd, hby, n10, h12, okn]
      refine ih (by omega) _ (hd.w (by omega) _) ?_ ?_
      · rw [hI_wI, up1_s, up1_s]
      · rw [hI_wI, up1_s, up1_n _ _ (by omega)]; exact h13
  -- a number
  have numb : k = 2 → Run (fun i => dgt (t i)) n s e → ∀ (f i : Nat), i ≤ e → e - i < f → s ≤ i → ∀ d, Tr G c d → hI d (G 10) 12 = nv i → hI d (G 10) 13 = nv s → hI d (G 10) 15 = nv (tv t s (i - s)) → Wp (X5_next_121 f (G 10)) d Q := by
    intro hk2 hr
    refine loopUp _ e ?_ ?_
    · intro f hs d hd h12 h13 h15
      have fd := hd.f hF
      have hb : (if e < n ∧ 48 ≤ t e ∧ t e ≤ 57 then nv 1 else nv 0) = nv 0 := if_neg (fun g => by
        rcases hr.2.2.2 with q | q
        · omega
        · exact q g.2)
      have hby := fun Q => X5_isByte_w (lo := 48) (hi := 57) fd (hT.tr hG hd) h12 hen (by omega) (by omega) Q
      rw [hb] at hby
      simp (disch := omega) only [X5_next_121, X5_next_223, ↓w_bd, ↓w_rt, ↓w_bh, sm_l, sm_r, ↓w_okr, ↓w_nm, ↓w_ite, ↓reduceIte, not_true_eq_false, not_false_eq_true, and_true, true_and, and_self, Option.some.injEq, reduceCtorEq, eq_self, ↓w_rc, ↓w_gI, ↓w_gR, ↓w_aN, ↓w_aI, ↓w_aR, ↓w_aL, ↓w_pI, ↓w_pR, ↓w_sI, ↓w_sR, ↓w_sL, ↓w_nO, ↓w_nA, ↓w_nL, ↓w_ca, ↓w_ca0, ↓w_gS, ↓w_gK, ↓w_dv, ↓w_tw, ↓w_rz, ↓w_no, nv_lit, nv_f, nv_add, nv_mul, nv_sub, nv_le, nv_lt, nv_eq, nv_cl, Nat.reduceMod, Nat.reduceMul, Nat.reduceAdd, Nat.zero_add, Nat.add_zero, Nat.mul_zero, decide_eq_true_eq, nv_inT, fd, hby, okn]
      refine kk _ (hd.w (by omega) _) ⟨?_, ?_, ?_⟩ (fun h => ?_)
      · rw [hI_wI, up1_s, up1_n _ _ (by omega)]; exact h12
      · rw [hI_wI, up1_s, up1_n _ _ (by omega)]; exact h13
      · rw [hI_wI, up1_s, up1_s, hk2]
      · rw [hI_wI, up1_s, up1_n _ _ (by omega)]; exact h15
    · intro f i hi ih hs d hd h12 h13 h15
      have fd := hd.f hF
      have hl := hr.2.2.1 i hs hi
      have hTd := hT.tr hG hd
      have hb : (if i < n ∧ 48 ≤ t i ∧ t i ≤ 57 then nv 1 else nv 0) = nv 1 := if_pos ⟨by omega, hl⟩
      have hby := fun Q => X5_isByte_w (lo := 48) (hi := 57) fd hTd h12 (by omega) (by omega) (by omega) Q
      rw [hb] at hby
      have bv := tv_b t s ht (i - s)
      have e16 := hTd.2.2.1 i (by omega)
      have hl1 := hl.1
      have hl2 := hl.2
      have st : tv t s (i + 1 - s) = if tv t s (i - s) ≤ 999999 then 10 * tv t s (i - s) + t i - 48 else tv t s (i - s) := by
        rw [show i + 1 - s = (i - s) + 1 by omega]
        show (if tv t s (i - s) ≤ 999999 then 10 * tv t s (i - s) + t (s + (i - s)) - 48 else tv t s (i - s)) = _
        rw [show s + (i - s) = i by omega]
      have i12 : ∀ v, hI (hwI d (G 10) (up1 (hI d (G 10)) 15 v)) (G 10) 12 = nv i := fun v => by rw [hI_wI, up1_s, up1_n _ _ (by omega)]; exact h12
      have go : ∀ v, v = nv (tv t s (i + 1 - s)) → Wp (X5_next_121 f (G 10)) (hwI (hwI d (G 10) (up1 (hI d (G 10)) 15 v)) (G 10) (up1 (hI (hwI d (G 10) (up1 (hI d (G 10)) 15 v)) (G 10)) 12 (nv (i + 1)))) Q := fun v hv => by
        refine ih (by omega) _ ((hd.w (by omega) _).w (by omega) _) ?_ ?_ ?_
        · rw [hI_wI, up1_s, up1_s]
        · rw [hI_wI, up1_s, up1_n _ _ (by omega), hI_wI, up1_s, up1_n _ _ (by omega)]; exact h13
        · rw [hI_wI, up1_s, up1_n _ _ (by omega), hI_wI, up1_s, up1_s]; exact hv
      by_cases c9 : tv t s (i - s) ≤ 999999
      · rw [if_pos c9] at st
        simp (disch := omega) only [X5_next_121, X5_next_223, X5_next_169, ↓w_bd, ↓w_rt, ↓w_bh, sm_l, sm_r, ↓w_okr, ↓w_nm, ↓w_ite, ↓reduceIte, not_true_eq_false, not_false_eq_true, and_true, true_and, and_self, Option.some.injEq, reduceCtorEq, eq_self, ↓w_rc, ↓w_gI, ↓w_gR, ↓w_aN, ↓w_aI, ↓w_aR, ↓w_aL, ↓w_pI, ↓w_pR, ↓w_sI, ↓w_sR, ↓w_sL, ↓w_nO, ↓w_nA, ↓w_nL, ↓w_ca, ↓w_ca0, ↓w_gS, ↓w_gK, ↓w_dv, ↓w_tw, ↓w_rz, ↓w_no, nv_lit, nv_f, nv_add, nv_mul, nv_sub, nv_le, nv_lt, nv_eq, nv_cl, Nat.reduceMod, Nat.reduceMul, Nat.reduceAdd, Nat.zero_add, Nat.add_zero, Nat.mul_zero, decide_eq_true_eq, nv_inT, fd, hby, n10, h15, c9, h12, e16, hK_wI, i12, okn]
        exact go _ (by rw [st])
      · rw [if_neg c9] at st
        simp (disch := omega) only [X5_next_121, X5_next_223, X5_next_169, ↓w_bd, ↓w_rt, ↓w_bh, sm_l, sm_r, ↓w_okr, ↓w_nm, ↓w_ite, ↓reduceIte, not_true_eq_false, not_false_eq_true, and_true, true_and, and_self, Option.some.injEq, reduceCtorEq, eq_self, ↓w_rc, ↓w_gI, ↓w_gR, ↓w_aN, ↓w_aI, ↓w_aR, ↓w_aL, ↓w_pI, ↓w_pR, ↓w_sI, ↓w_sR, ↓w_sL, ↓w_nO, ↓w_nA, ↓w_nL, ↓w_ca, ↓w_ca0, ↓w_gS, ↓w_gK, ↓w_dv, ↓w_tw, ↓w_rz, ↓w_no, nv_lit, nv_f, nv_add, nv_mul, nv_sub, nv_le, nv_lt, nv_eq, nv_cl, Nat.reduceMod, Nat.reduceMul, Nat.reduceAdd, Nat.zero_add, Nat.add_zero, Nat.mul_zero, decide_eq_true_eq, nv_inT, fd, hby, n10, h15, c9, h12, hK_wI, i12, okn]
        exact go _ (by rw [st])
  -- blanks
  have l : ∀ (f i : Nat), i ≤ s → s - i < f → p ≤ i → ∀ d, Tr G c d → hI d (G 10) 12 = nv i → Wp (X5_next_0 f (G 10)) d Q := by
    refine loopUp _ s ?_ ?_
    · intro f hs d hd h12
      have fd := hd.f hF
      have hTd := hT.tr hG hd
      have nb : ¬ (s < n ∧ blk (t s)) := fun g => by
        rcases r4 with q | q
        · omega
        · exact q g.2
      have b32 := fun Q => X5_isByte_w (lo := 32) (hi := 32) fd hTd h12 r2 (by omega) (by omega) Q
      rw [byte_1 (fun g => nb ⟨g.1, .inl g.2⟩)] at b32
      have b10 := fun Q => X5_isByte_w (lo := 10) (hi := 10) fd hTd h12 r2 (by omega) (by omega) Q
      rw [byte_1 (fun g => nb ⟨g.1, .inr g.2⟩)] at b10
      obtain ⟨d2, ed2⟩ : ∃ d2, d2 = hwI d (G 10) (up1 (hI d (G 10)) 13 (nv s)) := ⟨_, rfl⟩
      have hd2 : Tr G c d2 := by rw [ed2]; exact hd.w (by omega) _
      have f2 := hd2.f hF
      have hT2 := hT.tr hG hd2
      have p12 : hI d2 (G 10) 12 = nv s := by rw [ed2, hI_wI, up1_s, up1_n _ _ (by omega)]; exact h12
      have p13 : hI d2 (G 10) 13 = nv s := by rw [ed2, hI_wI, up1_s, up1_s]
      have p9 : hI d2 (G 10) 9 = nv n := hT2.2.1
      have one : ∀ v, k = v → e = s + 1 → Q () (hwI (hwI d2 (G 10) (up1 (hI d2 (G 10)) 14 (nv v))) (G 10) (up1 (hI (hwI d2 (G 10) (up1 (hI d2 (G 10)) 14 (nv v))) (G 10)) 12 (nv (s + 1)))) ∨ k = 2 := fun v hv he => by
        by_cases k2 : k = 2
        · exact .inr k2
        · left
          refine kk _ ((hd2.w (by omega) _).w (by omega) _) ⟨?_, ?_, ?_⟩ (fun h => absurd h k2)
          · rw [hI_wI, up1_s, up1_s, he]
          · rw [hI_wI, up1_s, up1_n _ _ (by omega), hI_wI, up1_s, up1_n _ _ (by omega)]; exact p13
          · rw [hI_wI, up1_s, up1_n _ _ (by omega), hI_wI, up1_s, up1_s, hv]
      have i12 : ∀ v, hI (hwI d2 (G 10) (up1 (hI d2 (G 10)) 14 v)) (G 10) 12 = nv s := fun v => by rw [hI_wI, up1_s, up1_n _ _ (by omega)]; exact p12
      have bl := fun Q => X5_isByte_w (lo := 97) (hi := 122) f2 hT2 p12 r2 (by omega) (by omega) Q
      have bd' := fun Q => X5_isByte_w (lo := 48) (hi := 57) f2 hT2 p12 r2 (by omega) (by omega) Q
      have b59 := fun Q => X5_isByte_w (lo := 59) (hi := 59) f2 hT2 p12 r2 (by omega) (by omega) Q
      rcases cs5 with ⟨k0, sn, es⟩ | ⟨k1, sn, hl, hr⟩ | ⟨k2, sn, hl, hr⟩ | ⟨k3, sn, hl, he⟩ | ⟨k4, sn, h1, h2, h3, he⟩
      · simp (disch := omega) only [X5_next_0, X5_next_223, ↓w_bd, ↓w_rt, ↓w_bh, sm_l, sm_r, ↓w_okr, ↓w_nm, ↓w_ite, ↓reduceIte, not_true_eq_false, not_false_eq_true, and_true, true_and, and_self, Option.some.injEq, reduceCtorEq, eq_self, ↓w_rc, ↓w_gI, ↓w_gR, ↓w_aN, ↓w_aI, ↓w_aR, ↓w_aL, ↓w_pI, ↓w_pR, ↓w_sI, ↓w_sR, ↓w_sL, ↓w_nO, ↓w_nA, ↓w_nL, ↓w_ca, ↓w_ca0, ↓w_gS, ↓w_gK, ↓w_dv, ↓w_tw, ↓w_rz, ↓w_no, nv_lit, nv_f, nv_add, nv_mul, nv_sub, nv_le, nv_lt, nv_eq, nv_cl, Nat.reduceMod, Nat.reduceMul, Nat.reduceAdd, Nat.zero_add, Nat.add_zero, Nat.mul_zero, decide_eq_true_eq, nv_inT, fd, b32, b10, h12, okn, ← ed2, f2, p12, p9, eq_true sn]
        refine kk _ (hd2.w (by omega) _) ⟨?_, ?_, ?_⟩ (fun h => by omega)
        · rw [hI_wI, up1_s, up1_n _ _ (by omega), es]; exact p12
        · rw [hI_wI, up1_s, up1_n _ _ (by omega)]; exact p13
        · rw [hI_wI, up1_s, up1_s, k0]
      · have ne : ¬ s = n := by omega
        rw [if_pos ⟨sn, hl⟩] at bl
        simp (disch := omega) only [X5_next_0, X5_next_223, ↓w_bd, ↓w_rt, ↓w_bh, sm_l, sm_r, ↓w_okr, ↓w_nm, ↓w_ite, ↓reduceIte, not_true_eq_false, not_false_eq_true, and_true, true_and, and_self, Option.some.injEq, reduceCtorEq, eq_self, ↓w_rc, ↓w_gI, ↓w_gR, ↓w_aN, ↓w_aI, ↓w_aR, ↓w_aL, ↓w_pI, ↓w_pR, ↓w_sI, ↓w_sR, ↓w_sL, ↓w_nO, ↓w_nA, ↓w_nL, ↓w_ca, ↓w_ca0, ↓w_gS, ↓w_gK, ↓w_dv, ↓w_tw, ↓w_rz, ↓w_no, nv_lit, nv_f, nv_add, nv_mul, nv_sub, nv_le, nv_lt, nv_eq, nv_cl, Nat.reduceMod, Nat.reduceMul, Nat.reduceAdd, Nat.zero_add, Nat.add_zero, Nat.mul_zero, decide_eq_true_eq, nv_inT, fd, b32, b10, h12, okn, ← ed2, f2, p12, p9, ne, bl, n10]
        exact word k1 hr FU s hse (by unfold FU; omega) (Nat.le_refl _) d2 hd2 p12 p13
      · have ne : ¬ s = n := by omega
        have nl : ¬ (s < n ∧ 97 ≤ t s ∧ t s ≤ 122) := fun g => by have := hl.2; omega
        rw [if_neg nl] at bl
        rw [if_pos ⟨sn, hl⟩] at bd'
        simp (disch := omega) only [X5_next_0, X5_next_223, ↓w_bd, ↓w_rt, ↓w_bh, sm_l, sm_r, ↓w_okr, ↓w_nm, ↓w_ite, ↓reduceIte, not_true_eq_false, not_false_eq_true, and_true, true_and, and_self, Option.some.injEq, reduceCtorEq, eq_self, ↓w_rc, ↓w_gI, ↓w_gR, ↓w_aN, ↓w_aI, ↓w_aR, ↓w_aL, ↓w_pI, ↓w_pR, ↓w_sI, ↓w_sR, ↓w_sL, ↓w_nO, ↓w_nA, ↓w_nL, ↓w_ca, ↓w_ca0, ↓w_gS, ↓w_gK, ↓w_dv, ↓w_tw, ↓w_rz, ↓w_no, nv_lit, nv_f, nv_add, nv_mul, nv_sub, nv_le, nv_lt, nv_eq, nv_cl, Nat.reduceMod, Nat.reduceMul, Nat.reduceAdd, Nat.zero_add, Nat.add_zero, Nat.mul_zero, decide_eq_true_eq, nv_inT, fd, b32, b10, h12, okn, ← ed2, f2, p12, p9, ne, bl, bd', n10]
        refine numb k2 hr FU s hse (by unfold FU; omega) (Nat.le_refl _) _ (hd2.w (by omega) _) ?_ ?_ ?_
        · rw [hI_wI, up1_s, up1_n _ _ (by omega)]; exact p12
        · rw [hI_wI, up1_s, up1_n _ _ (by omega)]; exact p13
        · rw [hI_wI, up1_s, up1_s, Nat.sub_self]; rfl
      · have ne : ¬ s = n := by omega
        have nl : ¬ (s < n ∧ 97 ≤ t s ∧ t s ≤ 122) := fun g => by omega
        have nd : ¬ (s < n ∧ 48 ≤ t s ∧ t s ≤ 57) := fun g => by omega
        rw [if_neg nl] at bl
        rw [if_neg nd] at bd'
        rw [if_pos ⟨sn, by omega, by omega⟩] at b59
        simp (disch := omega) only [X5_next_0, X5_next_223, X5_next_210, ↓w_bd, ↓w_rt, ↓w_bh, sm_l, sm_r, ↓w_okr, ↓w_nm, ↓w_ite, ↓reduceIte, not_true_eq_false, not_false_eq_true, and_true, true_and, and_self, Option.some.injEq, reduceCtorEq, eq_self, ↓w_rc, ↓w_gI, ↓w_gR, ↓w_aN, ↓w_aI, ↓w_aR, ↓w_aL, ↓w_pI, ↓w_pR, ↓w_sI, ↓w_sR, ↓w_sL, ↓w_nO, ↓w_nA, ↓w_nL, ↓w_ca, ↓w_ca0, ↓w_gS, ↓w_gK, ↓w_dv, ↓w_tw, ↓w_rz, ↓w_no, nv_lit, nv_f, nv_add, nv_mul, nv_sub, nv_le, nv_lt, nv_eq, nv_cl, Nat.reduceMod, Nat.reduceMul, Nat.reduceAdd, Nat.zero_add, Nat.add_zero, Nat.mul_zero, decide_eq_true_eq, nv_inT, fd, b32, b10, h12, okn, ← ed2, f2, p12, p9, ne, bl, bd', b59, n10, hK_wI, i12]
        exact (one 3 k3 he).resolve_right (by omega)
      · have ne : ¬ s = n := by omega
        have nl : ¬ (s < n ∧ 97 ≤ t s ∧ t s ≤ 122) := fun g => h1 g.2
        have nd : ¬ (s < n ∧ 48 ≤ t s ∧ t s ≤ 57) := fun g => h2 g.2
        rw [if_neg nl] at bl
        rw [if_neg nd] at bd'
        rw [byte_1 (fun g => h3 g.2)] at b59
        simp (disch := omega) only [X5_next_0, X5_next_223, X5_next_210, ↓w_bd, ↓w_rt, ↓w_bh, sm_l, sm_r, ↓w_okr, ↓w_nm, ↓w_ite, ↓reduceIte, not_true_eq_false, not_false_eq_true, and_true, true_and, and_self, Option.some.injEq, reduceCtorEq, eq_self, ↓w_rc, ↓w_gI, ↓w_gR, ↓w_aN, ↓w_aI, ↓w_aR, ↓w_aL, ↓w_pI, ↓w_pR, ↓w_sI, ↓w_sR, ↓w_sL, ↓w_nO, ↓w_nA, ↓w_nL, ↓w_ca, ↓w_ca0, ↓w_gS, ↓w_gK, ↓w_dv, ↓w_tw, ↓w_rz, ↓w_no, nv_lit, nv_f, nv_add, nv_mul, nv_sub, nv_le, nv_lt, nv_eq, nv_cl, Nat.reduceMod, Nat.reduceMul, Nat.reduceAdd, Nat.zero_add, Nat.add_zero, Nat.mul_zero, decide_eq_true_eq, nv_inT, fd, b32, b10, h12, okn, ← ed2, f2, p12, p9, ne, bl, bd', b59, n10, hK_wI, i12]
        exact (one 4 k4 he).resolve_right (by omega)
    · intro f i hi ih hs d hd h12
      have fd := hd.f hF
      have hTd := hT.tr hG hd
      have hbl := r3 i hs hi
      have b32 := fun Q => X5_isByte_w (lo := 32) (hi := 32) fd hTd h12 (by omega) (by omega) (by omega) Q
      have b10 := fun Q => X5_isByte_w (lo := 10) (hi := 10) fd hTd h12 (by omega) (by omega) (by omega) Q
      have go : Wp (X5_next_0 f (G 10)) (hwI d (G 10) (up1 (hI d (G 10)) 12 (nv (i + 1)))) Q := ih (by omega) _ (hd.w (by omega) _) (by rw [hI_wI, up1_s, up1_s])
      rcases hbl with q | q
      · rw [if_pos ⟨by omega, by omega, by omega⟩] at b32
        simp (disch := omega) only [X5_next_0, X5_next_22, ↓w_bd, ↓w_rt, ↓w_bh, sm_l, sm_r, ↓w_okr, ↓w_nm, ↓w_ite, ↓reduceIte, not_true_eq_false, not_false_eq_true, and_true, true_and, and_self, Option.some.injEq, reduceCtorEq, eq_self, ↓w_rc, ↓w_gI, ↓w_gR, ↓w_aN, ↓w_aI, ↓w_aR, ↓w_aL, ↓w_pI, ↓w_pR, ↓w_sI, ↓w_sR, ↓w_sL, ↓w_nO, ↓w_nA, ↓w_nL, ↓w_ca, ↓w_ca0, ↓w_gS, ↓w_gK, ↓w_dv, ↓w_tw, ↓w_rz, ↓w_no, nv_lit, nv_f, nv_add, nv_mul, nv_sub, nv_le, nv_lt, nv_eq, nv_cl, Nat.reduceMod, Nat.reduceMul, Nat.reduceAdd, Nat.zero_add, Nat.add_zero, Nat.mul_zero, decide_eq_true_eq, nv_inT, fd, b32, n10, h12, okn]
        exact go
      · rw [byte_1 (fun g => by omega)] at b32
        rw [if_pos ⟨by omega, by omega, by omega⟩] at b10
        simp (disch := omega) only [X5_next_0, X5_next_22, ↓w_bd, ↓w_rt, ↓w_bh, sm_l, sm_r, ↓w_okr, ↓w_nm, ↓w_ite, ↓reduceIte, not_true_eq_false, not_false_eq_true, and_true, true_and, and_self, Option.some.injEq, reduceCtorEq, eq_self, ↓w_rc, ↓w_gI, ↓w_gR, ↓w_aN, ↓w_aI, ↓w_aR, ↓w_aL, ↓w_pI, ↓w_pR, ↓w_sI, ↓w_sR, ↓w_sL, ↓w_nO, ↓w_nA, ↓w_nL, ↓w_ca, ↓w_ca0, ↓w_gS, ↓w_gK, ↓w_dv, ↓w_tw, ↓w_rz, ↓w_no, nv_lit, nv_f, nv_add, nv_mul, nv_sub, nv_le, nv_lt, nv_eq, nv_cl, Nat.reduceMod, Nat.reduceMul, Nat.reduceAdd, Nat.zero_add, Nat.add_zero, Nat.mul_zero, decide_eq_true_eq, nv_inT, fd, b32, b10, n10, h12, okn]
        exact go
  exact l FU p r1 (by unfold FU; omega) (Nat.le_refl _) c (Tr.rf G c) hp
