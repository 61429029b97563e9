/-! THE COMPONENT'S READER -/
/-- the reader's cell rq stands at place p -/
def Rb (G : Nat → Nat) (d : Hp) (rq p : Nat) : Prop := hK d rq = 6 ∧ hR d rq 5 = some (G 0) ∧ hI d rq 0 = nv p
def kc (k : Nat) : Nat := if k = 1 then 119 else if k = 2 then 110 else if k = 3 then 59 else if k = 4 then 63 else 0
/-- the reader holds a token -/
def Rc (G : Nat → Nat) (d : Hp) (rq : Nat) (S : Gst) (s e k w : Nat) : Prop := Rb G d rq e ∧ hI d rq 1 = nv s ∧ hI d rq 3 = nv (kc k) ∧ hR d rq 4 = some w ∧ (k = 2 → hI d rq 2 = nv (min 1000000 (tv (tb S) s (e - s)))) ∧ Sg d w (if k = 1 then e - s else 0) (fun i => tb S (s + i)) ∧ Hs d w (if k = 1 then e - s else 0) (fun i => tb S (s + i)) ∧ w ≠ rq
theorem X6_here_w {G : Nat → Nat} {B : Nat → Nat × Nat} {S : Gst} {d : Hp} {rq p : Nat} (hC : JC G B S d) (h : Rb G d rq p) (hp : p ≤ gl S) (Q : Int32 → Hp → Prop) : Wp (X6_here rq) d Q ↔ Q (if p < gl S then nv (tb S p) else -nv 1) d := by
  obtain ⟨r1, r2, r3⟩ := h
  have hJ := hC.2.1
  obtain ⟨l1, l2, l3⟩ := hC.2.2.2.2.2.2.1
  by_cases c : p < gl S
  · have e := (l3 p c).1
    have m := tb_v S p
    rw [if_pos c]
    simp (disch := omega) only [X6_here, X6_here_34, ↓w_bd, ↓w_rt, ↓w_bh, sm_l, sm_r, ↓w_okr, ↓w_nm, ↓w_ite, ↓reduceIte, not_true_eq_false, not_false_eq_true, and_true, true_and, and_self, Option.some.injEq, reduceCtorEq, eq_self, ↓w_rc, ↓w_gI, ↓w_gR, ↓w_aN, ↓w_aI, ↓w_aR, ↓w_aL, ↓w_pI, ↓w_pR, ↓w_sI, ↓w_sR, ↓w_sL, ↓w_nO, ↓w_nA, ↓w_nL, ↓w_ca, ↓w_ca0, ↓w_gS, ↓w_gK, ↓w_dv, ↓w_tw, ↓w_rz, ↓w_no, nv_lit, nv_f, nv_add, nv_mul, nv_sub, nv_le, nv_lt, nv_eq, nv_cl, Nat.reduceMod, Nat.reduceMul, Nat.reduceAdd, Nat.zero_add, Nat.add_zero, Nat.mul_zero, decide_eq_true_eq, nv_inT, r1, r2, r3, hJ, l2, show ¬ gl S ≤ p by omega, e, m]
  · rw [if_neg c]
    simp (disch := omega) only [X6_here, X6_here_34, ↓w_bd, ↓w_rt, ↓w_bh, sm_l, sm_r, ↓w_okr, ↓w_nm, ↓w_ite, ↓reduceIte, not_true_eq_false, not_false_eq_true, and_true, true_and, and_self, Option.some.injEq, reduceCtorEq, eq_self, ↓w_rc, ↓w_gI, ↓w_gR, ↓w_aN, ↓w_aI, ↓w_aR, ↓w_aL, ↓w_pI, ↓w_pR, ↓w_sI, ↓w_sR, ↓w_sL, ↓w_nO, ↓w_nA, ↓w_nL, ↓w_ca, ↓w_ca0, ↓w_gS, ↓w_gK, ↓w_dv, ↓w_tw, ↓w_rz, ↓w_no, nv_lit, nv_f, nv_add, nv_mul, nv_sub, nv_le, nv_lt, nv_eq, nv_cl, Nat.reduceMod, Nat.reduceMul, Nat.reduceAdd, Nat.zero_add, Nat.add_zero, Nat.mul_zero, decide_eq_true_eq, nv_inT, r1, r2, r3, hJ, l2, show gl S ≤ p by omega]
theorem bw_in {x lo hi : Nat} (hx : x < 1000) (hl : lo < 1000) (hh : hi < 1000) : bw (nv x) (nv lo) (nv hi) = if lo ≤ x ∧ x ≤ hi then nv 1 else nv 0 := by
  unfold bw
  by_cases c1 : x < lo
  · rw [if_pos (by rw [nv_lt (by omega) (by omega)]; exact c1), if_neg (by omega)]
    rfl
  · rw [if_neg (by rw [nv_lt (by omega) (by omega)]; exact c1)]
    by_cases c2 : hi < x
    · rw [if_pos (by rw [nv_lt (by omega) (by omega)]; exact c2), if_neg (by omega)]
      rfl
    · rw [if_neg (by rw [nv_lt (by omega) (by omega)]; exact c2), if_pos (by omega)]
      rfl
theorem bw_m {lo hi : Nat} (hl : lo < 1000) : bw (-nv 1) (nv lo) (nv hi) = nv 0 := by
  unfold bw
  have : -nv 1 < nv lo := by
    rw [Int32.lt_iff_toInt_lt, nv_int (by omega)]
    have e : (-nv 1).toInt = -1 := by decide
    rw [e]
    omega
  rw [if_pos this]
  rfl
theorem here_bw {S : Gst} {p lo hi : Nat} (hl : lo < 1000) (hh : hi < 1000) : bw (if p < gl S then nv (tb S p) else -nv 1) (nv lo) (nv hi) = if p < gl S ∧ lo ≤ tb S p ∧ tb S p ≤ hi then nv 1 else nv 0 := by
  have := tb_b S p
  by_cases c : p < gl S
  · rw [if_pos c, bw_in (by omega) hl hh]
    by_cases d : lo ≤ tb S p ∧ tb S p ≤ hi
    · rw [if_pos d, if_pos ⟨c, d⟩]
    · rw [if_neg d, if_neg (fun e => d e.2)]
  · rw [if_neg c, bw_m hl, if_neg (fun e => c e.1)]
theorem ch16 {c : Nat} (h : c ≤ 255) : ((nv c).toUInt32 % 65536).toInt32 = nv c := by
  have hf : ∀ c : Fin 256, ((nv c.val).toUInt32 % 65536).toInt32 = nv c.val := by decide +kernel
  exact hf ⟨c, by omega⟩
theorem okc {c : Nat} (h : c ≤ 255) : okN 3 (nv c) = true := by
  have hf : ∀ c : Fin 256, okN 3 (nv c.val) = true := by decide +kernel
  exact hf ⟨c, by omega⟩
theorem Rb.jc {G : Nat → Nat} {d : Hp} {rq p : Nat} (h : Rb G d rq p) : hK d rq = 6 := h.1
/-- the reader writes one of its own numbers -/
theorem Rb.w {G : Nat → Nat} {d : Hp} {rq p j : Nat} {v : Int32} (h : Rb G d rq p) (hj : j ≠ 0) : Rb G (hwI d rq (up1 (hI d rq) j v)) rq p := by
  obtain ⟨h1, h2, h3⟩ := h
  exact ⟨h1, h2, by rw [hI_wI, up1_s, up1_n _ _ (by omega)]; exact h3⟩
theorem Rb.w0 {G : Nat → Nat} {d : Hp} {rq p q : Nat} (h : Rb G d rq p) : Rb G (hwI d rq (up1 (hI d rq) 0 (nv q))) rq q := by
  obtain ⟨h1, h2, h3⟩ := h
  exact ⟨h1, h2, by rw [hI_wI, up1_s, up1_s]⟩
theorem Rb.wR {G : Nat → Nat} {d : Hp} {rq p : Nat} {v : Option Nat} (h : Rb G d rq p) : Rb G (hwR d rq (up1 (hR d rq) 4 v)) rq p := by
  obtain ⟨h1, h2, h3⟩ := h
  exact ⟨h1, by rw [hR_wR, up1_s, up1_n _ _ (by omega)]; exact h2, h3⟩
theorem Rb.ep {P : Nat → Prop} {G : Nat → Nat} {d e : Hp} {rq p : Nat} (h : Rb G d rq p) (g : EP P d e) (hz : rq < hSz d) (hP : ¬ P rq) : Rb G e rq p := by
  obtain ⟨h1, h2, h3⟩ := h
  have o := g.2.2 rq hz hP
  exact ⟨by rw [o.1]; exact h1, by rw [o.2.2.1]; exact h2, by rw [o.2.2.2]; exact h3⟩
theorem EP.trF {P P' : Nat → Prop} {a b c : Hp} (h : EP P a b) (g : EP P' b c) (f : ∀ q, q < hSz a → P' q → P q) : EP P a c := ⟨Nat.le_trans h.1 g.1, g.2.1.trans h.2.1, fun q hq hp => by
  have h1 := h.2.2 q hq hp
  have h2 := g.2.2 q (Nat.lt_of_lt_of_le hq h.1) (fun e => hp (f q hq e))
  exact ⟨h2.1.trans h1.1, h2.2.1.trans h1.2.1, h2.2.2.1.trans h1.2.2.1, h2.2.2.2.trans h1.2.2.2⟩⟩
theorem Bd.wq {d : Hp} {q v cap j q' : Nat} {f : Nat → Nat} (hB : Bd d q v cap j f) (h1 : q ≠ q') (h2 : v ≠ q') {f' : Nat → Int32} : Bd (hwI d q' f') q v cap j f := by
  obtain ⟨⟨k1, k2, k3, k4⟩, ⟨k5, k6⟩, hv, hjc, hne, zq, zv⟩ := hB
  exact ⟨⟨k1, k2, by rw [hI_wI, up1_n _ _ h1]; exact k3, by rw [hI_wI, up1_n _ _ h1]; exact k4⟩, ⟨k5, k6⟩, fun i hi => by rw [hI_wI, up1_n _ _ h2]; exact hv i hi, hjc, hne, zq, zv⟩
/-- a word is read, letter by letter -/
theorem X6_word_l {G : Nat → Nat} {B : Nat → Nat × Nat} {S : Gst} {a d0 : Hp} {rq s e q8 : Nat} (hC : JC G B S a) (hrq : hSz a ≤ rq) (hr : Run (fun i => ltr (tb S i)) (gl S) s e) (hq8 : hSz a ≤ q8) (hne : rq ≠ q8) (hq0 : hSz d0 ≤ q8) (Q : Unit → Hp → Prop)
    (kk : ∀ d' w, E0 a d' → EP (fun x => x = rq) d0 d' → Rb G d' rq e → hI d' rq 1 = nv s → hI d' rq 3 = nv 119 → hR d' rq 4 = some w → Sg d' w (e - s) (fun i => tb S (s + i)) → Hs d' w (e - s) (fun i => tb S (s + i)) → hSz d' ≤ hSz d0 + 5 + (e - s) / 8 → hSl d' ≤ hSl d0 + 60 + 6 * (e - s) → hSz a ≤ w → Q () d') :
    ∀ (f i : Nat), i ≤ e → e - i < f → s ≤ i → ∀ d v cap, E0 a d → EP (fun x => x = rq) d0 d → Rb G d rq i → hI d rq 1 = nv s → Bd d q8 v cap (i - s) (fun i => tb S (s + i)) → hSz a ≤ v → hSz d0 ≤ v → rq ≠ v → rq < hSz d → Cap cap → (cap = 16 ∨ cap ≤ 2 * (i - s)) → hSz d ≤ hSz d0 + 1 + 1 + cap / 16 → hSl d ≤ hSl d0 + 4 + 2 * cap → Wp (X6_advance_82 f rq (some q8)) d Q := by
  have gl5 := hC.2.2.2.2.2.2.1.1
  have en := hr.2.1
  refine loopUp _ e ?_ ?_
  · intro f hs d v cap hE hP hb h1 hB hva hv0 hrv hrz hc hc2 hz hl
    have hb1 := hb.1
    have hb0 := hb.2.2
    have hC' := hC.e0 hE
    have hh := fun Q => X6_here_w hC' hb en (Q := Q)
    have bwv : bw (if e < gl S then nv (tb S e) else -nv 1) (nv 97) (nv 122) = nv 0 := by
      rw [here_bw (by omega) (by omega), if_neg]
      rintro ⟨g1, g2, g3⟩
      rcases hr.2.2.2 with q | q
      · omega
      · exact q ⟨g2, g3⟩
    have hbk := hB.1.1
    have capb : cap ≤ 600 := by unfold Cap at hc; omega
    simp (disch := omega) only [X6_advance_82, X6_advance_239, ↓w_bd, ↓w_rt, ↓w_bh, sm_l, sm_r, ↓w_okr, ↓w_nm, ↓w_ite, ↓reduceIte, not_true_eq_false, not_false_eq_true, and_true, true_and, and_self, Option.some.injEq, reduceCtorEq, eq_self, ↓w_rc, ↓w_gI, ↓w_gR, ↓w_aN, ↓w_aI, ↓w_aR, ↓w_ca, ↓w_ca0, nv_lit, nv_f, nv_add, nv_mul, nv_sub, nv_le, nv_lt, nv_eq, nv_cl, Nat.reduceMod, Nat.reduceMul, Nat.reduceAdd, Nat.zero_add, Nat.add_zero, Nat.mul_zero, decide_eq_true_eq, nv_inT, hb1, hh, X1_isBetween_w, bwv, hbk]
    refine J3_str_w hB capb (by omega) (fun i hi => ?_) _ fun d2 e2 hsg hhs z2 l2 => ?_
    · exact Nat.le_trans (hr.2.2.1 (s + i) (by omega) (by omega)).2 (by omega)
    · have o := e2.2.2 rq hrz
      have k2 : hK d2 rq = 6 := by rw [o.1]; exact hb1
      have rb2 : Rb G d2 rq e := hb.ep (e2.ep (fun _ => False)) hrz id
      have hrw : rq ≠ hSz d := by omega
      obtain ⟨d3, ed3⟩ : ∃ d3, d3 = hwR d2 rq (up1 (hR d2 rq) 4 (some (hSz d))) := ⟨_, rfl⟩
      have k3 : hK d3 rq = 6 := by rw [ed3]; exact k2
      simp (disch := omega) only [↓w_bd, ↓w_rt, ↓w_bh, sm_l, sm_r, ↓w_okr, ↓w_nm, ↓w_ite, ↓reduceIte, not_true_eq_false, not_false_eq_true, and_true, true_and, and_self, Option.some.injEq, reduceCtorEq, eq_self, ↓w_rc, ↓w_gI, ↓w_gR, ↓w_aN, ↓w_aI, ↓w_aR, ↓w_aL, ↓w_pI, ↓w_pR, ↓w_sI, ↓w_sR, ↓w_sL, ↓w_nO, ↓w_nA, ↓w_nL, ↓w_ca, ↓w_ca0, ↓w_gS, ↓w_gK, ↓w_dv, ↓w_tw, ↓w_rz, ↓w_no, nv_lit, nv_f, nv_add, nv_mul, nv_sub, nv_le, nv_lt, nv_eq, nv_cl, Nat.reduceMod, Nat.reduceMul, Nat.reduceAdd, Nat.zero_add, Nat.add_zero, Nat.mul_zero, decide_eq_true_eq, nv_inT, k2, ← ed3, k3, show okN 3 (nv 119) = true by decide]
      have p2 : EP (fun x => x = rq) d2 (hwI d3 rq (up1 (hI d3 rq) 3 (nv 119))) := by
        rw [ed3]; exact ((EP.rf (fun x => x = rq) d2).wR (.inl rfl) _).wI (.inl rfl) _
      have nP : ∀ x, x = rq → hK d2 x ≠ 13 ∧ hK d2 x % 100 ≠ 13 ∧ hK d2 x % 100 ≠ 42 := fun x hx => by
        rw [hx, k2]; decide
      refine kk _ (hSz d) ?_ ?_ ?_ ?_ ?_ ?_ (hsg.ep p2 nP) (hhs.ep ?_ p2 (by omega) (fun x hx => by rw [hx, k2]; decide)) ?_ ?_ (by have := hE.1; omega)
      · rw [ed3]; exact ((hE.tr e2).wR hrq _).wI hrq _
      · exact (hP.tr (e2.ep _)).tr p2
      · refine Rb.w ?_ (by omega); rw [ed3]; exact rb2.wR
      · rw [hI_wI, up1_s, up1_n _ _ (by omega), ed3, hI_wR, o.2.2.2.1]; exact h1
      · rw [hI_wI, up1_s, up1_s]
      · rw [hR_wI, ed3, hR_wR, up1_s, up1_s]
      · omega
      · have : hSz (hwI d3 rq (up1 (hI d3 rq) 3 (nv 119))) = hSz d2 := by rw [ed3]; rfl
        rw [this]
        rcases hc2 with h | h
        · rw [h] at hz; omega
        · omega
      · have : hSl (hwI d3 rq (up1 (hI d3 rq) 3 (nv 119))) = hSl d2 := by rw [ed3]; rfl
        rw [this]
        omega
  · intro f i hi ih hs d v cap hE hP hb h1 hB hva hv0 hrv hrz hc hc2 hz hl
    have hb1 := hb.1
    have hb0 := hb.2.2
    have hC' := hC.e0 hE
    have hh := fun Q => X6_here_w hC' hb (show i ≤ gl S by omega) (Q := Q)
    have hlt := hr.2.2.1 i hs hi
    have bwv : bw (if i < gl S then nv (tb S i) else -nv 1) (nv 97) (nv 122) = nv 1 := by
      rw [here_bw (by omega) (by omega), if_pos ⟨by omega, hlt.1, hlt.2⟩]
    have tv : (if i < gl S then nv (tb S i) else -nv 1) = nv (tb S i) := if_pos (by omega)
    have hbk := hB.1.1
    rw [tv] at bwv hh
    have tle := hlt.2
    simp (disch := omega) only [X6_advance_82, ↓w_bd, ↓w_rt, ↓w_bh, sm_l, sm_r, ↓w_okr, ↓w_nm, ↓w_ite, ↓reduceIte, not_true_eq_false, not_false_eq_true, and_true, true_and, and_self, Option.some.injEq, reduceCtorEq, eq_self, ↓w_rc, ↓w_gI, ↓w_gR, ↓w_aN, ↓w_aI, ↓w_aR, ↓w_ca, ↓w_ca0, nv_lit, nv_f, nv_add, nv_mul, nv_sub, nv_le, nv_lt, nv_eq, nv_cl, Nat.reduceMod, Nat.reduceMul, Nat.reduceAdd, Nat.zero_add, Nat.add_zero, Nat.mul_zero, decide_eq_true_eq, nv_inT, hb1, hh, X1_isBetween_w, bwv, hbk, n10, ch16]
    have hf : ∀ j, j ≤ i - s → (fun i => tb S (s + i)) j ≤ 127 := fun j hj => Nat.le_trans (hr.2.2.1 (s + j) (by omega) (by omega)).2 (by omega)
    have hti : tb S i = (fun i => tb S (s + i)) (i - s) := by show _ = tb S (s + (i - s)); rw [show s + (i - s) = i by omega]
    rw [hti]
    refine J3_app_w hE hq8 hva hB hc (by omega) hf _ fun d2 v2 cap2 e2 hv2 hB2 gr p2 hc' => ?_
    have o := p2.2.2 rq hrz (by omega)
    have k2 : hK d2 rq = 6 := by rw [o.1]; exact hb1
    have i2 : hI d2 rq 0 = nv i := by rw [o.2.2.2]; exact hb0
    have rb2 : Rb G d2 rq i := hb.ep p2 hrz (by omega)
    simp (disch := omega) only [↓w_bd, ↓w_rt, ↓w_bh, sm_l, sm_r, ↓w_okr, ↓w_nm, ↓w_ite, ↓reduceIte, not_true_eq_false, not_false_eq_true, and_true, true_and, and_self, Option.some.injEq, reduceCtorEq, eq_self, ↓w_rc, ↓w_gI, ↓w_gR, ↓w_aN, ↓w_aI, ↓w_aR, ↓w_aL, ↓w_pI, ↓w_pR, ↓w_sI, ↓w_sR, ↓w_sL, ↓w_nO, ↓w_nA, ↓w_nL, ↓w_ca, ↓w_ca0, ↓w_gS, ↓w_gK, ↓w_dv, ↓w_tw, ↓w_rz, ↓w_no, nv_lit, nv_f, nv_add, nv_mul, nv_sub, nv_le, nv_lt, nv_eq, nv_cl, Nat.reduceMod, Nat.reduceMul, Nat.reduceAdd, Nat.zero_add, Nat.add_zero, Nat.mul_zero, decide_eq_true_eq, nv_inT, k2, i2, okn]
    have hz2 : hSz d2 ≥ hSz d := p2.1
    have hz0 := hP.1
    have rv2 : rq ≠ v2 := by
      have b2 := hB2.2.1.1
      intro e'
      rw [← e', k2] at b2
      omega
    have hv3 : hSz d0 ≤ v2 := by rcases gr with g | g <;> omega
    have pw : EP (fun x => x = rq) d2 (hwI d2 rq (up1 (hI d2 rq) 0 (nv (i + 1)))) := (EP.rf (fun x => x = rq) d2).wI (.inl rfl) _
    refine ih (by omega) _ v2 cap2 (e2.wI hrq _) ((hP.trF p2 (fun q hq hx => by omega)).tr (pw)) rb2.w0 ?_ ?_ hv2 hv3 rv2 ?_ hc' ?_ ?_ ?_
    · rw [hI_wI, up1_s, up1_n _ _ (by omega), o.2.2.2]; exact h1
    · have := hB2.wq (q' := rq) (Ne.symm hne) rv2.symm (f' := up1 (hI d2 rq) 0 (nv (i + 1)))
      rw [show i + 1 - s = i - s + 1 by omega]
      exact this
    · show rq < hSz d2
      omega
    · rcases gr with g | g
      · rcases hc2 with h | h
        · left; omega
        · right; omega
      · right; omega
    · show hSz d2 ≤ _
      rcases gr with g | g
      · rw [g.2.1, g.2.2.1]; exact hz
      · rw [g.2.1, g.2.2.1]
        have : 16 ≤ cap := by unfold Cap at hc; omega
        omega
    · show hSl d2 ≤ _
      rcases gr with g | g
      · rw [g.2.1, g.2.2.2.1]; exact hl
      · rw [g.2.1, g.2.2.2.1, g.2.1]; omega
/-- digits -/
theorem X6_num_l {G : Nat → Nat} {B : Nat → Nat × Nat} {S : Gst} {a d0 : Hp} {rq s e w : Nat} (hC : JC G B S a) (hrq : hSz a ≤ rq) (hr : Run (fun i => dgt (tb S i)) (gl S) s e) (Q : Unit → Hp → Prop)
    (kk : ∀ d', E0 a d' → EP (fun x => x = rq) d0 d' → Rb G d' rq e → hI d' rq 1 = nv s → hI d' rq 3 = nv 110 → hI d' rq 2 = nv (min 1000000 (tv (tb S) s (e - s))) → hR d' rq 4 = some w → hSz d' = hSz d0 → hSl d' = hSl d0 → Q () d') :
    ∀ (f i : Nat), i ≤ e → e - i < f → s ≤ i → ∀ d, E0 a d → EP (fun x => x = rq) d0 d → Rb G d rq i → hI d rq 1 = nv s → hI d rq 2 = nv (min 1000000 (tv (tb S) s (i - s))) → hR d rq 4 = some w → hSz d = hSz d0 → hSl d = hSl d0 → Wp (X6_advance_152 f rq) d Q := by
  have gl5 := hC.2.2.2.2.2.2.1.1
  have en := hr.2.1
  refine loopUp _ e ?_ ?_
  · intro f hs d hE hP hb h1 h2 h4 hz hl
    have hb1 := hb.1
    have hb0 := hb.2.2
    have hC' := hC.e0 hE
    have hh := fun Q => X6_here_w hC' hb en (Q := Q)
    have bwv : bw (if e < gl S then nv (tb S e) else -nv 1) (nv 48) (nv 57) = nv 0 := by
      rw [here_bw (by omega) (by omega), if_neg]
      rintro ⟨g1, g2, g3⟩
      rcases hr.2.2.2 with q | q
      · omega
      · exact q ⟨g2, g3⟩
    simp (disch := omega) only [X6_advance_152, X6_advance_239, ↓w_bd, ↓w_rt, ↓w_bh, sm_l, sm_r, ↓w_okr, ↓w_nm, ↓w_ite, ↓reduceIte, not_true_eq_false, not_false_eq_true, and_true, true_and, and_self, Option.some.injEq, reduceCtorEq, eq_self, ↓w_rc, ↓w_gI, ↓w_gR, ↓w_aN, ↓w_aI, ↓w_aR, ↓w_aL, ↓w_pI, ↓w_pR, ↓w_sI, ↓w_sR, ↓w_sL, ↓w_nO, ↓w_nA, ↓w_nL, ↓w_ca, ↓w_ca0, ↓w_gS, ↓w_gK, ↓w_dv, ↓w_tw, ↓w_rz, ↓w_no, nv_lit, nv_f, nv_add, nv_mul, nv_sub, nv_le, nv_lt, nv_eq, nv_cl, Nat.reduceMod, Nat.reduceMul, Nat.reduceAdd, Nat.zero_add, Nat.add_zero, Nat.mul_zero, decide_eq_true_eq, nv_inT, hb1, hh, X1_isBetween_w, bwv, show okN 3 (nv 110) = true by decide]
    refine kk _ (hE.wI hrq _) (hP.wI (.inl rfl) _) (hb.w (by omega)) ?_ ?_ ?_ h4 hz hl
    · rw [hI_wI, up1_s, up1_n _ _ (by omega)]; exact h1
    · rw [hI_wI, up1_s, up1_s]
    · rw [hI_wI, up1_s, up1_n _ _ (by omega)]; exact h2
  · intro f i hi ih hs d hE hP hb h1 h2 h4 hz hl
    have hb1 := hb.1
    have hb0 := hb.2.2
    have hC' := hC.e0 hE
    have hh := fun Q => X6_here_w hC' hb (show i ≤ gl S by omega) (Q := Q)
    have hlt := hr.2.2.1 i hs hi
    have bwv : bw (if i < gl S then nv (tb S i) else -nv 1) (nv 48) (nv 57) = nv 1 := by
      rw [here_bw (by omega) (by omega), if_pos ⟨by omega, hlt.1, hlt.2⟩]
    have tve : (if i < gl S then nv (tb S i) else -nv 1) = nv (tb S i) := if_pos (by omega)
    rw [tve] at bwv hh
    have t1 := hlt.1
    have t2 := hlt.2
    obtain ⟨c, ec⟩ : ∃ c, c = min 1000000 (tv (tb S) s (i - s)) := ⟨_, rfl⟩
    have cb : c ≤ 1000000 := by omega
    have tvb := tv_b (tb S) s (tb_b S) (i - s)
    have st : tv (tb S) s (i + 1 - s) = if tv (tb S) s (i - s) ≤ 999999 then 10 * tv (tb S) s (i - s) + tb S i - 48 else tv (tb S) s (i - s) := by
      rw [show i + 1 - s = (i - s) + 1 by omega]
      show (if tv (tb S) s (i - s) ≤ 999999 then 10 * tv (tb S) s (i - s) + tb S (s + (i - s)) - 48 else tv (tb S) s (i - s)) = _
      rw [show s + (i - s) = i by omega]
    have st2 : min 1000000 (10 * c + tb S i - 48) = min 1000000 (tv (tb S) s (i + 1 - s)) := by
      rw [st]
      split <;> omega
    rw [← ec] at h2
    simp (disch := omega) only [X6_advance_152, ↓w_bd, ↓w_rt, ↓w_bh, sm_l, sm_r, ↓w_okr, ↓w_nm, ↓w_ite, ↓reduceIte, not_true_eq_false, not_false_eq_true, and_true, true_and, and_self, Option.some.injEq, reduceCtorEq, eq_self, ↓w_rc, ↓w_gI, ↓w_gR, ↓w_aN, ↓w_aI, ↓w_aR, ↓w_aL, ↓w_pI, ↓w_pR, ↓w_sI, ↓w_sR, ↓w_sL, ↓w_nO, ↓w_nA, ↓w_nL, ↓w_ca, ↓w_ca0, ↓w_gS, ↓w_gK, ↓w_dv, ↓w_tw, ↓w_rz, ↓w_no, nv_lit, nv_f, nv_add, nv_mul, nv_sub, nv_le, nv_lt, nv_eq, nv_cl, Nat.reduceMod, Nat.reduceMul, Nat.reduceAdd, Nat.zero_add, Nat.add_zero, Nat.mul_zero, decide_eq_true_eq, nv_inT, hb1, hh, X1_isBetween_w, bwv, n10, h2, J12_min_w, mn_nv, hI_wI, up1_s, hK_wI, okn, up1_n]
    rw [hb0, nv_add, st2]
    have e2 : up1 (up1 (hI d rq) 2 (nv (min 1000000 (tv (tb S) s (i + 1 - s))))) 0 (nv (i + 1)) = up1 (hI (hwI d rq (up1 (hI d rq) 2 (nv (min 1000000 (tv (tb S) s (i + 1 - s)))))) rq) 0 (nv (i + 1)) := by rw [hI_wI, up1_s]
    rw [e2]
    refine ih (by omega) _ ((hE.wI hrq _).wI hrq _) ((hP.wI (.inl rfl) _).wI (.inl rfl) _) ((hb.w (by omega)).w0) ?_ ?_ h4 hz hl
    · rw [hI_wI, up1_s, up1_n _ _ (by omega), hI_wI, up1_s, up1_n _ _ (by omega)]; exact h1
    · rw [hI_wI, up1_s, up1_n _ _ (by omega), hI_wI, up1_s, up1_s]
theorem nv_nm {t : Nat} (h : t ≤ 255) : ¬ nv t = -nv 1 := by
  have hf : ∀ c : Fin 256, ¬ nv c.val = -nv 1 := by decide +kernel
  exact hf ⟨t, by omega⟩
/-- the empty text -/
theorem co_1 {a : Hp} (h : Co a) (f : Nat → Nat) : ∃ w, hS a 101 = some w ∧ Sg a w 0 f ∧ Hs a w 0 f ∧ hK a w = 113 := by
  obtain ⟨q, v, h1, ⟨h2, h3⟩, ⟨h4, h5, h6, h6z⟩, h7, h8, h9⟩ := h.2 1 (by omega)
  refine ⟨q, h1, ⟨by rw [h4], h6, v, h5, by rw [h7], h8, fun i hi => by omega, h2, h3, fun e => by rw [e, h7] at h4; omega⟩, .inl ⟨(h6z rfl).1, fun _ => (h6z rfl).2⟩, h4⟩
/-- where the reader's word lies -/
def Wrd (a d : Hp) (k w : Nat) : Prop := (k = 1 ∧ hSz a ≤ w) ∨ (k ≠ 1 ∧ hK d w = 113)
/-- the reader goes on to the next token -/
theorem X6_advance_w {G : Nat → Nat} {B : Nat → Nat × Nat} {S : Gst} {a d0 : Hp} {rq p s e k : Nat} (hC : JC G B S a) (hE0 : E0 a d0) (hrq : hSz a ≤ rq) (hrz : rq < hSz d0) (hb0 : Rb G d0 rq p) (tk : Tok (tb S) (gl S) p s e k) (hse : s ≤ e) (hen : e ≤ gl S) (Q : Unit → Hp → Prop)
    (kk : ∀ d' w, E0 a d' → EP (fun x => x = rq) d0 d' → Rc G d' rq S s e k w → Wrd a d' k w → hSz d' ≤ hSz d0 + 60 * (e - s) → hSl d' ≤ hSl d0 + 70 * (e - s) → Q () d') : Wp (X6_advance rq) d0 Q := by
  obtain ⟨⟨r1, r2, r3, r4⟩, cs5⟩ := tk
  have gl5 := hC.2.2.2.2.2.2.1.1
  have l : ∀ (f i : Nat), i ≤ s → s - i < f → p ≤ i → ∀ d, E0 a d → EP (fun x => x = rq) d0 d → Rb G d rq i → hSz d = hSz d0 → hSl d = hSl d0 → Wp (X6_advance_0 f rq) d Q := by
    refine loopUp _ s ?_ ?_
    · intro f hs d hE hP hb hz hl
      have hb1 := hb.1
      have hbi := hb.2.2
      have hC' := hC.e0 hE
      have hh := fun Q => X6_here_w hC' hb r2 (Q := Q)
      have nb : ¬ (s < gl S ∧ blk (tb S s)) := fun g => by
        rcases r4 with q | q
        · omega
        · exact q g.2
      obtain ⟨w, w1, w2, w3, w4⟩ := co_1 hC'.2.2.2.2.2.2.2.2.2 (fun i => tb S (s + i))
      obtain ⟨d1, ed1⟩ : ∃ d1, d1 = hwI d rq (up1 (hI d rq) 1 (nv s)) := ⟨_, rfl⟩
      obtain ⟨d2, ed2⟩ : ∃ d2, d2 = hwR d1 rq (up1 (hR d1 rq) 4 (some w)) := ⟨_, rfl⟩
      have k1 : hK d1 rq = 6 := by rw [ed1]; exact hb1
      have w1' : hS d1 101 = some w := by rw [ed1]; exact w1
      have E2 : E0 a d2 := by rw [ed2, ed1]; exact (hE.wI hrq _).wR hrq _
      have P2' : EP (fun x => x = rq) d d2 := by rw [ed2, ed1]; exact ((EP.rf (fun x => x = rq) d).wI (.inl rfl) _).wR (.inl rfl) _
      have P2 := hP.tr P2'
      have b2 : Rb G d2 rq s := by
        rw [ed2, ed1]
        have := (hb.w (show 1 ≠ 0 by omega) (v := nv s)).wR (v := some w)
        exact this
      have i1 : hI d2 rq 1 = nv s := by rw [ed2, ed1, hI_wR, hI_wI, up1_s, up1_s]
      have r4' : hR d2 rq 4 = some w := by rw [ed2, hR_wR, up1_s, up1_s]
      have k2 : hK d2 rq = 6 := b2.1
      have i0 : hI d2 rq 0 = nv s := b2.2.2
      have hC2 := hC.e0 E2
      have hh2 := fun Q => X6_here_w hC2 b2 r2 (Q := Q)
      have nP : ∀ x, x = rq → hK d x ≠ 13 ∧ hK d x % 100 ≠ 13 ∧ hK d x % 100 ≠ 42 := fun x hx => by rw [hx, hb1]; decide
      have hwr : w ≠ rq := fun e' => by
        have := w2.1
        rw [e', hb1] at this
        omega
      have hwz := w2
      have hwz2 : w < hSz d := by obtain ⟨-, -, v, -, -, -, -, z, -⟩ := w2; exact z
      have sg : ∀ d', EP (fun x => x = rq) d d' → Sg d' w 0 (fun i => tb S (s + i)) ∧ Hs d' w 0 (fun i => tb S (s + i)) ∧ hK d' w = 113 := fun d' g => ⟨w2.ep g nP, w3.ep hwz2 g hwr (fun x hx => by rw [hx, hb1]; decide), by rw [(g.2.2 w hwz2 hwr).1]; exact w4⟩
      have lb : ¬ (if s < gl S then nv (tb S s) else -nv 1) = nv 32 ∧ ¬ (if s < gl S then nv (tb S s) else -nv 1) = nv 10 := by
        have := tb_b S s
        by_cases c : s < gl S
        · rw [if_pos c, nv_eq (by omega) (by omega), nv_eq (by omega) (by omega)]
          exact ⟨fun h => nb ⟨c, .inl h⟩, fun h => nb ⟨c, .inr h⟩⟩
        · rw [if_neg c]
          exact ⟨by decide, by decide⟩
      have one : ∀ v, (k = 3 ∧ v = 59) ∨ (k = 4 ∧ v = 63) → e = s + 1 → ∀ d3, d3 = hwI d2 rq (up1 (hI d2 rq) 3 (nv v)) → Q () (hwI d3 rq (up1 (hI d3 rq) 0 (nv (s + 1)))) := fun v hv he d3 e3 => by
        have p3' : EP (fun x => x = rq) d2 (hwI d3 rq (up1 (hI d3 rq) 0 (nv (s + 1)))) := by rw [e3]; exact ((EP.rf (fun x => x = rq) d2).wI (.inl rfl) _).wI (.inl rfl) _
        obtain ⟨s1, s2, s3⟩ := sg _ (P2'.tr p3')
        have kn : k ≠ 1 := by omega
        refine kk _ w (by rw [e3]; exact (E2.wI hrq _).wI hrq _) (P2.tr p3') ⟨?_, ?_, ?_, ?_, fun h => by omega, ?_, ?_, hwr⟩ (.inr ⟨kn, s3⟩) ?_ ?_
        · rw [he, e3]; exact (b2.w (by omega)).w0
        · rw [hI_wI, up1_s, up1_n _ _ (by omega), e3, hI_wI, up1_s, up1_n _ _ (by omega)]; exact i1
        · rw [hI_wI, up1_s, up1_n _ _ (by omega), e3, hI_wI, up1_s, up1_s]
          rcases hv with ⟨h1, h2⟩ | ⟨h1, h2⟩ <;> rw [h1, h2] <;> rfl
        · rw [e3]; exact r4'
        · rw [if_neg kn]; exact s1
        · rw [if_neg kn]; exact s2
        · rw [e3, ed2, ed1]; show hSz d ≤ _; omega
        · rw [e3, ed2, ed1]; show hSl d ≤ _; omega
      have z2 : hSz d2 = hSz d0 ∧ hSl d2 = hSl d0 := by rw [ed2, ed1]; exact ⟨hz, hl⟩
      simp (disch := omega) only [X6_advance_0, ↓w_bd, ↓w_rt, ↓w_bh, sm_l, sm_r, ↓w_okr, ↓w_nm, ↓w_ite, ↓reduceIte, not_true_eq_false, not_false_eq_true, and_true, true_and, and_self, Option.some.injEq, reduceCtorEq, eq_self, ↓w_rc, ↓w_gI, ↓w_gR, ↓w_aN, ↓w_aI, ↓w_aR, ↓w_ca, ↓w_ca0, nv_lit, nv_f, nv_add, nv_mul, nv_sub, nv_le, nv_lt, nv_eq, nv_cl, Nat.reduceMod, Nat.reduceMul, Nat.reduceAdd, Nat.zero_add, Nat.add_zero, Nat.mul_zero, decide_eq_true_eq, nv_inT, hb1, hh, hbi, lb, ↓w_pI, okn, ← ed1, ↓w_gC, w1', exists_eq_left', k1, ↓w_pR, ← ed2, k2, hh2]
      have hby := fun lo hi (h1 : lo < 1000) (h2 : hi < 1000) => here_bw (S := S) (p := s) h1 h2
      have bwl := hby 97 122 (by omega) (by omega)
      have bwd := hby 48 57 (by omega) (by omega)
      have nm := nv_nm (tb_b S s)
      have t255 := tb_b S s
      rcases cs5 with ⟨hk, he, he2⟩ | ⟨hk, he, hl1, hr⟩ | ⟨hk, he, hl1, hr⟩ | ⟨hk, he, hl1, he2⟩ | ⟨hk, he, hl1, hl2, hl3, he2⟩
      · have ev : (if s < gl S then nv (tb S s) else -nv 1) = -nv 1 := if_neg (by omega)
        rw [ev]
        simp (disch := omega) only [↓w_bd, ↓w_rt, ↓w_bh, sm_l, sm_r, ↓w_okr, ↓w_nm, ↓w_ite, ↓reduceIte, not_true_eq_false, not_false_eq_true, and_true, true_and, and_self, Option.some.injEq, reduceCtorEq, eq_self, ↓w_rc, ↓w_gI, ↓w_gR, ↓w_aN, ↓w_aI, ↓w_aR, ↓w_aL, ↓w_pI, ↓w_pR, ↓w_sI, ↓w_sR, ↓w_sL, ↓w_nO, ↓w_nA, ↓w_nL, ↓w_ca, ↓w_ca0, ↓w_gS, ↓w_gK, ↓w_dv, ↓w_tw, ↓w_rz, ↓w_no, nv_lit, nv_f, nv_add, nv_mul, nv_sub, nv_le, nv_lt, nv_eq, nv_cl, Nat.reduceMod, Nat.reduceMul, Nat.reduceAdd, Nat.zero_add, Nat.add_zero, Nat.mul_zero, decide_eq_true_eq, nv_inT, k2, X6_advance_239, show okN 3 (nv 0) = true by decide]
        have p3' : EP (fun x => x = rq) d2 (hwI d2 rq (up1 (hI d2 rq) 3 (nv 0))) := (EP.rf (fun x => x = rq) d2).wI (.inl rfl) _
        obtain ⟨s1, s2, s3⟩ := sg _ (P2'.tr p3')
        have kn : k ≠ 1 := by omega
        refine kk _ w (E2.wI hrq _) (P2.tr p3') ⟨?_, ?_, ?_, r4', fun h => by omega, ?_, ?_, hwr⟩ (.inr ⟨kn, s3⟩) ?_ ?_
        · rw [he2]; exact b2.w (by omega)
        · rw [hI_wI, up1_s, up1_n _ _ (by omega)]; exact i1
        · rw [hI_wI, up1_s, up1_s, hk]; rfl
        · rw [if_neg kn]; exact s1
        · rw [if_neg kn]; exact s2
        · show hSz d2 ≤ _; omega
        · show hSl d2 ≤ _; omega
      · have ev : (if s < gl S then nv (tb S s) else -nv 1) = nv (tb S s) := if_pos he
        rw [ev] at bwl ⊢
        rw [if_pos (show s < gl S ∧ 97 ≤ tb S s ∧ tb S s ≤ 122 from ⟨he, hl1⟩)] at bwl
        simp (disch := omega) only [↓w_bd, ↓w_rt, ↓w_bh, sm_l, sm_r, ↓w_okr, ↓w_nm, ↓w_ite, ↓reduceIte, not_true_eq_false, not_false_eq_true, and_true, true_and, and_self, Option.some.injEq, reduceCtorEq, eq_self, ↓w_rc, ↓w_gI, ↓w_gR, ↓w_aN, ↓w_aI, ↓w_aR, ↓w_ca, ↓w_ca0, nv_lit, nv_f, nv_add, nv_mul, nv_sub, nv_le, nv_lt, nv_eq, nv_cl, Nat.reduceMod, Nat.reduceMul, Nat.reduceAdd, Nat.zero_add, Nat.add_zero, Nat.mul_zero, decide_eq_true_eq, nv_inT, nm, X1_isBetween_w, bwl, n10]
        refine w_nO' fun c1 e1 z1 l1 ck1 ci1 cr1 => ?_
        refine J3_init_w (E2.tr e1) z1 ck1 ci1 E2.1 (fun i => tb S (s + i)) _ fun d3 E3 hB3 z3 l3 p3 => ?_
        have se : s < e := by
          rcases Nat.lt_or_ge s e with g | g
          · exact g
          · have : e = s := by omega
            rw [this] at hr
            rcases hr.2.2.2 with q | q
            · omega
            · exact absurd hl1 q
        have rz2 : rq < hSz d2 := by have := P2.1; omega
        have pf : EP (fun x => x = rq) d0 d3 := (P2.tr (e1.ep _)).trF p3 (fun q hq hx => by have := P2.1; omega)
        have b3 : Rb G d3 rq s := (b2.ep (e1.ep (fun _ => False)) rz2 id).ep p3 (by omega) (by omega)
        have j1 : hI d3 rq 1 = nv s := by rw [(p3.2.2 rq (by omega) (by omega)).2.2.2, (e1.2.2 rq rz2).2.2.2.1]; exact i1
        have hcc := E2.1
        have hz02 := P2.1
        refine X6_word_l hC hrq hr (show hSz a ≤ hSz d2 by omega) (show rq ≠ hSz d2 by omega) (show hSz d0 ≤ hSz d2 by omega) Q (fun d' w' g1 g2 g3 g4 g5 g6 g7 g8 g9 g10 g11 => ?_) FU s hse (by unfold FU; omega) (Nat.le_refl _) d3 (hSz c1) 16 E3 pf b3 j1 ?_ (by omega) (by omega) (by omega) (by omega) (.inl rfl) (.inl rfl) (by omega) (by omega)
        · refine kk d' w' g1 g2 ⟨g3, g4, ?_, g6, fun h => by omega, ?_, ?_, ?_⟩ (.inl ⟨hk, g11⟩) (by omega) (by omega)
          · rw [g5, hk]; rfl
          · rw [if_pos hk]; exact g7
          · rw [if_pos hk]; exact g8
          · intro e'
            have x1 := g7.1
            have x2 := g3.1
            rw [e', x2] at x1
            omega
        · rw [Nat.sub_self]; exact hB3
      · have ev : (if s < gl S then nv (tb S s) else -nv 1) = nv (tb S s) := if_pos he
        rw [ev] at bwl bwd ⊢
        have g1 := hl1.1
        have g2 := hl1.2
        rw [if_neg (by omega)] at bwl
        rw [if_pos (show s < gl S ∧ 48 ≤ tb S s ∧ tb S s ≤ 57 from ⟨he, hl1⟩)] at bwd
        obtain ⟨d3, ed3⟩ : ∃ d3, d3 = hwI d2 rq (up1 (hI d2 rq) 2 (nv 0)) := ⟨_, rfl⟩
        simp (disch := omega) only [↓w_bd, ↓w_rt, ↓w_bh, sm_l, sm_r, ↓w_okr, ↓w_nm, ↓w_ite, ↓reduceIte, not_true_eq_false, not_false_eq_true, and_true, true_and, and_self, Option.some.injEq, reduceCtorEq, eq_self, ↓w_rc, ↓w_gI, ↓w_gR, ↓w_aN, ↓w_aI, ↓w_aR, ↓w_ca, ↓w_ca0, nv_lit, nv_f, nv_add, nv_mul, nv_sub, nv_le, nv_lt, nv_eq, nv_cl, Nat.reduceMod, Nat.reduceMul, Nat.reduceAdd, Nat.zero_add, Nat.add_zero, Nat.mul_zero, decide_eq_true_eq, nv_inT, nm, X1_isBetween_w, bwl, bwd, n10, ↓w_pI, k2, okn0, ← ed3]
        refine X6_num_l (w := w) hC hrq hr Q (fun d' g1 g2 g3 g4 g5 g6 g7 g8 g9 => ?_) FU s hse (by unfold FU; omega) (Nat.le_refl _) d3 (by rw [ed3]; exact E2.wI hrq _) (by rw [ed3]; exact P2.wI (.inl rfl) _) (by rw [ed3]; exact b2.w (by omega)) ?_ ?_ (by rw [ed3]; exact r4') (by rw [ed3]; exact z2.1) (by rw [ed3]; exact z2.2)
        · have kn : k ≠ 1 := by omega
          have g2' : EP (fun x => x = rq) d d' := by
            refine ⟨by omega, g1.2.1.trans hE.2.1.symm, fun q hq hn => ?_⟩
            have x1 := g2.2.2 q (by omega) hn
            have x2 := hP.2.2 q (by omega) hn
            exact ⟨x1.1.trans x2.1.symm, x1.2.1.trans x2.2.1.symm, x1.2.2.1.trans x2.2.2.1.symm, x1.2.2.2.trans x2.2.2.2.symm⟩
          obtain ⟨s1, s2, s3⟩ := sg _ g2'
          refine kk d' w g1 g2 ⟨g3, g4, ?_, g7, fun _ => g6, ?_, ?_, hwr⟩ (.inr ⟨kn, s3⟩) (by omega) (by omega)
          · rw [g5, hk]; rfl
          · rw [if_neg kn]; exact s1
          · rw [if_neg kn]; exact s2
        · rw [ed3, hI_wI, up1_s, up1_n _ _ (by omega)]; exact i1
        · rw [ed3, hI_wI, up1_s, up1_s, Nat.sub_self]; rfl
      · have ev : (if s < gl S then nv (tb S s) else -nv 1) = nv (tb S s) := if_pos he
        rw [ev] at bwl bwd ⊢
        rw [if_neg (by omega)] at bwl bwd
        obtain ⟨d3, ed3⟩ : ∃ d3, d3 = hwI d2 rq (up1 (hI d2 rq) 3 (nv 59)) := ⟨_, rfl⟩
        have k3 : hK d3 rq = 6 := by rw [ed3]; exact k2
        have i3 : hI d3 rq 0 = nv s := by rw [ed3, hI_wI, up1_s, up1_n _ _ (by omega)]; exact i0
        simp (disch := omega) only [↓w_bd, ↓w_rt, ↓w_bh, sm_l, sm_r, ↓w_okr, ↓w_nm, ↓w_ite, ↓reduceIte, not_true_eq_false, not_false_eq_true, and_true, true_and, and_self, Option.some.injEq, reduceCtorEq, eq_self, ↓w_rc, ↓w_gI, ↓w_gR, ↓w_aN, ↓w_aI, ↓w_aR, ↓w_ca, ↓w_ca0, nv_lit, nv_f, nv_add, nv_mul, nv_sub, nv_le, nv_lt, nv_eq, nv_cl, Nat.reduceMod, Nat.reduceMul, Nat.reduceAdd, Nat.zero_add, Nat.add_zero, Nat.mul_zero, decide_eq_true_eq, nv_inT, nm, X1_isBetween_w, bwl, bwd, hl1, X6_advance_226, X6_advance_239, ↓w_pI, k2, show okN 3 (nv 59) = true by decide, ← ed3, k3, i3, okn]
        exact one 59 (.inl ⟨hk, rfl⟩) he2 d3 ed3
      · have ev : (if s < gl S then nv (tb S s) else -nv 1) = nv (tb S s) := if_pos he
        rw [ev] at bwl bwd ⊢
        unfold ltr at hl1
        unfold dgt at hl2
        rw [if_neg (by omega)] at bwl bwd
        obtain ⟨d3, ed3⟩ : ∃ d3, d3 = hwI d2 rq (up1 (hI d2 rq) 3 (nv 63)) := ⟨_, rfl⟩
        have k3 : hK d3 rq = 6 := by rw [ed3]; exact k2
        have i3 : hI d3 rq 0 = nv s := by rw [ed3, hI_wI, up1_s, up1_n _ _ (by omega)]; exact i0
        simp (disch := omega) only [↓w_bd, ↓w_rt, ↓w_bh, sm_l, sm_r, ↓w_okr, ↓w_nm, ↓w_ite, ↓reduceIte, not_true_eq_false, not_false_eq_true, and_true, true_and, and_self, Option.some.injEq, reduceCtorEq, eq_self, ↓w_rc, ↓w_gI, ↓w_gR, ↓w_aN, ↓w_aI, ↓w_aR, ↓w_ca, ↓w_ca0, nv_lit, nv_f, nv_add, nv_mul, nv_sub, nv_le, nv_lt, nv_eq, nv_cl, Nat.reduceMod, Nat.reduceMul, Nat.reduceAdd, Nat.zero_add, Nat.add_zero, Nat.mul_zero, decide_eq_true_eq, nv_inT, nm, X1_isBetween_w, bwl, bwd, hl3, X6_advance_226, X6_advance_239, ↓w_pI, k2, show okN 3 (nv 63) = true by decide, ← ed3, k3, i3, okn]
        exact one 63 (.inr ⟨hk, rfl⟩) he2 d3 ed3
    · intro f i hi ih hs d hE hP hb hz hl
      have hb1 := hb.1
      have hbi := hb.2.2
      have hC' := hC.e0 hE
      have hh := fun Q => X6_here_w hC' hb (show i ≤ gl S by omega) (Q := Q)
      have hlt := r3 i hs hi
      have tve : (if i < gl S then nv (tb S i) else -nv 1) = nv (tb S i) := if_pos (by omega)
      rw [tve] at hh
      have go : Wp (X6_advance_0 f rq) (hwI d rq (up1 (hI d rq) 0 (nv (i + 1)))) Q := ih (by omega) _ (hE.wI hrq _) (hP.wI (.inl rfl) _) hb.w0 hz hl
      rcases hlt with h | h
      · rw [h] at hh
        simp (disch := omega) only [X6_advance_0, X6_advance_18, ↓w_bd, ↓w_rt, ↓w_bh, sm_l, sm_r, ↓w_okr, ↓w_nm, ↓w_ite, ↓reduceIte, not_true_eq_false, not_false_eq_true, and_true, true_and, and_self, Option.some.injEq, reduceCtorEq, eq_self, ↓w_rc, ↓w_gI, ↓w_gR, ↓w_aN, ↓w_aI, ↓w_aR, ↓w_aL, ↓w_pI, ↓w_pR, ↓w_sI, ↓w_sR, ↓w_sL, ↓w_nO, ↓w_nA, ↓w_nL, ↓w_ca, ↓w_ca0, ↓w_gS, ↓w_gK, ↓w_dv, ↓w_tw, ↓w_rz, ↓w_no, nv_lit, nv_f, nv_add, nv_mul, nv_sub, nv_le, nv_lt, nv_eq, nv_cl, Nat.reduceMod, Nat.reduceMul, Nat.reduceAdd, Nat.zero_add, Nat.add_zero, Nat.mul_zero, decide_eq_true_eq, nv_inT, hb1, hh, hbi, okn]
        exact go
      · rw [h] at hh
        simp (disch := omega) only [X6_advance_0, X6_advance_18, ↓w_bd, ↓w_rt, ↓w_bh, sm_l, sm_r, ↓w_okr, ↓w_nm, ↓w_ite, ↓reduceIte, not_true_eq_false, not_false_eq_true, and_true, true_and, and_self, Option.some.injEq, reduceCtorEq, eq_self, ↓w_rc, ↓w_gI, ↓w_gR, ↓w_aN, ↓w_aI, ↓w_aR, ↓w_aL, ↓w_pI, ↓w_pR, ↓w_sI, ↓w_sR, ↓w_sL, ↓w_nO, ↓w_nA, ↓w_nL, ↓w_ca, ↓w_ca0, ↓w_gS, ↓w_gK, ↓w_dv, ↓w_tw, ↓w_rz, ↓w_no, nv_lit, nv_f, nv_add, nv_mul, nv_sub, nv_le, nv_lt, nv_eq, nv_cl, Nat.reduceMod, Nat.reduceMul, Nat.reduceAdd, Nat.zero_add, Nat.add_zero, Nat.mul_zero, decide_eq_true_eq, nv_inT, hb1, hh, hbi, okn]
        exact go
  unfold X6_advance
  exact l FU p r1 (by unfold FU; omega) (Nat.le_refl _) d0 hE0 (EP.rf _ _) hb0 rfl rfl
