/-! GROWTH: old cells stay as they are -/
def E0 (a b : Hp) : Prop := hSz a ≤ hSz b ∧ hS b = hS a ∧ ∀ q, q < hSz a → hK b q = hK a q ∧ hN b q = hN a q ∧ hR b q = hR a q ∧ hI b q = hI a q ∧ hL b q = hL a q
theorem E0.rf (a : Hp) : E0 a a := ⟨Nat.le_refl _, rfl, fun _ _ => ⟨rfl, rfl, rfl, rfl, rfl⟩⟩
theorem E0.tr {a b c : Hp} (h : E0 a b) (g : E0 b c) : E0 a c := ⟨Nat.le_trans h.1 g.1, g.2.1.trans h.2.1, fun q hq => by
  have h1 := h.2.2 q hq
  have h2 := g.2.2 q (Nat.lt_of_lt_of_le hq h.1)
  exact ⟨h2.1.trans h1.1, h2.2.1.trans h1.2.1, h2.2.2.1.trans h1.2.2.1, h2.2.2.2.1.trans h1.2.2.2.1, h2.2.2.2.2.trans h1.2.2.2.2⟩⟩
theorem E0.new {a b : Hp} (h : E0 a b) (k n sl : Nat) (fI : Nat → Int32) (fR : Nat → Option Nat) : E0 a (hNew b k n sl fI fR) := by
  refine h.tr ⟨Nat.le_succ _, rfl, fun q hq => ?_⟩
  rw [hK_new, hN_new, hR_new, hI_new, hL_new]
  have : q ≠ hSz b := Nat.ne_of_lt hq
  exact ⟨up1_n _ _ this, up1_n _ _ this, up1_n _ _ this, up1_n _ _ this, up1_n _ _ this⟩
theorem E0.wI {a b : Hp} (h : E0 a b) {q : Nat} (hq : hSz a ≤ q) (f : Nat → Int32) : E0 a (hwI b q f) := by
  refine ⟨h.1, h.2.1, fun p hp => ?_⟩
  have h1 := h.2.2 p hp
  refine ⟨h1.1, h1.2.1, h1.2.2.1, ?_, h1.2.2.2.2⟩
  rw [hI_wI, up1_n _ _ (by omega)]
  exact h1.2.2.2.1
theorem E0.wR {a b : Hp} (h : E0 a b) {q : Nat} (hq : hSz a ≤ q) (f : Nat → Option Nat) : E0 a (hwR b q f) := by
  refine ⟨h.1, h.2.1, fun p hp => ?_⟩
  have h1 := h.2.2 p hp
  refine ⟨h1.1, h1.2.1, ?_, h1.2.2.2⟩
  rw [hR_wR, up1_n _ _ (by omega)]
  exact h1.2.2.1
theorem E0.rows {a b : Hp} (h : E0 a b) (k m n : Nat) : E0 a (hRows k m n b) := by
  refine h.tr ⟨by rw [hRows_sz]; omega, hRows_S _ _ _ _, fun q hq => ?_⟩
  have := hRows_out k m n b q (.inl hq)
  exact ⟨this.1, this.2.1, this.2.2.2.1, this.2.2.1, this.2.2.2.2⟩
/-- a market stays -/
theorem Mk.ext {B B' : Nat → Nat × Nat} {a b : Hp} {L : Nat → Nat} {R : Nat → Int32} (h : Mk B a L R) (g : E0 a b) (hB : ∀ q, q < hSz a → B' q = B q) : Mk B' b L R := by
  obtain ⟨h1, h2, h3, h4, h5, h6⟩ := h
  have hq : ∀ r, lv R r → hK b (L r) = hK a (L r) ∧ hN b (L r) = hN a (L r) ∧ hR b (L r) = hR a (L r) ∧ hI b (L r) = hI a (L r) ∧ hL b (L r) = hL a (L r) := fun r hr => g.2.2 _ (h2 r hr).1
  have l0 : ∀ r, r < 8 → lv R r := fun r hr => lv_0 hr
  refine ⟨h1, fun r hr => ⟨Nat.lt_of_lt_of_le (h2 r hr).1 g.1, (hB _ (h2 r hr).1).trans (h2 r hr).2.1, (hq r hr).1.trans (h2 r hr).2.2⟩, ?_, ?_, ?_, ?_⟩
  · obtain ⟨⟨n3, n4, n5, n6, n7⟩, n10, n30, n60, n80, n100⟩ := h3
    refine ⟨⟨?_, ?_, ?_, ?_, ?_⟩, ?_, ?_, ?_, ?_, ?_⟩
    · rw [(hq 3 (l0 _ (by omega))).2.1]; exact n3
    · rw [(hq 4 (l0 _ (by omega))).2.1]; exact n4
    · rw [(hq 5 (l0 _ (by omega))).2.1]; exact n5
    · rw [(hq 6 (l0 _ (by omega))).2.1]; exact n6
    · rw [(hq 7 (l0 _ (by omega))).2.1]; exact n7
    · intro k hk; rw [(hq _ (lv_10 hk)).2.1]; exact n10 k hk
    · intro k hk; rw [(hq _ (lv_30 hk)).2.1]; exact n30 k hk
    · intro k hk; rw [(hq _ (lv_60 hk)).2.1]; exact n60 k hk
    · intro k hk; rw [(hq _ (lv_80 hk)).2.1]; exact n80 k hk
    · intro k s hk hs; rw [(hq _ (lv_100 hk hs)).2.1]; exact n100 k s hk hs
  · obtain ⟨⟨r0, r1, r2, r3, r4, r5, r6⟩, q5, q3, q20, q4, q40, q41, q60⟩ := h4
    refine ⟨⟨?_, ?_, ?_, ?_, ?_, ?_, ?_⟩, ?_, ?_, ?_, ?_, ?_, ?_, ?_⟩
    · rw [(hq 0 (l0 _ (by omega))).2.2.1]; exact r0
    · rw [(hq 0 (l0 _ (by omega))).2.2.1]; exact r1
    · rw [(hq 0 (l0 _ (by omega))).2.2.1]; exact r2
    · rw [(hq 0 (l0 _ (by omega))).2.2.1]; exact r3
    · rw [(hq 0 (l0 _ (by omega))).2.2.1]; exact r4
    · rw [(hq 1 (l0 _ (by omega))).2.2.1]; exact r5
    · rw [(hq 2 (l0 _ (by omega))).2.2.1]; exact r6
    · intro k hk; rw [(hq 5 (l0 _ (by omega))).2.2.1]; exact q5 k hk
    · intro k hk; rw [(hq 3 (l0 _ (by omega))).2.2.1]; exact q3 k hk
    · intro k hk; rw [(hq _ (lv_20 hk)).2.2.1]; exact q20 k hk
    · intro k hk; rw [(hq 4 (l0 _ (by omega))).2.2.1]; exact q4 k hk
    · intro k hk; rw [(hq _ (lv_40 hk)).2.2.1]; exact q40 k hk
    · intro k hk; rw [(hq _ (lv_40 hk)).2.2.1]; exact q41 k hk
    · intro k s hk hs; rw [(hq _ (lv_60 hk)).2.2.1]; exact q60 k s hk hs
  · obtain ⟨i1, i2, i3⟩ := h5
    refine ⟨?_, ?_, ?_⟩
    · intro r j i hc
      have hr : lv R r := by
        rcases hc with c | c | c | c | c | c | c | c | c | c
        · exact l0 _ (by omega)
        · exact l0 _ (by omega)
        · exact l0 _ (by omega)
        · exact l0 _ (by omega)
        · exact l0 _ (by omega)
        · rw [show r = 20 + (r - 20) by omega]; exact lv_20 (by omega)
        · rw [show r = 30 + (r - 30) by omega]; exact lv_30 (by omega)
        · rw [show r = 40 + (r - 40) by omega]; exact lv_40 (by omega)
        · rw [show r = 80 + (r - 80) by omega]; exact lv_80 (by omega)
        · rw [show r = 100 + 2 * ((r - 100) / 2) + (r - 100) % 2 by omega]; exact lv_100 (by omega) (by omega)
      rw [(hq r hr).2.2.2.1]
      exact i1 r j i hc
    · intro k hk; rw [(hq _ (lv_20 hk)).2.2.2.1]; exact i2 k hk
    · intro k hk; rw [(hq _ (lv_40 hk)).2.2.2.1]; exact i3 k hk
  · intro x y hx hy
    rcases h6 x y hx hy with ⟨e1, e2⟩ | ⟨f, e1, e2, e3, f1, f2, f3⟩
    · exact .inl ⟨e1, by rw [(hq _ (lv_10 hx)).2.2.1]; exact e2⟩
    · refine .inr ⟨f, by rw [(hq _ (lv_10 hx)).2.2.1]; exact e1, e2, e3, Nat.lt_of_lt_of_le f1 g.1, ?_, ?_⟩
      · rw [(g.2.2 f f1).1]; exact f2
      · rw [(g.2.2 f f1).2.2.2.1]; exact f3
/-! THE SQUARE OF SIGNS -/
/-- a square D of n rows at s, s + 1, s + 2 .. -/
def Wm (s n : Nat) (b : Hp) (D : Nat → Nat → Int32) : Prop :=
  (hK b s = 9 ∧ hI b s 0 = nv n ∧ hR b s 1 = some (s + 1) ∧ hK b (s + 1) = 51 ∧ hN b (s + 1) = n) ∧ (∀ x, x < n → hR b (s + 1) x = some (s + 2 + x)) ∧ (∀ x, x < n → hK b (s + 2 + x) = 41) ∧ (∀ x, x < n → hN b (s + 2 + x) = n) ∧ (∀ x y, x < n → y < n → hI b (s + 2 + x) y = D x y)
theorem Wm.cg {s n : Nat} {b : Hp} {D F : Nat → Nat → Int32} (h : Wm s n b D) (g : ∀ x y, x < n → y < n → D x y = F x y) : Wm s n b F :=
  ⟨h.1, h.2.1, h.2.2.1, h.2.2.2.1, fun x y hx hy => (h.2.2.2.2 x y hx hy).trans (g x y hx hy)⟩
theorem Wm.set {s n : Nat} {b : Hp} {D : Nat → Nat → Int32} (h : Wm s n b D) (x y : Nat) (v : Int32) : Wm s n (hwI b (s + 2 + x) (up1 (hI b (s + 2 + x)) y v)) (fun u w => if u = x ∧ w = y then v else D u w) := by
  refine ⟨⟨h.1.1, ?_, h.1.2.2⟩, h.2.1, h.2.2.1, h.2.2.2.1, fun u w hu hw => ?_⟩
  · rw [hI_wI, up1_n _ _ (by omega)]; exact h.1.2.1
  · rw [hI_wI]
    by_cases c : u = x
    · subst c
      rw [up1_s]
      by_cases d : w = y
      · subst d; rw [up1_s]; simp
      · rw [up1_n _ _ d]; simp only [d, and_false, if_false]; exact h.2.2.2.2 u w hu hw
    · rw [up1_n _ _ (by omega)]
      simp only [c, false_and, if_false]
      exact h.2.2.2.2 u w hu hw
abbrev Wr (s n : Nat) (b : Hp) (D : Nat → Nat → Int32) : Prop := (hK b s = 9 ∧ hI b s 0 = nv n ∧ hR b s 1 = some (s + 1) ∧ hK b (s + 1) = 51 ∧ hN b (s + 1) = n) ∧ (∀ x, x < n → hR b (s + 1) x = some (s + 2 + x)) ∧ (∀ x, x < n → hK b (s + 2 + x) = 41) ∧ (∀ x, x < n → hN b (s + 2 + x) = n) ∧ (∀ x y, x < n → y < n → hI b (s + 2 + x) y = D x y)
theorem Wm.r {s n : Nat} {b : Hp} {D : Nat → Nat → Int32} (h : Wm s n b D) : Wr s n b D := h
/-- a fact laid -/
def lay (D : Nat → Nat → Int32) (x y : Nat) (w : Int32) (u v : Nat) : Int32 := if u = x ∧ v = y ∧ w ≠ 1 then (if w = 0 then 2 else 1) else if u = y ∧ v = x ∧ w ≠ 0 then (if w = 1 then 2 else 1) else D u v
theorem X9_lay_w {s n : Nat} {a b : Hp} {D : Nat → Nat → Int32} (hE : E0 a b) (hs : hSz a ≤ s) (hW : Wm s n b D) (hn : n ≤ 10) {f x y : Nat} {w : Int32} (hf : Fw_ b f x y w) (hfs : f < s) (hw : W3 w) (hxy : x ≠ y) (hx : x < n) (hy : y < n) (Q : Unit → Hp → Prop)
    (h : ∀ b', E0 a b' → hSz b' = hSz b → hSl b' = hSl b → Wm s n b' (lay D x y w) → Q () b') : Wp (X9_lay s (some f)) b Q := by
  have hr := hW.r
  obtain ⟨-, fk, fo⟩ := hf
  have f2 : ∀ j, s + 2 + j ≠ f := fun j => by omega
  have hE1 : ∀ (u v : Nat) (z : Int32), E0 a (hwI b (s + 2 + u) (up1 (hI b (s + 2 + u)) v z)) := fun u v z => hE.wI (by omega) _
  have i20 : ¬ nv 2 = nv 1 := by decide
  have i21 : ¬ nv 2 = nv 0 := by decide
  have i01 : ¬ nv 0 = nv 1 := by decide
  have i10 : ¬ nv 1 = nv 0 := by decide
  have n0 : nrA 41 (nv 1) = nv 1 := rfl
  have n1 : nrA 41 (nv 2) = nv 2 := rfl
  have hup : ∀ (u : Nat) (g : Nat → Int32), hI (hwI b (s + 2 + u) g) f = hI b f := fun u g => by rw [hI_wI, up1_n _ _ (Ne.symm (f2 u))]
  have key : ∀ x y w, x ≠ y → x < n → y < n → W3 w → hI b f 0 = nv x → hI b f 1 = nv y → hI b f 2 = w → (∀ b', E0 a b' → hSz b' = hSz b → hSl b' = hSl b → Wm s n b' (lay D x y w) → Q () b') → Wp (X9_lay s (some f)) b Q := by
    intro x y w hxy hx hy hw e0 e1 e2 h
    rcases hw with rfl | rfl | rfl
    · have e2 : hI b f 2 = nv 0 := e2
      simp (disch := omega) only [X9_lay, X9_lay_33, X9_lay_34, X9_lay_67, X9_lay_68, X10_word, X10_one, X10_other, ↓w_bd, ↓w_rt, ↓w_bh, sm_l, sm_r, ↓w_okr, ↓w_nm, ↓w_ite, ↓reduceIte, not_true_eq_false, not_false_eq_true, and_true, true_and, and_self, Option.some.injEq, reduceCtorEq, eq_self, ↓w_rc, ↓w_gI, ↓w_gR, ↓w_aN, ↓w_aI, ↓w_aR, ↓w_aL, ↓w_pI, ↓w_pR, ↓w_sI, ↓w_sR, ↓w_sL, ↓w_nO, ↓w_nA, ↓w_nL, ↓w_ca, ↓w_ca0, ↓w_gS, ↓w_gK, ↓w_dv, ↓w_tw, ↓w_rz, ↓w_no, nv_lit, nv_f, nv_add, nv_mul, nv_sub, nv_le, nv_lt, nv_eq, nv_cl, Nat.reduceMod, Nat.reduceMul, Nat.reduceAdd, Nat.zero_add, Nat.add_zero, Nat.mul_zero, decide_eq_true_eq, nv_inT, hr, fk, e0, e1, e2, i01, n1, hK_wI, hup]
      refine h _ (hE1 _ _ _) rfl rfl ((hW.set x y (nv 2)).cg ?_)
      intro u v hu hv
      have e00 : (0 : Int32) ≠ 1 := by decide
      simp only [lay, e00, ne_eq, not_false_eq_true, and_true, not_true_eq_false, and_false, if_false, if_true]
      rfl
    · have e2 : hI b f 2 = nv 1 := e2
      simp (disch := omega) only [X9_lay, X9_lay_33, X9_lay_34, X9_lay_67, X9_lay_68, X10_word, X10_one, X10_other, ↓w_bd, ↓w_rt, ↓w_bh, sm_l, sm_r, ↓w_okr, ↓w_nm, ↓w_ite, ↓reduceIte, not_true_eq_false, not_false_eq_true, and_true, true_and, and_self, Option.some.injEq, reduceCtorEq, eq_self, ↓w_rc, ↓w_gI, ↓w_gR, ↓w_aN, ↓w_aI, ↓w_aR, ↓w_aL, ↓w_pI, ↓w_pR, ↓w_sI, ↓w_sR, ↓w_sL, ↓w_nO, ↓w_nA, ↓w_nL, ↓w_ca, ↓w_ca0, ↓w_gS, ↓w_gK, ↓w_dv, ↓w_tw, ↓w_rz, ↓w_no, nv_lit, nv_f, nv_add, nv_mul, nv_sub, nv_le, nv_lt, nv_eq, nv_cl, Nat.reduceMod, Nat.reduceMul, Nat.reduceAdd, Nat.zero_add, Nat.add_zero, Nat.mul_zero, decide_eq_true_eq, nv_inT, hr, fk, e0, e1, e2, i10, n1, hK_wI, hup]
      refine h _ (hE1 _ _ _) rfl rfl ((hW.set y x (nv 2)).cg ?_)
      intro u v hu hv
      have e00 : (1 : Int32) ≠ 0 := by decide
      simp only [lay, e00, ne_eq, not_false_eq_true, and_true, not_true_eq_false, and_false, if_false, if_true]
      rfl
    · have e2 : hI b f 2 = nv 2 := e2
      have hr2 := (hW.set x y (nv 1)).r
      simp (disch := omega) only [X9_lay, X9_lay_33, X9_lay_34, X9_lay_67, X9_lay_68, X10_word, X10_one, X10_other, ↓w_bd, ↓w_rt, ↓w_bh, sm_l, sm_r, ↓w_okr, ↓w_nm, ↓w_ite, ↓reduceIte, not_true_eq_false, not_false_eq_true, and_true, true_and, and_self, Option.some.injEq, reduceCtorEq, eq_self, ↓w_rc, ↓w_gI, ↓w_gR, ↓w_aN, ↓w_aI, ↓w_aR, ↓w_aL, ↓w_pI, ↓w_pR, ↓w_sI, ↓w_sR, ↓w_sL, ↓w_nO, ↓w_nA, ↓w_nL, ↓w_ca, ↓w_ca0, ↓w_gS, ↓w_gK, ↓w_dv, ↓w_tw, ↓w_rz, ↓w_no, nv_lit, nv_f, nv_add, nv_mul, nv_sub, nv_le, nv_lt, nv_eq, nv_cl, Nat.reduceMod, Nat.reduceMul, Nat.reduceAdd, Nat.zero_add, Nat.add_zero, Nat.mul_zero, decide_eq_true_eq, nv_inT, hr, fk, e0, e1, e2, i20, i21, n0, hK_wI, hN_wI, hR_wI, hup]
      refine h _ ((hE1 _ _ _).wI (by omega) _) rfl rfl (((hW.set x y (nv 1)).set y x (nv 1)).cg ?_)
      intro u v hu hv
      have e00 : (2 : Int32) ≠ 0 := by decide
      have e01 : (2 : Int32) ≠ 1 := by decide
      simp only [lay, e00, e01, ne_eq, not_false_eq_true, and_true, if_false]
      by_cases c1 : u = x ∧ v = y
      · rw [if_neg (by omega), if_pos c1, if_pos c1]; rfl
      · simp only [c1, if_false]
        rfl
  rcases fo with ⟨e0, e1, e2⟩ | ⟨e0, e1, e2⟩
  · exact key x y w hxy hx hy hw e0 e1 e2 h
  · have hl : lay D y x (tn w) = lay D x y w := by
      funext u v
      unfold lay
      by_cases c1 : u = x ∧ v = y
      · by_cases c2 : u = y ∧ v = x
        · omega
        · rcases hw with rfl | rfl | rfl <;> simp [c1, c2, tn] <;> simp [hxy, Ne.symm hxy]
      · by_cases c2 : u = y ∧ v = x
        · rcases hw with rfl | rfl | rfl <;> simp [c1, c2, tn] <;> simp [hxy, Ne.symm hxy]
        · have c3 : ∀ p : Prop, ¬ (u = x ∧ v = y ∧ p) := fun p h => c1 ⟨h.1, h.2.1⟩
          have c4 : ∀ p : Prop, ¬ (u = y ∧ v = x ∧ p) := fun p h => c2 ⟨h.1, h.2.1⟩
          simp only [c3, c4, if_false]
    refine key y x (tn w) (Ne.symm hxy) hy hx ?_ e0 e1 e2 ?_
    · rcases hw with rfl | rfl | rfl <;> simp [tn, W3]
    · rw [hl]; exact h
