/-! WHAT IF IT WERE SHOWN -/
theorem sN_id {S : Gst} {p : Mp} (h : gm S 0 = some p) : sN S p = S := by
  unfold sN
  rw [← h, up1_id]
  rfl
def Kp (a b : Hp) : Prop := ∀ q, q < hSz a → 100 ≤ hK a q → hK b q = hK a q ∧ hN b q = hN a q ∧ hI b q = hI a q
theorem EP.kp {P : Nat → Prop} {a b : Hp} (g : EP P a b) (hP : ∀ q, P q → hK a q < 100) : Kp a b := fun q hq hk => by
  have := g.2.2 q hq (fun hp => by have := hP q hp; omega)
  exact ⟨this.1, this.2.1, this.2.2.2⟩
theorem tG_k {G : Nat → Nat} {a : Hp} (hT : FT G a) {q : Nat} (h : tG G q) : hK a q < 100 := by
  obtain ⟨j, j1, j2, rfl⟩ := h
  obtain ⟨⟨k10, -⟩, ⟨k11, k12, k13, k14, k15, k16, k17, k18, k19⟩, -⟩ := hT
  have : j = 10 ∨ j = 11 ∨ j = 12 ∨ j = 13 ∨ j = 14 ∨ j = 15 ∨ j = 16 ∨ j = 17 ∨ j = 18 ∨ j = 19 := by omega
  rcases this with rfl | rfl | rfl | rfl | rfl | rfl | rfl | rfl | rfl | rfl <;> omega
theorem Kp.tr {a b c : Hp} (h : Kp a b) (hz : hSz a ≤ hSz b) (g : Kp b c) : Kp a c := fun q hq hk => by
  obtain ⟨h1, h2, h3⟩ := h q hq hk
  obtain ⟨g1, g2, g3⟩ := g q (by omega) (by rw [h1]; exact hk)
  exact ⟨g1.trans h1, g2.trans h2, g3.trans h3⟩
/-- behind a step of the component that keeps what holds -/
theorem afterG {G : Nat → Nat} {B : Nat → Nat × Nat} {S : Gst} {a b1 b c : Hp} {x : Int32} (hC : JC G B S b1) (hT : JT G S b1) (hz0 : hSz a ≤ hSz b1) (hkp : Kp a b1) (hz : hSz b1 ≤ hSz a + 50000) (hl : hSl b1 ≤ hSl a + 228000) (hb : b = b1 ∨ ∃ f, b = hwL b1 (G 20) f ∨ b = hwL b1 (G 21) f) (hc : Sy G (th G b x) c) : After G a c := by
  have hG := hC.1.gd
  have hCb : JC G B S b := by
    rcases hb with rfl | ⟨f, rfl | rfl⟩
    · exact hC
    · exact hC.wL _ _
    · exact hC.wL _ _
  have hTb : JT G S b := by
    rcases hb with rfl | ⟨f, rfl | rfl⟩
    · exact hT
    · exact hT.wL _ _
    · exact hT.wL _ _
  have ep : EP (tG G) b c := (th_ep G b x).tr hc.ep
  have hz2 : hSz c = hSz b1 := by rw [hc.sz, th_sz]; rcases hb with rfl | ⟨f, rfl | rfl⟩ <;> rfl
  have hl2 : hSl c = hSl b1 := by rw [hc.sl, th_sl]; rcases hb with rfl | ⟨f, rfl | rfl⟩ <;> rfl
  have kb : Kp b1 b := by
    rcases hb with rfl | ⟨f, rfl | rfl⟩ <;> exact fun _ _ _ => ⟨rfl, rfl, rfl⟩
  have hzb : hSz b = hSz b1 := by rcases hb with rfl | ⟨f, rfl | rfl⟩ <;> rfl
  refine ⟨⟨B, S, hCb.tw hTb.1 ep, (hTb.th hG x).sy hG (fun i p hp => (hC.2.2.1.2.1 i p hp).1) hc⟩, ⟨by omega, by omega⟩, ?_⟩
  exact (hkp.tr hz0 kb).tr (by omega) (ep.kp (fun q hq => tG_k hTb.1 hq))
theorem postG {G : Nat → Nat} {B : Nat → Nat × Nat} {S : Gst} {a b1 c : Hp} (hC : JC G B S b1) (hT : JT G S b1) (hz0 : hSz a ≤ hSz b1) (hkp : Kp a b1) (hz : hSz b1 ≤ hSz a + 50000) (hl : hSl b1 ≤ hSl a + 228000) {w : Int32} (hc : Sy G (th G (ol G b1 w) (nv 0)) c) : Post G a (nv 0) w c := by
  have hG := hC.1.gd
  refine ⟨?_, fun e => ?_, afterG hC hT hz0 hkp hz hl (.inr ⟨_, .inl rfl⟩) hc⟩
  · rw [hc.2.2 (G 10) 5 (hG.ne (by omega) (by omega) (by omega)) (hG.ne (by omega) (by omega) (by omega)) (hG.ne (by omega) (by omega) (by omega)) (fun e => hG.ne (by omega) (by omega) (by omega) e.1), th_5]
  · rw [hc.l, th_L]
    exact ol_0 G b1 w
/-- rows that differ in facts alone -/
def Rf (R R' : Nat → Int32) : Prop := ∀ i, i < 85 ∨ 185 ≤ i → R' i = R i
theorem Rf.H {R R' : Nat → Int32} (h : Rf R R') : nH R' = nH R := by unfold nH; rw [h _ (by omega)]
theorem Rf.T {R R' : Nat → Int32} (h : Rf R R') : nT R' = nT R := by unfold nT; rw [h _ (by omega)]
theorem Rf.C {R R' : Nat → Int32} (h : Rf R R') : nC R' = nC R := by unfold nC; rw [h _ (by omega)]
theorem Rf.R {R R' : Nat → Int32} (h : Rf R R') {x : Nat} (hx : x < 10) : nR R' x = nR R x := by unfold nR; rw [h _ (by omega)]
theorem Rf.O {R R' : Nat → Int32} (h : Rf R R') {x : Nat} (hx : x < 10) : ow R' x = ow R x := by unfold ow; rw [h _ (by omega)]
theorem Rf.S {R R' : Nat → Int32} (h : Rf R R') (c s : Nat) : sd R' c s = sd R c s := by unfold sd; rw [h _ (by omega)]
theorem Rf.W {R R' : Nat → Int32} (h : Rf R R') (c : Nat) : who R' c = who R c := by unfold who; rw [h _ (by omega)]
theorem Rf.sh {R R' : Nat → Int32} (h : Rf R R') (hS : Sh R) : Sh R' := by
  have h10 := sh_H10 hS
  obtain ⟨⟨a1, a2, a3⟩, ⟨b1, b2, b3⟩, ⟨c1, c2⟩, d, e⟩ := hS
  unfold Sh
  rw [h.H, h.T, h.C]
  refine ⟨⟨by rw [h _ (by omega)]; exact a1, a2, a3⟩, ⟨by rw [h _ (by omega)]; exact b1, b2, b3⟩, ⟨by rw [h _ (by omega)]; exact c1, c2⟩, fun x hx => ?_, fun c hc => ?_⟩
  · rw [h.R (by omega), h.O (by omega), h _ (by omega), h _ (by omega)]
    exact d x hx
  · rw [h.W, h.S, h.S, h _ (by omega)]
    obtain ⟨e1, e2, e3, e4⟩ := e c hc
    refine ⟨e1, e2, e3, fun s hs => ?_⟩
    rw [h.S, h _ (by omega)]
    exact e4 s hs
theorem Rf.sz {R R' : Nat → Int32} (h : Rf R R') {x : Nat} (hx : x < 10) (h5 : nR R x ≤ 5) : sz R' x = sz R x := by
  unfold _root_.Jvm.Pilot.CTongueProofsLaw_law_r9772_e9cac1.sz
  rw [h.R hx]
  exact su_cg fun r hr => by unfold st; rw [h _ (by omega)]
/-- as if x and y were shown -/
def shw (R : Nat → Int32) (x y : Nat) : Nat → Int32 := up1 (up1 R (85 + 10 * x + y) (ws R x y)) (85 + 10 * y + x) (ws R y x)
theorem shw_rf (R : Nat → Int32) {x y : Nat} (hx : x < 10) (hy : y < 10) : Rf R (shw R x y) := fun i hi => by
  unfold shw
  rw [up1_o _ _ _ (by omega), up1_o _ _ _ (by omega)]
theorem shw_fc (R : Nat → Int32) {x y u v : Nat} (hx : x < 10) (hy : y < 10) (hu : u < 10) (hv : v < 10) (hxy : x ≠ y) : fc (shw R x y) u v = if u = x ∧ v = y then ws R x y else if u = y ∧ v = x then ws R y x else fc R u v := by
  unfold fc shw
  by_cases c : u = x ∧ v = y
  · rw [if_pos c, c.1, c.2, up1_o _ _ _ (by omega), up1_s]
  · rw [if_neg c]
    by_cases d : u = y ∧ v = x
    · rw [if_pos d, d.1, d.2, up1_s]
    · rw [if_neg d, up1_o _ _ _ (by omega), up1_o _ _ _ (by omega)]
theorem shw_ws {R : Nat → Int32} (hS : Sh R) {x y u v : Nat} (hx : x < 10) (hy : y < 10) (hu : u < nH R) (hv : v < nH R) : ws (shw R x y) u v = ws R u v := by
  have h10 := sh_H10 hS
  have := shw_rf R hx hy
  unfold ws
  rw [this.sz (by omega) (sh_R5 hS hu), this.sz (by omega) (sh_R5 hS hv)]
theorem shw_fs {R : Nat → Int32} (hS : Sh R) (hF : Fs R) {x y : Nat} (hx : x < nH R) (hy : y < nH R) (hxy : x ≠ y) : Fs (shw R x y) := by
  have h10 := sh_H10 hS
  intro u v hu hv
  have eH := (shw_rf R (show x < 10 by omega) (show y < 10 by omega)).H
  rw [shw_fc R (by omega) (by omega) hu hv hxy, shw_fc R (by omega) (by omega) hv hu hxy]
  by_cases c : u = x ∧ v = y
  · right
    have c2 : ¬ (v = x ∧ u = y) := by omega
    have c3 : v = y ∧ u = x := ⟨c.2, c.1⟩
    rw [if_pos c, if_neg c2, if_pos c3, eH, c.1, c.2, shw_ws hS (by omega) (by omega) hx hy, shw_ws hS (by omega) (by omega) hy hx]
    exact ⟨hxy, hx, hy, rfl, rfl⟩
  · rw [if_neg c]
    by_cases d : u = y ∧ v = x
    · right
      have d2 : v = x ∧ u = y := ⟨d.2, d.1⟩
      rw [if_pos d, if_pos d2, eH, d.1, d.2, shw_ws hS (by omega) (by omega) hx hy, shw_ws hS (by omega) (by omega) hy hx]
      exact ⟨Ne.symm hxy, hy, hx, rfl, rfl⟩
    · have d2 : ¬ (v = x ∧ u = y) := by omega
      have d3 : ¬ (v = y ∧ u = x) := by omega
      rw [if_neg d, if_neg d2, if_neg d3, eH]
      rcases hF u v hu hv with e | ⟨e1, e2, e3, e4, e5⟩
      · exact .inl e
      · refine .inr ⟨e1, e2, e3, ?_, ?_⟩
        · rw [shw_ws hS (by omega) (by omega) e2 e3]; exact e4
        · rw [shw_ws hS (by omega) (by omega) e3 e2]; exact e5
theorem Fw_.sym {a : Hp} {f x y : Nat} {w : Int32} (h : Fw_ a f x y w) (hw : W3 w) : Fw_ a f y x (tn w) := by
  obtain ⟨h1, h2, ⟨a1, a2, a3⟩ | ⟨a1, a2, a3⟩⟩ := h
  · refine ⟨h1, h2, .inr ⟨a1, a2, ?_⟩⟩
    rw [a3]
    rcases hw with rfl | rfl | rfl <;> rfl
  · exact ⟨h1, h2, .inl ⟨a1, a2, a3⟩⟩
theorem Fw_.ep {P : Nat → Prop} {a b : Hp} {f x y : Nat} {w : Int32} (h : Fw_ a f x y w) (g : EP P a b) (hP : ∀ q, P q → hK a q ≠ 10) : Fw_ b f x y w := by
  have := g.2.2 f h.1 (fun hp => hP f hp h.2.1)
  refine ⟨Nat.lt_of_lt_of_le h.1 g.1, by rw [this.1]; exact h.2.1, ?_⟩
  rw [this.2.2.2]
  exact h.2.2
/-- a new fact -/
def nf (a : Hp) (x y w : Int32) : Hp := hwI (hwI (hwI (hNew a 10 0 3 (fun _ => nv 0) (fun _ => none)) (hSz a) (up1 (fun _ => nv 0) 0 x)) (hSz a) (up1 (up1 (fun _ => nv 0) 0 x) 1 y)) (hSz a) (up1 (up1 (up1 (fun _ => nv 0) 0 x) 1 y) 2 w)
theorem nf_e (a : Hp) (x y w : Int32) : E0 a (nf a x y w) := ((((E0.rf a).new _ _ _ _ _).wI (Nat.le_refl _) _).wI (Nat.le_refl _) _).wI (Nat.le_refl _) _
theorem nf_f (a : Hp) (x y : Nat) (w : Int32) : Fw_ (nf a (nv x) (nv y) w) (hSz a) x y w := by
  refine ⟨?_, ?_, .inl ⟨?_, ?_, ?_⟩⟩
  · show hSz a < hSz a + 1
    omega
  · show hK (hNew a 10 0 3 (fun _ => nv 0) (fun _ => none)) (hSz a) = 10
    rw [hK_new, up1_s]
  · unfold nf
    rw [hI_wI, up1_s, up1_o _ _ _ (by omega), up1_o _ _ _ (by omega), up1_s]
  · unfold nf
    rw [hI_wI, up1_s, up1_o _ _ _ (by omega), up1_s]
  · unfold nf
    rw [hI_wI, up1_s, up1_s]
theorem nf_z (a : Hp) (x y w : Int32) : hSz (nf a x y w) = hSz a + 1 := rfl
theorem nf_l (a : Hp) (x y w : Int32) : hSl (nf a x y w) = hSl a + 3 := rfl
theorem X10_mk_w (x y w : Int32) (a : Hp) (Q : Unit → Hp → Prop) : Wp (X10_init (hSz a) x y w) (hNew a 10 0 3 (fun _ => nv 0) (fun _ => none)) Q ↔ Q () (nf a x y w) := by
  have hk : hK (hNew a 10 0 3 (fun _ => nv 0) (fun _ => none)) (hSz a) = 10 := by rw [hK_new, up1_s]
  have hi : hI (hNew a 10 0 3 (fun _ => nv 0) (fun _ => none)) (hSz a) = fun _ => nv 0 := by rw [hI_new, up1_s]
  have ok : ∀ z, okN 0 z = true := fun _ => rfl
  simp (disch := omega) only [X10_init, J18_init, ↓w_bd, ↓w_rt, ↓w_bh, sm_l, sm_r, ↓w_okr, ↓w_nm, ↓w_ite, ↓reduceIte, not_true_eq_false, not_false_eq_true, and_true, true_and, and_self, Option.some.injEq, reduceCtorEq, eq_self, ↓w_rc, ↓w_gI, ↓w_gR, ↓w_aN, ↓w_aI, ↓w_aR, ↓w_aL, ↓w_pI, ↓w_pR, ↓w_sI, ↓w_sR, ↓w_sL, ↓w_nO, ↓w_nA, ↓w_nL, ↓w_ca, ↓w_ca0, ↓w_gS, ↓w_gK, ↓w_dv, ↓w_tw, ↓w_rz, ↓w_no, nv_lit, nv_f, nv_add, nv_mul, nv_sub, nv_le, nv_lt, nv_eq, nv_cl, Nat.reduceMod, Nat.reduceMul, Nat.reduceAdd, Nat.zero_add, Nat.add_zero, Nat.mul_zero, decide_eq_true_eq, nv_inT, hk, hK_wI, hI_wI, up1_s, hi, ok]
  rfl
/-- two facts' cells laid -/
def s2 (a : Hp) (p q x y : Nat) (v : Option Nat) : Hp := hwR (hwR a p (up1 (hR a p) y v)) q (up1 (hR (hwR a p (up1 (hR a p) y v)) q) x v)
theorem s2_ep (a : Hp) (p q x y : Nat) (v : Option Nat) : EP (fun z => z = p ∨ z = q) a (s2 a p q x y v) := ((EP.rf _ a).wR (.inl (.inl rfl)) _).wR (.inl (.inr rfl)) _
theorem okR_f {a : Hp} {f x y : Nat} {w : Int32} (h : Fw_ a f x y w) : okR a [10] (some f) = true := by
  unfold okR
  simp [h.2.1]
theorem Mk.s2 {B : Nat → Nat × Nat} {a : Hp} {L : Nat → Nat} {R : Nat → Int32} (hM : Mk B a L R) {x y : Nat} (hx : x < 10) (hy : y < 10) (hxy : x ≠ y) {v : Option Nat} {w : Int32} (hv : (w = -1 ∧ v = none) ∨ ∃ f, v = some f ∧ W3 w ∧ Fw_ a f x y w) : Mk B (s2 a (L (10 + x)) (L (10 + y)) x y v) L (up1 (up1 R (85 + 10 * x + y) w) (85 + 10 * y + x) (if w = -1 then -1 else tn w)) := by
  refine (hM.wF hx hy ?_).wF hy hx ?_
  · rcases hv with h | ⟨f, h1, h2, h3⟩
    · exact .inl h
    · exact .inr ⟨f, h1, hxy, h2, h3⟩
  · rcases hv with ⟨h1, h2⟩ | ⟨f, h1, h2, h3⟩
    · exact .inl ⟨by rw [if_pos h1], h2⟩
    · refine .inr ⟨f, h1, Ne.symm hxy, ?_, ?_⟩
      · rw [if_neg (w3_m1 h2)]
        rcases h2 with rfl | rfl | rfl <;> simp [tn, W3]
      · rw [if_neg (w3_m1 h2)]
        exact h3.sym h2
