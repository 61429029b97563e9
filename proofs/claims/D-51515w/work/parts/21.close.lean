/-- the square before it is closed -/
def e0_ (R : Nat → Int32) (u v : Nat) : Int32 := if fc R u v = 0 then 2 else if fc R u v = 2 then 1 else 0
def pD (R : Nat → Int32) (x y u v : Nat) : Int32 := if (u < x ∧ v < x) ∨ (u = x ∧ v < y) ∨ (v = x ∧ u < y) then e0_ R u v else 0
theorem e0_d {R : Nat → Int32} (hF : Fs R) {x : Nat} (hx : x < 10) : e0_ R x x = 0 := by
  have : fc R x x = -1 := by
    rcases hF x x hx hx with e | e
    · exact e
    · exact absurd rfl e.1
  unfold e0_
  rw [this]
  rfl
theorem X2_ways_30_w {B : Nat → Nat × Nat} {a : Hp} {L : Nat → Nat} {R : Nat → Int32} (hM : Mk B a L R) (hF : Fs R) {s : Nat} (hs : hSz a = s) {x : Nat} (hx : x < nH R) (k4 : Nat → Option Nat → Int32 → Mr (Option Nat)) (Q : Option Nat → Hp → Prop) {z w : Nat}
    (hk : ∀ b, E0 a b → hSz b = z → hSl b = w → Wm s (nH R) b (pD R (x + 1) 0) → Wp (k4 (L 0) (some s) (nv (x + 1))) b Q) :
    ∀ b, E0 a b → hSz b = z → hSl b = w → Wm s (nH R) b (pD R x 0) → Wp (X2_ways_30 k4 FU (L 0) (some s) (nv x) (nv 0)) b Q := by
  have h10 := (mk_w hM).2.1.2
  have l : ∀ (f k : Nat), k ≤ x → x - k < f → ∀ b, E0 a b → hSz b = z → hSl b = w → Wm s (nH R) b (pD R x k) → Wp (X2_ways_30 k4 f (L 0) (some s) (nv x) (nv k)) b Q := by
    refine loopUp _ x ?_ ?_
    · intro f b hE hz hw hW
      simp (disch := omega) only [X2_ways_30, ↓w_bd, ↓w_rt, ↓w_bh, sm_l, sm_r, ↓w_okr, ↓w_nm, ↓w_ite, ↓reduceIte, not_true_eq_false, not_false_eq_true, and_true, true_and, and_self, Option.some.injEq, reduceCtorEq, eq_self, ↓w_rc, ↓w_gI, ↓w_gR, ↓w_aN, ↓w_aI, ↓w_aR, ↓w_aL, ↓w_pI, ↓w_pR, ↓w_sI, ↓w_sR, ↓w_sL, ↓w_nO, ↓w_nA, ↓w_nL, ↓w_ca, ↓w_ca0, ↓w_gS, ↓w_gK, ↓w_dv, ↓w_tw, ↓w_rz, ↓w_no, nv_lit, nv_f, nv_add, nv_mul, nv_sub, nv_le, nv_lt, nv_eq, nv_cl, Nat.reduceMod, Nat.reduceMul, Nat.reduceAdd, Nat.zero_add, Nat.add_zero, Nat.mul_zero, decide_eq_true_eq, nv_inT, Nat.le_refl]
      refine hk b hE hz hw (hW.cg fun u v hu hv => ?_)
      unfold pD
      by_cases c : u = x ∧ v = x
      · rw [c.1, c.2, e0_d hF (by omega)]
        simp
      · have : ((u < x ∧ v < x) ∨ (u = x ∧ v < x) ∨ (v = x ∧ u < x)) = ((u < x + 1 ∧ v < x + 1) ∨ (u = x + 1 ∧ v < 0) ∨ (v = x + 1 ∧ u < 0)) := by
          apply propext; omega
        simp only [this]
    · intro f k hk2 ih b hE hz hw hW
      have hM := hM.ext hE (fun _ _ => rfl)
      have hr := hW.r
      have hxk : pD R x (k + 1) = lay (pD R x k) x k (if fc R x k = -1 then 3 else fc R x k) ∨ fc R x k = -1 := by
        by_cases c : fc R x k = -1
        · exact .inr c
        · left
          rw [if_neg c]
          obtain ⟨q1, q2, q3, q4, q5⟩ := hF.w3 (x := x) (y := k) (by omega) (by omega) c
          have t := tn_wd (sz R x) (sz R k)
          have w3 := wd_3 (sz R x) (sz R k)
          unfold ws at q4 q5
          rw [← t, ← q4] at q5
          rw [← q4] at w3
          funext u v
          unfold pD lay
          dsimp only
          by_cases c1 : u = x ∧ v = k
          · have e1 : (u < x ∧ v < x) ∨ (u = x ∧ v < k + 1) ∨ (v = x ∧ u < k + 1) := by omega
            have e2 : ¬ ((u < x ∧ v < x) ∨ (u = x ∧ v < k) ∨ (v = x ∧ u < k)) := by omega
            have e3 : ¬ (u = k ∧ v = x ∧ fc R x k ≠ 0) := by omega
            rw [if_pos e1, if_neg e3, if_neg e2, c1.1, c1.2]
            unfold e0_
            rcases w3 with g | g | g <;> rw [g] <;> simp
          · by_cases c2 : u = k ∧ v = x
            · have e1 : (u < x ∧ v < x) ∨ (u = x ∧ v < k + 1) ∨ (v = x ∧ u < k + 1) := by omega
              have e2 : ¬ ((u < x ∧ v < x) ∨ (u = x ∧ v < k) ∨ (v = x ∧ u < k)) := by omega
              have e3 : ¬ (u = x ∧ v = k ∧ fc R x k ≠ 1) := by omega
              rw [if_pos e1, if_neg e3, if_neg e2, c2.1, c2.2]
              unfold e0_
              rw [q5]
              rcases w3 with g | g | g <;> rw [g] <;> simp [tn]
            · have e1 : ((u < x ∧ v < x) ∨ (u = x ∧ v < k + 1) ∨ (v = x ∧ u < k + 1)) = ((u < x ∧ v < x) ∨ (u = x ∧ v < k) ∨ (v = x ∧ u < k)) := by apply propext; omega
              have e2 : ¬ (u = k ∧ v = x ∧ fc R x k ≠ 0) := by omega
              have e3 : ¬ (u = x ∧ v = k ∧ fc R x k ≠ 1) := by omega
              rw [if_neg e3, if_neg e2]
              simp only [e1]
      rcases mk_f hM x k (by omega) (by omega) with ⟨f1, f2⟩ | ⟨f0, f1, f2, f3, f4⟩
      · simp (disch := omega) only [X2_ways_30, X2_ways_58, ↓w_bd, ↓w_rt, ↓w_bh, sm_l, sm_r, ↓w_okr, ↓w_nm, ↓w_ite, ↓reduceIte, not_true_eq_false, not_false_eq_true, and_true, true_and, and_self, Option.some.injEq, reduceCtorEq, eq_self, ↓w_rc, ↓w_gI, ↓w_gR, ↓w_aN, ↓w_aI, ↓w_aR, ↓w_aL, ↓w_pI, ↓w_pR, ↓w_sI, ↓w_sR, ↓w_sL, ↓w_nO, ↓w_nA, ↓w_nL, ↓w_ca, ↓w_ca0, ↓w_gS, ↓w_gK, ↓w_dv, ↓w_tw, ↓w_rz, ↓w_no, nv_lit, nv_f, nv_add, nv_mul, nv_sub, nv_le, nv_lt, nv_eq, nv_cl, Nat.reduceMod, Nat.reduceMul, Nat.reduceAdd, Nat.zero_add, Nat.add_zero, Nat.mul_zero, decide_eq_true_eq, nv_inT, mk_k hM, mk_n hM, mk_r hM, mk_i hM, Nat.not_le.mpr hk2, f2]
        refine ih b hE hz hw (hW.cg fun u v hu hv => ?_)
        have q : fc R k x = -1 := hF.sym (by omega) (by omega) f1
        unfold pD
        by_cases c1 : u = x ∧ v = k
        · have e : e0_ R u v = 0 := by rw [c1.1, c1.2]; unfold e0_; rw [f1]; rfl
          rw [e]; simp
        · by_cases c2 : u = k ∧ v = x
          · have e : e0_ R u v = 0 := by rw [c2.1, c2.2]; unfold e0_; rw [q]; rfl
            rw [e]; simp
          · have e1 : ((u < x ∧ v < x) ∨ (u = x ∧ v < k) ∨ (v = x ∧ u < k)) = ((u < x ∧ v < x) ∨ (u = x ∧ v < k + 1) ∨ (v = x ∧ u < k + 1)) := by apply propext; omega
            simp only [e1]
      · simp (disch := omega) only [X2_ways_30, X2_ways_58, ↓w_bd, ↓w_rt, ↓w_bh, sm_l, sm_r, ↓w_okr, ↓w_nm, ↓w_ite, ↓reduceIte, not_true_eq_false, not_false_eq_true, and_true, true_and, and_self, Option.some.injEq, reduceCtorEq, eq_self, ↓w_rc, ↓w_gI, ↓w_gR, ↓w_aN, ↓w_aI, ↓w_aR, ↓w_aL, ↓w_pI, ↓w_pR, ↓w_sI, ↓w_sR, ↓w_sL, ↓w_nO, ↓w_nA, ↓w_nL, ↓w_ca, ↓w_ca0, ↓w_gS, ↓w_gK, ↓w_dv, ↓w_tw, ↓w_rz, ↓w_no, nv_lit, nv_f, nv_add, nv_mul, nv_sub, nv_le, nv_lt, nv_eq, nv_cl, Nat.reduceMod, Nat.reduceMul, Nat.reduceAdd, Nat.zero_add, Nat.add_zero, Nat.mul_zero, decide_eq_true_eq, nv_inT, mk_k hM, mk_n hM, mk_r hM, mk_i hM, Nat.not_le.mpr hk2, f1, hr]
        have hne : fc R x k ≠ -1 := by
          intro g
          rw [g] at f3
          rcases f3 with w | w | w <;> exact absurd w (by decide)
        have hfs : f0 < s := by
          have hM0 := (‹Mk B a L R›)
          rcases mk_f hM0 x k (by omega) (by omega) with ⟨g1, -⟩ | ⟨g0, g1, -, -, g2, -⟩
          · exact absurd g1 hne
          · have : hR b (L (10 + x)) k = hR a (L (10 + x)) k := congrFun (hE.2.2 _ (hM0.2.1 _ (lv_10 (by omega))).1).2.2.1 k
            rw [f1, g1] at this
            cases this
            omega
        refine X9_lay_w hE (by omega) hW (by omega) f4 hfs f3 f2 (by omega) (by omega) _ ?_
        intro b' hE' hz' hw' hW'
        refine ih b' hE' (hz'.trans hz) (hw'.trans hw) ?_
        rcases hxk with g | g
        · rw [if_neg hne] at g
          rw [g]; exact hW'
        · exact absurd g hne
  exact fun b hE hz hw hW => l FU 0 (by omega) (by unfold FU; omega) b hE hz hw hW
/-! THE SQUARE CLOSED -/
/-- what a way from x to y lays -/
def vl (R : Nat → Int32) (x y : Nat) : Int32 := if sz R y < sz R x then 2 else 1
/-- sound so far, with every edge; open only through t and above -/
def Sd (R : Nat → Int32) (D : Nat → Nat → Int32) : Prop := ∀ x y, x < nH R → y < nH R → (D x y = 0 ∨ (tc (Ed R 1) (nH R) x y ∧ D x y = vl R x y)) ∧ (Ed R 1 x y → D x y ≠ 0)
def Th (R : Nat → Int32) (t : Nat) (D : Nat → Nat → Int32) : Prop := ∀ b x y, b < t → b < nH R → x < nH R → y < nH R → D x b ≠ 0 → D b y ≠ 0 → D x y ≠ 0
/-- one step: through b -/
def st1 (R : Nat → Int32) (b : Nat) (D : Nat → Nat → Int32) (x y : Nat) : Int32 := if D x b ≠ 0 ∧ D b y ≠ 0 then vl R x y else D x y
theorem tc_le {R : Nat → Int32} (h : Fs R) (hH : nH R ≤ 10) {x y : Nat} (hx : x < nH R) (p : tc (Ed R 1) (nH R) x y) : sz R y ≤ sz R x := by
  obtain ⟨k, hk⟩ := p
  exact (pth_le h hH hx hk).1
theorem vl_ne (R : Nat → Int32) (x y : Nat) : vl R x y ≠ 0 := by
  unfold vl
  split <;> decide
theorem sd_0 {R : Nat → Int32} (h : Fs R) (hH : nH R ≤ 10) : Sd R (e0_ R) := by
  intro x y hx hy
  by_cases c : fc R x y = -1
  · have e : e0_ R x y = 0 := by unfold e0_; rw [c]; rfl
    exact ⟨.inl e, fun g => absurd c g.1⟩
  · obtain ⟨q1, q2, q3, q4, q5⟩ := h.w3 (x := x) (y := y) (by omega) (by omega) c
    by_cases c1 : fc R x y = 1
    · have e : e0_ R x y = 0 := by unfold e0_; rw [c1]; rfl
      exact ⟨.inl e, fun g => absurd c1 g.2⟩
    · have he : Ed R 1 x y := ⟨c, c1⟩
      have w3 := wd_3 (sz R x) (sz R y)
      unfold ws at q4
      have q := ed_2 h hH hx hy he
      rw [← q4] at w3
      have e : e0_ R x y = vl R x y := by
        unfold e0_ vl
        rcases w3 with g | g | g
        · rw [if_pos g, if_pos (q.2.mp g)]
        · exact absurd g c1
        · rw [if_neg (by rw [g]; decide), if_pos g, if_neg]
          rw [q.1.mp g]
          exact Int32.lt_irrefl
      exact ⟨.inr ⟨tc_e hy he, e⟩, fun _ => by rw [e]; exact vl_ne R x y⟩
theorem st1_sd {R : Nat → Int32} {b : Nat} (hb : b < nH R) {D : Nat → Nat → Int32} (h : Sd R D) : Sd R (st1 R b D) := by
  intro x y hx hy
  unfold st1
  by_cases c : D x b ≠ 0 ∧ D b y ≠ 0
  · rw [if_pos c]
    have h1 := (h x b hx hb).1
    have h2 := (h b y hb hy).1
    rcases h1 with e | h1
    · exact absurd e c.1
    · rcases h2 with e | h2
      · exact absurd e c.2
      · exact ⟨.inr ⟨tc_tr h1.1 h2.1, rfl⟩, fun _ => vl_ne R x y⟩
  · rw [if_neg c]
    exact h x y hx hy
theorem st1_ne {R : Nat → Int32} {b : Nat} {D : Nat → Nat → Int32} {x y : Nat} : st1 R b D x y ≠ 0 ↔ D x y ≠ 0 ∨ (D x b ≠ 0 ∧ D b y ≠ 0) := by
  unfold st1
  by_cases c : D x b ≠ 0 ∧ D b y ≠ 0
  · rw [if_pos c]
    exact ⟨fun _ => .inr c, fun _ => vl_ne R x y⟩
  · rw [if_neg c]
    exact ⟨.inl, fun h => h.elim id (fun g => absurd g c)⟩
theorem st1_th {R : Nat → Int32} {t : Nat} (ht : t < nH R) {D : Nat → Nat → Int32} (h : Th R t D) : Th R (t + 1) (st1 R t D) := by
  intro b x y hb hbn hx hy h1 h2
  rw [st1_ne] at h1 h2 ⊢
  by_cases e : b = t
  · subst e
    rcases h1 with h1 | h1
    · rcases h2 with h2 | h2
      · exact .inr ⟨h1, h2⟩
      · exact .inr ⟨h1, h2.2⟩
    · rcases h2 with h2 | h2
      · exact .inr ⟨h1.1, h2⟩
      · exact .inr ⟨h1.1, h2.2⟩
  · have hb : b < t := by omega
    rcases h1 with h1 | h1
    · rcases h2 with h2 | h2
      · exact .inl (h b x y hb hbn hx hy h1 h2)
      · exact .inr ⟨h b x t hb hbn hx ht h1 h2.1, h2.2⟩
    · rcases h2 with h2 | h2
      · exact .inr ⟨h1.1, h b t y hb hbn ht hy h1.2 h2⟩
      · exact .inr ⟨h1.1, h2.2⟩
theorem cd_of {R : Nat → Int32} {D : Nat → Nat → Int32} (h : Sd R D) (g : Th R (nH R) D) : CD R D := by
  intro x y hx hy
  have hne : tc (Ed R 1) (nH R) x y → D x y ≠ 0 := tc_cl (D := fun a b => D a b ≠ 0) (fun a b ha hb e => (h a b ha hb).2 e) (fun a b c ha hb hc e1 e2 => g b a c hb hb ha hc e1 e2) hx
  constructor
  · intro t
    rcases (h x y hx hy).1 with e | e
    · exact absurd e (hne t)
    · exact e.2
  · intro t
    rcases (h x y hx hy).1 with e | e
    · exact e
    · exact absurd e.1 t
/-- the step in place: max is what the way lays -/
theorem mx_vl {R : Nat → Int32} (hF : Fs R) (hH : nH R ≤ 10) {D : Nat → Nat → Int32} (h : Sd R D) {x b y : Nat} (hx : x < nH R) (hb : b < nH R) (hy : y < nH R) (h1 : D x b ≠ 0) (h2 : D b y ≠ 0) : mx (D x y) (mx (D x b) (D b y)) = vl R x y := by
  rcases (h x b hx hb).1 with e | ⟨t1, e1⟩
  · exact absurd e h1
  rcases (h b y hb hy).1 with e | ⟨t2, e2⟩
  · exact absurd e h2
  have l1 := tc_le hF hH hx t1
  have l2 := tc_le hF hH hb t2
  have e : mx (D x b) (D b y) = vl R x y := by
    rw [e1, e2]
    unfold vl
    simp only [Int32.le_iff_toInt_le, Int32.lt_iff_toInt_lt] at *
    by_cases c1 : (sz R b).toInt < (sz R x).toInt
    · rw [if_pos c1, if_pos (show (sz R y).toInt < (sz R x).toInt by omega)]
      split <;> decide
    · by_cases c2 : (sz R y).toInt < (sz R b).toInt
      · rw [if_neg c1, if_pos c2, if_pos (show (sz R y).toInt < (sz R x).toInt by omega)]
        decide
      · rw [if_neg c1, if_neg c2, if_neg (show ¬ (sz R y).toInt < (sz R x).toInt by omega)]
        decide
  rw [e]
  rcases (h x y hx hy).1 with e | ⟨-, e⟩
  · rw [e]
    unfold vl
    split <;> decide
  · rw [e]
    unfold mx
    rw [if_neg Int32.lt_irrefl]
theorem vl_pos (R : Nat → Int32) (x y : Nat) : ¬ vl R x y ≤ 0 := by
  unfold vl
  split <;> decide
theorem sd_pos {R : Nat → Int32} {D : Nat → Nat → Int32} (h : Sd R D) {x y : Nat} (hx : x < nH R) (hy : y < nH R) : (D x y ≤ nv 0) = (D x y = 0) := by
  apply propext
  rcases (h x y hx hy).1 with e | ⟨-, e⟩
  · rw [e]; exact ⟨fun _ => rfl, fun _ => Int32.le_refl _⟩
  · rw [e]; exact ⟨fun g => absurd g (vl_pos R x y), fun g => absurd g (vl_ne R x y)⟩
