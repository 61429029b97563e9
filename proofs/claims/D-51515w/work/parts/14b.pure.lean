/-! WHAT A ROW TELLS: the row's places as both programs use them -/
def nT (R : Nat → Int32) : Nat := ix (R 0)
def nH (R : Nat → Int32) : Nat := ix (R 1)
def nC (R : Nat → Int32) : Nat := ix (R 3)
def nR (R : Nat → Int32) (h : Nat) : Nat := ix (R (15 + 7 * h + 1))
def ow (R : Nat → Int32) (h : Nat) : Nat := ix (R (15 + 7 * h))
def sd (R : Nat → Int32) (c s : Nat) : Nat := ix (R (185 + 18 * c + (1 + s)))
def who (R : Nat → Int32) (c : Nat) : Nat := ix (R (185 + 18 * c))
/-- stones of a heap's row; a word of a fact; a claim's places -/
def st (R : Nat → Int32) (h r : Nat) : Int32 := R (15 + 7 * h + (2 + r))
def fc (R : Nat → Int32) (a b : Nat) : Int32 := R (85 + 10 * a + b)
def cs (R : Nat → Int32) (c j : Nat) : Int32 := R (185 + 18 * c + j)
/-- the shape of a row -/
def Sh (R : Nat → Int32) : Prop :=
  (R 0 = nv (nT R) ∧ 1 ≤ nT R ∧ nT R ≤ 4) ∧ (R 1 = nv (nH R) ∧ 2 ≤ nH R ∧ nH R ≤ 10) ∧ (R 3 = nv (nC R) ∧ nC R ≤ 20) ∧
  (∀ h, h < nH R → R (15 + 7 * h + 1) = nv (nR R h) ∧ 1 ≤ nR R h ∧ nR R h ≤ 5 ∧ R (15 + 7 * h) = nv (ow R h) ∧ ow R h < nT R) ∧
  (∀ c, c < nC R → R (185 + 18 * c) = nv (who R c) ∧ who R c < nT R ∧ sd R c 0 ≠ sd R c 1 ∧ ∀ s, s < 2 → R (185 + 18 * c + (1 + s)) = nv (sd R c s) ∧ sd R c s < nH R)
def sz (R : Nat → Int32) (h : Nat) : Int32 := su (fun r => st R h r) (nR R h)
def lk (R : Nat → Int32) (e : Int32) (h : Nat) : Int32 := su (fun r => sg (st R h r) e) (nR R h)
def ws (R : Nat → Int32) (a b : Nat) : Int32 := wd (sz R a) (sz R b)
def we (R : Nat → Int32) (e : Int32) (a b : Nat) : Int32 := wd (lk R e a) (lk R e b)
/-- errors by an eye -/
def er (R : Nat → Int32) (e : Int32) : Int32 := su (fun a => su (fun b => if ws R a b = we R e a b then 0 else 1) a) (nH R)
/-- facts with a heap, all of them -/
def fw (R : Nat → Int32) (a : Nat) : Int32 := su (fun k => if fc R a k = -1 then 0 else 1) (nH R)
def fa (R : Nat → Int32) : Int32 := su (fun a => fw R a) (nH R) / 2
/-- left over of a row, of a side; whether a claim is ended -/
def li (R : Nat → Int32) (c s r : Nat) : Int32 := st R (sd R c s) r - cs R c (8 + 5 * s + r)
def lf (R : Nat → Int32) (c s : Nat) : Int32 := if cs R c 4 = 0 then su (fun r => li R c s r) (nR R (sd R c s)) else cs R c (6 + s)
def en (R : Nat → Int32) (c : Nat) : Prop := lf R c 0 = 0 ∨ lf R c 1 = 0
/-- claims in a state; of a trader; of a trader in a state; open ones with a heap -/
def ct (R : Nat → Int32) (v : Int32) : Int32 := su (fun c => if cs R c 4 = v then 1 else 0) (nC R)
def co (R : Nat → Int32) (t : Int32) : Int32 := su (fun c => if cs R c 0 = t then 1 else 0) (nC R)
def cos (R : Nat → Int32) (t v : Int32) : Int32 := su (fun c => if cs R c 0 = t then (if cs R c 4 = v then 1 else 0) else 0) (nC R)
def opw (R : Nat → Int32) (h : Int32) : Int32 := su (fun c => if cs R c 4 = 0 then (if cs R c 1 = h then 1 else if cs R c 2 = h then 1 else 0) else 0) (nC R)
/-- heaps of a trader, their stones; all stones; the greatest row -/
def ob (R : Nat → Int32) (t : Int32) : Int32 := su (fun h => if R (15 + 7 * h) = t then 1 else 0) (nH R)
def os (R : Nat → Int32) (t : Int32) : Int32 := su (fun h => if R (15 + 7 * h) = t then sz R h else 0) (nH R)
def as_ (R : Nat → Int32) : Int32 := su (fun h => sz R h) (nH R)
def gr (f : Nat → Int32) : Nat → Int32
  | 0 => 0
  | n + 1 => mx (gr f n) (f n)
theorem gr_s (f : Nat → Int32) (n : Nat) : mx (gr f n) (f n) = gr f (n + 1) := rfl
def gr_ (R : Nat → Int32) (h : Nat) : Int32 := gr (fun r => st R h r) (nR R h)
/-- places of which too much is paired -/
def op (R : Nat → Int32) (c : Nat) : Int32 := su (fun s => su (fun r => if 0 ≤ li R c s r then 0 else 1) (nR R (sd R c s))) 2
/-- the rank of a heap: how many come ahead; the first place that is so -/
def rnk (R : Nat → Int32) (a : Nat) : Int32 := su (fun b => if sz R a < sz R b then 1 else if sz R b = sz R a then (if a ≤ b then 0 else 1) else 0) (nH R)
def ff (p : Nat → Bool) (k : Nat) : Nat → Option Nat
  | 0 => none
  | j + 1 => if p k = true then some k else ff p (k + 1) j
def on (x : Option Nat) : Int32 := match x with
  | none => -1
  | some k => nv k
def rkd (R : Nat → Int32) (v : Int32) : Option Nat := ff (fun a => decide (rnk R a = v)) 0 (nH R)
/-- the row of the stone at an index of what is left over -/
def raF (f : Nat → Int32) (v : Int32) (k : Nat) : Nat → Int32
  | 0 => -1
  | j + 1 => if f k ≤ v then raF f (v - f k) (k + 1) j else nv k
def ra (R : Nat → Int32) (c s : Nat) (v : Int32) : Int32 := raF (fun r => li R c s r) v 0 (nR R (sd R c s))
def ab (v : Int32) : Int32 := if 0 ≤ v then v else -v
/-- how far apart two heaps are; the nearest one -/
def ap (R : Nat → Int32) (h k : Nat) : Int32 := ab (sz R h - sz R k)
def b0 (h : Nat) : Nat := if h = 0 then 1 else 0
def nb (R : Nat → Int32) (h : Nat) : Nat → Nat
  | 0 => b0 h
  | k + 1 => if k = h then nb R h k else if ap R h k < ap R h (nb R h k) then k else nb R h k
theorem sh_H {R : Nat → Int32} (h : Sh R) : R 1 = nv (nH R) := h.2.1.1
theorem sh_T {R : Nat → Int32} (h : Sh R) : R 0 = nv (nT R) := h.1.1
theorem sh_C {R : Nat → Int32} (h : Sh R) : R 3 = nv (nC R) := h.2.2.1.1
theorem sh_H10 {R : Nat → Int32} (h : Sh R) : nH R ≤ 10 := h.2.1.2.2
theorem sh_H2 {R : Nat → Int32} (h : Sh R) : 2 ≤ nH R := h.2.1.2.1
theorem sh_T4 {R : Nat → Int32} (h : Sh R) : nT R ≤ 4 := h.1.2.2
theorem sh_T1 {R : Nat → Int32} (h : Sh R) : 1 ≤ nT R := h.1.2.1
theorem sh_C20 {R : Nat → Int32} (h : Sh R) : nC R ≤ 20 := h.2.2.1.2
theorem sh_R {R : Nat → Int32} (h : Sh R) {k : Nat} (hk : k < nH R) : R (15 + 7 * k + 1) = nv (nR R k) := (h.2.2.2.1 k hk).1
theorem sh_R5 {R : Nat → Int32} (h : Sh R) {k : Nat} (hk : k < nH R) : nR R k ≤ 5 := (h.2.2.2.1 k hk).2.2.1
theorem sh_R1 {R : Nat → Int32} (h : Sh R) {k : Nat} (hk : k < nH R) : 1 ≤ nR R k := (h.2.2.2.1 k hk).2.1
theorem sh_O {R : Nat → Int32} (h : Sh R) {k : Nat} (hk : k < nH R) : R (15 + 7 * k) = nv (ow R k) := (h.2.2.2.1 k hk).2.2.2.1
theorem sh_OT {R : Nat → Int32} (h : Sh R) {k : Nat} (hk : k < nH R) : ow R k < nT R := (h.2.2.2.1 k hk).2.2.2.2
theorem sh_S {R : Nat → Int32} (h : Sh R) {c s : Nat} (hc : c < nC R) (hs : s < 2) : R (185 + 18 * c + (1 + s)) = nv (sd R c s) := ((h.2.2.2.2 c hc).2.2.2 s hs).1
theorem sh_S0 {R : Nat → Int32} (h : Sh R) {c : Nat} (hc : c < nC R) : R (185 + 18 * c + 1) = nv (sd R c 0) := sh_S h hc (s := 0) (by omega)
theorem sh_S1 {R : Nat → Int32} (h : Sh R) {c : Nat} (hc : c < nC R) : R (185 + 18 * c + 2) = nv (sd R c 1) := sh_S h hc (s := 1) (by omega)
theorem sh_SH {R : Nat → Int32} (h : Sh R) {c s : Nat} (hc : c < nC R) (hs : s < 2) : sd R c s < nH R := ((h.2.2.2.2 c hc).2.2.2 s hs).2
theorem sh_W {R : Nat → Int32} (h : Sh R) {c : Nat} (hc : c < nC R) : R (185 + 18 * c) = nv (who R c) := (h.2.2.2.2 c hc).1
theorem sh_WT {R : Nat → Int32} (h : Sh R) {c : Nat} (hc : c < nC R) : who R c < nT R := (h.2.2.2.2 c hc).2.1
/-! small methods of both programs -/
theorem J12_max_w (x y : Int32) (a : Hp) (Q : Int32 → Hp → Prop) : Wp (J12_max x y) a Q ↔ Q (mx x y) a := by
  simp only [J12_max, J12_max_10, ↓w_bd, ↓w_rt, ↓w_bh, sm_l, sm_r, ↓w_okr, ↓w_nm, ↓w_ite, ↓reduceIte, not_true_eq_false, not_false_eq_true, and_true, true_and, and_self, Option.some.injEq, reduceCtorEq, eq_self, mx]; split <;> rfl
theorem J12_min_w (x y : Int32) (a : Hp) (Q : Int32 → Hp → Prop) : Wp (J12_min x y) a Q ↔ Q (mn x y) a := by
  simp only [J12_min, J12_min_10, ↓w_bd, ↓w_rt, ↓w_bh, sm_l, sm_r, ↓w_okr, ↓w_nm, ↓w_ite, ↓reduceIte, not_true_eq_false, not_false_eq_true, and_true, true_and, and_self, Option.some.injEq, reduceCtorEq, eq_self, mn]; split <;> rfl
theorem X5_sightOf_w (x y : Int32) (a : Hp) (Q : Int32 → Hp → Prop) : Wp (X5_sightOf x y) a Q ↔ Q (sg x y) a := by
  have : ¬ (2 : Int32) = 0 := by decide
  simp only [X5_sightOf, X5_sightOf_16, ↓w_bd, ↓w_rt, ↓w_bh, sm_l, sm_r, ↓w_okr, ↓w_nm, ↓w_ite, ↓reduceIte, not_true_eq_false, not_false_eq_true, and_true, true_and, and_self, Option.some.injEq, reduceCtorEq, eq_self, ↓w_dv, sg, this]; split <;> rfl
theorem X1_sight_w (x y : Int32) (a : Hp) (Q : Int32 → Hp → Prop) : Wp (X1_sight x y) a Q ↔ Q (sg x y) a := by
  have : ¬ (2 : Int32) = 0 := by decide
  simp only [X1_sight, X1_sight_16, ↓w_bd, ↓w_rt, ↓w_bh, sm_l, sm_r, ↓w_okr, ↓w_nm, ↓w_ite, ↓reduceIte, not_true_eq_false, not_false_eq_true, and_true, true_and, and_self, Option.some.injEq, reduceCtorEq, eq_self, ↓w_dv, sg, this]; split <;> rfl
theorem X5_word_w (x y : Int32) (a : Hp) (Q : Int32 → Hp → Prop) : Wp (X5_word x y) a Q ↔ Q (wd x y) a := by
  simp only [X5_word, X5_word_19, ↓w_bd, ↓w_rt, ↓w_bh, sm_l, sm_r, ↓w_okr, ↓w_nm, ↓w_ite, ↓reduceIte, not_true_eq_false, not_false_eq_true, and_true, true_and, and_self, Option.some.injEq, reduceCtorEq, eq_self, wd]; split <;> (try split) <;> rfl
theorem X5_turned_w (x : Int32) (a : Hp) (Q : Int32 → Hp → Prop) : Wp (X5_turned x) a Q ↔ Q (tn x) a := by
  simp only [X5_turned, X5_turned_12, ↓w_bd, ↓w_rt, ↓w_bh, sm_l, sm_r, ↓w_okr, ↓w_nm, ↓w_ite, ↓reduceIte, not_true_eq_false, not_false_eq_true, and_true, true_and, and_self, Option.some.injEq, reduceCtorEq, eq_self, tn, ite_not]; split <;> rfl
theorem rz2_0 : nrk 2 0 = true := by decide
theorem rz2_1 : nrk 2 1 = true := by decide
theorem X5_in_w (x y z : Int32) (a : Hp) (Q : Int32 → Hp → Prop) : Wp (X5_in x y z) a Q ↔ Q (bw x y z) a := by
  simp only [X5_in, X5_in_14, X5_in_15, ↓w_bd, ↓w_rt, ↓w_bh, sm_l, sm_r, ↓w_okr, ↓w_nm, ↓w_ite, ↓reduceIte, not_true_eq_false, not_false_eq_true, and_true, true_and, and_self, Option.some.injEq, reduceCtorEq, eq_self, ↓w_rz, rz2_0, rz2_1, bw]; split <;> (try split) <;> rfl
theorem X1_isBetween_w (x y z : Int32) (a : Hp) (Q : Int32 → Hp → Prop) : Wp (X1_isBetween x y z) a Q ↔ Q (bw x y z) a := by
  simp only [X1_isBetween, X1_isBetween_14, X1_isBetween_15, ↓w_bd, ↓w_rt, ↓w_bh, sm_l, sm_r, ↓w_okr, ↓w_nm, ↓w_ite, ↓reduceIte, not_true_eq_false, not_false_eq_true, and_true, true_and, and_self, Option.some.injEq, reduceCtorEq, eq_self, ↓w_rz, rz2_0, rz2_1, bw]; split <;> (try split) <;> rfl
theorem bw_rz (x y z : Int32) : nrk 2 (bw x y z) = true := by
  unfold bw
  split
  · decide
  · split <;> decide
theorem i1z : ¬ (1 : Int32) = 0 := by decide
theorem X5_one_0 (a : Hp) (Q : Int32 → Hp → Prop) : Wp (X5_one (nv 0)) a Q ↔ Q (nv 0) a := by
  show Wp (X5_one 0) a Q ↔ Q 0 a
  simp only [X5_one, X5_one_9, ↓w_bd, ↓w_rt, ↓w_bh, sm_l, sm_r, ↓w_okr, ↓w_nm, ↓w_ite, ↓reduceIte, not_true_eq_false, not_false_eq_true, and_true, true_and, and_self, Option.some.injEq, reduceCtorEq, eq_self]
theorem X5_one_1 (a : Hp) (Q : Int32 → Hp → Prop) : Wp (X5_one (nv 1)) a Q ↔ Q (nv 1) a := by
  show Wp (X5_one 1) a Q ↔ Q 1 a
  simp only [X5_one, X5_one_9, ↓w_bd, ↓w_rt, ↓w_bh, sm_l, sm_r, ↓w_okr, ↓w_nm, ↓w_ite, ↓reduceIte, not_true_eq_false, not_false_eq_true, and_true, true_and, and_self, Option.some.injEq, reduceCtorEq, eq_self, i1z]
theorem X1_bit_0 (a : Hp) (Q : Int32 → Hp → Prop) : Wp (X1_bit (nv 0)) a Q ↔ Q (nv 0) a := by
  show Wp (X1_bit 0) a Q ↔ Q 0 a
  simp only [X1_bit, X1_bit_9, ↓w_bd, ↓w_rt, ↓w_bh, sm_l, sm_r, ↓w_okr, ↓w_nm, ↓w_ite, ↓reduceIte, not_true_eq_false, not_false_eq_true, and_true, true_and, and_self, Option.some.injEq, reduceCtorEq, eq_self]
theorem X1_bit_1 (a : Hp) (Q : Int32 → Hp → Prop) : Wp (X1_bit (nv 1)) a Q ↔ Q (nv 1) a := by
  show Wp (X1_bit 1) a Q ↔ Q 1 a
  simp only [X1_bit, X1_bit_9, ↓w_bd, ↓w_rt, ↓w_bh, sm_l, sm_r, ↓w_okr, ↓w_nm, ↓w_ite, ↓reduceIte, not_true_eq_false, not_false_eq_true, and_true, true_and, and_self, Option.some.injEq, reduceCtorEq, eq_self, i1z]
/-- within 0 and below n -/
theorem bw_nv {v : Int32} {n : Nat} (hn : n < 1000000) : bw v 0 (nv n - 1) = if 0 ≤ v.toInt ∧ v.toInt < n then 1 else 0 := by
  have e : (nv n - 1).toInt = (n : Int) - 1 := by
    cases n with
    | zero => rfl
    | succ n =>
      have : nv (n + 1) - 1 = nv n := by rw [show (1 : Int32) = nv 1 from rfl, nv_sub (by omega)]; rfl
      rw [this, nv_int (by omega)]
      omega
  have z : (0 : Int32).toInt = 0 := rfl
  unfold bw
  simp only [Int32.lt_iff_toInt_lt, e, z]
  by_cases h1 : v.toInt < 0
  · rw [if_pos h1, if_neg (by omega)]
  · rw [if_neg h1]
    by_cases h2 : (n : Int) - 1 < v.toInt
    · rw [if_pos h2, if_neg (by omega)]
    · rw [if_neg h2, if_pos (by omega)]
theorem J12_abs_w (x : Int32) (a : Hp) (Q : Int32 → Hp → Prop) : Wp (J12_abs x) a Q ↔ Q (ab x) a := by
  simp only [J12_abs, J12_abs_10, ↓w_bd, ↓w_rt, ↓w_bh, sm_l, sm_r, ↓w_okr, ↓w_nm, ↓w_ite, ↓reduceIte, not_true_eq_false, not_false_eq_true, and_true, true_and, and_self, Option.some.injEq, reduceCtorEq, eq_self, ab]; split <;> rfl
theorem ab_sub (x y : Int32) : ab (x - y) = ab (y - x) := by
  have e : y - x = -(x - y) := (Int32.neg_sub).symm
  have h1 := Int32.toInt_lt (x - y)
  have h2 := Int32.le_toInt (x - y)
  have z : (0 : Int32).toInt = 0 := rfl
  unfold ab
  rw [e, Int32.neg_neg]
  generalize x - y = w at *
  by_cases hw : w.toInt = -2147483648
  · have : w = -2147483648 := Int32.toInt.inj (by rw [hw]; rfl)
    rw [this]
    rfl
  · have hn : (-w).toInt = - w.toInt := by
      rw [Int32.toInt_neg]
      have : -(2:Int) ^ 31 = -2147483648 := by decide
      exact Int.bmod_eq_of_le (by omega) (by omega)
    simp only [Int32.le_iff_toInt_le, z, hn]
    by_cases g1 : 0 ≤ w.toInt
    · by_cases g2 : 0 ≤ -w.toInt
      · have : w.toInt = 0 := by omega
        have : w = 0 := Int32.toInt.inj (by rw [this]; rfl)
        rw [this]
        rfl
      · rw [if_pos g1, if_neg g2]
    · rw [if_neg g1, if_pos (by omega)]
theorem bw_nv1 {v : Int32} {n : Nat} (hn : n < 1000000) (h1 : 1 ≤ n) : bw v (nv 0) (nv (n - 1)) = if 0 ≤ v.toInt ∧ v.toInt < n then nv 1 else nv 0 := by
  rw [← nv_sub h1]
  exact bw_nv hn
