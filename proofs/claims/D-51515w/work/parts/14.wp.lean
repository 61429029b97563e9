/-! THE PLAIN LAW: its calculus -/
def Wp {α : Type} (m : Mr α) (a : Hp) (Q : α → Hp → Prop) : Prop := ∃ x b, run m a = some (x, b) ∧ Q x b
theorem w_iff {α : Type} {m : Mr α} {a b : Hp} {v : α} (h : Wp m a (fun x c => x = v ∧ c = b)) (Q : α → Hp → Prop) : Wp m a Q ↔ Q v b := by
  obtain ⟨x, c, h1, rfl, rfl⟩ := h
  constructor
  · rintro ⟨y, d, h2, h3⟩
    rw [h1] at h2
    cases h2
    exact h3
  · intro h2
    exact ⟨_, _, h1, h2⟩
theorem w_run {α : Type} {m : Mr α} {a b : Hp} {v : α} (h : run m a = some (v, b)) (Q : α → Hp → Prop) : Wp m a Q ↔ Q v b := w_iff ⟨v, b, h, rfl, rfl⟩ Q
theorem w_mono {α : Type} {m : Mr α} {a : Hp} {Q R : α → Hp → Prop} (h : Wp m a Q) (g : ∀ x b, Q x b → R x b) : Wp m a R := by
  obtain ⟨x, b, h1, h2⟩ := h
  exact ⟨x, b, h1, g _ _ h2⟩
theorem w_none {α : Type} {m : Mr α} {a : Hp} (h : run m a = none) (Q : α → Hp → Prop) : Wp m a Q ↔ False := by
  constructor
  · rintro ⟨y, d, h2, h3⟩
    rw [h] at h2
    cases h2
  · exact False.elim
theorem w_rt {α : Type} (x : α) (a : Hp) (Q : α → Hp → Prop) : Wp (rt x) a Q ↔ Q x a := w_run rfl Q
theorem w_no {α : Type} (a : Hp) (Q : α → Hp → Prop) : Wp (no : Mr α) a Q ↔ False := w_none rfl Q
theorem w_bd {α β : Type} (m : Mr α) (f : α → Mr β) (a : Hp) (Q : β → Hp → Prop) : Wp (bd m f) a Q ↔ Wp m a (fun x b => Wp (f x) b Q) := by
  unfold Wp
  constructor
  · rintro ⟨x, b, h1, h2⟩
    obtain ⟨y, c, h3, h4⟩ := run_bd_inv h1
    exact ⟨y, c, h3, x, b, h4, h2⟩
  · rintro ⟨y, c, h3, x, b, h4, h2⟩
    exact ⟨x, b, by rw [run_bd_some h3, h4], h2⟩
theorem w_nm {α β : Type} (x : α) (f : α → Mr β) (a : Hp) (Q : β → Hp → Prop) : Wp (nm x f) a Q ↔ Wp (f x) a Q := Iff.rfl
theorem w_ite {α : Type} (c : Prop) [Decidable c] (m n : Mr α) (a : Hp) (Q : α → Hp → Prop) : Wp (if c then m else n) a Q ↔ if c then Wp m a Q else Wp n a Q := by split <;> rfl
/-- behind a call that may throw -/
def Sm {α β : Type} (r : α ⊕ β) (u : α → Prop) (v : β → Prop) : Prop := match r with
  | .inl e => u e
  | .inr x => v x
theorem sm_l {α β : Type} (e : α) (u : α → Prop) (v : β → Prop) : Sm (.inl e) u v ↔ u e := Iff.rfl
theorem sm_r {α β : Type} (e : β) (u : α → Prop) (v : β → Prop) : Sm (.inr e) u v ↔ v e := Iff.rfl
theorem w_bh {α β : Type} (m : Mr (Ex ⊕ α)) (g : Ex → Mr β) (f : α → Mr β) (a : Hp) (Q : β → Hp → Prop) : Wp (bh m g f) a Q ↔ Wp m a (fun r b => Sm r (fun e => Wp (g e) b Q) (fun x => Wp (f x) b Q)) := by
  rw [bh, w_bd]
  have e : (fun (r : Ex ⊕ α) (b : Hp) => Wp (match r with
  | .inl e => g e
  | .inr x => f x) b Q) = (fun r b => Sm r (fun e => Wp (g e) b Q) (fun x => Wp (f x) b Q)) := by
    funext r b
    cases r <;> rfl
  exact iff_of_eq (congrArg _ e)
theorem w_okr {α : Type} (m : Mr α) (a : Hp) (Q : Ex ⊕ α → Hp → Prop) : Wp (okr m) a Q ↔ Wp m a (fun x b => Q (.inr x) b) := by
  rw [okr, w_bd]
  simp only [w_rt]
/-! the instructions -/
theorem w_rd {α : Type} (g : Hp → Option α) (a : Hp) (Q : α → Hp → Prop) : Wp (rd g) a Q ↔ ∃ x, g a = some x ∧ Q x a := by
  unfold Wp
  constructor
  · rintro ⟨x, b, h1, h2⟩
    rw [run_rd] at h1
    obtain ⟨z, h3, h4⟩ := Option.map_eq_some_iff.mp h1
    cases h4
    exact ⟨_, h3, h2⟩
  · rintro ⟨x, h1, h2⟩
    exact ⟨x, a, by rw [run_rd, h1]; rfl, h2⟩
theorem w_wr {α : Type} (c : Hp → Bool) (x : Hp → α) (u : Hp → Hp) (h) (a : Hp) (Q : α → Hp → Prop) : Wp (wr c x u h) a Q ↔ c a = true ∧ Q (x a) (u a) := by
  unfold Wp
  rw [run_wr]
  constructor
  · rintro ⟨z, b, h1, h2⟩
    split at h1
    · rename_i hc; cases h1; exact ⟨hc, h2⟩
    · cases h1
  · rintro ⟨h1, h2⟩
    exact ⟨_, _, by rw [if_pos h1], h2⟩
theorem ex_if {α : Type} (c : Prop) [Decidable c] (v : α) (P : α → Prop) : (∃ x, (if c then some v else none) = some x ∧ P x) ↔ c ∧ P v := by
  constructor
  · rintro ⟨x, h1, h2⟩
    split at h1
    · rename_i hc; cases h1; exact ⟨hc, h2⟩
    · cases h1
  · rintro ⟨h1, h2⟩
    exact ⟨v, by rw [if_pos h1], h2⟩
theorem w_rc (k q : Nat) (a : Hp) (Q : Nat → Hp → Prop) : Wp (rc k (some q)) a Q ↔ hK a q % 100 = k ∧ Q q a := by rw [rc, w_rd]; exact ex_if _ _ _
theorem w_gI (k f q : Nat) (a : Hp) (Q : Int32 → Hp → Prop) : Wp (gI k f (some q)) a Q ↔ hK a q % 100 = k ∧ Q (hI a q f) a := by rw [gI, w_rd]; exact ex_if _ _ _
theorem w_gR (k f q : Nat) (a : Hp) (Q : Option Nat → Hp → Prop) : Wp (gR k f (some q)) a Q ↔ hK a q % 100 = k ∧ Q (hR a q f) a := by rw [gR, w_rd]; exact ex_if _ _ _
theorem w_aN (k q : Nat) (a : Hp) (Q : Int32 → Hp → Prop) : Wp (aN k (some q)) a Q ↔ hK a q % 100 = k ∧ Q (Int32.ofNat (hN a q)) a := by rw [aN, w_rd]; exact ex_if _ _ _
theorem w_aI (k q : Nat) (i : Int32) (a : Hp) (Q : Int32 → Hp → Prop) : Wp (aI k (some q) i) a Q ↔ (hK a q % 100 = k ∧ inI i (hN a q) = true) ∧ Q (hI a q i.toNatClampNeg) a := by rw [aI, w_rd]; exact ex_if _ _ _
theorem w_aR (k q : Nat) (i : Int32) (a : Hp) (Q : Option Nat → Hp → Prop) : Wp (aR k (some q) i) a Q ↔ (hK a q % 100 = k ∧ inI i (hN a q) = true) ∧ Q (hR a q i.toNatClampNeg) a := by rw [aR, w_rd]; exact ex_if _ _ _
theorem w_aL (k q : Nat) (i : Int32) (a : Hp) (Q : UInt64 → Hp → Prop) : Wp (aL k (some q) i) a Q ↔ (hK a q % 100 = k ∧ inI i (hN a q) = true) ∧ Q (hL a q i.toNatClampNeg) a := by rw [aL, w_rd]; exact ex_if _ _ _
theorem w_pI (t k f q : Nat) (x : Int32) (a : Hp) (Q : Unit → Hp → Prop) : Wp (pI t k f (some q) x) a Q ↔ (hK a q = k ∧ okN t x = true) ∧ Q () (hwI a q (up1 (hI a q) f x)) := by
  rw [pI, w_wr]; simp only [isK, Bool.and_eq_true, decide_eq_true_eq, Option.getD_some]
theorem w_pR (k f q : Nat) (v : Option Nat) (a : Hp) (Q : Unit → Hp → Prop) : Wp (pR k f (some q) v) a Q ↔ hK a q = k ∧ Q () (hwR a q (up1 (hR a q) f v)) := by
  rw [pR, w_wr]; simp only [isK, decide_eq_true_eq, Option.getD_some]
theorem w_sI (k q : Nat) (i x : Int32) (a : Hp) (Q : Unit → Hp → Prop) : Wp (sI k (some q) i x) a Q ↔ (hK a q = k ∧ inI i (hN a q) = true) ∧ Q () (hwI a q (up1 (hI a q) i.toNatClampNeg (nrA k x))) := by
  rw [sI, w_wr]; simp only [isA, Bool.and_eq_true, decide_eq_true_eq, Option.getD_some]
theorem w_sR (k : Nat) (ks : List Nat) (q : Nat) (i : Int32) (v : Option Nat) (a : Hp) (Q : Unit → Hp → Prop) : Wp (sR k ks (some q) i v) a Q ↔ ((hK a q = k ∧ inI i (hN a q) = true) ∧ okR a ks v = true) ∧ Q () (hwR a q (up1 (hR a q) i.toNatClampNeg v)) := by
  rw [sR, w_wr]; simp only [isA, Bool.and_eq_true, decide_eq_true_eq, Option.getD_some]
theorem w_sL (k q : Nat) (i : Int32) (x : UInt64) (a : Hp) (Q : Unit → Hp → Prop) : Wp (sL k (some q) i x) a Q ↔ (hK a q = k ∧ inI i (hN a q) = true) ∧ Q () (hwL a q (up1 (hL a q) i.toNatClampNeg x)) := by
  rw [sL, w_wr]; simp only [isA, Bool.and_eq_true, decide_eq_true_eq, Option.getD_some]
theorem w_nO (k n : Nat) (a : Hp) (Q : Nat → Hp → Prop) : Wp (nO k n) a Q ↔ Q (hSz a) (hNew a k 0 n (fun _ => 0) (fun _ => none)) := by
  rw [nO, w_wr]; simp only [true_and]
theorem w_nA (k : Nat) (n : Int32) (a : Hp) (Q : Nat → Hp → Prop) : Wp (nA k n) a Q ↔ (¬ n < 0 ∧ n.toNatClampNeg ≤ 100000) ∧ Q (hSz a) (hNew a k n.toNatClampNeg n.toNatClampNeg (fun _ => 0) (fun _ => none)) := by
  rw [nA, w_wr]; simp only [decide_eq_true_eq]
theorem w_n2 (ko ki : Nat) (n m : Int32) (a : Hp) (Q : Nat → Hp → Prop) : Wp (n2 ko ki n m) a Q ↔ (¬ n < 0 ∧ n.toNatClampNeg ≤ 1000 ∧ ¬ m < 0 ∧ m.toNatClampNeg ≤ 1000) ∧ Q (hSz a) (hRows ki m.toNatClampNeg n.toNatClampNeg (hNew a ko n.toNatClampNeg n.toNatClampNeg (fun _ => 0) (fun j => if j < n.toNatClampNeg then some (hSz a + 1 + j) else none))) := by
  rw [n2, w_wr]; simp only [decide_eq_true_eq]
theorem w_nL (k n : Nat) (fI : Nat → Int32) (fR : Nat → Option Nat) (a : Hp) (Q : Nat → Hp → Prop) : Wp (nL k n fI fR) a Q ↔ Q (hSz a) (hNew a k 0 n fI fR) := by
  rw [nL, w_wr]; simp only [true_and]
theorem w_cA (k q : Nat) (a : Hp) (Q : Nat → Hp → Prop) : Wp (cA k (some q)) a Q ↔ (hK a q = k ∧ okB a k q 0 (hN a q) = true) ∧ Q (hSz a) (hNew a k (hN a q) (hN a q) (hI a q) (fun _ => none)) := by
  rw [cA, w_wr]; simp only [Bool.and_eq_true, decide_eq_true_eq, Option.getD_some]
theorem w_cpI (k q : Nat) (p : Int32) (d : Nat) (u n : Int32) (a : Hp) (Q : Unit → Hp → Prop) : Wp (cpI k (some q) p (some d) u n) a Q ↔ (hK a q = k ∧ hK a d = k ∧ okC a (some q) p n = true ∧ okC a (some d) u n = true ∧ okB a k q p.toNatClampNeg n.toNatClampNeg = true) ∧ Q () (hwI a d (va_cpy (hI a q) (hI a d) p.toNatClampNeg u.toNatClampNeg n.toNatClampNeg)) := by
  rw [cpI, w_wr]; simp only [isK, Bool.and_eq_true, decide_eq_true_eq, Option.getD_some]
theorem w_cpR (k : Nat) (ks : List Nat) (q : Nat) (p : Int32) (d : Nat) (u n : Int32) (a : Hp) (Q : Unit → Hp → Prop) : Wp (cpR k ks (some q) p (some d) u n) a Q ↔ (hK a q = k ∧ hK a d = k ∧ okC a (some q) p n = true ∧ okC a (some d) u n = true ∧ (List.range n.toNatClampNeg).all (fun j => okR a ks (hR a q (p.toNatClampNeg + j))) = true) ∧ Q () (hwR a d (va_cpy (hR a q) (hR a d) p.toNatClampNeg u.toNatClampNeg n.toNatClampNeg)) := by
  rw [cpR, w_wr]; simp only [isK, Bool.and_eq_true, decide_eq_true_eq, Option.getD_some]
theorem w_ca (ks : List Nat) (q : Nat) (a : Hp) (Q : Unit → Hp → Prop) : Wp (ca ks (some q)) a Q ↔ ks.contains (hK a q % 100) = true ∧ Q () a := by rw [ca, w_rd]; exact ex_if _ _ _
theorem w_ca0 (ks : List Nat) (a : Hp) (Q : Unit → Hp → Prop) : Wp (ca ks none) a Q ↔ Q () a := by
  rw [ca, w_rd]
  constructor
  · rintro ⟨x, -, h⟩; exact h
  · intro h; exact ⟨(), rfl, h⟩
theorem w_caW (k q : Nat) (a : Hp) (Q : Unit → Hp → Prop) : Wp (caW k (some q)) a Q ↔ hK a q = k ∧ Q () a := by rw [caW, w_rd]; exact ex_if _ _ _
theorem w_gS (k : Nat) (a : Hp) (Q : Option Nat → Hp → Prop) : Wp (gS k) a Q ↔ Q (hS a k) a := by
  rw [gS, w_rd]
  constructor
  · rintro ⟨x, h1, h⟩; cases h1; exact h
  · intro h; exact ⟨_, rfl, h⟩
theorem w_gC (k : Nat) (a : Hp) (Q : Nat → Hp → Prop) : Wp (gC k) a Q ↔ ∃ q, hS a k = some q ∧ Q q a := by
  rw [gC, w_rd]
theorem w_gK (q : Nat) (a : Hp) (Q : Nat × Nat → Hp → Prop) : Wp (gK (some q)) a Q ↔ Q (q, hK a q % 100) a := by
  rw [gK, w_rd]
  constructor
  · rintro ⟨x, h1, h⟩; cases h1; exact h
  · intro h; exact ⟨_, rfl, h⟩
theorem w_dv (x y : Int32) (a : Hp) (Q : Int32 → Hp → Prop) : Wp (dv x y) a Q ↔ ¬ y = 0 ∧ Q (x / y) a := by
  rw [dv, w_rd]
  by_cases h : y = 0
  · simp [h]
  · simp [h]
theorem w_tw {α : Type} (e n : Nat) (a : Hp) (Q : Ex ⊕ α → Hp → Prop) : Wp (tw e n) a Q ↔ Q (.inl (e, hSz a)) (hNew a 0 0 n (fun _ => 0) (fun _ => none)) := by
  rw [tw, w_wr]; simp only [true_and]
theorem w_rz (t : Nat) (x : Int32) (a : Hp) (Q : Int32 → Hp → Prop) : Wp (rz t x) a Q ↔ nrk t x = true ∧ Q x a := by rw [rz, w_rd]; exact ex_if _ _ _
theorem w_iO (k q : Nat) (a : Hp) (Q : Int32 → Hp → Prop) : Wp (iO k (some q)) a Q ↔ hK a q % 100 = k ∧ Q 1 a := by rw [iO, w_rd]; exact ex_if _ _ _
theorem w_iO0 (k : Nat) (a : Hp) (Q : Int32 → Hp → Prop) : Wp (iO k none) a Q ↔ Q 0 a := by
  rw [iO, w_rd]
  constructor
  · rintro ⟨x, h1, h⟩; cases h1; exact h
  · intro h; exact ⟨_, rfl, h⟩
theorem w_fdv (x y : UInt32) (a : Hp) (Q : UInt32 → Hp → Prop) : Wp (fdv x y) a Q ↔ FP.fdiv x y &&& 0x7fffffff ≤ 0x7f800000 ∧ Q (FP.fdiv x y) a := by rw [fdv, w_rd]; exact ex_if _ _ _
theorem w_ddv (x y : UInt64) (a : Hp) (Q : UInt64 → Hp → Prop) : Wp (ddv x y) a Q ↔ FP.ddiv x y &&& 0x7fffffffffffffff ≤ 0x7ff0000000000000 ∧ Q (FP.ddiv x y) a := by rw [ddv, w_rd]; exact ex_if _ _ _
theorem w_f2d (x : UInt32) (a : Hp) (Q : UInt64 → Hp → Prop) : Wp (f2d x) a Q ↔ FP.f2d x &&& 0x7fffffffffffffff ≤ 0x7ff0000000000000 ∧ Q (FP.f2d x) a := by rw [f2d, w_rd]; exact ex_if _ _ _
/-! counts: an int that counts is nv k -/
def nv (k : Nat) : Int32 := Int32.ofNat k
theorem nv_add (a b : Nat) : nv a + nv b = nv (a + b) := by unfold nv; exact (Int32.ofNat_add a b).symm
theorem nv_mul (a b : Nat) : nv a * nv b = nv (a * b) := by unfold nv; exact (Int32.ofNat_mul a b).symm
theorem nv_sub {a b : Nat} (h : b ≤ a) : nv a - nv b = nv (a - b) := by
  have e : nv a = nv (a - b) + nv b := by rw [nv_add, Nat.sub_add_cancel h]
  rw [e]
  exact Int32.add_sub_cancel _ _
theorem nv_int {k : Nat} (h : k < 2147483648) : (nv k).toInt = k := Int32.toInt_ofNat_of_lt (by simpa using h)
theorem nv_le {a b : Nat} (h : a < 2147483648) (g : b < 2147483648) : (nv a ≤ nv b) = (a ≤ b) := by
  rw [Int32.le_iff_toInt_le, nv_int h, nv_int g]; simp
theorem nv_lt {a b : Nat} (h : a < 2147483648) (g : b < 2147483648) : (nv a < nv b) = (a < b) := by
  rw [Int32.lt_iff_toInt_lt, nv_int h, nv_int g]; simp
theorem nv_eq {a b : Nat} (h : a < 2147483648) (g : b < 2147483648) : (nv a = nv b) = (a = b) := by
  apply propext
  constructor
  · intro e
    have e1 := congrArg Int32.toInt e
    rw [nv_int h, nv_int g] at e1
    omega
  · rintro rfl; rfl
theorem nv_cl {k : Nat} (h : k < 2147483648) : (nv k).toNatClampNeg = k := by
  rw [Int32.toNatClampNeg, nv_int h]; simp
theorem nv_in {k n : Nat} (h : k < 2147483648) : inI (nv k) n = decide (k < n) := by
  unfold inI
  rw [decide_eq_decide, nv_cl h, Int32.lt_iff_toInt_lt, nv_int h]
  have : (0 : Int32).toInt = 0 := rfl
  rw [this]
  omega
theorem nv_lit (n : Nat) : (OfNat.ofNat n : Int32) = nv (OfNat.ofNat n) := rfl
theorem nv_of {v : Int32} (h : 0 ≤ v.toInt) : v = nv v.toInt.toNat := by
  apply Int32.toInt.inj
  have h2 := Int32.toInt_lt v
  rw [nv_int (by omega)]
  omega
theorem nv_f (k : Nat) : Int32.ofNat k = nv k := rfl
/-! sums -/
def su (f : Nat → Int32) : Nat → Int32
  | 0 => 0
  | n + 1 => su f n + f n
theorem su_s (f : Nat → Int32) (n : Nat) : su f n + f n = su f (n + 1) := rfl
theorem su_0 (f : Nat → Int32) : su f 0 = 0 := rfl
theorem su_cg {f g : Nat → Int32} : ∀ {n : Nat}, (∀ k, k < n → f k = g k) → su f n = su g n
  | 0, _ => rfl
  | n + 1, h => by rw [su, su, su_cg (n := n) (fun k hk => h k (by omega)), h n (by omega)]
/-- a loop that goes up -/
theorem loopUp (F : Nat → Nat → Prop) (N : Nat) (he : ∀ n, F (n + 1) N) (hs : ∀ n k, k < N → F n (k + 1) → F (n + 1) k) : ∀ (n k : Nat), k ≤ N → N - k < n → F n k := by
  intro n
  induction n with
  | zero => intro k h1 h2; omega
  | succ n ih =>
    intro k h1 h2
    by_cases e : k = N
    · rw [e]; exact he n
    · exact hs n k (by omega) (ih (k + 1) (by omega) (by omega))
theorem loop0 {F : Nat → Nat → Prop} {N : Nat} (hN : N < 100000) (he : ∀ n, F (n + 1) N) (hs : ∀ n k, k < N → F n (k + 1) → F (n + 1) k) : F FU 0 := loopUp F N he hs FU 0 (by omega) (by unfold FU; omega)
/-! the words and counts that both programs use -/
def ix (v : Int32) : Nat := v.toNatClampNeg
def bt (p : Prop) [Decidable p] : Int32 := if p then 1 else 0
def sg (n e : Int32) : Int32 := if e < n then e + (n - e) / 2 else n
def wd (a b : Int32) : Int32 := if a ≤ b then (if b ≤ a then 2 else 1) else 0
def tn (w : Int32) : Int32 := if w = 2 then 2 else 1 - w
def mx (a b : Int32) : Int32 := if a < b then b else a
def mn (a b : Int32) : Int32 := if b < a then b else a
def bw (v a b : Int32) : Int32 := if v < a then 0 else if b < v then 0 else 1
