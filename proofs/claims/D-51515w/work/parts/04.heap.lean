/-! THE MIRRORS' WORLD: a heap as plain functions of addresses, and partial functions on it that only let it grow -/
abbrev Hp : Type := (((Nat × Nat) × ((Nat → Nat) × (Nat → Nat))) × (Nat → Option Nat)) × ((Nat → Nat → Int32) × ((Nat → Nat → Option Nat) × (Nat → Nat → UInt64)))
/-- how many cells, how many slots -/
def hSz (a : Hp) : Nat := a.1.1.1.1
def hSl (a : Hp) : Nat := a.1.1.1.2
/-- kind and length of a cell; what constants stand for; ints, references, longs by cell and place -/
def hK (a : Hp) : Nat → Nat := a.1.1.2.1
def hN (a : Hp) : Nat → Nat := a.1.1.2.2
def hS (a : Hp) : Nat → Option Nat := a.1.2
def hI (a : Hp) : Nat → Nat → Int32 := a.2.1
def hR (a : Hp) : Nat → Nat → Option Nat := a.2.2.1
def hL (a : Hp) : Nat → Nat → UInt64 := a.2.2.2
def up1 {α : Type} (f : Nat → α) (q : Nat) (x : α) : Nat → α := fun j => if j = q then x else f j
theorem up1_s {α : Type} (f : Nat → α) (q : Nat) (x : α) : up1 f q x q = x := by simp [up1]
theorem up1_n {α : Type} (f : Nat → α) {q p : Nat} (x : α) (h : p ≠ q) : up1 f q x p = f p := by simp [up1, h]
/-- a row of ints, of references, of longs laid -/
def hwI (a : Hp) (q : Nat) (f : Nat → Int32) : Hp := (a.1, (up1 (hI a) q f, a.2.2))
def hwR (a : Hp) (q : Nat) (f : Nat → Option Nat) : Hp := (a.1, (a.2.1, (up1 (hR a) q f, a.2.2.2)))
def hwL (a : Hp) (q : Nat) (f : Nat → UInt64) : Hp := (a.1, (a.2.1, (a.2.2.1, up1 (hL a) q f)))
/-- a new cell -/
def hNew (a : Hp) (k n sl : Nat) (fI : Nat → Int32) (fR : Nat → Option Nat) : Hp :=
  ((((hSz a + 1, hSl a + sl), (up1 (hK a) (hSz a) k, up1 (hN a) (hSz a) n)), a.1.2), (up1 (hI a) (hSz a) fI, (up1 (hR a) (hSz a) fR, up1 (hL a) (hSz a) (fun _ => 0))))
theorem hSz_wI (a : Hp) (q f) : hSz (hwI a q f) = hSz a := rfl
theorem hSl_wI (a : Hp) (q f) : hSl (hwI a q f) = hSl a := rfl
theorem hK_wI (a : Hp) (q f) : hK (hwI a q f) = hK a := rfl
theorem hN_wI (a : Hp) (q f) : hN (hwI a q f) = hN a := rfl
theorem hS_wI (a : Hp) (q f) : hS (hwI a q f) = hS a := rfl
theorem hR_wI (a : Hp) (q f) : hR (hwI a q f) = hR a := rfl
theorem hL_wI (a : Hp) (q f) : hL (hwI a q f) = hL a := rfl
theorem hI_wI (a : Hp) (q f) : hI (hwI a q f) = up1 (hI a) q f := rfl
theorem hSz_wR (a : Hp) (q f) : hSz (hwR a q f) = hSz a := rfl
theorem hSl_wR (a : Hp) (q f) : hSl (hwR a q f) = hSl a := rfl
theorem hK_wR (a : Hp) (q f) : hK (hwR a q f) = hK a := rfl
theorem hN_wR (a : Hp) (q f) : hN (hwR a q f) = hN a := rfl
theorem hS_wR (a : Hp) (q f) : hS (hwR a q f) = hS a := rfl
theorem hI_wR (a : Hp) (q f) : hI (hwR a q f) = hI a := rfl
theorem hL_wR (a : Hp) (q f) : hL (hwR a q f) = hL a := rfl
theorem hR_wR (a : Hp) (q f) : hR (hwR a q f) = up1 (hR a) q f := rfl
theorem hSz_wL (a : Hp) (q f) : hSz (hwL a q f) = hSz a := rfl
theorem hSl_wL (a : Hp) (q f) : hSl (hwL a q f) = hSl a := rfl
theorem hK_wL (a : Hp) (q f) : hK (hwL a q f) = hK a := rfl
theorem hN_wL (a : Hp) (q f) : hN (hwL a q f) = hN a := rfl
theorem hS_wL (a : Hp) (q f) : hS (hwL a q f) = hS a := rfl
theorem hI_wL (a : Hp) (q f) : hI (hwL a q f) = hI a := rfl
theorem hR_wL (a : Hp) (q f) : hR (hwL a q f) = hR a := rfl
theorem hL_wL (a : Hp) (q f) : hL (hwL a q f) = up1 (hL a) q f := rfl
theorem hSz_new (a : Hp) (k n sl fI fR) : hSz (hNew a k n sl fI fR) = hSz a + 1 := rfl
theorem hSl_new (a : Hp) (k n sl fI fR) : hSl (hNew a k n sl fI fR) = hSl a + sl := rfl
theorem hK_new (a : Hp) (k n sl fI fR) : hK (hNew a k n sl fI fR) = up1 (hK a) (hSz a) k := rfl
theorem hN_new (a : Hp) (k n sl fI fR) : hN (hNew a k n sl fI fR) = up1 (hN a) (hSz a) n := rfl
theorem hS_new (a : Hp) (k n sl fI fR) : hS (hNew a k n sl fI fR) = hS a := rfl
theorem hI_new (a : Hp) (k n sl fI fR) : hI (hNew a k n sl fI fR) = up1 (hI a) (hSz a) fI := rfl
theorem hR_new (a : Hp) (k n sl fI fR) : hR (hNew a k n sl fI fR) = up1 (hR a) (hSz a) fR := rfl
theorem hL_new (a : Hp) (k n sl fI fR) : hL (hNew a k n sl fI fR) = up1 (hL a) (hSz a) (fun _ => 0) := rfl
/-- the heap has grown at most: no old cell has changed its kind or length -/
def hLe (a b : Hp) : Prop := hSz a ≤ hSz b ∧ hSl a ≤ hSl b ∧ hS b = hS a ∧ ∀ q, q < hSz a → hK b q = hK a q ∧ hN b q = hN a q
theorem hLe.rf (a : Hp) : hLe a a := ⟨Nat.le_refl _, Nat.le_refl _, rfl, fun _ _ => ⟨rfl, rfl⟩⟩
theorem hLe.tr {a b c : Hp} (h : hLe a b) (g : hLe b c) : hLe a c :=
  ⟨Nat.le_trans h.1 g.1, Nat.le_trans h.2.1 g.2.1, g.2.2.1.trans h.2.2.1, fun q hq => ⟨(g.2.2.2 q (Nat.lt_of_lt_of_le hq h.1)).1.trans (h.2.2.2 q hq).1, (g.2.2.2 q (Nat.lt_of_lt_of_le hq h.1)).2.trans (h.2.2.2 q hq).2⟩⟩
theorem hLe.wI (a : Hp) (q : Nat) (f : Nat → Int32) : hLe a (hwI a q f) := hLe.rf a
theorem hLe.wR (a : Hp) (q : Nat) (f : Nat → Option Nat) : hLe a (hwR a q f) := hLe.rf a
theorem hLe.wL (a : Hp) (q : Nat) (f : Nat → UInt64) : hLe a (hwL a q f) := hLe.rf a
theorem hLe.new (a : Hp) (k n sl : Nat) (fI : Nat → Int32) (fR : Nat → Option Nat) : hLe a (hNew a k n sl fI fR) :=
  ⟨Nat.le_succ _, Nat.le_add_right _ _, rfl, fun q hq => ⟨up1_n _ _ (Nat.ne_of_lt hq), up1_n _ _ (Nat.ne_of_lt hq)⟩⟩
/-- a mirror: what a piece of code does to the heap, where it does it without a fault -/
def Mr (α : Type) : Type := { f : Hp → Option (α × Hp) // ∀ a x b, f a = some (x, b) → hLe a b }
def run {α : Type} (m : Mr α) (a : Hp) : Option (α × Hp) := m.1 a
theorem run_le {α : Type} {m : Mr α} {a b : Hp} {x : α} (h : run m a = some (x, b)) : hLe a b := m.2 a x b h
def rt {α : Type} (x : α) : Mr α := ⟨fun a => some (x, a), fun a y b h => by cases h; exact hLe.rf a⟩
def no {α : Type} : Mr α := ⟨fun _ => none, fun _ _ _ h => by cases h⟩
def bd {α β : Type} (m : Mr α) (f : α → Mr β) : Mr β := ⟨fun a => (run m a).bind fun p => run (f p.1) p.2, fun a y b h => by
  obtain ⟨p, h1, h2⟩ := Option.bind_eq_some_iff.mp h
  exact (run_le (x := p.1) (b := p.2) h1).tr (run_le h2)⟩
def rd {α : Type} (g : Hp → Option α) : Mr α := ⟨fun a => (g a).map fun x => (x, a), fun a x b h => by
  obtain ⟨y, -, h2⟩ := Option.map_eq_some_iff.mp h
  cases h2
  exact hLe.rf a⟩
/-- a change of the heap, where c allows it -/
def wr {α : Type} (c : Hp → Bool) (x : Hp → α) (u : Hp → Hp) (h : ∀ a, hLe a (u a)) : Mr α := ⟨fun a => if c a = true then some (x a, u a) else none, fun a y b e => by
  have e : (if c a = true then some (x a, u a) else none) = some (y, b) := e
  split at e
  · cases e; exact h a
  · cases e⟩
theorem run_rt {α : Type} (x : α) (a : Hp) : run (rt x) a = some (x, a) := rfl
theorem run_no {α : Type} (a : Hp) : run (no : Mr α) a = none := rfl
theorem run_bd {α β : Type} (m : Mr α) (f : α → Mr β) (a : Hp) : run (bd m f) a = (run m a).bind fun p => run (f p.1) p.2 := rfl
theorem run_rd {α : Type} (g : Hp → Option α) (a : Hp) : run (rd g) a = (g a).map fun x => (x, a) := rfl
theorem run_wr {α : Type} (c : Hp → Bool) (x : Hp → α) (u h) (a : Hp) : run (wr c x u h) a = if c a = true then some (x a, u a) else none := rfl
theorem run_ite {α : Type} (c : Prop) [Decidable c] (m n : Mr α) (a : Hp) : run (if c then m else n) a = if c then run m a else run n a := by split <;> rfl
theorem run_bd_some {α β : Type} {m : Mr α} {f : α → Mr β} {a b : Hp} {x : α} (h : run m a = some (x, b)) : run (bd m f) a = run (f x) b := by rw [run_bd, h]; rfl
theorem run_bd_inv {α β : Type} {m : Mr α} {f : α → Mr β} {a c : Hp} {y : β} (h : run (bd m f) a = some (y, c)) : ∃ x b, run m a = some (x, b) ∧ run (f x) b = some (y, c) := by
  obtain ⟨p, h1, h2⟩ := Option.bind_eq_some_iff.mp h
  exact ⟨p.1, p.2, h1, h2⟩
theorem run_rd_inv {α β : Type} {g : Hp → Option α} {f : α → Mr β} {a c : Hp} {y : β} (h : run (bd (rd g) f) a = some (y, c)) : ∃ x, g a = some x ∧ run (f x) a = some (y, c) := by
  obtain ⟨x, b, h1, h2⟩ := run_bd_inv h
  rw [run_rd] at h1
  obtain ⟨z, h3, h4⟩ := Option.map_eq_some_iff.mp h1
  cases h4
  exact ⟨_, h3, h2⟩
theorem run_wr_inv {α β : Type} {c : Hp → Bool} {x : Hp → α} {u : Hp → Hp} {h} {f : α → Mr β} {a d : Hp} {y : β} (e : run (bd (wr c x u h) f) a = some (y, d)) : c a = true ∧ run (f (x a)) (u a) = some (y, d) := by
  obtain ⟨z, b, h1, h2⟩ := run_bd_inv e
  rw [run_wr] at h1
  split at h1
  · rename_i hc; cases h1; exact ⟨hc, h2⟩
  · cases h1
/-- a value by a name -/
def nm {α β : Type} (x : α) (f : α → Mr β) : Mr β := f x
theorem run_nm {α β : Type} (x : α) (f : α → Mr β) (a : Hp) : run (nm x f) a = run (f x) a := rfl
/-- what is thrown: the number of its class, its address -/
abbrev Ex : Type := Nat × Nat
/-- behind a call that may throw: the handler, the way on -/
def bh {α β : Type} (m : Mr (Ex ⊕ α)) (g : Ex → Mr β) (f : α → Mr β) : Mr β := bd m fun r => match r with
  | .inl e => g e
  | .inr x => f x
def bx {α β : Type} (m : Mr (Ex ⊕ α)) (f : α → Mr (Ex ⊕ β)) : Mr (Ex ⊕ β) := bh m (fun e => rt (.inl e)) f
/-- how often a loop's mirror goes round at most -/
def FU : Nat := 100000
/-! the instructions' mirrors -/
/-- an index within -/
def inI (i : Int32) (n : Nat) : Bool := decide (¬ (i < 0 ∨ n ≤ i.toNatClampNeg))
/-- a receiver of a kind -/
def rc (k : Nat) (r : Option Nat) : Mr Nat := rd fun a => r.bind fun q => if hK a q % 100 = k then some q else none
def gI (k f : Nat) (r : Option Nat) : Mr Int32 := rd fun a => r.bind fun q => if hK a q % 100 = k then some (hI a q f) else none
def gR (k f : Nat) (r : Option Nat) : Mr (Option Nat) := rd fun a => r.bind fun q => if hK a q % 100 = k then some (hR a q f) else none
def isK (a : Hp) (k : Nat) (r : Option Nat) : Bool := match r with
  | none => false
  | some q => decide (hK a q = k)
/-- what an int field of a type takes as it is (t: 0 int, 1 byte, 2 boolean, 3 char) -/
def okN (t : Nat) (x : Int32) : Bool := if t = 0 then true else if t = 1 then decide (x.toInt8.toInt32 = x) && (decide (-128 ≤ x) && decide (x ≤ 127)) else if t = 2 then decide (x &&& 1 = x) && (x == 0 || x == 1) else decide (x.toUInt32.toUInt16.toUInt32.toInt32 = x) && (decide (0 ≤ x) && decide (x ≤ 65535))
def pI (t k f : Nat) (r : Option Nat) (x : Int32) : Mr Unit := wr (fun a => isK a k r && okN t x) (fun _ => ()) (fun a => hwI a (r.getD 0) (up1 (hI a (r.getD 0)) f x)) (fun a => hLe.wI _ _ _)
def pR (k f : Nat) (r v : Option Nat) : Mr Unit := wr (fun a => isK a k r) (fun _ => ()) (fun a => hwR a (r.getD 0) (up1 (hR a (r.getD 0)) f v)) (fun a => hLe.wR _ _ _)
def aN (k : Nat) (r : Option Nat) : Mr Int32 := rd fun a => r.bind fun q => if hK a q % 100 = k then some (Int32.ofNat (hN a q)) else none
def aI (k : Nat) (r : Option Nat) (i : Int32) : Mr Int32 := rd fun a => r.bind fun q => if hK a q % 100 = k ∧ inI i (hN a q) = true then some (hI a q i.toNatClampNeg) else none
def aR (k : Nat) (r : Option Nat) (i : Int32) : Mr (Option Nat) := rd fun a => r.bind fun q => if hK a q % 100 = k ∧ inI i (hN a q) = true then some (hR a q i.toNatClampNeg) else none
def aL (k : Nat) (r : Option Nat) (i : Int32) : Mr UInt64 := rd fun a => r.bind fun q => if hK a q % 100 = k ∧ inI i (hN a q) = true then some (hL a q i.toNatClampNeg) else none
def isA (a : Hp) (k : Nat) (r : Option Nat) (i : Int32) : Bool := match r with
  | none => false
  | some q => decide (hK a q = k) && inI i (hN a q)
/-- what an array of kind k keeps of an int: 42 bytes, 43 booleans -/
def nrA (k : Nat) (x : Int32) : Int32 := if k = 42 then x.toInt8.toInt32 else if k = 43 then x &&& 1 else x
def sI (k : Nat) (r : Option Nat) (i x : Int32) : Mr Unit := wr (fun a => isA a k r i) (fun _ => ()) (fun a => hwI a (r.getD 0) (up1 (hI a (r.getD 0)) i.toNatClampNeg (nrA k x))) (fun a => hLe.wI _ _ _)
/-- what may lie in an array of references: null, or a cell of a kind of ks -/
def okR (a : Hp) (ks : List Nat) (v : Option Nat) : Bool := match v with
  | none => true
  | some q => ks.contains (hK a q)
def sR (k : Nat) (ks : List Nat) (r : Option Nat) (i : Int32) (v : Option Nat) : Mr Unit := wr (fun a => isA a k r i && okR a ks v) (fun _ => ()) (fun a => hwR a (r.getD 0) (up1 (hR a (r.getD 0)) i.toNatClampNeg v)) (fun a => hLe.wR _ _ _)
def sL (k : Nat) (r : Option Nat) (i : Int32) (x : UInt64) : Mr Unit := wr (fun a => isA a k r i) (fun _ => ()) (fun a => hwL a (r.getD 0) (up1 (hL a (r.getD 0)) i.toNatClampNeg x)) (fun a => hLe.wL _ _ _)
/-- a new object of kind k with n fields; a new array of kind k -/
def nO (k n : Nat) : Mr Nat := wr (fun _ => true) (fun a => hSz a) (fun a => hNew a k 0 n (fun _ => 0) (fun _ => none)) (fun a => hLe.new _ _ _ _ _ _)
def nA (k : Nat) (n : Int32) : Mr Nat := wr (fun _ => decide (¬ n < 0 ∧ n.toNatClampNeg ≤ 100000)) (fun a => hSz a) (fun a => hNew a k n.toNatClampNeg n.toNatClampNeg (fun _ => 0) (fun _ => none)) (fun a => hLe.new _ _ _ _ _ _)
/-- rows of ints one behind another: n of m places each, of kind k -/
def hRows (k m : Nat) : Nat → Hp → Hp
  | 0, a => a
  | n + 1, a => hNew (hRows k m n a) k m m (fun _ => 0) (fun _ => none)
theorem hRows_le (k m : Nat) : ∀ (n : Nat) (a : Hp), hLe a (hRows k m n a)
  | 0, a => hLe.rf a
  | n + 1, a => (hRows_le k m n a).tr (hLe.new _ _ _ _ _ _)
theorem hRows_sz (k m : Nat) : ∀ (n : Nat) (a : Hp), hSz (hRows k m n a) = hSz a + n
  | 0, a => rfl
  | n + 1, a => by rw [hRows, hSz_new, hRows_sz k m n a]; rfl
/-- an array of arrays: the outer one first, then the rows -/
def n2 (ko ki : Nat) (n m : Int32) : Mr Nat := wr (fun _ => decide (¬ n < 0 ∧ n.toNatClampNeg ≤ 1000 ∧ ¬ m < 0 ∧ m.toNatClampNeg ≤ 1000)) (fun a => hSz a)
  (fun a => hRows ki m.toNatClampNeg n.toNatClampNeg (hNew a ko n.toNatClampNeg n.toNatClampNeg (fun _ => 0) (fun j => if j < n.toNatClampNeg then some (hSz a + 1 + j) else none)))
  (fun a => (hLe.new _ _ _ _ _ _).tr (hRows_le _ _ _ _))
/-- bytes that fit -/
def okB (a : Hp) (k : Nat) (q p n : Nat) : Bool := decide (k ≠ 42) || (List.range n).all (fun j => decide (-128 ≤ hI a q (p + j)) && decide (hI a q (p + j) ≤ 127))
/-- a copy of an array of ints -/
def cA (k : Nat) (r : Option Nat) : Mr Nat := wr (fun a => match r with
    | none => false
    | some q => decide (hK a q = k) && okB a k q 0 (hN a q)) (fun a => hSz a) (fun a => hNew a k (hN a (r.getD 0)) (hN a (r.getD 0)) (hI a (r.getD 0)) (fun _ => none)) (fun a => hLe.new _ _ _ _ _ _)
/-- the places of a copy: n from sp on to dp on -/
def okC (a : Hp) (r : Option Nat) (p n : Int32) : Bool := match r with
  | none => false
  | some q => decide (¬ p < 0 ∧ ¬ n < 0 ∧ p.toNatClampNeg + n.toNatClampNeg ≤ hN a q)
def cpI (k : Nat) (r : Option Nat) (p : Int32) (d : Option Nat) (u n : Int32) : Mr Unit := wr (fun a => isK a k r && (isK a k d && (okC a r p n && (okC a d u n && okB a k (r.getD 0) p.toNatClampNeg n.toNatClampNeg)))) (fun _ => ())
  (fun a => hwI a (d.getD 0) (va_cpy (hI a (r.getD 0)) (hI a (d.getD 0)) p.toNatClampNeg u.toNatClampNeg n.toNatClampNeg)) (fun a => hLe.wI _ _ _)
def cpR (k : Nat) (ks : List Nat) (r : Option Nat) (p : Int32) (d : Option Nat) (u n : Int32) : Mr Unit := wr (fun a => isK a k r && (isK a k d && (okC a r p n && (okC a d u n && (List.range n.toNatClampNeg).all (fun j => okR a ks (hR a (r.getD 0) (p.toNatClampNeg + j))))))) (fun _ => ())
  (fun a => hwR a (d.getD 0) (va_cpy (hR a (r.getD 0)) (hR a (d.getD 0)) p.toNatClampNeg u.toNatClampNeg n.toNatClampNeg)) (fun a => hLe.wR _ _ _)
/-- a cast: null, or a cell of a kind of ks -/
def ca (ks : List Nat) (r : Option Nat) : Mr Unit := rd fun a => match r with
  | none => some ()
  | some q => if ks.contains (hK a q % 100) then some () else none
/-- a constant reference -/
def gS (k : Nat) : Mr (Option Nat) := rd fun a => some (hS a k)
def gC (k : Nat) : Mr Nat := rd fun a => hS a k
/-- an object of a lambda's kind k with what it captures -/
def nL (k n : Nat) (fI : Nat → Int32) (fR : Nat → Option Nat) : Mr Nat := wr (fun _ => true) (fun a => hSz a) (fun a => hNew a k 0 n fI fR) (fun a => hLe.new _ _ _ _ _ _)
/-- the kind of a receiver -/
def gK (r : Option Nat) : Mr (Nat × Nat) := rd fun a => r.map fun q => (q, hK a q % 100)
def dv (x y : Int32) : Mr Int32 := rd fun _ => if y = 0 then none else some (x / y)
/-- a new thing of class number e is thrown: a cell of n fields of which nothing is said -/
def tw {α : Type} (e n : Nat) : Mr (Ex ⊕ α) := wr (fun _ => true) (fun a => .inl (e, hSz a)) (fun a => hNew a 0 0 n (fun _ => 0) (fun _ => none)) (fun a => hLe.new _ _ _ _ _ _)
/-- what a return of a small type keeps as it is -/
def nrk (t : Nat) (x : Int32) : Bool := if t = 0 then true else if t = 1 then decide (x.toInt8.toInt32 = x) else if t = 2 then decide (x &&& 1 = x) else decide (x.toUInt32.toUInt16.toUInt32.toInt32 = x)
def rz (t : Nat) (x : Int32) : Mr Int32 := rd fun _ => if nrk t x = true then some x else none
def iO (k : Nat) (r : Option Nat) : Mr Int32 := rd fun a => match r with
  | none => some 0
  | some q => if hK a q % 100 = k then some 1 else none
def fdv (x y : UInt32) : Mr UInt32 := rd fun _ => if FP.fdiv x y &&& 0x7fffffff ≤ 0x7f800000 then some (FP.fdiv x y) else none
def ddv (x y : UInt64) : Mr UInt64 := rd fun _ => if FP.ddiv x y &&& 0x7fffffffffffffff ≤ 0x7ff0000000000000 then some (FP.ddiv x y) else none
def f2d (x : UInt32) : Mr UInt64 := rd fun _ => if FP.f2d x &&& 0x7fffffffffffffff ≤ 0x7ff0000000000000 then some (FP.f2d x) else none
def caW (k : Nat) (r : Option Nat) : Mr Unit := rd fun a => match r with
  | none => some ()
  | some q => if hK a q = k then some () else none
theorem hRows_sl (k m : Nat) : ∀ (n : Nat) (a : Hp), hSl (hRows k m n a) = hSl a + n * m
  | 0, a => by simp [hRows]
  | n + 1, a => by rw [hRows, hSl_new, hRows_sl k m n a, Nat.succ_mul]; omega
theorem hRows_S (k m : Nat) : ∀ (n : Nat) (a : Hp), hS (hRows k m n a) = hS a
  | 0, a => rfl
  | n + 1, a => by rw [hRows, hS_new, hRows_S k m n a]
theorem hRows_in (k m : Nat) : ∀ (n : Nat) (a : Hp) (j : Nat), j < n → hK (hRows k m n a) (hSz a + j) = k ∧ hN (hRows k m n a) (hSz a + j) = m ∧ hI (hRows k m n a) (hSz a + j) = (fun _ => 0) ∧ hR (hRows k m n a) (hSz a + j) = (fun _ => none) ∧ hL (hRows k m n a) (hSz a + j) = fun _ => 0
  | 0, _, _, h => absurd h (Nat.not_lt_zero _)
  | n + 1, a, j, h => by
    have hz := hRows_sz k m n a
    rw [hRows, hK_new, hN_new, hI_new, hR_new, hL_new, hz]
    by_cases e : j = n
    · subst e; simp only [up1_s]; exact ⟨trivial, trivial, trivial, trivial, trivial⟩
    · rw [up1_n _ _ (by omega), up1_n _ _ (by omega), up1_n _ _ (by omega), up1_n _ _ (by omega), up1_n _ _ (by omega)]
      exact hRows_in k m n a j (by omega)
theorem hRows_out (k m : Nat) : ∀ (n : Nat) (a : Hp) (q : Nat), (q < hSz a ∨ hSz a + n ≤ q) → hK (hRows k m n a) q = hK a q ∧ hN (hRows k m n a) q = hN a q ∧ hI (hRows k m n a) q = hI a q ∧ hR (hRows k m n a) q = hR a q ∧ hL (hRows k m n a) q = hL a q
  | 0, _, _, _ => ⟨rfl, rfl, rfl, rfl, rfl⟩
  | n + 1, a, q, h => by
    have hz := hRows_sz k m n a
    rw [hRows, hK_new, hN_new, hI_new, hR_new, hL_new, hz]
    rw [up1_n _ _ (by omega), up1_n _ _ (by omega), up1_n _ _ (by omega), up1_n _ _ (by omega), up1_n _ _ (by omega)]
    exact hRows_out k m n a q (by omega)
