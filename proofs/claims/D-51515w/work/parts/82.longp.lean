/-! THE LONGEST ROW: counts -/
def cnt (p : Nat → Bool) : Nat → Nat
  | 0 => 0
  | n + 1 => cnt p n + (if p n = true then 1 else 0)
theorem cnt_le {p q : Nat → Bool} : ∀ {n : Nat}, (∀ i, i < n → p i = true → q i = true) → cnt p n ≤ cnt q n := by
  intro n
  induction n with
  | zero => intro _; exact Nat.le_refl _
  | succ n ih =>
    intro h
    have := ih (fun i hi => h i (by omega))
    have := h n (by omega)
    unfold cnt
    by_cases c : p n = true
    · rw [if_pos c, if_pos (this c)]; omega
    · rw [if_neg c]; omega
theorem cnt_lt {p q : Nat → Bool} : ∀ {n i : Nat}, (∀ i, i < n → p i = true → q i = true) → i < n → ¬ p i = true → q i = true → cnt p n < cnt q n := by
  intro n
  induction n with
  | zero => intro i _ hi; omega
  | succ n ih =>
    intro i h hi hp hq
    unfold cnt
    by_cases e : i = n
    · subst e
      have := cnt_le (p := p) (q := q) (n := i) (fun j hj => h j (by omega))
      rw [if_neg hp, if_pos hq]; omega
    · have := ih (fun j hj => h j (by omega)) (show i < n by omega) hp hq
      have := h n (by omega)
      by_cases c : p n = true
      · rw [if_pos c, if_pos (this c)]; omega
      · rw [if_neg c]; omega
theorem cnt_t : ∀ n, cnt (fun _ => true) n = n := by
  intro n
  induction n with
  | zero => rfl
  | succ n ih => unfold cnt; rw [ih, if_pos rfl]
theorem cnt_n {p : Nat → Bool} {n i : Nat} (hi : i < n) (h : ¬ p i = true) : cnt p n < n := by
  have := cnt_lt (p := p) (q := fun _ => true) (n := n) (i := i) (fun _ _ _ => rfl) hi h rfl
  rwa [cnt_t] at this
theorem cnt_su {p : Nat → Bool} {f : Nat → Int32} : ∀ {n : Nat}, (∀ i, i < n → f i = if p i = true then nv 1 else nv 0) → su f n = nv (cnt p n) := by
  intro n
  induction n with
  | zero => intro _; rfl
  | succ n ih =>
    intro h
    rw [su, ih (fun i hi => h i (by omega)), h n (by omega)]
    show _ = nv (cnt p n + (if p n = true then 1 else 0))
    by_cases c : p n = true
    · rw [if_pos c, if_pos c, nv_add]
    · rw [if_neg c, if_neg c, nv_add]
/-- too many doves -/
theorem php : ∀ (n : Nat) (f : Nat → Nat), (∀ i, i ≤ n → f i < n) → ∃ i j, i < j ∧ j ≤ n ∧ f i = f j := by
  intro n
  induction n with
  | zero => intro f h; exact absurd (h 0 (by omega)) (by omega)
  | succ n ih =>
    intro f h
    by_cases c : ∃ i, i < n + 1 ∧ f i = f (n + 1)
    · obtain ⟨i, h1, h2⟩ := c
      exact ⟨i, n + 1, h1, by omega, h2⟩
    · have hc : ∀ i, i < n + 1 → f i ≠ f (n + 1) := fun i hi e => c ⟨i, hi, e⟩
      obtain ⟨i, j, h1, h2, h3⟩ := ih (fun i => if f i = n then f (n + 1) else f i) (fun i hi => by
        have a1 := h i (by omega)
        have a2 := h (n + 1) (by omega)
        have a3 := hc i (by omega)
        show (if f i = n then f (n + 1) else f i) < n
        split <;> omega)
      have a1 := hc i (by omega)
      have a2 := hc j (by omega)
      refine ⟨i, j, h1, by omega, ?_⟩
      have h3 : (if f i = n then f (n + 1) else f i) = (if f j = n then f (n + 1) else f j) := h3
      split at h3 <;> split at h3 <;> omega
theorem onto {n : Nat} {f : Nat → Nat} (hf : ∀ i, i < n → f i < n) (hi : ∀ i j, i < j → j < n → f i ≠ f j) {v : Nat} (hv : v < n) : ∃ i, i < n ∧ f i = v := by
  apply Decidable.byContradiction
  intro c
  have hc : ∀ i, i < n → f i ≠ v := fun i hi e => c ⟨i, hi, e⟩
  obtain ⟨i, j, h1, h2, h3⟩ := php (n - 1) (fun i => if v < f i then f i - 1 else f i) (fun i hi => by
    have a1 := hf i (by omega)
    have a2 := hc i (by omega)
    show (if v < f i then f i - 1 else f i) < n - 1
    split <;> omega)
  have b1 := hi i j h1 (by omega)
  have b2 := hc i (by omega)
  have b3 := hc j (by omega)
  have h3 : (if v < f i then f i - 1 else f i) = (if v < f j then f j - 1 else f j) := h3
  split at h3 <;> split at h3 <;> omega
def mxs (f : Nat → Nat) : Nat → Nat
  | 0 => 0
  | n + 1 => max (mxs f n) (f n)
theorem mxs_ge {f : Nat → Nat} : ∀ {n y : Nat}, y < n → f y ≤ mxs f n := by
  intro n
  induction n with
  | zero => intro y h; omega
  | succ n ih =>
    intro y h
    unfold mxs
    by_cases e : y = n
    · rw [e]; omega
    · have := ih (show y < n by omega)
      omega
theorem mxs_le {f : Nat → Nat} {b : Nat} : ∀ {n : Nat}, (∀ y, y < n → f y ≤ b) → mxs f n ≤ b := by
  intro n
  induction n with
  | zero => intro _; exact Nat.zero_le _
  | succ n ih =>
    intro h
    have := ih (fun y hy => h y (by omega))
    have := h n (by omega)
    unfold mxs
    omega
theorem mxs_cg {f g : Nat → Nat} : ∀ {n : Nat}, (∀ y, y < n → f y = g y) → mxs f n = mxs g n := by
  intro n
  induction n with
  | zero => intro _; rfl
  | succ n ih =>
    intro h
    unfold mxs
    rw [ih (fun y hy => h y (by omega)), h n (by omega)]
theorem mxs_mono {f g : Nat → Nat} : ∀ {n : Nat}, (∀ y, y < n → f y ≤ g y) → mxs f n ≤ mxs g n := fun h => mxs_le fun y hy => Nat.le_trans (h y hy) (mxs_ge hy)
/-- the longest falling row from x, of k at most -/
noncomputable def ln (R : Nat → Int32) : Nat → Nat → Nat
  | 0, _ => 0
  | k + 1, x => 1 + mxs (fun y => if kn R x y = nv 0 then ln R k y else 0) (nH R)
theorem ln_k (R : Nat → Int32) : ∀ k x, ln R k x ≤ k := by
  intro k
  induction k with
  | zero => intro x; exact Nat.le_refl _
  | succ k ih =>
    intro x
    unfold ln
    have : mxs (fun y => if kn R x y = nv 0 then ln R k y else 0) (nH R) ≤ k := mxs_le fun y _ => by
      have := ih y
      split <;> omega
    omega
theorem kn_lt {R : Nat → Int32} (h : Fs R) (hH : nH R ≤ 10) {x y : Nat} (hx : x < nH R) (hy : y < nH R) (e : kn R x y = nv 0) : sz R y < sz R x := by
  rcases kn_ws h hH hx hy with q | q
  · rw [e] at q
    exact absurd q (by decide)
  · rw [e] at q
    unfold ws wd at q
    by_cases c : sz R x ≤ sz R y
    · rw [if_pos c] at q
      split at q <;> exact absurd q (by decide)
    · exact Int32.not_le.mp c
/-- how many are smaller; how many come ahead -/
def sm (R : Nat → Int32) (x : Nat) : Nat := cnt (fun y => decide (sz R y < sz R x)) (nH R)
def ah (R : Nat → Int32) (a b : Nat) : Bool := decide (sz R a < sz R b ∨ (sz R b = sz R a ∧ b < a))
def rkn (R : Nat → Int32) (a : Nat) : Nat := cnt (fun b => ah R a b) (nH R)
theorem sm_lt {R : Nat → Int32} {x y : Nat} (hy : y < nH R) (h : sz R y < sz R x) : sm R y < sm R x := cnt_lt (i := y) (fun i _ hi => by
    have := of_decide_eq_true hi
    exact decide_eq_true (Int32.lt_trans this h)) hy (fun e => Int32.lt_irrefl (of_decide_eq_true e)) (decide_eq_true h)
theorem sm_n {R : Nat → Int32} {x : Nat} (hx : x < nH R) : sm R x < nH R := cnt_n hx (fun e => Int32.lt_irrefl (of_decide_eq_true e))
theorem ln_st {R : Nat → Int32} (h : Fs R) (hH : nH R ≤ 10) : ∀ c x, x < nH R → sm R x ≤ c → ∀ k, c + 1 ≤ k → ln R k x = ln R (c + 1) x := by
  intro c
  induction c with
  | zero =>
    intro x hx hc k hk
    obtain ⟨k, rfl⟩ : ∃ j, k = j + 1 := ⟨k - 1, by omega⟩
    unfold ln
    refine congrArg (1 + ·) (mxs_cg fun y hy => ?_)
    by_cases e : kn R x y = nv 0
    · have := sm_lt hy (kn_lt h hH hx hy e)
      omega
    · rw [if_neg e, if_neg e]
  | succ c ih =>
    intro x hx hc k hk
    obtain ⟨k, rfl⟩ : ∃ j, k = j + 1 := ⟨k - 1, by omega⟩
    show 1 + mxs (fun y => if kn R x y = nv 0 then ln R k y else 0) (nH R) = 1 + mxs (fun y => if kn R x y = nv 0 then ln R (c + 1) y else 0) (nH R)
    refine congrArg (1 + ·) (mxs_cg fun y hy => ?_)
    by_cases e : kn R x y = nv 0
    · rw [if_pos e, if_pos e]
      have := sm_lt hy (kn_lt h hH hx hy e)
      exact ih y hy (by omega) k (by omega)
    · rw [if_neg e, if_neg e]
noncomputable def len (R : Nat → Int32) (x : Nat) : Nat := ln R (nH R) x
theorem len_s {R : Nat → Int32} (h : Fs R) (hH : nH R ≤ 10) {x : Nat} (hx : x < nH R) : len R x = 1 + mxs (fun y => if kn R x y = nv 0 then len R y else 0) (nH R) := by
  have s := sm_n hx
  have e1 := ln_st h hH (sm R x) x hx (Nat.le_refl _) (nH R) (by omega)
  have e2 := ln_st h hH (sm R x) x hx (Nat.le_refl _) (nH R + 1) (by omega)
  unfold len
  rw [e1, ← e2]
  rfl
theorem ln_len {R : Nat → Int32} (h : Fs R) (hH : nH R ≤ 10) {x : Nat} (hx : x < nH R) {k : Nat} (hk : nH R ≤ k) : ln R k x = len R x := by
  have s := sm_n hx
  unfold len
  rw [ln_st h hH (sm R x) x hx (Nat.le_refl _) (nH R) (by omega), ln_st h hH (sm R x) x hx (Nat.le_refl _) k (by omega)]
theorem len_1 {R : Nat → Int32} (h : Fs R) (hH : nH R ≤ 10) {x : Nat} (hx : x < nH R) : 1 ≤ len R x := by
  rw [len_s h hH hx]; omega
theorem len_n (R : Nat → Int32) (x : Nat) : len R x ≤ nH R := ln_k R _ _
theorem len_e {R : Nat → Int32} (h : Fs R) (hH : nH R ≤ 10) {x y : Nat} (hx : x < nH R) (hy : y < nH R) (e : kn R x y = nv 0) : len R y + 1 ≤ len R x := by
  rw [len_s h hH hx]
  have := mxs_ge (f := fun y => if kn R x y = nv 0 then len R y else 0) hy
  rw [if_pos e] at this
  omega
/-! ranks -/
theorem ah_i (R : Nat → Int32) (a : Nat) : ¬ ah R a a = true := fun e => by
  have := of_decide_eq_true e
  rcases this with h | h
  · exact Int32.lt_irrefl h
  · omega
theorem ah_t {R : Nat → Int32} {a b c : Nat} (h1 : ah R a b = true) (h2 : ah R b c = true) : ah R a c = true := by
  have h1 := of_decide_eq_true h1
  have h2 := of_decide_eq_true h2
  refine decide_eq_true ?_
  rcases h1 with h1 | ⟨h1, g1⟩
  · rcases h2 with h2 | ⟨h2, g2⟩
    · exact .inl (Int32.lt_trans h1 h2)
    · exact .inl (by rw [h2]; exact h1)
  · rcases h2 with h2 | ⟨h2, g2⟩
    · exact .inl (by rw [← h1]; exact h2)
    · exact .inr ⟨h2.trans h1, by omega⟩
theorem rkn_lt {R : Nat → Int32} {a b : Nat} (hb : b < nH R) (h : ah R a b = true) : rkn R b < rkn R a := cnt_lt (i := b) (fun _ _ hi => ah_t h hi) hb (ah_i R b) h
theorem rkn_n {R : Nat → Int32} {a : Nat} (ha : a < nH R) : rkn R a < nH R := cnt_n ha (ah_i R a)
theorem ah_or {R : Nat → Int32} {a b : Nat} (h : a ≠ b) : ah R a b = true ∨ ah R b a = true := by
  by_cases c : sz R a < sz R b
  · exact .inl (decide_eq_true (.inl c))
  · by_cases d : sz R b < sz R a
    · exact .inr (decide_eq_true (.inl d))
    · have e : sz R a = sz R b := Int32.le_antisymm (Int32.not_lt.mp d) (Int32.not_lt.mp c)
      rcases Nat.lt_or_ge a b with g | g
      · exact .inr (decide_eq_true (.inr ⟨e, g⟩))
      · exact .inl (decide_eq_true (.inr ⟨e.symm, by omega⟩))
theorem rnk_nv (R : Nat → Int32) (a : Nat) : rnk R a = nv (rkn R a) := by
  unfold rnk rkn
  refine cnt_su fun b hb => ?_
  unfold ah
  by_cases c : sz R a < sz R b
  · rw [if_pos c, if_pos (decide_eq_true (.inl c))]
    rfl
  · rw [if_neg c]
    by_cases d : sz R b = sz R a
    · rw [if_pos d]
      by_cases e : a ≤ b
      · rw [if_pos e, if_neg (fun g => by
          rcases of_decide_eq_true g with g | g
          · exact c g
          · omega)]
        rfl
      · rw [if_neg e, if_pos (decide_eq_true (.inr ⟨d, by omega⟩))]
        rfl
    · rw [if_neg d, if_neg (fun g => by
        rcases of_decide_eq_true g with g | g
        · exact c g
        · exact d g.1)]
      rfl
theorem rkd_ex {R : Nat → Int32} (hH : nH R ≤ 10) {v : Nat} (hv : v < nH R) : ∃ a, a < nH R ∧ rkn R a = v ∧ rkd R (nv v) = some a := by
  obtain ⟨i, hi, ei⟩ := onto (f := rkn R) (fun i hi => rkn_n hi) (fun i j hij hj e => by
    rcases ah_or (R := R) (show i ≠ j by omega) with h | h
    · have := rkn_lt hj h; omega
    · have := rkn_lt (show i < nH R by omega) h; omega) hv
  obtain ⟨a, h1, h2, h3, h4, -⟩ := ff_some (p := fun a => decide (rnk R a = nv v)) (j := nH R) (k := 0) ⟨i, by omega, by omega, decide_eq_true (by rw [rnk_nv, ei])⟩
  have h5 := of_decide_eq_true h4
  have ha : a < nH R := by omega
  have hr := rkn_n ha
  rw [rnk_nv, nv_eq (by omega) (by omega)] at h5
  exact ⟨a, ha, h5, h1⟩
