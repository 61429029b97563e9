/-! READ-ONLY CELLS STAY, whatever is run -/
def Kz {α : Type} (m : Mr α) : Prop := ∀ a x b, run m a = some (x, b) → Kp a b
theorem kz_rt {α : Type} (x : α) : Kz (rt x) := fun a y b h => by
  rw [run_rt] at h
  cases h
  exact fun q _ _ => ⟨rfl, rfl, rfl⟩
theorem kz_no {α : Type} : Kz (no : Mr α) := fun a y b h => by
  rw [run_no] at h
  cases h
theorem kz_bd {α β : Type} {m : Mr α} {f : α → Mr β} (h : Kz m) (g : ∀ x, Kz (f x)) : Kz (bd m f) := fun a y b e => by
  obtain ⟨x, c, h1, h2⟩ := run_bd_inv e
  exact (h a x c h1).tr (run_le h1).1 (g x c y b h2)
theorem kz_ite {α : Type} {c : Prop} [Decidable c] {m n : Mr α} (h : Kz m) (g : Kz n) : Kz (if c then m else n) := by
  split
  · exact h
  · exact g
theorem kz_rd {α : Type} (g : Hp → Option α) : Kz (rd g) := fun a x b h => by
  rw [run_rd] at h
  obtain ⟨z, -, h4⟩ := Option.map_eq_some_iff.mp h
  cases h4
  exact fun q _ _ => ⟨rfl, rfl, rfl⟩
theorem kz_wr {α : Type} {c : Hp → Bool} {x : Hp → α} {u : Hp → Hp} {h} (g : ∀ a, c a = true → Kp a (u a)) : Kz (wr c x u h) := fun a y b e => by
  rw [run_wr] at e
  split at e
  · rename_i hc
    cases e
    exact g a hc
  · cases e
theorem kz_rc (k : Nat) (r : Option Nat) : Kz (rc k r) := kz_rd _
theorem kz_gI (k f : Nat) (r : Option Nat) : Kz (gI k f r) := kz_rd _
theorem kz_gR (k f : Nat) (r : Option Nat) : Kz (gR k f r) := kz_rd _
theorem kz_aI (k : Nat) (r : Option Nat) (i : Int32) : Kz (aI k r i) := kz_rd _
theorem kz_aN (k : Nat) (r : Option Nat) : Kz (aN k r) := kz_rd _
theorem kz_gS (k : Nat) : Kz (gS k) := kz_rd _
theorem kz_gC (k : Nat) : Kz (gC k) := kz_rd _
theorem kz_rz (t : Nat) (x : Int32) : Kz (rz t x) := kz_rd _
theorem kz_dv (x y : Int32) : Kz (dv x y) := kz_rd _
theorem kz_fdv (x y : UInt32) : Kz (fdv x y) := kz_rd _
theorem kz_ddv (x y : UInt64) : Kz (ddv x y) := kz_rd _
theorem kp_wI {a : Hp} {q : Nat} (h : hK a q < 100) (f : Nat → Int32) : Kp a (hwI a q f) := fun p _ hk => ⟨rfl, rfl, by
  rw [hI_wI, up1_n _ _ (fun e => by rw [e] at hk; omega)]⟩
theorem kz_pI {t k f : Nat} {r : Option Nat} {x : Int32} (h : k < 100) : Kz (pI t k f r x) := kz_wr fun a hc => by
  rw [Bool.and_eq_true] at hc
  cases r with
  | none => exact absurd hc.1 (by decide)
  | some q => exact kp_wI (a := a) (q := q) (by have := of_decide_eq_true hc.1; omega) _
theorem kz_sI {k : Nat} {r : Option Nat} {i x : Int32} (h : k < 100) : Kz (sI k r i x) := kz_wr fun a hc => by
  cases r with
  | none => exact absurd hc Bool.false_ne_true
  | some q =>
    have hc' : (decide (hK a q = k) && inI i (hN a q)) = true := hc
    rw [Bool.and_eq_true] at hc'
    exact kp_wI (a := a) (q := q) (by have := of_decide_eq_true hc'.1; omega) _
theorem kz_pR (k f : Nat) (r v : Option Nat) : Kz (pR k f r v) := kz_wr fun a _ => fun q _ _ => ⟨rfl, rfl, rfl⟩
theorem kz_nA (k : Nat) (n : Int32) : Kz (nA k n) := kz_wr fun a _ => fun q hq _ => by
  refine ⟨?_, ?_, ?_⟩
  · rw [hK_new, up1_n _ _ (by omega)]
  · rw [hN_new, up1_n _ _ (by omega)]
  · rw [hI_new, up1_n _ _ (by omega)]
theorem kz_use {α : Type} {m : Mr α} {a : Hp} {Q : α → Hp → Prop} (h : Kz m) (g : Wp m a Q) : Wp m a (fun x b => Kp a b ∧ Q x b) := by
  obtain ⟨x, b, h1, h2⟩ := g
  exact ⟨x, b, h1, h a x b h1, h2⟩
