/-! WHAT HOLDS BETWEEN COMMANDS -/
/-- a step that touches old cells of P alone -/
def EP (P : Nat → Prop) (a b : Hp) : Prop := hSz a ≤ hSz b ∧ hS b = hS a ∧ ∀ q, q < hSz a → ¬ P q → hK b q = hK a q ∧ hN b q = hN a q ∧ hR b q = hR a q ∧ hI b q = hI a q
theorem E0.ep {a b : Hp} (h : E0 a b) (P : Nat → Prop) : EP P a b := ⟨h.1, h.2.1, fun q hq _ => ⟨(h.2.2 q hq).1, (h.2.2 q hq).2.1, (h.2.2 q hq).2.2.1, (h.2.2 q hq).2.2.2.1⟩⟩
theorem EP.rf (P : Nat → Prop) (a : Hp) : EP P a a := ⟨Nat.le_refl _, rfl, fun _ _ _ => ⟨rfl, rfl, rfl, rfl⟩⟩
theorem EP.tr {P : Nat → Prop} {a b c : Hp} (h : EP P a b) (g : EP P b c) : EP P a c := ⟨Nat.le_trans h.1 g.1, g.2.1.trans h.2.1, fun q hq hp => by
  have h1 := h.2.2 q hq hp
  have h2 := g.2.2 q (Nat.lt_of_lt_of_le hq h.1) hp
  exact ⟨h2.1.trans h1.1, h2.2.1.trans h1.2.1, h2.2.2.1.trans h1.2.2.1, h2.2.2.2.trans h1.2.2.2⟩⟩
theorem EP.mono {P P' : Nat → Prop} {a b : Hp} (h : EP P a b) (g : ∀ q, P q → P' q) : EP P' a b := ⟨h.1, h.2.1, fun q hq hp => h.2.2 q hq (fun e => hp (g q e))⟩
theorem EP.wI {P : Nat → Prop} {a b : Hp} (h : EP P a b) {q : Nat} (hq : P q ∨ hSz a ≤ q) (f : Nat → Int32) : EP P a (hwI b q f) := by
  refine ⟨h.1, h.2.1, fun p hp hn => ?_⟩
  have h1 := h.2.2 p hp hn
  refine ⟨h1.1, h1.2.1, h1.2.2.1, ?_⟩
  rw [hI_wI, up1_n _ _ (fun e => by rcases hq with e2 | e2; exact hn (e ▸ e2); omega)]
  exact h1.2.2.2
theorem EP.wR {P : Nat → Prop} {a b : Hp} (h : EP P a b) {q : Nat} (hq : P q ∨ hSz a ≤ q) (f : Nat → Option Nat) : EP P a (hwR b q f) := by
  refine ⟨h.1, h.2.1, fun p hp hn => ?_⟩
  have h1 := h.2.2 p hp hn
  refine ⟨h1.1, h1.2.1, ?_, h1.2.2.2⟩
  rw [hR_wR, up1_n _ _ (fun e => by rcases hq with e2 | e2; exact hn (e ▸ e2); omega)]
  exact h1.2.2.1
theorem EP.wL {P : Nat → Prop} {a b : Hp} (h : EP P a b) (q : Nat) (f : Nat → UInt64) : EP P a (hwL b q f) := h
/-- a market stays where nothing of its own is touched -/
theorem Mk.ep {P : Nat → Prop} {B B' : Nat → Nat × Nat} {a b : Hp} {L : Nat → Nat} {R : Nat → Int32} (h : Mk B a L R) (g : EP P a b) (hP : ∀ q, P q → (B q).1 ≠ L 0 + 1 ∧ hK a q ≠ 10) (hB : ∀ q, q < hSz a → B' q = B q) : Mk B' b L R := by
  obtain ⟨h1, h2, h3, h4, h5, h6⟩ := h
  have hq : ∀ r, lv R r → hK b (L r) = hK a (L r) ∧ hN b (L r) = hN a (L r) ∧ hR b (L r) = hR a (L r) ∧ hI b (L r) = hI a (L r) := fun r hr => g.2.2 _ (h2 r hr).1 (fun hp => (hP _ hp).1 (by rw [(h2 r hr).2.1]))
  have l0 : ∀ r, r < 8 → lv R r := fun r hr => lv_0 hr
  refine ⟨h1, fun r hr => ⟨Nat.lt_of_lt_of_le (h2 r hr).1 g.1, (hB _ (h2 r hr).1).trans (h2 r hr).2.1, (hq r hr).1.trans (h2 r hr).2.2⟩, ?_, ?_, ?_, ?_⟩
  · obtain ⟨⟨n3, n4, n5, n6, n7⟩, n10, n30, n60, n80, n100⟩ := h3
    refine ⟨⟨?_, ?_, ?_, ?_, ?_⟩, ?_, ?_, ?_, ?_, ?_⟩
    · rw [(hq 3 (l0 _ (by omega))).2.1]; exact n3
    · rw [(hq 4 (l0 _ (by omega))).2.1]; exact n4
    · rw [(hq 5 (l0 _ (by omega))).2.1]; exact n5
    · rw [(hq 6 (l0 _ (by omega))).2.1]; exact n6
    · rw [(hq 7 (l0 _ (by omega))).2.1]; exact n7
    · intro k hk; rw [(hq _ (lv_10 hk)).2.1]; exact n10 k hk
    · intro k hk; rw [(hq _ (lv_30 hk)).2.1]; exact n30 k hk
    · intro k hk; rw [(hq _ (lv_60 hk)).2.1]; exact n60 k hk
    · intro k hk; rw [(hq _ (lv_80 hk)).2.1]; exact n80 k hk
    · intro k s hk hs; rw [(hq _ (lv_100 hk hs)).2.1]; exact n100 k s hk hs
  · obtain ⟨⟨r0, r1, r2, r3, r4, r5, r6⟩, q5, q3, q20, q4, q40, q41, q60⟩ := h4
    refine ⟨⟨?_, ?_, ?_, ?_, ?_, ?_, ?_⟩, ?_, ?_, ?_, ?_, ?_, ?_, ?_⟩
    · rw [(hq 0 (l0 _ (by omega))).2.2.1]; exact r0
    · rw [(hq 0 (l0 _ (by omega))).2.2.1]; exact r1
    · rw [(hq 0 (l0 _ (by omega))).2.2.1]; exact r2
    · rw [(hq 0 (l0 _ (by omega))).2.2.1]; exact r3
    · rw [(hq 0 (l0 _ (by omega))).2.2.1]; exact r4
    · rw [(hq 1 (l0 _ (by omega))).2.2.1]; exact r5
    · rw [(hq 2 (l0 _ (by omega))).2.2.1]; exact r6
    · intro k hk; rw [(hq 5 (l0 _ (by omega))).2.2.1]; exact q5 k hk
    · intro k hk; rw [(hq 3 (l0 _ (by omega))).2.2.1]; exact q3 k hk
    · intro k hk; rw [(hq _ (lv_20 hk)).2.2.1]; exact q20 k hk
    · intro k hk; rw [(hq 4 (l0 _ (by omega))).2.2.1]; exact q4 k hk
    · intro k hk; rw [(hq _ (lv_40 hk)).2.2.1]; exact q40 k hk
    · intro k hk; rw [(hq _ (lv_40 hk)).2.2.1]; exact q41 k hk
    · intro k s hk hs; rw [(hq _ (lv_60 hk)).2.2.1]; exact q60 k s hk hs
  · obtain ⟨i1, i2, i3⟩ := h5
    refine ⟨?_, ?_, ?_⟩
    · intro r j i hc
      have hr : lv R r := by
        rcases hc with c | c | c | c | c | c | c | c | c | c
        · exact l0 _ (by omega)
        · exact l0 _ (by omega)
        · exact l0 _ (by omega)
        · exact l0 _ (by omega)
        · exact l0 _ (by omega)
        · rw [show r = 20 + (r - 20) by omega]; exact lv_20 (by omega)
        · rw [show r = 30 + (r - 30) by omega]; exact lv_30 (by omega)
        · rw [show r = 40 + (r - 40) by omega]; exact lv_40 (by omega)
        · rw [show r = 80 + (r - 80) by omega]; exact lv_80 (by omega)
        · rw [show r = 100 + 2 * ((r - 100) / 2) + (r - 100) % 2 by omega]; exact lv_100 (by omega) (by omega)
      rw [(hq r hr).2.2.2]
      exact i1 r j i hc
    · intro k hk; rw [(hq _ (lv_20 hk)).2.2.2]; exact i2 k hk
    · intro k hk; rw [(hq _ (lv_40 hk)).2.2.2]; exact i3 k hk
  · intro x y hx hy
    rcases h6 x y hx hy with ⟨e1, e2⟩ | ⟨f, e1, e2, e3, f1, f2, f3⟩
    · exact .inl ⟨e1, by rw [(hq _ (lv_10 hx)).2.2.1]; exact e2⟩
    · refine .inr ⟨f, by rw [(hq _ (lv_10 hx)).2.2.1]; exact e1, e2, e3, Nat.lt_of_lt_of_le f1 g.1, ?_, ?_⟩
      · rw [(g.2.2 f f1 (fun hp => (hP _ hp).2 f2)).1]; exact f2
      · rw [(g.2.2 f f1 (fun hp => (hP _ hp).2 f2)).2.2.2]; exact f3
/-- texts of the String constants -/
def sT : List (List Int32) := [[62, 60, 61], [], [104, 101, 97, 112], [116, 111, 110, 103, 117, 101], [115, 97, 121], [112, 97, 105, 114], [109, 97, 116, 99, 104], [99, 108, 111, 115, 101], [100, 114, 111, 112], [112, 117, 116], [115, 119, 97, 112], [101, 121, 101], [109, 111, 114, 101], [108, 101, 115, 115], [108, 105, 107, 101], [104, 101, 97, 112], [116, 111, 110, 103, 117, 101], [115, 97, 121], [112, 97, 105, 114], [109, 97, 116, 99, 104], [99, 108, 111, 115, 101], [100, 114, 111, 112], [112, 117, 116], [115, 119, 97, 112], [101, 121, 101], [109, 111, 114, 101], [108, 101, 115, 115], [108, 105, 107, 101]]
/-- the constants -/
def Co (a : Hp) : Prop := (∀ k, (k = 62 ∨ k = 71 ∨ k = 72) → ∃ q, hS a k = some q ∧ q < hSz a ∧ hK a q = 100 + k) ∧
  ∀ i, i < 28 → ∃ q v, hS a (100 + i) = some q ∧ (q < hSz a ∧ v < hSz a) ∧ (hK a q = 113 ∧ hR a q 0 = some v ∧ hI a q 1 = 0 ∧ (i = 1 → hI a q 2 = 0 ∧ hI a q 3 = 1)) ∧ hK a v = 142 ∧ hN a v = (sT.getD i []).length ∧ ∀ j, j < (sT.getD i []).length → hI a v j = (sT.getD i []).getD j 0
theorem Co.ep {P : Nat → Prop} {a b : Hp} (h : Co a) (g : EP P a b) (hP : ∀ q, P q → hK a q < 100) : Co b := by
  refine ⟨fun k hk => ?_, fun i hi => ?_⟩
  · obtain ⟨q, h1, h2, h3⟩ := h.1 k hk
    refine ⟨q, by rw [g.2.1]; exact h1, Nat.lt_of_lt_of_le h2 g.1, ?_⟩
    rw [(g.2.2 q h2 (fun hp => by have := hP q hp; omega)).1]
    exact h3
  · obtain ⟨q, v, h1, ⟨h2, h3⟩, ⟨h4, h5, h6, h6z⟩, h7, h8, h9⟩ := h.2 i hi
    have e1 := g.2.2 q h2 (fun hp => by have := hP q hp; omega)
    have e2 := g.2.2 v h3 (fun hp => by have := hP v hp; omega)
    refine ⟨q, v, by rw [g.2.1]; exact h1, ⟨Nat.lt_of_lt_of_le h2 g.1, Nat.lt_of_lt_of_le h3 g.1⟩, ⟨by rw [e1.1]; exact h4, by rw [e1.2.2.1]; exact h5, by rw [e1.2.2.2]; exact h6, by rw [e1.2.2.2]; exact h6z⟩, by rw [e2.1]; exact h7, by rw [e2.2.1]; exact h8, fun j hj => by rw [e2.2.2.2]; exact h9 j hj⟩
/-- values of a row: stones, trust, pairs -/
def Rv (R : Nat → Int32) : Prop :=
  (∀ h r, h < nH R → r < nR R h → ∃ t, t ≤ 9 ∧ st R h r = nv t) ∧ (∀ k, k < nT R → ∃ t, t ≤ 20 ∧ R (11 + k) = nv t) ∧
  (∀ c, c < nC R → cs R c 4 = 0 → (∀ s r, s < 2 → r < nR R (sd R c s) → ∃ p t, p ≤ t ∧ t ≤ 9 ∧ cs R c (8 + 5 * s + r) = nv p ∧ st R (sd R c s) r = nv t) ∧ su (fun r => cs R c (8 + r)) 5 = su (fun r => cs R c (13 + r)) 5)
def Ro (R : Nat → Int32) : Prop := Sh R ∧ Fs R ∧ Pz R ∧ Rv R
abbrev Mp : Type := (Nat → Nat) × (Nat → Int32)
/-- markets by the twin's rows 0 now, 1 .. 6 past, 7 8 saved; how many past; refusals; text; error; output -/
abbrev Gst : Type := ((Nat → Option Mp) × Nat) × (((Nat → Int32) × (Nat × (Nat → Int32))) × ((Int32 × Int32) × (Nat × (Nat → Int32))))
def gm (S : Gst) : Nat → Option Mp := S.1.1
def gu (S : Gst) : Nat := S.1.2
def gf (S : Gst) : Nat → Int32 := S.2.1.1
def gl (S : Gst) : Nat := S.2.1.2.1
def gb (S : Gst) : Nat → Int32 := S.2.1.2.2
def ge (S : Gst) : Int32 × Int32 := S.2.2.1
def go (S : Gst) : Nat × (Nat → Int32) := S.2.2.2
abbrev JX (G : Nat → Nat) (a : Hp) : Prop := (hK a (G 0) = 1 ∧ hR a (G 0) 0 = some (G 1) ∧ hR a (G 0) 5 = some (G 2) ∧ hR a (G 0) 6 = some (G 3) ∧ hR a (G 0) 7 = some (G 4) ∧ hR a (G 0) 8 = some (G 5)) ∧
  (hK a (G 1) = 42 ∧ hK a (G 2) = 11 ∧ hK a (G 3) = 49 ∧ hK a (G 4) = 41 ∧ hK a (G 5) = 12 ∧ hK a (G 6) = 46 ∧ hK a (G 7) = 42 ∧ hK a (G 20) = 44 ∧ hK a (G 21) = 45) ∧
  (hN a (G 1) = 500 ∧ hN a (G 3) = 2 ∧ hN a (G 4) = 10 ∧ hN a (G 6) = 17 ∧ hN a (G 7) = 16 ∧ hN a (G 20) = 1 ∧ hN a (G 21) = 1) ∧ hR a (G 2) 0 = some (G 6) ∧ hR a (G 5) 0 = some (G 7) ∧ hI a (G 5) 1 = nv 0
def JA (G : Nat → Nat) (B : Nat → Nat × Nat) (a : Hp) : Prop := ∀ i, i < 22 → G i < hSz a ∧ B (G i) = (0, i)
def JM (G : Nat → Nat) (B : Nat → Nat × Nat) (S : Gst) (a : Hp) : Prop :=
  (∃ p, gm S 0 = some p ∧ hR a (G 0) 4 = some (p.1 0)) ∧ (∀ i p, gm S i = some p → i < 9 ∧ Mk B a p.1 p.2 ∧ Ro p.2) ∧ (∀ i j p q, i ≠ j → gm S i = some p → gm S j = some q → p.1 0 ≠ q.1 0)
def JD (G : Nat → Nat) (S : Gst) (a : Hp) : Prop :=
  gu S ≤ 6 ∧ (∀ i, i < 6 → (gm S (1 + i) = none ↔ gu S ≤ i)) ∧ ∃ h, h < 17 ∧ hI a (G 2) 1 = nv h ∧ hI a (G 2) 2 = nv ((h + gu S) % 17) ∧ ∀ i p, i < gu S → gm S (1 + i) = some p → hR a (G 6) ((h + i) % 17) = some (p.1 0)
def JS (G : Nat → Nat) (S : Gst) (a : Hp) : Prop := ∀ j, j < 2 → hR a (G 3) j = (gm S (7 + j)).map (fun p => p.1 0)
def JF (G : Nat → Nat) (S : Gst) (a : Hp) : Prop := ∀ i, i < 10 → hI a (G 4) i = gf S i
def JL (G : Nat → Nat) (S : Gst) (a : Hp) : Prop := gl S ≤ 500 ∧ hI a (G 0) 1 = nv (gl S) ∧ ∀ i, i < gl S → hI a (G 1) i = gb S i ∧ -128 ≤ gb S i ∧ gb S i ≤ 127
def JE (G : Nat → Nat) (S : Gst) (a : Hp) : Prop := hI a (G 0) 2 = (ge S).1 ∧ hI a (G 0) 3 = (ge S).2
def JO (G : Nat → Nat) (S : Gst) (a : Hp) : Prop := (go S).1 ≤ 10 ∧ hI a (G 5) 3 = nv (go S).1 ∧ ∀ i, i < (go S).1 → hI a (G 7) i = (go S).2 i ∧ ∃ k, 60 ≤ k ∧ k ≤ 63 ∧ (go S).2 i = nv k
/-- the component's side; the twin's side -/
def JC (G : Nat → Nat) (B : Nat → Nat × Nat) (S : Gst) (a : Hp) : Prop := JA G B a ∧ JX G a ∧ JM G B S a ∧ JD G S a ∧ JS G S a ∧ JF G S a ∧ JL G S a ∧ JE G S a ∧ JO G S a ∧ Co a
def JT (G : Nat → Nat) (S : Gst) (a : Hp) : Prop := FT G a ∧ hI a (G 10) 3 = nv 0 ∧ hI a (G 10) 4 = nv (gu S) ∧ (∀ i p, gm S i = some p → ∀ k, k < 545 → hI a (G 11) (545 * i + k) = p.2 k) ∧
  (∀ j, j < 2 → hI a (G 12) j = if (gm S (7 + j)).isSome then 1 else 0) ∧ (∀ i, i < 10 → hI a (G 13) i = gf S i) ∧ (hI a (G 10) 9 = nv (gl S) ∧ ∀ i, i < gl S → hI a (G 16) i = gb S i &&& 255) ∧
  (hI a (G 10) 10 = (ge S).1 ∧ hI a (G 10) 11 = (ge S).2) ∧ (hI a (G 10) 20 = nv (go S).1 ∧ ∀ i, i < (go S).1 → hI a (G 19) i = (go S).2 i)
theorem JA.gd {G : Nat → Nat} {B : Nat → Nat × Nat} {a : Hp} (h : JA G B a) : GD G := fun i j hi hj e => by
  have h1 := (h i hi).2
  rw [e, (h j hj).2] at h1
  exact (congrArg Prod.snd h1).symm
/-- a step that spares the component's cells -/
theorem JC.ep {P : Nat → Prop} {G : Nat → Nat} {B : Nat → Nat × Nat} {S : Gst} {a b : Hp} (h : JC G B S a) (g : EP P a b) (h0 : ∀ i, (i < 10 ∨ i = 20 ∨ i = 21) → ¬ P (G i)) (hP : ∀ q, P q → (B q).1 = 0 ∧ hK a q < 100 ∧ hK a q ≠ 10) : JC G B S b := by
  obtain ⟨j1, j2, j3, j4, j5, j6, j7, j8, j9, j10⟩ := h
  have e := fun i (hi : i < 22) (hi2 : i < 10 ∨ i = 20 ∨ i = 21) => g.2.2 (G i) (j1 i hi).1 (h0 i hi2)
  have e0 := e 0 (by omega) (by omega)
  have e1 := e 1 (by omega) (by omega)
  have e2 := e 2 (by omega) (by omega)
  have e3 := e 3 (by omega) (by omega)
  have e4 := e 4 (by omega) (by omega)
  have e5 := e 5 (by omega) (by omega)
  have e6 := e 6 (by omega) (by omega)
  have e7 := e 7 (by omega) (by omega)
  have e20 := e 20 (by omega) (by omega)
  have e21 := e 21 (by omega) (by omega)
  refine ⟨fun i hi => ⟨Nat.lt_of_lt_of_le (j1 i hi).1 g.1, (j1 i hi).2⟩, ?_, ⟨?_, ?_, j3.2.2⟩, ?_, ?_, ?_, ?_, ?_, ?_, j10.ep g (fun q hq => (hP q hq).2.1)⟩
  · unfold JX at *
    rw [e0.1, e0.2.2.1, e1.1, e1.2.1, e2.1, e2.2.2.1, e3.1, e3.2.1, e4.1, e4.2.1, e5.1, e5.2.2.1, e5.2.2.2, e6.1, e6.2.1, e7.1, e7.2.1, e20.1, e20.2.1, e21.1, e21.2.1]
    exact j2
  · rw [e0.2.2.1]; exact j3.1
  · intro i p hp
    obtain ⟨q1, q2, q3⟩ := j3.2.1 i p hp
    exact ⟨q1, q2.ep g (fun q hq => ⟨by have := (hP q hq).1; omega, (hP q hq).2.2⟩) (fun _ _ => rfl), q3⟩
  · unfold JD at *
    rw [e2.2.2.2, e6.2.2.1]; exact j4
  · unfold JS at *
    rw [e3.2.2.1]; exact j5
  · unfold JF at *
    rw [e4.2.2.2]; exact j6
  · unfold JL at *
    rw [e0.2.2.2, e1.2.2.2]; exact j7
  · unfold JE at *
    rw [e0.2.2.2]; exact j8
  · unfold JO at *
    rw [e5.2.2.2, e7.2.2.2]; exact j9
theorem JC.e0 {G : Nat → Nat} {B : Nat → Nat × Nat} {S : Gst} {a b : Hp} (h : JC G B S a) (g : E0 a b) : JC G B S b := h.ep (g.ep (fun _ => False)) (fun _ _ => id) (fun _ hq => hq.elim)
theorem JC.wL {G : Nat → Nat} {B : Nat → Nat × Nat} {S : Gst} {a : Hp} (h : JC G B S a) (q : Nat) (f : Nat → UInt64) : JC G B S (hwL a q f) := h.ep ((EP.rf (fun _ => False) a).wL q f) (fun _ _ => id) (fun _ hq => hq.elim)
/-- the twin's cells -/
def tG (G : Nat → Nat) (q : Nat) : Prop := ∃ i, 10 ≤ i ∧ i < 20 ∧ q = G i
theorem JC.tw {G : Nat → Nat} {B : Nat → Nat × Nat} {S : Gst} {a b : Hp} (h : JC G B S a) (hT : FT G a) (g : EP (tG G) a b) : JC G B S b := by
  have hG := h.1.gd
  refine h.ep g (fun i hi => ?_) (fun q hq => ?_)
  · rintro ⟨j, j1, j2, e⟩
    have := hG i j (by omega) (by omega) e
    omega
  · obtain ⟨j, j1, j2, rfl⟩ := hq
    refine ⟨by rw [(h.1 j (by omega)).2], ?_⟩
    obtain ⟨⟨k10, -⟩, ⟨k11, k12, k13, k14, k15, k16, k17, k18, k19⟩, -⟩ := hT
    have : j = 10 ∨ j = 11 ∨ j = 12 ∨ j = 13 ∨ j = 14 ∨ j = 15 ∨ j = 16 ∨ j = 17 ∨ j = 18 ∨ j = 19 := by omega
    rcases this with rfl | rfl | rfl | rfl | rfl | rfl | rfl | rfl | rfl | rfl <;> omega
/-- a step that spares the twin's cells -/
theorem JT.ep {P : Nat → Prop} {G : Nat → Nat} {S : Gst} {a b : Hp} (h : JT G S a) (g : EP P a b) (hs : ∀ i, i < 22 → G i < hSz a) (h0 : ∀ q, P q → ¬ tG G q) : JT G S b := by
  have e := fun i (h1 : 10 ≤ i) (h2 : i < 20) => g.2.2 (G i) (hs i (by omega)) (fun hp => h0 _ hp ⟨i, h1, h2, rfl⟩)
  have e10 := e 10 (by omega) (by omega)
  have e11 := e 11 (by omega) (by omega)
  have e12 := e 12 (by omega) (by omega)
  have e13 := e 13 (by omega) (by omega)
  have e14 := e 14 (by omega) (by omega)
  have e15 := e 15 (by omega) (by omega)
  have e16 := e 16 (by omega) (by omega)
  have e17 := e 17 (by omega) (by omega)
  have e18 := e 18 (by omega) (by omega)
  have e19 := e 19 (by omega) (by omega)
  unfold JT FT at *
  rw [e10.1, e10.2.2.1, e10.2.2.2, e11.1, e11.2.1, e11.2.2.2, e12.1, e12.2.1, e12.2.2.2, e13.1, e13.2.1, e13.2.2.2, e14.1, e14.2.1, e15.1, e15.2.1, e16.1, e16.2.1, e16.2.2.2, e17.1, e17.2.1, e18.1, e18.2.1, e19.1, e19.2.1, e19.2.2.2]
  exact h
theorem JT.e0 {G : Nat → Nat} {S : Gst} {a b : Hp} (h : JT G S a) (g : E0 a b) (hs : ∀ i, i < 22 → G i < hSz a) : JT G S b := h.ep (g.ep (fun _ => False)) hs (fun _ h => h.elim)
theorem JT.wL {G : Nat → Nat} {S : Gst} {a : Hp} (h : JT G S a) (q : Nat) (f : Nat → UInt64) : JT G S (hwL a q f) := h
theorem JT.fo {G : Nat → Nat} {S : Gst} {a : Hp} (h : JT G S a) {p : Mp} (hp : gm S 0 = some p) : FO G a 0 p.2 := ⟨h.1, h.2.1, by omega, fun k hk => by rw [Nat.mul_zero, Nat.zero_add]; have := h.2.2.2.1 0 p hp k hk; rwa [Nat.mul_zero, Nat.zero_add] at this⟩
theorem JT.th {G : Nat → Nat} {S : Gst} {a : Hp} (hG : GD G) (h : JT G S a) (v : Int32) : JT G S (th G a v) := by
  have n := fun i (h1 : i < 22) (h2 : i ≠ 10) => th_o G a v (hG.ne h1 (show 10 < 22 by omega) h2)
  unfold JT FT at *
  rw [th_K, th_N, th_R, th_n G a v (by omega), th_n G a v (by omega), th_n G a v (by omega), th_n G a v (by omega), th_n G a v (by omega), th_n G a v (by omega), n 11 (by omega) (by omega), n 12 (by omega) (by omega), n 13 (by omega) (by omega), n 16 (by omega) (by omega), n 19 (by omega) (by omega)]
  exact h
theorem JT.sx {G : Nat → Nat} {S : Gst} {a b : Hp} (hG : GD G) (h : JT G S a) (g : Sx G a b) : JT G S b := by
  have n := fun i (h1 : i < 22) (h2 : i ≠ 14 ∧ i ≠ 15 ∧ i ≠ 18) => g.2.2 (G i) (hG.ne h1 (by omega) h2.1) (hG.ne h1 (by omega) h2.2.1) (hG.ne h1 (by omega) h2.2.2)
  unfold JT FT at *
  rw [g.k, g.n, g.r, n 10 (by omega) (by omega), n 11 (by omega) (by omega), n 12 (by omega) (by omega), n 13 (by omega) (by omega), n 16 (by omega) (by omega), n 19 (by omega) (by omega)]
  exact h
theorem th_ep (G : Nat → Nat) (a : Hp) (v : Int32) : EP (tG G) a (th G a v) := (EP.rf _ a).wI (.inl ⟨10, by omega, by omega, rfl⟩) _
theorem Sx.ep {G : Nat → Nat} {a b : Hp} (h : Sx G a b) : EP (tG G) a b := ⟨by rw [h.sz]; omega, congrArg (fun x => x.2) h.1, fun q _ hn => by
  rw [h.k, h.n, h.r]
  exact ⟨rfl, rfl, rfl, h.2.2 q (fun e => hn ⟨14, by omega, by omega, e⟩) (fun e => hn ⟨15, by omega, by omega, e⟩) (fun e => hn ⟨18, by omega, by omega, e⟩)⟩⟩
