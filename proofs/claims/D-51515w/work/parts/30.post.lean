/-! A COMMAND: both sides tell the same -/
def After (G : Nat → Nat) (a c : Hp) : Prop := (∃ B S, JC G B S c ∧ JT G S c) ∧ (hSz c ≤ hSz a + 50000 ∧ hSl c ≤ hSl a + 228000) ∧ ∀ q, q < hSz a → 100 ≤ hK a q → hK c q = hK a q ∧ hN c q = hN a q ∧ hI c q = hI a q
def Post (G : Nat → Nat) (a : Hp) (r w : Int32) (c : Hp) : Prop := hI c (G 10) 5 = r ∧ (r = nv 0 → hL c (G 20) 0 = w.toInt64.toUInt64) ∧ After G a c
def OpL (G : Nat → Nat) (a : Hp) (m n : Mr Int32) : Prop := Wp m a (fun r b => Wp n b (fun w c => Post G a r w c))
/-- a command that is told at once -/
def OpE (G : Nat → Nat) (a : Hp) (m n : Mr Int32) : Prop := Wp m a (fun r b => Wp n b (fun w c => r = w ∧ After G a c))
def ol (G : Nat → Nat) (a : Hp) (x : Int32) : Hp := hwL a (G 20) (up1 (hL a (G 20)) 0 x.toInt64.toUInt64)
theorem ol_f (G : Nat → Nat) (a : Hp) (x : Int32) : hwL a (G 20) (up1 (hL a (G 20)) 0 x.toInt64.toUInt64) = ol G a x := rfl
theorem ol_0 (G : Nat → Nat) (a : Hp) (x : Int32) : hL (ol G a x) (G 20) 0 = x.toInt64.toUInt64 := by unfold ol; rw [hL_wL, up1_s, up1_s]
theorem after {G : Nat → Nat} {B : Nat → Nat × Nat} {S : Gst} {a b1 b c : Hp} {x : Int32} (hC : JC G B S a) (hT : JT G S a) (hE : E0 a b1) (hz : hSz b1 ≤ hSz a + 50000) (hl : hSl b1 ≤ hSl a + 228000) (hb : b = b1 ∨ ∃ f, b = hwL b1 (G 20) f ∨ b = hwL b1 (G 21) f) (hc : Sx G (th G b x) c) : After G a c := by
  have hG := hC.1.gd
  have hs : ∀ i, i < 22 → G i < hSz a := fun i hi => (hC.1 i hi).1
  have hCb : JC G B S b := by
    rcases hb with rfl | ⟨f, rfl | rfl⟩
    · exact hC.e0 hE
    · exact (hC.e0 hE).wL _ _
    · exact (hC.e0 hE).wL _ _
  have hTb : JT G S b := by
    rcases hb with rfl | ⟨f, rfl | rfl⟩
    · exact hT.e0 hE hs
    · exact (hT.e0 hE hs).wL _ _
    · exact (hT.e0 hE hs).wL _ _
  have ep : EP (tG G) b c := (th_ep G b x).tr hc.ep
  have hz2 : hSz c = hSz b1 := by rw [hc.sz, th_sz]; rcases hb with rfl | ⟨f, rfl | rfl⟩ <;> rfl
  have hl2 : hSl c = hSl b1 := by rw [hc.sl, th_sl]; rcases hb with rfl | ⟨f, rfl | rfl⟩ <;> rfl
  have epa : EP (tG G) a c := by
    refine (EP.tr (hE.ep _) ?_).tr ep
    rcases hb with rfl | ⟨f, rfl | rfl⟩ <;> exact EP.rf _ _
  refine ⟨⟨B, S, hCb.tw hTb.1 ep, (hTb.th hG x).sx hG hc⟩, ⟨by omega, by omega⟩, fun q hq hk => ?_⟩
  have := epa.2.2 q hq (fun hp => by
    obtain ⟨j, j1, j2, rfl⟩ := hp
    obtain ⟨⟨k10, -⟩, ⟨k11, k12, k13, k14, k15, k16, k17, k18, k19⟩, -⟩ := hT.1
    have : j = 10 ∨ j = 11 ∨ j = 12 ∨ j = 13 ∨ j = 14 ∨ j = 15 ∨ j = 16 ∨ j = 17 ∨ j = 18 ∨ j = 19 := by omega
    rcases this with rfl | rfl | rfl | rfl | rfl | rfl | rfl | rfl | rfl | rfl <;> omega)
  exact ⟨this.1, this.2.1, this.2.2.2⟩
theorem post {G : Nat → Nat} {B : Nat → Nat × Nat} {S : Gst} {a b1 b c : Hp} {x w : Int32} (hC : JC G B S a) (hT : JT G S a) (hE : E0 a b1) (hz : hSz b1 ≤ hSz a + 50000) (hl : hSl b1 ≤ hSl a + 228000) (hb : b = b1 ∨ ∃ f, b = hwL b1 (G 20) f ∨ b = hwL b1 (G 21) f) (hc : Sx G (th G b x) c) (hv : x = nv 0 → hL b (G 20) 0 = w.toInt64.toUInt64) : Post G a x w c := by
  have hG := hC.1.gd
  refine ⟨?_, fun e => ?_, after hC hT hE hz hl hb hc⟩
  · rw [hc.2.2 (G 10) (hG.ne (by omega) (by omega) (by omega)) (hG.ne (by omega) (by omega) (by omega)) (hG.ne (by omega) (by omega) (by omega)), th_5]
  · rw [hc.l, th_L]
    exact hv e
/-- nothing but the out array and thrown -/
theorem post_0 {G : Nat → Nat} {B : Nat → Nat × Nat} {S : Gst} {a b1 : Hp} (hC : JC G B S a) (hT : JT G S a) (hE : E0 a b1) (hz : hSz b1 ≤ hSz a + 50000) (hl : hSl b1 ≤ hSl a + 228000) (w : Int32) : Post G a (nv 0) w (th G (ol G b1 w) (nv 0)) :=
  post hC hT hE hz hl (.inr ⟨_, .inl rfl⟩) (Sx.rf _ _) (fun _ => ol_0 G b1 w)
theorem post_s {G : Nat → Nat} {B : Nat → Nat × Nat} {S : Gst} {a b1 c : Hp} (hC : JC G B S a) (hT : JT G S a) (hE : E0 a b1) (hz : hSz b1 ≤ hSz a + 50000) (hl : hSl b1 ≤ hSl a + 228000) {w : Int32} (hc : Sx G (th G (ol G b1 w) (nv 0)) c) : Post G a (nv 0) w c :=
  post hC hT hE hz hl (.inr ⟨_, .inl rfl⟩) hc (fun _ => ol_0 G b1 w)
theorem post_x {G : Nat → Nat} {B : Nat → Nat × Nat} {S : Gst} {a b1 : Hp} (hC : JC G B S a) (hT : JT G S a) (hE : E0 a b1) (hz : hSz b1 ≤ hSz a + 50000) (hl : hSl b1 ≤ hSl a + 228000) {p : Nat} (hp : 0 < p) (hp2 : p < 100) (w : Int32) : Post G a (nv p) w (th G b1 (nv p)) :=
  post hC hT hE hz hl (.inl rfl) (Sx.rf _ _) (fun e => absurd e (by rw [nv_eq (by omega) (by omega)]; omega))
theorem tw_z (a : Hp) : hSz (tw_ a) = hSz a + 1 := rfl
theorem tw_l (a : Hp) : hSl (tw_ a) = hSl a + 6 := rfl
/-- what a command starts from -/
theorem start {G : Nat → Nat} {B : Nat → Nat × Nat} {S : Gst} {a : Hp} (hC : JC G B S a) (hT : JT G S a) : ∃ L R, Mk B a L R ∧ Ro R ∧ FX G a L ∧ FO G a 0 R ∧ gm S 0 = some (L, R) := by
  obtain ⟨p, h1, h2⟩ := hC.2.2.1.1
  obtain ⟨-, h3, h4⟩ := hC.2.2.1.2.1 0 p h1
  exact ⟨p.1, p.2, h3, h4, ⟨hC.2.1.1.1, h2, (hC.1 0 (by omega)).1⟩, hT.fo h1, h1⟩
theorem X5_isHeap_1 {G : Nat → Nat} {a : Hp} {o : Nat} {R : Nat → Int32} (hF : FO G a o R) (hS : Sh R) {v : Int32} (h : inr v (nH R)) (Q : Int32 → Hp → Prop) : Wp (X5_isHeap (G 10) v) a Q ↔ Q (nv 1) a := by rw [X5_isHeap_w hF hS, if_pos (show 0 ≤ v.toInt ∧ v.toInt < (nH R : Int) from h)]; rfl
theorem X5_isHeap_0 {G : Nat → Nat} {a : Hp} {o : Nat} {R : Nat → Int32} (hF : FO G a o R) (hS : Sh R) {v : Int32} (h : ¬ inr v (nH R)) (Q : Int32 → Hp → Prop) : Wp (X5_isHeap (G 10) v) a Q ↔ Q (nv 0) a := by rw [X5_isHeap_w hF hS, if_neg (show ¬ (0 ≤ v.toInt ∧ v.toInt < (nH R : Int)) from h)]; rfl
theorem X5_isTrader_1 {G : Nat → Nat} {a : Hp} {o : Nat} {R : Nat → Int32} (hF : FO G a o R) (hS : Sh R) {v : Int32} (h : inr v (nT R)) (Q : Int32 → Hp → Prop) : Wp (X5_isTrader (G 10) v) a Q ↔ Q (nv 1) a := by rw [X5_isTrader_w hF hS, if_pos (show 0 ≤ v.toInt ∧ v.toInt < (nT R : Int) from h)]; rfl
theorem X5_isTrader_0 {G : Nat → Nat} {a : Hp} {o : Nat} {R : Nat → Int32} (hF : FO G a o R) (hS : Sh R) {v : Int32} (h : ¬ inr v (nT R)) (Q : Int32 → Hp → Prop) : Wp (X5_isTrader (G 10) v) a Q ↔ Q (nv 0) a := by rw [X5_isTrader_w hF hS, if_neg (show ¬ (0 ≤ v.toInt ∧ v.toInt < (nT R : Int)) from h)]; rfl
theorem X5_isClaim_1 {G : Nat → Nat} {a : Hp} {o : Nat} {R : Nat → Int32} (hF : FO G a o R) (hS : Sh R) {v : Int32} (h : inr v (nC R)) (Q : Int32 → Hp → Prop) : Wp (X5_isClaim (G 10) v) a Q ↔ Q (nv 1) a := by rw [X5_isClaim_w hF hS, if_pos (show 0 ≤ v.toInt ∧ v.toInt < (nC R : Int) from h)]; rfl
theorem X5_isClaim_0 {G : Nat → Nat} {a : Hp} {o : Nat} {R : Nat → Int32} (hF : FO G a o R) (hS : Sh R) {v : Int32} (h : ¬ inr v (nC R)) (Q : Int32 → Hp → Prop) : Wp (X5_isClaim (G 10) v) a Q ↔ Q (nv 0) a := by rw [X5_isClaim_w hF hS, if_neg (show ¬ (0 ≤ v.toInt ∧ v.toInt < (nC R : Int)) from h)]; rfl
theorem X5_isRow_1 {G : Nat → Nat} {a : Hp} {o : Nat} {R : Nat → Int32} (hF : FO G a o R) (hS : Sh R) {k : Nat} (hk : k < nH R) {r : Int32} (h : inr r (nR R k)) (Q : Int32 → Hp → Prop) : Wp (X5_isRow (G 10) (nv k) r) a Q ↔ Q (nv 1) a := by
  have h10 := sh_H10 hS
  have e : (nv k).toInt = k := nv_int (by omega)
  have h1 := h.1
  have h2 := h.2
  rw [X5_isRow_w hF hS, if_pos (by rw [e]; refine ⟨by omega, h.1, ?_⟩; rw [Int.toNat_natCast]; exact h.2)]
  rfl
theorem X5_isRow_0 {G : Nat → Nat} {a : Hp} {o : Nat} {R : Nat → Int32} (hF : FO G a o R) (hS : Sh R) {k : Nat} (hk : k < nH R) {r : Int32} (h : ¬ inr r (nR R k)) (Q : Int32 → Hp → Prop) : Wp (X5_isRow (G 10) (nv k) r) a Q ↔ Q (nv 0) a := by
  have h10 := sh_H10 hS
  have e : (nv k).toInt = k := nv_int (by omega)
  rw [X5_isRow_w hF hS, if_neg (by rw [e, Int.toNat_natCast]; exact fun g => h g.2)]
  rfl
theorem X5_isRow_h {G : Nat → Nat} {a : Hp} {o : Nat} {R : Nat → Int32} (hF : FO G a o R) (hS : Sh R) {v r : Int32} (h : ¬ inr v (nH R)) (Q : Int32 → Hp → Prop) : Wp (X5_isRow (G 10) v r) a Q ↔ Q (nv 0) a := by
  rw [X5_isRow_w hF hS, if_neg (fun g => h g.1)]
  rfl
theorem n10 : ¬ nv 1 = nv 0 := by decide
theorem okn0 : okN 0 (nv 0) = true := rfl
