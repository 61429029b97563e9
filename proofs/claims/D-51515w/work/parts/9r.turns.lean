/-! THE LAW'S TURNS (printed by lawgen.py) -/
theorem trn_0 {G : Nat → Nat} {scr len : Nat} {sc : Nat → Int32} {a : Hp} (hli : Li G scr len sc a) {p f : Nat} (hp : p + 5 ≤ len) (hl : len ≤ 120) (hk : sc p &&& 63 = nv 0) (Q : Int32 → Hp → Prop) (kk : ∀ c, Sm2 G scr len sc a c → Wp (L_law_28 f (some scr) (some (G 0)) (some (G 10)) (some (G 20)) (some (G 21)) (nv p + 5)) c Q) : Wp (L_law_28 (f + 1) (some scr) (some (G 0)) (some (G 10)) (some (G 20)) (some (G 21)) (nv p)) a Q := by
  have hli' := hli
  obtain ⟨⟨B, S, hC, hT⟩, hs, hz⟩ := hli'
  rw [L_law_28, w_bd, w_aN, hs.1, hs.2.1]
  refine ⟨rfl, ?_⟩
  rw [w_ite, if_neg (by rw [lt_5 (by omega) (by omega)]; omega), w_bd, rdA (j := 0) hs (by omega) (by omega) rfl, Nat.add_zero, hk, w_ite, if_neg (by decide)]
  rw [w_ite, if_pos (by rfl)]
  rw [w_bd, rdA (j := 1) hs (by omega) (by omega) (nv_add p 1)]
  rw [w_bd]
  refine w_mono (lemL (n := fun h' => X5_appendText h' (sc (p + 1))) hli (op_appendText hC hT (sc (p + 1))) (kz_X5_appendText _ _) Q kk) fun r b hb => ?_
  obtain ⟨hsb, hw⟩ := hb
  rw [w_bd, rdA (j := 1) hsb (by omega) (by omega) (nv_add p 1)]
  exact hw
theorem trn_1 {G : Nat → Nat} {scr len : Nat} {sc : Nat → Int32} {a : Hp} (hli : Li G scr len sc a) {p f : Nat} (hp : p + 5 ≤ len) (hl : len ≤ 120) (hk : sc p &&& 63 = nv 1) (Q : Int32 → Hp → Prop) (kk : ∀ c, Sm2 G scr len sc a c → Wp (L_law_28 f (some scr) (some (G 0)) (some (G 10)) (some (G 20)) (some (G 21)) (nv p + 5)) c Q) : Wp (L_law_28 (f + 1) (some scr) (some (G 0)) (some (G 10)) (some (G 20)) (some (G 21)) (nv p)) a Q := by
  have hli' := hli
  obtain ⟨⟨B, S, hC, hT⟩, hs, hz⟩ := hli'
  rw [L_law_28, w_bd, w_aN, hs.1, hs.2.1]
  refine ⟨rfl, ?_⟩
  rw [w_ite, if_neg (by rw [lt_5 (by omega) (by omega)]; omega), w_bd, rdA (j := 0) hs (by omega) (by omega) rfl, Nat.add_zero, hk, w_ite, if_neg (by decide)]
  rw [w_ite, if_neg (by decide)]
  rw [w_ite, if_pos (by rfl)]
  rw [w_bd, rdA (j := 1) hs (by omega) (by omega) (nv_add p 1)]
  rw [w_bd]
  refine w_mono (lemL (n := fun h' => X5_truncateText h' (sc (p + 1))) hli (op_truncateText hC hT (sc (p + 1))) (kz_X5_truncateText _ _) Q kk) fun r b hb => ?_
  obtain ⟨hsb, hw⟩ := hb
  rw [w_bd, rdA (j := 1) hsb (by omega) (by omega) (nv_add p 1)]
  exact hw
theorem trn_2 {G : Nat → Nat} {scr len : Nat} {sc : Nat → Int32} {a : Hp} (hli : Li G scr len sc a) {p f : Nat} (hp : p + 5 ≤ len) (hl : len ≤ 120) (hk : sc p &&& 63 = nv 2) (Q : Int32 → Hp → Prop) (kk : ∀ c, Sm2 G scr len sc a c → Wp (L_law_28 f (some scr) (some (G 0)) (some (G 10)) (some (G 20)) (some (G 21)) (nv p + 5)) c Q) : Wp (L_law_28 (f + 1) (some scr) (some (G 0)) (some (G 10)) (some (G 20)) (some (G 21)) (nv p)) a Q := by
  have hli' := hli
  obtain ⟨⟨B, S, hC, hT⟩, hs, hz⟩ := hli'
  rw [L_law_28, w_bd, w_aN, hs.1, hs.2.1]
  refine ⟨rfl, ?_⟩
  rw [w_ite, if_neg (by rw [lt_5 (by omega) (by omega)]; omega), w_bd, rdA (j := 0) hs (by omega) (by omega) rfl, Nat.add_zero, hk, w_ite, if_neg (by decide)]
  rw [w_ite, if_neg (by decide), w_ite, if_neg (by decide)]
  rw [w_ite, if_pos (by rfl)]
  rw [w_bd, w_rc]
  refine ⟨by rw [hC.2.1.1.1], ?_⟩
  rw [w_bd]
  refine w_mono (lemE (n := fun h' => X5_load h') hli (op_load hC hT) (kz_X5_load _) Q kk) fun r b hb => ?_
  obtain ⟨hsb, hw⟩ := hb
  exact hw
theorem trn_3 {G : Nat → Nat} {scr len : Nat} {sc : Nat → Int32} {a : Hp} (hli : Li G scr len sc a) {p f : Nat} (hp : p + 5 ≤ len) (hl : len ≤ 120) (hk : sc p &&& 63 = nv 3) (Q : Int32 → Hp → Prop) (kk : ∀ c, Sm2 G scr len sc a c → Wp (L_law_28 f (some scr) (some (G 0)) (some (G 10)) (some (G 20)) (some (G 21)) (nv p + 5)) c Q) : Wp (L_law_28 (f + 1) (some scr) (some (G 0)) (some (G 10)) (some (G 20)) (some (G 21)) (nv p)) a Q := by
  have hli' := hli
  obtain ⟨⟨B, S, hC, hT⟩, hs, hz⟩ := hli'
  rw [L_law_28, w_bd, w_aN, hs.1, hs.2.1]
  refine ⟨rfl, ?_⟩
  rw [w_ite, if_neg (by rw [lt_5 (by omega) (by omega)]; omega), w_bd, rdA (j := 0) hs (by omega) (by omega) rfl, Nat.add_zero, hk, w_ite, if_neg (by decide)]
  rw [w_ite, if_neg (by decide), w_ite, if_neg (by decide), w_ite, if_neg (by decide)]
  rw [w_ite, if_pos (by rfl)]
  rw [w_bd, w_rc]
  refine ⟨by rw [hC.2.1.1.1], ?_⟩
  rw [w_bd]
  refine w_mono (lemE (n := fun h' => X5_play h') hli (op_play hC hT) (kz_X5_play _) Q kk) fun r b hb => ?_
  obtain ⟨hsb, hw⟩ := hb
  exact hw
theorem trn_4 {G : Nat → Nat} {scr len : Nat} {sc : Nat → Int32} {a : Hp} (hli : Li G scr len sc a) {p f : Nat} (hp : p + 5 ≤ len) (hl : len ≤ 120) (hk : sc p &&& 63 = nv 4) (Q : Int32 → Hp → Prop) (kk : ∀ c, Sm2 G scr len sc a c → Wp (L_law_28 f (some scr) (some (G 0)) (some (G 10)) (some (G 20)) (some (G 21)) (nv p + 5)) c Q) : Wp (L_law_28 (f + 1) (some scr) (some (G 0)) (some (G 10)) (some (G 20)) (some (G 21)) (nv p)) a Q := by
  have hli' := hli
  obtain ⟨⟨B, S, hC, hT⟩, hs, hz⟩ := hli'
  rw [L_law_28, w_bd, w_aN, hs.1, hs.2.1]
  refine ⟨rfl, ?_⟩
  rw [w_ite, if_neg (by rw [lt_5 (by omega) (by omega)]; omega), w_bd, rdA (j := 0) hs (by omega) (by omega) rfl, Nat.add_zero, hk, w_ite, if_neg (by decide)]
  rw [w_ite, if_neg (by decide), w_ite, if_neg (by decide), w_ite, if_neg (by decide), w_ite, if_neg (by decide)]
  rw [w_ite, if_pos (by rfl)]
  rw [w_bd, w_rc]
  refine ⟨by rw [hC.2.1.1.1], ?_⟩
  rw [w_bd]
  refine w_mono (lemE (n := fun h' => X5_errorCode h') hli (op_errorCode hC hT) (kz_X5_errorCode _) Q kk) fun r b hb => ?_
  obtain ⟨hsb, hw⟩ := hb
  exact hw
theorem trn_5 {G : Nat → Nat} {scr len : Nat} {sc : Nat → Int32} {a : Hp} (hli : Li G scr len sc a) {p f : Nat} (hp : p + 5 ≤ len) (hl : len ≤ 120) (hk : sc p &&& 63 = nv 5) (Q : Int32 → Hp → Prop) (kk : ∀ c, Sm2 G scr len sc a c → Wp (L_law_28 f (some scr) (some (G 0)) (some (G 10)) (some (G 20)) (some (G 21)) (nv p + 5)) c Q) : Wp (L_law_28 (f + 1) (some scr) (some (G 0)) (some (G 10)) (some (G 20)) (some (G 21)) (nv p)) a Q := by
  have hli' := hli
  obtain ⟨⟨B, S, hC, hT⟩, hs, hz⟩ := hli'
  rw [L_law_28, w_bd, w_aN, hs.1, hs.2.1]
  refine ⟨rfl, ?_⟩
  rw [w_ite, if_neg (by rw [lt_5 (by omega) (by omega)]; omega), w_bd, rdA (j := 0) hs (by omega) (by omega) rfl, Nat.add_zero, hk, w_ite, if_neg (by decide)]
  rw [w_ite, if_neg (by decide), w_ite, if_neg (by decide), w_ite, if_neg (by decide), w_ite, if_neg (by decide), w_ite, if_neg (by decide)]
  rw [w_ite, if_pos (by rfl)]
  rw [w_bd, w_rc]
  refine ⟨by rw [hC.2.1.1.1], ?_⟩
  rw [w_bd]
  refine w_mono (lemE (n := fun h' => X5_errorPosition h') hli (op_errorPosition hC hT) (kz_X5_errorPosition _) Q kk) fun r b hb => ?_
  obtain ⟨hsb, hw⟩ := hb
  exact hw
theorem trn_6 {G : Nat → Nat} {scr len : Nat} {sc : Nat → Int32} {a : Hp} (hli : Li G scr len sc a) {p f : Nat} (hp : p + 5 ≤ len) (hl : len ≤ 120) (hk : sc p &&& 63 = nv 6) (Q : Int32 → Hp → Prop) (kk : ∀ c, Sm2 G scr len sc a c → Wp (L_law_28 f (some scr) (some (G 0)) (some (G 10)) (some (G 20)) (some (G 21)) (nv p + 5)) c Q) : Wp (L_law_28 (f + 1) (some scr) (some (G 0)) (some (G 10)) (some (G 20)) (some (G 21)) (nv p)) a Q := by
  have hli' := hli
  obtain ⟨⟨B, S, hC, hT⟩, hs, hz⟩ := hli'
  rw [L_law_28, w_bd, w_aN, hs.1, hs.2.1]
  refine ⟨rfl, ?_⟩
  rw [w_ite, if_neg (by rw [lt_5 (by omega) (by omega)]; omega), w_bd, rdA (j := 0) hs (by omega) (by omega) rfl, Nat.add_zero, hk, w_ite, if_neg (by decide)]
  rw [w_ite, if_neg (by decide), w_ite, if_neg (by decide), w_ite, if_neg (by decide), w_ite, if_neg (by decide), w_ite, if_neg (by decide), w_ite, if_neg (by decide)]
  rw [w_ite, if_pos (by rfl)]
  rw [w_bd, rdA (j := 1) hs (by omega) (by omega) (nv_add p 1)]
  rw [w_bd]
  refine w_mono (lemL (n := fun h' => X5_count h' (sc (p + 1))) hli (op_count hC hT (sc (p + 1))) (kz_X5_count _ _) Q kk) fun r b hb => ?_
  obtain ⟨hsb, hw⟩ := hb
  rw [w_bd, rdA (j := 1) hsb (by omega) (by omega) (nv_add p 1)]
  exact hw
theorem trn_7 {G : Nat → Nat} {scr len : Nat} {sc : Nat → Int32} {a : Hp} (hli : Li G scr len sc a) {p f : Nat} (hp : p + 5 ≤ len) (hl : len ≤ 120) (hk : sc p &&& 63 = nv 7) (Q : Int32 → Hp → Prop) (kk : ∀ c, Sm2 G scr len sc a c → Wp (L_law_28 f (some scr) (some (G 0)) (some (G 10)) (some (G 20)) (some (G 21)) (nv p + 5)) c Q) : Wp (L_law_28 (f + 1) (some scr) (some (G 0)) (some (G 10)) (some (G 20)) (some (G 21)) (nv p)) a Q := by
  have hli' := hli
  obtain ⟨⟨B, S, hC, hT⟩, hs, hz⟩ := hli'
  rw [L_law_28, w_bd, w_aN, hs.1, hs.2.1]
  refine ⟨rfl, ?_⟩
  rw [w_ite, if_neg (by rw [lt_5 (by omega) (by omega)]; omega), w_bd, rdA (j := 0) hs (by omega) (by omega) rfl, Nat.add_zero, hk, w_ite, if_neg (by decide)]
  rw [w_ite, if_neg (by decide), w_ite, if_neg (by decide), w_ite, if_neg (by decide), w_ite, if_neg (by decide), w_ite, if_neg (by decide), w_ite, if_neg (by decide), w_ite, if_neg (by decide)]
  rw [w_ite, if_pos (by rfl)]
  rw [w_bd, rdA (j := 1) hs (by omega) (by omega) (nv_add p 1)]
  rw [w_bd]
  refine w_mono (lemL (n := fun h' => X5_tally h' (sc (p + 1))) hli (op_tally hC hT (sc (p + 1))) (kz_X5_tally _ _) Q kk) fun r b hb => ?_
  obtain ⟨hsb, hw⟩ := hb
  rw [w_bd, rdA (j := 1) hsb (by omega) (by omega) (nv_add p 1)]
  exact hw
theorem trn_8 {G : Nat → Nat} {scr len : Nat} {sc : Nat → Int32} {a : Hp} (hli : Li G scr len sc a) {p f : Nat} (hp : p + 5 ≤ len) (hl : len ≤ 120) (hk : sc p &&& 63 = nv 8) (Q : Int32 → Hp → Prop) (kk : ∀ c, Sm2 G scr len sc a c → Wp (L_law_28 f (some scr) (some (G 0)) (some (G 10)) (some (G 20)) (some (G 21)) (nv p + 5)) c Q) : Wp (L_law_28 (f + 1) (some scr) (some (G 0)) (some (G 10)) (some (G 20)) (some (G 21)) (nv p)) a Q := by
  have hli' := hli
  obtain ⟨⟨B, S, hC, hT⟩, hs, hz⟩ := hli'
  rw [L_law_28, w_bd, w_aN, hs.1, hs.2.1]
  refine ⟨rfl, ?_⟩
  rw [w_ite, if_neg (by rw [lt_5 (by omega) (by omega)]; omega), w_bd, rdA (j := 0) hs (by omega) (by omega) rfl, Nat.add_zero, hk, w_ite, if_neg (by decide)]
  rw [w_ite, if_neg (by decide), w_ite, if_neg (by decide), w_ite, if_neg (by decide), w_ite, if_neg (by decide), w_ite, if_neg (by decide), w_ite, if_neg (by decide), w_ite, if_neg (by decide), w_ite, if_neg (by decide)]
  rw [w_ite, if_pos (by rfl)]
  rw [w_bd, rdA (j := 1) hs (by omega) (by omega) (nv_add p 1)]
  rw [w_bd, rdA (j := 2) hs (by omega) (by omega) (nv_add p 2)]
  rw [w_bd]
  refine w_mono (lemL (n := fun h' => X5_trader h' (sc (p + 1)) (sc (p + 2))) hli (op_trader hC hT (sc (p + 1)) (sc (p + 2))) (kz_X5_trader _ _ _) Q kk) fun r b hb => ?_
  obtain ⟨hsb, hw⟩ := hb
  rw [w_bd, rdA (j := 1) hsb (by omega) (by omega) (nv_add p 1)]
  rw [w_bd, rdA (j := 2) hsb (by omega) (by omega) (nv_add p 2)]
  exact hw
theorem trn_9 {G : Nat → Nat} {scr len : Nat} {sc : Nat → Int32} {a : Hp} (hli : Li G scr len sc a) {p f : Nat} (hp : p + 5 ≤ len) (hl : len ≤ 120) (hk : sc p &&& 63 = nv 9) (Q : Int32 → Hp → Prop) (kk : ∀ c, Sm2 G scr len sc a c → Wp (L_law_28 f (some scr) (some (G 0)) (some (G 10)) (some (G 20)) (some (G 21)) (nv p + 5)) c Q) : Wp (L_law_28 (f + 1) (some scr) (some (G 0)) (some (G 10)) (some (G 20)) (some (G 21)) (nv p)) a Q := by
  have hli' := hli
  obtain ⟨⟨B, S, hC, hT⟩, hs, hz⟩ := hli'
  rw [L_law_28, w_bd, w_aN, hs.1, hs.2.1]
  refine ⟨rfl, ?_⟩
  rw [w_ite, if_neg (by rw [lt_5 (by omega) (by omega)]; omega), w_bd, rdA (j := 0) hs (by omega) (by omega) rfl, Nat.add_zero, hk, w_ite, if_neg (by decide)]
  rw [w_ite, if_neg (by decide), w_ite, if_neg (by decide), w_ite, if_neg (by decide), w_ite, if_neg (by decide), w_ite, if_neg (by decide), w_ite, if_neg (by decide), w_ite, if_neg (by decide), w_ite, if_neg (by decide), w_ite, if_neg (by decide)]
  rw [w_ite, if_pos (by rfl)]
  rw [w_bd, rdA (j := 1) hs (by omega) (by omega) (nv_add p 1)]
  rw [w_bd, rdA (j := 2) hs (by omega) (by omega) (nv_add p 2)]
  rw [w_bd]
  refine w_mono (lemL (n := fun h' => X5_heap h' (sc (p + 1)) (sc (p + 2))) hli (op_heap hC hT (sc (p + 1)) (sc (p + 2))) (kz_X5_heap _ _ _) Q kk) fun r b hb => ?_
  obtain ⟨hsb, hw⟩ := hb
  rw [w_bd, rdA (j := 1) hsb (by omega) (by omega) (nv_add p 1)]
  rw [w_bd, rdA (j := 2) hsb (by omega) (by omega) (nv_add p 2)]
  exact hw
theorem trn_10 {G : Nat → Nat} {scr len : Nat} {sc : Nat → Int32} {a : Hp} (hli : Li G scr len sc a) {p f : Nat} (hp : p + 5 ≤ len) (hl : len ≤ 120) (hk : sc p &&& 63 = nv 10) (Q : Int32 → Hp → Prop) (kk : ∀ c, Sm2 G scr len sc a c → Wp (L_law_28 f (some scr) (some (G 0)) (some (G 10)) (some (G 20)) (some (G 21)) (nv p + 5)) c Q) : Wp (L_law_28 (f + 1) (some scr) (some (G 0)) (some (G 10)) (some (G 20)) (some (G 21)) (nv p)) a Q := by
  have hli' := hli
  obtain ⟨⟨B, S, hC, hT⟩, hs, hz⟩ := hli'
  rw [L_law_28, w_bd, w_aN, hs.1, hs.2.1]
  refine ⟨rfl, ?_⟩
  rw [w_ite, if_neg (by rw [lt_5 (by omega) (by omega)]; omega), w_bd, rdA (j := 0) hs (by omega) (by omega) rfl, Nat.add_zero, hk, w_ite, if_neg (by decide)]
  rw [w_ite, if_neg (by decide), w_ite, if_neg (by decide), w_ite, if_neg (by decide), w_ite, if_neg (by decide), w_ite, if_neg (by decide), w_ite, if_neg (by decide), w_ite, if_neg (by decide), w_ite, if_neg (by decide), w_ite, if_neg (by decide), w_ite, if_neg (by decide)]
  rw [w_ite, if_pos (by rfl)]
  rw [w_bd, rdA (j := 1) hs (by omega) (by omega) (nv_add p 1)]
  rw [w_bd, rdA (j := 2) hs (by omega) (by omega) (nv_add p 2)]
  rw [w_bd, rdA (j := 3) hs (by omega) (by omega) (nv_add p 3)]
  rw [w_bd]
  refine w_mono (lemL (n := fun h' => X5_row h' (sc (p + 1)) (sc (p + 2)) (sc (p + 3))) hli (op_row hC hT (sc (p + 1)) (sc (p + 2)) (sc (p + 3))) (kz_X5_row _ _ _ _) Q kk) fun r b hb => ?_
  obtain ⟨hsb, hw⟩ := hb
  rw [w_bd, rdA (j := 1) hsb (by omega) (by omega) (nv_add p 1)]
  rw [w_bd, rdA (j := 2) hsb (by omega) (by omega) (nv_add p 2)]
  rw [w_bd, rdA (j := 3) hsb (by omega) (by omega) (nv_add p 3)]
  exact hw
theorem trn_11 {G : Nat → Nat} {scr len : Nat} {sc : Nat → Int32} {a : Hp} (hli : Li G scr len sc a) {p f : Nat} (hp : p + 5 ≤ len) (hl : len ≤ 120) (hk : sc p &&& 63 = nv 11) (Q : Int32 → Hp → Prop) (kk : ∀ c, Sm2 G scr len sc a c → Wp (L_law_28 f (some scr) (some (G 0)) (some (G 10)) (some (G 20)) (some (G 21)) (nv p + 5)) c Q) : Wp (L_law_28 (f + 1) (some scr) (some (G 0)) (some (G 10)) (some (G 20)) (some (G 21)) (nv p)) a Q := by
  have hli' := hli
  obtain ⟨⟨B, S, hC, hT⟩, hs, hz⟩ := hli'
  rw [L_law_28, w_bd, w_aN, hs.1, hs.2.1]
  refine ⟨rfl, ?_⟩
  rw [w_ite, if_neg (by rw [lt_5 (by omega) (by omega)]; omega), w_bd, rdA (j := 0) hs (by omega) (by omega) rfl, Nat.add_zero, hk, w_ite, if_neg (by decide)]
  rw [w_ite, if_neg (by decide), w_ite, if_neg (by decide), w_ite, if_neg (by decide), w_ite, if_neg (by decide), w_ite, if_neg (by decide), w_ite, if_neg (by decide), w_ite, if_neg (by decide), w_ite, if_neg (by decide), w_ite, if_neg (by decide), w_ite, if_neg (by decide), w_ite, if_neg (by decide)]
  rw [w_ite, if_pos (by rfl)]
  rw [w_bd, rdA (j := 1) hs (by omega) (by omega) (nv_add p 1)]
  rw [w_bd, rdA (j := 2) hs (by omega) (by omega) (nv_add p 2)]
  rw [w_bd]
  refine w_mono (lemL (n := fun h' => X5_claim h' (sc (p + 1)) (sc (p + 2))) hli (op_claim hC hT (sc (p + 1)) (sc (p + 2))) (kz_X5_claim _ _ _) Q kk) fun r b hb => ?_
  obtain ⟨hsb, hw⟩ := hb
  rw [w_bd, rdA (j := 1) hsb (by omega) (by omega) (nv_add p 1)]
  rw [w_bd, rdA (j := 2) hsb (by omega) (by omega) (nv_add p 2)]
  exact hw
theorem trn_12 {G : Nat → Nat} {scr len : Nat} {sc : Nat → Int32} {a : Hp} (hli : Li G scr len sc a) {p f : Nat} (hp : p + 5 ≤ len) (hl : len ≤ 120) (hk : sc p &&& 63 = nv 12) (Q : Int32 → Hp → Prop) (kk : ∀ c, Sm2 G scr len sc a c → Wp (L_law_28 f (some scr) (some (G 0)) (some (G 10)) (some (G 20)) (some (G 21)) (nv p + 5)) c Q) : Wp (L_law_28 (f + 1) (some scr) (some (G 0)) (some (G 10)) (some (G 20)) (some (G 21)) (nv p)) a Q := by
  have hli' := hli
  obtain ⟨⟨B, S, hC, hT⟩, hs, hz⟩ := hli'
  rw [L_law_28, w_bd, w_aN, hs.1, hs.2.1]
  refine ⟨rfl, ?_⟩
  rw [w_ite, if_neg (by rw [lt_5 (by omega) (by omega)]; omega), w_bd, rdA (j := 0) hs (by omega) (by omega) rfl, Nat.add_zero, hk, w_ite, if_neg (by decide)]
  rw [w_ite, if_neg (by decide), w_ite, if_neg (by decide), w_ite, if_neg (by decide), w_ite, if_neg (by decide), w_ite, if_neg (by decide), w_ite, if_neg (by decide), w_ite, if_neg (by decide), w_ite, if_neg (by decide), w_ite, if_neg (by decide), w_ite, if_neg (by decide), w_ite, if_neg (by decide), w_ite, if_neg (by decide)]
  rw [w_ite, if_pos (by rfl)]
  rw [w_bd, rdA (j := 1) hs (by omega) (by omega) (nv_add p 1)]
  rw [w_bd, rdA (j := 2) hs (by omega) (by omega) (nv_add p 2)]
  rw [w_bd, rdA (j := 3) hs (by omega) (by omega) (nv_add p 3)]
  rw [w_bd]
  refine w_mono (lemL (n := fun h' => X5_paired h' (sc (p + 1)) (sc (p + 2)) (sc (p + 3))) hli (op_paired hC hT (sc (p + 1)) (sc (p + 2)) (sc (p + 3))) (kz_X5_paired _ _ _ _) Q kk) fun r b hb => ?_
  obtain ⟨hsb, hw⟩ := hb
  rw [w_bd, rdA (j := 1) hsb (by omega) (by omega) (nv_add p 1)]
  rw [w_bd, rdA (j := 2) hsb (by omega) (by omega) (nv_add p 2)]
  rw [w_bd, rdA (j := 3) hsb (by omega) (by omega) (nv_add p 3)]
  exact hw
theorem trn_13 {G : Nat → Nat} {scr len : Nat} {sc : Nat → Int32} {a : Hp} (hli : Li G scr len sc a) {p f : Nat} (hp : p + 5 ≤ len) (hl : len ≤ 120) (hk : sc p &&& 63 = nv 13) (Q : Int32 → Hp → Prop) (kk : ∀ c, Sm2 G scr len sc a c → Wp (L_law_28 f (some scr) (some (G 0)) (some (G 10)) (some (G 20)) (some (G 21)) (nv p + 5)) c Q) : Wp (L_law_28 (f + 1) (some scr) (some (G 0)) (some (G 10)) (some (G 20)) (some (G 21)) (nv p)) a Q := by
  have hli' := hli
  obtain ⟨⟨B, S, hC, hT⟩, hs, hz⟩ := hli'
  rw [L_law_28, w_bd, w_aN, hs.1, hs.2.1]
  refine ⟨rfl, ?_⟩
  rw [w_ite, if_neg (by rw [lt_5 (by omega) (by omega)]; omega), w_bd, rdA (j := 0) hs (by omega) (by omega) rfl, Nat.add_zero, hk, w_ite, if_neg (by decide)]
  rw [w_ite, if_neg (by decide), w_ite, if_neg (by decide), w_ite, if_neg (by decide), w_ite, if_neg (by decide), w_ite, if_neg (by decide), w_ite, if_neg (by decide), w_ite, if_neg (by decide), w_ite, if_neg (by decide), w_ite, if_neg (by decide), w_ite, if_neg (by decide), w_ite, if_neg (by decide), w_ite, if_neg (by decide), w_ite, if_neg (by decide)]
  rw [w_ite, if_pos (by rfl)]
  rw [w_bd, rdA (j := 1) hs (by omega) (by omega) (nv_add p 1)]
  rw [w_bd, w_rc]
  refine ⟨by rw [hC.2.1.1.1], ?_⟩
  rw [w_bd]
  refine w_mono (lemE (n := fun h' => X5_ranked h' (sc (p + 1))) hli (op_ranked hC hT (sc (p + 1))) (kz_X5_ranked _ _) Q kk) fun r b hb => ?_
  obtain ⟨hsb, hw⟩ := hb
  rw [w_bd, rdA (j := 1) hsb (by omega) (by omega) (nv_add p 1)]
  exact hw
theorem trn_14 {G : Nat → Nat} {scr len : Nat} {sc : Nat → Int32} {a : Hp} (hli : Li G scr len sc a) {p f : Nat} (hp : p + 5 ≤ len) (hl : len ≤ 120) (hk : sc p &&& 63 = nv 14) (Q : Int32 → Hp → Prop) (kk : ∀ c, Sm2 G scr len sc a c → Wp (L_law_28 f (some scr) (some (G 0)) (some (G 10)) (some (G 20)) (some (G 21)) (nv p + 5)) c Q) : Wp (L_law_28 (f + 1) (some scr) (some (G 0)) (some (G 10)) (some (G 20)) (some (G 21)) (nv p)) a Q := by
  have hli' := hli
  obtain ⟨⟨B, S, hC, hT⟩, hs, hz⟩ := hli'
  rw [L_law_28, w_bd, w_aN, hs.1, hs.2.1]
  refine ⟨rfl, ?_⟩
  rw [w_ite, if_neg (by rw [lt_5 (by omega) (by omega)]; omega), w_bd, rdA (j := 0) hs (by omega) (by omega) rfl, Nat.add_zero, hk, w_ite, if_neg (by decide)]
  rw [w_ite, if_neg (by decide), w_ite, if_neg (by decide), w_ite, if_neg (by decide), w_ite, if_neg (by decide), w_ite, if_neg (by decide), w_ite, if_neg (by decide), w_ite, if_neg (by decide), w_ite, if_neg (by decide), w_ite, if_neg (by decide), w_ite, if_neg (by decide), w_ite, if_neg (by decide), w_ite, if_neg (by decide), w_ite, if_neg (by decide), w_ite, if_neg (by decide)]
  rw [w_ite, if_pos (by rfl)]
  rw [w_bd, rdA (j := 1) hs (by omega) (by omega) (nv_add p 1)]
  rw [w_bd, rdA (j := 2) hs (by omega) (by omega) (nv_add p 2)]
  rw [w_bd]
  refine w_mono (lemL (n := fun h' => X5_byEye h' (sc (p + 1)) (sc (p + 2))) hli (op_byEye hC hT (sc (p + 1)) (sc (p + 2))) (kz_X5_byEye _ _ _) Q kk) fun r b hb => ?_
  obtain ⟨hsb, hw⟩ := hb
  rw [w_bd, rdA (j := 1) hsb (by omega) (by omega) (nv_add p 1)]
  rw [w_bd, rdA (j := 2) hsb (by omega) (by omega) (nv_add p 2)]
  exact hw
theorem trn_15 {G : Nat → Nat} {scr len : Nat} {sc : Nat → Int32} {a : Hp} (hli : Li G scr len sc a) {p f : Nat} (hp : p + 5 ≤ len) (hl : len ≤ 120) (hk : sc p &&& 63 = nv 15) (Q : Int32 → Hp → Prop) (kk : ∀ c, Sm2 G scr len sc a c → Wp (L_law_28 f (some scr) (some (G 0)) (some (G 10)) (some (G 20)) (some (G 21)) (nv p + 5)) c Q) : Wp (L_law_28 (f + 1) (some scr) (some (G 0)) (some (G 10)) (some (G 20)) (some (G 21)) (nv p)) a Q := by
  have hli' := hli
  obtain ⟨⟨B, S, hC, hT⟩, hs, hz⟩ := hli'
  rw [L_law_28, w_bd, w_aN, hs.1, hs.2.1]
  refine ⟨rfl, ?_⟩
  rw [w_ite, if_neg (by rw [lt_5 (by omega) (by omega)]; omega), w_bd, rdA (j := 0) hs (by omega) (by omega) rfl, Nat.add_zero, hk, w_ite, if_neg (by decide)]
  rw [w_ite, if_neg (by decide), w_ite, if_neg (by decide), w_ite, if_neg (by decide), w_ite, if_neg (by decide), w_ite, if_neg (by decide), w_ite, if_neg (by decide), w_ite, if_neg (by decide), w_ite, if_neg (by decide), w_ite, if_neg (by decide), w_ite, if_neg (by decide), w_ite, if_neg (by decide), w_ite, if_neg (by decide), w_ite, if_neg (by decide), w_ite, if_neg (by decide), w_ite, if_neg (by decide)]
  rw [w_ite, if_pos (by rfl)]
  rw [w_bd, w_rc]
  refine ⟨by rw [hC.2.1.1.1], ?_⟩
  rw [w_bd]
  refine w_mono (lemE (n := fun h' => X5_errors h') hli (op_errors hC hT) (kz_X5_errors _) Q kk) fun r b hb => ?_
  obtain ⟨hsb, hw⟩ := hb
  exact hw
theorem trn_16 {G : Nat → Nat} {scr len : Nat} {sc : Nat → Int32} {a : Hp} (hli : Li G scr len sc a) {p f : Nat} (hp : p + 5 ≤ len) (hl : len ≤ 120) (hk : sc p &&& 63 = nv 16) (Q : Int32 → Hp → Prop) (kk : ∀ c, Sm2 G scr len sc a c → Wp (L_law_28 f (some scr) (some (G 0)) (some (G 10)) (some (G 20)) (some (G 21)) (nv p + 5)) c Q) : Wp (L_law_28 (f + 1) (some scr) (some (G 0)) (some (G 10)) (some (G 20)) (some (G 21)) (nv p)) a Q := by
  have hli' := hli
  obtain ⟨⟨B, S, hC, hT⟩, hs, hz⟩ := hli'
  rw [L_law_28, w_bd, w_aN, hs.1, hs.2.1]
  refine ⟨rfl, ?_⟩
  rw [w_ite, if_neg (by rw [lt_5 (by omega) (by omega)]; omega), w_bd, rdA (j := 0) hs (by omega) (by omega) rfl, Nat.add_zero, hk, w_ite, if_neg (by decide)]
  rw [w_ite, if_neg (by decide), w_ite, if_neg (by decide), w_ite, if_neg (by decide), w_ite, if_neg (by decide), w_ite, if_neg (by decide), w_ite, if_neg (by decide), w_ite, if_neg (by decide), w_ite, if_neg (by decide), w_ite, if_neg (by decide), w_ite, if_neg (by decide), w_ite, if_neg (by decide), w_ite, if_neg (by decide), w_ite, if_neg (by decide), w_ite, if_neg (by decide), w_ite, if_neg (by decide), w_ite, if_neg (by decide)]
  rw [w_ite, if_pos (by rfl)]
  rw [w_bd, rdA (j := 1) hs (by omega) (by omega) (nv_add p 1)]
  rw [w_bd, rdA (j := 2) hs (by omega) (by omega) (nv_add p 2)]
  rw [w_bd]
  refine w_mono (lemL (n := fun h' => X5_fact h' (sc (p + 1)) (sc (p + 2))) hli (op_fact hC hT (sc (p + 1)) (sc (p + 2))) (kz_X5_fact _ _ _) Q kk) fun r b hb => ?_
  obtain ⟨hsb, hw⟩ := hb
  rw [w_bd, rdA (j := 1) hsb (by omega) (by omega) (nv_add p 1)]
  rw [w_bd, rdA (j := 2) hsb (by omega) (by omega) (nv_add p 2)]
  exact hw
theorem trn_17 {G : Nat → Nat} {scr len : Nat} {sc : Nat → Int32} {a : Hp} (hli : Li G scr len sc a) {p f : Nat} (hp : p + 5 ≤ len) (hl : len ≤ 120) (hk : sc p &&& 63 = nv 17) (Q : Int32 → Hp → Prop) (kk : ∀ c, Sm2 G scr len sc a c → Wp (L_law_28 f (some scr) (some (G 0)) (some (G 10)) (some (G 20)) (some (G 21)) (nv p + 5)) c Q) : Wp (L_law_28 (f + 1) (some scr) (some (G 0)) (some (G 10)) (some (G 20)) (some (G 21)) (nv p)) a Q := by
  have hli' := hli
  obtain ⟨⟨B, S, hC, hT⟩, hs, hz⟩ := hli'
  rw [L_law_28, w_bd, w_aN, hs.1, hs.2.1]
  refine ⟨rfl, ?_⟩
  rw [w_ite, if_neg (by rw [lt_5 (by omega) (by omega)]; omega), w_bd, rdA (j := 0) hs (by omega) (by omega) rfl, Nat.add_zero, hk, w_ite, if_neg (by decide)]
  rw [w_ite, if_neg (by decide), w_ite, if_neg (by decide), w_ite, if_neg (by decide), w_ite, if_neg (by decide), w_ite, if_neg (by decide), w_ite, if_neg (by decide), w_ite, if_neg (by decide), w_ite, if_neg (by decide), w_ite, if_neg (by decide), w_ite, if_neg (by decide), w_ite, if_neg (by decide), w_ite, if_neg (by decide), w_ite, if_neg (by decide), w_ite, if_neg (by decide), w_ite, if_neg (by decide), w_ite, if_neg (by decide), w_ite, if_neg (by decide)]
  rw [w_ite, if_pos (by rfl)]
  rw [w_bd, rdA (j := 1) hs (by omega) (by omega) (nv_add p 1)]
  rw [w_bd, rdA (j := 2) hs (by omega) (by omega) (nv_add p 2)]
  rw [w_bd]
  refine w_mono (lemL (n := fun h' => X5_known h' (sc (p + 1)) (sc (p + 2))) hli (op_known hC hT (sc (p + 1)) (sc (p + 2))) (kz_X5_known _ _ _) Q kk) fun r b hb => ?_
  obtain ⟨hsb, hw⟩ := hb
  rw [w_bd, rdA (j := 1) hsb (by omega) (by omega) (nv_add p 1)]
  rw [w_bd, rdA (j := 2) hsb (by omega) (by omega) (nv_add p 2)]
  exact hw
theorem trn_18 {G : Nat → Nat} {scr len : Nat} {sc : Nat → Int32} {a : Hp} (hli : Li G scr len sc a) {p f : Nat} (hp : p + 5 ≤ len) (hl : len ≤ 120) (hk : sc p &&& 63 = nv 18) (Q : Int32 → Hp → Prop) (kk : ∀ c, Sm2 G scr len sc a c → Wp (L_law_28 f (some scr) (some (G 0)) (some (G 10)) (some (G 20)) (some (G 21)) (nv p + 5)) c Q) : Wp (L_law_28 (f + 1) (some scr) (some (G 0)) (some (G 10)) (some (G 20)) (some (G 21)) (nv p)) a Q := by
  have hli' := hli
  obtain ⟨⟨B, S, hC, hT⟩, hs, hz⟩ := hli'
  rw [L_law_28, w_bd, w_aN, hs.1, hs.2.1]
  refine ⟨rfl, ?_⟩
  rw [w_ite, if_neg (by rw [lt_5 (by omega) (by omega)]; omega), w_bd, rdA (j := 0) hs (by omega) (by omega) rfl, Nat.add_zero, hk, w_ite, if_neg (by decide)]
  rw [w_ite, if_neg (by decide), w_ite, if_neg (by decide), w_ite, if_neg (by decide), w_ite, if_neg (by decide), w_ite, if_neg (by decide), w_ite, if_neg (by decide), w_ite, if_neg (by decide), w_ite, if_neg (by decide), w_ite, if_neg (by decide), w_ite, if_neg (by decide), w_ite, if_neg (by decide), w_ite, if_neg (by decide), w_ite, if_neg (by decide), w_ite, if_neg (by decide), w_ite, if_neg (by decide), w_ite, if_neg (by decide), w_ite, if_neg (by decide), w_ite, if_neg (by decide)]
  rw [w_ite, if_pos (by rfl)]
  rw [w_bd, rdA (j := 1) hs (by omega) (by omega) (nv_add p 1)]
  rw [w_bd, rdA (j := 2) hs (by omega) (by omega) (nv_add p 2)]
  rw [w_bd, rdA (j := 3) hs (by omega) (by omega) (nv_add p 3)]
  rw [w_bd]
  refine w_mono (lemL (n := fun h' => X5_why h' (sc (p + 1)) (sc (p + 2)) (sc (p + 3))) hli (op_why hC hT (sc (p + 1)) (sc (p + 2)) (sc (p + 3))) (kz_X5_why _ _ _ _) Q kk) fun r b hb => ?_
  obtain ⟨hsb, hw⟩ := hb
  rw [w_bd, rdA (j := 1) hsb (by omega) (by omega) (nv_add p 1)]
  rw [w_bd, rdA (j := 2) hsb (by omega) (by omega) (nv_add p 2)]
  rw [w_bd, rdA (j := 3) hsb (by omega) (by omega) (nv_add p 3)]
  exact hw
theorem trn_19 {G : Nat → Nat} {scr len : Nat} {sc : Nat → Int32} {a : Hp} (hli : Li G scr len sc a) {p f : Nat} (hp : p + 5 ≤ len) (hl : len ≤ 120) (hk : sc p &&& 63 = nv 19) (Q : Int32 → Hp → Prop) (kk : ∀ c, Sm2 G scr len sc a c → Wp (L_law_28 f (some scr) (some (G 0)) (some (G 10)) (some (G 20)) (some (G 21)) (nv p + 5)) c Q) : Wp (L_law_28 (f + 1) (some scr) (some (G 0)) (some (G 10)) (some (G 20)) (some (G 21)) (nv p)) a Q := by
  have hli' := hli
  obtain ⟨⟨B, S, hC, hT⟩, hs, hz⟩ := hli'
  rw [L_law_28, w_bd, w_aN, hs.1, hs.2.1]
  refine ⟨rfl, ?_⟩
  rw [w_ite, if_neg (by rw [lt_5 (by omega) (by omega)]; omega), w_bd, rdA (j := 0) hs (by omega) (by omega) rfl, Nat.add_zero, hk, w_ite, if_neg (by decide)]
  rw [w_ite, if_neg (by decide), w_ite, if_neg (by decide), w_ite, if_neg (by decide), w_ite, if_neg (by decide), w_ite, if_neg (by decide), w_ite, if_neg (by decide), w_ite, if_neg (by decide), w_ite, if_neg (by decide), w_ite, if_neg (by decide), w_ite, if_neg (by decide), w_ite, if_neg (by decide), w_ite, if_neg (by decide), w_ite, if_neg (by decide), w_ite, if_neg (by decide), w_ite, if_neg (by decide), w_ite, if_neg (by decide), w_ite, if_neg (by decide), w_ite, if_neg (by decide), w_ite, if_neg (by decide)]
  rw [w_ite, if_pos (by rfl)]
  rw [w_bd, w_rc]
  refine ⟨by rw [hC.2.1.1.1], ?_⟩
  rw [w_bd]
  refine w_mono (lemE (n := fun h' => X5_knownPairs h') hli (op_knownPairs hC hT) (kz_X5_knownPairs _) Q kk) fun r b hb => ?_
  obtain ⟨hsb, hw⟩ := hb
  exact hw
theorem trn_20 {G : Nat → Nat} {scr len : Nat} {sc : Nat → Int32} {a : Hp} (hli : Li G scr len sc a) {p f : Nat} (hp : p + 5 ≤ len) (hl : len ≤ 120) (hk : sc p &&& 63 = nv 20) (Q : Int32 → Hp → Prop) (kk : ∀ c, Sm2 G scr len sc a c → Wp (L_law_28 f (some scr) (some (G 0)) (some (G 10)) (some (G 20)) (some (G 21)) (nv p + 5)) c Q) : Wp (L_law_28 (f + 1) (some scr) (some (G 0)) (some (G 10)) (some (G 20)) (some (G 21)) (nv p)) a Q := by
  have hli' := hli
  obtain ⟨⟨B, S, hC, hT⟩, hs, hz⟩ := hli'
  rw [L_law_28, w_bd, w_aN, hs.1, hs.2.1]
  refine ⟨rfl, ?_⟩
  rw [w_ite, if_neg (by rw [lt_5 (by omega) (by omega)]; omega), w_bd, rdA (j := 0) hs (by omega) (by omega) rfl, Nat.add_zero, hk, w_ite, if_neg (by decide)]
  rw [w_ite, if_neg (by decide), w_ite, if_neg (by decide), w_ite, if_neg (by decide), w_ite, if_neg (by decide), w_ite, if_neg (by decide), w_ite, if_neg (by decide), w_ite, if_neg (by decide), w_ite, if_neg (by decide), w_ite, if_neg (by decide), w_ite, if_neg (by decide), w_ite, if_neg (by decide), w_ite, if_neg (by decide), w_ite, if_neg (by decide), w_ite, if_neg (by decide), w_ite, if_neg (by decide), w_ite, if_neg (by decide), w_ite, if_neg (by decide), w_ite, if_neg (by decide), w_ite, if_neg (by decide), w_ite, if_neg (by decide)]
  rw [w_ite, if_pos (by rfl)]
  rw [w_bd, rdA (j := 1) hs (by omega) (by omega) (nv_add p 1)]
  rw [w_bd]
  refine w_mono (lemB (n := fun h' => X5_seemsRight h' (sc (p + 1))) hli (op_seemsRight hC hT (sc (p + 1))) (kz_X5_seemsRight _ _) Q kk) fun r b hb => ?_
  obtain ⟨hsb, hw⟩ := hb
  rw [w_bd, rdA (j := 1) hsb (by omega) (by omega) (nv_add p 1)]
  exact hw
theorem trn_21 {G : Nat → Nat} {scr len : Nat} {sc : Nat → Int32} {a : Hp} (hli : Li G scr len sc a) {p f : Nat} (hp : p + 5 ≤ len) (hl : len ≤ 120) (hk : sc p &&& 63 = nv 21) (Q : Int32 → Hp → Prop) (kk : ∀ c, Sm2 G scr len sc a c → Wp (L_law_28 f (some scr) (some (G 0)) (some (G 10)) (some (G 20)) (some (G 21)) (nv p + 5)) c Q) : Wp (L_law_28 (f + 1) (some scr) (some (G 0)) (some (G 10)) (some (G 20)) (some (G 21)) (nv p)) a Q := by
  have hli' := hli
  obtain ⟨⟨B, S, hC, hT⟩, hs, hz⟩ := hli'
  rw [L_law_28, w_bd, w_aN, hs.1, hs.2.1]
  refine ⟨rfl, ?_⟩
  rw [w_ite, if_neg (by rw [lt_5 (by omega) (by omega)]; omega), w_bd, rdA (j := 0) hs (by omega) (by omega) rfl, Nat.add_zero, hk, w_ite, if_neg (by decide)]
  rw [w_ite, if_neg (by decide), w_ite, if_neg (by decide), w_ite, if_neg (by decide), w_ite, if_neg (by decide), w_ite, if_neg (by decide), w_ite, if_neg (by decide), w_ite, if_neg (by decide), w_ite, if_neg (by decide), w_ite, if_neg (by decide), w_ite, if_neg (by decide), w_ite, if_neg (by decide), w_ite, if_neg (by decide), w_ite, if_neg (by decide), w_ite, if_neg (by decide), w_ite, if_neg (by decide), w_ite, if_neg (by decide), w_ite, if_neg (by decide), w_ite, if_neg (by decide), w_ite, if_neg (by decide), w_ite, if_neg (by decide), w_ite, if_neg (by decide)]
  rw [w_ite, if_pos (by rfl)]
  rw [w_bd, rdA (j := 1) hs (by omega) (by omega) (nv_add p 1)]
  rw [w_bd, rdA (j := 2) hs (by omega) (by omega) (nv_add p 2)]
  rw [w_bd]
  refine w_mono (lemL (n := fun h' => X5_nextPair h' (sc (p + 1)) (sc (p + 2))) hli (op_nextPair hC hT (sc (p + 1)) (sc (p + 2))) (kz_X5_nextPair _ _ _) Q kk) fun r b hb => ?_
  obtain ⟨hsb, hw⟩ := hb
  rw [w_bd, rdA (j := 1) hsb (by omega) (by omega) (nv_add p 1)]
  rw [w_bd, rdA (j := 2) hsb (by omega) (by omega) (nv_add p 2)]
  exact hw
theorem trn_22 {G : Nat → Nat} {scr len : Nat} {sc : Nat → Int32} {a : Hp} (hli : Li G scr len sc a) {p f : Nat} (hp : p + 5 ≤ len) (hl : len ≤ 120) (hk : sc p &&& 63 = nv 22) (Q : Int32 → Hp → Prop) (kk : ∀ c, Sm2 G scr len sc a c → Wp (L_law_28 f (some scr) (some (G 0)) (some (G 10)) (some (G 20)) (some (G 21)) (nv p + 5)) c Q) : Wp (L_law_28 (f + 1) (some scr) (some (G 0)) (some (G 10)) (some (G 20)) (some (G 21)) (nv p)) a Q := by
  have hli' := hli
  obtain ⟨⟨B, S, hC, hT⟩, hs, hz⟩ := hli'
  rw [L_law_28, w_bd, w_aN, hs.1, hs.2.1]
  refine ⟨rfl, ?_⟩
  rw [w_ite, if_neg (by rw [lt_5 (by omega) (by omega)]; omega), w_bd, rdA (j := 0) hs (by omega) (by omega) rfl, Nat.add_zero, hk, w_ite, if_neg (by decide)]
  rw [w_ite, if_neg (by decide), w_ite, if_neg (by decide), w_ite, if_neg (by decide), w_ite, if_neg (by decide), w_ite, if_neg (by decide), w_ite, if_neg (by decide), w_ite, if_neg (by decide), w_ite, if_neg (by decide), w_ite, if_neg (by decide), w_ite, if_neg (by decide), w_ite, if_neg (by decide), w_ite, if_neg (by decide), w_ite, if_neg (by decide), w_ite, if_neg (by decide), w_ite, if_neg (by decide), w_ite, if_neg (by decide), w_ite, if_neg (by decide), w_ite, if_neg (by decide), w_ite, if_neg (by decide), w_ite, if_neg (by decide), w_ite, if_neg (by decide), w_ite, if_neg (by decide)]
  rw [w_ite, if_pos (by rfl)]
  rw [w_bd, rdA (j := 1) hs (by omega) (by omega) (nv_add p 1)]
  rw [w_bd]
  refine w_mono (lemL (n := fun h' => X5_group h' (sc (p + 1))) hli (op_group hC hT (sc (p + 1))) (kz_X5_group _ _) Q kk) fun r b hb => ?_
  obtain ⟨hsb, hw⟩ := hb
  rw [w_bd, rdA (j := 1) hsb (by omega) (by omega) (nv_add p 1)]
  exact hw
theorem trn_23 {G : Nat → Nat} {scr len : Nat} {sc : Nat → Int32} {a : Hp} (hli : Li G scr len sc a) {p f : Nat} (hp : p + 5 ≤ len) (hl : len ≤ 120) (hk : sc p &&& 63 = nv 23) (Q : Int32 → Hp → Prop) (kk : ∀ c, Sm2 G scr len sc a c → Wp (L_law_28 f (some scr) (some (G 0)) (some (G 10)) (some (G 20)) (some (G 21)) (nv p + 5)) c Q) : Wp (L_law_28 (f + 1) (some scr) (some (G 0)) (some (G 10)) (some (G 20)) (some (G 21)) (nv p)) a Q := by
  have hli' := hli
  obtain ⟨⟨B, S, hC, hT⟩, hs, hz⟩ := hli'
  rw [L_law_28, w_bd, w_aN, hs.1, hs.2.1]
  refine ⟨rfl, ?_⟩
  rw [w_ite, if_neg (by rw [lt_5 (by omega) (by omega)]; omega), w_bd, rdA (j := 0) hs (by omega) (by omega) rfl, Nat.add_zero, hk, w_ite, if_neg (by decide)]
  rw [w_ite, if_neg (by decide), w_ite, if_neg (by decide), w_ite, if_neg (by decide), w_ite, if_neg (by decide), w_ite, if_neg (by decide), w_ite, if_neg (by decide), w_ite, if_neg (by decide), w_ite, if_neg (by decide), w_ite, if_neg (by decide), w_ite, if_neg (by decide), w_ite, if_neg (by decide), w_ite, if_neg (by decide), w_ite, if_neg (by decide), w_ite, if_neg (by decide), w_ite, if_neg (by decide), w_ite, if_neg (by decide), w_ite, if_neg (by decide), w_ite, if_neg (by decide), w_ite, if_neg (by decide), w_ite, if_neg (by decide), w_ite, if_neg (by decide), w_ite, if_neg (by decide), w_ite, if_neg (by decide)]
  rw [w_ite, if_pos (by rfl)]
  rw [w_bd, w_rc]
  refine ⟨by rw [hC.2.1.1.1], ?_⟩
  rw [w_bd]
  refine w_mono (lemE (n := fun h' => X5_groups h') hli (op_groups hC hT) (kz_X5_groups _) Q kk) fun r b hb => ?_
  obtain ⟨hsb, hw⟩ := hb
  exact hw
theorem trn_24 {G : Nat → Nat} {scr len : Nat} {sc : Nat → Int32} {a : Hp} (hli : Li G scr len sc a) {p f : Nat} (hp : p + 5 ≤ len) (hl : len ≤ 120) (hk : sc p &&& 63 = nv 24) (Q : Int32 → Hp → Prop) (kk : ∀ c, Sm2 G scr len sc a c → Wp (L_law_28 f (some scr) (some (G 0)) (some (G 10)) (some (G 20)) (some (G 21)) (nv p + 5)) c Q) : Wp (L_law_28 (f + 1) (some scr) (some (G 0)) (some (G 10)) (some (G 20)) (some (G 21)) (nv p)) a Q := by
  have hli' := hli
  obtain ⟨⟨B, S, hC, hT⟩, hs, hz⟩ := hli'
  rw [L_law_28, w_bd, w_aN, hs.1, hs.2.1]
  refine ⟨rfl, ?_⟩
  rw [w_ite, if_neg (by rw [lt_5 (by omega) (by omega)]; omega), w_bd, rdA (j := 0) hs (by omega) (by omega) rfl, Nat.add_zero, hk, w_ite, if_neg (by decide)]
  rw [w_ite, if_neg (by decide), w_ite, if_neg (by decide), w_ite, if_neg (by decide), w_ite, if_neg (by decide), w_ite, if_neg (by decide), w_ite, if_neg (by decide), w_ite, if_neg (by decide), w_ite, if_neg (by decide), w_ite, if_neg (by decide), w_ite, if_neg (by decide), w_ite, if_neg (by decide), w_ite, if_neg (by decide), w_ite, if_neg (by decide), w_ite, if_neg (by decide), w_ite, if_neg (by decide), w_ite, if_neg (by decide), w_ite, if_neg (by decide), w_ite, if_neg (by decide), w_ite, if_neg (by decide), w_ite, if_neg (by decide), w_ite, if_neg (by decide), w_ite, if_neg (by decide), w_ite, if_neg (by decide), w_ite, if_neg (by decide)]
  rw [w_ite, if_pos (by rfl)]
  rw [w_bd, w_rc]
  refine ⟨by rw [hC.2.1.1.1], ?_⟩
  rw [w_bd]
  refine w_mono (lemE (n := fun h' => X5_longestRow h') hli (op_longestRow hC hT) (kz_X5_longestRow _) Q kk) fun r b hb => ?_
  obtain ⟨hsb, hw⟩ := hb
  exact hw
theorem trn_25 {G : Nat → Nat} {scr len : Nat} {sc : Nat → Int32} {a : Hp} (hli : Li G scr len sc a) {p f : Nat} (hp : p + 5 ≤ len) (hl : len ≤ 120) (hk : sc p &&& 63 = nv 25) (Q : Int32 → Hp → Prop) (kk : ∀ c, Sm2 G scr len sc a c → Wp (L_law_28 f (some scr) (some (G 0)) (some (G 10)) (some (G 20)) (some (G 21)) (nv p + 5)) c Q) : Wp (L_law_28 (f + 1) (some scr) (some (G 0)) (some (G 10)) (some (G 20)) (some (G 21)) (nv p)) a Q := by
  have hli' := hli
  obtain ⟨⟨B, S, hC, hT⟩, hs, hz⟩ := hli'
  rw [L_law_28, w_bd, w_aN, hs.1, hs.2.1]
  refine ⟨rfl, ?_⟩
  rw [w_ite, if_neg (by rw [lt_5 (by omega) (by omega)]; omega), w_bd, rdA (j := 0) hs (by omega) (by omega) rfl, Nat.add_zero, hk, w_ite, if_neg (by decide)]
  rw [w_ite, if_neg (by decide), w_ite, if_neg (by decide), w_ite, if_neg (by decide), w_ite, if_neg (by decide), w_ite, if_neg (by decide), w_ite, if_neg (by decide), w_ite, if_neg (by decide), w_ite, if_neg (by decide), w_ite, if_neg (by decide), w_ite, if_neg (by decide), w_ite, if_neg (by decide), w_ite, if_neg (by decide), w_ite, if_neg (by decide), w_ite, if_neg (by decide), w_ite, if_neg (by decide), w_ite, if_neg (by decide), w_ite, if_neg (by decide), w_ite, if_neg (by decide), w_ite, if_neg (by decide), w_ite, if_neg (by decide), w_ite, if_neg (by decide), w_ite, if_neg (by decide), w_ite, if_neg (by decide), w_ite, if_neg (by decide), w_ite, if_neg (by decide)]
  rw [w_ite, if_pos (by rfl)]
  rw [w_bd, w_rc]
  refine ⟨by rw [hC.2.1.1.1], ?_⟩
  rw [w_bd]
  refine w_mono (lemE (n := fun h' => X5_swappable h') hli (op_swappable hC hT) (kz_X5_swappable _) Q kk) fun r b hb => ?_
  obtain ⟨hsb, hw⟩ := hb
  exact hw
theorem trn_26 {G : Nat → Nat} {scr len : Nat} {sc : Nat → Int32} {a : Hp} (hli : Li G scr len sc a) {p f : Nat} (hp : p + 5 ≤ len) (hl : len ≤ 120) (hk : sc p &&& 63 = nv 26) (Q : Int32 → Hp → Prop) (kk : ∀ c, Sm2 G scr len sc a c → Wp (L_law_28 f (some scr) (some (G 0)) (some (G 10)) (some (G 20)) (some (G 21)) (nv p + 5)) c Q) : Wp (L_law_28 (f + 1) (some scr) (some (G 0)) (some (G 10)) (some (G 20)) (some (G 21)) (nv p)) a Q := by
  have hli' := hli
  obtain ⟨⟨B, S, hC, hT⟩, hs, hz⟩ := hli'
  rw [L_law_28, w_bd, w_aN, hs.1, hs.2.1]
  refine ⟨rfl, ?_⟩
  rw [w_ite, if_neg (by rw [lt_5 (by omega) (by omega)]; omega), w_bd, rdA (j := 0) hs (by omega) (by omega) rfl, Nat.add_zero, hk, w_ite, if_neg (by decide)]
  rw [w_ite, if_neg (by decide), w_ite, if_neg (by decide), w_ite, if_neg (by decide), w_ite, if_neg (by decide), w_ite, if_neg (by decide), w_ite, if_neg (by decide), w_ite, if_neg (by decide), w_ite, if_neg (by decide), w_ite, if_neg (by decide), w_ite, if_neg (by decide), w_ite, if_neg (by decide), w_ite, if_neg (by decide), w_ite, if_neg (by decide), w_ite, if_neg (by decide), w_ite, if_neg (by decide), w_ite, if_neg (by decide), w_ite, if_neg (by decide), w_ite, if_neg (by decide), w_ite, if_neg (by decide), w_ite, if_neg (by decide), w_ite, if_neg (by decide), w_ite, if_neg (by decide), w_ite, if_neg (by decide), w_ite, if_neg (by decide), w_ite, if_neg (by decide), w_ite, if_neg (by decide)]
  rw [w_ite, if_pos (by rfl)]
  rw [w_bd, rdA (j := 1) hs (by omega) (by omega) (nv_add p 1)]
  rw [w_bd]
  refine w_mono (lemL (n := fun h' => X5_unproved h' (sc (p + 1))) hli (op_unproved hC hT (sc (p + 1))) (kz_X5_unproved _ _) Q kk) fun r b hb => ?_
  obtain ⟨hsb, hw⟩ := hb
  rw [w_bd, rdA (j := 1) hsb (by omega) (by omega) (nv_add p 1)]
  exact hw
theorem trn_27 {G : Nat → Nat} {scr len : Nat} {sc : Nat → Int32} {a : Hp} (hli : Li G scr len sc a) {p f : Nat} (hp : p + 5 ≤ len) (hl : len ≤ 120) (hk : sc p &&& 63 = nv 27) (Q : Int32 → Hp → Prop) (kk : ∀ c, Sm2 G scr len sc a c → Wp (L_law_28 f (some scr) (some (G 0)) (some (G 10)) (some (G 20)) (some (G 21)) (nv p + 5)) c Q) : Wp (L_law_28 (f + 1) (some scr) (some (G 0)) (some (G 10)) (some (G 20)) (some (G 21)) (nv p)) a Q := by
  have hli' := hli
  obtain ⟨⟨B, S, hC, hT⟩, hs, hz⟩ := hli'
  rw [L_law_28, w_bd, w_aN, hs.1, hs.2.1]
  refine ⟨rfl, ?_⟩
  rw [w_ite, if_neg (by rw [lt_5 (by omega) (by omega)]; omega), w_bd, rdA (j := 0) hs (by omega) (by omega) rfl, Nat.add_zero, hk, w_ite, if_neg (by decide)]
  rw [w_ite, if_neg (by decide), w_ite, if_neg (by decide), w_ite, if_neg (by decide), w_ite, if_neg (by decide), w_ite, if_neg (by decide), w_ite, if_neg (by decide), w_ite, if_neg (by decide), w_ite, if_neg (by decide), w_ite, if_neg (by decide), w_ite, if_neg (by decide), w_ite, if_neg (by decide), w_ite, if_neg (by decide), w_ite, if_neg (by decide), w_ite, if_neg (by decide), w_ite, if_neg (by decide), w_ite, if_neg (by decide), w_ite, if_neg (by decide), w_ite, if_neg (by decide), w_ite, if_neg (by decide), w_ite, if_neg (by decide), w_ite, if_neg (by decide), w_ite, if_neg (by decide), w_ite, if_neg (by decide), w_ite, if_neg (by decide), w_ite, if_neg (by decide), w_ite, if_neg (by decide), w_ite, if_neg (by decide)]
  rw [w_ite, if_pos (by rfl)]
  rw [w_bd, rdA (j := 1) hs (by omega) (by omega) (nv_add p 1)]
  rw [w_bd]
  refine w_mono (lemL (n := fun h' => X5_turnsLeft h' (sc (p + 1))) hli (op_turnsLeft hC hT (sc (p + 1))) (kz_X5_turnsLeft _ _) Q kk) fun r b hb => ?_
  obtain ⟨hsb, hw⟩ := hb
  rw [w_bd, rdA (j := 1) hsb (by omega) (by omega) (nv_add p 1)]
  exact hw
theorem trn_28 {G : Nat → Nat} {scr len : Nat} {sc : Nat → Int32} {a : Hp} (hli : Li G scr len sc a) {p f : Nat} (hp : p + 5 ≤ len) (hl : len ≤ 120) (hk : sc p &&& 63 = nv 28) (Q : Int32 → Hp → Prop) (kk : ∀ c, Sm2 G scr len sc a c → Wp (L_law_28 f (some scr) (some (G 0)) (some (G 10)) (some (G 20)) (some (G 21)) (nv p + 5)) c Q) : Wp (L_law_28 (f + 1) (some scr) (some (G 0)) (some (G 10)) (some (G 20)) (some (G 21)) (nv p)) a Q := by
  have hli' := hli
  obtain ⟨⟨B, S, hC, hT⟩, hs, hz⟩ := hli'
  rw [L_law_28, w_bd, w_aN, hs.1, hs.2.1]
  refine ⟨rfl, ?_⟩
  rw [w_ite, if_neg (by rw [lt_5 (by omega) (by omega)]; omega), w_bd, rdA (j := 0) hs (by omega) (by omega) rfl, Nat.add_zero, hk, w_ite, if_neg (by decide)]
  rw [w_ite, if_neg (by decide), w_ite, if_neg (by decide), w_ite, if_neg (by decide), w_ite, if_neg (by decide), w_ite, if_neg (by decide), w_ite, if_neg (by decide), w_ite, if_neg (by decide), w_ite, if_neg (by decide), w_ite, if_neg (by decide), w_ite, if_neg (by decide), w_ite, if_neg (by decide), w_ite, if_neg (by decide), w_ite, if_neg (by decide), w_ite, if_neg (by decide), w_ite, if_neg (by decide), w_ite, if_neg (by decide), w_ite, if_neg (by decide), w_ite, if_neg (by decide), w_ite, if_neg (by decide), w_ite, if_neg (by decide), w_ite, if_neg (by decide), w_ite, if_neg (by decide), w_ite, if_neg (by decide), w_ite, if_neg (by decide), w_ite, if_neg (by decide), w_ite, if_neg (by decide), w_ite, if_neg (by decide), w_ite, if_neg (by decide)]
  rw [w_ite, if_pos (by rfl)]
  rw [w_bd, rdA (j := 1) hs (by omega) (by omega) (nv_add p 1)]
  rw [w_bd]
  refine w_mono (lemL (n := fun h' => X5_nearest h' (sc (p + 1))) hli (op_nearest hC hT (sc (p + 1))) (kz_X5_nearest _ _) Q kk) fun r b hb => ?_
  obtain ⟨hsb, hw⟩ := hb
  rw [w_bd, rdA (j := 1) hsb (by omega) (by omega) (nv_add p 1)]
  exact hw
theorem trn_29 {G : Nat → Nat} {scr len : Nat} {sc : Nat → Int32} {a : Hp} (hli : Li G scr len sc a) {p f : Nat} (hp : p + 5 ≤ len) (hl : len ≤ 120) (hk : sc p &&& 63 = nv 29) (Q : Int32 → Hp → Prop) (kk : ∀ c, Sm2 G scr len sc a c → Wp (L_law_28 f (some scr) (some (G 0)) (some (G 10)) (some (G 20)) (some (G 21)) (nv p + 5)) c Q) : Wp (L_law_28 (f + 1) (some scr) (some (G 0)) (some (G 10)) (some (G 20)) (some (G 21)) (nv p)) a Q := by
  have hli' := hli
  obtain ⟨⟨B, S, hC, hT⟩, hs, hz⟩ := hli'
  rw [L_law_28, w_bd, w_aN, hs.1, hs.2.1]
  refine ⟨rfl, ?_⟩
  rw [w_ite, if_neg (by rw [lt_5 (by omega) (by omega)]; omega), w_bd, rdA (j := 0) hs (by omega) (by omega) rfl, Nat.add_zero, hk, w_ite, if_neg (by decide)]
  rw [w_ite, if_neg (by decide), w_ite, if_neg (by decide), w_ite, if_neg (by decide), w_ite, if_neg (by decide), w_ite, if_neg (by decide), w_ite, if_neg (by decide), w_ite, if_neg (by decide), w_ite, if_neg (by decide), w_ite, if_neg (by decide), w_ite, if_neg (by decide), w_ite, if_neg (by decide), w_ite, if_neg (by decide), w_ite, if_neg (by decide), w_ite, if_neg (by decide), w_ite, if_neg (by decide), w_ite, if_neg (by decide), w_ite, if_neg (by decide), w_ite, if_neg (by decide), w_ite, if_neg (by decide), w_ite, if_neg (by decide), w_ite, if_neg (by decide), w_ite, if_neg (by decide), w_ite, if_neg (by decide), w_ite, if_neg (by decide), w_ite, if_neg (by decide), w_ite, if_neg (by decide), w_ite, if_neg (by decide), w_ite, if_neg (by decide), w_ite, if_neg (by decide)]
  rw [w_ite, if_pos (by rfl)]
  rw [w_bd, rdA (j := 1) hs (by omega) (by omega) (nv_add p 1)]
  rw [w_bd]
  refine w_mono (lemL (n := fun h' => X5_refusals h' (sc (p + 1))) hli (op_refusals hC hT (sc (p + 1))) (kz_X5_refusals _ _) Q kk) fun r b hb => ?_
  obtain ⟨hsb, hw⟩ := hb
  rw [w_bd, rdA (j := 1) hsb (by omega) (by omega) (nv_add p 1)]
  exact hw
theorem trn_30 {G : Nat → Nat} {scr len : Nat} {sc : Nat → Int32} {a : Hp} (hli : Li G scr len sc a) {p f : Nat} (hp : p + 5 ≤ len) (hl : len ≤ 120) (hk : sc p &&& 63 = nv 30) (Q : Int32 → Hp → Prop) (kk : ∀ c, Sm2 G scr len sc a c → Wp (L_law_28 f (some scr) (some (G 0)) (some (G 10)) (some (G 20)) (some (G 21)) (nv p + 5)) c Q) : Wp (L_law_28 (f + 1) (some scr) (some (G 0)) (some (G 10)) (some (G 20)) (some (G 21)) (nv p)) a Q := by
  have hli' := hli
  obtain ⟨⟨B, S, hC, hT⟩, hs, hz⟩ := hli'
  rw [L_law_28, w_bd, w_aN, hs.1, hs.2.1]
  refine ⟨rfl, ?_⟩
  rw [w_ite, if_neg (by rw [lt_5 (by omega) (by omega)]; omega), w_bd, rdA (j := 0) hs (by omega) (by omega) rfl, Nat.add_zero, hk, w_ite, if_neg (by decide)]
  rw [w_ite, if_neg (by decide), w_ite, if_neg (by decide), w_ite, if_neg (by decide), w_ite, if_neg (by decide), w_ite, if_neg (by decide), w_ite, if_neg (by decide), w_ite, if_neg (by decide), w_ite, if_neg (by decide), w_ite, if_neg (by decide), w_ite, if_neg (by decide), w_ite, if_neg (by decide), w_ite, if_neg (by decide), w_ite, if_neg (by decide), w_ite, if_neg (by decide), w_ite, if_neg (by decide), w_ite, if_neg (by decide), w_ite, if_neg (by decide), w_ite, if_neg (by decide), w_ite, if_neg (by decide), w_ite, if_neg (by decide), w_ite, if_neg (by decide), w_ite, if_neg (by decide), w_ite, if_neg (by decide), w_ite, if_neg (by decide), w_ite, if_neg (by decide), w_ite, if_neg (by decide), w_ite, if_neg (by decide), w_ite, if_neg (by decide), w_ite, if_neg (by decide), w_ite, if_neg (by decide)]
  rw [w_ite, if_pos (by rfl)]
  rw [w_bd, w_rc]
  refine ⟨by rw [hC.2.1.1.1], ?_⟩
  rw [w_bd]
  refine w_mono (lemE (n := fun h' => X5_gap h') hli (op_gap hC hT) (kz_X5_gap _) Q kk) fun r b hb => ?_
  obtain ⟨hsb, hw⟩ := hb
  exact hw
theorem trn_31 {G : Nat → Nat} {scr len : Nat} {sc : Nat → Int32} {a : Hp} (hli : Li G scr len sc a) {p f : Nat} (hp : p + 5 ≤ len) (hl : len ≤ 120) (hk : sc p &&& 63 = nv 31) (Q : Int32 → Hp → Prop) (kk : ∀ c, Sm2 G scr len sc a c → Wp (L_law_28 f (some scr) (some (G 0)) (some (G 10)) (some (G 20)) (some (G 21)) (nv p + 5)) c Q) : Wp (L_law_28 (f + 1) (some scr) (some (G 0)) (some (G 10)) (some (G 20)) (some (G 21)) (nv p)) a Q := by
  have hli' := hli
  obtain ⟨⟨B, S, hC, hT⟩, hs, hz⟩ := hli'
  rw [L_law_28, w_bd, w_aN, hs.1, hs.2.1]
  refine ⟨rfl, ?_⟩
  rw [w_ite, if_neg (by rw [lt_5 (by omega) (by omega)]; omega), w_bd, rdA (j := 0) hs (by omega) (by omega) rfl, Nat.add_zero, hk, w_ite, if_neg (by decide)]
  rw [w_ite, if_neg (by decide), w_ite, if_neg (by decide), w_ite, if_neg (by decide), w_ite, if_neg (by decide), w_ite, if_neg (by decide), w_ite, if_neg (by decide), w_ite, if_neg (by decide), w_ite, if_neg (by decide), w_ite, if_neg (by decide), w_ite, if_neg (by decide), w_ite, if_neg (by decide), w_ite, if_neg (by decide), w_ite, if_neg (by decide), w_ite, if_neg (by decide), w_ite, if_neg (by decide), w_ite, if_neg (by decide), w_ite, if_neg (by decide), w_ite, if_neg (by decide), w_ite, if_neg (by decide), w_ite, if_neg (by decide), w_ite, if_neg (by decide), w_ite, if_neg (by decide), w_ite, if_neg (by decide), w_ite, if_neg (by decide), w_ite, if_neg (by decide), w_ite, if_neg (by decide), w_ite, if_neg (by decide), w_ite, if_neg (by decide), w_ite, if_neg (by decide), w_ite, if_neg (by decide), w_ite, if_neg (by decide)]
  rw [w_ite, if_pos (by rfl)]
  rw [w_bd, rdA (j := 1) hs (by omega) (by omega) (nv_add p 1)]
  rw [w_bd]
  refine w_mono (lemD (K2 := fun x8 x9 x6 => bd (aL 45 (some (G 21)) 0) fun x180 => bd (aL 45 (some (G 21)) 0) fun x181 => if (Op.cmpValue (FP.dcmp x180 x181) .l) = 0 then L_law_1771 else if ¬ (Op.cmpValue (FP.fcmp x6 x6) .l) = 0 then L_law_1773 (L_law_28 f) (some scr) (some (G 0)) (some (G 10)) (some (G 20)) (some (G 21)) (nv p) else L_law_1771) (n := fun h' => X5_honesty h' (sc (p + 1))) hli (op_honesty hC hT (sc (p + 1))) (kz_X5_honesty _ _) Q kk) fun r b hb => ?_
  obtain ⟨hsb, hw⟩ := hb
  rw [w_bd, rdA (j := 1) hsb (by omega) (by omega) (nv_add p 1)]
  exact hw
theorem trn_32 {G : Nat → Nat} {scr len : Nat} {sc : Nat → Int32} {a : Hp} (hli : Li G scr len sc a) {p f : Nat} (hp : p + 5 ≤ len) (hl : len ≤ 120) (hk : sc p &&& 63 = nv 32) (Q : Int32 → Hp → Prop) (kk : ∀ c, Sm2 G scr len sc a c → Wp (L_law_28 f (some scr) (some (G 0)) (some (G 10)) (some (G 20)) (some (G 21)) (nv p + 5)) c Q) : Wp (L_law_28 (f + 1) (some scr) (some (G 0)) (some (G 10)) (some (G 20)) (some (G 21)) (nv p)) a Q := by
  have hli' := hli
  obtain ⟨⟨B, S, hC, hT⟩, hs, hz⟩ := hli'
  rw [L_law_28, w_bd, w_aN, hs.1, hs.2.1]
  refine ⟨rfl, ?_⟩
  rw [w_ite, if_neg (by rw [lt_5 (by omega) (by omega)]; omega), w_bd, rdA (j := 0) hs (by omega) (by omega) rfl, Nat.add_zero, hk, w_ite, if_neg (by decide)]
  rw [w_ite, if_neg (by decide), w_ite, if_neg (by decide), w_ite, if_neg (by decide), w_ite, if_neg (by decide), w_ite, if_neg (by decide), w_ite, if_neg (by decide), w_ite, if_neg (by decide), w_ite, if_neg (by decide), w_ite, if_neg (by decide), w_ite, if_neg (by decide), w_ite, if_neg (by decide), w_ite, if_neg (by decide), w_ite, if_neg (by decide), w_ite, if_neg (by decide), w_ite, if_neg (by decide), w_ite, if_neg (by decide), w_ite, if_neg (by decide), w_ite, if_neg (by decide), w_ite, if_neg (by decide), w_ite, if_neg (by decide), w_ite, if_neg (by decide), w_ite, if_neg (by decide), w_ite, if_neg (by decide), w_ite, if_neg (by decide), w_ite, if_neg (by decide), w_ite, if_neg (by decide), w_ite, if_neg (by decide), w_ite, if_neg (by decide), w_ite, if_neg (by decide), w_ite, if_neg (by decide), w_ite, if_neg (by decide), w_ite, if_neg (by decide)]
  rw [w_ite, if_pos (by rfl)]
  rw [w_bd, w_rc]
  refine ⟨by rw [hC.2.1.1.1], ?_⟩
  rw [w_bd]
  refine w_mono (lemM (K2 := fun x182 x183 => if (Op.cmpValue (FP.dcmp x182 x182) .l) = 0 then L_law_1812 else if ¬ (Op.cmpValue (FP.dcmp x183 x183) .l) = 0 then L_law_1814 (L_law_28 f) (some scr) (some (G 0)) (some (G 10)) (some (G 20)) (some (G 21)) (nv p) else L_law_1812) (n := fun h' => X5_meanTurns h') hli (op_meanTurns hC hT) (kz_X5_meanTurns _) Q kk) fun r b hb => ?_
  obtain ⟨hsb, hw⟩ := hb
  exact hw
theorem trn_33 {G : Nat → Nat} {scr len : Nat} {sc : Nat → Int32} {a : Hp} (hli : Li G scr len sc a) {p f : Nat} (hp : p + 5 ≤ len) (hl : len ≤ 120) (hk : sc p &&& 63 = nv 33) (Q : Int32 → Hp → Prop) (kk : ∀ c, Sm2 G scr len sc a c → Wp (L_law_28 f (some scr) (some (G 0)) (some (G 10)) (some (G 20)) (some (G 21)) (nv p + 5)) c Q) : Wp (L_law_28 (f + 1) (some scr) (some (G 0)) (some (G 10)) (some (G 20)) (some (G 21)) (nv p)) a Q := by
  have hli' := hli
  obtain ⟨⟨B, S, hC, hT⟩, hs, hz⟩ := hli'
  rw [L_law_28, w_bd, w_aN, hs.1, hs.2.1]
  refine ⟨rfl, ?_⟩
  rw [w_ite, if_neg (by rw [lt_5 (by omega) (by omega)]; omega), w_bd, rdA (j := 0) hs (by omega) (by omega) rfl, Nat.add_zero, hk, w_ite, if_neg (by decide)]
  rw [w_ite, if_neg (by decide), w_ite, if_neg (by decide), w_ite, if_neg (by decide), w_ite, if_neg (by decide), w_ite, if_neg (by decide), w_ite, if_neg (by decide), w_ite, if_neg (by decide), w_ite, if_neg (by decide), w_ite, if_neg (by decide), w_ite, if_neg (by decide), w_ite, if_neg (by decide), w_ite, if_neg (by decide), w_ite, if_neg (by decide), w_ite, if_neg (by decide), w_ite, if_neg (by decide), w_ite, if_neg (by decide), w_ite, if_neg (by decide), w_ite, if_neg (by decide), w_ite, if_neg (by decide), w_ite, if_neg (by decide), w_ite, if_neg (by decide), w_ite, if_neg (by decide), w_ite, if_neg (by decide), w_ite, if_neg (by decide), w_ite, if_neg (by decide), w_ite, if_neg (by decide), w_ite, if_neg (by decide), w_ite, if_neg (by decide), w_ite, if_neg (by decide), w_ite, if_neg (by decide), w_ite, if_neg (by decide), w_ite, if_neg (by decide), w_ite, if_neg (by decide)]
  rw [w_ite, if_pos (by rfl)]
  rw [w_bd, rdA (j := 1) hs (by omega) (by omega) (nv_add p 1)]
  rw [w_bd, rdA (j := 2) hs (by omega) (by omega) (nv_add p 2)]
  rw [w_bd, rdA (j := 3) hs (by omega) (by omega) (nv_add p 3)]
  rw [w_bd, rdA (j := 4) hs (by omega) (by omega) (nv_add p 4)]
  rw [w_bd]
  refine w_mono (lemL (n := fun h' => X5_ifPut h' (sc (p + 1)) (sc (p + 2)) (sc (p + 3)) (sc (p + 4))) hli (op_ifPut hC hT (sc (p + 1)) (sc (p + 2)) (sc (p + 3)) (sc (p + 4))) (kz_X5_ifPut _ _ _ _ _) Q kk) fun r b hb => ?_
  obtain ⟨hsb, hw⟩ := hb
  rw [w_bd, rdA (j := 1) hsb (by omega) (by omega) (nv_add p 1)]
  rw [w_bd, rdA (j := 2) hsb (by omega) (by omega) (nv_add p 2)]
  rw [w_bd, rdA (j := 3) hsb (by omega) (by omega) (nv_add p 3)]
  rw [w_bd, rdA (j := 4) hsb (by omega) (by omega) (nv_add p 4)]
  exact hw
theorem trn_34 {G : Nat → Nat} {scr len : Nat} {sc : Nat → Int32} {a : Hp} (hli : Li G scr len sc a) {p f : Nat} (hp : p + 5 ≤ len) (hl : len ≤ 120) (hk : sc p &&& 63 = nv 34) (Q : Int32 → Hp → Prop) (kk : ∀ c, Sm2 G scr len sc a c → Wp (L_law_28 f (some scr) (some (G 0)) (some (G 10)) (some (G 20)) (some (G 21)) (nv p + 5)) c Q) : Wp (L_law_28 (f + 1) (some scr) (some (G 0)) (some (G 10)) (some (G 20)) (some (G 21)) (nv p)) a Q := by
  have hli' := hli
  obtain ⟨⟨B, S, hC, hT⟩, hs, hz⟩ := hli'
  rw [L_law_28, w_bd, w_aN, hs.1, hs.2.1]
  refine ⟨rfl, ?_⟩
  rw [w_ite, if_neg (by rw [lt_5 (by omega) (by omega)]; omega), w_bd, rdA (j := 0) hs (by omega) (by omega) rfl, Nat.add_zero, hk, w_ite, if_neg (by decide)]
  rw [w_ite, if_neg (by decide), w_ite, if_neg (by decide), w_ite, if_neg (by decide), w_ite, if_neg (by decide), w_ite, if_neg (by decide), w_ite, if_neg (by decide), w_ite, if_neg (by decide), w_ite, if_neg (by decide), w_ite, if_neg (by decide), w_ite, if_neg (by decide), w_ite, if_neg (by decide), w_ite, if_neg (by decide), w_ite, if_neg (by decide), w_ite, if_neg (by decide), w_ite, if_neg (by decide), w_ite, if_neg (by decide), w_ite, if_neg (by decide), w_ite, if_neg (by decide), w_ite, if_neg (by decide), w_ite, if_neg (by decide), w_ite, if_neg (by decide), w_ite, if_neg (by decide), w_ite, if_neg (by decide), w_ite, if_neg (by decide), w_ite, if_neg (by decide), w_ite, if_neg (by decide), w_ite, if_neg (by decide), w_ite, if_neg (by decide), w_ite, if_neg (by decide), w_ite, if_neg (by decide), w_ite, if_neg (by decide), w_ite, if_neg (by decide), w_ite, if_neg (by decide), w_ite, if_neg (by decide)]
  rw [w_ite, if_pos (by rfl)]
  rw [w_bd, rdA (j := 1) hs (by omega) (by omega) (nv_add p 1)]
  rw [w_bd, rdA (j := 2) hs (by omega) (by omega) (nv_add p 2)]
  rw [w_bd]
  refine w_mono (lemL (n := fun h' => X5_ifShown h' (sc (p + 1)) (sc (p + 2))) hli (op_ifShown hC hT (sc (p + 1)) (sc (p + 2))) (kz_X5_ifShown _ _ _) Q kk) fun r b hb => ?_
  obtain ⟨hsb, hw⟩ := hb
  rw [w_bd, rdA (j := 1) hsb (by omega) (by omega) (nv_add p 1)]
  rw [w_bd, rdA (j := 2) hsb (by omega) (by omega) (nv_add p 2)]
  exact hw
theorem trn_35 {G : Nat → Nat} {scr len : Nat} {sc : Nat → Int32} {a : Hp} (hli : Li G scr len sc a) {p f : Nat} (hp : p + 5 ≤ len) (hl : len ≤ 120) (hk : sc p &&& 63 = nv 35) (Q : Int32 → Hp → Prop) (kk : ∀ c, Sm2 G scr len sc a c → Wp (L_law_28 f (some scr) (some (G 0)) (some (G 10)) (some (G 20)) (some (G 21)) (nv p + 5)) c Q) : Wp (L_law_28 (f + 1) (some scr) (some (G 0)) (some (G 10)) (some (G 20)) (some (G 21)) (nv p)) a Q := by
  have hli' := hli
  obtain ⟨⟨B, S, hC, hT⟩, hs, hz⟩ := hli'
  rw [L_law_28, w_bd, w_aN, hs.1, hs.2.1]
  refine ⟨rfl, ?_⟩
  rw [w_ite, if_neg (by rw [lt_5 (by omega) (by omega)]; omega), w_bd, rdA (j := 0) hs (by omega) (by omega) rfl, Nat.add_zero, hk, w_ite, if_neg (by decide)]
  rw [w_ite, if_neg (by decide), w_ite, if_neg (by decide), w_ite, if_neg (by decide), w_ite, if_neg (by decide), w_ite, if_neg (by decide), w_ite, if_neg (by decide), w_ite, if_neg (by decide), w_ite, if_neg (by decide), w_ite, if_neg (by decide), w_ite, if_neg (by decide), w_ite, if_neg (by decide), w_ite, if_neg (by decide), w_ite, if_neg (by decide), w_ite, if_neg (by decide), w_ite, if_neg (by decide), w_ite, if_neg (by decide), w_ite, if_neg (by decide), w_ite, if_neg (by decide), w_ite, if_neg (by decide), w_ite, if_neg (by decide), w_ite, if_neg (by decide), w_ite, if_neg (by decide), w_ite, if_neg (by decide), w_ite, if_neg (by decide), w_ite, if_neg (by decide), w_ite, if_neg (by decide), w_ite, if_neg (by decide), w_ite, if_neg (by decide), w_ite, if_neg (by decide), w_ite, if_neg (by decide), w_ite, if_neg (by decide), w_ite, if_neg (by decide), w_ite, if_neg (by decide), w_ite, if_neg (by decide), w_ite, if_neg (by decide)]
  rw [w_ite, if_pos (by rfl)]
  rw [w_bd, w_rc]
  refine ⟨by rw [hC.2.1.1.1], ?_⟩
  rw [w_bd]
  refine w_mono (lemE (n := fun h' => X5_bestProof h') hli (op_bestProof hC hT) (kz_X5_bestProof _) Q kk) fun r b hb => ?_
  obtain ⟨hsb, hw⟩ := hb
  exact hw
theorem trn_36 {G : Nat → Nat} {scr len : Nat} {sc : Nat → Int32} {a : Hp} (hli : Li G scr len sc a) {p f : Nat} (hp : p + 5 ≤ len) (hl : len ≤ 120) (hk : sc p &&& 63 = nv 36) (Q : Int32 → Hp → Prop) (kk : ∀ c, Sm2 G scr len sc a c → Wp (L_law_28 f (some scr) (some (G 0)) (some (G 10)) (some (G 20)) (some (G 21)) (nv p + 5)) c Q) : Wp (L_law_28 (f + 1) (some scr) (some (G 0)) (some (G 10)) (some (G 20)) (some (G 21)) (nv p)) a Q := by
  have hli' := hli
  obtain ⟨⟨B, S, hC, hT⟩, hs, hz⟩ := hli'
  rw [L_law_28, w_bd, w_aN, hs.1, hs.2.1]
  refine ⟨rfl, ?_⟩
  rw [w_ite, if_neg (by rw [lt_5 (by omega) (by omega)]; omega), w_bd, rdA (j := 0) hs (by omega) (by omega) rfl, Nat.add_zero, hk, w_ite, if_neg (by decide)]
  rw [w_ite, if_neg (by decide), w_ite, if_neg (by decide), w_ite, if_neg (by decide), w_ite, if_neg (by decide), w_ite, if_neg (by decide), w_ite, if_neg (by decide), w_ite, if_neg (by decide), w_ite, if_neg (by decide), w_ite, if_neg (by decide), w_ite, if_neg (by decide), w_ite, if_neg (by decide), w_ite, if_neg (by decide), w_ite, if_neg (by decide), w_ite, if_neg (by decide), w_ite, if_neg (by decide), w_ite, if_neg (by decide), w_ite, if_neg (by decide), w_ite, if_neg (by decide), w_ite, if_neg (by decide), w_ite, if_neg (by decide), w_ite, if_neg (by decide), w_ite, if_neg (by decide), w_ite, if_neg (by decide), w_ite, if_neg (by decide), w_ite, if_neg (by decide), w_ite, if_neg (by decide), w_ite, if_neg (by decide), w_ite, if_neg (by decide), w_ite, if_neg (by decide), w_ite, if_neg (by decide), w_ite, if_neg (by decide), w_ite, if_neg (by decide), w_ite, if_neg (by decide), w_ite, if_neg (by decide), w_ite, if_neg (by decide), w_ite, if_neg (by decide)]
  rw [w_ite, if_pos (by rfl)]
  rw [w_bd, rdA (j := 1) hs (by omega) (by omega) (nv_add p 1)]
  rw [w_bd]
  refine w_mono (lemL (n := fun h' => X5_ifEye h' (sc (p + 1))) hli (op_ifEye hC hT (sc (p + 1))) (kz_X5_ifEye _ _) Q kk) fun r b hb => ?_
  obtain ⟨hsb, hw⟩ := hb
  rw [w_bd, rdA (j := 1) hsb (by omega) (by omega) (nv_add p 1)]
  exact hw
theorem trn_37 {G : Nat → Nat} {scr len : Nat} {sc : Nat → Int32} {a : Hp} (hli : Li G scr len sc a) {p f : Nat} (hp : p + 5 ≤ len) (hl : len ≤ 120) (hk : sc p &&& 63 = nv 37) (Q : Int32 → Hp → Prop) (kk : ∀ c, Sm2 G scr len sc a c → Wp (L_law_28 f (some scr) (some (G 0)) (some (G 10)) (some (G 20)) (some (G 21)) (nv p + 5)) c Q) : Wp (L_law_28 (f + 1) (some scr) (some (G 0)) (some (G 10)) (some (G 20)) (some (G 21)) (nv p)) a Q := by
  have hli' := hli
  obtain ⟨⟨B, S, hC, hT⟩, hs, hz⟩ := hli'
  rw [L_law_28, w_bd, w_aN, hs.1, hs.2.1]
  refine ⟨rfl, ?_⟩
  rw [w_ite, if_neg (by rw [lt_5 (by omega) (by omega)]; omega), w_bd, rdA (j := 0) hs (by omega) (by omega) rfl, Nat.add_zero, hk, w_ite, if_neg (by decide)]
  rw [w_ite, if_neg (by decide), w_ite, if_neg (by decide), w_ite, if_neg (by decide), w_ite, if_neg (by decide), w_ite, if_neg (by decide), w_ite, if_neg (by decide), w_ite, if_neg (by decide), w_ite, if_neg (by decide), w_ite, if_neg (by decide), w_ite, if_neg (by decide), w_ite, if_neg (by decide), w_ite, if_neg (by decide), w_ite, if_neg (by decide), w_ite, if_neg (by decide), w_ite, if_neg (by decide), w_ite, if_neg (by decide), w_ite, if_neg (by decide), w_ite, if_neg (by decide), w_ite, if_neg (by decide), w_ite, if_neg (by decide), w_ite, if_neg (by decide), w_ite, if_neg (by decide), w_ite, if_neg (by decide), w_ite, if_neg (by decide), w_ite, if_neg (by decide), w_ite, if_neg (by decide), w_ite, if_neg (by decide), w_ite, if_neg (by decide), w_ite, if_neg (by decide), w_ite, if_neg (by decide), w_ite, if_neg (by decide), w_ite, if_neg (by decide), w_ite, if_neg (by decide), w_ite, if_neg (by decide), w_ite, if_neg (by decide), w_ite, if_neg (by decide), w_ite, if_neg (by decide)]
  rw [w_ite, if_pos (by rfl)]
  rw [w_bd, rdA (j := 1) hs (by omega) (by omega) (nv_add p 1)]
  rw [w_bd, rdA (j := 2) hs (by omega) (by omega) (nv_add p 2)]
  rw [w_bd, rdA (j := 3) hs (by omega) (by omega) (nv_add p 3)]
  rw [w_bd, rdA (j := 4) hs (by omega) (by omega) (nv_add p 4)]
  rw [w_bd]
  refine w_mono (lemL (n := fun h' => X5_say h' (sc (p + 1)) (sc (p + 2)) (sc (p + 3)) (sc (p + 4))) hli (op_say hC hT (sc (p + 1)) (sc (p + 2)) (sc (p + 3)) (sc (p + 4))) (kz_X5_say _ _ _ _ _) Q kk) fun r b hb => ?_
  obtain ⟨hsb, hw⟩ := hb
  rw [w_bd, rdA (j := 1) hsb (by omega) (by omega) (nv_add p 1)]
  rw [w_bd, rdA (j := 2) hsb (by omega) (by omega) (nv_add p 2)]
  rw [w_bd, rdA (j := 3) hsb (by omega) (by omega) (nv_add p 3)]
  rw [w_bd, rdA (j := 4) hsb (by omega) (by omega) (nv_add p 4)]
  exact hw
theorem trn_38 {G : Nat → Nat} {scr len : Nat} {sc : Nat → Int32} {a : Hp} (hli : Li G scr len sc a) {p f : Nat} (hp : p + 5 ≤ len) (hl : len ≤ 120) (hk : sc p &&& 63 = nv 38) (Q : Int32 → Hp → Prop) (kk : ∀ c, Sm2 G scr len sc a c → Wp (L_law_28 f (some scr) (some (G 0)) (some (G 10)) (some (G 20)) (some (G 21)) (nv p + 5)) c Q) : Wp (L_law_28 (f + 1) (some scr) (some (G 0)) (some (G 10)) (some (G 20)) (some (G 21)) (nv p)) a Q := by
  have hli' := hli
  obtain ⟨⟨B, S, hC, hT⟩, hs, hz⟩ := hli'
  rw [L_law_28, w_bd, w_aN, hs.1, hs.2.1]
  refine ⟨rfl, ?_⟩
  rw [w_ite, if_neg (by rw [lt_5 (by omega) (by omega)]; omega), w_bd, rdA (j := 0) hs (by omega) (by omega) rfl, Nat.add_zero, hk, w_ite, if_neg (by decide)]
  rw [w_ite, if_neg (by decide), w_ite, if_neg (by decide), w_ite, if_neg (by decide), w_ite, if_neg (by decide), w_ite, if_neg (by decide), w_ite, if_neg (by decide), w_ite, if_neg (by decide), w_ite, if_neg (by decide), w_ite, if_neg (by decide), w_ite, if_neg (by decide), w_ite, if_neg (by decide), w_ite, if_neg (by decide), w_ite, if_neg (by decide), w_ite, if_neg (by decide), w_ite, if_neg (by decide), w_ite, if_neg (by decide), w_ite, if_neg (by decide), w_ite, if_neg (by decide), w_ite, if_neg (by decide), w_ite, if_neg (by decide), w_ite, if_neg (by decide), w_ite, if_neg (by decide), w_ite, if_neg (by decide), w_ite, if_neg (by decide), w_ite, if_neg (by decide), w_ite, if_neg (by decide), w_ite, if_neg (by decide), w_ite, if_neg (by decide), w_ite, if_neg (by decide), w_ite, if_neg (by decide), w_ite, if_neg (by decide), w_ite, if_neg (by decide), w_ite, if_neg (by decide), w_ite, if_neg (by decide), w_ite, if_neg (by decide), w_ite, if_neg (by decide), w_ite, if_neg (by decide), w_ite, if_neg (by decide)]
  rw [w_ite, if_pos (by rfl)]
  rw [w_bd, rdA (j := 1) hs (by omega) (by omega) (nv_add p 1)]
  rw [w_bd, rdA (j := 2) hs (by omega) (by omega) (nv_add p 2)]
  rw [w_bd, rdA (j := 3) hs (by omega) (by omega) (nv_add p 3)]
  rw [w_bd]
  refine w_mono (lemL (n := fun h' => X5_pair h' (sc (p + 1)) (sc (p + 2)) (sc (p + 3))) hli (op_pair hC hT (sc (p + 1)) (sc (p + 2)) (sc (p + 3))) (kz_X5_pair _ _ _ _) Q kk) fun r b hb => ?_
  obtain ⟨hsb, hw⟩ := hb
  rw [w_bd, rdA (j := 1) hsb (by omega) (by omega) (nv_add p 1)]
  rw [w_bd, rdA (j := 2) hsb (by omega) (by omega) (nv_add p 2)]
  rw [w_bd, rdA (j := 3) hsb (by omega) (by omega) (nv_add p 3)]
  exact hw
theorem trn_39 {G : Nat → Nat} {scr len : Nat} {sc : Nat → Int32} {a : Hp} (hli : Li G scr len sc a) {p f : Nat} (hp : p + 5 ≤ len) (hl : len ≤ 120) (hk : sc p &&& 63 = nv 39) (Q : Int32 → Hp → Prop) (kk : ∀ c, Sm2 G scr len sc a c → Wp (L_law_28 f (some scr) (some (G 0)) (some (G 10)) (some (G 20)) (some (G 21)) (nv p + 5)) c Q) : Wp (L_law_28 (f + 1) (some scr) (some (G 0)) (some (G 10)) (some (G 20)) (some (G 21)) (nv p)) a Q := by
  have hli' := hli
  obtain ⟨⟨B, S, hC, hT⟩, hs, hz⟩ := hli'
  rw [L_law_28, w_bd, w_aN, hs.1, hs.2.1]
  refine ⟨rfl, ?_⟩
  rw [w_ite, if_neg (by rw [lt_5 (by omega) (by omega)]; omega), w_bd, rdA (j := 0) hs (by omega) (by omega) rfl, Nat.add_zero, hk, w_ite, if_neg (by decide)]
  rw [w_ite, if_neg (by decide), w_ite, if_neg (by decide), w_ite, if_neg (by decide), w_ite, if_neg (by decide), w_ite, if_neg (by decide), w_ite, if_neg (by decide), w_ite, if_neg (by decide), w_ite, if_neg (by decide), w_ite, if_neg (by decide), w_ite, if_neg (by decide), w_ite, if_neg (by decide), w_ite, if_neg (by decide), w_ite, if_neg (by decide), w_ite, if_neg (by decide), w_ite, if_neg (by decide), w_ite, if_neg (by decide), w_ite, if_neg (by decide), w_ite, if_neg (by decide), w_ite, if_neg (by decide), w_ite, if_neg (by decide), w_ite, if_neg (by decide), w_ite, if_neg (by decide), w_ite, if_neg (by decide), w_ite, if_neg (by decide), w_ite, if_neg (by decide), w_ite, if_neg (by decide), w_ite, if_neg (by decide), w_ite, if_neg (by decide), w_ite, if_neg (by decide), w_ite, if_neg (by decide), w_ite, if_neg (by decide), w_ite, if_neg (by decide), w_ite, if_neg (by decide), w_ite, if_neg (by decide), w_ite, if_neg (by decide), w_ite, if_neg (by decide), w_ite, if_neg (by decide), w_ite, if_neg (by decide), w_ite, if_neg (by decide)]
  rw [w_ite, if_pos (by rfl)]
  rw [w_bd, rdA (j := 1) hs (by omega) (by omega) (nv_add p 1)]
  rw [w_bd]
  refine w_mono (lemL (n := fun h' => X5_match h' (sc (p + 1))) hli (op_match hC hT (sc (p + 1))) (kz_X5_match _ _) Q kk) fun r b hb => ?_
  obtain ⟨hsb, hw⟩ := hb
  rw [w_bd, rdA (j := 1) hsb (by omega) (by omega) (nv_add p 1)]
  exact hw
theorem trn_40 {G : Nat → Nat} {scr len : Nat} {sc : Nat → Int32} {a : Hp} (hli : Li G scr len sc a) {p f : Nat} (hp : p + 5 ≤ len) (hl : len ≤ 120) (hk : sc p &&& 63 = nv 40) (Q : Int32 → Hp → Prop) (kk : ∀ c, Sm2 G scr len sc a c → Wp (L_law_28 f (some scr) (some (G 0)) (some (G 10)) (some (G 20)) (some (G 21)) (nv p + 5)) c Q) : Wp (L_law_28 (f + 1) (some scr) (some (G 0)) (some (G 10)) (some (G 20)) (some (G 21)) (nv p)) a Q := by
  have hli' := hli
  obtain ⟨⟨B, S, hC, hT⟩, hs, hz⟩ := hli'
  rw [L_law_28, w_bd, w_aN, hs.1, hs.2.1]
  refine ⟨rfl, ?_⟩
  rw [w_ite, if_neg (by rw [lt_5 (by omega) (by omega)]; omega), w_bd, rdA (j := 0) hs (by omega) (by omega) rfl, Nat.add_zero, hk, w_ite, if_neg (by decide)]
  rw [w_ite, if_neg (by decide), w_ite, if_neg (by decide), w_ite, if_neg (by decide), w_ite, if_neg (by decide), w_ite, if_neg (by decide), w_ite, if_neg (by decide), w_ite, if_neg (by decide), w_ite, if_neg (by decide), w_ite, if_neg (by decide), w_ite, if_neg (by decide), w_ite, if_neg (by decide), w_ite, if_neg (by decide), w_ite, if_neg (by decide), w_ite, if_neg (by decide), w_ite, if_neg (by decide), w_ite, if_neg (by decide), w_ite, if_neg (by decide), w_ite, if_neg (by decide), w_ite, if_neg (by decide), w_ite, if_neg (by decide), w_ite, if_neg (by decide), w_ite, if_neg (by decide), w_ite, if_neg (by decide), w_ite, if_neg (by decide), w_ite, if_neg (by decide), w_ite, if_neg (by decide), w_ite, if_neg (by decide), w_ite, if_neg (by decide), w_ite, if_neg (by decide), w_ite, if_neg (by decide), w_ite, if_neg (by decide), w_ite, if_neg (by decide), w_ite, if_neg (by decide), w_ite, if_neg (by decide), w_ite, if_neg (by decide), w_ite, if_neg (by decide), w_ite, if_neg (by decide), w_ite, if_neg (by decide), w_ite, if_neg (by decide), w_ite, if_neg (by decide)]
  rw [w_ite, if_pos (by rfl)]
  rw [w_bd, rdA (j := 1) hs (by omega) (by omega) (nv_add p 1)]
  rw [w_bd]
  refine w_mono (lemL (n := fun h' => X5_close h' (sc (p + 1))) hli (op_close hC hT (sc (p + 1))) (kz_X5_close _ _) Q kk) fun r b hb => ?_
  obtain ⟨hsb, hw⟩ := hb
  rw [w_bd, rdA (j := 1) hsb (by omega) (by omega) (nv_add p 1)]
  exact hw
theorem trn_41 {G : Nat → Nat} {scr len : Nat} {sc : Nat → Int32} {a : Hp} (hli : Li G scr len sc a) {p f : Nat} (hp : p + 5 ≤ len) (hl : len ≤ 120) (hk : sc p &&& 63 = nv 41) (Q : Int32 → Hp → Prop) (kk : ∀ c, Sm2 G scr len sc a c → Wp (L_law_28 f (some scr) (some (G 0)) (some (G 10)) (some (G 20)) (some (G 21)) (nv p + 5)) c Q) : Wp (L_law_28 (f + 1) (some scr) (some (G 0)) (some (G 10)) (some (G 20)) (some (G 21)) (nv p)) a Q := by
  have hli' := hli
  obtain ⟨⟨B, S, hC, hT⟩, hs, hz⟩ := hli'
  rw [L_law_28, w_bd, w_aN, hs.1, hs.2.1]
  refine ⟨rfl, ?_⟩
  rw [w_ite, if_neg (by rw [lt_5 (by omega) (by omega)]; omega), w_bd, rdA (j := 0) hs (by omega) (by omega) rfl, Nat.add_zero, hk, w_ite, if_neg (by decide)]
  rw [w_ite, if_neg (by decide), w_ite, if_neg (by decide), w_ite, if_neg (by decide), w_ite, if_neg (by decide), w_ite, if_neg (by decide), w_ite, if_neg (by decide), w_ite, if_neg (by decide), w_ite, if_neg (by decide), w_ite, if_neg (by decide), w_ite, if_neg (by decide), w_ite, if_neg (by decide), w_ite, if_neg (by decide), w_ite, if_neg (by decide), w_ite, if_neg (by decide), w_ite, if_neg (by decide), w_ite, if_neg (by decide), w_ite, if_neg (by decide), w_ite, if_neg (by decide), w_ite, if_neg (by decide), w_ite, if_neg (by decide), w_ite, if_neg (by decide), w_ite, if_neg (by decide), w_ite, if_neg (by decide), w_ite, if_neg (by decide), w_ite, if_neg (by decide), w_ite, if_neg (by decide), w_ite, if_neg (by decide), w_ite, if_neg (by decide), w_ite, if_neg (by decide), w_ite, if_neg (by decide), w_ite, if_neg (by decide), w_ite, if_neg (by decide), w_ite, if_neg (by decide), w_ite, if_neg (by decide), w_ite, if_neg (by decide), w_ite, if_neg (by decide), w_ite, if_neg (by decide), w_ite, if_neg (by decide), w_ite, if_neg (by decide), w_ite, if_neg (by decide), w_ite, if_neg (by decide)]
  rw [w_ite, if_pos (by rfl)]
  rw [w_bd, rdA (j := 1) hs (by omega) (by omega) (nv_add p 1)]
  rw [w_bd]
  refine w_mono (lemL (n := fun h' => X5_drop h' (sc (p + 1))) hli (op_drop hC hT (sc (p + 1))) (kz_X5_drop _ _) Q kk) fun r b hb => ?_
  obtain ⟨hsb, hw⟩ := hb
  rw [w_bd, rdA (j := 1) hsb (by omega) (by omega) (nv_add p 1)]
  exact hw
theorem trn_42 {G : Nat → Nat} {scr len : Nat} {sc : Nat → Int32} {a : Hp} (hli : Li G scr len sc a) {p f : Nat} (hp : p + 5 ≤ len) (hl : len ≤ 120) (hk : sc p &&& 63 = nv 42) (Q : Int32 → Hp → Prop) (kk : ∀ c, Sm2 G scr len sc a c → Wp (L_law_28 f (some scr) (some (G 0)) (some (G 10)) (some (G 20)) (some (G 21)) (nv p + 5)) c Q) : Wp (L_law_28 (f + 1) (some scr) (some (G 0)) (some (G 10)) (some (G 20)) (some (G 21)) (nv p)) a Q := by
  have hli' := hli
  obtain ⟨⟨B, S, hC, hT⟩, hs, hz⟩ := hli'
  rw [L_law_28, w_bd, w_aN, hs.1, hs.2.1]
  refine ⟨rfl, ?_⟩
  rw [w_ite, if_neg (by rw [lt_5 (by omega) (by omega)]; omega), w_bd, rdA (j := 0) hs (by omega) (by omega) rfl, Nat.add_zero, hk, w_ite, if_neg (by decide)]
  rw [w_ite, if_neg (by decide), w_ite, if_neg (by decide), w_ite, if_neg (by decide), w_ite, if_neg (by decide), w_ite, if_neg (by decide), w_ite, if_neg (by decide), w_ite, if_neg (by decide), w_ite, if_neg (by decide), w_ite, if_neg (by decide), w_ite, if_neg (by decide), w_ite, if_neg (by decide), w_ite, if_neg (by decide), w_ite, if_neg (by decide), w_ite, if_neg (by decide), w_ite, if_neg (by decide), w_ite, if_neg (by decide), w_ite, if_neg (by decide), w_ite, if_neg (by decide), w_ite, if_neg (by decide), w_ite, if_neg (by decide), w_ite, if_neg (by decide), w_ite, if_neg (by decide), w_ite, if_neg (by decide), w_ite, if_neg (by decide), w_ite, if_neg (by decide), w_ite, if_neg (by decide), w_ite, if_neg (by decide), w_ite, if_neg (by decide), w_ite, if_neg (by decide), w_ite, if_neg (by decide), w_ite, if_neg (by decide), w_ite, if_neg (by decide), w_ite, if_neg (by decide), w_ite, if_neg (by decide), w_ite, if_neg (by decide), w_ite, if_neg (by decide), w_ite, if_neg (by decide), w_ite, if_neg (by decide), w_ite, if_neg (by decide), w_ite, if_neg (by decide), w_ite, if_neg (by decide), w_ite, if_neg (by decide)]
  rw [w_ite, if_pos (by rfl)]
  rw [w_bd, rdA (j := 1) hs (by omega) (by omega) (nv_add p 1)]
  rw [w_bd, rdA (j := 2) hs (by omega) (by omega) (nv_add p 2)]
  rw [w_bd, rdA (j := 3) hs (by omega) (by omega) (nv_add p 3)]
  rw [w_bd]
  refine w_mono (lemL (n := fun h' => X5_put h' (sc (p + 1)) (sc (p + 2)) (sc (p + 3))) hli (op_put hC hT (sc (p + 1)) (sc (p + 2)) (sc (p + 3))) (kz_X5_put _ _ _ _) Q kk) fun r b hb => ?_
  obtain ⟨hsb, hw⟩ := hb
  rw [w_bd, rdA (j := 1) hsb (by omega) (by omega) (nv_add p 1)]
  rw [w_bd, rdA (j := 2) hsb (by omega) (by omega) (nv_add p 2)]
  rw [w_bd, rdA (j := 3) hsb (by omega) (by omega) (nv_add p 3)]
  exact hw
theorem trn_43 {G : Nat → Nat} {scr len : Nat} {sc : Nat → Int32} {a : Hp} (hli : Li G scr len sc a) {p f : Nat} (hp : p + 5 ≤ len) (hl : len ≤ 120) (hk : sc p &&& 63 = nv 43) (Q : Int32 → Hp → Prop) (kk : ∀ c, Sm2 G scr len sc a c → Wp (L_law_28 f (some scr) (some (G 0)) (some (G 10)) (some (G 20)) (some (G 21)) (nv p + 5)) c Q) : Wp (L_law_28 (f + 1) (some scr) (some (G 0)) (some (G 10)) (some (G 20)) (some (G 21)) (nv p)) a Q := by
  have hli' := hli
  obtain ⟨⟨B, S, hC, hT⟩, hs, hz⟩ := hli'
  rw [L_law_28, w_bd, w_aN, hs.1, hs.2.1]
  refine ⟨rfl, ?_⟩
  rw [w_ite, if_neg (by rw [lt_5 (by omega) (by omega)]; omega), w_bd, rdA (j := 0) hs (by omega) (by omega) rfl, Nat.add_zero, hk, w_ite, if_neg (by decide)]
  rw [w_ite, if_neg (by decide), w_ite, if_neg (by decide), w_ite, if_neg (by decide), w_ite, if_neg (by decide), w_ite, if_neg (by decide), w_ite, if_neg (by decide), w_ite, if_neg (by decide), w_ite, if_neg (by decide), w_ite, if_neg (by decide), w_ite, if_neg (by decide), w_ite, if_neg (by decide), w_ite, if_neg (by decide), w_ite, if_neg (by decide), w_ite, if_neg (by decide), w_ite, if_neg (by decide), w_ite, if_neg (by decide), w_ite, if_neg (by decide), w_ite, if_neg (by decide), w_ite, if_neg (by decide), w_ite, if_neg (by decide), w_ite, if_neg (by decide), w_ite, if_neg (by decide), w_ite, if_neg (by decide), w_ite, if_neg (by decide), w_ite, if_neg (by decide), w_ite, if_neg (by decide), w_ite, if_neg (by decide), w_ite, if_neg (by decide), w_ite, if_neg (by decide), w_ite, if_neg (by decide), w_ite, if_neg (by decide), w_ite, if_neg (by decide), w_ite, if_neg (by decide), w_ite, if_neg (by decide), w_ite, if_neg (by decide), w_ite, if_neg (by decide), w_ite, if_neg (by decide), w_ite, if_neg (by decide), w_ite, if_neg (by decide), w_ite, if_neg (by decide), w_ite, if_neg (by decide), w_ite, if_neg (by decide), w_ite, if_neg (by decide)]
  rw [w_ite, if_pos (by rfl)]
  rw [w_bd, rdA (j := 1) hs (by omega) (by omega) (nv_add p 1)]
  rw [w_bd, rdA (j := 2) hs (by omega) (by omega) (nv_add p 2)]
  rw [w_bd]
  refine w_mono (lemL (n := fun h' => X5_swap h' (sc (p + 1)) (sc (p + 2))) hli (op_swap hC hT (sc (p + 1)) (sc (p + 2))) (kz_X5_swap _ _ _) Q kk) fun r b hb => ?_
  obtain ⟨hsb, hw⟩ := hb
  rw [w_bd, rdA (j := 1) hsb (by omega) (by omega) (nv_add p 1)]
  rw [w_bd, rdA (j := 2) hsb (by omega) (by omega) (nv_add p 2)]
  exact hw
theorem trn_44 {G : Nat → Nat} {scr len : Nat} {sc : Nat → Int32} {a : Hp} (hli : Li G scr len sc a) {p f : Nat} (hp : p + 5 ≤ len) (hl : len ≤ 120) (hk : sc p &&& 63 = nv 44) (Q : Int32 → Hp → Prop) (kk : ∀ c, Sm2 G scr len sc a c → Wp (L_law_28 f (some scr) (some (G 0)) (some (G 10)) (some (G 20)) (some (G 21)) (nv p + 5)) c Q) : Wp (L_law_28 (f + 1) (some scr) (some (G 0)) (some (G 10)) (some (G 20)) (some (G 21)) (nv p)) a Q := by
  have hli' := hli
  obtain ⟨⟨B, S, hC, hT⟩, hs, hz⟩ := hli'
  rw [L_law_28, w_bd, w_aN, hs.1, hs.2.1]
  refine ⟨rfl, ?_⟩
  rw [w_ite, if_neg (by rw [lt_5 (by omega) (by omega)]; omega), w_bd, rdA (j := 0) hs (by omega) (by omega) rfl, Nat.add_zero, hk, w_ite, if_neg (by decide)]
  rw [w_ite, if_neg (by decide), w_ite, if_neg (by decide), w_ite, if_neg (by decide), w_ite, if_neg (by decide), w_ite, if_neg (by decide), w_ite, if_neg (by decide), w_ite, if_neg (by decide), w_ite, if_neg (by decide), w_ite, if_neg (by decide), w_ite, if_neg (by decide), w_ite, if_neg (by decide), w_ite, if_neg (by decide), w_ite, if_neg (by decide), w_ite, if_neg (by decide), w_ite, if_neg (by decide), w_ite, if_neg (by decide), w_ite, if_neg (by decide), w_ite, if_neg (by decide), w_ite, if_neg (by decide), w_ite, if_neg (by decide), w_ite, if_neg (by decide), w_ite, if_neg (by decide), w_ite, if_neg (by decide), w_ite, if_neg (by decide), w_ite, if_neg (by decide), w_ite, if_neg (by decide), w_ite, if_neg (by decide), w_ite, if_neg (by decide), w_ite, if_neg (by decide), w_ite, if_neg (by decide), w_ite, if_neg (by decide), w_ite, if_neg (by decide), w_ite, if_neg (by decide), w_ite, if_neg (by decide), w_ite, if_neg (by decide), w_ite, if_neg (by decide), w_ite, if_neg (by decide), w_ite, if_neg (by decide), w_ite, if_neg (by decide), w_ite, if_neg (by decide), w_ite, if_neg (by decide), w_ite, if_neg (by decide), w_ite, if_neg (by decide), w_ite, if_neg (by decide)]
  rw [w_ite, if_pos (by rfl)]
  rw [w_bd, rdA (j := 1) hs (by omega) (by omega) (nv_add p 1)]
  rw [w_bd]
  refine w_mono (lemL (n := fun h' => X5_setEye h' (sc (p + 1))) hli (op_setEye hC hT (sc (p + 1))) (kz_X5_setEye _ _) Q kk) fun r b hb => ?_
  obtain ⟨hsb, hw⟩ := hb
  rw [w_bd, rdA (j := 1) hsb (by omega) (by omega) (nv_add p 1)]
  exact hw
theorem trn_45 {G : Nat → Nat} {scr len : Nat} {sc : Nat → Int32} {a : Hp} (hli : Li G scr len sc a) {p f : Nat} (hp : p + 5 ≤ len) (hl : len ≤ 120) (hk : sc p &&& 63 = nv 45) (Q : Int32 → Hp → Prop) (kk : ∀ c, Sm2 G scr len sc a c → Wp (L_law_28 f (some scr) (some (G 0)) (some (G 10)) (some (G 20)) (some (G 21)) (nv p + 5)) c Q) : Wp (L_law_28 (f + 1) (some scr) (some (G 0)) (some (G 10)) (some (G 20)) (some (G 21)) (nv p)) a Q := by
  have hli' := hli
  obtain ⟨⟨B, S, hC, hT⟩, hs, hz⟩ := hli'
  rw [L_law_28, w_bd, w_aN, hs.1, hs.2.1]
  refine ⟨rfl, ?_⟩
  rw [w_ite, if_neg (by rw [lt_5 (by omega) (by omega)]; omega), w_bd, rdA (j := 0) hs (by omega) (by omega) rfl, Nat.add_zero, hk, w_ite, if_neg (by decide)]
  rw [w_ite, if_neg (by decide), w_ite, if_neg (by decide), w_ite, if_neg (by decide), w_ite, if_neg (by decide), w_ite, if_neg (by decide), w_ite, if_neg (by decide), w_ite, if_neg (by decide), w_ite, if_neg (by decide), w_ite, if_neg (by decide), w_ite, if_neg (by decide), w_ite, if_neg (by decide), w_ite, if_neg (by decide), w_ite, if_neg (by decide), w_ite, if_neg (by decide), w_ite, if_neg (by decide), w_ite, if_neg (by decide), w_ite, if_neg (by decide), w_ite, if_neg (by decide), w_ite, if_neg (by decide), w_ite, if_neg (by decide), w_ite, if_neg (by decide), w_ite, if_neg (by decide), w_ite, if_neg (by decide), w_ite, if_neg (by decide), w_ite, if_neg (by decide), w_ite, if_neg (by decide), w_ite, if_neg (by decide), w_ite, if_neg (by decide), w_ite, if_neg (by decide), w_ite, if_neg (by decide), w_ite, if_neg (by decide), w_ite, if_neg (by decide), w_ite, if_neg (by decide), w_ite, if_neg (by decide), w_ite, if_neg (by decide), w_ite, if_neg (by decide), w_ite, if_neg (by decide), w_ite, if_neg (by decide), w_ite, if_neg (by decide), w_ite, if_neg (by decide), w_ite, if_neg (by decide), w_ite, if_neg (by decide), w_ite, if_neg (by decide), w_ite, if_neg (by decide), w_ite, if_neg (by decide)]
  rw [w_ite, if_pos (by rfl)]
  rw [w_bd, rdA (j := 1) hs (by omega) (by omega) (nv_add p 1)]
  rw [w_bd]
  refine w_mono (lemL (n := fun h' => X5_write h' (sc (p + 1))) hli (op_write hC hT (sc (p + 1))) (kz_X5_write _ _) Q kk) fun r b hb => ?_
  obtain ⟨hsb, hw⟩ := hb
  rw [w_bd, rdA (j := 1) hsb (by omega) (by omega) (nv_add p 1)]
  exact hw
theorem trn_46 {G : Nat → Nat} {scr len : Nat} {sc : Nat → Int32} {a : Hp} (hli : Li G scr len sc a) {p f : Nat} (hp : p + 5 ≤ len) (hl : len ≤ 120) (hk : sc p &&& 63 = nv 46) (Q : Int32 → Hp → Prop) (kk : ∀ c, Sm2 G scr len sc a c → Wp (L_law_28 f (some scr) (some (G 0)) (some (G 10)) (some (G 20)) (some (G 21)) (nv p + 5)) c Q) : Wp (L_law_28 (f + 1) (some scr) (some (G 0)) (some (G 10)) (some (G 20)) (some (G 21)) (nv p)) a Q := by
  have hli' := hli
  obtain ⟨⟨B, S, hC, hT⟩, hs, hz⟩ := hli'
  rw [L_law_28, w_bd, w_aN, hs.1, hs.2.1]
  refine ⟨rfl, ?_⟩
  rw [w_ite, if_neg (by rw [lt_5 (by omega) (by omega)]; omega), w_bd, rdA (j := 0) hs (by omega) (by omega) rfl, Nat.add_zero, hk, w_ite, if_neg (by decide)]
  rw [w_ite, if_neg (by decide), w_ite, if_neg (by decide), w_ite, if_neg (by decide), w_ite, if_neg (by decide), w_ite, if_neg (by decide), w_ite, if_neg (by decide), w_ite, if_neg (by decide), w_ite, if_neg (by decide), w_ite, if_neg (by decide), w_ite, if_neg (by decide), w_ite, if_neg (by decide), w_ite, if_neg (by decide), w_ite, if_neg (by decide), w_ite, if_neg (by decide), w_ite, if_neg (by decide), w_ite, if_neg (by decide), w_ite, if_neg (by decide), w_ite, if_neg (by decide), w_ite, if_neg (by decide), w_ite, if_neg (by decide), w_ite, if_neg (by decide), w_ite, if_neg (by decide), w_ite, if_neg (by decide), w_ite, if_neg (by decide), w_ite, if_neg (by decide), w_ite, if_neg (by decide), w_ite, if_neg (by decide), w_ite, if_neg (by decide), w_ite, if_neg (by decide), w_ite, if_neg (by decide), w_ite, if_neg (by decide), w_ite, if_neg (by decide), w_ite, if_neg (by decide), w_ite, if_neg (by decide), w_ite, if_neg (by decide), w_ite, if_neg (by decide), w_ite, if_neg (by decide), w_ite, if_neg (by decide), w_ite, if_neg (by decide), w_ite, if_neg (by decide), w_ite, if_neg (by decide), w_ite, if_neg (by decide), w_ite, if_neg (by decide), w_ite, if_neg (by decide), w_ite, if_neg (by decide), w_ite, if_neg (by decide)]
  rw [w_ite, if_pos (by rfl)]
  rw [w_bd, rdA (j := 1) hs (by omega) (by omega) (nv_add p 1)]
  rw [w_bd, w_rc]
  refine ⟨by rw [hC.2.1.1.1], ?_⟩
  rw [w_bd]
  refine w_mono (lemE (n := fun h' => X5_output h' (sc (p + 1))) hli (op_output hC hT (sc (p + 1))) (kz_X5_output _ _) Q kk) fun r b hb => ?_
  obtain ⟨hsb, hw⟩ := hb
  rw [w_bd, rdA (j := 1) hsb (by omega) (by omega) (nv_add p 1)]
  exact hw
theorem trn_47 {G : Nat → Nat} {scr len : Nat} {sc : Nat → Int32} {a : Hp} (hli : Li G scr len sc a) {p f : Nat} (hp : p + 5 ≤ len) (hl : len ≤ 120) (hk : sc p &&& 63 = nv 47) (Q : Int32 → Hp → Prop) (kk : ∀ c, Sm2 G scr len sc a c → Wp (L_law_28 f (some scr) (some (G 0)) (some (G 10)) (some (G 20)) (some (G 21)) (nv p + 5)) c Q) : Wp (L_law_28 (f + 1) (some scr) (some (G 0)) (some (G 10)) (some (G 20)) (some (G 21)) (nv p)) a Q := by
  have hli' := hli
  obtain ⟨⟨B, S, hC, hT⟩, hs, hz⟩ := hli'
  rw [L_law_28, w_bd, w_aN, hs.1, hs.2.1]
  refine ⟨rfl, ?_⟩
  rw [w_ite, if_neg (by rw [lt_5 (by omega) (by omega)]; omega), w_bd, rdA (j := 0) hs (by omega) (by omega) rfl, Nat.add_zero, hk, w_ite, if_neg (by decide)]
  rw [w_ite, if_neg (by decide), w_ite, if_neg (by decide), w_ite, if_neg (by decide), w_ite, if_neg (by decide), w_ite, if_neg (by decide), w_ite, if_neg (by decide), w_ite, if_neg (by decide), w_ite, if_neg (by decide), w_ite, if_neg (by decide), w_ite, if_neg (by decide), w_ite, if_neg (by decide), w_ite, if_neg (by decide), w_ite, if_neg (by decide), w_ite, if_neg (by decide), w_ite, if_neg (by decide), w_ite, if_neg (by decide), w_ite, if_neg (by decide), w_ite, if_neg (by decide), w_ite, if_neg (by decide), w_ite, if_neg (by decide), w_ite, if_neg (by decide), w_ite, if_neg (by decide), w_ite, if_neg (by decide), w_ite, if_neg (by decide), w_ite, if_neg (by decide), w_ite, if_neg (by decide), w_ite, if_neg (by decide), w_ite, if_neg (by decide), w_ite, if_neg (by decide), w_ite, if_neg (by decide), w_ite, if_neg (by decide), w_ite, if_neg (by decide), w_ite, if_neg (by decide), w_ite, if_neg (by decide), w_ite, if_neg (by decide), w_ite, if_neg (by decide), w_ite, if_neg (by decide), w_ite, if_neg (by decide), w_ite, if_neg (by decide), w_ite, if_neg (by decide), w_ite, if_neg (by decide), w_ite, if_neg (by decide), w_ite, if_neg (by decide), w_ite, if_neg (by decide), w_ite, if_neg (by decide), w_ite, if_neg (by decide), w_ite, if_neg (by decide)]
  rw [w_ite, if_pos (by rfl)]
  rw [w_bd, w_rc]
  refine ⟨by rw [hC.2.1.1.1], ?_⟩
  rw [w_bd]
  refine w_mono (lemE (n := fun h' => X5_undo h') hli (op_undo hC hT) (kz_X5_undo _) Q kk) fun r b hb => ?_
  obtain ⟨hsb, hw⟩ := hb
  exact hw
theorem trn_48 {G : Nat → Nat} {scr len : Nat} {sc : Nat → Int32} {a : Hp} (hli : Li G scr len sc a) {p f : Nat} (hp : p + 5 ≤ len) (hl : len ≤ 120) (hk : sc p &&& 63 = nv 48) (Q : Int32 → Hp → Prop) (kk : ∀ c, Sm2 G scr len sc a c → Wp (L_law_28 f (some scr) (some (G 0)) (some (G 10)) (some (G 20)) (some (G 21)) (nv p + 5)) c Q) : Wp (L_law_28 (f + 1) (some scr) (some (G 0)) (some (G 10)) (some (G 20)) (some (G 21)) (nv p)) a Q := by
  have hli' := hli
  obtain ⟨⟨B, S, hC, hT⟩, hs, hz⟩ := hli'
  rw [L_law_28, w_bd, w_aN, hs.1, hs.2.1]
  refine ⟨rfl, ?_⟩
  rw [w_ite, if_neg (by rw [lt_5 (by omega) (by omega)]; omega), w_bd, rdA (j := 0) hs (by omega) (by omega) rfl, Nat.add_zero, hk, w_ite, if_neg (by decide)]
  rw [w_ite, if_neg (by decide), w_ite, if_neg (by decide), w_ite, if_neg (by decide), w_ite, if_neg (by decide), w_ite, if_neg (by decide), w_ite, if_neg (by decide), w_ite, if_neg (by decide), w_ite, if_neg (by decide), w_ite, if_neg (by decide), w_ite, if_neg (by decide), w_ite, if_neg (by decide), w_ite, if_neg (by decide), w_ite, if_neg (by decide), w_ite, if_neg (by decide), w_ite, if_neg (by decide), w_ite, if_neg (by decide), w_ite, if_neg (by decide), w_ite, if_neg (by decide), w_ite, if_neg (by decide), w_ite, if_neg (by decide), w_ite, if_neg (by decide), w_ite, if_neg (by decide), w_ite, if_neg (by decide), w_ite, if_neg (by decide), w_ite, if_neg (by decide), w_ite, if_neg (by decide), w_ite, if_neg (by decide), w_ite, if_neg (by decide), w_ite, if_neg (by decide), w_ite, if_neg (by decide), w_ite, if_neg (by decide), w_ite, if_neg (by decide), w_ite, if_neg (by decide), w_ite, if_neg (by decide), w_ite, if_neg (by decide), w_ite, if_neg (by decide), w_ite, if_neg (by decide), w_ite, if_neg (by decide), w_ite, if_neg (by decide), w_ite, if_neg (by decide), w_ite, if_neg (by decide), w_ite, if_neg (by decide), w_ite, if_neg (by decide), w_ite, if_neg (by decide), w_ite, if_neg (by decide), w_ite, if_neg (by decide), w_ite, if_neg (by decide), w_ite, if_neg (by decide)]
  rw [w_ite, if_pos (by rfl)]
  rw [w_bd, rdA (j := 1) hs (by omega) (by omega) (nv_add p 1)]
  rw [w_bd]
  refine w_mono (lemT (n := fun h' => X5_save h' (sc (p + 1))) hli (op_save hC hT (sc (p + 1))) (kz_X5_save _ _) Q kk) fun r b hb => ?_
  obtain ⟨hsb, hw⟩ := hb
  rw [w_bd, rdA (j := 1) hsb (by omega) (by omega) (nv_add p 1)]
  exact hw
theorem trn_49 {G : Nat → Nat} {scr len : Nat} {sc : Nat → Int32} {a : Hp} (hli : Li G scr len sc a) {p f : Nat} (hp : p + 5 ≤ len) (hl : len ≤ 120) (hk : sc p &&& 63 = nv 49) (Q : Int32 → Hp → Prop) (kk : ∀ c, Sm2 G scr len sc a c → Wp (L_law_28 f (some scr) (some (G 0)) (some (G 10)) (some (G 20)) (some (G 21)) (nv p + 5)) c Q) : Wp (L_law_28 (f + 1) (some scr) (some (G 0)) (some (G 10)) (some (G 20)) (some (G 21)) (nv p)) a Q := by
  have hli' := hli
  obtain ⟨⟨B, S, hC, hT⟩, hs, hz⟩ := hli'
  rw [L_law_28, w_bd, w_aN, hs.1, hs.2.1]
  refine ⟨rfl, ?_⟩
  rw [w_ite, if_neg (by rw [lt_5 (by omega) (by omega)]; omega), w_bd, rdA (j := 0) hs (by omega) (by omega) rfl, Nat.add_zero, hk, w_ite, if_neg (by decide)]
  rw [w_ite, if_neg (by decide), w_ite, if_neg (by decide), w_ite, if_neg (by decide), w_ite, if_neg (by decide), w_ite, if_neg (by decide), w_ite, if_neg (by decide), w_ite, if_neg (by decide), w_ite, if_neg (by decide), w_ite, if_neg (by decide), w_ite, if_neg (by decide), w_ite, if_neg (by decide), w_ite, if_neg (by decide), w_ite, if_neg (by decide), w_ite, if_neg (by decide), w_ite, if_neg (by decide), w_ite, if_neg (by decide), w_ite, if_neg (by decide), w_ite, if_neg (by decide), w_ite, if_neg (by decide), w_ite, if_neg (by decide), w_ite, if_neg (by decide), w_ite, if_neg (by decide), w_ite, if_neg (by decide), w_ite, if_neg (by decide), w_ite, if_neg (by decide), w_ite, if_neg (by decide), w_ite, if_neg (by decide), w_ite, if_neg (by decide), w_ite, if_neg (by decide), w_ite, if_neg (by decide), w_ite, if_neg (by decide), w_ite, if_neg (by decide), w_ite, if_neg (by decide), w_ite, if_neg (by decide), w_ite, if_neg (by decide), w_ite, if_neg (by decide), w_ite, if_neg (by decide), w_ite, if_neg (by decide), w_ite, if_neg (by decide), w_ite, if_neg (by decide), w_ite, if_neg (by decide), w_ite, if_neg (by decide), w_ite, if_neg (by decide), w_ite, if_neg (by decide), w_ite, if_neg (by decide), w_ite, if_neg (by decide), w_ite, if_neg (by decide), w_ite, if_neg (by decide), w_ite, if_neg (by decide)]
  rw [w_ite, if_pos (by rfl)]
  rw [w_bd, rdA (j := 1) hs (by omega) (by omega) (nv_add p 1)]
  rw [w_bd]
  refine w_mono (lemT (n := fun h' => X5_restore h' (sc (p + 1))) hli (op_restore hC hT (sc (p + 1))) (kz_X5_restore _ _) Q kk) fun r b hb => ?_
  obtain ⟨hsb, hw⟩ := hb
  rw [w_bd, rdA (j := 1) hsb (by omega) (by omega) (nv_add p 1)]
  exact hw
theorem trn_all {G : Nat → Nat} {scr len : Nat} {sc : Nat → Int32} {a : Hp} (hli : Li G scr len sc a) {p f : Nat} (hp : p + 5 ≤ len) (hl : len ≤ 120) {k : Nat} (h50 : k < 50) (hk : sc p &&& 63 = nv k) (Q : Int32 → Hp → Prop) (kk : ∀ c, Sm2 G scr len sc a c → Wp (L_law_28 f (some scr) (some (G 0)) (some (G 10)) (some (G 20)) (some (G 21)) (nv p + 5)) c Q) : Wp (L_law_28 (f + 1) (some scr) (some (G 0)) (some (G 10)) (some (G 20)) (some (G 21)) (nv p)) a Q := by
  match k, h50, hk with
  | 0, _, hk => exact trn_0 hli hp hl hk Q kk
  | 1, _, hk => exact trn_1 hli hp hl hk Q kk
  | 2, _, hk => exact trn_2 hli hp hl hk Q kk
  | 3, _, hk => exact trn_3 hli hp hl hk Q kk
  | 4, _, hk => exact trn_4 hli hp hl hk Q kk
  | 5, _, hk => exact trn_5 hli hp hl hk Q kk
  | 6, _, hk => exact trn_6 hli hp hl hk Q kk
  | 7, _, hk => exact trn_7 hli hp hl hk Q kk
  | 8, _, hk => exact trn_8 hli hp hl hk Q kk
  | 9, _, hk => exact trn_9 hli hp hl hk Q kk
  | 10, _, hk => exact trn_10 hli hp hl hk Q kk
  | 11, _, hk => exact trn_11 hli hp hl hk Q kk
  | 12, _, hk => exact trn_12 hli hp hl hk Q kk
  | 13, _, hk => exact trn_13 hli hp hl hk Q kk
  | 14, _, hk => exact trn_14 hli hp hl hk Q kk
  | 15, _, hk => exact trn_15 hli hp hl hk Q kk
  | 16, _, hk => exact trn_16 hli hp hl hk Q kk
  | 17, _, hk => exact trn_17 hli hp hl hk Q kk
  | 18, _, hk => exact trn_18 hli hp hl hk Q kk
  | 19, _, hk => exact trn_19 hli hp hl hk Q kk
  | 20, _, hk => exact trn_20 hli hp hl hk Q kk
  | 21, _, hk => exact trn_21 hli hp hl hk Q kk
  | 22, _, hk => exact trn_22 hli hp hl hk Q kk
  | 23, _, hk => exact trn_23 hli hp hl hk Q kk
  | 24, _, hk => exact trn_24 hli hp hl hk Q kk
  | 25, _, hk => exact trn_25 hli hp hl hk Q kk
  | 26, _, hk => exact trn_26 hli hp hl hk Q kk
  | 27, _, hk => exact trn_27 hli hp hl hk Q kk
  | 28, _, hk => exact trn_28 hli hp hl hk Q kk
  | 29, _, hk => exact trn_29 hli hp hl hk Q kk
  | 30, _, hk => exact trn_30 hli hp hl hk Q kk
  | 31, _, hk => exact trn_31 hli hp hl hk Q kk
  | 32, _, hk => exact trn_32 hli hp hl hk Q kk
  | 33, _, hk => exact trn_33 hli hp hl hk Q kk
  | 34, _, hk => exact trn_34 hli hp hl hk Q kk
  | 35, _, hk => exact trn_35 hli hp hl hk Q kk
  | 36, _, hk => exact trn_36 hli hp hl hk Q kk
  | 37, _, hk => exact trn_37 hli hp hl hk Q kk
  | 38, _, hk => exact trn_38 hli hp hl hk Q kk
  | 39, _, hk => exact trn_39 hli hp hl hk Q kk
  | 40, _, hk => exact trn_40 hli hp hl hk Q kk
  | 41, _, hk => exact trn_41 hli hp hl hk Q kk
  | 42, _, hk => exact trn_42 hli hp hl hk Q kk
  | 43, _, hk => exact trn_43 hli hp hl hk Q kk
  | 44, _, hk => exact trn_44 hli hp hl hk Q kk
  | 45, _, hk => exact trn_45 hli hp hl hk Q kk
  | 46, _, hk => exact trn_46 hli hp hl hk Q kk
  | 47, _, hk => exact trn_47 hli hp hl hk Q kk
  | 48, _, hk => exact trn_48 hli hp hl hk Q kk
  | 49, _, hk => exact trn_49 hli hp hl hk Q kk
  | k + 50, h, _ => exact absurd h (by omega)
