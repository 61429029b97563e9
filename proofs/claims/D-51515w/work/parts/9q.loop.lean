/-! THE LAW'S LOOP: what holds between its turns -/
def Sc (scr len : Nat) (sc : Nat → Int32) (a : Hp) : Prop := hK a scr = 141 ∧ hN a scr = len ∧ hI a scr = sc
def Li (G : Nat → Nat) (scr len : Nat) (sc : Nat → Int32) (a : Hp) : Prop := (∃ B S, JC G B S a ∧ JT G S a) ∧ Sc scr len sc a ∧ scr < hSz a
theorem Li.af {G : Nat → Nat} {scr len : Nat} {sc : Nat → Int32} {a c : Hp} (h : Li G scr len sc a) (g : After G a c) (hz : hSz a ≤ hSz c) : Li G scr len sc c := by
  obtain ⟨-, ⟨h1, h2, h3⟩, h4⟩ := h
  obtain ⟨g1, -, g3⟩ := g
  obtain ⟨e1, e2, e3⟩ := g3 scr h4 (by omega)
  exact ⟨g1, ⟨by rw [e1]; exact h1, by rw [e2]; exact h2, by rw [e3]; exact h3⟩, by omega⟩
/-- after the component's step, before the twin's -/
theorem sc_mid {G : Nat → Nat} {scr len : Nat} {sc : Nat → Int32} {a b c : Hp} (h : Li G scr len sc a) (le : hLe a b) (kp : Kp b c) (af : After G a c) : Sc scr len sc b := by
  obtain ⟨-, ⟨h1, h2, h3⟩, h4⟩ := h
  obtain ⟨l1, l2, l3, l4⟩ := le
  obtain ⟨e1, e2⟩ := l4 scr h4
  have k := (kp scr (by omega) (by rw [e1]; omega)).2.2
  have g := (af.2.2 scr h4 (by omega)).2.2
  exact ⟨by rw [e1]; exact h1, by rw [e2]; exact h2, by rw [← k, g]; exact h3⟩
theorem g10_mid {G : Nat → Nat} {scr len : Nat} {sc : Nat → Int32} {a b : Hp} (h : Li G scr len sc a) (le : hLe a b) : hK b (G 10) = 5 := by
  obtain ⟨⟨B, S, hC, hT⟩, -⟩ := h
  rw [(le.2.2.2 (G 10) (hC.1 10 (by omega)).1).1]
  exact hT.1.1.1
theorem rdA {scr len p j : Nat} {sc : Nat → Int32} {a : Hp} (h : Sc scr len sc a) (hp : p + j < len) (hl : len ≤ 1000) {v : Int32} (hv : v = nv (p + j)) (Q : Int32 → Hp → Prop) : Wp (aI 41 (some scr) v) a Q ↔ Q (sc (p + j)) a := by
  obtain ⟨h1, h2, h3⟩ := h
  rw [hv, w_aI, nv_in (by omega), nv_cl (by omega), h1, h2, h3]
  exact ⟨fun g => g.2, fun g => ⟨⟨rfl, decide_eq_true hp⟩, g⟩⟩
theorem thrown_w {G : Nat → Nat} {c : Hp} (h : hK c (G 10) = 5) (Q : Int32 → Hp → Prop) : Wp (X5_thrown (G 10)) c Q ↔ Q (hI c (G 10) 5) c := by
  simp (disch := omega) only [X5_thrown, ↓w_bd, ↓w_rt, ↓w_bh, sm_l, sm_r, ↓w_okr, ↓w_nm, ↓w_ite, ↓reduceIte, not_true_eq_false, not_false_eq_true, and_true, true_and, and_self, Option.some.injEq, reduceCtorEq, eq_self, ↓w_rc, ↓w_gI, ↓w_gR, ↓w_aN, ↓w_aI, ↓w_aR, ↓w_aL, ↓w_pI, ↓w_pR, ↓w_sI, ↓w_sR, ↓w_sL, ↓w_nO, ↓w_nA, ↓w_nL, ↓w_ca, ↓w_ca0, ↓w_gS, ↓w_gK, ↓w_dv, ↓w_tw, ↓w_rz, ↓w_no, nv_lit, nv_f, nv_add, nv_mul, nv_sub, nv_le, nv_lt, nv_eq, nv_cl, Nat.reduceMod, Nat.reduceMul, Nat.reduceAdd, Nat.zero_add, Nat.add_zero, Nat.mul_zero, decide_eq_true_eq, nv_inT, h]
theorem rz2 (v : Int32) (h : nrk 2 v = true) (a : Hp) (Q : Int32 → Hp → Prop) : Wp (rz 2 v) a Q ↔ Q v a := by
  rw [w_rz]
  exact ⟨fun g => g.2, fun g => ⟨h, g⟩⟩
def Sm2 (G : Nat → Nat) (scr len : Nat) (sc : Nat → Int32) (a c : Hp) : Prop := Li G scr len sc c ∧ hSz a ≤ hSz c ∧ hSz c ≤ hSz a + 50000 ∧ hSl c ≤ hSl a + 228000
theorem sm2 {G : Nat → Nat} {scr len : Nat} {sc : Nat → Int32} {a b c : Hp} (h : Li G scr len sc a) (l1 : hLe a b) (l2 : hLe b c) (af : After G a c) : Sm2 G scr len sc a c := ⟨h.af af (l1.tr l2).1, (l1.tr l2).1, af.2.1.1, af.2.1.2⟩
theorem lemL {G : Nat → Nat} {scr len : Nat} {sc : Nat → Int32} {a : Hp} (hli : Li G scr len sc a) {m : Mr Int32} {n : Nat → Mr Int32} {K : Mr Int32} (hO : OpL G a m (n (G 10))) (hz : Kz (n (G 10))) (Q : Int32 → Hp → Prop) (kk : ∀ c, Sm2 G scr len sc a c → Wp K c Q) :
    Wp m a (fun r b => Sc scr len sc b ∧ Wp (bd (rc 5 (some (G 10))) fun h' => bd (n h') fun x6 => bd (rc 5 (some (G 10))) fun h' => bd (X5_thrown h') fun x7 => if x7 = r then (if ¬ r = 0 then K else bd (aL 44 (some (G 20)) 0) fun x8 => if (lg_cmp (x8.toInt64) (x6.toInt64)) = 0 then K else rz 2 0) else rz 2 0) b Q) := by
  obtain ⟨r, b, hr, hw⟩ := hO
  obtain ⟨w, c, hr2, kp, h5, hv, af⟩ := kz_use hz hw
  have l1 := run_le hr
  have l2 := run_le hr2
  have kc := g10_mid hli (l1.tr l2)
  refine ⟨r, b, hr, sc_mid hli l1 kp af, ?_⟩
  rw [w_bd, w_rc]
  refine ⟨by rw [g10_mid hli l1], ?_⟩
  rw [w_bd]
  refine ⟨w, c, hr2, ?_⟩
  rw [w_bd, w_rc]
  refine ⟨by rw [kc], ?_⟩
  rw [w_bd, thrown_w kc, w_ite, if_pos h5, w_ite]
  have fin := kk c (sm2 hli l1 l2 af)
  by_cases r0 : r = 0
  · obtain ⟨B, S, hC, hT⟩ := af.1
    have k20 : hK c (G 20) = 44 := hC.2.1.2.1.2.2.2.2.2.2.2.1
    have n20 : hN c (G 20) = 1 := hC.2.1.2.2.1.2.2.2.2.2.1
    have e := hv r0
    rw [if_neg (fun g => g r0), w_bd, w_aL, k20, n20]
    refine ⟨by decide, ?_⟩
    rw [show (0 : Int32).toNatClampNeg = 0 from rfl, e, w_ite, if_pos ((lg_cmp_eq _ _).2 rfl)]
    exact fin
  · rw [if_pos r0]
    exact fin
theorem lemE {G : Nat → Nat} {scr len : Nat} {sc : Nat → Int32} {a : Hp} (hli : Li G scr len sc a) {m : Mr Int32} {n : Nat → Mr Int32} {K : Mr Int32} (hO : OpE G a m (n (G 10))) (hz : Kz (n (G 10))) (Q : Int32 → Hp → Prop) (kk : ∀ c, Sm2 G scr len sc a c → Wp K c Q) :
    Wp m a (fun r b => Sc scr len sc b ∧ Wp (bd (rc 5 (some (G 10))) fun h' => bd (n h') fun x16 => if r = x16 then K else rz 2 0) b Q) := by
  obtain ⟨r, b, hr, hw⟩ := hO
  obtain ⟨w, c, hr2, kp, h5, af⟩ := kz_use hz hw
  have l1 := run_le hr
  have l2 := run_le hr2
  refine ⟨r, b, hr, sc_mid hli l1 kp af, ?_⟩
  rw [w_bd, w_rc]
  refine ⟨by rw [g10_mid hli l1], ?_⟩
  rw [w_bd]
  refine ⟨w, c, hr2, ?_⟩
  rw [w_ite, if_pos h5]
  exact kk c (sm2 hli l1 l2 af)
theorem lemT {G : Nat → Nat} {scr len : Nat} {sc : Nat → Int32} {a : Hp} (hli : Li G scr len sc a) {m : Mr Int32} {n : Nat → Mr Unit} {K : Mr Int32} (hO : OpT G a m (n (G 10))) (hz : Kz (n (G 10))) (Q : Int32 → Hp → Prop) (kk : ∀ c, Sm2 G scr len sc a c → Wp K c Q) :
    Wp m a (fun r b => Sc scr len sc b ∧ Wp (bd (rc 5 (some (G 10))) fun h' => bd (n h') fun _ => bd (rc 5 (some (G 10))) fun h' => bd (X5_thrown h') fun x7 => if x7 = r then K else rz 2 0) b Q) := by
  obtain ⟨r, b, hr, hw⟩ := hO
  obtain ⟨w, c, hr2, kp, h5, af⟩ := kz_use hz hw
  have l1 := run_le hr
  have l2 := run_le hr2
  have kc := g10_mid hli (l1.tr l2)
  refine ⟨r, b, hr, sc_mid hli l1 kp af, ?_⟩
  rw [w_bd, w_rc]
  refine ⟨by rw [g10_mid hli l1], ?_⟩
  rw [w_bd]
  refine ⟨w, c, hr2, ?_⟩
  rw [w_bd, w_rc]
  refine ⟨by rw [kc], ?_⟩
  rw [w_bd, thrown_w kc, w_ite, if_pos h5]
  exact kk c (sm2 hli l1 l2 af)
theorem lemM {G : Nat → Nat} {scr len : Nat} {sc : Nat → Int32} {a : Hp} (hli : Li G scr len sc a) {m : Mr UInt64} {n : Nat → Mr UInt64} {K : Mr Int32} {K2 : UInt64 → UInt64 → Mr Int32} (hO : Wp m a (fun z b => Wp (n (G 10)) b (fun w c => z = w ∧ FP.dcmp z z = some .eq ∧ After G a c))) (hz : Kz (n (G 10))) (Q : Int32 → Hp → Prop) (kk : ∀ c, Sm2 G scr len sc a c → Wp K c Q) :
    Wp m a (fun r b => Sc scr len sc b ∧ Wp (bd (rc 5 (some (G 10))) fun h' => bd (n h') fun x16 => if (Op.cmpValue (FP.dcmp r x16) .l) = 0 then K else K2 r x16) b Q) := by
  obtain ⟨r, b, hr, hw⟩ := hO
  obtain ⟨w, c, hr2, kp, h5, h6, af⟩ := kz_use hz hw
  have l1 := run_le hr
  have l2 := run_le hr2
  refine ⟨r, b, hr, sc_mid hli l1 kp af, ?_⟩
  rw [w_bd, w_rc]
  refine ⟨by rw [g10_mid hli l1], ?_⟩
  rw [w_bd]
  refine ⟨w, c, hr2, ?_⟩
  rw [w_ite, if_pos (by rw [← h5, h6]; rfl)]
  exact kk c (sm2 hli l1 l2 af)
theorem lemB {G : Nat → Nat} {scr len : Nat} {sc : Nat → Int32} {a : Hp} (hli : Li G scr len sc a) {m : Mr Int32} {n : Nat → Mr Int32} {K : Mr Int32} (hO : Wp m a (fun r b => Wp (n (G 10)) b (fun w c => PostB G a r w c))) (hz : Kz (n (G 10))) (Q : Int32 → Hp → Prop) (kk : ∀ c, Sm2 G scr len sc a c → Wp K c Q) :
    Wp m a (fun r b => Sc scr len sc b ∧ Wp (bd (rc 5 (some (G 10))) fun h' => bd (n h') fun x6 => bd (rc 5 (some (G 10))) fun h' => bd (X5_thrown h') fun x7 => if x7 = r then (if ¬ r = 0 then K else bd (aL 44 (some (G 20)) 0) fun x8 => if x6 = 0 then (if (lg_cmp (x8.toInt64) 0) = 0 then K else rz 2 0) else (if (lg_cmp (x8.toInt64) 1) = 0 then K else rz 2 0)) else rz 2 0) b Q) := by
  obtain ⟨r, b, hr, hw⟩ := hO
  obtain ⟨w, c, hr2, kp, h5, hv, af⟩ := kz_use hz hw
  have l1 := run_le hr
  have l2 := run_le hr2
  have kc := g10_mid hli (l1.tr l2)
  refine ⟨r, b, hr, sc_mid hli l1 kp af, ?_⟩
  rw [w_bd, w_rc]
  refine ⟨by rw [g10_mid hli l1], ?_⟩
  rw [w_bd]
  refine ⟨w, c, hr2, ?_⟩
  rw [w_bd, w_rc]
  refine ⟨by rw [kc], ?_⟩
  rw [w_bd, thrown_w kc, w_ite, if_pos h5, w_ite]
  have fin := kk c (sm2 hli l1 l2 af)
  by_cases r0 : r = 0
  · obtain ⟨B, S, hC, hT⟩ := af.1
    have k20 : hK c (G 20) = 44 := hC.2.1.2.1.2.2.2.2.2.2.2.1
    have n20 : hN c (G 20) = 1 := hC.2.1.2.2.1.2.2.2.2.2.1
    rw [if_neg (fun g => g r0), w_bd, w_aL, k20, n20]
    refine ⟨by decide, ?_⟩
    rcases hv r0 with ⟨e1, e2⟩ | ⟨e1, e2⟩
    · rw [show (0 : Int32).toNatClampNeg = 0 from rfl, e2, e1, w_ite, if_neg (show ¬ nv 1 = 0 from n10), w_ite, if_pos ((lg_cmp_eq _ _).2 rfl)]
      exact fin
    · rw [show (0 : Int32).toNatClampNeg = 0 from rfl, e2, e1, w_ite, if_pos (show nv 0 = 0 from rfl), w_ite, if_pos ((lg_cmp_eq _ _).2 rfl)]
      exact fin
  · rw [if_pos r0]
    exact fin
theorem lemD {G : Nat → Nat} {scr len : Nat} {sc : Nat → Int32} {a : Hp} (hli : Li G scr len sc a) {m : Mr Int32} {n : Nat → Mr UInt32} {K : Mr Int32} {K2 : UInt64 → UInt64 → UInt32 → Mr Int32} (hO : Wp m a (fun r b => Wp (n (G 10)) b (fun w c => PostD G a r w c))) (hz : Kz (n (G 10))) (Q : Int32 → Hp → Prop) (kk : ∀ c, Sm2 G scr len sc a c → Wp K c Q) :
    Wp m a (fun r b => Sc scr len sc b ∧ Wp (bd (rc 5 (some (G 10))) fun h' => bd (n h') fun x6 => bd (rc 5 (some (G 10))) fun h' => bd (X5_thrown h') fun x7 => if x7 = r then (if ¬ r = 0 then K else bd (aL 45 (some (G 21)) 0) fun x8 => bd (f2d x6) fun x9 => if (Op.cmpValue (FP.dcmp x8 x9) .l) = 0 then K else K2 x8 x9 x6) else rz 2 0) b Q) := by
  obtain ⟨r, b, hr, hw⟩ := hO
  obtain ⟨w, c, hr2, kp, h5, hv, af⟩ := kz_use hz hw
  have l1 := run_le hr
  have l2 := run_le hr2
  have kc := g10_mid hli (l1.tr l2)
  refine ⟨r, b, hr, sc_mid hli l1 kp af, ?_⟩
  rw [w_bd, w_rc]
  refine ⟨by rw [g10_mid hli l1], ?_⟩
  rw [w_bd]
  refine ⟨w, c, hr2, ?_⟩
  rw [w_bd, w_rc]
  refine ⟨by rw [kc], ?_⟩
  rw [w_bd, thrown_w kc, w_ite, if_pos h5, w_ite]
  have fin := kk c (sm2 hli l1 l2 af)
  by_cases r0 : r = 0
  · obtain ⟨B, S, hC, hT⟩ := af.1
    have k21 : hK c (G 21) = 45 := hC.2.1.2.1.2.2.2.2.2.2.2.2
    have n21 : hN c (G 21) = 1 := hC.2.1.2.2.1.2.2.2.2.2.2
    obtain ⟨e1, e2, e3⟩ := hv r0
    rw [if_neg (fun g => g r0), w_bd, w_aL, k21, n21]
    refine ⟨by decide, ?_⟩
    rw [show (0 : Int32).toNatClampNeg = 0 from rfl, e1, w_bd, w_f2d]
    refine ⟨e2, ?_⟩
    rw [w_ite, if_pos (by rw [e3]; rfl)]
    exact fin
  · rw [if_pos r0]
    exact fin
/-- the law's length test -/
theorem lt_5 {len p : Nat} (hl : len ≤ 1000) (hp : p ≤ 1000) : (Int32.ofNat len - 5 < nv p) = (len < p + 5) := by
  apply propext
  by_cases c : 5 ≤ len
  · rw [show Int32.ofNat len - 5 = nv (len - 5) from nv_sub (b := 5) c, nv_lt (by omega) (by omega)]
    omega
  · have : len = 0 ∨ len = 1 ∨ len = 2 ∨ len = 3 ∨ len = 4 := by omega
    refine ⟨fun _ => by omega, fun _ => ?_⟩
    have hneg : Int32.ofNat len - 5 < nv 0 := by
      rcases this with rfl | rfl | rfl | rfl | rfl <;> decide
    rw [Int32.lt_iff_toInt_lt] at hneg ⊢
    rw [nv_int (by omega)] at hneg ⊢
    omega
