/-! MEANS: a quotient of ints is a number -/
theorem b64_t : FP.Core.Fmt.tails FP.Core.b64 = 4503599627370496 := rfl
theorem b64_e : FP.Core.Fmt.exps FP.Core.b64 = 2048 := rfl
theorem b64_p : 2 ^ FP.Core.Fmt.p FP.Core.b64 = 9007199254740992 := rfl
theorem b64_qn : FP.Core.Fmt.qmin FP.Core.b64 = -1074 := rfl
theorem b64_qx : FP.Core.Fmt.qmax FP.Core.b64 = 971 := rfl
/-- a datum that is no NaN and has its fields in range -/
def Sdt (d : FP.Core.Datum) : Prop := match d with
  | .nan => False
  | .inf _ => True
  | .fin _ c q => c < 9007199254740992 ∧ q ≤ 971
theorem sdt_bound (s : Bool) {c : Nat} (q : Int) (hc : c < 9007199254740992) : Sdt (FP.Core.bound FP.Core.b64 s c q) := by
  unfold FP.Core.bound
  rw [b64_qx]
  split
  · rename_i h
    exact ⟨hc, h⟩
  · exact trivial
theorem sdt_settle (s : Bool) (c : Nat) (q : Int) : Sdt (FP.Core.settle FP.Core.b64 s c q) := by
  unfold FP.Core.settle
  rw [b64_p, b64_t]
  split
  · rename_i h
    exact sdt_bound s q h
  · exact sdt_bound s _ (by omega)
theorem sdt_ratio (s : Bool) (n m : Nat) (e : Int) : Sdt (FP.Core.roundRatio FP.Core.b64 s n m e) := by
  unfold FP.Core.roundRatio
  split
  · rw [b64_qn]
    exact ⟨by omega, by omega⟩
  · exact sdt_settle _ _ _
theorem sdt_enc {d : FP.Core.Datum} (h : Sdt d) : ∃ (s : Bool) (e t : Nat), FP.Core.encode FP.Core.b64 d = (s.toNat * 2048 + e) * 4503599627370496 + t ∧ t < 4503599627370496 ∧ e ≤ 2047 ∧ (e = 2047 → t = 0) := by
  cases d with
  | nan => exact h.elim
  | inf s => exact ⟨s, 2047, 0, rfl, by omega, by omega, fun _ => rfl⟩
  | fin s c q =>
    obtain ⟨h1, h2⟩ := h
    unfold FP.Core.encode FP.Core.assemble
    dsimp only
    rw [b64_t, b64_e, b64_qn]
    by_cases g : c < 4503599627370496
    · rw [if_pos g]
      exact ⟨s, 0, c, rfl, g, by omega, fun e => by omega⟩
    · rw [if_neg g]
      exact ⟨s, (q - -1074).toNat + 1, c - 4503599627370496, rfl, by omega, by omega, fun e => by omega⟩
theorem bool_n (s : Bool) : s.toNat ≤ 1 := by cases s <;> decide
theorem sdt_mask {d : FP.Core.Datum} (h : Sdt d) : UInt64.ofNat (FP.Core.encode FP.Core.b64 d) &&& 0x7fffffffffffffff ≤ 0x7ff0000000000000 := by
  obtain ⟨s, e, t, h1, h2, h3, h4⟩ := sdt_enc h
  have hs := bool_n s
  rw [UInt64.le_iff_toNat_le, UInt64.toNat_and, UInt64.toNat_ofNat']
  have e1 : (0x7fffffffffffffff : UInt64).toNat = 2 ^ 63 - 1 := rfl
  have e2 : (0x7ff0000000000000 : UInt64).toNat = 9218868437227405312 := rfl
  rw [e1, e2, Nat.and_two_pow_sub_one_eq_mod, h1]
  omega
/-- the fields of an encoding -/
theorem dec_a {s : Bool} {e t : Nat} (ht : t < 4503599627370496) (he : e < 2047) : ∃ s' c q, FP.Core.decode FP.Core.b64 ((UInt64.ofNat ((s.toNat * 2048 + e) * 4503599627370496 + t)).toNat) = .fin s' c q ∧ (e ≠ 0 → c ≠ 0) := by
  have hs := bool_n s
  rw [UInt64.toNat_ofNat', Nat.mod_eq_of_lt (by omega)]
  have fT : FP.Core.fieldT FP.Core.b64 ((s.toNat * 2048 + e) * 4503599627370496 + t) = t := by
    unfold FP.Core.fieldT
    rw [b64_t]
    omega
  have fE : FP.Core.fieldE FP.Core.b64 ((s.toNat * 2048 + e) * 4503599627370496 + t) = e := by
    unfold FP.Core.fieldE
    rw [b64_t, b64_e]
    omega
  unfold FP.Core.decode
  rw [fE, fT, b64_e, b64_t, if_neg (by omega)]
  by_cases e0 : e = 0
  · rw [if_pos e0]
    exact ⟨_, _, _, rfl, fun g => absurd e0 g⟩
  · rw [if_neg e0]
    exact ⟨_, _, _, rfl, fun _ => by omega⟩
theorem i2d_fin (a : Int32) : ∃ s c q, FP.Core.decode FP.Core.b64 (FP.Core.i2d a).toNat = .fin s c q ∧ (a ≠ 0 → c ≠ 0) := by
  unfold FP.Core.i2d FP.Core.fromInt FP.Core.ofInt FP.Core.round FP.Core.roundRatio
  dsimp only
  have hlo := Int32.le_toInt a
  have hhi := Int32.toInt_lt a
  by_cases z : a.toInt.natAbs = 0
  · rw [if_pos z, b64_qn]
    have e : FP.Core.encode FP.Core.b64 (.fin (decide (a.toInt < 0)) 0 (-1074)) = ((decide (a.toInt < 0)).toNat * 2048 + 0) * 4503599627370496 + 0 := by
      unfold FP.Core.encode FP.Core.assemble
      dsimp only
      rw [b64_t, b64_e, if_pos (by omega)]
    rw [e]
    obtain ⟨s', c, q, h1, -⟩ := dec_a (s := decide (a.toInt < 0)) (e := 0) (t := 0) (by omega) (by omega)
    refine ⟨s', c, q, h1, fun g => absurd ?_ g⟩
    apply Int32.toInt.inj
    have : (0 : Int32).toInt = 0 := rfl
    omega
  · rw [if_neg z]
    obtain ⟨c, hc⟩ : ∃ c, c = a.toInt.natAbs := ⟨_, rfl⟩
    rw [← hc] at z ⊢
    have hc31 : c < 2 ^ 32 := by omega
    have l1 := Nat.log2_self_le z
    have l2 : c < 2 ^ (c.log2 + 1) := Nat.lt_log2_self
    have l3 : c.log2 < 32 := (Nat.log2_lt z).mpr hc31
    obtain ⟨l, hl⟩ : ∃ l, l = c.log2 := ⟨_, rfl⟩
    rw [← hl] at l1 l2 l3
    have lead : FP.Core.leading c 1 = (l : Int) := by
      unfold FP.Core.leading
      have e1 : Nat.log2 1 = 0 := rfl
      rw [← hl, e1]
      dsimp only
      rw [if_pos (by
        have a1 : ((l : Int) - ((0 : Nat) : Int)).toNat = l := by omega
        have a2 : (-((l : Int) - ((0 : Nat) : Int))).toNat = 0 := by omega
        rw [a1, a2]
        omega)]
      omega
    have quan : FP.Core.quantum FP.Core.b64 c 1 0 = (l : Int) - 52 := by
      unfold FP.Core.quantum
      rw [lead, b64_qn]
      have : ((FP.Core.Fmt.p FP.Core.b64 : Nat) : Int) = 53 := rfl
      rw [this]
      omega
    rw [quan]
    have hpow : 2 ^ l * 2 ^ (52 - l) = 4503599627370496 := by
      rw [← Nat.pow_add, show l + (52 - l) = 52 by omega]
    have hpow2 : 2 ^ (l + 1) * 2 ^ (52 - l) = 9007199254740992 := by
      rw [← Nat.pow_add, show l + 1 + (52 - l) = 53 by omega]
    have u1 : FP.Core.unitsNum c 0 ((l : Int) - 52) = c * 2 ^ (52 - l) := by
      unfold FP.Core.unitsNum
      rw [show (0 - ((l : Int) - 52)).toNat = 52 - l by omega]
    have u2 : FP.Core.unitsDen 1 0 ((l : Int) - 52) = 1 := by
      unfold FP.Core.unitsDen
      rw [show ((l : Int) - 52 - 0).toNat = 0 by omega]
    have pos : 0 < 2 ^ (52 - l) := Nat.two_pow_pos _
    have b1 : 4503599627370496 ≤ c * 2 ^ (52 - l) := by
      rw [← hpow]
      exact Nat.mul_le_mul_right _ l1
    have b2 : c * 2 ^ (52 - l) < 9007199254740992 := by
      rw [← hpow2]
      exact Nat.mul_lt_mul_of_pos_right l2 pos
    obtain ⟨C, hC⟩ : ∃ C, C = c * 2 ^ (52 - l) := ⟨_, rfl⟩
    rw [← hC] at u1 b1 b2
    have near : FP.Core.nearest C 1 = C := by
      unfold FP.Core.nearest
      rw [Nat.mod_one, Nat.div_one, if_pos (by omega)]
    have e : FP.Core.encode FP.Core.b64 (FP.Core.roundAt FP.Core.b64 (decide (a.toInt < 0)) c 1 0 ((l : Int) - 52)) = ((decide (a.toInt < 0)).toNat * 2048 + (((l : Int) - 52 - -1074).toNat + 1)) * 4503599627370496 + (C - 4503599627370496) := by
      unfold FP.Core.roundAt FP.Core.settle
      rw [u1, u2, near, b64_p, if_pos b2]
      unfold FP.Core.bound
      rw [b64_qx, if_pos (by omega)]
      unfold FP.Core.encode FP.Core.assemble
      dsimp only
      rw [b64_t, b64_e, b64_qn, if_neg (by omega)]
    rw [e]
    obtain ⟨s', c', q, h1, h2⟩ := dec_a (s := decide (a.toInt < 0)) (e := ((l : Int) - 52 - -1074).toNat + 1) (t := C - 4503599627370496) (by omega) (by omega)
    exact ⟨s', c', q, h1, fun _ => h2 (by omega)⟩
theorem ddiv_ok (x : Int32) {y : Int32} (h : y ≠ 0) : FP.ddiv (FP.i2d x) (FP.i2d y) &&& 0x7fffffffffffffff ≤ 0x7ff0000000000000 := by
  have e : FP.ddiv (FP.i2d x) (FP.i2d y) = UInt64.ofNat (FP.Core.encode FP.Core.b64 (FP.Core.quotient FP.Core.b64 (FP.Core.decode FP.Core.b64 (FP.Core.i2d x).toNat) (FP.Core.decode FP.Core.b64 (FP.Core.i2d y).toNat))) := rfl
  rw [e]
  refine sdt_mask ?_
  obtain ⟨s, c, q, h1, -⟩ := i2d_fin x
  obtain ⟨t, d, r, h2, h3⟩ := i2d_fin y
  rw [h1, h2]
  unfold FP.Core.quotient
  dsimp only
  rw [if_neg (h3 h)]
  exact sdt_ratio _ _ _ _
