set_option maxRecDepth 100000
def X1_requireState (v0 : Int32) : Mr (Ex ⊕ Unit) :=
  if ¬ v0 = 0 then (
    okr (rt ()))
  else
    tw 3 6
def X1_appendText_23 : Nat → Nat → Int32 → Int32 → Mr (Ex ⊕ Int32)
  | 0, _, _, _ => no
  | n + 1, h, v1, v2 =>
    if v2 < 0 then (
      bd (gI 1 1 (some h)) fun x1 =>
      okr (rt x1))
    else
      bd (gR 1 0 (some h)) fun x2 =>
      bd (gI 1 1 (some h)) fun x3 =>
      bd (sI 42 x2 x3 ((v1 >>> (v2 &&& 31)).toInt8.toInt32)) fun _ =>
      bd (gI 1 1 (some h)) fun x4 =>
      bd (pI 0 1 1 (some h) (x4 + 1)) fun _ =>
      X1_appendText_23 n h v1 (v2 + (-8))
def X1_appendText_17 (h : Nat) (v1 : Int32) (w0 : Int32) : Mr (Ex ⊕ Int32) :=
  bh (X1_requireState w0) (fun e => rt (.inl e)) fun _ =>
  X1_appendText_23 FU h v1 24
def X1_appendText (h : Nat) (v1 : Int32) : Mr (Ex ⊕ Int32) :=
  bd (gI 1 1 (some h)) fun x1 =>
  if 500 < (x1 + 4) then (
    X1_appendText_17 h v1 0)
  else
    X1_appendText_17 h v1 1
def X0_appendText (v0 : Option Nat) (v1 : Int32) (v2 : Option Nat) : Mr Int32 :=
  bd (rc 1 v0) fun h' =>
  bh (X1_appendText h' v1) (fun e =>
    if e.1 = 3 then (
      rt 1)
    else
    no) fun x1 =>
  bd (sL 44 v2 0 ((x1.toInt64).toUInt64)) fun _ =>
  rt 0
def X1_isBetween_15 (w0 : Int32) : Mr Int32 :=
  rz 2 w0
def X1_isBetween_14 : Mr Int32 :=
  X1_isBetween_15 0
def X1_isBetween (v0 : Int32) (v1 : Int32) (v2 : Int32) : Mr Int32 :=
  if v0 < v1 then (
    X1_isBetween_14)
  else
    if v2 < v0 then (
      X1_isBetween_14)
    else
      X1_isBetween_15 1
def X1_requireArgument (v0 : Int32) : Mr (Ex ⊕ Unit) :=
  if ¬ v0 = 0 then (
    okr (rt ()))
  else
    tw 1 6
def X1_truncateText (h : Nat) (v1 : Int32) : Mr (Ex ⊕ Int32) :=
  bd (gI 1 1 (some h)) fun x1 =>
  bd (X1_isBetween v1 0 x1) fun x2 =>
  bh (X1_requireArgument x2) (fun e => rt (.inl e)) fun _ =>
  bd (pI 0 1 1 (some h) v1) fun _ =>
  bd (gI 1 1 (some h)) fun x4 =>
  okr (rt x4)
def X0_truncateText (v0 : Option Nat) (v1 : Int32) (v2 : Option Nat) : Mr Int32 :=
  bd (rc 1 v0) fun h' =>
  bh (X1_truncateText h' v1) (fun e =>
    if e.1 = 1 then (
      rt 1)
    else
    no) fun x1 =>
  bd (sL 44 v2 0 ((x1.toInt64).toUInt64)) fun _ =>
  rt 0
def X3_at (h : Nat) (v1 : Int32) : Mr (Option Nat) :=
  bd (gR 3 0 (some h)) fun x1 =>
  bd (aR 46 x1 v1) fun x2 =>
  bd (ca [4, 8, 12, 13] x2) fun _ =>
  rt x2
def X1_lambda_claimsThat_0_13 (w0 : Int32) : Mr Int32 :=
  rz 2 w0
def X1_lambda_claimsThat_0 (v0 : Int32) (v1 : Option Nat) : Mr Int32 :=
  bd (gI 8 7 v1) fun x1 =>
  if ¬ x1 = v0 then (
    X1_lambda_claimsThat_0_13 0)
  else
    X1_lambda_claimsThat_0_13 1
def X1_lambda_trader_2_13 (w0 : Int32) : Mr Int32 :=
  rz 2 w0
def X1_lambda_trader_2 (v0 : Int32) (v1 : Option Nat) : Mr Int32 :=
  bd (gI 4 2 v1) fun x1 =>
  if ¬ x1 = v0 then (
    X1_lambda_trader_2_13 0)
  else
    X1_lambda_trader_2_13 1
def X1_lambda_trader_4_13 (w0 : Int32) : Mr Int32 :=
  rz 2 w0
def X1_lambda_trader_4 (v0 : Int32) (v1 : Option Nat) : Mr Int32 :=
  bd (gI 8 1 v1) fun x1 =>
  if ¬ x1 = v0 then (
    X1_lambda_trader_4_13 0)
  else
    X1_lambda_trader_4_13 1
def X1_lambda_trader_5_23 (w0 : Int32) : Mr Int32 :=
  rz 2 w0
def X1_lambda_trader_5_22 : Mr Int32 :=
  X1_lambda_trader_5_23 0
def X1_lambda_trader_5 (v0 : Int32) (v1 : Int32) (v2 : Option Nat) : Mr Int32 :=
  bd (gI 8 1 v2) fun x1 =>
  if ¬ x1 = v0 then (
    X1_lambda_trader_5_22)
  else
    bd (gI 8 7 v2) fun x2 =>
    if ¬ x2 = (v1 - 3) then (
      X1_lambda_trader_5_22)
    else
      X1_lambda_trader_5_23 1
def X8_isOpen_12 (w0 : Int32) : Mr Int32 :=
  rz 2 w0
def X8_isOpen (h : Nat) : Mr Int32 :=
  bd (gI 8 7 (some h)) fun x1 =>
  if ¬ x1 = 0 then (
    X8_isOpen_12 0)
  else
    X8_isOpen_12 1
def X8_isWith_21 (w0 : Int32) : Mr Int32 :=
  rz 2 w0
def X8_isWith_16 : Mr Int32 :=
  X8_isWith_21 1
def X8_isWith (h : Nat) (v1 : Int32) : Mr Int32 :=
  bd (gI 8 2 (some h)) fun x1 =>
  if x1 = v1 then (
    X8_isWith_16)
  else
    bd (gI 8 3 (some h)) fun x2 =>
    if ¬ x2 = v1 then (
      X8_isWith_21 0)
    else
      X8_isWith_16
def X1_lambda_heap_6_20 (w0 : Int32) : Mr Int32 :=
  rz 2 w0
def X1_lambda_heap_6_19 : Mr Int32 :=
  X1_lambda_heap_6_20 0
def X1_lambda_heap_6 (v0 : Int32) (v1 : Option Nat) : Mr Int32 :=
  bd (rc 8 v1) fun h' =>
  bd (X8_isOpen h') fun x1 =>
  if x1 = 0 then (
    X1_lambda_heap_6_19)
  else
    bd (rc 8 v1) fun h' =>
    bd (X8_isWith h' v0) fun x2 =>
    if x2 = 0 then (
      X1_lambda_heap_6_19)
    else
      X1_lambda_heap_6_20 1
def X8_isClosed_21 (w0 : Int32) : Mr Int32 :=
  rz 2 w0
def X8_isClosed_16 : Mr Int32 :=
  X8_isClosed_21 1
def X8_isClosed (h : Nat) : Mr Int32 :=
  bd (gI 8 7 (some h)) fun x1 =>
  if x1 = 1 then (
    X8_isClosed_16)
  else
    bd (gI 8 7 (some h)) fun x2 =>
    if ¬ x2 = 2 then (
      X8_isClosed_21 0)
    else
      X8_isClosed_16
def X1_lambda_honesty_8_20 (w0 : Int32) : Mr Int32 :=
  rz 2 w0
def X1_lambda_honesty_8_19 : Mr Int32 :=
  X1_lambda_honesty_8_20 0
def X1_lambda_honesty_8 (v0 : Int32) (v1 : Option Nat) : Mr Int32 :=
  bd (gI 8 1 v1) fun x1 =>
  if ¬ x1 = v0 then (
    X1_lambda_honesty_8_19)
  else
    bd (rc 8 v1) fun h' =>
    bd (X8_isClosed h') fun x2 =>
    if x2 = 0 then (
      X1_lambda_honesty_8_19)
    else
      X1_lambda_honesty_8_20 1
def X1_lambda_honesty_9_21 (w0 : Int32) : Mr Int32 :=
  rz 2 w0
def X1_lambda_honesty_9_20 : Mr Int32 :=
  X1_lambda_honesty_9_21 0
def X1_lambda_honesty_9 (v0 : Int32) (v1 : Option Nat) : Mr Int32 :=
  bd (gI 8 1 v1) fun x1 =>
  if ¬ x1 = v0 then (
    X1_lambda_honesty_9_20)
  else
    bd (gI 8 7 v1) fun x2 =>
    if ¬ x2 = 1 then (
      X1_lambda_honesty_9_20)
    else
      X1_lambda_honesty_9_21 1
def X1_lambda_meanTurns_10 (v0 : Option Nat) : Mr Int32 :=
  bd (rc 8 v0) fun h' =>
  bd (X8_isClosed h') fun x1 =>
  rz 2 x1
def IF_fits (r x : Option Nat) : Mr Int32 :=
  bd (gK r) fun p =>
  if p.2 = 61 then
    bd (gI 61 0 (some p.1)) fun c0 =>
    bd (ca [8] x) fun _ =>
    bd (X1_lambda_claimsThat_0 c0 x) fun z => rz 2 z
  else
  if p.2 = 63 then
    bd (gI 63 0 (some p.1)) fun c0 =>
    bd (ca [4] x) fun _ =>
    bd (X1_lambda_trader_2 c0 x) fun z => rz 2 z
  else
  if p.2 = 65 then
    bd (gI 65 0 (some p.1)) fun c0 =>
    bd (ca [8] x) fun _ =>
    bd (X1_lambda_trader_4 c0 x) fun z => rz 2 z
  else
  if p.2 = 66 then
    bd (gI 66 0 (some p.1)) fun c0 =>
    bd (gI 66 1 (some p.1)) fun c1 =>
    bd (ca [8] x) fun _ =>
    bd (X1_lambda_trader_5 c0 c1 x) fun z => rz 2 z
  else
  if p.2 = 67 then
    bd (gI 67 0 (some p.1)) fun c0 =>
    bd (ca [8] x) fun _ =>
    bd (X1_lambda_heap_6 c0 x) fun z => rz 2 z
  else
  if p.2 = 69 then
    bd (gI 69 0 (some p.1)) fun c0 =>
    bd (ca [8] x) fun _ =>
    bd (X1_lambda_honesty_8 c0 x) fun z => rz 2 z
  else
  if p.2 = 70 then
    bd (gI 70 0 (some p.1)) fun c0 =>
    bd (ca [8] x) fun _ =>
    bd (X1_lambda_honesty_9 c0 x) fun z => rz 2 z
  else
  if p.2 = 71 then
    bd (ca [8] x) fun _ =>
    bd (X1_lambda_meanTurns_10 x) fun z => rz 2 z
  else
no
def X1_bit_9 (w0 : Int32) : Mr Int32 :=
  rt w0
def X1_bit (v0 : Int32) : Mr Int32 :=
  if v0 = 0 then (
    X1_bit_9 0)
  else
    X1_bit_9 1
def X1_countOf_4 : Nat → Option Nat → Option Nat → Int32 → Int32 → Mr Int32
  | 0, _, _, _, _ => no
  | n + 1, v0, v1, v2, v3 =>
    bd (gI 3 1 v0) fun x1 =>
    if x1 ≤ v3 then (
      rt v2)
    else
      bd (rc 3 v0) fun h' =>
      bd (X3_at h' v3) fun x2 =>
      bd (IF_fits v1 x2) fun x3 =>
      bd (X1_bit x3) fun x4 =>
      X1_countOf_4 n v0 v1 (v2 + x4) (v3 + 1)
def X1_countOf (v0 : Option Nat) (v1 : Option Nat) : Mr Int32 :=
  X1_countOf_4 FU v0 v1 0 0
def X1_claimsThat (h : Nat) (v1 : Int32) : Mr Int32 :=
  bd (gR 1 4 (some h)) fun x1 =>
  bd (gR 2 1 x1) fun x2 =>
  bd (nL 61 1 (fun j => if j = 0 then v1 else 0) (fun _ => none)) fun q3 =>
  bd (X1_countOf x2 (some q3)) fun x4 =>
  rt x4
def X10_isOf_21 (w0 : Int32) : Mr Int32 :=
  rz 2 w0
def X10_isOf_16 : Mr Int32 :=
  X10_isOf_21 1
def X10_isOf (h : Nat) (v1 : Int32) : Mr Int32 :=
  bd (gI 10 0 (some h)) fun x1 =>
  if v1 = x1 then (
    X10_isOf_16)
  else
    bd (gI 10 1 (some h)) fun x2 =>
    if ¬ v1 = x2 then (
      X10_isOf_21 0)
    else
      X10_isOf_16
def X2_factsOf_49 (k16 : Int32 → Int32 → Option Nat → Int32 → Int32 → Mr Int32) (v1 : Int32) (v3 : Option Nat) (v4 : Int32) (v5 : Int32) (w0 : Int32) (w1 : Int32) : Mr Int32 :=
  bd (X1_bit w1) fun x1 =>
  k16 v1 (w0 + x1) v3 v4 (v5 + 1)
def X2_factsOf_48 (k16 : Int32 → Int32 → Option Nat → Int32 → Int32 → Mr Int32) (v1 : Int32) (v3 : Option Nat) (v4 : Int32) (v5 : Int32) (w0 : Int32) : Mr Int32 :=
  X2_factsOf_49 k16 v1 v3 v4 v5 w0 0
def X2_factsOf_16 : Nat → Int32 → Int32 → Option Nat → Int32 → Int32 → Mr Int32
  | 0, _, _, _, _, _ => no
  | n + 1, v1, v2, v3, v4, v5 =>
    if v4 ≤ v5 then (
      rt v2)
    else
      bd (aR 47 v3 v5) fun x1 =>
      if x1 = none then (
        X2_factsOf_48 (X2_factsOf_16 n) v1 v3 v4 v5 v2)
      else
        bd (rc 10 x1) fun h' =>
        bd (X10_isOf h' v1) fun x2 =>
        if x2 = 0 then (
          X2_factsOf_48 (X2_factsOf_16 n) v1 v3 v4 v5 v2)
        else
          X2_factsOf_49 (X2_factsOf_16 n) v1 v3 v4 v5 v2 1
def X2_factsOf (h : Nat) (v1 : Int32) : Mr Int32 :=
  bd (gR 2 2 (some h)) fun x1 =>
  bd (aR 48 x1 v1) fun x2 =>
  bd (aN 47 x2) fun x3 =>
  X2_factsOf_16 FU v1 0 x2 x3 0
def X2_factsAll_4 : Nat → Nat → Int32 → Int32 → Mr Int32
  | 0, _, _, _ => no
  | n + 1, h, v1, v2 =>
    bd (gR 2 0 (some h)) fun x1 =>
    bd (gI 3 1 x1) fun x2 =>
    if x2 ≤ v2 then (
      bd (dv v1 2) fun x3 =>
      rt x3)
    else
      bd (rc 2 (some h)) fun h' =>
      bd (X2_factsOf h' v2) fun x4 =>
      X2_factsAll_4 n h (v1 + x4) (v2 + 1)
def X2_factsAll (h : Nat) : Mr Int32 :=
  X2_factsAll_4 FU h 0 0
def X4_size_13 : Nat → Int32 → Option Nat → Int32 → Int32 → Mr Int32
  | 0, _, _, _, _ => no
  | n + 1, v1, v2, v3, v4 =>
    if v3 ≤ v4 then (
      rt v1)
    else
      bd (aI 41 v2 v4) fun x1 =>
      X4_size_13 n (v1 + x1) v2 v3 (v4 + 1)
def X4_size (h : Nat) : Mr Int32 :=
  bd (gR 4 1 (some h)) fun x1 =>
  bd (aN 41 x1) fun x2 =>
  X4_size_13 FU 0 x1 x2 0
def X1_lambda_count_1 (v0 : Option Nat) : Mr Int32 :=
  bd (rc 4 v0) fun h' =>
  bd (X4_size h') fun x1 =>
  rt x1
def X1_lambda_trader_3_16 (w0 : Int32) : Mr Int32 :=
  rt w0
def X1_lambda_trader_3 (v0 : Int32) (v1 : Option Nat) : Mr Int32 :=
  bd (gI 4 2 v1) fun x1 =>
  if ¬ x1 = v0 then (
    X1_lambda_trader_3_16 0)
  else
    bd (rc 4 v1) fun h' =>
    bd (X4_size h') fun x2 =>
    X1_lambda_trader_3_16 x2
def X8_heapOf_15 (w0 : Int32) : Mr Int32 :=
  rt w0
def X8_heapOf (h : Nat) (v1 : Int32) : Mr Int32 :=
  if ¬ v1 = 0 then (
    bd (gI 8 3 (some h)) fun x1 =>
    X8_heapOf_15 x1)
  else
    bd (gI 8 2 (some h)) fun x2 =>
    X8_heapOf_15 x2
def X2_left (h : Nat) (v1 : Option Nat) (v2 : Int32) (v3 : Int32) : Mr Int32 :=
  bd (gR 2 0 (some h)) fun x1 =>
  bd (rc 8 v1) fun h' =>
  bd (X8_heapOf h' v2) fun x2 =>
  bd (rc 3 x1) fun h' =>
  bd (X3_at h' x2) fun x3 =>
  bd (ca [4] x3) fun _ =>
  bd (gR 4 1 x3) fun x4 =>
  bd (aI 41 x4 v3) fun x5 =>
  bd (gR 8 5 v1) fun x6 =>
  bd (aR 51 x6 v2) fun x7 =>
  bd (aI 41 x7 v3) fun x8 =>
  rt (x5 - x8)
def X1_tooMuch_63 (k4 : Nat → Option Nat → Int32 → Int32 → Mr Int32) (k36 : Nat → Option Nat → Int32 → Int32 → Int32 → Int32 → Mr Int32) (h : Nat) (v1 : Option Nat) (v3 : Int32) (v4 : Int32) (v5 : Int32) (w0 : Int32) (w1 : Int32) : Mr Int32 :=
  bd (X1_bit w1) fun x1 =>
  k36 h v1 (w0 + x1) v3 v4 (v5 + 1)
def X1_tooMuch_36 (k4 : Nat → Option Nat → Int32 → Int32 → Mr Int32) : Nat → Nat → Option Nat → Int32 → Int32 → Int32 → Int32 → Mr Int32
  | 0, _, _, _, _, _, _ => no
  | n + 1, h, v1, v2, v3, v4, v5 =>
    if v4 ≤ v5 then (
      k4 h v1 v2 (v3 + 1))
    else
      bd (gR 1 4 (some h)) fun x1 =>
      bd (rc 2 x1) fun h' =>
      bd (X2_left h' v1 v3 v5) fun x2 =>
      if 0 ≤ x2 then (
        X1_tooMuch_63 k4 (X1_tooMuch_36 k4 n) h v1 v3 v4 v5 v2 0)
      else
        X1_tooMuch_63 k4 (X1_tooMuch_36 k4 n) h v1 v3 v4 v5 v2 1
def X1_tooMuch_4 : Nat → Nat → Option Nat → Int32 → Int32 → Mr Int32
  | 0, _, _, _, _ => no
  | n + 1, h, v1, v2, v3 =>
    if 2 ≤ v3 then (
      rt v2)
    else
      bd (gR 1 4 (some h)) fun x1 =>
      bd (gR 2 0 x1) fun x2 =>
      bd (rc 8 v1) fun h' =>
      bd (X8_heapOf h' v3) fun x3 =>
      bd (rc 3 x2) fun h' =>
      bd (X3_at h' x3) fun x4 =>
      bd (ca [4] x4) fun _ =>
      bd (gR 4 1 x4) fun x5 =>
      bd (aN 41 x5) fun x6 =>
      X1_tooMuch_36 (X1_tooMuch_4 n) FU h v1 v2 v3 x6 0
def X1_tooMuch (h : Nat) (v1 : Option Nat) : Mr Int32 :=
  X1_tooMuch_4 FU h v1 0 0
def X1_lambda_gap_7_16 (w0 : Int32) : Mr Int32 :=
  rt w0
def X1_lambda_gap_7 (h : Nat) (v1 : Option Nat) : Mr Int32 :=
  bd (rc 8 v1) fun h' =>
  bd (X8_isOpen h') fun x1 =>
  if x1 = 0 then (
    X1_lambda_gap_7_16 0)
  else
    bd (rc 1 (some h)) fun h' =>
    bd (X1_tooMuch h' v1) fun x2 =>
    X1_lambda_gap_7_16 x2
def X1_lambda_meanTurns_11_15 (w0 : Int32) : Mr Int32 :=
  rt w0
def X1_lambda_meanTurns_11 (v0 : Option Nat) : Mr Int32 :=
  bd (rc 8 v0) fun h' =>
  bd (X8_isClosed h') fun x1 =>
  if x1 = 0 then (
    X1_lambda_meanTurns_11_15 0)
  else
    bd (gI 8 8 v0) fun x2 =>
    X1_lambda_meanTurns_11_15 x2
def IF_of (r x : Option Nat) : Mr Int32 :=
  bd (gK r) fun p =>
  if p.2 = 62 then
    bd (ca [4] x) fun _ =>
    bd (X1_lambda_count_1 x) fun z => rz 0 z
  else
  if p.2 = 64 then
    bd (gI 64 0 (some p.1)) fun c0 =>
    bd (ca [4] x) fun _ =>
    bd (X1_lambda_trader_3 c0 x) fun z => rz 0 z
  else
  if p.2 = 68 then
    bd (gR 68 0 (some p.1)) fun c0 =>
    bd (ca [8] x) fun _ =>
    bd (rc 1 c0) fun h =>
    bd (X1_lambda_gap_7 h x) fun z => rz 0 z
  else
  if p.2 = 72 then
    bd (ca [8] x) fun _ =>
    bd (X1_lambda_meanTurns_11 x) fun z => rz 0 z
  else
no
def X1_sumOf_4 : Nat → Option Nat → Option Nat → Int32 → Int32 → Mr Int32
  | 0, _, _, _, _ => no
  | n + 1, v0, v1, v2, v3 =>
    bd (gI 3 1 v0) fun x1 =>
    if x1 ≤ v3 then (
      rt v2)
    else
      bd (rc 3 v0) fun h' =>
      bd (X3_at h' v3) fun x2 =>
      bd (IF_of v1 x2) fun x3 =>
      X1_sumOf_4 n v0 v1 (v2 + x3) (v3 + 1)
def X1_sumOf (v0 : Option Nat) (v1 : Option Nat) : Mr Int32 :=
  X1_sumOf_4 FU v0 v1 0 0
def J1_sub_12 (v0 : Int32) : Mr Int32 :=
  rt v0
def J1_sub (v0 : Int32) (v1 : Int32) (v2 : Int32) : Mr Int32 :=
  if 0 ≤ (v0 - v1) then (
    J1_sub_12 (v0 - v1))
  else
    J1_sub_12 ((v0 - v1) + v2)
def J1_size (h : Nat) : Mr Int32 :=
  bd (gI 11 2 (some h)) fun x1 =>
  bd (gI 11 1 (some h)) fun x2 =>
  bd (gR 11 0 (some h)) fun x3 =>
  bd (aN 46 x3) fun x4 =>
  bd (J1_sub x1 x2 x4) fun x5 =>
  rt x5
def X1_count (h : Nat) (v1 : Int32) : Mr (Ex ⊕ Int32) :=
  if v1.toInt < 0 ∨ 9 < v1.toInt then (
    tw 1 6)
  else
    if v1 = 0 then (
      bd (gR 1 4 (some h)) fun x1 =>
      bd (gR 2 3 x1) fun x2 =>
      bd (aN 41 x2) fun x3 =>
      okr (rt x3))
    else
      if v1 = 1 then (
        bd (gR 1 4 (some h)) fun x4 =>
        bd (gR 2 0 x4) fun x5 =>
        bd (gI 3 1 x5) fun x6 =>
        okr (rt x6))
      else
        if v1 = 2 then (
          bd (gR 1 4 (some h)) fun x7 =>
          bd (gR 2 1 x7) fun x8 =>
          bd (gI 3 1 x8) fun x9 =>
          okr (rt x9))
        else
          if v1 = 3 then (
            bd (rc 1 (some h)) fun h' =>
            bd (X1_claimsThat h' (v1 - 3)) fun x10 =>
            okr (rt x10))
          else
            if v1 = 4 then (
              bd (rc 1 (some h)) fun h' =>
              bd (X1_claimsThat h' (v1 - 3)) fun x11 =>
              okr (rt x11))
            else
              if v1 = 5 then (
                bd (rc 1 (some h)) fun h' =>
                bd (X1_claimsThat h' (v1 - 3)) fun x12 =>
                okr (rt x12))
              else
                if v1 = 6 then (
                  bd (gR 1 4 (some h)) fun x13 =>
                  bd (rc 2 x13) fun h' =>
                  bd (X2_factsAll h') fun x14 =>
                  okr (rt x14))
                else
                  if v1 = 7 then (
                    bd (gR 1 4 (some h)) fun x15 =>
                    bd (gI 2 5 x15) fun x16 =>
                    okr (rt x16))
                  else
                    if v1 = 8 then (
                      bd (gR 1 4 (some h)) fun x17 =>
                      bd (gR 2 0 x17) fun x18 =>
                      bd (gC 62) fun q19 =>
                      bd (X1_sumOf x18 (some q19)) fun x20 =>
                      okr (rt x20))
                    else
                      if v1 = 9 then (
                        bd (gR 1 5 (some h)) fun x21 =>
                        bd (rc 11 x21) fun h' =>
                        bd (J1_size h') fun x22 =>
                        okr (rt x22))
                      else
                        no
def X0_count (v0 : Option Nat) (v1 : Int32) (v2 : Option Nat) : Mr Int32 :=
  bd (rc 1 v0) fun h' =>
  bh (X1_count h' v1) (fun e =>
    if e.1 = 1 then (
      rt 1)
    else
    no) fun x1 =>
  bd (sL 44 v2 0 ((x1.toInt64).toUInt64)) fun _ =>
  rt 0
def X1_tally (h : Nat) (v1 : Int32) : Mr (Ex ⊕ Int32) :=
  bd (X1_isBetween v1 0 6) fun x1 =>
  bh (X1_requireArgument x1) (fun e => rt (.inl e)) fun _ =>
  bd (gR 1 4 (some h)) fun x3 =>
  bd (gR 2 4 x3) fun x4 =>
  bd (aI 41 x4 v1) fun x5 =>
  okr (rt x5)
def X0_tally (v0 : Option Nat) (v1 : Int32) (v2 : Option Nat) : Mr Int32 :=
  bd (rc 1 v0) fun h' =>
  bh (X1_tally h' v1) (fun e =>
    if e.1 = 1 then (
      rt 1)
    else
    no) fun x1 =>
  bd (sL 44 v2 0 ((x1.toInt64).toUInt64)) fun _ =>
  rt 0
def X1_requireIndex (v0 : Int32) : Mr (Ex ⊕ Unit) :=
  if ¬ v0 = 0 then (
    okr (rt ()))
  else
    tw 2 6
def X1_requireTrader (h : Nat) (v1 : Int32) : Mr (Ex ⊕ Unit) :=
  bd (gR 1 4 (some h)) fun x1 =>
  bd (gR 2 3 x1) fun x2 =>
  bd (aN 41 x2) fun x3 =>
  bd (X1_isBetween v1 0 (x3 - 1)) fun x4 =>
  bh (X1_requireIndex x4) (fun e => rt (.inl e)) fun _ =>
  okr (rt ())
def X1_trader (h : Nat) (v1 : Int32) (v2 : Int32) : Mr (Ex ⊕ Int32) :=
  bd (rc 1 (some h)) fun h' =>
  bh (X1_requireTrader h' v1) (fun e => rt (.inl e)) fun _ =>
  if v2.toInt < 0 ∨ 5 < v2.toInt then (
    tw 1 6)
  else
    if v2 = 0 then (
      bd (gR 1 4 (some h)) fun x2 =>
      bd (gR 2 3 x2) fun x3 =>
      bd (aI 41 x3 v1) fun x4 =>
      okr (rt x4))
    else
      if v2 = 1 then (
        bd (gR 1 4 (some h)) fun x5 =>
        bd (gR 2 0 x5) fun x6 =>
        bd (nL 63 1 (fun j => if j = 0 then v1 else 0) (fun _ => none)) fun q7 =>
        bd (X1_countOf x6 (some q7)) fun x8 =>
        okr (rt x8))
      else
        if v2 = 2 then (
          bd (gR 1 4 (some h)) fun x9 =>
          bd (gR 2 0 x9) fun x10 =>
          bd (nL 64 1 (fun j => if j = 0 then v1 else 0) (fun _ => none)) fun q11 =>
          bd (X1_sumOf x10 (some q11)) fun x12 =>
          okr (rt x12))
        else
          if v2 = 3 then (
            bd (gR 1 4 (some h)) fun x13 =>
            bd (gR 2 1 x13) fun x14 =>
            bd (nL 65 1 (fun j => if j = 0 then v1 else 0) (fun _ => none)) fun q15 =>
            bd (X1_countOf x14 (some q15)) fun x16 =>
            okr (rt x16))
          else
            if v2 = 4 then (
              bd (gR 1 4 (some h)) fun x17 =>
              bd (gR 2 1 x17) fun x18 =>
              bd (nL 66 2 (fun j => if j = 0 then v1 else if j = 1 then v2 else 0) (fun _ => none)) fun q19 =>
              bd (X1_countOf x18 (some q19)) fun x20 =>
              okr (rt x20))
            else
              if v2 = 5 then (
                bd (gR 1 4 (some h)) fun x21 =>
                bd (gR 2 1 x21) fun x22 =>
                bd (nL 66 2 (fun j => if j = 0 then v1 else if j = 1 then v2 else 0) (fun _ => none)) fun q23 =>
                bd (X1_countOf x22 (some q23)) fun x24 =>
                okr (rt x24))
              else
                no
def X0_trader (v0 : Option Nat) (v1 : Int32) (v2 : Int32) (v3 : Option Nat) : Mr Int32 :=
  bd (rc 1 v0) fun h' =>
  bh (X1_trader h' v1 v2) (fun e =>
    if e.1 = 1 then (
      rt 2)
    else
    if e.1 = 2 then (
      rt 1)
    else
    no) fun x1 =>
  bd (sL 44 v3 0 ((x1.toInt64).toUInt64)) fun _ =>
  rt 0
def X3_has (h : Nat) (v1 : Int32) : Mr Int32 :=
  bd (gI 3 1 (some h)) fun x1 =>
  bd (X1_isBetween v1 0 (x1 - 1)) fun x2 =>
  rz 2 x2
def X1_heapOf (h : Nat) (v1 : Int32) : Mr (Ex ⊕ (Option Nat)) :=
  bd (gR 1 4 (some h)) fun x1 =>
  bd (gR 2 0 x1) fun x2 =>
  bd (rc 3 x2) fun h' =>
  bd (X3_has h' v1) fun x3 =>
  bh (X1_requireIndex x3) (fun e => rt (.inl e)) fun _ =>
  bd (gR 1 4 (some h)) fun x5 =>
  bd (gR 2 0 x5) fun x6 =>
  bd (rc 3 x6) fun h' =>
  bd (X3_at h' v1) fun x7 =>
  bd (ca [4] x7) fun _ =>
  okr (rt x7)
def X1_sight_16 (w0 : Int32) : Mr Int32 :=
  rt w0
def X1_sight (v0 : Int32) (v1 : Int32) : Mr Int32 :=
  if v1 < v0 then (
    bd (dv (v0 - v1) 2) fun x1 =>
    X1_sight_16 (v1 + x1))
  else
    X1_sight_16 v0
def X4_look_14 : Nat → Int32 → Int32 → Option Nat → Int32 → Int32 → Mr Int32
  | 0, _, _, _, _, _ => no
  | n + 1, v1, v2, v3, v4, v5 =>
    if v4 ≤ v5 then (
      rt v2)
    else
      bd (aI 41 v3 v5) fun x1 =>
      bd (X1_sight x1 v1) fun x2 =>
      X4_look_14 n v1 (v2 + x2) v3 v4 (v5 + 1)
def X4_look (h : Nat) (v1 : Int32) : Mr Int32 :=
  bd (gR 4 1 (some h)) fun x1 =>
  bd (aN 41 x1) fun x2 =>
  X4_look_14 FU v1 0 x1 x2 0
def X10_word (h : Nat) : Mr Int32 :=
  bd (gI 10 2 (some h)) fun x1 =>
  rt x1
def X10_other (h : Nat) : Mr Int32 :=
  bd (gI 10 1 (some h)) fun x1 =>
  rt x1
def X10_one (h : Nat) : Mr Int32 :=
  bd (gI 10 0 (some h)) fun x1 =>
  rt x1
def X9_lay_68 : Mr Unit :=
  rt ()
def X9_lay_67 (w0 : Option Nat) (w1 : Int32) (w2 : Int32) : Mr Unit :=
  bd (sI 41 w0 w1 w2) fun _ =>
  X9_lay_68
def X9_lay_34 (h : Nat) (v1 : Option Nat) : Mr Unit :=
  bd (rc 10 v1) fun h' =>
  bd (X10_word h') fun x1 =>
  if x1 = 0 then (
    X9_lay_68)
  else
    bd (gR 9 1 (some h)) fun x2 =>
    bd (rc 10 v1) fun h' =>
    bd (X10_other h') fun x3 =>
    bd (aR 51 x2 x3) fun x4 =>
    bd (rc 10 v1) fun h' =>
    bd (X10_one h') fun x5 =>
    bd (rc 10 v1) fun h' =>
    bd (X10_word h') fun x6 =>
    if ¬ x6 = 1 then (
      X9_lay_67 x4 x5 1)
    else
      X9_lay_67 x4 x5 2
def X9_lay_33 (h : Nat) (v1 : Option Nat) (w0 : Option Nat) (w1 : Int32) (w2 : Int32) : Mr Unit :=
  bd (sI 41 w0 w1 w2) fun _ =>
  X9_lay_34 h v1
def X9_lay (h : Nat) (v1 : Option Nat) : Mr Unit :=
  bd (rc 10 v1) fun h' =>
  bd (X10_word h') fun x1 =>
  if x1 = 1 then (
    X9_lay_34 h v1)
  else
    bd (gR 9 1 (some h)) fun x2 =>
    bd (rc 10 v1) fun h' =>
    bd (X10_one h') fun x3 =>
    bd (aR 51 x2 x3) fun x4 =>
    bd (rc 10 v1) fun h' =>
    bd (X10_other h') fun x5 =>
    bd (rc 10 v1) fun h' =>
    bd (X10_word h') fun x6 =>
    if ¬ x6 = 0 then (
      X9_lay_33 h v1 x4 x5 1)
    else
      X9_lay_33 h v1 x4 x5 2
def J12_max_10 (w0 : Int32) : Mr Int32 :=
  rt w0
def J12_max (v0 : Int32) (v1 : Int32) : Mr Int32 :=
  if v0 < v1 then (
    J12_max_10 v1)
  else
    J12_max_10 v0
def X9_close_97 (k2 : Nat → Int32 → Mr Unit) (k12 : Nat → Int32 → Int32 → Mr Unit) (h : Nat) (v1 : Int32) (v2 : Int32) : Mr Unit :=
  k12 h v1 (v2 + 1)
def X9_close_91 (k2 : Nat → Int32 → Mr Unit) (k12 : Nat → Int32 → Int32 → Mr Unit) (k32 : Nat → Int32 → Int32 → Int32 → Int32 → Mr Unit) (h : Nat) (v1 : Int32) (v2 : Int32) (v3 : Int32) (v4 : Int32) : Mr Unit :=
  k32 h v1 v2 v3 (v4 + 1)
def X9_close_32 (k2 : Nat → Int32 → Mr Unit) (k12 : Nat → Int32 → Int32 → Mr Unit) : Nat → Nat → Int32 → Int32 → Int32 → Int32 → Mr Unit
  | 0, _, _, _, _, _ => no
  | n + 1, h, v1, v2, v3, v4 =>
    if v3 ≤ 0 then (
      X9_close_97 k2 k12 h v1 v2)
    else
      bd (gI 9 0 (some h)) fun x1 =>
      if x1 ≤ v4 then (
        X9_close_97 k2 k12 h v1 v2)
      else
        bd (gR 9 1 (some h)) fun x2 =>
        bd (aR 51 x2 v1) fun x3 =>
        bd (aI 41 x3 v4) fun x4 =>
        if x4 ≤ 0 then (
          X9_close_91 k2 k12 (X9_close_32 k2 k12 n) h v1 v2 v3 v4)
        else
          bd (gR 9 1 (some h)) fun x5 =>
          bd (aR 51 x5 v2) fun x6 =>
          bd (gR 9 1 (some h)) fun x7 =>
          bd (aR 51 x7 v2) fun x8 =>
          bd (aI 41 x8 v4) fun x9 =>
          bd (gR 9 1 (some h)) fun x10 =>
          bd (aR 51 x10 v1) fun x11 =>
          bd (aI 41 x11 v4) fun x12 =>
          bd (J12_max v3 x12) fun x13 =>
          bd (J12_max x9 x13) fun x14 =>
          bd (sI 41 x6 v4 x14) fun _ =>
          X9_close_91 k2 k12 (X9_close_32 k2 k12 n) h v1 v2 v3 v4
def X9_close_12 (k2 : Nat → Int32 → Mr Unit) : Nat → Nat → Int32 → Int32 → Mr Unit
  | 0, _, _, _ => no
  | n + 1, h, v1, v2 =>
    bd (gI 9 0 (some h)) fun x1 =>
    if x1 ≤ v2 then (
      k2 h (v1 + 1))
    else
      bd (gR 9 1 (some h)) fun x2 =>
      bd (aR 51 x2 v2) fun x3 =>
      bd (aI 41 x3 v1) fun x4 =>
      X9_close_32 k2 (X9_close_12 k2 n) FU h v1 v2 x4 0
def X9_close_2 : Nat → Nat → Int32 → Mr Unit
  | 0, _, _ => no
  | n + 1, h, v1 =>
    bd (gI 9 0 (some h)) fun x1 =>
    if x1 ≤ v1 then (
      rt ())
    else
      X9_close_12 (X9_close_2 n) FU h v1 0
def X9_close (h : Nat) : Mr Unit :=
  X9_close_2 FU h 0
def X9_init (h : Nat) (v1 : Int32) : Mr Unit :=
  bd (pI 0 9 0 (some h) v1) fun _ =>
  bd (n2 51 41 v1 v1) fun q1 =>
  bd (pR 9 1 (some h) (some q1)) fun _ =>
  rt ()
def X2_ways_58 (k17 : Nat → Option Nat → Int32 → Mr (Option Nat)) (k30 : Nat → Option Nat → Int32 → Int32 → Mr (Option Nat)) (h : Nat) (v1 : Option Nat) (v2 : Int32) (v3 : Int32) : Mr (Option Nat) :=
  k30 h v1 v2 (v3 + 1)
def X2_ways_30 (k17 : Nat → Option Nat → Int32 → Mr (Option Nat)) : Nat → Nat → Option Nat → Int32 → Int32 → Mr (Option Nat)
  | 0, _, _, _, _ => no
  | n + 1, h, v1, v2, v3 =>
    if v2 ≤ v3 then (
      k17 h v1 (v2 + 1))
    else
      bd (gR 2 2 (some h)) fun x1 =>
      bd (aR 48 x1 v2) fun x2 =>
      bd (aR 47 x2 v3) fun x3 =>
      if x3 = none then (
        X2_ways_58 k17 (X2_ways_30 k17 n) h v1 v2 v3)
      else
        bd (gR 2 2 (some h)) fun x4 =>
        bd (aR 48 x4 v2) fun x5 =>
        bd (aR 47 x5 v3) fun x6 =>
        bd (rc 9 v1) fun h' =>
        bd (X9_lay h' x6) fun _ =>
        X2_ways_58 k17 (X2_ways_30 k17 n) h v1 v2 v3
def X2_ways_17 : Nat → Nat → Option Nat → Int32 → Mr (Option Nat)
  | 0, _, _, _ => no
  | n + 1, h, v1, v2 =>
    bd (gR 2 0 (some h)) fun x1 =>
    bd (gI 3 1 x1) fun x2 =>
    if x2 ≤ v2 then (
      bd (rc 9 v1) fun h' =>
      bd (X9_close h') fun _ =>
      rt v1)
    else
      X2_ways_30 (X2_ways_17 n) FU h v1 v2 0
def X2_ways (h : Nat) : Mr (Option Nat) :=
  bd (nO 9 2) fun q1 =>
  bd (gR 2 0 (some h)) fun x2 =>
  bd (gI 3 1 x2) fun x3 =>
  bd (X9_init q1 x3) fun _ =>
  X2_ways_17 FU h (some q1) 0
def X9_known_56 (w0 : Int32) : Mr Int32 :=
  rt w0
def X9_known (h : Nat) (v1 : Int32) (v2 : Int32) : Mr Int32 :=
  if ¬ v1 = v2 then (
    bd (gR 9 1 (some h)) fun x1 =>
    bd (aR 51 x1 v1) fun x2 =>
    bd (aI 41 x2 v2) fun x3 =>
    if ¬ x3 = 2 then (
      bd (gR 9 1 (some h)) fun x4 =>
      bd (aR 51 x4 v2) fun x5 =>
      bd (aI 41 x5 v1) fun x6 =>
      if ¬ x6 = 2 then (
        bd (gR 9 1 (some h)) fun x7 =>
        bd (aR 51 x7 v1) fun x8 =>
        bd (aI 41 x8 v2) fun x9 =>
        if ¬ x9 = 1 then (
          X9_known_56 (-1))
        else
          X9_known_56 2)
      else
        X9_known_56 1)
    else
      X9_known_56 0)
  else
    rt 2
def X9_knownOf_33 (k4 : Nat → Int32 → Int32 → Int32 → Mr Int32) (h : Nat) (v1 : Int32) (v3 : Int32) (w0 : Int32) (w1 : Int32) : Mr Int32 :=
  bd (X1_bit w1) fun x1 =>
  k4 h v1 (w0 + x1) (v3 + 1)
def X9_knownOf_32 (k4 : Nat → Int32 → Int32 → Int32 → Mr Int32) (h : Nat) (v1 : Int32) (v3 : Int32) (w0 : Int32) : Mr Int32 :=
  X9_knownOf_33 k4 h v1 v3 w0 0
def X9_knownOf_4 : Nat → Nat → Int32 → Int32 → Int32 → Mr Int32
  | 0, _, _, _, _ => no
  | n + 1, h, v1, v2, v3 =>
    bd (gI 9 0 (some h)) fun x1 =>
    if x1 ≤ v3 then (
      rt v2)
    else
      if v3 = v1 then (
        X9_knownOf_32 (X9_knownOf_4 n) h v1 v3 v2)
      else
        bd (rc 9 (some h)) fun h' =>
        bd (X9_known h' v1 v3) fun x2 =>
        if x2 = (-1) then (
          X9_knownOf_32 (X9_knownOf_4 n) h v1 v3 v2)
        else
          X9_knownOf_33 (X9_knownOf_4 n) h v1 v3 v2 1
def X9_knownOf (h : Nat) (v1 : Int32) : Mr Int32 :=
  X9_knownOf_4 FU h v1 0 0
def X4_greatestRow_13 : Nat → Int32 → Option Nat → Int32 → Int32 → Mr Int32
  | 0, _, _, _, _ => no
  | n + 1, v1, v2, v3, v4 =>
    if v3 ≤ v4 then (
      rt v1)
    else
      bd (aI 41 v2 v4) fun x1 =>
      bd (J12_max v1 x1) fun x2 =>
      X4_greatestRow_13 n x2 v2 v3 (v4 + 1)
def X4_greatestRow (h : Nat) : Mr Int32 :=
  bd (gR 4 1 (some h)) fun x1 =>
  bd (aN 41 x1) fun x2 =>
  X4_greatestRow_13 FU 0 x1 x2 0
def X1_heap (h : Nat) (v1 : Int32) (v2 : Int32) : Mr (Ex ⊕ Int32) :=
  bd (rc 1 (some h)) fun h' =>
  bh (X1_heapOf h' v1) (fun e => rt (.inl e)) fun x1 =>
  if v2.toInt < 0 ∨ 7 < v2.toInt then (
    tw 1 6)
  else
    if v2 = 0 then (
      bd (gI 4 2 x1) fun x2 =>
      okr (rt x2))
    else
      if v2 = 1 then (
        bd (gR 4 1 x1) fun x3 =>
        bd (aN 41 x3) fun x4 =>
        okr (rt x4))
      else
        if v2 = 2 then (
          bd (rc 4 x1) fun h' =>
          bd (X4_size h') fun x5 =>
          okr (rt x5))
        else
          if v2 = 3 then (
            bd (gR 1 4 (some h)) fun x6 =>
            bd (gI 2 5 x6) fun x7 =>
            bd (rc 4 x1) fun h' =>
            bd (X4_look h' x7) fun x8 =>
            okr (rt x8))
          else
            if v2 = 4 then (
              bd (gR 1 4 (some h)) fun x9 =>
              bd (rc 2 x9) fun h' =>
              bd (X2_factsOf h' v1) fun x10 =>
              okr (rt x10))
            else
              if v2 = 5 then (
                bd (gR 1 4 (some h)) fun x11 =>
                bd (gR 2 1 x11) fun x12 =>
                bd (nL 67 1 (fun j => if j = 0 then v1 else 0) (fun _ => none)) fun q13 =>
                bd (X1_countOf x12 (some q13)) fun x14 =>
                okr (rt x14))
              else
                if v2 = 6 then (
                  bd (gR 1 4 (some h)) fun x15 =>
                  bd (rc 2 x15) fun h' =>
                  bd (X2_ways h') fun x16 =>
                  bd (rc 9 x16) fun h' =>
                  bd (X9_knownOf h' v1) fun x17 =>
                  okr (rt x17))
                else
                  if v2 = 7 then (
                    bd (rc 4 x1) fun h' =>
                    bd (X4_greatestRow h') fun x18 =>
                    okr (rt x18))
                  else
                    no
def X0_heap (v0 : Option Nat) (v1 : Int32) (v2 : Int32) (v3 : Option Nat) : Mr Int32 :=
  bd (rc 1 v0) fun h' =>
  bh (X1_heap h' v1 v2) (fun e =>
    if e.1 = 1 then (
      rt 2)
    else
    if e.1 = 2 then (
      rt 1)
    else
    no) fun x1 =>
  bd (sL 44 v3 0 ((x1.toInt64).toUInt64)) fun _ =>
  rt 0
def X1_requireRow (v0 : Option Nat) (v1 : Int32) : Mr (Ex ⊕ Unit) :=
  bd (gR 4 1 v0) fun x1 =>
  bd (aN 41 x1) fun x2 =>
  bd (X1_isBetween v1 0 (x2 - 1)) fun x3 =>
  bh (X1_requireIndex x3) (fun e => rt (.inl e)) fun _ =>
  okr (rt ())
def X1_row_53 (w0 : Int32) : Mr (Ex ⊕ Int32) :=
  okr (rt w0)
def X1_row (h : Nat) (v1 : Int32) (v2 : Int32) (v3 : Int32) : Mr (Ex ⊕ Int32) :=
  bd (rc 1 (some h)) fun h' =>
  bh (X1_heapOf h' v1) (fun e => rt (.inl e)) fun x1 =>
  bh (X1_requireRow x1 v2) (fun e => rt (.inl e)) fun _ =>
  bd (X1_isBetween v3 0 1) fun x3 =>
  bh (X1_requireArgument x3) (fun e => rt (.inl e)) fun _ =>
  if ¬ v3 = 0 then (
    bd (gR 4 1 x1) fun x5 =>
    bd (aI 41 x5 v2) fun x6 =>
    bd (gR 1 4 (some h)) fun x7 =>
    bd (gI 2 5 x7) fun x8 =>
    bd (X1_sight x6 x8) fun x9 =>
    X1_row_53 x9)
  else
    bd (gR 4 1 x1) fun x10 =>
    bd (aI 41 x10 v2) fun x11 =>
    X1_row_53 x11
def X0_row (v0 : Option Nat) (v1 : Int32) (v2 : Int32) (v3 : Int32) (v4 : Option Nat) : Mr Int32 :=
  bd (rc 1 v0) fun h' =>
  bh (X1_row h' v1 v2 v3) (fun e =>
    if e.1 = 1 then (
      rt 2)
    else
    if e.1 = 2 then (
      rt 1)
    else
    no) fun x1 =>
  bd (sL 44 v4 0 ((x1.toInt64).toUInt64)) fun _ =>
  rt 0
def X1_claimOf (h : Nat) (v1 : Int32) : Mr (Ex ⊕ (Option Nat)) :=
  bd (gR 1 4 (some h)) fun x1 =>
  bd (gR 2 1 x1) fun x2 =>
  bd (rc 3 x2) fun h' =>
  bd (X3_has h' v1) fun x3 =>
  bh (X1_requireIndex x3) (fun e => rt (.inl e)) fun _ =>
  bd (gR 1 4 (some h)) fun x5 =>
  bd (gR 2 1 x5) fun x6 =>
  bd (rc 3 x6) fun h' =>
  bd (X3_at h' v1) fun x7 =>
  bd (ca [8] x7) fun _ =>
  okr (rt x7)
def X8_sum_16 : Nat → Int32 → Option Nat → Int32 → Int32 → Mr Int32
  | 0, _, _, _, _ => no
  | n + 1, v2, v3, v4, v5 =>
    if v4 ≤ v5 then (
      rt v2)
    else
      bd (aI 41 v3 v5) fun x1 =>
      X8_sum_16 n (v2 + x1) v3 v4 (v5 + 1)
def X8_sum (h : Nat) (v1 : Int32) : Mr Int32 :=
  bd (gR 8 5 (some h)) fun x1 =>
  bd (aR 51 x1 v1) fun x2 =>
  bd (aN 41 x2) fun x3 =>
  X8_sum_16 FU 0 x2 x3 0
def X2_left_2_40 (w0 : Int32) : Mr Int32 :=
  rt w0
def X2_left_2 (h : Nat) (v1 : Option Nat) (v2 : Int32) : Mr Int32 :=
  bd (rc 8 v1) fun h' =>
  bd (X8_isOpen h') fun x1 =>
  if x1 = 0 then (
    bd (gR 8 6 v1) fun x2 =>
    bd (aI 41 x2 v2) fun x3 =>
    X2_left_2_40 x3)
  else
    bd (gR 2 0 (some h)) fun x4 =>
    bd (rc 8 v1) fun h' =>
    bd (X8_heapOf h' v2) fun x5 =>
    bd (rc 3 x4) fun h' =>
    bd (X3_at h' x5) fun x6 =>
    bd (ca [4] x6) fun _ =>
    bd (rc 4 x6) fun h' =>
    bd (X4_size h') fun x7 =>
    bd (rc 8 v1) fun h' =>
    bd (X8_sum h' v2) fun x8 =>
    X2_left_2_40 (x7 - x8)
def X1_wordOf_19 (w0 : Int32) : Mr Int32 :=
  rt w0
def X1_wordOf (v0 : Int32) (v1 : Int32) : Mr Int32 :=
  if v0 ≤ v1 then (
    if v1 ≤ v0 then (
      X1_wordOf_19 2)
    else
      X1_wordOf_19 1)
  else
    X1_wordOf_19 0
def X2_sizeWord (h : Nat) (v1 : Int32) (v2 : Int32) : Mr Int32 :=
  bd (gR 2 0 (some h)) fun x1 =>
  bd (rc 3 x1) fun h' =>
  bd (X3_at h' v1) fun x2 =>
  bd (ca [4] x2) fun _ =>
  bd (rc 4 x2) fun h' =>
  bd (X4_size h') fun x3 =>
  bd (gR 2 0 (some h)) fun x4 =>
  bd (rc 3 x4) fun h' =>
  bd (X3_at h' v2) fun x5 =>
  bd (ca [4] x5) fun _ =>
  bd (rc 4 x5) fun h' =>
  bd (X4_size h') fun x6 =>
  bd (X1_wordOf x3 x6) fun x7 =>
  rt x7
def X2_isEnded_23 (w0 : Int32) : Mr Int32 :=
  rz 2 w0
def X2_isEnded_18 : Mr Int32 :=
  X2_isEnded_23 1
def X2_isEnded (h : Nat) (v1 : Option Nat) : Mr Int32 :=
  bd (rc 2 (some h)) fun h' =>
  bd (X2_left_2 h' v1 0) fun x1 =>
  if x1 = 0 then (
    X2_isEnded_18)
  else
    bd (rc 2 (some h)) fun h' =>
    bd (X2_left_2 h' v1 1) fun x2 =>
    if ¬ x2 = 0 then (
      X2_isEnded_23 0)
    else
      X2_isEnded_18
def X1_claim_153 (w0 : Int32) : Mr (Ex ⊕ Int32) :=
  bd (X1_bit w0) fun x1 =>
  okr (rt x1)
def X1_claim_152 : Mr (Ex ⊕ Int32) :=
  X1_claim_153 0
def X1_claim_129 (w0 : Int32) : Mr (Ex ⊕ Int32) :=
  okr (rt w0)
def X1_claim (h : Nat) (v1 : Int32) (v2 : Int32) : Mr (Ex ⊕ Int32) :=
  bd (rc 1 (some h)) fun h' =>
  bh (X1_claimOf h' v1) (fun e => rt (.inl e)) fun x1 =>
  if v2.toInt < 0 ∨ 9 < v2.toInt then (
    tw 1 6)
  else
    if v2 = 0 then (
      bd (gI 8 1 x1) fun x2 =>
      okr (rt x2))
    else
      if v2 = 1 then (
        bd (gI 8 2 x1) fun x3 =>
        okr (rt x3))
      else
        if v2 = 2 then (
          bd (gI 8 3 x1) fun x4 =>
          okr (rt x4))
        else
          if v2 = 3 then (
            bd (gI 8 4 x1) fun x5 =>
            okr (rt x5))
          else
            if v2 = 4 then (
              bd (gI 8 7 x1) fun x6 =>
              okr (rt x6))
            else
              if v2 = 5 then (
                bd (gI 8 8 x1) fun x7 =>
                okr (rt x7))
              else
                if v2 = 6 then (
                  bd (gR 1 4 (some h)) fun x8 =>
                  bd (rc 2 x8) fun h' =>
                  bd (X2_left_2 h' x1 (v2 - 6)) fun x9 =>
                  okr (rt x9))
                else
                  if v2 = 7 then (
                    bd (gR 1 4 (some h)) fun x10 =>
                    bd (rc 2 x10) fun h' =>
                    bd (X2_left_2 h' x1 (v2 - 6)) fun x11 =>
                    okr (rt x11))
                  else
                    if v2 = 8 then (
                      bd (rc 8 x1) fun h' =>
                      bd (X8_isOpen h') fun x12 =>
                      if x12 = 0 then (
                        X1_claim_129 (-1))
                      else
                        bd (gR 1 4 (some h)) fun x13 =>
                        bd (gI 8 2 x1) fun x14 =>
                        bd (gI 8 3 x1) fun x15 =>
                        bd (rc 2 x13) fun h' =>
                        bd (X2_sizeWord h' x14 x15) fun x16 =>
                        X1_claim_129 x16)
                    else
                      if v2 = 9 then (
                        bd (rc 8 x1) fun h' =>
                        bd (X8_isOpen h') fun x17 =>
                        if x17 = 0 then (
                          X1_claim_152)
                        else
                          bd (gR 1 4 (some h)) fun x18 =>
                          bd (rc 2 x18) fun h' =>
                          bd (X2_isEnded h' x1) fun x19 =>
                          if x19 = 0 then (
                            X1_claim_152)
                          else
                            X1_claim_153 1)
                      else
                        no
def X0_claim (v0 : Option Nat) (v1 : Int32) (v2 : Int32) (v3 : Option Nat) : Mr Int32 :=
  bd (rc 1 v0) fun h' =>
  bh (X1_claim h' v1 v2) (fun e =>
    if e.1 = 1 then (
      rt 2)
    else
    if e.1 = 2 then (
      rt 1)
    else
    no) fun x1 =>
  bd (sL 44 v3 0 ((x1.toInt64).toUInt64)) fun _ =>
  rt 0
def X1_paired_43 (v2 : Int32) (v3 : Int32) (v4 : Option Nat) (v5 : Int32) : Mr (Ex ⊕ Int32) :=
  bh (X1_requireArgument v5) (fun e => rt (.inl e)) fun _ =>
  bd (gR 8 5 v4) fun x2 =>
  bd (aR 51 x2 v2) fun x3 =>
  bd (aI 41 x3 v3) fun x4 =>
  okr (rt x4)
def X1_paired (h : Nat) (v1 : Int32) (v2 : Int32) (v3 : Int32) : Mr (Ex ⊕ Int32) :=
  bd (rc 1 (some h)) fun h' =>
  bh (X1_claimOf h' v1) (fun e => rt (.inl e)) fun x1 =>
  bd (X1_isBetween v2 0 1) fun x2 =>
  if x2 = 0 then (
    X1_paired_43 v2 v3 x1 x2)
  else
    bd (gR 1 4 (some h)) fun x3 =>
    bd (gR 2 0 x3) fun x4 =>
    bd (rc 8 x1) fun h' =>
    bd (X8_heapOf h' v2) fun x5 =>
    bd (rc 3 x4) fun h' =>
    bd (X3_at h' x5) fun x6 =>
    bd (ca [4] x6) fun _ =>
    bh (X1_requireRow x6 v3) (fun e => rt (.inl e)) fun _ =>
    X1_paired_43 v2 v3 x1 x2
def X0_paired (v0 : Option Nat) (v1 : Int32) (v2 : Int32) (v3 : Int32) (v4 : Option Nat) : Mr Int32 :=
  bd (rc 1 v0) fun h' =>
  bh (X1_paired h' v1 v2 v3) (fun e =>
    if e.1 = 1 then (
      rt 2)
    else
    if e.1 = 2 then (
      rt 1)
    else
    no) fun x1 =>
  bd (sL 44 v4 0 ((x1.toInt64).toUInt64)) fun _ =>
  rt 0
def X1_requireHeaps_8 : Nat → Nat → Option Nat → Int32 → Int32 → Mr (Ex ⊕ Unit)
  | 0, _, _, _, _ => no
  | n + 1, h, v2, v3, v4 =>
    if v3 ≤ v4 then (
      okr (rt ()))
    else
      bd (aI 41 v2 v4) fun x1 =>
      bd (gR 1 4 (some h)) fun x2 =>
      bd (gR 2 0 x2) fun x3 =>
      bd (rc 3 x3) fun h' =>
      bd (X3_has h' x1) fun x4 =>
      bh (X1_requireIndex x4) (fun e => rt (.inl e)) fun _ =>
      X1_requireHeaps_8 n h v2 v3 (v4 + 1)
def X1_requireHeaps (h : Nat) (v1 : Option Nat) : Mr (Ex ⊕ Unit) :=
  bd (aN 41 v1) fun x1 =>
  X1_requireHeaps_8 FU h v1 x1 0
def X2_eyeWord (h : Nat) (v1 : Int32) (v2 : Int32) (v3 : Int32) : Mr Int32 :=
  bd (gR 2 0 (some h)) fun x1 =>
  bd (rc 3 x1) fun h' =>
  bd (X3_at h' v1) fun x2 =>
  bd (ca [4] x2) fun _ =>
  bd (rc 4 x2) fun h' =>
  bd (X4_look h' v3) fun x3 =>
  bd (gR 2 0 (some h)) fun x4 =>
  bd (rc 3 x4) fun h' =>
  bd (X3_at h' v2) fun x5 =>
  bd (ca [4] x5) fun _ =>
  bd (rc 4 x5) fun h' =>
  bd (X4_look h' v3) fun x6 =>
  bd (X1_wordOf x3 x6) fun x7 =>
  rt x7
def X1_byEye (h : Nat) (v1 : Int32) (v2 : Int32) : Mr (Ex ⊕ Int32) :=
  bd (nA 41 2) fun q1 =>
  bd (sI 41 (some q1) 0 v1) fun _ =>
  bd (sI 41 (some q1) 1 v2) fun _ =>
  bd (rc 1 (some h)) fun h' =>
  bh (X1_requireHeaps h' (some q1)) (fun e => rt (.inl e)) fun _ =>
  bd (gR 1 4 (some h)) fun x3 =>
  bd (gR 1 4 (some h)) fun x4 =>
  bd (gI 2 5 x4) fun x5 =>
  bd (rc 2 x3) fun h' =>
  bd (X2_eyeWord h' v1 v2 x5) fun x6 =>
  okr (rt x6)
def X0_byEye (v0 : Option Nat) (v1 : Int32) (v2 : Int32) (v3 : Option Nat) : Mr Int32 :=
  bd (rc 1 v0) fun h' =>
  bh (X1_byEye h' v1 v2) (fun e =>
    if e.1 = 2 then (
      rt 1)
    else
    no) fun x1 =>
  bd (sL 44 v3 0 ((x1.toInt64).toUInt64)) fun _ =>
  rt 0
def X1_turned_17 (w0 : Int32) : Mr Int32 :=
  rt w0
def X1_turned_10 (v0 : Int32) : Mr Int32 :=
  X1_turned_17 v0
def X1_turned (v0 : Int32) : Mr Int32 :=
  if v0 = 2 then (
    X1_turned_10 v0)
  else
    if ¬ v0 = (-1) then (
      X1_turned_17 (1 - v0))
    else
      X1_turned_10 v0
def X10_wordOf_22 (w0 : Int32) : Mr Int32 :=
  rt w0
def X10_wordOf (h : Nat) (v1 : Int32) : Mr Int32 :=
  bd (gI 10 0 (some h)) fun x1 =>
  if ¬ v1 = x1 then (
    bd (gI 10 2 (some h)) fun x2 =>
    bd (X1_turned x2) fun x3 =>
    X10_wordOf_22 x3)
  else
    bd (gI 10 2 (some h)) fun x4 =>
    X10_wordOf_22 x4
def X2_factWord_27 (w0 : Int32) : Mr Int32 :=
  rt w0
def X2_factWord (h : Nat) (v1 : Int32) (v2 : Int32) : Mr Int32 :=
  bd (gR 2 2 (some h)) fun x1 =>
  bd (aR 48 x1 v1) fun x2 =>
  bd (aR 47 x2 v2) fun x3 =>
  if x3 = none then (
    X2_factWord_27 (-1))
  else
    bd (gR 2 2 (some h)) fun x4 =>
    bd (aR 48 x4 v1) fun x5 =>
    bd (aR 47 x5 v2) fun x6 =>
    bd (rc 10 x6) fun h' =>
    bd (X10_wordOf h' v1) fun x7 =>
    X2_factWord_27 x7
def X1_fact (h : Nat) (v1 : Int32) (v2 : Int32) : Mr (Ex ⊕ Int32) :=
  bd (nA 41 2) fun q1 =>
  bd (sI 41 (some q1) 0 v1) fun _ =>
  bd (sI 41 (some q1) 1 v2) fun _ =>
  bd (rc 1 (some h)) fun h' =>
  bh (X1_requireHeaps h' (some q1)) (fun e => rt (.inl e)) fun _ =>
  bd (gR 1 4 (some h)) fun x3 =>
  bd (rc 2 x3) fun h' =>
  bd (X2_factWord h' v1 v2) fun x4 =>
  okr (rt x4)
def X0_fact (v0 : Option Nat) (v1 : Int32) (v2 : Int32) (v3 : Option Nat) : Mr Int32 :=
  bd (rc 1 v0) fun h' =>
  bh (X1_fact h' v1 v2) (fun e =>
    if e.1 = 2 then (
      rt 1)
    else
    no) fun x1 =>
  bd (sL 44 v3 0 ((x1.toInt64).toUInt64)) fun _ =>
  rt 0
def X1_known (h : Nat) (v1 : Int32) (v2 : Int32) : Mr (Ex ⊕ Int32) :=
  bd (nA 41 2) fun q1 =>
  bd (sI 41 (some q1) 0 v1) fun _ =>
  bd (sI 41 (some q1) 1 v2) fun _ =>
  bd (rc 1 (some h)) fun h' =>
  bh (X1_requireHeaps h' (some q1)) (fun e => rt (.inl e)) fun _ =>
  bd (gR 1 4 (some h)) fun x3 =>
  bd (rc 2 x3) fun h' =>
  bd (X2_ways h') fun x4 =>
  bd (rc 9 x4) fun h' =>
  bd (X9_known h' v1 v2) fun x5 =>
  okr (rt x5)
def X0_known (v0 : Option Nat) (v1 : Int32) (v2 : Int32) (v3 : Option Nat) : Mr Int32 :=
  bd (rc 1 v0) fun h' =>
  bh (X1_known h' v1 v2) (fun e =>
    if e.1 = 2 then (
      rt 1)
    else
    no) fun x1 =>
  bd (sL 44 v3 0 ((x1.toInt64).toUInt64)) fun _ =>
  rt 0
def X1_reasonOf_45 (w0 : Int32) : Mr Int32 :=
  rt w0
def X1_reasonOf (h : Nat) (v1 : Int32) (v2 : Int32) : Mr Int32 :=
  if ¬ v1 = v2 then (
    bd (gR 1 4 (some h)) fun x1 =>
    bd (rc 2 x1) fun h' =>
    bd (X2_factWord h' v1 v2) fun x2 =>
    if x2 = (-1) then (
      bd (gR 1 4 (some h)) fun x3 =>
      bd (rc 2 x3) fun h' =>
      bd (X2_ways h') fun x4 =>
      bd (rc 9 x4) fun h' =>
      bd (X9_known h' v1 v2) fun x5 =>
      if x5 = (-1) then (
        X1_reasonOf_45 4)
      else
        X1_reasonOf_45 3)
    else
      X1_reasonOf_45 2)
  else
    rt 1
def X2_leads_31 (w0 : Int32) : Mr Int32 :=
  rz 2 w0
def X2_leads_30 : Mr Int32 :=
  X2_leads_31 0
def X2_leads_26 : Mr Int32 :=
  X2_leads_31 1
def X2_leads (h : Nat) (v1 : Int32) (v2 : Int32) (v3 : Int32) : Mr Int32 :=
  bd (rc 2 (some h)) fun h' =>
  bd (X2_factWord h' v1 v2) fun x1 =>
  if x1 = (-1) then (
    X2_leads_30)
  else
    if x1 = 2 then (
      X2_leads_26)
    else
      if ¬ x1 = v3 then (
        X2_leads_30)
      else
        X2_leads_26
def J12_min_10 (w0 : Int32) : Mr Int32 :=
  rt w0
def J12_min (v0 : Int32) (v1 : Int32) : Mr Int32 :=
  if v1 < v0 then (
    J12_min_10 v1)
  else
    J12_min_10 v0
def X2_waysTo_35 (k13 : Nat → Int32 → Int32 → Option Nat → Int32 → Mr (Option Nat)) (h : Nat) (v1 : Int32) (v2 : Int32) (v3 : Option Nat) (v4 : Int32) (w0 : Option Nat) (w1 : Int32) (w2 : Int32) : Mr (Option Nat) :=
  bd (sI 41 w0 w1 w2) fun _ =>
  k13 h v1 v2 v3 (v4 + 1)
def X2_waysTo_101 (k45 : Nat → Int32 → Option Nat → Int32 → Mr (Option Nat)) (k55 : Nat → Int32 → Option Nat → Int32 → Int32 → Mr (Option Nat)) (k65 : Nat → Int32 → Option Nat → Int32 → Int32 → Int32 → Mr (Option Nat)) (h : Nat) (v2 : Int32) (v3 : Option Nat) (v4 : Int32) (v5 : Int32) (v6 : Int32) : Mr (Option Nat) :=
  k65 h v2 v3 v4 v5 (v6 + 1)
def X2_waysTo_65 (k45 : Nat → Int32 → Option Nat → Int32 → Mr (Option Nat)) (k55 : Nat → Int32 → Option Nat → Int32 → Int32 → Mr (Option Nat)) : Nat → Nat → Int32 → Option Nat → Int32 → Int32 → Int32 → Mr (Option Nat)
  | 0, _, _, _, _, _, _ => no
  | n + 1, h, v2, v3, v4, v5, v6 =>
    bd (aN 41 v3) fun x1 =>
    if x1 ≤ v6 then (
      k55 h v2 v3 v4 (v5 + 1))
    else
      bd (rc 2 (some h)) fun h' =>
      bd (X2_leads h' v5 v6 v2) fun x2 =>
      if x2 = 0 then (
        X2_waysTo_101 k45 k55 (X2_waysTo_65 k45 k55 n) h v2 v3 v4 v5 v6)
      else
        bd (aI 41 v3 v5) fun x3 =>
        bd (aI 41 v3 v6) fun x4 =>
        bd (J12_min x3 (x4 + 1)) fun x5 =>
        bd (sI 41 v3 v5 x5) fun _ =>
        X2_waysTo_101 k45 k55 (X2_waysTo_65 k45 k55 n) h v2 v3 v4 v5 v6
def X2_waysTo_55 (k45 : Nat → Int32 → Option Nat → Int32 → Mr (Option Nat)) : Nat → Nat → Int32 → Option Nat → Int32 → Int32 → Mr (Option Nat)
  | 0, _, _, _, _, _ => no
  | n + 1, h, v2, v3, v4, v5 =>
    bd (aN 41 v3) fun x1 =>
    if x1 ≤ v5 then (
      k45 h v2 v3 (v4 + 1))
    else
      X2_waysTo_65 k45 (X2_waysTo_55 k45 n) FU h v2 v3 v4 v5 0
def X2_waysTo_45 : Nat → Nat → Int32 → Option Nat → Int32 → Mr (Option Nat)
  | 0, _, _, _, _ => no
  | n + 1, h, v2, v3, v4 =>
    bd (aN 41 v3) fun x1 =>
    if x1 ≤ v4 then (
      rt v3)
    else
      X2_waysTo_55 (X2_waysTo_45 n) FU h v2 v3 v4 0
def X2_waysTo_13 : Nat → Nat → Int32 → Int32 → Option Nat → Int32 → Mr (Option Nat)
  | 0, _, _, _, _, _ => no
  | n + 1, h, v1, v2, v3, v4 =>
    bd (aN 41 v3) fun x1 =>
    if x1 ≤ v4 then (
      X2_waysTo_45 FU h v2 v3 0)
    else
      if ¬ v4 = v1 then (
        X2_waysTo_35 (X2_waysTo_13 n) h v1 v2 v3 v4 v3 v4 11)
      else
        X2_waysTo_35 (X2_waysTo_13 n) h v1 v2 v3 v4 v3 v4 0
def X2_waysTo (h : Nat) (v1 : Int32) (v2 : Int32) : Mr (Option Nat) :=
  bd (gR 2 0 (some h)) fun x1 =>
  bd (gI 3 1 x1) fun x2 =>
  bd (nA 41 x2) fun q3 =>
  X2_waysTo_13 FU h v1 v2 (some q3) 0
def X1_secondOf_53 (k14 : Nat → Int32 → Int32 → Option Nat → Int32 → Mr Int32) (h : Nat) (v1 : Int32) (v3 : Int32) (v4 : Option Nat) (v5 : Int32) : Mr Int32 :=
  k14 h v1 v3 v4 (v5 + 1)
def X1_secondOf_14 : Nat → Nat → Int32 → Int32 → Option Nat → Int32 → Mr Int32
  | 0, _, _, _, _, _ => no
  | n + 1, h, v1, v3, v4, v5 =>
    bd (aN 41 v4) fun x1 =>
    if x1 ≤ v5 then (
      rt (-1))
    else
      bd (gR 1 4 (some h)) fun x2 =>
      bd (rc 2 x2) fun h' =>
      bd (X2_leads h' v1 v5 v3) fun x3 =>
      if x3 = 0 then (
        X1_secondOf_53 (X1_secondOf_14 n) h v1 v3 v4 v5)
      else
        bd (aI 41 v4 v5) fun x4 =>
        bd (aI 41 v4 v1) fun x5 =>
        if ¬ (x4 + 1) = x5 then (
          X1_secondOf_53 (X1_secondOf_14 n) h v1 v3 v4 v5)
        else
          rt v5
def X1_secondOf (h : Nat) (v1 : Int32) (v2 : Int32) (v3 : Int32) : Mr Int32 :=
  bd (gR 1 4 (some h)) fun x1 =>
  bd (rc 2 x1) fun h' =>
  bd (X2_waysTo h' v2 v3) fun x2 =>
  X1_secondOf_14 FU h v1 v3 x2 0
def X1_why_80 (w0 : Int32) : Mr (Ex ⊕ Int32) :=
  okr (rt w0)
def X1_why (h : Nat) (v1 : Int32) (v2 : Int32) (v3 : Int32) : Mr (Ex ⊕ Int32) :=
  bd (nA 41 2) fun q1 =>
  bd (sI 41 (some q1) 0 v1) fun _ =>
  bd (sI 41 (some q1) 1 v2) fun _ =>
  bd (rc 1 (some h)) fun h' =>
  bh (X1_requireHeaps h' (some q1)) (fun e => rt (.inl e)) fun _ =>
  bd (X1_isBetween v3 0 2) fun x3 =>
  bh (X1_requireArgument x3) (fun e => rt (.inl e)) fun _ =>
  bd (rc 1 (some h)) fun h' =>
  bd (X1_reasonOf h' v1 v2) fun x5 =>
  bd (gR 1 4 (some h)) fun x6 =>
  bd (rc 2 x6) fun h' =>
  bd (X2_ways h') fun x7 =>
  bd (rc 9 x7) fun h' =>
  bd (X9_known h' v1 v2) fun x8 =>
  if ¬ v3 = 0 then (
    if ¬ v3 = 2 then (
      if x5.toInt < 2 ∨ 4 < x5.toInt then (
        okr (rt 0))
      else
        if x5 = 2 then (
          okr (rt (100 + x8)))
        else
          if x5 = 3 then (
            bd (gR 1 4 (some h)) fun x9 =>
            bd (rc 2 x9) fun h' =>
            bd (X2_waysTo h' v2 x8) fun x10 =>
            bd (aI 41 x10 v1) fun x11 =>
            okr (rt (200 + x11)))
          else
            if x5 = 4 then (
              bd (gR 1 4 (some h)) fun x12 =>
              bd (gR 1 4 (some h)) fun x13 =>
              bd (gI 2 5 x13) fun x14 =>
              bd (rc 2 x12) fun h' =>
              bd (X2_eyeWord h' v1 v2 x14) fun x15 =>
              okr (rt (300 + x15)))
            else
              no)
    else
      if ¬ x5 = 3 then (
        X1_why_80 0)
      else
        bd (rc 1 (some h)) fun h' =>
        bd (X1_secondOf h' v1 v2 x8) fun x16 =>
        X1_why_80 (400 + x16))
  else
    okr (rt x5)
def X0_why (v0 : Option Nat) (v1 : Int32) (v2 : Int32) (v3 : Int32) (v4 : Option Nat) : Mr Int32 :=
  bd (rc 1 v0) fun h' =>
  bh (X1_why h' v1 v2 v3) (fun e =>
    if e.1 = 1 then (
      rt 2)
    else
    if e.1 = 2 then (
      rt 1)
    else
    no) fun x1 =>
  bd (sL 44 v4 0 ((x1.toInt64).toUInt64)) fun _ =>
  rt 0
def X1_seemsRight_40 (w0 : Int32) : Mr (Ex ⊕ Int32) :=
  okr (rz 2 w0)
def X1_seemsRight (h : Nat) (v1 : Int32) : Mr (Ex ⊕ Int32) :=
  bd (rc 1 (some h)) fun h' =>
  bh (X1_claimOf h' v1) (fun e => rt (.inl e)) fun x1 =>
  bd (gR 1 4 (some h)) fun x2 =>
  bd (gI 8 2 x1) fun x3 =>
  bd (gI 8 3 x1) fun x4 =>
  bd (gR 1 4 (some h)) fun x5 =>
  bd (gI 2 5 x5) fun x6 =>
  bd (rc 2 x2) fun h' =>
  bd (X2_eyeWord h' x3 x4 x6) fun x7 =>
  bd (gI 8 4 x1) fun x8 =>
  if ¬ x7 = x8 then (
    X1_seemsRight_40 0)
  else
    X1_seemsRight_40 1
def X0_seemsRight_15 (w0 : Option Nat) (w1 : Int32) (w2 : Int64) : Mr Int32 :=
  bd (sL 44 w0 w1 (w2.toUInt64)) fun _ =>
  rt 0
def X0_seemsRight (v0 : Option Nat) (v1 : Int32) (v2 : Option Nat) : Mr Int32 :=
  bd (rc 1 v0) fun h' =>
  bh (X1_seemsRight h' v1) (fun e =>
    if e.1 = 2 then (
      rt 1)
    else
    no) fun x1 =>
  if x1 = 0 then (
    X0_seemsRight_15 v2 0 0)
  else
    X0_seemsRight_15 v2 0 1
def X2_firstRow_2 : Nat → Nat → Option Nat → Int32 → Int32 → Mr Int32
  | 0, _, _, _, _ => no
  | n + 1, h, v1, v2, v3 =>
    bd (rc 2 (some h)) fun h' =>
    bd (X2_left h' v1 v2 v3) fun x1 =>
    if ¬ x1 = 0 then (
      rt v3)
    else
      X2_firstRow_2 n h v1 v2 (v3 + 1)
def X2_firstRow (h : Nat) (v1 : Option Nat) (v2 : Int32) : Mr Int32 :=
  X2_firstRow_2 FU h v1 v2 0
def X2_pairs (h : Nat) (v1 : Option Nat) (v2 : Int32) (v3 : Int32) : Mr Unit :=
  bd (gR 8 5 v1) fun x1 =>
  bd (aR 51 x1 0) fun x2 =>
  bd (aI 41 x2 v2) fun x3 =>
  bd (sI 41 x2 v2 (x3 + 1)) fun _ =>
  bd (gR 8 5 v1) fun x4 =>
  bd (aR 51 x4 1) fun x5 =>
  bd (aI 41 x5 v3) fun x6 =>
  bd (sI 41 x5 v3 (x6 + 1)) fun _ =>
  bd (gI 8 8 v1) fun x7 =>
  bd (pI 0 8 8 v1 (x7 + 1)) fun _ =>
  bd (gR 2 4 (some h)) fun x8 =>
  bd (aI 41 x8 0) fun x9 =>
  bd (sI 41 x8 0 (x9 + 1)) fun _ =>
  rt ()
def X2_matchOnce (h : Nat) (v1 : Option Nat) : Mr Int32 :=
  bd (rc 2 (some h)) fun h' =>
  bd (X2_firstRow h' v1 0) fun x1 =>
  bd (rc 2 (some h)) fun h' =>
  bd (X2_firstRow h' v1 1) fun x2 =>
  bd (rc 2 (some h)) fun h' =>
  bd (X2_pairs h' v1 x1 x2) fun _ =>
  rt ((10 * x1) + x2)
def X8_init_2 (h : Nat) (v1 : Int32) (v2 : Int32) (v3 : Int32) (v4 : Int32) (v5 : Int32) : Mr Unit :=
  bd (n2 51 41 2 5) fun q1 =>
  bd (pR 8 5 (some h) (some q1)) fun _ =>
  bd (nA 41 2) fun q2 =>
  bd (pR 8 6 (some h) (some q2)) fun _ =>
  bd (pI 0 8 0 (some h) v1) fun _ =>
  bd (pI 0 8 1 (some h) v2) fun _ =>
  bd (pI 0 8 2 (some h) v3) fun _ =>
  bd (pI 0 8 4 (some h) v4) fun _ =>
  bd (pI 0 8 3 (some h) v5) fun _ =>
  rt ()
def X8_init_26 : Nat → Nat → Option Nat → Int32 → Mr Unit
  | 0, _, _, _ => no
  | n + 1, h, v1, v2 =>
    if 2 ≤ v2 then (
      bd (gI 8 7 v1) fun x1 =>
      bd (pI 0 8 7 (some h) x1) fun _ =>
      bd (gI 8 8 v1) fun x2 =>
      bd (pI 0 8 8 (some h) x2) fun _ =>
      rt ())
    else
      bd (gR 8 5 v1) fun x3 =>
      bd (aR 51 x3 v2) fun x4 =>
      bd (gR 8 5 (some h)) fun x5 =>
      bd (aR 51 x5 v2) fun x6 =>
      bd (cpI 41 x4 0 x6 0 5) fun _ =>
      bd (gR 8 6 (some h)) fun x7 =>
      bd (gR 8 6 v1) fun x8 =>
      bd (aI 41 x8 v2) fun x9 =>
      bd (sI 41 x7 v2 x9) fun _ =>
      X8_init_26 n h v1 (v2 + 1)
def X8_init (h : Nat) (v1 : Option Nat) : Mr Unit :=
  bd (gI 8 0 v1) fun x1 =>
  bd (gI 8 1 v1) fun x2 =>
  bd (gI 8 2 v1) fun x3 =>
  bd (gI 8 4 v1) fun x4 =>
  bd (gI 8 3 v1) fun x5 =>
  bd (X8_init_2 h x1 x2 x3 x4 x5) fun _ =>
  X8_init_26 FU h v1 0
def X3_add (h : Nat) (v1 : Option Nat) : Mr Unit :=
  bd (gR 3 0 (some h)) fun x1 =>
  bd (gI 3 1 (some h)) fun x2 =>
  bd (sR 46 [4, 8, 2] x1 x2 v1) fun _ =>
  bd (gI 3 1 (some h)) fun x3 =>
  bd (pI 0 3 1 (some h) (x3 + 1)) fun _ =>
  rt ()
def X4_init_2 (h : Nat) (v1 : Option Nat) (v2 : Int32) (v3 : Int32) : Mr Unit :=
  bd (pI 0 4 0 (some h) v2) fun _ =>
  bd (pI 0 4 2 (some h) v3) fun _ =>
  bd (pR 4 1 (some h) v1) fun _ =>
  rt ()
def X4_init_3 (h : Nat) (v1 : Option Nat) : Mr Unit :=
  bd (gR 4 1 v1) fun x1 =>
  bd (cA 41 x1) fun q2 =>
  bd (caW 41 (some q2)) fun _ =>
  bd (gI 4 0 v1) fun x3 =>
  bd (gI 4 2 v1) fun x4 =>
  bd (X4_init_2 h (some q2) x3 x4) fun _ =>
  rt ()
def X3_init (h : Nat) (v1 : Int32) : Mr Unit :=
  bd (nA 46 v1) fun q1 =>
  bd (pR 3 0 (some h) (some q1)) fun _ =>
  rt ()
def X2_init_59 : Nat → Nat → Int32 → Int32 → Int32 → Mr Unit
  | 0, _, _, _, _ => no
  | n + 1, h, v1, v2, v3 =>
    if v1 ≤ v3 then (
      bd (pI 0 2 5 (some h) v2) fun _ =>
      rt ())
    else
      bd (gR 2 3 (some h)) fun x1 =>
      bd (sI 41 x1 v3 10) fun _ =>
      X2_init_59 n h v1 v2 (v3 + 1)
def X2_init (h : Nat) (v1 : Int32) (v2 : Int32) : Mr Unit :=
  bd (nO 3 2) fun q1 =>
  bd (X3_init q1 10) fun _ =>
  bd (pR 2 0 (some h) (some q1)) fun _ =>
  bd (nO 3 2) fun q3 =>
  bd (X3_init q3 20) fun _ =>
  bd (pR 2 1 (some h) (some q3)) fun _ =>
  bd (n2 48 47 10 10) fun q5 =>
  bd (pR 2 2 (some h) (some q5)) fun _ =>
  bd (nA 41 7) fun q6 =>
  bd (pR 2 4 (some h) (some q6)) fun _ =>
  bd (nA 41 v1) fun q7 =>
  bd (pR 2 3 (some h) (some q7)) fun _ =>
  X2_init_59 FU h v1 v2 0
def X2_init_2_103 : Nat → Nat → Option Nat → Int32 → Mr Unit
  | 0, _, _, _ => no
  | n + 1, h, v1, v2 =>
    if 10 ≤ v2 then (
      bd (gR 2 3 v1) fun x1 =>
      bd (gR 2 3 (some h)) fun x2 =>
      bd (gR 2 3 (some h)) fun x3 =>
      bd (aN 41 x3) fun x4 =>
      bd (cpI 41 x1 0 x2 0 x4) fun _ =>
      bd (gR 2 4 v1) fun x5 =>
      bd (gR 2 4 (some h)) fun x6 =>
      bd (cpI 41 x5 0 x6 0 7) fun _ =>
      rt ())
    else
      bd (gR 2 2 v1) fun x7 =>
      bd (aR 48 x7 v2) fun x8 =>
      bd (gR 2 2 (some h)) fun x9 =>
      bd (aR 48 x9 v2) fun x10 =>
      bd (cpR 47 [10] x8 0 x10 0 10) fun _ =>
      X2_init_2_103 n h v1 (v2 + 1)
def X2_init_2_59 : Nat → Nat → Option Nat → Int32 → Mr Unit
  | 0, _, _, _ => no
  | n + 1, h, v1, v2 =>
    bd (gR 2 1 v1) fun x1 =>
    bd (gI 3 1 x1) fun x2 =>
    if x2 ≤ v2 then (
      X2_init_2_103 FU h v1 0)
    else
      bd (gR 2 1 (some h)) fun x3 =>
      bd (nO 8 9) fun q4 =>
      bd (gR 2 1 v1) fun x5 =>
      bd (rc 3 x5) fun h' =>
      bd (X3_at h' v2) fun x6 =>
      bd (ca [8] x6) fun _ =>
      bd (X8_init q4 x6) fun _ =>
      bd (rc 3 x3) fun h' =>
      bd (X3_add h' (some q4)) fun _ =>
      X2_init_2_59 n h v1 (v2 + 1)
def X2_init_2_15 : Nat → Nat → Option Nat → Int32 → Mr Unit
  | 0, _, _, _ => no
  | n + 1, h, v1, v2 =>
    bd (gR 2 0 v1) fun x1 =>
    bd (gI 3 1 x1) fun x2 =>
    if x2 ≤ v2 then (
      X2_init_2_59 FU h v1 0)
    else
      bd (gR 2 0 (some h)) fun x3 =>
      bd (nO 4 3) fun q4 =>
      bd (gR 2 0 v1) fun x5 =>
      bd (rc 3 x5) fun h' =>
      bd (X3_at h' v2) fun x6 =>
      bd (ca [4] x6) fun _ =>
      bd (X4_init_3 q4 x6) fun _ =>
      bd (rc 3 x3) fun h' =>
      bd (X3_add h' (some q4)) fun _ =>
      X2_init_2_15 n h v1 (v2 + 1)
def X2_init_2 (h : Nat) (v1 : Option Nat) : Mr Unit :=
  bd (gR 2 3 v1) fun x1 =>
  bd (aN 41 x1) fun x2 =>
  bd (gI 2 5 v1) fun x3 =>
  bd (X2_init h x2 x3) fun _ =>
  X2_init_2_15 FU h v1 0
def X1_nextPair_42 : Mr (Ex ⊕ Int32) :=
  okr (rt (-1))
def X1_nextPair_60 : Nat → Int32 → Int32 → Option Nat → Int32 → Mr (Ex ⊕ Int32)
  | 0, _, _, _, _ => no
  | n + 1, v1, v2, v4, v5 =>
    if v2 ≤ v5 then (
      bd (gR 2 1 v4) fun x1 =>
      bd (rc 3 x1) fun h' =>
      bd (X3_at h' v1) fun x2 =>
      bd (ca [8] x2) fun _ =>
      bd (rc 2 v4) fun h' =>
      bd (X2_matchOnce h' x2) fun x3 =>
      okr (rt x3))
    else
      bd (gR 2 1 v4) fun x4 =>
      bd (rc 3 x4) fun h' =>
      bd (X3_at h' v1) fun x5 =>
      bd (ca [8] x5) fun _ =>
      bd (rc 2 v4) fun h' =>
      bd (X2_matchOnce h' x5) fun x6 =>
      X1_nextPair_60 n v1 v2 v4 (v5 + 1)
def X1_nextPair (h : Nat) (v1 : Int32) (v2 : Int32) : Mr (Ex ⊕ Int32) :=
  bd (rc 1 (some h)) fun h' =>
  bh (X1_claimOf h' v1) (fun e => rt (.inl e)) fun x1 =>
  bd (rc 8 x1) fun h' =>
  bd (X8_isOpen h') fun x2 =>
  if x2 = 0 then (
    X1_nextPair_42)
  else
    if v2 < 0 then (
      X1_nextPair_42)
    else
      bd (gR 1 4 (some h)) fun x3 =>
      bd (rc 2 x3) fun h' =>
      bd (X2_left_2 h' x1 0) fun x4 =>
      bd (gR 1 4 (some h)) fun x5 =>
      bd (rc 2 x5) fun h' =>
      bd (X2_left_2 h' x1 1) fun x6 =>
      bd (J12_min x4 x6) fun x7 =>
      if v2 < x7 then (
        bd (nO 2 6) fun q8 =>
        bd (gR 1 4 (some h)) fun x9 =>
        bd (X2_init_2 q8 x9) fun _ =>
        X1_nextPair_60 FU v1 v2 (some q8) 0)
      else
        X1_nextPair_42
def X0_nextPair (v0 : Option Nat) (v1 : Int32) (v2 : Int32) (v3 : Option Nat) : Mr Int32 :=
  bd (rc 1 v0) fun h' =>
  bh (X1_nextPair h' v1 v2) (fun e =>
    if e.1 = 2 then (
      rt 1)
    else
    no) fun x1 =>
  bd (sL 44 v3 0 ((x1.toInt64).toUInt64)) fun _ =>
  rt 0
def X1_groupIn_2 : Nat → Option Nat → Int32 → Int32 → Mr Int32
  | 0, _, _, _ => no
  | n + 1, v0, v1, v2 =>
    bd (rc 9 v0) fun h' =>
    bd (X9_known h' v1 v2) fun x1 =>
    if x1 = 2 then (
      rt v2)
    else
      X1_groupIn_2 n v0 v1 (v2 + 1)
def X1_groupIn (v0 : Option Nat) (v1 : Int32) : Mr Int32 :=
  X1_groupIn_2 FU v0 v1 0
def X1_group (h : Nat) (v1 : Int32) : Mr (Ex ⊕ Int32) :=
  bd (nA 41 1) fun q1 =>
  bd (sI 41 (some q1) 0 v1) fun _ =>
  bd (rc 1 (some h)) fun h' =>
  bh (X1_requireHeaps h' (some q1)) (fun e => rt (.inl e)) fun _ =>
  bd (gR 1 4 (some h)) fun x3 =>
  bd (rc 2 x3) fun h' =>
  bd (X2_ways h') fun x4 =>
  bd (X1_groupIn x4 v1) fun x5 =>
  okr (rt x5)
def X0_group (v0 : Option Nat) (v1 : Int32) (v2 : Option Nat) : Mr Int32 :=
  bd (rc 1 v0) fun h' =>
  bh (X1_group h' v1) (fun e =>
    if e.1 = 2 then (
      rt 1)
    else
    no) fun x1 =>
  bd (sL 44 v2 0 ((x1.toInt64).toUInt64)) fun _ =>
  rt 0
def X1_areOthers_42 (w0 : Int32) : Mr Int32 :=
  rz 2 w0
def X1_areOthers (h : Nat) (v1 : Int32) (v2 : Int32) : Mr Int32 :=
  bd (gR 1 4 (some h)) fun x1 =>
  bd (gR 2 0 x1) fun x2 =>
  bd (rc 3 x2) fun h' =>
  bd (X3_at h' v1) fun x3 =>
  bd (ca [4] x3) fun _ =>
  bd (gI 4 2 x3) fun x4 =>
  bd (gR 1 4 (some h)) fun x5 =>
  bd (gR 2 0 x5) fun x6 =>
  bd (rc 3 x6) fun h' =>
  bd (X3_at h' v2) fun x7 =>
  bd (ca [4] x7) fun _ =>
  bd (gI 4 2 x7) fun x8 =>
  if x4 = x8 then (
    X1_areOthers_42 0)
  else
    X1_areOthers_42 1
def X1_unproved_131 (k18 : Nat → Int32 → Option Nat → Int32 → Int32 → Mr (Ex ⊕ Int32)) (h : Nat) (v1 : Int32) (v2 : Option Nat) (v3 : Int32) (v4 : Int32) : Mr (Ex ⊕ Int32) :=
  k18 h v1 v2 v3 (v4 + 1)
def X1_unproved_120 (k18 : Nat → Int32 → Option Nat → Int32 → Int32 → Mr (Ex ⊕ Int32)) (k61 : Nat → Int32 → Option Nat → Int32 → Int32 → Int32 → Mr (Ex ⊕ Int32)) (h : Nat) (v1 : Int32) (v2 : Option Nat) (v4 : Int32) (v5 : Int32) (w0 : Int32) (w1 : Int32) : Mr (Ex ⊕ Int32) :=
  bd (X1_bit w1) fun x1 =>
  k61 h v1 v2 (w0 + x1) v4 (v5 + 1)
def X1_unproved_119 (k18 : Nat → Int32 → Option Nat → Int32 → Int32 → Mr (Ex ⊕ Int32)) (k61 : Nat → Int32 → Option Nat → Int32 → Int32 → Int32 → Mr (Ex ⊕ Int32)) (h : Nat) (v1 : Int32) (v2 : Option Nat) (v4 : Int32) (v5 : Int32) (w0 : Int32) : Mr (Ex ⊕ Int32) :=
  X1_unproved_120 k18 k61 h v1 v2 v4 v5 w0 0
def X1_unproved_61 (k18 : Nat → Int32 → Option Nat → Int32 → Int32 → Mr (Ex ⊕ Int32)) : Nat → Nat → Int32 → Option Nat → Int32 → Int32 → Int32 → Mr (Ex ⊕ Int32)
  | 0, _, _, _, _, _, _ => no
  | n + 1, h, v1, v2, v3, v4, v5 =>
    bd (gR 1 4 (some h)) fun x1 =>
    bd (gR 2 0 x1) fun x2 =>
    bd (gI 3 1 x2) fun x3 =>
    if x3 ≤ v5 then (
      X1_unproved_131 k18 h v1 v2 v3 v4)
    else
      bd (rc 1 (some h)) fun h' =>
      bd (X1_areOthers h' v4 v5) fun x4 =>
      if x4 = 0 then (
        X1_unproved_119 k18 (X1_unproved_61 k18 n) h v1 v2 v4 v5 v3)
      else
        bd (gR 1 4 (some h)) fun x5 =>
        bd (rc 2 x5) fun h' =>
        bd (X2_sizeWord h' v4 v5) fun x6 =>
        if ¬ x6 = 2 then (
          X1_unproved_119 k18 (X1_unproved_61 k18 n) h v1 v2 v4 v5 v3)
        else
          bd (rc 9 v2) fun h' =>
          bd (X9_known h' v4 v5) fun x7 =>
          if ¬ x7 = (-1) then (
            X1_unproved_119 k18 (X1_unproved_61 k18 n) h v1 v2 v4 v5 v3)
          else
            X1_unproved_120 k18 (X1_unproved_61 k18 n) h v1 v2 v4 v5 v3 1
def X1_unproved_18 : Nat → Nat → Int32 → Option Nat → Int32 → Int32 → Mr (Ex ⊕ Int32)
  | 0, _, _, _, _, _ => no
  | n + 1, h, v1, v2, v3, v4 =>
    bd (gR 1 4 (some h)) fun x1 =>
    bd (gR 2 0 x1) fun x2 =>
    bd (gI 3 1 x2) fun x3 =>
    if x3 ≤ v4 then (
      okr (rt v3))
    else
      bd (gR 1 4 (some h)) fun x4 =>
      bd (gR 2 0 x4) fun x5 =>
      bd (rc 3 x5) fun h' =>
      bd (X3_at h' v4) fun x6 =>
      bd (ca [4] x6) fun _ =>
      bd (gI 4 2 x6) fun x7 =>
      if x7 = v1 then (
        X1_unproved_61 (X1_unproved_18 n) FU h v1 v2 v3 v4 0)
      else
        X1_unproved_131 (X1_unproved_18 n) h v1 v2 v3 v4
def X1_unproved (h : Nat) (v1 : Int32) : Mr (Ex ⊕ Int32) :=
  bd (rc 1 (some h)) fun h' =>
  bh (X1_requireTrader h' v1) (fun e => rt (.inl e)) fun _ =>
  bd (gR 1 4 (some h)) fun x2 =>
  bd (rc 2 x2) fun h' =>
  bd (X2_ways h') fun x3 =>
  X1_unproved_18 FU h v1 x3 0 0
def X0_unproved (v0 : Option Nat) (v1 : Int32) (v2 : Option Nat) : Mr Int32 :=
  bd (rc 1 v0) fun h' =>
  bh (X1_unproved h' v1) (fun e =>
    if e.1 = 2 then (
      rt 1)
    else
    no) fun x1 =>
  bd (sL 44 v2 0 ((x1.toInt64).toUInt64)) fun _ =>
  rt 0
def X1_turnsLeft_38 (w0 : Int32) : Mr (Ex ⊕ Int32) :=
  okr (rt w0)
def X1_turnsLeft (h : Nat) (v1 : Int32) : Mr (Ex ⊕ Int32) :=
  bd (rc 1 (some h)) fun h' =>
  bh (X1_claimOf h' v1) (fun e => rt (.inl e)) fun x1 =>
  bd (rc 8 x1) fun h' =>
  bd (X8_isOpen h') fun x2 =>
  if x2 = 0 then (
    X1_turnsLeft_38 0)
  else
    bd (gR 1 4 (some h)) fun x3 =>
    bd (rc 2 x3) fun h' =>
    bd (X2_left_2 h' x1 0) fun x4 =>
    bd (gR 1 4 (some h)) fun x5 =>
    bd (rc 2 x5) fun h' =>
    bd (X2_left_2 h' x1 1) fun x6 =>
    bd (J12_min x4 x6) fun x7 =>
    X1_turnsLeft_38 x7
def X0_turnsLeft (v0 : Option Nat) (v1 : Int32) (v2 : Option Nat) : Mr Int32 :=
  bd (rc 1 v0) fun h' =>
  bh (X1_turnsLeft h' v1) (fun e =>
    if e.1 = 2 then (
      rt 1)
    else
    no) fun x1 =>
  bd (sL 44 v2 0 ((x1.toInt64).toUInt64)) fun _ =>
  rt 0
def J12_abs_10 (w0 : Int32) : Mr Int32 :=
  rt w0
def J12_abs (v0 : Int32) : Mr Int32 :=
  if 0 ≤ v0 then (
    J12_abs_10 v0)
  else
    J12_abs_10 (-v0)
def X1_apart (v0 : Option Nat) (v1 : Option Nat) : Mr Int32 :=
  bd (rc 4 v0) fun h' =>
  bd (X4_size h') fun x1 =>
  bd (rc 4 v1) fun h' =>
  bd (X4_size h') fun x2 =>
  bd (J12_abs (x1 - x2)) fun x3 =>
  rt x3
def X1_nearest_83 (k19 : Nat → Int32 → Option Nat → Int32 → Int32 → Mr (Ex ⊕ Int32)) (h : Nat) (v1 : Int32) (v2 : Option Nat) (v3 : Int32) (v4 : Int32) : Mr (Ex ⊕ Int32) :=
  k19 h v1 v2 v3 (v4 + 1)
def X1_nearest_19 : Nat → Nat → Int32 → Option Nat → Int32 → Int32 → Mr (Ex ⊕ Int32)
  | 0, _, _, _, _, _ => no
  | n + 1, h, v1, v2, v3, v4 =>
    bd (gR 1 4 (some h)) fun x1 =>
    bd (gR 2 0 x1) fun x2 =>
    bd (gI 3 1 x2) fun x3 =>
    if x3 ≤ v4 then (
      okr (rt v3))
    else
      if v4 = v1 then (
        X1_nearest_83 (X1_nearest_19 n) h v1 v2 v3 v4)
      else
        bd (gR 1 4 (some h)) fun x4 =>
        bd (gR 2 0 x4) fun x5 =>
        bd (rc 3 x5) fun h' =>
        bd (X3_at h' v4) fun x6 =>
        bd (ca [4] x6) fun _ =>
        bd (X1_apart v2 x6) fun x7 =>
        bd (gR 1 4 (some h)) fun x8 =>
        bd (gR 2 0 x8) fun x9 =>
        bd (rc 3 x9) fun h' =>
        bd (X3_at h' v3) fun x10 =>
        bd (ca [4] x10) fun _ =>
        bd (X1_apart v2 x10) fun x11 =>
        if x11 ≤ x7 then (
          X1_nearest_83 (X1_nearest_19 n) h v1 v2 v3 v4)
        else
          X1_nearest_83 (X1_nearest_19 n) h v1 v2 v4 v4
def X1_nearest_15 (h : Nat) (v1 : Int32) (v2 : Option Nat) (w0 : Int32) : Mr (Ex ⊕ Int32) :=
  X1_nearest_19 FU h v1 v2 w0 0
def X1_nearest (h : Nat) (v1 : Int32) : Mr (Ex ⊕ Int32) :=
  bd (rc 1 (some h)) fun h' =>
  bh (X1_heapOf h' v1) (fun e => rt (.inl e)) fun x1 =>
  if ¬ v1 = 0 then (
    X1_nearest_15 h v1 x1 0)
  else
    X1_nearest_15 h v1 x1 1
def X0_nearest (v0 : Option Nat) (v1 : Int32) (v2 : Option Nat) : Mr Int32 :=
  bd (rc 1 v0) fun h' =>
  bh (X1_nearest h' v1) (fun e =>
    if e.1 = 2 then (
      rt 1)
    else
    no) fun x1 =>
  bd (sL 44 v2 0 ((x1.toInt64).toUInt64)) fun _ =>
  rt 0
def X1_refusals (h : Nat) (v1 : Int32) : Mr (Ex ⊕ Int32) :=
  bd (X1_isBetween v1 1 9) fun x1 =>
  bh (X1_requireArgument x1) (fun e => rt (.inl e)) fun _ =>
  bd (gR 1 7 (some h)) fun x3 =>
  bd (aI 41 x3 v1) fun x4 =>
  okr (rt x4)
def X0_refusals (v0 : Option Nat) (v1 : Int32) (v2 : Option Nat) : Mr Int32 :=
  bd (rc 1 v0) fun h' =>
  bh (X1_refusals h' v1) (fun e =>
    if e.1 = 1 then (
      rt 1)
    else
    no) fun x1 =>
  bd (sL 44 v2 0 ((x1.toInt64).toUInt64)) fun _ =>
  rt 0
def X1_honesty_52 (w0 : UInt32) : Mr (Ex ⊕ UInt32) :=
  okr (rt w0)
def X1_honesty (h : Nat) (v1 : Int32) : Mr (Ex ⊕ UInt32) :=
  bd (rc 1 (some h)) fun h' =>
  bh (X1_requireTrader h' v1) (fun e => rt (.inl e)) fun _ =>
  bd (gR 1 4 (some h)) fun x2 =>
  bd (gR 2 1 x2) fun x3 =>
  bd (nL 69 1 (fun j => if j = 0 then v1 else 0) (fun _ => none)) fun q4 =>
  bd (X1_countOf x3 (some q4)) fun x5 =>
  bd (gR 1 4 (some h)) fun x6 =>
  bd (gR 2 1 x6) fun x7 =>
  bd (nL 70 1 (fun j => if j = 0 then v1 else 0) (fun _ => none)) fun q8 =>
  bd (X1_countOf x7 (some q8)) fun x9 =>
  if ¬ x5 = 0 then (
    bd (fdv (FP.i2f x9) (FP.i2f x5)) fun x10 =>
    X1_honesty_52 x10)
  else
    X1_honesty_52 (FP.fconst1)
def X0_honesty (v0 : Option Nat) (v1 : Int32) (v2 : Option Nat) : Mr Int32 :=
  bd (rc 1 v0) fun h' =>
  bh (X1_honesty h' v1) (fun e =>
    if e.1 = 2 then (
      rt 1)
    else
    no) fun x1 =>
  bd (f2d x1) fun x2 =>
  bd (sL 45 v2 0 x2) fun _ =>
  rt 0
def X2_errors_48 (k4 : Nat → Int32 → Int32 → Int32 → Mr Int32) (k18 : Nat → Int32 → Int32 → Int32 → Int32 → Mr Int32) (h : Nat) (v1 : Int32) (v3 : Int32) (v4 : Int32) (w0 : Int32) (w1 : Int32) : Mr Int32 :=
  bd (X1_bit w1) fun x1 =>
  k18 h v1 (w0 + x1) v3 (v4 + 1)
def X2_errors_18 (k4 : Nat → Int32 → Int32 → Int32 → Mr Int32) : Nat → Nat → Int32 → Int32 → Int32 → Int32 → Mr Int32
  | 0, _, _, _, _, _ => no
  | n + 1, h, v1, v2, v3, v4 =>
    if v3 ≤ v4 then (
      k4 h v1 v2 (v3 + 1))
    else
      bd (rc 2 (some h)) fun h' =>
      bd (X2_eyeWord h' v3 v4 v1) fun x1 =>
      bd (rc 2 (some h)) fun h' =>
      bd (X2_sizeWord h' v3 v4) fun x2 =>
      if x1 = x2 then (
        X2_errors_48 k4 (X2_errors_18 k4 n) h v1 v3 v4 v2 0)
      else
        X2_errors_48 k4 (X2_errors_18 k4 n) h v1 v3 v4 v2 1
def X2_errors_4 : Nat → Nat → Int32 → Int32 → Int32 → Mr Int32
  | 0, _, _, _, _ => no
  | n + 1, h, v1, v2, v3 =>
    bd (gR 2 0 (some h)) fun x1 =>
    bd (gI 3 1 x1) fun x2 =>
    if x2 ≤ v3 then (
      rt v2)
    else
      X2_errors_18 (X2_errors_4 n) FU h v1 v2 v3 0
def X2_errors (h : Nat) (v1 : Int32) : Mr Int32 :=
  X2_errors_4 FU h v1 0 0
def X1_ifPut_90 (w0 : Int32) : Mr (Ex ⊕ Int32) :=
  okr (rt w0)
def X1_ifPut_38 (h : Nat) (v1 : Int32) (v2 : Int32) (v3 : Int32) (v4 : Int32) (v5 : Option Nat) (w0 : Int32) : Mr (Ex ⊕ Int32) :=
  bh (X1_requireArgument w0) (fun e => rt (.inl e)) fun _ =>
  bd (gR 4 1 v5) fun x2 =>
  bd (aI 41 x2 v2) fun x3 =>
  if ¬ v4 = 0 then (
    if ¬ v4 = 1 then (
      bd (gR 4 1 v5) fun x4 =>
      bd (sI 41 x4 v2 v3) fun _ =>
      bd (gR 1 4 (some h)) fun x5 =>
      bd (gR 1 4 (some h)) fun x6 =>
      bd (gI 2 5 x6) fun x7 =>
      bd (rc 2 x5) fun h' =>
      bd (X2_errors h' x7) fun x8 =>
      bd (gR 4 1 v5) fun x9 =>
      bd (sI 41 x9 v2 x3) fun _ =>
      okr (rt x8))
    else
      if ¬ x3 = v3 then (
        bd (gR 1 4 (some h)) fun x10 =>
        bd (rc 2 x10) fun h' =>
        bd (X2_factsOf h' v1) fun x11 =>
        X1_ifPut_90 x11)
      else
        X1_ifPut_90 0)
  else
    bd (rc 4 v5) fun h' =>
    bd (X4_size h') fun x12 =>
    okr (rt ((x12 - x3) + v3))
def X1_ifPut_37 (h : Nat) (v1 : Int32) (v2 : Int32) (v3 : Int32) (v4 : Int32) (v5 : Option Nat) : Mr (Ex ⊕ Int32) :=
  X1_ifPut_38 h v1 v2 v3 v4 v5 0
def X1_ifPut (h : Nat) (v1 : Int32) (v2 : Int32) (v3 : Int32) (v4 : Int32) : Mr (Ex ⊕ Int32) :=
  bd (rc 1 (some h)) fun h' =>
  bh (X1_heapOf h' v1) (fun e => rt (.inl e)) fun x1 =>
  bh (X1_requireRow x1 v2) (fun e => rt (.inl e)) fun _ =>
  bd (X1_isBetween v3 0 9) fun x3 =>
  if x3 = 0 then (
    X1_ifPut_37 h v1 v2 v3 v4 x1)
  else
    bd (X1_isBetween v4 0 2) fun x4 =>
    if x4 = 0 then (
      X1_ifPut_37 h v1 v2 v3 v4 x1)
    else
      X1_ifPut_38 h v1 v2 v3 v4 x1 1
def X0_ifPut (v0 : Option Nat) (v1 : Int32) (v2 : Int32) (v3 : Int32) (v4 : Int32) (v5 : Option Nat) : Mr Int32 :=
  bd (rc 1 v0) fun h' =>
  bh (X1_ifPut h' v1 v2 v3 v4) (fun e =>
    if e.1 = 1 then (
      rt 2)
    else
    if e.1 = 2 then (
      rt 1)
    else
    no) fun x1 =>
  bd (sL 44 v5 0 ((x1.toInt64).toUInt64)) fun _ =>
  rt 0
def J18_init (h : Nat) : Mr Unit :=
  rt ()
def X10_init (h : Nat) (v1 : Int32) (v2 : Int32) (v3 : Int32) : Mr Unit :=
  bd (J18_init h) fun _ =>
  bd (pI 0 10 0 (some h) v1) fun _ =>
  bd (pI 0 10 1 (some h) v2) fun _ =>
  bd (pI 0 10 2 (some h) v3) fun _ =>
  rt ()
def X2_show (h : Nat) (v1 : Int32) (v2 : Int32) (v3 : Int32) : Mr Unit :=
  bd (nO 10 3) fun q1 =>
  bd (X10_init q1 v1 v2 v3) fun _ =>
  bd (gR 2 2 (some h)) fun x3 =>
  bd (aR 48 x3 v1) fun x4 =>
  bd (sR 47 [10] x4 v2 (some q1)) fun _ =>
  bd (gR 2 2 (some h)) fun x5 =>
  bd (aR 48 x5 v2) fun x6 =>
  bd (sR 47 [10] x6 v1 (some q1)) fun _ =>
  rt ()
def X9_knownPairs_4 : Nat → Nat → Int32 → Int32 → Mr Int32
  | 0, _, _, _ => no
  | n + 1, h, v1, v2 =>
    bd (gI 9 0 (some h)) fun x1 =>
    if x1 ≤ v2 then (
      bd (dv v1 2) fun x2 =>
      rt x2)
    else
      bd (rc 9 (some h)) fun h' =>
      bd (X9_knownOf h' v2) fun x3 =>
      X9_knownPairs_4 n h (v1 + x3) (v2 + 1)
def X9_knownPairs (h : Nat) : Mr Int32 :=
  X9_knownPairs_4 FU h 0 0
def X1_shown (h : Nat) (v1 : Int32) (v2 : Int32) : Mr Int32 :=
  bd (gR 1 4 (some h)) fun x1 =>
  bd (gR 2 2 x1) fun x2 =>
  bd (aR 48 x2 v1) fun x3 =>
  bd (aR 47 x3 v2) fun x4 =>
  bd (gR 1 4 (some h)) fun x5 =>
  bd (gR 1 4 (some h)) fun x6 =>
  bd (rc 2 x6) fun h' =>
  bd (X2_sizeWord h' v1 v2) fun x7 =>
  bd (rc 2 x5) fun h' =>
  bd (X2_show h' v1 v2 x7) fun _ =>
  bd (gR 1 4 (some h)) fun x9 =>
  bd (rc 2 x9) fun h' =>
  bd (X2_ways h') fun x10 =>
  bd (rc 9 x10) fun h' =>
  bd (X9_knownPairs h') fun x11 =>
  bd (gR 1 4 (some h)) fun x12 =>
  bd (gR 2 2 x12) fun x13 =>
  bd (aR 48 x13 v1) fun x14 =>
  bd (sR 47 [10] x14 v2 x4) fun _ =>
  bd (gR 1 4 (some h)) fun x15 =>
  bd (gR 2 2 x15) fun x16 =>
  bd (aR 48 x16 v2) fun x17 =>
  bd (sR 47 [10] x17 v1 x4) fun _ =>
  rt x11
def X1_ifShown_30 (w0 : Int32) : Mr (Ex ⊕ Int32) :=
  okr (rt w0)
def X1_ifShown (h : Nat) (v1 : Int32) (v2 : Int32) : Mr (Ex ⊕ Int32) :=
  bd (nA 41 2) fun q1 =>
  bd (sI 41 (some q1) 0 v1) fun _ =>
  bd (sI 41 (some q1) 1 v2) fun _ =>
  bd (rc 1 (some h)) fun h' =>
  bh (X1_requireHeaps h' (some q1)) (fun e => rt (.inl e)) fun _ =>
  if ¬ v1 = v2 then (
    bd (rc 1 (some h)) fun h' =>
    bd (X1_shown h' v1 v2) fun x3 =>
    X1_ifShown_30 x3)
  else
    X1_ifShown_30 0
def X0_ifShown (v0 : Option Nat) (v1 : Int32) (v2 : Int32) (v3 : Option Nat) : Mr Int32 :=
  bd (rc 1 v0) fun h' =>
  bh (X1_ifShown h' v1 v2) (fun e =>
    if e.1 = 2 then (
      rt 1)
    else
    no) fun x1 =>
  bd (sL 44 v3 0 ((x1.toInt64).toUInt64)) fun _ =>
  rt 0
def X1_ifEye (h : Nat) (v1 : Int32) : Mr (Ex ⊕ Int32) :=
  bd (X1_isBetween v1 0 9) fun x1 =>
  bh (X1_requireArgument x1) (fun e => rt (.inl e)) fun _ =>
  bd (gR 1 4 (some h)) fun x3 =>
  bd (rc 2 x3) fun h' =>
  bd (X2_errors h' v1) fun x4 =>
  okr (rt x4)
def X0_ifEye (v0 : Option Nat) (v1 : Int32) (v2 : Option Nat) : Mr Int32 :=
  bd (rc 1 v0) fun h' =>
  bh (X1_ifEye h' v1) (fun e =>
    if e.1 = 1 then (
      rt 1)
    else
    no) fun x1 =>
  bd (sL 44 v2 0 ((x1.toInt64).toUInt64)) fun _ =>
  rt 0
def J1_inc_10 (v0 : Int32) : Mr Int32 :=
  rt v0
def J1_inc (v0 : Int32) (v1 : Int32) : Mr Int32 :=
  if (v0 + 1) < v1 then (
    J1_inc_10 (v0 + 1))
  else
    J1_inc_10 0
def J1_addLast (h : Nat) (v1 : Option Nat) : Mr Unit :=
  if v1 = none then (
    no)
  else
    bd (gR 11 0 (some h)) fun x1 =>
    bd (gI 11 2 (some h)) fun x2 =>
    bd (sR 46 [4, 8, 2] x1 x2 v1) fun _ =>
    bd (gI 11 1 (some h)) fun x3 =>
    bd (gI 11 2 (some h)) fun x4 =>
    bd (aN 46 x1) fun x5 =>
    bd (J1_inc x4 x5) fun x6 =>
    bd (pI 0 11 2 (some h) x6) fun _ =>
    if ¬ x3 = x6 then (
      rt ())
    else
      no
def J1_elementAt (v0 : Option Nat) (v1 : Int32) : Mr (Option Nat) :=
  bd (aR 46 v0 v1) fun x1 =>
  rt x1
def J1_pollFirst_34 (v3 : Option Nat) : Mr (Option Nat) :=
  rt v3
def J1_pollFirst (h : Nat) : Mr (Option Nat) :=
  bd (gR 11 0 (some h)) fun x1 =>
  bd (gI 11 1 (some h)) fun x2 =>
  bd (J1_elementAt x1 x2) fun x3 =>
  if x3 = none then (
    J1_pollFirst_34 x3)
  else
    bd (sR 46 [4, 8, 2] x1 x2 none) fun _ =>
    bd (aN 46 x1) fun x4 =>
    bd (J1_inc x2 x4) fun x5 =>
    bd (pI 0 11 1 (some h) x5) fun _ =>
    J1_pollFirst_34 x3
def J1_removeFirst (h : Nat) : Mr (Option Nat) :=
  bd (rc 11 (some h)) fun h' =>
  bd (J1_pollFirst h') fun x1 =>
  if x1 = none then (
    no)
  else
    rt x1
def X1_keep_23 (h : Nat) : Mr Unit :=
  bd (gR 1 5 (some h)) fun x1 =>
  bd (nO 2 6) fun q2 =>
  bd (gR 1 4 (some h)) fun x3 =>
  bd (X2_init_2 q2 x3) fun _ =>
  bd (rc 11 x1) fun h' =>
  bd (J1_addLast h' (some q2)) fun _ =>
  rt ()
def X1_keep (h : Nat) : Mr Unit :=
  bd (gR 1 5 (some h)) fun x1 =>
  bd (rc 11 x1) fun h' =>
  bd (J1_size h') fun x2 =>
  if ¬ x2 = 6 then (
    X1_keep_23 h)
  else
    bd (gR 1 5 (some h)) fun x3 =>
    bd (rc 11 x3) fun h' =>
    bd (J1_removeFirst h') fun x4 =>
    bd (ca [2] x4) fun _ =>
    X1_keep_23 h
def X1_refuse (h : Nat) (v1 : Int32) : Mr Int32 :=
  bd (gR 1 7 (some h)) fun x1 =>
  bd (aI 41 x1 v1) fun x2 =>
  bd (sI 41 x1 v1 (x2 + 1)) fun _ =>
  rt (-v1)
def X1_say (h : Nat) (v1 : Int32) (v2 : Int32) (v3 : Int32) (v4 : Int32) : Mr (Ex ⊕ Int32) :=
  bd (rc 1 (some h)) fun h' =>
  bh (X1_requireTrader h' v1) (fun e => rt (.inl e)) fun _ =>
  bd (nA 41 2) fun q2 =>
  bd (sI 41 (some q2) 0 v2) fun _ =>
  bd (sI 41 (some q2) 1 v4) fun _ =>
  bd (rc 1 (some h)) fun h' =>
  bh (X1_requireHeaps h' (some q2)) (fun e => rt (.inl e)) fun _ =>
  bd (X1_isBetween v3 0 2) fun x4 =>
  bh (X1_requireArgument x4) (fun e => rt (.inl e)) fun _ =>
  if ¬ v2 = v4 then (
    bd (gR 1 4 (some h)) fun x6 =>
    bd (gR 2 3 x6) fun x7 =>
    bd (aI 41 x7 v1) fun x8 =>
    if ¬ x8 = 0 then (
      bd (gR 1 4 (some h)) fun x9 =>
      bd (gR 2 1 x9) fun x10 =>
      bd (gI 3 1 x10) fun x11 =>
      if ¬ x11 = 20 then (
        bd (rc 1 (some h)) fun h' =>
        bd (X1_keep h') fun _ =>
        bd (gR 1 4 (some h)) fun x13 =>
        bd (gR 2 1 x13) fun x14 =>
        bd (nO 8 9) fun q15 =>
        bd (gR 1 4 (some h)) fun x16 =>
        bd (gR 2 1 x16) fun x17 =>
        bd (gI 3 1 x17) fun x18 =>
        bd (X8_init_2 q15 x18 v1 v2 v3 v4) fun _ =>
        bd (rc 3 x14) fun h' =>
        bd (X3_add h' (some q15)) fun _ =>
        bd (gR 1 4 (some h)) fun x21 =>
        bd (gR 2 1 x21) fun x22 =>
        bd (gI 3 1 x22) fun x23 =>
        okr (rt (x23 - 1)))
      else
        bd (rc 1 (some h)) fun h' =>
        bd (X1_refuse h' 1) fun x24 =>
        okr (rt x24))
    else
      bd (rc 1 (some h)) fun h' =>
      bd (X1_refuse h' 9) fun x25 =>
      okr (rt x25))
  else
    bd (rc 1 (some h)) fun h' =>
    bd (X1_refuse h' 2) fun x26 =>
    okr (rt x26)
def X0_say (v0 : Option Nat) (v1 : Int32) (v2 : Int32) (v3 : Int32) (v4 : Int32) (v5 : Option Nat) : Mr Int32 :=
  bd (rc 1 v0) fun h' =>
  bh (X1_say h' v1 v2 v3 v4) (fun e =>
    if e.1 = 1 then (
      rt 2)
    else
    if e.1 = 2 then (
      rt 1)
    else
    no) fun x1 =>
  bd (sL 44 v5 0 ((x1.toInt64).toUInt64)) fun _ =>
  rt 0
def X1_pair_93 (h : Nat) : Mr (Ex ⊕ Int32) :=
  bd (rc 1 (some h)) fun h' =>
  bd (X1_refuse h' 4) fun x1 =>
  okr (rt x1)
def X1_pair (h : Nat) (v1 : Int32) (v2 : Int32) (v3 : Int32) : Mr (Ex ⊕ Int32) :=
  bd (rc 1 (some h)) fun h' =>
  bh (X1_claimOf h' v1) (fun e => rt (.inl e)) fun x1 =>
  bd (gR 1 4 (some h)) fun x2 =>
  bd (gR 2 0 x2) fun x3 =>
  bd (gI 8 2 x1) fun x4 =>
  bd (rc 3 x3) fun h' =>
  bd (X3_at h' x4) fun x5 =>
  bd (ca [4] x5) fun _ =>
  bh (X1_requireRow x5 v2) (fun e => rt (.inl e)) fun _ =>
  bd (gR 1 4 (some h)) fun x7 =>
  bd (gR 2 0 x7) fun x8 =>
  bd (gI 8 3 x1) fun x9 =>
  bd (rc 3 x8) fun h' =>
  bd (X3_at h' x9) fun x10 =>
  bd (ca [4] x10) fun _ =>
  bh (X1_requireRow x10 v3) (fun e => rt (.inl e)) fun _ =>
  bd (rc 8 x1) fun h' =>
  bd (X8_isOpen h') fun x12 =>
  if ¬ x12 = 0 then (
    bd (gR 1 4 (some h)) fun x13 =>
    bd (rc 2 x13) fun h' =>
    bd (X2_left h' x1 0 v2) fun x14 =>
    if x14 = 0 then (
      X1_pair_93 h)
    else
      bd (gR 1 4 (some h)) fun x15 =>
      bd (rc 2 x15) fun h' =>
      bd (X2_left h' x1 1 v3) fun x16 =>
      if ¬ x16 = 0 then (
        bd (rc 1 (some h)) fun h' =>
        bd (X1_keep h') fun _ =>
        bd (gR 1 4 (some h)) fun x18 =>
        bd (rc 2 x18) fun h' =>
        bd (X2_pairs h' x1 v2 v3) fun _ =>
        bd (gR 1 4 (some h)) fun x20 =>
        bd (rc 2 x20) fun h' =>
        bd (X2_left_2 h' x1 0) fun x21 =>
        bd (gR 1 4 (some h)) fun x22 =>
        bd (rc 2 x22) fun h' =>
        bd (X2_left_2 h' x1 1) fun x23 =>
        okr (rt (x21 + x23)))
      else
        X1_pair_93 h)
  else
    bd (rc 1 (some h)) fun h' =>
    bd (X1_refuse h' 3) fun x24 =>
    okr (rt x24)
def X0_pair (v0 : Option Nat) (v1 : Int32) (v2 : Int32) (v3 : Int32) (v4 : Option Nat) : Mr Int32 :=
  bd (rc 1 v0) fun h' =>
  bh (X1_pair h' v1 v2 v3) (fun e =>
    if e.1 = 2 then (
      rt 1)
    else
    no) fun x1 =>
  bd (sL 44 v4 0 ((x1.toInt64).toUInt64)) fun _ =>
  rt 0
def X1_match_43 : Nat → Nat → Option Nat → Int32 → Mr (Ex ⊕ Int32)
  | 0, _, _, _ => no
  | n + 1, h, v2, v3 =>
    bd (gR 1 4 (some h)) fun x1 =>
    bd (rc 2 x1) fun h' =>
    bd (X2_isEnded h' v2) fun x2 =>
    if ¬ x2 = 0 then (
      okr (rt v3))
    else
      bd (gR 1 4 (some h)) fun x3 =>
      bd (rc 2 x3) fun h' =>
      bd (X2_matchOnce h' v2) fun x4 =>
      X1_match_43 n h v2 (v3 + 1)
def X1_match (h : Nat) (v1 : Int32) : Mr (Ex ⊕ Int32) :=
  bd (rc 1 (some h)) fun h' =>
  bh (X1_claimOf h' v1) (fun e => rt (.inl e)) fun x1 =>
  bd (rc 8 x1) fun h' =>
  bd (X8_isOpen h') fun x2 =>
  if ¬ x2 = 0 then (
    bd (gR 1 4 (some h)) fun x3 =>
    bd (rc 2 x3) fun h' =>
    bd (X2_isEnded h' x1) fun x4 =>
    if x4 = 0 then (
      bd (rc 1 (some h)) fun h' =>
      bd (X1_keep h') fun _ =>
      X1_match_43 FU h x1 0)
    else
      bd (rc 1 (some h)) fun h' =>
      bd (X1_refuse h' 6) fun x6 =>
      okr (rt x6))
  else
    bd (rc 1 (some h)) fun h' =>
    bd (X1_refuse h' 3) fun x7 =>
    okr (rt x7)
def X0_match (v0 : Option Nat) (v1 : Int32) (v2 : Option Nat) : Mr Int32 :=
  bd (rc 1 v0) fun h' =>
  bh (X1_match h' v1) (fun e =>
    if e.1 = 2 then (
      rt 1)
    else
    no) fun x1 =>
  bd (sL 44 v2 0 ((x1.toInt64).toUInt64)) fun _ =>
  rt 0
def X2_ends (h : Nat) (v1 : Option Nat) (v2 : Int32) : Mr Unit :=
  bd (gR 8 6 v1) fun x1 =>
  bd (rc 2 (some h)) fun h' =>
  bd (X2_left_2 h' v1 0) fun x2 =>
  bd (sI 41 x1 0 x2) fun _ =>
  bd (gR 8 6 v1) fun x3 =>
  bd (rc 2 (some h)) fun h' =>
  bd (X2_left_2 h' v1 1) fun x4 =>
  bd (sI 41 x3 1 x4) fun _ =>
  bd (pI 0 8 7 v1 v2) fun _ =>
  rt ()
def X2_shows (h : Nat) (v1 : Option Nat) : Mr Int32 :=
  bd (rc 2 (some h)) fun h' =>
  bd (X2_left_2 h' v1 0) fun x1 =>
  bd (rc 2 (some h)) fun h' =>
  bd (X2_left_2 h' v1 1) fun x2 =>
  bd (X1_wordOf x1 x2) fun x3 =>
  rt x3
def X2_close_159 (v2 : Int32) : Mr Int32 :=
  rt v2
def X2_close_154 (v2 : Int32) (w0 : Option Nat) (w1 : Int32) : Mr Int32 :=
  bd (aI 41 w0 w1) fun x1 =>
  bd (sI 41 w0 w1 (x1 + 1)) fun _ =>
  X2_close_159 v2
def X2_close_123 (h : Nat) (v2 : Int32) (v3 : Int32) (v4 : Int32) (w0 : Option Nat) (w1 : Int32) (w2 : Int32) : Mr Int32 :=
  bd (sI 41 w0 w1 w2) fun _ =>
  bd (gR 2 4 (some h)) fun x1 =>
  bd (aI 41 x1 1) fun x2 =>
  bd (sI 41 x1 1 (x2 + 1)) fun _ =>
  if v3 = v4 then (
    X2_close_159 v2)
  else
    bd (gR 2 4 (some h)) fun x3 =>
    if v3 = 0 then (
      X2_close_154 v2 x3 6)
    else
      X2_close_154 v2 x3 5
def X2_close_61 (h : Nat) (v1 : Option Nat) (v2 : Int32) (v3 : Int32) (v4 : Int32) (w0 : Option Nat) (w1 : Option Nat) (w2 : Int32) : Mr Int32 :=
  bd (rc 2 w0) fun h' =>
  bd (X2_ends h' w1 w2) fun _ =>
  bd (gI 8 2 v1) fun x2 =>
  bd (gI 8 3 v1) fun x3 =>
  bd (rc 2 (some h)) fun h' =>
  bd (X2_show h' x2 x3 v2) fun _ =>
  bd (gR 2 3 (some h)) fun x5 =>
  bd (gI 8 1 v1) fun x6 =>
  if v3 = 0 then (
    bd (gR 2 3 (some h)) fun x7 =>
    bd (gI 8 1 v1) fun x8 =>
    bd (aI 41 x7 x8) fun x9 =>
    bd (J12_max 0 (x9 - 2)) fun x10 =>
    X2_close_123 h v2 v3 v4 x5 x6 x10)
  else
    bd (gR 2 3 (some h)) fun x11 =>
    bd (gI 8 1 v1) fun x12 =>
    bd (aI 41 x11 x12) fun x13 =>
    bd (J12_min 20 (x13 + 1)) fun x14 =>
    X2_close_123 h v2 v3 v4 x5 x6 x14
def X2_close_48 (h : Nat) (v1 : Option Nat) (v2 : Int32) (v3 : Int32) (w0 : Int32) : Mr Int32 :=
  if v3 = 0 then (
    X2_close_61 h v1 v2 v3 w0 (some h) v1 2)
  else
    X2_close_61 h v1 v2 v3 w0 (some h) v1 1
def X2_close_19 (h : Nat) (v1 : Option Nat) (v2 : Int32) (w0 : Int32) : Mr Int32 :=
  bd (gI 8 2 v1) fun x1 =>
  bd (gI 8 3 v1) fun x2 =>
  bd (gI 2 5 (some h)) fun x3 =>
  bd (rc 2 (some h)) fun h' =>
  bd (X2_eyeWord h' x1 x2 x3) fun x4 =>
  bd (gI 8 4 v1) fun x5 =>
  if ¬ x4 = x5 then (
    X2_close_48 h v1 v2 w0 0)
  else
    X2_close_48 h v1 v2 w0 1
def X2_close (h : Nat) (v1 : Option Nat) : Mr Int32 :=
  bd (rc 2 (some h)) fun h' =>
  bd (X2_shows h' v1) fun x1 =>
  bd (gI 8 4 v1) fun x2 =>
  if ¬ x1 = x2 then (
    X2_close_19 h v1 x1 0)
  else
    X2_close_19 h v1 x1 1
def X1_close (h : Nat) (v1 : Int32) : Mr (Ex ⊕ Int32) :=
  bd (rc 1 (some h)) fun h' =>
  bh (X1_claimOf h' v1) (fun e => rt (.inl e)) fun x1 =>
  bd (rc 8 x1) fun h' =>
  bd (X8_isOpen h') fun x2 =>
  if ¬ x2 = 0 then (
    bd (gR 1 4 (some h)) fun x3 =>
    bd (rc 2 x3) fun h' =>
    bd (X2_isEnded h' x1) fun x4 =>
    if ¬ x4 = 0 then (
      bd (rc 1 (some h)) fun h' =>
      bd (X1_keep h') fun _ =>
      bd (gR 1 4 (some h)) fun x6 =>
      bd (rc 2 x6) fun h' =>
      bd (X2_close h' x1) fun x7 =>
      okr (rt x7))
    else
      bd (rc 1 (some h)) fun h' =>
      bd (X1_refuse h' 5) fun x8 =>
      okr (rt x8))
  else
    bd (rc 1 (some h)) fun h' =>
    bd (X1_refuse h' 3) fun x9 =>
    okr (rt x9)
def X0_close (v0 : Option Nat) (v1 : Int32) (v2 : Option Nat) : Mr Int32 :=
  bd (rc 1 v0) fun h' =>
  bh (X1_close h' v1) (fun e =>
    if e.1 = 2 then (
      rt 1)
    else
    no) fun x1 =>
  bd (sL 44 v2 0 ((x1.toInt64).toUInt64)) fun _ =>
  rt 0
def X2_drop (h : Nat) (v1 : Option Nat) : Mr Unit :=
  bd (rc 2 (some h)) fun h' =>
  bd (X2_ends h' v1 3) fun _ =>
  rt ()
def X1_drop (h : Nat) (v1 : Int32) : Mr (Ex ⊕ Int32) :=
  bd (rc 1 (some h)) fun h' =>
  bh (X1_claimOf h' v1) (fun e => rt (.inl e)) fun x1 =>
  bd (rc 8 x1) fun h' =>
  bd (X8_isOpen h') fun x2 =>
  if ¬ x2 = 0 then (
    bd (rc 1 (some h)) fun h' =>
    bd (X1_keep h') fun _ =>
    bd (gR 1 4 (some h)) fun x4 =>
    bd (rc 2 x4) fun h' =>
    bd (X2_drop h' x1) fun _ =>
    bd (rc 1 (some h)) fun h' =>
    bd (X1_claimsThat h' 0) fun x6 =>
    okr (rt x6))
  else
    bd (rc 1 (some h)) fun h' =>
    bd (X1_refuse h' 3) fun x7 =>
    okr (rt x7)
def X0_drop (v0 : Option Nat) (v1 : Int32) (v2 : Option Nat) : Mr Int32 :=
  bd (rc 1 v0) fun h' =>
  bh (X1_drop h' v1) (fun e =>
    if e.1 = 2 then (
      rt 1)
    else
    no) fun x1 =>
  bd (sL 44 v2 0 ((x1.toInt64).toUInt64)) fun _ =>
  rt 0
def X8_beginsAnew_16 : Nat → Nat → Int32 → Int32 → Mr Int32
  | 0, _, _, _ => no
  | n + 1, h, v1, v2 =>
    if 5 ≤ v2 then (
      rz 2 v1)
    else
      bd (gR 8 5 (some h)) fun x1 =>
      bd (aR 51 x1 0) fun x2 =>
      bd (sI 41 x2 v2 0) fun _ =>
      bd (gR 8 5 (some h)) fun x3 =>
      bd (aR 51 x3 1) fun x4 =>
      bd (sI 41 x4 v2 0) fun _ =>
      X8_beginsAnew_16 n h v1 (v2 + 1)
def X8_beginsAnew_13 (h : Nat) (w0 : Int32) : Mr Int32 :=
  X8_beginsAnew_16 FU h w0 0
def X8_beginsAnew (h : Nat) : Mr Int32 :=
  bd (rc 8 (some h)) fun h' =>
  bd (X8_sum h' 0) fun x1 =>
  if x1 ≤ 0 then (
    X8_beginsAnew_13 h 0)
  else
    X8_beginsAnew_13 h 1
def X2_put_132 (k69 : Nat → Option Nat → Int32 → Mr Int32) (h : Nat) (v1 : Option Nat) (v4 : Int32) : Mr Int32 :=
  k69 h v1 (v4 + 1)
def X2_put_69 : Nat → Nat → Option Nat → Int32 → Mr Int32
  | 0, _, _, _ => no
  | n + 1, h, v1, v4 =>
    bd (gR 2 1 (some h)) fun x1 =>
    bd (gI 3 1 x1) fun x2 =>
    if x2 ≤ v4 then (
      bd (rc 4 v1) fun h' =>
      bd (X4_size h') fun x3 =>
      rt x3)
    else
      bd (gR 2 1 (some h)) fun x4 =>
      bd (rc 3 x4) fun h' =>
      bd (X3_at h' v4) fun x5 =>
      bd (ca [8] x5) fun _ =>
      bd (rc 8 x5) fun h' =>
      bd (X8_isOpen h') fun x6 =>
      if x6 = 0 then (
        X2_put_132 (X2_put_69 n) h v1 v4)
      else
        bd (gI 4 0 v1) fun x7 =>
        bd (rc 8 x5) fun h' =>
        bd (X8_isWith h' x7) fun x8 =>
        if x8 = 0 then (
          X2_put_132 (X2_put_69 n) h v1 v4)
        else
          bd (gR 2 4 (some h)) fun x9 =>
          bd (aI 41 x9 3) fun x10 =>
          bd (rc 8 x5) fun h' =>
          bd (X8_beginsAnew h') fun x11 =>
          bd (X1_bit x11) fun x12 =>
          bd (sI 41 x9 3 (x10 + x12)) fun _ =>
          X2_put_132 (X2_put_69 n) h v1 v4
def X2_put_27 : Nat → Nat → Option Nat → Int32 → Mr Int32
  | 0, _, _, _ => no
  | n + 1, h, v1, v4 =>
    if 10 ≤ v4 then (
      X2_put_69 FU h v1 0)
    else
      bd (gR 2 2 (some h)) fun x1 =>
      bd (gI 4 0 v1) fun x2 =>
      bd (aR 48 x1 x2) fun x3 =>
      bd (sR 47 [10] x3 v4 none) fun _ =>
      bd (gR 2 2 (some h)) fun x4 =>
      bd (aR 48 x4 v4) fun x5 =>
      bd (gI 4 0 v1) fun x6 =>
      bd (sR 47 [10] x5 x6 none) fun _ =>
      X2_put_27 n h v1 (v4 + 1)
def X2_put (h : Nat) (v1 : Option Nat) (v2 : Int32) (v3 : Int32) : Mr Int32 :=
  bd (gR 4 1 v1) fun x1 =>
  bd (sI 41 x1 v2 v3) fun _ =>
  bd (gR 2 4 (some h)) fun x2 =>
  bd (aI 41 x2 2) fun x3 =>
  bd (gI 4 0 v1) fun x4 =>
  bd (rc 2 (some h)) fun h' =>
  bd (X2_factsOf h' x4) fun x5 =>
  bd (sI 41 x2 2 (x3 + x5)) fun _ =>
  X2_put_27 FU h v1 0
def X1_put (h : Nat) (v1 : Int32) (v2 : Int32) (v3 : Int32) : Mr (Ex ⊕ Int32) :=
  bd (rc 1 (some h)) fun h' =>
  bh (X1_heapOf h' v1) (fun e => rt (.inl e)) fun x1 =>
  bh (X1_requireRow x1 v2) (fun e => rt (.inl e)) fun _ =>
  bd (X1_isBetween v3 0 9) fun x3 =>
  bh (X1_requireArgument x3) (fun e => rt (.inl e)) fun _ =>
  bd (gR 4 1 x1) fun x5 =>
  bd (aI 41 x5 v2) fun x6 =>
  if ¬ x6 = v3 then (
    bd (rc 1 (some h)) fun h' =>
    bd (X1_keep h') fun _ =>
    bd (gR 1 4 (some h)) fun x8 =>
    bd (rc 2 x8) fun h' =>
    bd (X2_put h' x1 v2 v3) fun x9 =>
    okr (rt x9))
  else
    bd (rc 1 (some h)) fun h' =>
    bd (X1_refuse h' 6) fun x10 =>
    okr (rt x10)
def X0_put (v0 : Option Nat) (v1 : Int32) (v2 : Int32) (v3 : Int32) (v4 : Option Nat) : Mr Int32 :=
  bd (rc 1 v0) fun h' =>
  bh (X1_put h' v1 v2 v3) (fun e =>
    if e.1 = 1 then (
      rt 2)
    else
    if e.1 = 2 then (
      rt 1)
    else
    no) fun x1 =>
  bd (sL 44 v4 0 ((x1.toInt64).toUInt64)) fun _ =>
  rt 0
def X1_swap (h : Nat) (v1 : Int32) (v2 : Int32) : Mr (Ex ⊕ Int32) :=
  bd (rc 1 (some h)) fun h' =>
  bh (X1_heapOf h' v1) (fun e => rt (.inl e)) fun x1 =>
  bd (rc 1 (some h)) fun h' =>
  bh (X1_heapOf h' v2) (fun e => rt (.inl e)) fun x2 =>
  if ¬ v1 = v2 then (
    bd (gI 4 2 x1) fun x3 =>
    bd (gI 4 2 x2) fun x4 =>
    if ¬ x3 = x4 then (
      bd (gR 1 4 (some h)) fun x5 =>
      bd (rc 2 x5) fun h' =>
      bd (X2_ways h') fun x6 =>
      bd (rc 9 x6) fun h' =>
      bd (X9_known h' v1 v2) fun x7 =>
      if x7 = 2 then (
        bd (rc 1 (some h)) fun h' =>
        bd (X1_keep h') fun _ =>
        bd (gI 4 2 x1) fun x9 =>
        bd (gI 4 2 x2) fun x10 =>
        bd (pI 0 4 2 x1 x10) fun _ =>
        bd (pI 0 4 2 x2 x9) fun _ =>
        bd (gR 1 4 (some h)) fun x11 =>
        bd (gR 2 4 x11) fun x12 =>
        bd (aI 41 x12 4) fun x13 =>
        bd (sI 41 x12 4 (x13 + 2)) fun _ =>
        bd (gI 4 2 x1) fun x14 =>
        okr (rt x14))
      else
        bd (rc 1 (some h)) fun h' =>
        bd (X1_refuse h' 7) fun x15 =>
        okr (rt x15))
    else
      bd (rc 1 (some h)) fun h' =>
      bd (X1_refuse h' 8) fun x16 =>
      okr (rt x16))
  else
    bd (rc 1 (some h)) fun h' =>
    bd (X1_refuse h' 2) fun x17 =>
    okr (rt x17)
def X0_swap (v0 : Option Nat) (v1 : Int32) (v2 : Int32) (v3 : Option Nat) : Mr Int32 :=
  bd (rc 1 v0) fun h' =>
  bh (X1_swap h' v1 v2) (fun e =>
    if e.1 = 2 then (
      rt 1)
    else
    no) fun x1 =>
  bd (sL 44 v3 0 ((x1.toInt64).toUInt64)) fun _ =>
  rt 0
def X1_setEye (h : Nat) (v1 : Int32) : Mr (Ex ⊕ Int32) :=
  bd (X1_isBetween v1 0 9) fun x1 =>
  bh (X1_requireArgument x1) (fun e => rt (.inl e)) fun _ =>
  bd (gR 1 4 (some h)) fun x3 =>
  bd (gI 2 5 x3) fun x4 =>
  if ¬ x4 = v1 then (
    bd (rc 1 (some h)) fun h' =>
    bd (X1_keep h') fun _ =>
    bd (gR 1 4 (some h)) fun x6 =>
    bd (gI 2 5 x6) fun x7 =>
    bd (gR 1 4 (some h)) fun x8 =>
    bd (pI 0 2 5 x8 v1) fun _ =>
    okr (rt x7))
  else
    bd (rc 1 (some h)) fun h' =>
    bd (X1_refuse h' 6) fun x9 =>
    okr (rt x9)
def X0_setEye (v0 : Option Nat) (v1 : Int32) (v2 : Option Nat) : Mr Int32 :=
  bd (rc 1 v0) fun h' =>
  bh (X1_setEye h' v1) (fun e =>
    if e.1 = 1 then (
      rt 1)
    else
    no) fun x1 =>
  bd (sL 44 v2 0 ((x1.toInt64).toUInt64)) fun _ =>
  rt 0
def J2_isLatin1_18 (w0 : Int32) : Mr Int32 :=
  rz 2 w0
def J2_isLatin1_17 : Mr Int32 :=
  J2_isLatin1_18 0
def J2_isLatin1 (h : Nat) : Mr Int32 :=
  if (1 : Int32) = 0 then (
    J2_isLatin1_17)
  else
    bd (gI 12 1 (some h)) fun x1 =>
    if ¬ x1 = 0 then (
      J2_isLatin1_17)
    else
      J2_isLatin1_18 1
def J11_newLength_21 (v0 : Int32) (v1 : Int32) : Mr Int32 :=
  no
def J11_newLength (v0 : Int32) (v1 : Int32) (v2 : Int32) : Mr Int32 :=
  bd (J12_max v1 v2) fun x1 =>
  if (v0 + x1) ≤ 0 then (
    J11_newLength_21 v0 v1)
  else
    if 2147483639 < (v0 + x1) then (
      J11_newLength_21 v0 v1)
    else
      rt (v0 + x1)
def J2_newCapacity (h : Nat) (v1 : Int32) : Mr Int32 :=
  bd (gR 12 0 (some h)) fun x1 =>
  bd (aN 42 x1) fun x2 =>
  bd (gI 12 1 (some h)) fun x3 =>
  bd (gI 12 1 (some h)) fun x4 =>
  bd (J11_newLength x2 ((v1 <<< (x3 &&& 31)) - x2) (x2 + (2 <<< (x4 &&& 31)))) fun x5 =>
  if ¬ x5 = 2147483647 then (
    bd (gI 12 1 (some h)) fun x6 =>
    rt (x5 >>> (x6 &&& 31)))
  else
    no
def J13_copyOf (v0 : Option Nat) (v1 : Int32) : Mr (Option Nat) :=
  bd (aN 42 v0) fun x1 =>
  if ¬ v1 = x1 then (
    bd (nA 42 v1) fun q2 =>
    bd (aN 42 v0) fun x3 =>
    bd (J12_min x3 v1) fun x4 =>
    bd (cpI 42 v0 0 (some q2) 0 x4) fun _ =>
    rt (some q2))
  else
    bd (cA 42 v0) fun q5 =>
    bd (caW 42 (some q5)) fun _ =>
    rt (some q5)
def J2_ensureCapacityInternal_38 : Mr Unit :=
  rt ()
def J2_ensureCapacityInternal (h : Nat) (v1 : Int32) : Mr Unit :=
  bd (gR 12 0 (some h)) fun x1 =>
  bd (aN 42 x1) fun x2 =>
  bd (gI 12 1 (some h)) fun x3 =>
  if (v1 - (x2 >>> (x3 &&& 31))) ≤ 0 then (
    J2_ensureCapacityInternal_38)
  else
    bd (gR 12 0 (some h)) fun x4 =>
    bd (rc 12 (some h)) fun h' =>
    bd (J2_newCapacity h' v1) fun x5 =>
    bd (gI 12 1 (some h)) fun x6 =>
    bd (J13_copyOf x4 (x5 <<< (x6 &&& 31))) fun x7 =>
    bd (pR 12 0 (some h) x7) fun _ =>
    J2_ensureCapacityInternal_38
def J14_canEncode_12 (w0 : Int32) : Mr Int32 :=
  rz 2 w0
def J14_canEncode (v0 : Int32) : Mr Int32 :=
  if 255 < v0 then (
    J14_canEncode_12 0)
  else
    J14_canEncode_12 1
def J2_append_45 (h : Nat) (v1 : Int32) : Mr (Option Nat) :=
  bd (rc 12 (some h)) fun h' =>
  bd (J2_isLatin1 h') fun x1 =>
  if x1 = 0 then (
    bd (gR 12 0 (some h)) fun x2 =>
    bd (gI 12 3 (some h)) fun x3 =>
    bd (pI 0 12 3 (some h) (x3 + 1)) fun _ =>
    no)
  else
    no
def J2_append (h : Nat) (v1 : Int32) : Mr (Option Nat) :=
  bd (gI 12 3 (some h)) fun x1 =>
  bd (rc 12 (some h)) fun h' =>
  bd (J2_ensureCapacityInternal h' (x1 + 1)) fun _ =>
  bd (rc 12 (some h)) fun h' =>
  bd (J2_isLatin1 h') fun x3 =>
  if x3 = 0 then (
    J2_append_45 h v1)
  else
    bd (J14_canEncode v1) fun x4 =>
    if x4 = 0 then (
      J2_append_45 h v1)
    else
      bd (gR 12 0 (some h)) fun x5 =>
      bd (gI 12 3 (some h)) fun x6 =>
      bd (pI 0 12 3 (some h) (x6 + 1)) fun _ =>
      bd (sI 42 x5 x6 (v1.toInt8.toInt32)) fun _ =>
      rt (some h)
def J3_append (h : Nat) (v1 : Int32) : Mr (Option Nat) :=
  bd (rc 12 (some h)) fun h' =>
  bd (J2_append h' v1) fun x1 =>
  rt (some h)
def J2_length (h : Nat) : Mr Int32 :=
  bd (gI 12 3 (some h)) fun x1 =>
  rt x1
def J3_length (h : Nat) : Mr Int32 :=
  bd (rc 12 (some h)) fun h' =>
  bd (J2_length h') fun x1 =>
  rt x1
def J4_isLatin1_18 (w0 : Int32) : Mr Int32 :=
  rz 2 w0
def J4_isLatin1_17 : Mr Int32 :=
  J4_isLatin1_18 0
def J4_isLatin1 (h : Nat) : Mr Int32 :=
  if (1 : Int32) = 0 then (
    J4_isLatin1_17)
  else
    bd (gI 13 1 (some h)) fun x1 =>
    if ¬ x1 = 0 then (
      J4_isLatin1_17)
    else
      J4_isLatin1_18 1
def J15_checkIndex_9 (v0 : Int32) (v1 : Int32) (v2 : Option Nat) : Mr Int32 :=
  no
def J15_checkIndex (v0 : Int32) (v1 : Int32) (v2 : Option Nat) : Mr Int32 :=
  if v0 < 0 then (
    J15_checkIndex_9 v0 v1 v2)
  else
    if v0 < v1 then (
      rt v0)
    else
      J15_checkIndex_9 v0 v1 v2
def J4_checkIndex (v0 : Int32) (v1 : Int32) : Mr Unit :=
  bd (gS 1) fun x1 =>
  bd (J15_checkIndex v0 v1 x1) fun x2 =>
  rt ()
def J14_charAt (v0 : Option Nat) (v1 : Int32) : Mr Int32 :=
  bd (aN 42 v0) fun x1 =>
  bd (J4_checkIndex v1 x1) fun _ =>
  bd (aI 42 v0 v1) fun x3 =>
  rz 3 (((x3 &&& 255).toUInt32 % 65536).toInt32)
def J4_charAt (h : Nat) (v1 : Int32) : Mr Int32 :=
  bd (rc 13 (some h)) fun h' =>
  bd (J4_isLatin1 h') fun x1 =>
  if x1 = 0 then (
    bd (gR 13 0 (some h)) fun x2 =>
    no)
  else
    bd (gR 13 0 (some h)) fun x3 =>
    bd (J14_charAt x3 v1) fun x4 =>
    rz 3 x4
def J2_setLength_76 (h : Nat) (v1 : Int32) : Mr Unit :=
  bd (pI 0 12 3 (some h) v1) fun _ =>
  rt ()
def J2_setLength (h : Nat) (v1 : Int32) : Mr Unit :=
  if 0 ≤ v1 then (
    bd (rc 12 (some h)) fun h' =>
    bd (J2_ensureCapacityInternal h' v1) fun _ =>
    bd (gI 12 3 (some h)) fun x2 =>
    if v1 ≤ x2 then (
      bd (gI 12 3 (some h)) fun x3 =>
      if x3 ≤ v1 then (
        J2_setLength_76 h v1)
      else
        bd (pI 2 12 2 (some h) 1) fun _ =>
        J2_setLength_76 h v1)
    else
      bd (rc 12 (some h)) fun h' =>
      bd (J2_isLatin1 h') fun x4 =>
      if x4 = 0 then (
        bd (gR 12 0 (some h)) fun x5 =>
        bd (gI 12 3 (some h)) fun x6 =>
        no)
      else
        bd (gR 12 0 (some h)) fun x7 =>
        bd (gI 12 3 (some h)) fun x8 =>
        no)
  else
    no
def J3_setLength (h : Nat) (v1 : Int32) : Mr Unit :=
  bd (rc 12 (some h)) fun h' =>
  bd (J2_setLength h' v1) fun _ =>
  rt ()
def X1_write_74 (k29 : Nat → Int32 → Option Nat → Int32 → Mr (Ex ⊕ Int32)) (h : Nat) (v1 : Int32) (v2 : Option Nat) (v3 : Int32) (w0 : Option Nat) (w1 : Int32) : Mr (Ex ⊕ Int32) :=
  bd (rc 12 w0) fun h' =>
  bd (J3_append h' w1) fun x1 =>
  k29 h v1 v2 (v3 + 1)
def X1_write_29 : Nat → Nat → Int32 → Option Nat → Int32 → Mr (Ex ⊕ Int32)
  | 0, _, _, _, _ => no
  | n + 1, h, v1, v2, v3 =>
    bd (gR 1 4 (some h)) fun x1 =>
    bd (gR 2 0 x1) fun x2 =>
    bd (gI 3 1 x2) fun x3 =>
    if x3 ≤ v3 then (
      bd (gR 1 8 (some h)) fun x4 =>
      bd (rc 12 x4) fun h' =>
      bd (J3_length h') fun x5 =>
      okr (rt x5))
    else
      bd (rc 9 v2) fun h' =>
      bd (X9_known h' v1 v3) fun x6 =>
      bd (gR 1 8 (some h)) fun x7 =>
      if ¬ x6 = (-1) then (
        bd (gC 100) fun x8 =>
        bd (rc 13 (some x8)) fun h' =>
        bd (J4_charAt h' x6) fun x9 =>
        X1_write_74 (X1_write_29 n) h v1 v2 v3 x7 x9)
      else
        X1_write_74 (X1_write_29 n) h v1 v2 v3 x7 63
def X1_write (h : Nat) (v1 : Int32) : Mr (Ex ⊕ Int32) :=
  bd (nA 41 1) fun q1 =>
  bd (sI 41 (some q1) 0 v1) fun _ =>
  bd (rc 1 (some h)) fun h' =>
  bh (X1_requireHeaps h' (some q1)) (fun e => rt (.inl e)) fun _ =>
  bd (gR 1 4 (some h)) fun x3 =>
  bd (rc 2 x3) fun h' =>
  bd (X2_ways h') fun x4 =>
  bd (gR 1 8 (some h)) fun x5 =>
  bd (rc 12 x5) fun h' =>
  bd (J3_setLength h' 0) fun _ =>
  X1_write_29 FU h v1 x4 0
def X0_write (v0 : Option Nat) (v1 : Int32) (v2 : Option Nat) : Mr Int32 :=
  bd (rc 1 v0) fun h' =>
  bh (X1_write h' v1) (fun e =>
    if e.1 = 2 then (
      rt 1)
    else
    no) fun x1 =>
  bd (sL 44 v2 0 ((x1.toInt64).toUInt64)) fun _ =>
  rt 0
def X1_save (h : Nat) (v1 : Int32) : Mr (Ex ⊕ Unit) :=
  bd (X1_isBetween v1 0 1) fun x1 =>
  bh (X1_requireArgument x1) (fun e => rt (.inl e)) fun _ =>
  bd (gR 1 6 (some h)) fun x3 =>
  bd (nO 2 6) fun q4 =>
  bd (gR 1 4 (some h)) fun x5 =>
  bd (X2_init_2 q4 x5) fun _ =>
  bd (sR 49 [2] x3 v1 (some q4)) fun _ =>
  okr (rt ())
def X0_save (v0 : Option Nat) (v1 : Int32) : Mr Int32 :=
  bd (rc 1 v0) fun h' =>
  bh (X1_save h' v1) (fun e =>
    if e.1 = 1 then (
      rt 1)
    else
    no) fun _ =>
  rt 0
def J1_circularClear_12 : Nat → Option Nat → Int32 → Int32 → Int32 → Mr Unit
  | 0, _, _, _, _ => no
  | n + 1, v0, v1, v2, v3 =>
    if v3 ≤ v1 then (
      if ¬ v3 = v2 then (
        J1_circularClear_12 n v0 0 v2 v2)
      else
        rt ())
    else
      bd (sR 46 [4, 8, 2] v0 v1 none) fun _ =>
      J1_circularClear_12 n v0 (v1 + 1) v2 v3
def J1_circularClear_11 (v0 : Option Nat) (v1 : Int32) (v2 : Int32) (w0 : Int32) : Mr Unit :=
  J1_circularClear_12 FU v0 v1 v2 w0
def J1_circularClear (v0 : Option Nat) (v1 : Int32) (v2 : Int32) : Mr Unit :=
  if v2 < v1 then (
    bd (aN 46 v0) fun x1 =>
    J1_circularClear_11 v0 v1 v2 x1)
  else
    J1_circularClear_11 v0 v1 v2 v2
def J1_clear (h : Nat) : Mr Unit :=
  bd (gR 11 0 (some h)) fun x1 =>
  bd (gI 11 1 (some h)) fun x2 =>
  bd (gI 11 2 (some h)) fun x3 =>
  bd (J1_circularClear x1 x2 x3) fun _ =>
  bd (pI 0 11 2 (some h) 0) fun _ =>
  bd (pI 0 11 1 (some h) 0) fun _ =>
  rt ()
def X1_restore_23 (h : Nat) (v1 : Int32) (w0 : Int32) : Mr (Ex ⊕ Unit) :=
  bh (X1_requireState w0) (fun e => rt (.inl e)) fun _ =>
  bd (nO 2 6) fun q2 =>
  bd (gR 1 6 (some h)) fun x3 =>
  bd (aR 49 x3 v1) fun x4 =>
  bd (X2_init_2 q2 x4) fun _ =>
  bd (pR 1 4 (some h) (some q2)) fun _ =>
  bd (gR 1 5 (some h)) fun x6 =>
  bd (rc 11 x6) fun h' =>
  bd (J1_clear h') fun _ =>
  okr (rt ())
def X1_restore (h : Nat) (v1 : Int32) : Mr (Ex ⊕ Unit) :=
  bd (X1_isBetween v1 0 1) fun x1 =>
  bh (X1_requireArgument x1) (fun e => rt (.inl e)) fun _ =>
  bd (gR 1 6 (some h)) fun x3 =>
  bd (aR 49 x3 v1) fun x4 =>
  if x4 = none then (
    X1_restore_23 h v1 0)
  else
    X1_restore_23 h v1 1
def X0_restore (v0 : Option Nat) (v1 : Int32) : Mr Int32 :=
  bd (rc 1 v0) fun h' =>
  bh (X1_restore h' v1) (fun e =>
    if e.1 = 1 then (
      rt 1)
    else
    if e.1 = 3 then (
      rt 2)
    else
    no) fun _ =>
  rt 0
def X4_init (h : Nat) (v1 : Int32) (v2 : Int32) (v3 : Option Nat) : Mr Unit :=
  bd (cA 41 v3) fun q1 =>
  bd (caW 41 (some q1)) fun _ =>
  bd (X4_init_2 h (some q1) v1 v2) fun _ =>
  rt ()
def X2_addHeap (h : Nat) (v1 : Int32) (v2 : Option Nat) : Mr Unit :=
  bd (gR 2 0 (some h)) fun x1 =>
  bd (nO 4 3) fun q2 =>
  bd (gR 2 0 (some h)) fun x3 =>
  bd (gI 3 1 x3) fun x4 =>
  bd (X4_init q2 x4 v1 v2) fun _ =>
  bd (rc 3 x1) fun h' =>
  bd (X3_add h' (some q2)) fun _ =>
  rt ()
def X1_first : Mr (Option Nat) :=
  bd (nO 2 6) fun q1 =>
  bd (X2_init q1 2 3) fun _ =>
  bd (nA 41 2) fun q3 =>
  bd (sI 41 (some q3) 0 4) fun _ =>
  bd (sI 41 (some q3) 1 2) fun _ =>
  bd (rc 2 (some q1)) fun h' =>
  bd (X2_addHeap h' 0 (some q3)) fun _ =>
  bd (nA 41 2) fun q5 =>
  bd (sI 41 (some q5) 0 3) fun _ =>
  bd (sI 41 (some q5) 1 3) fun _ =>
  bd (rc 2 (some q1)) fun h' =>
  bd (X2_addHeap h' 1 (some q5)) fun _ =>
  bd (nA 41 1) fun q7 =>
  bd (sI 41 (some q7) 0 5) fun _ =>
  bd (rc 2 (some q1)) fun h' =>
  bd (X2_addHeap h' 1 (some q7)) fun _ =>
  bd (nA 41 2) fun q9 =>
  bd (sI 41 (some q9) 0 9) fun _ =>
  bd (sI 41 (some q9) 1 1) fun _ =>
  bd (rc 2 (some q1)) fun h' =>
  bd (X2_addHeap h' 0 (some q9)) fun _ =>
  bd (nA 41 3) fun q11 =>
  bd (sI 41 (some q11) 0 0) fun _ =>
  bd (sI 41 (some q11) 1 2) fun _ =>
  bd (sI 41 (some q11) 2 2) fun _ =>
  bd (rc 2 (some q1)) fun h' =>
  bd (X2_addHeap h' 1 (some q11)) fun _ =>
  rt (some q1)
def J0_init (h : Nat) : Mr Unit :=
  rt ()
def J1_init (h : Nat) : Mr Unit :=
  bd (J0_init h) fun _ =>
  bd (nA 46 17) fun q2 =>
  bd (pR 11 0 (some h) (some q2)) fun _ =>
  rt ()
def J2_init (h : Nat) (v1 : Int32) : Mr Unit :=
  if (1 : Int32) = 0 then (
    no)
  else
    bd (nA 42 v1) fun q1 =>
    bd (pR 12 0 (some h) (some q1)) fun _ =>
    bd (pI 1 12 1 (some h) 0) fun _ =>
    rt ()
def J3_init (h : Nat) : Mr Unit :=
  bd (J2_init h 16) fun _ =>
  rt ()
def X1_init (h : Nat) : Mr Unit :=
  bd (nA 42 500) fun q1 =>
  bd (pR 1 0 (some h) (some q1)) fun _ =>
  bd (pI 0 1 3 (some h) (-1)) fun _ =>
  bd (X1_first) fun x2 =>
  bd (pR 1 4 (some h) x2) fun _ =>
  bd (nO 11 3) fun q3 =>
  bd (J1_init q3) fun _ =>
  bd (pR 1 5 (some h) (some q3)) fun _ =>
  bd (nA 49 2) fun q5 =>
  bd (pR 1 6 (some h) (some q5)) fun _ =>
  bd (nA 41 10) fun q6 =>
  bd (pR 1 7 (some h) (some q6)) fun _ =>
  bd (nO 12 4) fun q7 =>
  bd (J3_init q7) fun _ =>
  bd (pR 1 8 (some h) (some q7)) fun _ =>
  rt ()
def X6_here_34 (w0 : Int32) : Mr Int32 :=
  rt w0
def X6_here (h : Nat) : Mr Int32 :=
  bd (gI 6 0 (some h)) fun x1 =>
  bd (gR 6 5 (some h)) fun x2 =>
  bd (gI 1 1 x2) fun x3 =>
  if x3 ≤ x1 then (
    X6_here_34 (-1))
  else
    bd (gR 6 5 (some h)) fun x4 =>
    bd (gR 1 0 x4) fun x5 =>
    bd (gI 6 0 (some h)) fun x6 =>
    bd (aI 42 x5 x6) fun x7 =>
    X6_here_34 (x7 &&& 255)
def J13_checkLength (v0 : Int32) (v1 : Int32) : Mr Unit :=
  if v0 ≤ v1 then (
    rt ())
  else
    no
def J13_copyOfRangeByte (v0 : Option Nat) (v1 : Int32) (v2 : Int32) : Mr (Option Nat) :=
  bd (J13_checkLength v1 v2) fun _ =>
  bd (nA 42 (v2 - v1)) fun q2 =>
  bd (aN 42 v0) fun x3 =>
  bd (J12_min (x3 - v1) (v2 - v1)) fun x4 =>
  bd (cpI 42 v0 v1 (some q2) 0 x4) fun _ =>
  rt (some q2)
def J13_copyOfRange_10 (v0 : Option Nat) (v1 : Int32) (v2 : Int32) : Mr (Option Nat) :=
  bd (J13_copyOfRangeByte v0 v1 v2) fun x1 =>
  rt x1
def J13_copyOfRange (v0 : Option Nat) (v1 : Int32) (v2 : Int32) : Mr (Option Nat) :=
  if ¬ v1 = 0 then (
    J13_copyOfRange_10 v0 v1 v2)
  else
    bd (aN 42 v0) fun x1 =>
    if v2 = x1 then (
      bd (cA 42 v0) fun q2 =>
      bd (caW 42 (some q2)) fun _ =>
      rt (some q2))
    else
      J13_copyOfRange_10 v0 v1 v2
def J2_getValue (h : Nat) : Mr (Option Nat) :=
  bd (gR 12 0 (some h)) fun x1 =>
  rt x1
def J4_init_2_97 : Mr Unit :=
  rt ()
def J4_init_2_79 (h : Nat) (v3 : Option Nat) (v4 : Int32) : Mr Unit :=
  bd (pI 1 13 1 (some h) 1) fun _ =>
  bd (J13_copyOfRange v3 0 (v4 <<< (1 &&& 31))) fun x1 =>
  bd (pR 13 0 (some h) x1) fun _ =>
  J4_init_2_97
def J4_init_2 (h : Nat) (v1 : Option Nat) (v2 : Option Nat) : Mr Unit :=
  bd (rc 12 v1) fun h' =>
  bd (J2_getValue h') fun x1 =>
  bd (rc 12 v1) fun h' =>
  bd (J3_length h') fun x2 =>
  bd (rc 12 v1) fun h' =>
  bd (J2_isLatin1 h') fun x3 =>
  if x3 = 0 then (
    if (1 : Int32) = 0 then (
      J4_init_2_79 h x1 x2)
    else
      bd (gI 12 2 v1) fun x4 =>
      if x4 = 0 then (
        J4_init_2_79 h x1 x2)
      else
        no)
  else
    bd (pI 1 13 1 (some h) 0) fun _ =>
    bd (J13_copyOfRange x1 0 x2) fun x5 =>
    bd (pR 13 0 (some h) x5) fun _ =>
    J4_init_2_97
def J4_init (h : Nat) (v1 : Option Nat) : Mr Unit :=
  bd (J4_init_2 h v1 none) fun _ =>
  rt ()
def J3_toString (h : Nat) : Mr (Option Nat) :=
  bd (nO 13 4) fun q1 =>
  bd (J4_init q1 (some h)) fun _ =>
  rt (some q1)
def X6_advance_18 (k0 : Nat → Mr Unit) (h : Nat) : Mr Unit :=
  bd (gI 6 0 (some h)) fun x1 =>
  bd (pI 0 6 0 (some h) (x1 + 1)) fun _ =>
  k0 h
def X6_advance_239 : Mr Unit :=
  rt ()
def X6_advance_82 : Nat → Nat → Option Nat → Mr Unit
  | 0, _, _ => no
  | n + 1, h, v2 =>
    bd (rc 6 (some h)) fun h' =>
    bd (X6_here h') fun x1 =>
    bd (X1_isBetween x1 97 122) fun x2 =>
    if x2 = 0 then (
      bd (rc 12 v2) fun h' =>
      bd (J3_toString h') fun x3 =>
      bd (pR 6 4 (some h) x3) fun _ =>
      bd (pI 3 6 3 (some h) 119) fun _ =>
      X6_advance_239)
    else
      bd (rc 6 (some h)) fun h' =>
      bd (X6_here h') fun x4 =>
      bd (rc 12 v2) fun h' =>
      bd (J3_append h' ((x4.toUInt32 % 65536).toInt32)) fun x5 =>
      bd (gI 6 0 (some h)) fun x6 =>
      bd (pI 0 6 0 (some h) (x6 + 1)) fun _ =>
      X6_advance_82 n h v2
def X6_advance_152 : Nat → Nat → Mr Unit
  | 0, _ => no
  | n + 1, h =>
    bd (rc 6 (some h)) fun h' =>
    bd (X6_here h') fun x1 =>
    bd (X1_isBetween x1 48 57) fun x2 =>
    if x2 = 0 then (
      bd (pI 3 6 3 (some h) 110) fun _ =>
      X6_advance_239)
    else
      bd (gI 6 2 (some h)) fun x3 =>
      bd (rc 6 (some h)) fun h' =>
      bd (X6_here h') fun x4 =>
      bd (J12_min 1000000 (((10 * x3) + x4) - 48)) fun x5 =>
      bd (pI 0 6 2 (some h) x5) fun _ =>
      bd (gI 6 0 (some h)) fun x6 =>
      bd (pI 0 6 0 (some h) (x6 + 1)) fun _ =>
      X6_advance_152 n h
def X6_advance_226 (h : Nat) (w0 : Option Nat) (w1 : Int32) : Mr Unit :=
  bd (pI 3 6 3 w0 w1) fun _ =>
  bd (gI 6 0 (some h)) fun x1 =>
  bd (pI 0 6 0 (some h) (x1 + 1)) fun _ =>
  X6_advance_239
def X6_advance_0 : Nat → Nat → Mr Unit
  | 0, _ => no
  | n + 1, h =>
    bd (rc 6 (some h)) fun h' =>
    bd (X6_here h') fun x1 =>
    if x1 = 32 then (
      X6_advance_18 (X6_advance_0 n) h)
    else
      bd (rc 6 (some h)) fun h' =>
      bd (X6_here h') fun x2 =>
      if ¬ x2 = 10 then (
        bd (gI 6 0 (some h)) fun x3 =>
        bd (pI 0 6 1 (some h) x3) fun _ =>
        bd (gC 101) fun x4 =>
        bd (pR 6 4 (some h) (some x4)) fun _ =>
        bd (rc 6 (some h)) fun h' =>
        bd (X6_here h') fun x5 =>
        if ¬ x5 = (-1) then (
          bd (X1_isBetween x5 97 122) fun x6 =>
          if x6 = 0 then (
            bd (X1_isBetween x5 48 57) fun x7 =>
            if x7 = 0 then (
              if ¬ x5 = 59 then (
                X6_advance_226 h (some h) 63)
              else
                X6_advance_226 h (some h) 59)
            else
              bd (pI 0 6 2 (some h) 0) fun _ =>
              X6_advance_152 FU h)
          else
            bd (nO 12 4) fun q8 =>
            bd (J3_init q8) fun _ =>
            X6_advance_82 FU h (some q8))
        else
          bd (pI 3 6 3 (some h) 0) fun _ =>
          X6_advance_239)
      else
        X6_advance_18 (X6_advance_0 n) h
def X6_advance (h : Nat) : Mr Unit := X6_advance_0 FU h
def X6_init (h : Nat) (v1 : Option Nat) : Mr Unit :=
  bd (pR 6 5 (some h) v1) fun _ =>
  bd (gC 101) fun x1 =>
  bd (pR 6 4 (some h) (some x1)) fun _ =>
  bd (rc 6 (some h)) fun h' =>
  bd (X6_advance h') fun _ =>
  rt ()
def J6_init_3_60 : Mr Unit :=
  rt ()
def J6_init_3 (h : Nat) (v1 : Option Nat) (v2 : Option Nat) (v3 : Int32) (v4 : Int32) : Mr Unit :=
  bd (pR 7 0 (some h) (some h)) fun _ =>
  bd (gS 2) fun x1 =>
  bd (pR 7 1 (some h) x1) fun _ =>
  bd (gS 3) fun x2 =>
  bd (pR 7 2 (some h) x2) fun _ =>
  if v4 = 0 then (
    bd (pR 7 1 (some h) none) fun _ =>
    bd (pR 7 3 (some h) v1) fun _ =>
    bd (pR 7 0 (some h) v2) fun _ =>
    if ¬ v3 = 0 then (
      J6_init_3_60)
    else
      bd (pR 7 2 (some h) none) fun _ =>
      J6_init_3_60)
  else
    no
def J7_init_2 (h : Nat) (v1 : Option Nat) (v2 : Option Nat) (v3 : Int32) (v4 : Int32) : Mr Unit :=
  bd (J6_init_3 h v1 v2 v3 v4) fun _ =>
  rt ()
def X7_init (h : Nat) (v1 : Int32) (v2 : Int32) : Mr Unit :=
  bd (J7_init_2 h none none 0 0) fun _ =>
  bd (pI 0 7 6 (some h) v1) fun _ =>
  bd (pI 0 7 7 (some h) v2) fun _ =>
  rt ()
def X6_require (h : Nat) (v1 : Int32) (v2 : Int32) : Mr (Ex ⊕ Unit) :=
  if ¬ v1 = 0 then (
    okr (rt ()))
  else
    bd (nO 7 8) fun q1 =>
    bd (gI 6 1 (some h)) fun x2 =>
    bd (X7_init q1 v2 x2) fun _ =>
    bd (rk 7 (some q1)) fun q4 => rt (.inl (4, q4))
def X6_number_15 (h : Nat) (v1 : Int32) (v2 : Int32) (w0 : Option Nat) (w1 : Int32) : Mr (Ex ⊕ Int32) :=
  bd (rc 6 w0) fun h' =>
  bh (X6_require h' w1 1) (fun e => rt (.inl e)) fun _ =>
  bd (gI 6 2 (some h)) fun x2 =>
  bd (X1_isBetween x2 v1 v2) fun x3 =>
  bd (rc 6 (some h)) fun h' =>
  bh (X6_require h' x3 2) (fun e => rt (.inl e)) fun _ =>
  bd (gI 6 2 (some h)) fun x5 =>
  bd (rc 6 (some h)) fun h' =>
  bd (X6_advance h') fun _ =>
  okr (rt x5)
def X6_number (h : Nat) (v1 : Int32) (v2 : Int32) : Mr (Ex ⊕ Int32) :=
  bd (gI 6 3 (some h)) fun x1 =>
  if ¬ x1 = 110 then (
    X6_number_15 h v1 v2 (some h) 0)
  else
    X6_number_15 h v1 v2 (some h) 1
def X6_end_15 (h : Nat) (w0 : Option Nat) (w1 : Int32) : Mr (Ex ⊕ Unit) :=
  bd (rc 6 w0) fun h' =>
  bh (X6_require h' w1 1) (fun e => rt (.inl e)) fun _ =>
  bd (rc 6 (some h)) fun h' =>
  bd (X6_advance h') fun _ =>
  okr (rt ())
def X6_end (h : Nat) : Mr (Ex ⊕ Unit) :=
  bd (gI 6 3 (some h)) fun x1 =>
  if ¬ x1 = 59 then (
    X6_end_15 h (some h) 0)
  else
    X6_end_15 h (some h) 1
def J13_copyOf_2 (v0 : Option Nat) (v1 : Int32) : Mr (Option Nat) :=
  bd (aN 41 v0) fun x1 =>
  if ¬ v1 = x1 then (
    bd (nA 41 v1) fun q2 =>
    bd (aN 41 v0) fun x3 =>
    bd (J12_min x3 v1) fun x4 =>
    bd (cpI 41 v0 0 (some q2) 0 x4) fun _ =>
    rt (some q2))
  else
    bd (cA 41 v0) fun q5 =>
    bd (caW 41 (some q5)) fun _ =>
    rt (some q5)
def J14_equals_9 : Nat → Option Nat → Option Nat → Int32 → Mr Int32
  | 0, _, _, _ => no
  | n + 1, v0, v1, v2 =>
    bd (aN 42 v0) fun x1 =>
    if x1 ≤ v2 then (
      rz 2 1)
    else
      bd (aI 42 v0 v2) fun x2 =>
      bd (aI 42 v1 v2) fun x3 =>
      if x2 = x3 then (
        J14_equals_9 n v0 v1 (v2 + 1))
      else
        rz 2 0
def J14_equals (v0 : Option Nat) (v1 : Option Nat) : Mr Int32 :=
  bd (aN 42 v0) fun x1 =>
  bd (aN 42 v1) fun x2 =>
  if ¬ x1 = x2 then (
    rz 2 0)
  else
    J14_equals_9 FU v0 v1 0
def J4_equals_55 (w0 : Int32) : Mr Int32 :=
  rz 2 w0
def J4_equals_54 : Mr Int32 :=
  J4_equals_55 0
def J4_equals_36 (h : Nat) (v2 : Option Nat) : Mr Int32 :=
  bd (gR 13 0 (some h)) fun x1 =>
  bd (gR 13 0 v2) fun x2 =>
  bd (J14_equals x1 x2) fun x3 =>
  if x3 = 0 then (
    J4_equals_54)
  else
    J4_equals_55 1
def J4_equals (h : Nat) (v1 : Option Nat) : Mr Int32 :=
  if ¬ (some h) = v1 then (
    bd (iO 13 v1) fun x1 =>
    if x1 = 0 then (
      J4_equals_54)
    else
      bd (ca [13] v1) fun _ =>
      if (1 : Int32) = 0 then (
        J4_equals_36 h v1)
      else
        bd (gI 13 1 (some h)) fun x2 =>
        bd (gI 13 1 v1) fun x3 =>
        if ¬ x2 = x3 then (
          J4_equals_54)
        else
          J4_equals_36 h v1)
  else
    rz 2 1
def X6_heap_108 (k60 : Nat → Option Nat → Int32 → Option Nat → Int32 → Mr (Ex ⊕ Unit)) (h : Nat) (v1 : Option Nat) (v2 : Int32) (v3 : Option Nat) (v4 : Int32) (w0 : Option Nat) (w1 : Int32) : Mr (Ex ⊕ Unit) :=
  bd (rc 6 w0) fun h' =>
  bh (X6_require h' w1 3) (fun e => rt (.inl e)) fun _ =>
  bd (rc 6 (some h)) fun h' =>
  bh (X6_number h' 0 9) (fun e => rt (.inl e)) fun x2 =>
  bd (sI 41 v3 v4 x2) fun _ =>
  k60 h v1 v2 v3 (v4 + 1)
def X6_heap_103 (k60 : Nat → Option Nat → Int32 → Option Nat → Int32 → Mr (Ex ⊕ Unit)) (h : Nat) (v1 : Option Nat) (v2 : Int32) (v3 : Option Nat) (v4 : Int32) (w0 : Option Nat) : Mr (Ex ⊕ Unit) :=
  X6_heap_108 k60 h v1 v2 v3 v4 w0 1
def X6_heap_74 (k60 : Nat → Option Nat → Int32 → Option Nat → Int32 → Mr (Ex ⊕ Unit)) (h : Nat) (v1 : Option Nat) (v2 : Int32) (v3 : Option Nat) (v4 : Int32) : Mr (Ex ⊕ Unit) :=
  bd (gI 6 3 (some h)) fun x1 =>
  if ¬ x1 = 110 then (
    X6_heap_103 k60 h v1 v2 v3 v4 (some h))
  else
    bd (gI 6 2 (some h)) fun x2 =>
    bd (X1_isBetween x2 0 9) fun x3 =>
    if x3 = 0 then (
      X6_heap_103 k60 h v1 v2 v3 v4 (some h))
    else
      if 5 ≤ v4 then (
        X6_heap_108 k60 h v1 v2 v3 v4 (some h) 0)
      else
        X6_heap_103 k60 h v1 v2 v3 v4 (some h)
def X6_heap_60 : Nat → Nat → Option Nat → Int32 → Option Nat → Int32 → Mr (Ex ⊕ Unit)
  | 0, _, _, _, _, _ => no
  | n + 1, h, v1, v2, v3, v4 =>
    if v4 = 0 then (
      X6_heap_74 (X6_heap_60 n) h v1 v2 v3 v4)
    else
      bd (gI 6 3 (some h)) fun x1 =>
      if ¬ x1 = 110 then (
        bd (rc 6 (some h)) fun h' =>
        bh (X6_end h') (fun e => rt (.inl e)) fun _ =>
        bd (J13_copyOf_2 v3 v4) fun x3 =>
        bd (rc 2 v1) fun h' =>
        bd (X2_addHeap h' v2 x3) fun _ =>
        okr (rt ()))
      else
        X6_heap_74 (X6_heap_60 n) h v1 v2 v3 v4
def X6_heap_32 (h : Nat) (v1 : Option Nat) (w0 : Option Nat) (w1 : Int32) : Mr (Ex ⊕ Unit) :=
  bd (rc 6 w0) fun h' =>
  bh (X6_require h' w1 4) (fun e => rt (.inl e)) fun _ =>
  bd (rc 6 (some h)) fun h' =>
  bd (X6_advance h') fun _ =>
  bd (gR 2 3 v1) fun x3 =>
  bd (aN 41 x3) fun x4 =>
  bd (rc 6 (some h)) fun h' =>
  bh (X6_number h' 0 (x4 - 1)) (fun e => rt (.inl e)) fun x5 =>
  bd (nA 41 5) fun q6 =>
  X6_heap_60 FU h v1 x5 (some q6) 0
def X6_heap (h : Nat) (v1 : Option Nat) : Mr (Ex ⊕ Unit) :=
  bd (gR 6 4 (some h)) fun x1 =>
  bd (gC 102) fun x2 =>
  bd (rc 13 x1) fun h' =>
  bd (J4_equals h' (some x2)) fun x3 =>
  bd (rc 6 (some h)) fun h' =>
  bh (X6_require h' x3 1) (fun e => rt (.inl e)) fun _ =>
  bd (gR 2 0 v1) fun x5 =>
  bd (gI 3 1 x5) fun x6 =>
  if 10 ≤ x6 then (
    X6_heap_32 h v1 (some h) 0)
  else
    X6_heap_32 h v1 (some h) 1
def X6_word (h : Nat) (v1 : Option Nat) : Mr (Ex ⊕ Unit) :=
  bd (gR 6 4 (some h)) fun x1 =>
  bd (rc 13 x1) fun h' =>
  bd (J4_equals h' v1) fun x2 =>
  bd (rc 6 (some h)) fun h' =>
  bh (X6_require h' x2 1) (fun e => rt (.inl e)) fun _ =>
  bd (rc 6 (some h)) fun h' =>
  bd (X6_advance h') fun _ =>
  okr (rt ())
def X6_market_51 (k33 : Nat → Option Nat → Mr (Ex ⊕ (Option Nat))) (h : Nat) (v2 : Option Nat) : Mr (Ex ⊕ (Option Nat)) :=
  bd (rc 6 (some h)) fun h' =>
  bh (X6_heap h' v2) (fun e => rt (.inl e)) fun _ =>
  k33 h v2
def X6_market_33 : Nat → Nat → Option Nat → Mr (Ex ⊕ (Option Nat))
  | 0, _, _ => no
  | n + 1, h, v2 =>
    bd (gI 6 3 (some h)) fun x1 =>
    if ¬ x1 = 0 then (
      X6_market_51 (X6_market_33 n) h v2)
    else
      bd (gR 2 0 v2) fun x2 =>
      bd (gI 3 1 x2) fun x3 =>
      if 2 ≤ x3 then (
        okr (rt v2))
      else
        X6_market_51 (X6_market_33 n) h v2
def X6_market (h : Nat) : Mr (Ex ⊕ (Option Nat)) :=
  bd (gC 103) fun x1 =>
  bd (rc 6 (some h)) fun h' =>
  bh (X6_word h' (some x1)) (fun e => rt (.inl e)) fun _ =>
  bd (rc 6 (some h)) fun h' =>
  bh (X6_number h' 1 4) (fun e => rt (.inl e)) fun x3 =>
  bd (nO 2 6) fun q4 =>
  bd (rc 6 (some h)) fun h' =>
  bh (X6_number h' 0 9) (fun e => rt (.inl e)) fun x5 =>
  bd (X2_init q4 x3 x5) fun _ =>
  bd (rc 6 (some h)) fun h' =>
  bh (X6_end h') (fun e => rt (.inl e)) fun _ =>
  X6_market_33 FU h (some q4)
def X1_wrong (h : Nat) (v1 : Option Nat) : Mr Int32 :=
  bd (gI 7 6 v1) fun x1 =>
  bd (pI 0 1 2 (some h) x1) fun _ =>
  bd (gI 7 7 v1) fun x2 =>
  bd (pI 0 1 3 (some h) x2) fun _ =>
  rt (-1)
def X1_load (h : Nat) : Mr Int32 :=
  bd (pI 0 1 2 (some h) 0) fun _ =>
  bd (pI 0 1 3 (some h) (-1)) fun _ =>
  bd (nO 6 6) fun q1 =>
  bd (X6_init q1 (some h)) fun _ =>
  bd (rc 6 (some q1)) fun h' =>
  bh (X6_market h') (fun e =>
    if e.1 = 4 then (
      bd (rc 1 (some h)) fun h' =>
      bd (X1_wrong h' (some e.2)) fun x9 =>
      bd (pI 0 1 1 (some h) 0) fun _ =>
      rt x9)
    else
    no) fun x3 =>
  bd (pR 1 4 (some h) x3) fun _ =>
  bd (gR 1 5 (some h)) fun x4 =>
  bd (rc 11 x4) fun h' =>
  bd (J1_clear h') fun _ =>
  bd (gR 1 4 (some h)) fun x6 =>
  bd (gR 2 0 x6) fun x7 =>
  bd (gI 3 1 x7) fun x8 =>
  bd (pI 0 1 1 (some h) 0) fun _ =>
  rt x8
def X6_areHeaps_8 : Nat → Nat → Option Nat → Int32 → Int32 → Mr Int32
  | 0, _, _, _, _ => no
  | n + 1, h, v2, v3, v4 =>
    if v3 ≤ v4 then (
      rz 2 1)
    else
      bd (aI 41 v2 v4) fun x1 =>
      bd (gR 6 5 (some h)) fun x2 =>
      bd (gR 1 4 x2) fun x3 =>
      bd (gR 2 0 x3) fun x4 =>
      bd (rc 3 x4) fun h' =>
      bd (X3_has h' x1) fun x5 =>
      if ¬ x5 = 0 then (
        X6_areHeaps_8 n h v2 v3 (v4 + 1))
      else
        rz 2 0
def X6_areHeaps (h : Nat) (v1 : Option Nat) : Mr Int32 :=
  bd (aN 41 v1) fun x1 =>
  X6_areHeaps_8 FU h v1 x1 0
def X6_lambda_command_0_49 (w0 : Int32) : Mr Int32 :=
  rt w0
def X6_lambda_command_0_48 : Mr Int32 :=
  X6_lambda_command_0_49 (-1)
def X6_lambda_command_0 (h : Nat) (v1 : Int32) (v2 : Int32) (v3 : Int32) (v4 : Int32) : Mr Int32 :=
  bd (gR 6 5 (some h)) fun x1 =>
  bd (gR 1 4 x1) fun x2 =>
  bd (gR 2 3 x2) fun x3 =>
  bd (aN 41 x3) fun x4 =>
  if x4 ≤ v1 then (
    X6_lambda_command_0_48)
  else
    bd (nA 41 2) fun q5 =>
    bd (sI 41 (some q5) 0 v2) fun _ =>
    bd (sI 41 (some q5) 1 v3) fun _ =>
    bd (rc 6 (some h)) fun h' =>
    bd (X6_areHeaps h' (some q5)) fun x6 =>
    if x6 = 0 then (
      X6_lambda_command_0_48)
    else
      bd (gR 6 5 (some h)) fun x7 =>
      bd (rc 1 x7) fun h' =>
      bh (X1_say h' v1 v2 v4 v3) (fun _ => no) fun x8 =>
      X6_lambda_command_0_49 x8
def X6_hasRow_44 (w0 : Int32) : Mr Int32 :=
  rz 2 w0
def X6_hasRow_43 : Mr Int32 :=
  X6_hasRow_44 0
def X6_hasRow (h : Nat) (v1 : Int32) (v2 : Int32) : Mr Int32 :=
  bd (nA 41 1) fun q1 =>
  bd (sI 41 (some q1) 0 v1) fun _ =>
  bd (rc 6 (some h)) fun h' =>
  bd (X6_areHeaps h' (some q1)) fun x2 =>
  if x2 = 0 then (
    X6_hasRow_43)
  else
    bd (gR 6 5 (some h)) fun x3 =>
    bd (gR 1 4 x3) fun x4 =>
    bd (gR 2 0 x4) fun x5 =>
    bd (rc 3 x5) fun h' =>
    bd (X3_at h' v1) fun x6 =>
    bd (ca [4] x6) fun _ =>
    bd (gR 4 1 x6) fun x7 =>
    bd (aN 41 x7) fun x8 =>
    if x8 ≤ v2 then (
      X6_hasRow_43)
    else
      X6_hasRow_44 1
def X6_lambda_command_1_87 (w0 : Int32) : Mr Int32 :=
  rt w0
def X6_lambda_command_1_86 : Mr Int32 :=
  X6_lambda_command_1_87 (-1)
def X6_lambda_command_1 (h : Nat) (v1 : Int32) (v2 : Int32) (v3 : Int32) : Mr Int32 :=
  bd (gR 6 5 (some h)) fun x1 =>
  bd (gR 1 4 x1) fun x2 =>
  bd (gR 2 1 x2) fun x3 =>
  bd (rc 3 x3) fun h' =>
  bd (X3_has h' v1) fun x4 =>
  if x4 = 0 then (
    X6_lambda_command_1_86)
  else
    bd (gR 6 5 (some h)) fun x5 =>
    bd (gR 1 4 x5) fun x6 =>
    bd (gR 2 1 x6) fun x7 =>
    bd (rc 3 x7) fun h' =>
    bd (X3_at h' v1) fun x8 =>
    bd (ca [8] x8) fun _ =>
    bd (gI 8 2 x8) fun x9 =>
    bd (rc 6 (some h)) fun h' =>
    bd (X6_hasRow h' x9 v2) fun x10 =>
    if x10 = 0 then (
      X6_lambda_command_1_86)
    else
      bd (gR 6 5 (some h)) fun x11 =>
      bd (gR 1 4 x11) fun x12 =>
      bd (gR 2 1 x12) fun x13 =>
      bd (rc 3 x13) fun h' =>
      bd (X3_at h' v1) fun x14 =>
      bd (ca [8] x14) fun _ =>
      bd (gI 8 3 x14) fun x15 =>
      bd (rc 6 (some h)) fun h' =>
      bd (X6_hasRow h' x15 v3) fun x16 =>
      if x16 = 0 then (
        X6_lambda_command_1_86)
      else
        bd (gR 6 5 (some h)) fun x17 =>
        bd (rc 1 x17) fun h' =>
        bh (X1_pair h' v1 v2 v3) (fun _ => no) fun x18 =>
        X6_lambda_command_1_87 x18
def X6_lambda_command_2_23 (w0 : Int32) : Mr Int32 :=
  rt w0
def X6_lambda_command_2 (h : Nat) (v1 : Int32) (v2 : Int32) (v3 : Int32) : Mr Int32 :=
  bd (rc 6 (some h)) fun h' =>
  bd (X6_hasRow h' v1 v2) fun x1 =>
  if x1 = 0 then (
    X6_lambda_command_2_23 (-1))
  else
    bd (gR 6 5 (some h)) fun x2 =>
    bd (rc 1 x2) fun h' =>
    bh (X1_put h' v1 v2 v3) (fun _ => no) fun x3 =>
    X6_lambda_command_2_23 x3
def X6_lambda_command_3_31 (w0 : Int32) : Mr Int32 :=
  rt w0
def X6_lambda_command_3 (h : Nat) (v1 : Int32) (v2 : Int32) : Mr Int32 :=
  bd (nA 41 2) fun q1 =>
  bd (sI 41 (some q1) 0 v1) fun _ =>
  bd (sI 41 (some q1) 1 v2) fun _ =>
  bd (rc 6 (some h)) fun h' =>
  bd (X6_areHeaps h' (some q1)) fun x2 =>
  if x2 = 0 then (
    X6_lambda_command_3_31 (-1))
  else
    bd (gR 6 5 (some h)) fun x3 =>
    bd (rc 1 x3) fun h' =>
    bh (X1_swap h' v1 v2) (fun _ => no) fun x4 =>
    X6_lambda_command_3_31 x4
def X6_lambda_command_4 (h : Nat) (v1 : Int32) : Mr Int32 :=
  bd (gR 6 5 (some h)) fun x1 =>
  bd (rc 1 x1) fun h' =>
  bh (X1_setEye h' v1) (fun _ => no) fun x2 =>
  rt x2
def X6_lambda_command_5_69 (w0 : Int32) : Mr Int32 :=
  rt w0
def X6_lambda_command_5 (h : Nat) (v1 : Int32) (v2 : Option Nat) : Mr Int32 :=
  bd (gR 6 5 (some h)) fun x1 =>
  bd (gR 1 4 x1) fun x2 =>
  bd (gR 2 1 x2) fun x3 =>
  bd (rc 3 x3) fun h' =>
  bd (X3_has h' v1) fun x4 =>
  if ¬ x4 = 0 then (
    bd (gC 106) fun x5 =>
    bd (rc 13 v2) fun h' =>
    bd (J4_equals h' (some x5)) fun x6 =>
    if x6 = 0 then (
      bd (gC 107) fun x7 =>
      bd (rc 13 v2) fun h' =>
      bd (J4_equals h' (some x7)) fun x8 =>
      if x8 = 0 then (
        bd (gR 6 5 (some h)) fun x9 =>
        bd (rc 1 x9) fun h' =>
        bh (X1_drop h' v1) (fun _ => no) fun x10 =>
        X6_lambda_command_5_69 x10)
      else
        bd (gR 6 5 (some h)) fun x11 =>
        bd (rc 1 x11) fun h' =>
        bh (X1_close h' v1) (fun _ => no) fun x12 =>
        X6_lambda_command_5_69 x12)
    else
      bd (gR 6 5 (some h)) fun x13 =>
      bd (rc 1 x13) fun h' =>
      bh (X1_match h' v1) (fun _ => no) fun x14 =>
      X6_lambda_command_5_69 x14)
  else
    X6_lambda_command_5_69 (-1)
def IF_does (r : Option Nat) : Mr Int32 :=
  bd (gK r) fun p =>
  if p.2 = 73 then
    bd (gR 73 0 (some p.1)) fun c0 =>
    bd (gI 73 1 (some p.1)) fun c1 =>
    bd (gI 73 2 (some p.1)) fun c2 =>
    bd (gI 73 3 (some p.1)) fun c3 =>
    bd (gI 73 4 (some p.1)) fun c4 =>
    bd (rc 6 c0) fun h =>
    bd (X6_lambda_command_0 h c1 c2 c3 c4) fun z => rz 0 z
  else
  if p.2 = 74 then
    bd (gR 74 0 (some p.1)) fun c0 =>
    bd (gI 74 1 (some p.1)) fun c1 =>
    bd (gI 74 2 (some p.1)) fun c2 =>
    bd (gI 74 3 (some p.1)) fun c3 =>
    bd (rc 6 c0) fun h =>
    bd (X6_lambda_command_1 h c1 c2 c3) fun z => rz 0 z
  else
  if p.2 = 75 then
    bd (gR 75 0 (some p.1)) fun c0 =>
    bd (gI 75 1 (some p.1)) fun c1 =>
    bd (gI 75 2 (some p.1)) fun c2 =>
    bd (gI 75 3 (some p.1)) fun c3 =>
    bd (rc 6 c0) fun h =>
    bd (X6_lambda_command_2 h c1 c2 c3) fun z => rz 0 z
  else
  if p.2 = 76 then
    bd (gR 76 0 (some p.1)) fun c0 =>
    bd (gI 76 1 (some p.1)) fun c1 =>
    bd (gI 76 2 (some p.1)) fun c2 =>
    bd (rc 6 c0) fun h =>
    bd (X6_lambda_command_3 h c1 c2) fun z => rz 0 z
  else
  if p.2 = 77 then
    bd (gR 77 0 (some p.1)) fun c0 =>
    bd (gI 77 1 (some p.1)) fun c1 =>
    bd (rc 6 c0) fun h =>
    bd (X6_lambda_command_4 h c1) fun z => rz 0 z
  else
  if p.2 = 78 then
    bd (gR 78 0 (some p.1)) fun c0 =>
    bd (gI 78 1 (some p.1)) fun c1 =>
    bd (gR 78 2 (some p.1)) fun c2 =>
    bd (rc 6 c0) fun h =>
    bd (X6_lambda_command_5 h c1 c2) fun z => rz 0 z
  else
no
def X6_said_61 (h : Nat) (v1 : Int32) (w0 : Option Nat) (w1 : Int32) : Mr (Ex ⊕ Int32) :=
  bd (rc 6 w0) fun h' =>
  bh (X6_require h' w1 1) (fun e => rt (.inl e)) fun _ =>
  bd (rc 6 (some h)) fun h' =>
  bd (X6_advance h') fun _ =>
  okr (rt v1)
def X6_said_49 (h : Nat) (w0 : Int32) : Mr (Ex ⊕ Int32) :=
  if w0 = (-1) then (
    X6_said_61 h w0 (some h) 0)
  else
    X6_said_61 h w0 (some h) 1
def X6_said (h : Nat) : Mr (Ex ⊕ Int32) :=
  bd (gR 6 4 (some h)) fun x1 =>
  bd (gC 112) fun x2 =>
  bd (rc 13 x1) fun h' =>
  bd (J4_equals h' (some x2)) fun x3 =>
  if x3 = 0 then (
    bd (gR 6 4 (some h)) fun x4 =>
    bd (gC 113) fun x5 =>
    bd (rc 13 x4) fun h' =>
    bd (J4_equals h' (some x5)) fun x6 =>
    if x6 = 0 then (
      bd (gR 6 4 (some h)) fun x7 =>
      bd (gC 114) fun x8 =>
      bd (rc 13 x7) fun h' =>
      bd (J4_equals h' (some x8)) fun x9 =>
      if x9 = 0 then (
        X6_said_49 h (-1))
      else
        X6_said_49 h 2)
    else
      X6_said_49 h 1)
  else
    X6_said_49 h 0
def J11_signedHashCode_8 : Nat → Int32 → Option Nat → Int32 → Int32 → Mr Int32
  | 0, _, _, _, _ => no
  | n + 1, v0, v1, v4, v5 =>
    if v4 ≤ v5 then (
      rt v0)
    else
      bd (aI 42 v1 v5) fun x1 =>
      J11_signedHashCode_8 n ((31 * v0) + (x1 &&& 255)) v1 v4 (v5 + 1)
def J11_signedHashCode (v0 : Int32) (v1 : Option Nat) (v2 : Int32) (v3 : Int32) : Mr Int32 :=
  J11_signedHashCode_8 FU v0 v1 (v2 + v3) v2
def J11_vectorizedHashCode (v0 : Option Nat) (v1 : Int32) (v2 : Int32) (v3 : Int32) (v4 : Int32) : Mr Int32 :=
  if v4.toInt < 4 ∨ 10 < v4.toInt then (
    no)
  else
    if v4 = 4 then (
      bd (caW 42 v0) fun _ =>
      bd (J11_signedHashCode v3 v0 v1 v2) fun x1 =>
      rt x1)
    else
      if v4 = 5 then (
        no)
      else
        if v4 = 6 then (
          no)
        else
          if v4 = 7 then (
            no)
          else
            if v4 = 8 then (
              bd (caW 42 v0) fun _ =>
              no)
            else
              if v4 = 9 then (
                no)
              else
                if v4 = 10 then (
                  bd (caW 41 v0) fun _ =>
                  no)
                else
                  no
def J14_hashCode_51 (w0 : Int32) : Mr Int32 :=
  rt w0
def J14_hashCode (v0 : Option Nat) : Mr Int32 :=
  bd (aN 42 v0) fun x1 =>
  if x1 = 0 then (
    J14_hashCode_51 0)
  else
    if x1 = 1 then (
      bd (aI 42 v0 0) fun x2 =>
      J14_hashCode_51 (x2 &&& 255))
    else
      bd (aN 42 v0) fun x3 =>
      bd (J11_vectorizedHashCode v0 0 x3 0 4) fun x4 =>
      J14_hashCode_51 x4
def J4_hashCode_58 (v1 : Int32) : Mr Int32 :=
  rt v1
def J4_hashCode (h : Nat) : Mr Int32 :=
  bd (gI 13 2 (some h)) fun x1 =>
  if ¬ x1 = 0 then (
    J4_hashCode_58 x1)
  else
    bd (gI 13 3 (some h)) fun x2 =>
    if ¬ x2 = 0 then (
      J4_hashCode_58 x1)
    else
      bd (rc 13 (some h)) fun h' =>
      bd (J4_isLatin1 h') fun x3 =>
      if x3 = 0 then (
        bd (gR 13 0 (some h)) fun x4 =>
        no)
      else
        bd (gR 13 0 (some h)) fun x5 =>
        bd (J14_hashCode x5) fun x6 =>
        if ¬ x6 = 0 then (
          bd (pI 0 13 2 (some h) x6) fun _ =>
          J4_hashCode_58 x6)
        else
          bd (pI 2 13 3 (some h) 1) fun _ =>
          J4_hashCode_58 x6
def X6_command_127 (h : Nat) (v1 : Option Nat) (v3 : Int32) : Mr (Ex ⊕ (Option Nat)) :=
  if v3.toInt < 0 ∨ 4 < v3.toInt then (
    bd (rc 6 (some h)) fun h' =>
    bh (X6_number h' 0 19) (fun e => rt (.inl e)) fun x1 =>
    bd (nL 78 3 (fun j => if j = 1 then x1 else 0) (fun j => if j = 0 then (some h) else if j = 2 then v1 else none)) fun q2 =>
    okr (rt (some q2)))
  else
    if v3 = 0 then (
      bd (rc 6 (some h)) fun h' =>
      bh (X6_number h' 0 3) (fun e => rt (.inl e)) fun x3 =>
      bd (rc 6 (some h)) fun h' =>
      bh (X6_number h' 0 9) (fun e => rt (.inl e)) fun x4 =>
      bd (rc 6 (some h)) fun h' =>
      bh (X6_said h') (fun e => rt (.inl e)) fun x5 =>
      bd (rc 6 (some h)) fun h' =>
      bh (X6_number h' 0 9) (fun e => rt (.inl e)) fun x6 =>
      bd (nL 73 5 (fun j => if j = 1 then x3 else if j = 2 then x4 else if j = 3 then x6 else if j = 4 then x5 else 0) (fun j => if j = 0 then (some h) else none)) fun q7 =>
      okr (rt (some q7)))
    else
      if v3 = 1 then (
        bd (rc 6 (some h)) fun h' =>
        bh (X6_number h' 0 19) (fun e => rt (.inl e)) fun x8 =>
        bd (rc 6 (some h)) fun h' =>
        bh (X6_number h' 0 4) (fun e => rt (.inl e)) fun x9 =>
        bd (rc 6 (some h)) fun h' =>
        bh (X6_number h' 0 4) (fun e => rt (.inl e)) fun x10 =>
        bd (nL 74 4 (fun j => if j = 1 then x8 else if j = 2 then x9 else if j = 3 then x10 else 0) (fun j => if j = 0 then (some h) else none)) fun q11 =>
        okr (rt (some q11)))
      else
        if v3 = 2 then (
          bd (rc 6 (some h)) fun h' =>
          bh (X6_number h' 0 9) (fun e => rt (.inl e)) fun x12 =>
          bd (rc 6 (some h)) fun h' =>
          bh (X6_number h' 0 4) (fun e => rt (.inl e)) fun x13 =>
          bd (rc 6 (some h)) fun h' =>
          bh (X6_number h' 0 9) (fun e => rt (.inl e)) fun x14 =>
          bd (nL 75 4 (fun j => if j = 1 then x12 else if j = 2 then x13 else if j = 3 then x14 else 0) (fun j => if j = 0 then (some h) else none)) fun q15 =>
          okr (rt (some q15)))
        else
          if v3 = 3 then (
            bd (rc 6 (some h)) fun h' =>
            bh (X6_number h' 0 9) (fun e => rt (.inl e)) fun x16 =>
            bd (rc 6 (some h)) fun h' =>
            bh (X6_number h' 0 9) (fun e => rt (.inl e)) fun x17 =>
            bd (nL 76 3 (fun j => if j = 1 then x16 else if j = 2 then x17 else 0) (fun j => if j = 0 then (some h) else none)) fun q18 =>
            okr (rt (some q18)))
          else
            if v3 = 4 then (
              bd (rc 6 (some h)) fun h' =>
              bh (X6_number h' 0 9) (fun e => rt (.inl e)) fun x19 =>
              bd (nL 77 2 (fun j => if j = 1 then x19 else 0) (fun j => if j = 0 then (some h) else none)) fun q20 =>
              okr (rt (some q20)))
            else
              no
def X6_command (h : Nat) (v1 : Option Nat) : Mr (Ex ⊕ (Option Nat)) :=
  bd (rc 13 v1) fun h' =>
  bd (J4_hashCode h') fun x1 =>
  if x1 = 100913 then (
    bd (gC 111) fun x2 =>
    bd (rc 13 v1) fun h' =>
    bd (J4_equals h' (some x2)) fun x3 =>
    if x3 = 0 then (
      X6_command_127 h v1 (-1))
    else
      X6_command_127 h v1 4)
  else
    if x1 = 111375 then (
      bd (gC 109) fun x4 =>
      bd (rc 13 v1) fun h' =>
      bd (J4_equals h' (some x4)) fun x5 =>
      if x5 = 0 then (
        X6_command_127 h v1 (-1))
      else
        X6_command_127 h v1 2)
    else
      if x1 = 113643 then (
        bd (gC 104) fun x6 =>
        bd (rc 13 v1) fun h' =>
        bd (J4_equals h' (some x6)) fun x7 =>
        if x7 = 0 then (
          X6_command_127 h v1 (-1))
        else
          X6_command_127 h v1 0)
      else
        if x1 = 3433178 then (
          bd (gC 105) fun x8 =>
          bd (rc 13 v1) fun h' =>
          bd (J4_equals h' (some x8)) fun x9 =>
          if x9 = 0 then (
            X6_command_127 h v1 (-1))
          else
            X6_command_127 h v1 1)
        else
          if x1 = 3543443 then (
            bd (gC 110) fun x10 =>
            bd (rc 13 v1) fun h' =>
            bd (J4_equals h' (some x10)) fun x11 =>
            if x11 = 0 then (
              X6_command_127 h v1 (-1))
            else
              X6_command_127 h v1 3)
          else
            X6_command_127 h v1 (-1)
def X6_isCommand_195 (v3 : Int32) : Mr Int32 :=
  if v3.toInt < 0 ∨ 7 < v3.toInt then (
    rz 2 0)
  else
    if v3 = 0 then (
      rz 2 1)
    else
      if v3 = 1 then (
        rz 2 1)
      else
        if v3 = 2 then (
          rz 2 1)
        else
          if v3 = 3 then (
            rz 2 1)
          else
            if v3 = 4 then (
              rz 2 1)
            else
              if v3 = 5 then (
                rz 2 1)
              else
                if v3 = 6 then (
                  rz 2 1)
                else
                  if v3 = 7 then (
                    rz 2 1)
                  else
                    no
def X6_isCommand (h : Nat) (v1 : Option Nat) : Mr Int32 :=
  bd (rc 13 v1) fun h' =>
  bd (J4_hashCode h') fun x1 =>
  if x1 = 100913 then (
    bd (gC 111) fun x2 =>
    bd (rc 13 v1) fun h' =>
    bd (J4_equals h' (some x2)) fun x3 =>
    if x3 = 0 then (
      X6_isCommand_195 (-1))
    else
      X6_isCommand_195 7)
  else
    if x1 = 111375 then (
      bd (gC 109) fun x4 =>
      bd (rc 13 v1) fun h' =>
      bd (J4_equals h' (some x4)) fun x5 =>
      if x5 = 0 then (
        X6_isCommand_195 (-1))
      else
        X6_isCommand_195 5)
    else
      if x1 = 113643 then (
        bd (gC 104) fun x6 =>
        bd (rc 13 v1) fun h' =>
        bd (J4_equals h' (some x6)) fun x7 =>
        if x7 = 0 then (
          X6_isCommand_195 (-1))
        else
          X6_isCommand_195 0)
      else
        if x1 = 3092207 then (
          bd (gC 108) fun x8 =>
          bd (rc 13 v1) fun h' =>
          bd (J4_equals h' (some x8)) fun x9 =>
          if x9 = 0 then (
            X6_isCommand_195 (-1))
          else
            X6_isCommand_195 4)
        else
          if x1 = 3433178 then (
            bd (gC 105) fun x10 =>
            bd (rc 13 v1) fun h' =>
            bd (J4_equals h' (some x10)) fun x11 =>
            if x11 = 0 then (
              X6_isCommand_195 (-1))
            else
              X6_isCommand_195 1)
          else
            if x1 = 3543443 then (
              bd (gC 110) fun x12 =>
              bd (rc 13 v1) fun h' =>
              bd (J4_equals h' (some x12)) fun x13 =>
              if x13 = 0 then (
                X6_isCommand_195 (-1))
              else
                X6_isCommand_195 6)
            else
              if x1 = 94756344 then (
                bd (gC 107) fun x14 =>
                bd (rc 13 v1) fun h' =>
                bd (J4_equals h' (some x14)) fun x15 =>
                if x15 = 0 then (
                  X6_isCommand_195 (-1))
                else
                  X6_isCommand_195 3)
              else
                if x1 = 103668165 then (
                  bd (gC 106) fun x16 =>
                  bd (rc 13 v1) fun h' =>
                  bd (J4_equals h' (some x16)) fun x17 =>
                  if x17 = 0 then (
                    X6_isCommand_195 (-1))
                  else
                    X6_isCommand_195 2)
                else
                  X6_isCommand_195 (-1)
def X6_commands_42 (k8 : Nat → Option Nat → Int32 → Mr (Ex ⊕ (Option Nat))) (h : Nat) (v1 : Option Nat) (v2 : Int32) (v3 : Option Nat) (w0 : Option Nat) (w1 : Int32) : Mr (Ex ⊕ (Option Nat)) :=
  bd (rc 6 w0) fun h' =>
  bh (X6_require h' w1 4) (fun e => rt (.inl e)) fun _ =>
  bd (rc 6 (some h)) fun h' =>
  bd (X6_advance h') fun _ =>
  bd (rc 6 (some h)) fun h' =>
  bh (X6_command h' v3) (fun e => rt (.inl e)) fun x3 =>
  bd (sR 50 [73, 74, 75, 76, 77, 78] v1 v2 x3) fun _ =>
  bd (rc 6 (some h)) fun h' =>
  bh (X6_end h') (fun e => rt (.inl e)) fun _ =>
  k8 h v1 (v2 + 1)
def X6_commands_8 : Nat → Nat → Option Nat → Int32 → Mr (Ex ⊕ (Option Nat))
  | 0, _, _, _ => no
  | n + 1, h, v1, v2 =>
    bd (gI 6 3 (some h)) fun x1 =>
    if x1 = 0 then (
      okr (rt v1))
    else
      bd (gR 6 4 (some h)) fun x2 =>
      bd (rc 6 (some h)) fun h' =>
      bd (X6_isCommand h' x2) fun x3 =>
      bd (rc 6 (some h)) fun h' =>
      bh (X6_require h' x3 1) (fun e => rt (.inl e)) fun _ =>
      if 25 ≤ v2 then (
        X6_commands_42 (X6_commands_8 n) h v1 v2 x2 (some h) 0)
      else
        X6_commands_42 (X6_commands_8 n) h v1 v2 x2 (some h) 1
def X6_commands (h : Nat) : Mr (Ex ⊕ (Option Nat)) :=
  bd (nA 50 26) fun q1 =>
  X6_commands_8 FU h (some q1) 0
def X1_play_79 (v2 : Int32) : Mr Int32 :=
  rt v2
def X1_play_56 : Nat → Option Nat → Int32 → Mr Int32
  | 0, _, _ => no
  | n + 1, v1, v2 =>
    bd (aR 50 v1 v2) fun x1 =>
    if x1 = none then (
      X1_play_79 v2)
    else
      bd (aR 50 v1 v2) fun x2 =>
      bd (IF_does x2) fun x3 =>
      if x3 < 0 then (
        X1_play_79 v2)
      else
        X1_play_56 n v1 (v2 + 1)
def X1_play (h : Nat) : Mr Int32 :=
  bd (pI 0 1 2 (some h) 0) fun _ =>
  bd (pI 0 1 3 (some h) (-1)) fun _ =>
  bd (nO 6 6) fun q1 =>
  bd (X6_init q1 (some h)) fun _ =>
  bd (rc 6 (some q1)) fun h' =>
  bh (X6_commands h') (fun e =>
    if e.1 = 4 then (
      bd (rc 1 (some h)) fun h' =>
      bd (X1_wrong h' (some e.2)) fun x4 =>
      bd (pI 0 1 1 (some h) 0) fun _ =>
      rt x4)
    else
    no) fun x3 =>
  bd (pI 0 1 1 (some h) 0) fun _ =>
  X1_play_56 FU x3 0
def X1_errorCode (h : Nat) : Mr Int32 :=
  bd (gI 1 2 (some h)) fun x1 =>
  rt x1
def X1_errorPosition (h : Nat) : Mr Int32 :=
  bd (gI 1 3 (some h)) fun x1 =>
  rt x1
def J16_compare_19 (w0 : Int32) : Mr Int32 :=
  rt w0
def J16_compare (v0 : Int32) (v1 : Int32) : Mr Int32 :=
  if v1 ≤ v0 then (
    if ¬ v0 = v1 then (
      J16_compare_19 1)
    else
      J16_compare_19 0)
  else
    J16_compare_19 (-1)
def X4_compareTo_2_36 (w0 : Int32) : Mr Int32 :=
  rt w0
def X4_compareTo_2 (h : Nat) (v1 : Option Nat) : Mr Int32 :=
  bd (rc 4 (some h)) fun h' =>
  bd (X4_size h') fun x1 =>
  bd (rc 4 v1) fun h' =>
  bd (X4_size h') fun x2 =>
  if x1 = x2 then (
    bd (gI 4 0 (some h)) fun x3 =>
    bd (gI 4 0 v1) fun x4 =>
    bd (J16_compare x3 x4) fun x5 =>
    X4_compareTo_2_36 x5)
  else
    bd (rc 4 v1) fun h' =>
    bd (X4_size h') fun x6 =>
    bd (rc 4 (some h)) fun h' =>
    bd (X4_size h') fun x7 =>
    bd (J16_compare x6 x7) fun x8 =>
    X4_compareTo_2_36 x8
def X4_compareTo (h : Nat) (v1 : Option Nat) : Mr Int32 :=
  bd (ca [4] v1) fun _ =>
  bd (rc 4 (some h)) fun h' =>
  bd (X4_compareTo_2 h' v1) fun x1 =>
  rt x1
def X8_compareTo_2 (h : Nat) (v1 : Option Nat) : Mr Int32 :=
  bd (gI 8 0 (some h)) fun x1 =>
  bd (gI 8 0 v1) fun x2 =>
  bd (J16_compare x1 x2) fun x3 =>
  rt x3
def X8_compareTo (h : Nat) (v1 : Option Nat) : Mr Int32 :=
  bd (ca [8] v1) fun _ =>
  bd (rc 8 (some h)) fun h' =>
  bd (X8_compareTo_2 h' v1) fun x1 =>
  rt x1
def IF_cmp (r x : Option Nat) : Mr Int32 :=
  bd (gK r) fun p =>
  if p.2 = 4 then X4_compareTo p.1 x
  else   if p.2 = 8 then X8_compareTo p.1 x
  else no
def X3_rankOf_32 (k4 : Nat → Option Nat → Int32 → Int32 → Mr Int32) (h : Nat) (v1 : Option Nat) (v3 : Int32) (w0 : Int32) (w1 : Int32) : Mr Int32 :=
  bd (X1_bit w1) fun x1 =>
  k4 h v1 (w0 + x1) (v3 + 1)
def X3_rankOf_4 : Nat → Nat → Option Nat → Int32 → Int32 → Mr Int32
  | 0, _, _, _, _ => no
  | n + 1, h, v1, v2, v3 =>
    bd (gI 3 1 (some h)) fun x1 =>
    if x1 ≤ v3 then (
      rt v2)
    else
      bd (rc 3 (some h)) fun h' =>
      bd (X3_at h' v3) fun x2 =>
      bd (IF_cmp x2 v1) fun x3 =>
      if 0 ≤ x3 then (
        X3_rankOf_32 (X3_rankOf_4 n) h v1 v3 v2 0)
      else
        X3_rankOf_32 (X3_rankOf_4 n) h v1 v3 v2 1
def X3_rankOf (h : Nat) (v1 : Option Nat) : Mr Int32 :=
  X3_rankOf_4 FU h v1 0 0
def X3_ranked_2 : Nat → Nat → Int32 → Int32 → Mr (Option Nat)
  | 0, _, _, _ => no
  | n + 1, h, v1, v2 =>
    bd (gI 3 1 (some h)) fun x1 =>
    if x1 ≤ v2 then (
      rt none)
    else
      bd (rc 3 (some h)) fun h' =>
      bd (X3_at h' v2) fun x2 =>
      bd (rc 3 (some h)) fun h' =>
      bd (X3_rankOf h' x2) fun x3 =>
      if ¬ x3 = v1 then (
        X3_ranked_2 n h v1 (v2 + 1))
      else
        bd (rc 3 (some h)) fun h' =>
        bd (X3_at h' v2) fun x4 =>
        rt x4
def X3_ranked (h : Nat) (v1 : Int32) : Mr (Option Nat) :=
  X3_ranked_2 FU h v1 0
def X1_ranked_27 (w0 : Int32) : Mr Int32 :=
  rt w0
def X1_ranked (h : Nat) (v1 : Int32) : Mr Int32 :=
  bd (gR 1 4 (some h)) fun x1 =>
  bd (gR 2 0 x1) fun x2 =>
  bd (rc 3 x2) fun h' =>
  bd (X3_ranked h' v1) fun x3 =>
  bd (ca [4] x3) fun _ =>
  if x3 = none then (
    X1_ranked_27 (-1))
  else
    bd (gI 4 0 x3) fun x4 =>
    X1_ranked_27 x4
def X1_errors (h : Nat) : Mr Int32 :=
  bd (gR 1 4 (some h)) fun x1 =>
  bd (gR 1 4 (some h)) fun x2 =>
  bd (gI 2 5 x2) fun x3 =>
  bd (rc 2 x1) fun h' =>
  bd (X2_errors h' x3) fun x4 =>
  rt x4
def X1_knownPairs (h : Nat) : Mr Int32 :=
  bd (gR 1 4 (some h)) fun x1 =>
  bd (rc 2 x1) fun h' =>
  bd (X2_ways h') fun x2 =>
  bd (rc 9 x2) fun h' =>
  bd (X9_knownPairs h') fun x3 =>
  rt x3
def X1_groups_41 (k12 : Nat → Option Nat → Int32 → Int32 → Mr Int32) (h : Nat) (v1 : Option Nat) (v3 : Int32) (w0 : Int32) (w1 : Int32) : Mr Int32 :=
  bd (X1_bit w1) fun x1 =>
  k12 h v1 (w0 + x1) (v3 + 1)
def X1_groups_12 : Nat → Nat → Option Nat → Int32 → Int32 → Mr Int32
  | 0, _, _, _, _ => no
  | n + 1, h, v1, v2, v3 =>
    bd (gR 1 4 (some h)) fun x1 =>
    bd (gR 2 0 x1) fun x2 =>
    bd (gI 3 1 x2) fun x3 =>
    if x3 ≤ v3 then (
      rt v2)
    else
      bd (X1_groupIn v1 v3) fun x4 =>
      if ¬ x4 = v3 then (
        X1_groups_41 (X1_groups_12 n) h v1 v3 v2 0)
      else
        X1_groups_41 (X1_groups_12 n) h v1 v3 v2 1
def X1_groups (h : Nat) : Mr Int32 :=
  bd (gR 1 4 (some h)) fun x1 =>
  bd (rc 2 x1) fun h' =>
  bd (X2_ways h') fun x2 =>
  X1_groups_12 FU h x2 0 0
def X1_longestRow_89 (k29 : Nat → Option Nat → Option Nat → Int32 → Int32 → Mr Int32) (k60 : Nat → Option Nat → Option Nat → Int32 → Int32 → Int32 → Int32 → Int32 → Mr Int32) (h : Nat) (v1 : Option Nat) (v2 : Option Nat) (v3 : Int32) (v4 : Int32) (v5 : Int32) (v6 : Int32) (v7 : Int32) : Mr Int32 :=
  k60 h v1 v2 v3 v4 v5 v6 (v7 + 1)
def X1_longestRow_60 (k29 : Nat → Option Nat → Option Nat → Int32 → Int32 → Mr Int32) : Nat → Nat → Option Nat → Option Nat → Int32 → Int32 → Int32 → Int32 → Int32 → Mr Int32
  | 0, _, _, _, _, _, _, _, _ => no
  | n + 1, h, v1, v2, v3, v4, v5, v6, v7 =>
    bd (aN 41 v2) fun x1 =>
    if x1 ≤ v7 then (
      bd (sI 41 v2 v5 (v6 + 1)) fun _ =>
      bd (aI 41 v2 v5) fun x2 =>
      bd (J12_max v3 x2) fun x3 =>
      k29 h v1 v2 x3 (v4 + (-1)))
    else
      bd (rc 9 v1) fun h' =>
      bd (X9_known h' v5 v7) fun x4 =>
      if ¬ x4 = 0 then (
        X1_longestRow_89 k29 (X1_longestRow_60 k29 n) h v1 v2 v3 v4 v5 v6 v7)
      else
        bd (aI 41 v2 v7) fun x5 =>
        bd (J12_max v6 x5) fun x6 =>
        X1_longestRow_89 k29 (X1_longestRow_60 k29 n) h v1 v2 v3 v4 v5 x6 v7
def X1_longestRow_29 : Nat → Nat → Option Nat → Option Nat → Int32 → Int32 → Mr Int32
  | 0, _, _, _, _, _ => no
  | n + 1, h, v1, v2, v3, v4 =>
    if v4 < 0 then (
      rt v3)
    else
      bd (gR 1 4 (some h)) fun x1 =>
      bd (gR 2 0 x1) fun x2 =>
      bd (rc 3 x2) fun h' =>
      bd (X3_ranked h' v4) fun x3 =>
      bd (ca [4] x3) fun _ =>
      bd (gI 4 0 x3) fun x4 =>
      X1_longestRow_60 (X1_longestRow_29 n) FU h v1 v2 v3 v4 x4 0 0
def X1_longestRow (h : Nat) : Mr Int32 :=
  bd (gR 1 4 (some h)) fun x1 =>
  bd (rc 2 x1) fun h' =>
  bd (X2_ways h') fun x2 =>
  bd (gR 1 4 (some h)) fun x3 =>
  bd (gR 2 0 x3) fun x4 =>
  bd (gI 3 1 x4) fun x5 =>
  bd (nA 41 x5) fun q6 =>
  bd (aN 41 (some q6)) fun x7 =>
  X1_longestRow_29 FU h x2 (some q6) 0 (x7 - 1)
def X1_swappable_62 (k12 : Nat → Option Nat → Int32 → Int32 → Mr Int32) (k29 : Nat → Option Nat → Int32 → Int32 → Int32 → Mr Int32) (h : Nat) (v1 : Option Nat) (v3 : Int32) (v4 : Int32) (w0 : Int32) (w1 : Int32) : Mr Int32 :=
  bd (X1_bit w1) fun x1 =>
  k29 h v1 (w0 + x1) v3 (v4 + 1)
def X1_swappable_61 (k12 : Nat → Option Nat → Int32 → Int32 → Mr Int32) (k29 : Nat → Option Nat → Int32 → Int32 → Int32 → Mr Int32) (h : Nat) (v1 : Option Nat) (v3 : Int32) (v4 : Int32) (w0 : Int32) : Mr Int32 :=
  X1_swappable_62 k12 k29 h v1 v3 v4 w0 0
def X1_swappable_29 (k12 : Nat → Option Nat → Int32 → Int32 → Mr Int32) : Nat → Nat → Option Nat → Int32 → Int32 → Int32 → Mr Int32
  | 0, _, _, _, _, _ => no
  | n + 1, h, v1, v2, v3, v4 =>
    if v3 ≤ v4 then (
      k12 h v1 v2 (v3 + 1))
    else
      bd (rc 1 (some h)) fun h' =>
      bd (X1_areOthers h' v3 v4) fun x1 =>
      if x1 = 0 then (
        X1_swappable_61 k12 (X1_swappable_29 k12 n) h v1 v3 v4 v2)
      else
        bd (rc 9 v1) fun h' =>
        bd (X9_known h' v3 v4) fun x2 =>
        if ¬ x2 = 2 then (
          X1_swappable_61 k12 (X1_swappable_29 k12 n) h v1 v3 v4 v2)
        else
          X1_swappable_62 k12 (X1_swappable_29 k12 n) h v1 v3 v4 v2 1
def X1_swappable_12 : Nat → Nat → Option Nat → Int32 → Int32 → Mr Int32
  | 0, _, _, _, _ => no
  | n + 1, h, v1, v2, v3 =>
    bd (gR 1 4 (some h)) fun x1 =>
    bd (gR 2 0 x1) fun x2 =>
    bd (gI 3 1 x2) fun x3 =>
    if x3 ≤ v3 then (
      rt v2)
    else
      X1_swappable_29 (X1_swappable_12 n) FU h v1 v2 v3 0
def X1_swappable (h : Nat) : Mr Int32 :=
  bd (gR 1 4 (some h)) fun x1 =>
  bd (rc 2 x1) fun h' =>
  bd (X2_ways h') fun x2 =>
  X1_swappable_12 FU h x2 0 0
def X1_gap_123 (k27 : Nat → Option Nat → Int32 → Int32 → Mr Int32) (k44 : Nat → Option Nat → Int32 → Int32 → Int32 → Mr Int32) (h : Nat) (v1 : Option Nat) (v3 : Int32) (v4 : Int32) (w0 : Int32) (w1 : Int32) (w2 : Int32) : Mr Int32 :=
  bd (X1_bit w2) fun x1 =>
  k44 h v1 (w0 + (w1 + x1)) v3 (v4 + 1)
def X1_gap_122 (k27 : Nat → Option Nat → Int32 → Int32 → Mr Int32) (k44 : Nat → Option Nat → Int32 → Int32 → Int32 → Mr Int32) (h : Nat) (v1 : Option Nat) (v3 : Int32) (v4 : Int32) (w0 : Int32) (w1 : Int32) : Mr Int32 :=
  X1_gap_123 k27 k44 h v1 v3 v4 w0 w1 0
def X1_gap_102 (k27 : Nat → Option Nat → Int32 → Int32 → Mr Int32) (k44 : Nat → Option Nat → Int32 → Int32 → Int32 → Mr Int32) (h : Nat) (v1 : Option Nat) (v3 : Int32) (v4 : Int32) (v5 : Int32) (v7 : Int32) (w0 : Int32) (w1 : Int32) : Mr Int32 :=
  bd (X1_bit w1) fun x1 =>
  if v7 = (-1) then (
    X1_gap_122 k27 k44 h v1 v3 v4 w0 x1)
  else
    if v7 = v5 then (
      X1_gap_122 k27 k44 h v1 v3 v4 w0 x1)
    else
      X1_gap_123 k27 k44 h v1 v3 v4 w0 x1 1
def X1_gap_101 (k27 : Nat → Option Nat → Int32 → Int32 → Mr Int32) (k44 : Nat → Option Nat → Int32 → Int32 → Int32 → Mr Int32) (h : Nat) (v1 : Option Nat) (v3 : Int32) (v4 : Int32) (v5 : Int32) (v7 : Int32) (w0 : Int32) : Mr Int32 :=
  X1_gap_102 k27 k44 h v1 v3 v4 v5 v7 w0 0
def X1_gap_44 (k27 : Nat → Option Nat → Int32 → Int32 → Mr Int32) : Nat → Nat → Option Nat → Int32 → Int32 → Int32 → Mr Int32
  | 0, _, _, _, _, _ => no
  | n + 1, h, v1, v2, v3, v4 =>
    if v3 ≤ v4 then (
      k27 h v1 v2 (v3 + 1))
    else
      bd (gR 1 4 (some h)) fun x1 =>
      bd (rc 2 x1) fun h' =>
      bd (X2_sizeWord h' v3 v4) fun x2 =>
      bd (gR 1 4 (some h)) fun x3 =>
      bd (rc 2 x3) fun h' =>
      bd (X2_factWord h' v3 v4) fun x4 =>
      bd (rc 9 v1) fun h' =>
      bd (X9_known h' v3 v4) fun x5 =>
      if x4 = (-1) then (
        X1_gap_101 k27 (X1_gap_44 k27 n) h v1 v3 v4 x2 x5 v2)
      else
        if x4 = x2 then (
          X1_gap_101 k27 (X1_gap_44 k27 n) h v1 v3 v4 x2 x5 v2)
        else
          X1_gap_102 k27 (X1_gap_44 k27 n) h v1 v3 v4 x2 x5 v2 1
def X1_gap_27 : Nat → Nat → Option Nat → Int32 → Int32 → Mr Int32
  | 0, _, _, _, _ => no
  | n + 1, h, v1, v2, v3 =>
    bd (gR 1 4 (some h)) fun x1 =>
    bd (gR 2 0 x1) fun x2 =>
    bd (gI 3 1 x2) fun x3 =>
    if x3 ≤ v3 then (
      rt v2)
    else
      X1_gap_44 (X1_gap_27 n) FU h v1 v2 v3 0
def X1_gap (h : Nat) : Mr Int32 :=
  bd (gR 1 4 (some h)) fun x1 =>
  bd (rc 2 x1) fun h' =>
  bd (X2_ways h') fun x2 =>
  bd (gR 1 4 (some h)) fun x3 =>
  bd (gR 2 1 x3) fun x4 =>
  bd (nL 68 1 (fun _ => 0) (fun j => if j = 0 then (some h) else none)) fun q5 =>
  bd (X1_sumOf x4 (some q5)) fun x6 =>
  X1_gap_27 FU h x2 x6 0
def X1_meanTurns_45 (w0 : UInt64) : Mr UInt64 :=
  rt w0
def X1_meanTurns (h : Nat) : Mr UInt64 :=
  bd (gR 1 4 (some h)) fun x1 =>
  bd (gR 2 1 x1) fun x2 =>
  bd (gC 71) fun q3 =>
  bd (X1_countOf x2 (some q3)) fun x4 =>
  bd (gR 1 4 (some h)) fun x5 =>
  bd (gR 2 1 x5) fun x6 =>
  bd (gC 72) fun q7 =>
  bd (X1_sumOf x6 (some q7)) fun x8 =>
  if ¬ x4 = 0 then (
    bd (ddv (FP.i2d x8) (FP.i2d x4)) fun x9 =>
    X1_meanTurns_45 x9)
  else
    X1_meanTurns_45 (FP.dconst0)
def X1_bestProof_78 (k15 : Nat → Int32 → Int32 → Int32 → Mr Int32) (k34 : Nat → Int32 → Int32 → Int32 → Int32 → Mr Int32) (h : Nat) (v1 : Int32) (v2 : Int32) (v3 : Int32) (v4 : Int32) : Mr Int32 :=
  k34 h v1 v2 v3 (v4 + 1)
def X1_bestProof_34 (k15 : Nat → Int32 → Int32 → Int32 → Mr Int32) : Nat → Nat → Int32 → Int32 → Int32 → Int32 → Mr Int32
  | 0, _, _, _, _, _ => no
  | n + 1, h, v1, v2, v3, v4 =>
    bd (gR 1 4 (some h)) fun x1 =>
    bd (gR 2 0 x1) fun x2 =>
    bd (gI 3 1 x2) fun x3 =>
    if x3 ≤ v4 then (
      k15 h v1 v2 (v3 + 1))
    else
      bd (rc 1 (some h)) fun h' =>
      bd (X1_shown h' v3 v4) fun x4 =>
      if v2 < x4 then (
        X1_bestProof_78 k15 (X1_bestProof_34 k15 n) h ((10 * v3) + v4) x4 v3 v4)
      else
        X1_bestProof_78 k15 (X1_bestProof_34 k15 n) h v1 v2 v3 v4
def X1_bestProof_15 : Nat → Nat → Int32 → Int32 → Int32 → Mr Int32
  | 0, _, _, _, _ => no
  | n + 1, h, v1, v2, v3 =>
    bd (gR 1 4 (some h)) fun x1 =>
    bd (gR 2 0 x1) fun x2 =>
    bd (gI 3 1 x2) fun x3 =>
    if x3 ≤ v3 then (
      rt v1)
    else
      X1_bestProof_34 (X1_bestProof_15 n) FU h v1 v2 v3 (v3 + 1)
def X1_bestProof (h : Nat) : Mr Int32 :=
  bd (gR 1 4 (some h)) fun x1 =>
  bd (rc 2 x1) fun h' =>
  bd (X2_ways h') fun x2 =>
  bd (rc 9 x2) fun h' =>
  bd (X9_knownPairs h') fun x3 =>
  X1_bestProof_15 FU h (-1) x3 0
def J2_charAt (h : Nat) (v1 : Int32) : Mr Int32 :=
  bd (gI 12 1 (some h)) fun x1 =>
  bd (gR 12 0 (some h)) fun x2 =>
  bd (gI 12 3 (some h)) fun x3 =>
  bd (aN 42 x2) fun x4 =>
  bd (J12_min x3 (x4 >>> (x1 &&& 31))) fun x5 =>
  bd (J4_checkIndex v1 x5) fun _ =>
  if ¬ x1 = 0 then (
    no)
  else
    bd (aI 42 x2 v1) fun x7 =>
    rz 3 (((x7 &&& 255).toUInt32 % 65536).toInt32)
def J3_charAt (h : Nat) (v1 : Int32) : Mr Int32 :=
  bd (rc 12 (some h)) fun h' =>
  bd (J2_charAt h' v1) fun x1 =>
  rz 3 x1
def X1_output_29 (w0 : Int32) : Mr Int32 :=
  rt w0
def X1_output (h : Nat) (v1 : Int32) : Mr Int32 :=
  bd (gR 1 8 (some h)) fun x1 =>
  bd (rc 12 x1) fun h' =>
  bd (J3_length h') fun x2 =>
  bd (X1_isBetween v1 0 (x2 - 1)) fun x3 =>
  if x3 = 0 then (
    X1_output_29 (-1))
  else
    bd (gR 1 8 (some h)) fun x4 =>
    bd (rc 12 x4) fun h' =>
    bd (J3_charAt h' v1) fun x5 =>
    X1_output_29 x5
def J1_isEmpty_16 (w0 : Int32) : Mr Int32 :=
  rz 2 w0
def J1_isEmpty (h : Nat) : Mr Int32 :=
  bd (gI 11 1 (some h)) fun x1 =>
  bd (gI 11 2 (some h)) fun x2 =>
  if ¬ x1 = x2 then (
    J1_isEmpty_16 0)
  else
    J1_isEmpty_16 1
def J1_dec_11 (v0 : Int32) : Mr Int32 :=
  rt v0
def J1_dec (v0 : Int32) (v1 : Int32) : Mr Int32 :=
  if 0 ≤ (v0 + (-1)) then (
    J1_dec_11 (v0 + (-1)))
  else
    J1_dec_11 (v1 - 1)
def J1_pollLast_34 (v3 : Option Nat) : Mr (Option Nat) :=
  rt v3
def J1_pollLast (h : Nat) : Mr (Option Nat) :=
  bd (gR 11 0 (some h)) fun x1 =>
  bd (gI 11 2 (some h)) fun x2 =>
  bd (aN 46 x1) fun x3 =>
  bd (J1_dec x2 x3) fun x4 =>
  bd (J1_elementAt x1 x4) fun x5 =>
  if x5 = none then (
    J1_pollLast_34 x5)
  else
    bd (pI 0 11 2 (some h) x4) fun _ =>
    bd (sR 46 [4, 8, 2] x1 x4 none) fun _ =>
    J1_pollLast_34 x5
def J1_removeLast (h : Nat) : Mr (Option Nat) :=
  bd (rc 11 (some h)) fun h' =>
  bd (J1_pollLast h') fun x1 =>
  if x1 = none then (
    no)
  else
    rt x1
def X1_undo (h : Nat) : Mr Int32 :=
  bd (gR 1 5 (some h)) fun x1 =>
  bd (rc 11 x1) fun h' =>
  bd (J1_isEmpty h') fun x2 =>
  if x2 = 0 then (
    bd (gR 1 5 (some h)) fun x3 =>
    bd (rc 11 x3) fun h' =>
    bd (J1_removeLast h') fun x4 =>
    bd (ca [2] x4) fun _ =>
    bd (pR 1 4 (some h) x4) fun _ =>
    bd (gR 1 5 (some h)) fun x5 =>
    bd (rc 11 x5) fun h' =>
    bd (J1_size h') fun x6 =>
    rt x6)
  else
    rt (-1)
def X5_lay (h : Nat) (v1 : Int32) (v2 : Int32) : Mr Unit :=
  bd (gR 5 0 (some h)) fun x1 =>
  bd (gI 5 3 (some h)) fun x2 =>
  bd (sI 41 x1 ((545 * x2) + v1) v2) fun _ =>
  rt ()
def X5_opens_25 : Nat → Nat → Int32 → Mr Unit
  | 0, _, _ => no
  | n + 1, h, v1 =>
    if 100 ≤ v1 then (
      rt ())
    else
      bd (rc 5 (some h)) fun h' =>
      bd (X5_lay h' (85 + v1) (-1)) fun _ =>
      X5_opens_25 n h (v1 + 1)
def X5_opens_2 : Nat → Nat → Int32 → Mr Unit
  | 0, _, _ => no
  | n + 1, h, v1 =>
    if 4 ≤ v1 then (
      X5_opens_25 FU h 0)
    else
      bd (rc 5 (some h)) fun h' =>
      bd (X5_lay h' (11 + v1) 10) fun _ =>
      X5_opens_2 n h (v1 + 1)
def X5_opens (h : Nat) : Mr Unit :=
  X5_opens_2 FU h 0
def X5_get (h : Nat) (v1 : Int32) : Mr Int32 :=
  bd (gR 5 0 (some h)) fun x1 =>
  bd (gI 5 3 (some h)) fun x2 =>
  bd (aI 41 x1 ((545 * x2) + v1)) fun x3 =>
  rt x3
def X5_layHeap (h : Nat) (v1 : Int32) (v2 : Int32) (v3 : Int32) : Mr Unit :=
  bd (rc 5 (some h)) fun h' =>
  bd (X5_lay h' ((15 + (7 * v1)) + v2) v3) fun _ =>
  rt ()
def X5_adds (h : Nat) (v1 : Int32) (v2 : Int32) : Mr Unit :=
  bd (gR 5 0 (some h)) fun x1 =>
  bd (gI 5 3 (some h)) fun x2 =>
  bd (aI 41 x1 ((545 * x2) + v1)) fun x3 =>
  bd (sI 41 x1 ((545 * x2) + v1) (x3 + v2)) fun _ =>
  rt ()
def X5_newHeap (h : Nat) (v1 : Int32) : Mr Unit :=
  bd (rc 5 (some h)) fun h' =>
  bd (X5_get h' 1) fun x1 =>
  bd (rc 5 (some h)) fun h' =>
  bd (X5_layHeap h' x1 0 v1) fun _ =>
  bd (rc 5 (some h)) fun h' =>
  bd (X5_adds h' 1 1) fun _ =>
  rt ()
def X5_hp (h : Nat) (v1 : Int32) (v2 : Int32) : Mr Int32 :=
  bd (rc 5 (some h)) fun h' =>
  bd (X5_get h' ((15 + (7 * v1)) + v2)) fun x1 =>
  rt x1
def X5_newRow (h : Nat) (v1 : Int32) : Mr Unit :=
  bd (rc 5 (some h)) fun h' =>
  bd (X5_get h' 1) fun x1 =>
  bd (rc 5 (some h)) fun h' =>
  bd (X5_hp h' (x1 - 1) 1) fun x2 =>
  bd (rc 5 (some h)) fun h' =>
  bd (X5_layHeap h' (x1 - 1) (2 + x2) v1) fun _ =>
  bd (rc 5 (some h)) fun h' =>
  bd (X5_hp h' (x1 - 1) 1) fun x4 =>
  bd (rc 5 (some h)) fun h' =>
  bd (X5_layHeap h' (x1 - 1) 1 (x4 + 1)) fun _ =>
  rt ()
def X5_init (h : Nat) : Mr Unit :=
  bd (nA 41 5995) fun q1 =>
  bd (pR 5 0 (some h) (some q1)) fun _ =>
  bd (nA 43 2) fun q2 =>
  bd (pR 5 1 (some h) (some q2)) fun _ =>
  bd (nA 41 10) fun q3 =>
  bd (pR 5 2 (some h) (some q3)) fun _ =>
  bd (nA 41 10) fun q4 =>
  bd (pR 5 6 (some h) (some q4)) fun _ =>
  bd (nA 43 10) fun q5 =>
  bd (pR 5 7 (some h) (some q5)) fun _ =>
  bd (nA 41 500) fun q6 =>
  bd (pR 5 8 (some h) (some q6)) fun _ =>
  bd (pI 0 5 11 (some h) (-1)) fun _ =>
  bd (nA 41 125) fun q7 =>
  bd (pR 5 16 (some h) (some q7)) fun _ =>
  bd (nA 41 10) fun q8 =>
  bd (pR 5 18 (some h) (some q8)) fun _ =>
  bd (nA 41 10) fun q9 =>
  bd (pR 5 19 (some h) (some q9)) fun _ =>
  bd (rc 5 (some h)) fun h' =>
  bd (X5_lay h' 0 2) fun _ =>
  bd (rc 5 (some h)) fun h' =>
  bd (X5_lay h' 2 3) fun _ =>
  bd (rc 5 (some h)) fun h' =>
  bd (X5_opens h') fun _ =>
  bd (rc 5 (some h)) fun h' =>
  bd (X5_newHeap h' 0) fun _ =>
  bd (rc 5 (some h)) fun h' =>
  bd (X5_newRow h' 4) fun _ =>
  bd (rc 5 (some h)) fun h' =>
  bd (X5_newRow h' 2) fun _ =>
  bd (rc 5 (some h)) fun h' =>
  bd (X5_newHeap h' 1) fun _ =>
  bd (rc 5 (some h)) fun h' =>
  bd (X5_newRow h' 3) fun _ =>
  bd (rc 5 (some h)) fun h' =>
  bd (X5_newRow h' 3) fun _ =>
  bd (rc 5 (some h)) fun h' =>
  bd (X5_newHeap h' 1) fun _ =>
  bd (rc 5 (some h)) fun h' =>
  bd (X5_newRow h' 5) fun _ =>
  bd (rc 5 (some h)) fun h' =>
  bd (X5_newHeap h' 0) fun _ =>
  bd (rc 5 (some h)) fun h' =>
  bd (X5_newRow h' 9) fun _ =>
  bd (rc 5 (some h)) fun h' =>
  bd (X5_newRow h' 1) fun _ =>
  bd (rc 5 (some h)) fun h' =>
  bd (X5_newHeap h' 1) fun _ =>
  bd (rc 5 (some h)) fun h' =>
  bd (X5_newRow h' 0) fun _ =>
  bd (rc 5 (some h)) fun h' =>
  bd (X5_newRow h' 2) fun _ =>
  bd (rc 5 (some h)) fun h' =>
  bd (X5_newRow h' 2) fun _ =>
  rt ()
def X5_thrown (h : Nat) : Mr Int32 :=
  bd (gI 5 5 (some h)) fun x1 =>
  rt x1
def X5_holds_28 (w0 : Int32) : Mr Int32 :=
  rz 2 w0
def X5_holds_16 (h : Nat) : Mr Int32 :=
  bd (gI 5 5 (some h)) fun x1 =>
  if ¬ x1 = 0 then (
    X5_holds_28 0)
  else
    X5_holds_28 1
def X5_holds (h : Nat) (v1 : Int32) (v2 : Int32) : Mr Int32 :=
  bd (gI 5 5 (some h)) fun x1 =>
  if ¬ x1 = 0 then (
    X5_holds_16 h)
  else
    if ¬ v1 = 0 then (
      X5_holds_16 h)
    else
      bd (pI 0 5 5 (some h) v2) fun _ =>
      X5_holds_16 h
def X5_appendText_35 : Nat → Nat → Int32 → Int32 → Mr Int32
  | 0, _, _, _ => no
  | n + 1, h, v1, v2 =>
    if v2 < 0 then (
      bd (gI 5 9 (some h)) fun x1 =>
      rt x1)
    else
      bd (gR 5 8 (some h)) fun x2 =>
      bd (gI 5 9 (some h)) fun x3 =>
      bd (sI 41 x2 x3 ((v1 >>> (v2 &&& 31)) &&& 255)) fun _ =>
      bd (gI 5 9 (some h)) fun x4 =>
      bd (pI 0 5 9 (some h) (x4 + 1)) fun _ =>
      X5_appendText_35 n h v1 (v2 + (-8))
def X5_appendText_23 (h : Nat) (v1 : Int32) (w0 : Option Nat) (w1 : Int32) : Mr Int32 :=
  bd (rc 5 w0) fun h' =>
  bd (X5_holds h' w1 1) fun x1 =>
  if ¬ x1 = 0 then (
    X5_appendText_35 FU h v1 24)
  else
    rt 0
def X5_appendText (h : Nat) (v1 : Int32) : Mr Int32 :=
  bd (pI 0 5 5 (some h) 0) fun _ =>
  bd (gI 5 9 (some h)) fun x1 =>
  if 500 < (x1 + 4) then (
    X5_appendText_23 h v1 (some h) 0)
  else
    X5_appendText_23 h v1 (some h) 1
def X5_in_15 (w0 : Int32) : Mr Int32 :=
  rz 2 w0
def X5_in_14 : Mr Int32 :=
  X5_in_15 0
def X5_in (v0 : Int32) (v1 : Int32) (v2 : Int32) : Mr Int32 :=
  if v0 < v1 then (
    X5_in_14)
  else
    if v2 < v0 then (
      X5_in_14)
    else
      X5_in_15 1
def X5_truncateText (h : Nat) (v1 : Int32) : Mr Int32 :=
  bd (pI 0 5 5 (some h) 0) fun _ =>
  bd (gI 5 9 (some h)) fun x1 =>
  bd (X5_in v1 0 x1) fun x2 =>
  bd (rc 5 (some h)) fun h' =>
  bd (X5_holds h' x2 1) fun x3 =>
  if ¬ x3 = 0 then (
    bd (pI 0 5 9 (some h) v1) fun _ =>
    rt v1)
  else
    rt 0
def X5_copies_2 : Nat → Nat → Int32 → Int32 → Int32 → Mr Unit
  | 0, _, _, _, _ => no
  | n + 1, h, v1, v2, v3 =>
    if 545 ≤ v3 then (
      rt ())
    else
      bd (gR 5 0 (some h)) fun x1 =>
      bd (gR 5 0 (some h)) fun x2 =>
      bd (aI 41 x2 ((545 * v1) + v3)) fun x3 =>
      bd (sI 41 x1 ((545 * v2) + v3) x3) fun _ =>
      X5_copies_2 n h v1 v2 (v3 + 1)
def X5_copies (h : Nat) (v1 : Int32) (v2 : Int32) : Mr Unit :=
  X5_copies_2 FU h v1 v2 0
def X5_must_36 (w0 : Int32) : Mr Int32 :=
  rz 2 w0
def X5_must_24 (h : Nat) : Mr Int32 :=
  bd (gI 5 10 (some h)) fun x1 =>
  if ¬ x1 = 0 then (
    X5_must_36 0)
  else
    X5_must_36 1
def X5_must (h : Nat) (v1 : Int32) (v2 : Int32) : Mr Int32 :=
  bd (gI 5 10 (some h)) fun x1 =>
  if ¬ x1 = 0 then (
    X5_must_24 h)
  else
    if ¬ v1 = 0 then (
      X5_must_24 h)
    else
      bd (pI 0 5 10 (some h) v2) fun _ =>
      bd (gI 5 13 (some h)) fun x2 =>
      bd (pI 0 5 11 (some h) x2) fun _ =>
      X5_must_24 h
def X5_isByte_33 (w0 : Int32) : Mr Int32 :=
  rz 2 w0
def X5_isByte_32 : Mr Int32 :=
  X5_isByte_33 0
def X5_isByte (h : Nat) (v1 : Int32) (v2 : Int32) : Mr Int32 :=
  bd (gI 5 12 (some h)) fun x1 =>
  bd (gI 5 9 (some h)) fun x2 =>
  if x2 ≤ x1 then (
    X5_isByte_32)
  else
    bd (gR 5 8 (some h)) fun x3 =>
    bd (gI 5 12 (some h)) fun x4 =>
    bd (aI 41 x3 x4) fun x5 =>
    bd (X5_in x5 v1 v2) fun x6 =>
    if x6 = 0 then (
      X5_isByte_32)
    else
      X5_isByte_33 1
def X5_next_22 (k0 : Nat → Mr Unit) (h : Nat) : Mr Unit :=
  bd (gI 5 12 (some h)) fun x1 =>
  bd (pI 0 5 12 (some h) (x1 + 1)) fun _ =>
  k0 h
def X5_next_223 : Mr Unit :=
  rt ()
def X5_next_73 : Nat → Nat → Mr Unit
  | 0, _ => no
  | n + 1, h =>
    bd (rc 5 (some h)) fun h' =>
    bd (X5_isByte h' 97 122) fun x1 =>
    if x1 = 0 then (
      bd (pI 0 5 14 (some h) 1) fun _ =>
      X5_next_223)
    else
      bd (gI 5 12 (some h)) fun x2 =>
      bd (pI 0 5 12 (some h) (x2 + 1)) fun _ =>
      X5_next_73 n h
def X5_next_169 (k121 : Nat → Mr Unit) (h : Nat) (w0 : Option Nat) (w1 : Int32) : Mr Unit :=
  bd (pI 0 5 15 w0 w1) fun _ =>
  bd (gI 5 12 (some h)) fun x1 =>
  bd (pI 0 5 12 (some h) (x1 + 1)) fun _ =>
  k121 h
def X5_next_121 : Nat → Nat → Mr Unit
  | 0, _ => no
  | n + 1, h =>
    bd (rc 5 (some h)) fun h' =>
    bd (X5_isByte h' 48 57) fun x1 =>
    if x1 = 0 then (
      bd (pI 0 5 14 (some h) 2) fun _ =>
      X5_next_223)
    else
      bd (gI 5 15 (some h)) fun x2 =>
      if x2 ≤ 999999 then (
        bd (gI 5 15 (some h)) fun x3 =>
        bd (gR 5 8 (some h)) fun x4 =>
        bd (gI 5 12 (some h)) fun x5 =>
        bd (aI 41 x4 x5) fun x6 =>
        X5_next_169 (X5_next_121 n) h (some h) (((10 * x3) + x6) - 48))
      else
        bd (gI 5 15 (some h)) fun x7 =>
        X5_next_169 (X5_next_121 n) h (some h) x7
def X5_next_210 (h : Nat) (w0 : Option Nat) (w1 : Int32) : Mr Unit :=
  bd (pI 0 5 14 w0 w1) fun _ =>
  bd (gI 5 12 (some h)) fun x1 =>
  bd (pI 0 5 12 (some h) (x1 + 1)) fun _ =>
  X5_next_223
def X5_next_0 : Nat → Nat → Mr Unit
  | 0, _ => no
  | n + 1, h =>
    bd (rc 5 (some h)) fun h' =>
    bd (X5_isByte h' 32 32) fun x1 =>
    if ¬ x1 = 0 then (
      X5_next_22 (X5_next_0 n) h)
    else
      bd (rc 5 (some h)) fun h' =>
      bd (X5_isByte h' 10 10) fun x2 =>
      if x2 = 0 then (
        bd (gI 5 12 (some h)) fun x3 =>
        bd (pI 0 5 13 (some h) x3) fun _ =>
        bd (gI 5 12 (some h)) fun x4 =>
        bd (gI 5 9 (some h)) fun x5 =>
        if ¬ x4 = x5 then (
          bd (rc 5 (some h)) fun h' =>
          bd (X5_isByte h' 97 122) fun x6 =>
          if x6 = 0 then (
            bd (rc 5 (some h)) fun h' =>
            bd (X5_isByte h' 48 57) fun x7 =>
            if x7 = 0 then (
              bd (rc 5 (some h)) fun h' =>
              bd (X5_isByte h' 59 59) fun x8 =>
              if x8 = 0 then (
                X5_next_210 h (some h) 4)
              else
                X5_next_210 h (some h) 3)
            else
              bd (pI 0 5 15 (some h) 0) fun _ =>
              X5_next_121 FU h)
          else
            X5_next_73 FU h)
        else
          bd (pI 0 5 14 (some h) 0) fun _ =>
          X5_next_223)
      else
        X5_next_22 (X5_next_0 n) h
def X5_next (h : Nat) : Mr Unit := X5_next_0 FU h
def X5_goesOn_11 : Mr Unit :=
  rt ()
def X5_goesOn (h : Nat) : Mr Unit :=
  bd (gI 5 10 (some h)) fun x1 =>
  if ¬ x1 = 0 then (
    X5_goesOn_11)
  else
    bd (rc 5 (some h)) fun h' =>
    bd (X5_next h') fun _ =>
    X5_goesOn_11
def X5_endsLine_14 (h : Nat) (w0 : Option Nat) (w1 : Int32) : Mr Unit :=
  bd (rc 5 w0) fun h' =>
  bd (X5_must h' w1 1) fun x1 =>
  bd (rc 5 (some h)) fun h' =>
  bd (X5_goesOn h') fun _ =>
  rt ()
def X5_endsLine (h : Nat) : Mr Unit :=
  bd (gI 5 14 (some h)) fun x1 =>
  if ¬ x1 = 3 then (
    X5_endsLine_14 h (some h) 0)
  else
    X5_endsLine_14 h (some h) 1
def X5_looks_51 (w0 : Int32) : Mr Int32 :=
  rt w0
def X5_looks_36 (h : Nat) (v1 : Int32) : Mr Int32 :=
  bd (gI 5 10 (some h)) fun x1 =>
  if ¬ x1 = 0 then (
    X5_looks_51 v1)
  else
    bd (gI 5 15 (some h)) fun x2 =>
    X5_looks_51 x2
def X5_looks_14 (h : Nat) (v1 : Int32) (v2 : Int32) (w0 : Option Nat) (w1 : Int32) : Mr Int32 :=
  bd (rc 5 w0) fun h' =>
  bd (X5_must h' w1 1) fun x1 =>
  if x1 = 0 then (
    X5_looks_36 h v1)
  else
    bd (gI 5 15 (some h)) fun x2 =>
    bd (X5_in x2 v1 v2) fun x3 =>
    bd (rc 5 (some h)) fun h' =>
    bd (X5_must h' x3 2) fun x4 =>
    X5_looks_36 h v1
def X5_looks (h : Nat) (v1 : Int32) (v2 : Int32) : Mr Int32 :=
  bd (gI 5 14 (some h)) fun x1 =>
  if ¬ x1 = 2 then (
    X5_looks_14 h v1 v2 (some h) 0)
  else
    X5_looks_14 h v1 v2 (some h) 1
def X5_reads (h : Nat) (v1 : Int32) (v2 : Int32) : Mr Int32 :=
  bd (rc 5 (some h)) fun h' =>
  bd (X5_looks h' v1 v2) fun x1 =>
  bd (rc 5 (some h)) fun h' =>
  bd (X5_goesOn h') fun _ =>
  rt x1
def J4_coder_14 (w0 : Int32) : Mr Int32 :=
  rz 1 w0
def J4_coder (h : Nat) : Mr Int32 :=
  if (1 : Int32) = 0 then (
    J4_coder_14 1)
  else
    bd (gI 13 1 (some h)) fun x1 =>
    J4_coder_14 x1
def J4_length (h : Nat) : Mr Int32 :=
  bd (gR 13 0 (some h)) fun x1 =>
  bd (aN 42 x1) fun x2 =>
  bd (rc 13 (some h)) fun h' =>
  bd (J4_coder h') fun x3 =>
  rt (x2 >>> (x3 &&& 31))
def X5_isWord_31 : Mr Int32 :=
  rz 2 0
def X5_isWord_35 : Nat → Nat → Option Nat → Int32 → Mr Int32
  | 0, _, _, _ => no
  | n + 1, h, v1, v2 =>
    bd (rc 13 v1) fun h' =>
    bd (J4_length h') fun x1 =>
    if x1 ≤ v2 then (
      rz 2 1)
    else
      bd (gR 5 8 (some h)) fun x2 =>
      bd (gI 5 13 (some h)) fun x3 =>
      bd (aI 41 x2 (x3 + v2)) fun x4 =>
      bd (rc 13 v1) fun h' =>
      bd (J4_charAt h' v2) fun x5 =>
      if x4 = x5 then (
        X5_isWord_35 n h v1 (v2 + 1))
      else
        rz 2 0
def X5_isWord (h : Nat) (v1 : Option Nat) : Mr Int32 :=
  bd (gI 5 10 (some h)) fun x1 =>
  if ¬ x1 = 0 then (
    X5_isWord_31)
  else
    bd (gI 5 14 (some h)) fun x2 =>
    if ¬ x2 = 1 then (
      X5_isWord_31)
    else
      bd (gI 5 12 (some h)) fun x3 =>
      bd (gI 5 13 (some h)) fun x4 =>
      bd (rc 13 v1) fun h' =>
      bd (J4_length h') fun x5 =>
      if (x3 - x4) = x5 then (
        X5_isWord_35 FU h v1 0)
      else
        X5_isWord_31
def X5_readsHeap_37 : Mr Unit :=
  rt ()
def X5_readsHeap_128 (h : Nat) : Mr Unit :=
  bd (rc 5 (some h)) fun h' =>
  bd (X5_endsLine h') fun _ =>
  rt ()
def X5_readsHeap_109 (k66 : Nat → Int32 → Mr Unit) (h : Nat) (v1 : Int32) : Mr Unit :=
  bd (rc 5 (some h)) fun h' =>
  bd (X5_goesOn h') fun _ =>
  bd (gI 5 10 (some h)) fun x2 =>
  if ¬ x2 = 0 then (
    X5_readsHeap_128 h)
  else
    bd (gI 5 14 (some h)) fun x3 =>
    if x3 = 2 then (
      k66 h v1)
    else
      X5_readsHeap_128 h
def X5_readsHeap_97 (k66 : Nat → Int32 → Mr Unit) (h : Nat) (v1 : Int32) (v2 : Int32) (w0 : Option Nat) (w1 : Int32) : Mr Unit :=
  bd (rc 5 w0) fun h' =>
  bd (X5_must h' w1 3) fun x1 =>
  if x1 = 0 then (
    X5_readsHeap_109 k66 h v1)
  else
    bd (rc 5 (some h)) fun h' =>
    bd (X5_newRow h' v2) fun _ =>
    X5_readsHeap_109 k66 h v1
def X5_readsHeap_92 (k66 : Nat → Int32 → Mr Unit) (h : Nat) (v1 : Int32) (v2 : Int32) (w0 : Option Nat) : Mr Unit :=
  X5_readsHeap_97 k66 h v1 v2 w0 1
def X5_readsHeap_66 : Nat → Nat → Int32 → Mr Unit
  | 0, _, _ => no
  | n + 1, h, v1 =>
    bd (rc 5 (some h)) fun h' =>
    bd (X5_looks h' 0 9) fun x1 =>
    bd (gI 5 10 (some h)) fun x2 =>
    if ¬ x2 = 0 then (
      X5_readsHeap_92 (X5_readsHeap_66 n) h v1 x1 (some h))
    else
      bd (rc 5 (some h)) fun h' =>
      bd (X5_hp h' v1 1) fun x3 =>
      if 5 ≤ x3 then (
        X5_readsHeap_97 (X5_readsHeap_66 n) h v1 x1 (some h) 0)
      else
        X5_readsHeap_92 (X5_readsHeap_66 n) h v1 x1 (some h)
def X5_readsHeap_30 (h : Nat) (w0 : Option Nat) (w1 : Int32) : Mr Unit :=
  bd (rc 5 w0) fun h' =>
  bd (X5_must h' w1 4) fun x1 =>
  if ¬ x1 = 0 then (
    bd (rc 5 (some h)) fun h' =>
    bd (X5_goesOn h') fun _ =>
    bd (rc 5 (some h)) fun h' =>
    bd (X5_get h' 0) fun x3 =>
    bd (rc 5 (some h)) fun h' =>
    bd (X5_reads h' 0 (x3 - 1)) fun x4 =>
    bd (rc 5 (some h)) fun h' =>
    bd (X5_newHeap h' x4) fun _ =>
    bd (rc 5 (some h)) fun h' =>
    bd (X5_get h' 1) fun x6 =>
    X5_readsHeap_66 FU h (x6 - 1))
  else
    X5_readsHeap_37
def X5_readsHeap (h : Nat) : Mr Unit :=
  bd (gC 115) fun x1 =>
  bd (rc 5 (some h)) fun h' =>
  bd (X5_isWord h' (some x1)) fun x2 =>
  bd (rc 5 (some h)) fun h' =>
  bd (X5_must h' x2 1) fun x3 =>
  if x3 = 0 then (
    X5_readsHeap_37)
  else
    bd (rc 5 (some h)) fun h' =>
    bd (X5_get h' 1) fun x4 =>
    if 10 ≤ x4 then (
      X5_readsHeap_30 h (some h) 0)
    else
      X5_readsHeap_30 h (some h) 1
def X5_starts (h : Nat) : Mr Unit :=
  bd (pI 0 5 10 (some h) 0) fun _ =>
  bd (pI 0 5 11 (some h) (-1)) fun _ =>
  bd (pI 0 5 12 (some h) 0) fun _ =>
  bd (rc 5 (some h)) fun h' =>
  bd (X5_next h') fun _ =>
  rt ()
def X5_mustWord (h : Nat) (v1 : Option Nat) : Mr Unit :=
  bd (rc 5 (some h)) fun h' =>
  bd (X5_isWord h' v1) fun x1 =>
  bd (rc 5 (some h)) fun h' =>
  bd (X5_must h' x1 1) fun x2 =>
  bd (rc 5 (some h)) fun h' =>
  bd (X5_goesOn h') fun _ =>
  rt ()
def X5_load_103 (h : Nat) : Mr Int32 :=
  bd (pI 0 5 3 (some h) 0) fun _ =>
  bd (pI 0 5 9 (some h) 0) fun _ =>
  bd (gI 5 10 (some h)) fun x1 =>
  if x1 = 0 then (
    bd (rc 5 (some h)) fun h' =>
    bd (X5_copies h' 10 0) fun _ =>
    bd (pI 0 5 4 (some h) 0) fun _ =>
    bd (rc 5 (some h)) fun h' =>
    bd (X5_get h' 1) fun x3 =>
    rt x3)
  else
    rt (-1)
def X5_load_96 (k73 : Nat → Mr Int32) (h : Nat) : Mr Int32 :=
  bd (rc 5 (some h)) fun h' =>
  bd (X5_readsHeap h') fun _ =>
  k73 h
def X5_load_73 : Nat → Nat → Mr Int32
  | 0, _ => no
  | n + 1, h =>
    bd (gI 5 10 (some h)) fun x1 =>
    if ¬ x1 = 0 then (
      X5_load_103 h)
    else
      bd (rc 5 (some h)) fun h' =>
      bd (X5_get h' 1) fun x2 =>
      if x2 < 2 then (
        X5_load_96 (X5_load_73 n) h)
      else
        bd (gI 5 14 (some h)) fun x3 =>
        if x3 = 0 then (
          X5_load_103 h)
        else
          X5_load_96 (X5_load_73 n) h
def X5_load_13 : Nat → Nat → Int32 → Mr Int32
  | 0, _, _ => no
  | n + 1, h, v1 =>
    if 545 ≤ v1 then (
      bd (rc 5 (some h)) fun h' =>
      bd (X5_opens h') fun _ =>
      bd (rc 5 (some h)) fun h' =>
      bd (X5_starts h') fun _ =>
      bd (gC 116) fun x3 =>
      bd (rc 5 (some h)) fun h' =>
      bd (X5_mustWord h' (some x3)) fun _ =>
      bd (rc 5 (some h)) fun h' =>
      bd (X5_reads h' 1 4) fun x5 =>
      bd (rc 5 (some h)) fun h' =>
      bd (X5_lay h' 0 x5) fun _ =>
      bd (rc 5 (some h)) fun h' =>
      bd (X5_reads h' 0 9) fun x7 =>
      bd (rc 5 (some h)) fun h' =>
      bd (X5_lay h' 2 x7) fun _ =>
      bd (rc 5 (some h)) fun h' =>
      bd (X5_endsLine h') fun _ =>
      X5_load_73 FU h)
    else
      bd (rc 5 (some h)) fun h' =>
      bd (X5_lay h' v1 0) fun _ =>
      X5_load_13 n h (v1 + 1)
def X5_load (h : Nat) : Mr Int32 :=
  bd (pI 0 5 5 (some h) 0) fun _ =>
  bd (pI 0 5 3 (some h) 10) fun _ =>
  X5_load_13 FU h 0
def X5_one_9 (w0 : Int32) : Mr Int32 :=
  rt w0
def X5_one (v0 : Int32) : Mr Int32 :=
  if v0 = 0 then (
    X5_one_9 0)
  else
    X5_one_9 1
def X5_keeps_45 (h : Nat) : Mr Unit :=
  bd (gI 5 4 (some h)) fun x1 =>
  bd (rc 5 (some h)) fun h' =>
  bd (X5_copies h' 0 (1 + x1)) fun _ =>
  bd (gI 5 4 (some h)) fun x3 =>
  bd (pI 0 5 4 (some h) (x3 + 1)) fun _ =>
  rt ()
def X5_keeps_11 : Nat → Nat → Int32 → Mr Unit
  | 0, _, _ => no
  | n + 1, h, v1 =>
    if 6 ≤ v1 then (
      bd (gI 5 4 (some h)) fun x1 =>
      bd (pI 0 5 4 (some h) (x1 - 1)) fun _ =>
      X5_keeps_45 h)
    else
      bd (rc 5 (some h)) fun h' =>
      bd (X5_copies h' (1 + v1) ((1 + v1) - 1)) fun _ =>
      X5_keeps_11 n h (v1 + 1)
def X5_keeps (h : Nat) : Mr Unit :=
  bd (gI 5 4 (some h)) fun x1 =>
  if ¬ x1 = 6 then (
    X5_keeps_45 h)
  else
    X5_keeps_11 FU h 1
def X5_refuses (h : Nat) (v1 : Int32) : Mr Int32 :=
  bd (gR 5 2 (some h)) fun x1 =>
  bd (aI 41 x1 v1) fun x2 =>
  bd (sI 41 x1 v1 (x2 + 1)) fun _ =>
  rt (-v1)
def X5_setEye (h : Nat) (v1 : Int32) : Mr Int32 :=
  bd (pI 0 5 5 (some h) 0) fun _ =>
  bd (X5_in v1 0 9) fun x1 =>
  bd (rc 5 (some h)) fun h' =>
  bd (X5_holds h' x1 1) fun x2 =>
  if ¬ x2 = 0 then (
    bd (rc 5 (some h)) fun h' =>
    bd (X5_get h' 2) fun x3 =>
    if ¬ x3 = v1 then (
      bd (rc 5 (some h)) fun h' =>
      bd (X5_keeps h') fun _ =>
      bd (rc 5 (some h)) fun h' =>
      bd (X5_lay h' 2 v1) fun _ =>
      rt x3)
    else
      bd (rc 5 (some h)) fun h' =>
      bd (X5_refuses h' 6) fun x6 =>
      rt x6)
  else
    rt 0
def X5_layClaim (h : Nat) (v1 : Int32) (v2 : Int32) (v3 : Int32) : Mr Unit :=
  bd (rc 5 (some h)) fun h' =>
  bd (X5_lay h' ((185 + (18 * v1)) + v2) v3) fun _ =>
  rt ()
def X5_isTrader (h : Nat) (v1 : Int32) : Mr Int32 :=
  bd (rc 5 (some h)) fun h' =>
  bd (X5_get h' 0) fun x1 =>
  bd (X5_in v1 0 (x1 - 1)) fun x2 =>
  rz 2 x2
def X5_isHeap (h : Nat) (v1 : Int32) : Mr Int32 :=
  bd (rc 5 (some h)) fun h' =>
  bd (X5_get h' 1) fun x1 =>
  bd (X5_in v1 0 (x1 - 1)) fun x2 =>
  rz 2 x2
def X5_say_57 : Mr Int32 :=
  rt 0
def X5_say_119 : Nat → Nat → Int32 → Int32 → Int32 → Int32 → Int32 → Int32 → Mr Int32
  | 0, _, _, _, _, _, _, _ => no
  | n + 1, h, v1, v2, v3, v4, v5, v6 =>
    if 18 ≤ v6 then (
      bd (rc 5 (some h)) fun h' =>
      bd (X5_layClaim h' v5 0 v1) fun _ =>
      bd (rc 5 (some h)) fun h' =>
      bd (X5_layClaim h' v5 1 v2) fun _ =>
      bd (rc 5 (some h)) fun h' =>
      bd (X5_layClaim h' v5 2 v4) fun _ =>
      bd (rc 5 (some h)) fun h' =>
      bd (X5_layClaim h' v5 3 v3) fun _ =>
      bd (rc 5 (some h)) fun h' =>
      bd (X5_adds h' 3 1) fun _ =>
      rt v5)
    else
      bd (rc 5 (some h)) fun h' =>
      bd (X5_layClaim h' v5 v6 0) fun _ =>
      X5_say_119 n h v1 v2 v3 v4 v5 (v6 + 1)
def X5_say_36 (h : Nat) (v1 : Int32) (v2 : Int32) (v3 : Int32) (v4 : Int32) (w0 : Option Nat) (w1 : Int32) : Mr Int32 :=
  bd (rc 5 w0) fun h' =>
  bd (X5_holds h' w1 1) fun x1 =>
  if x1 = 0 then (
    X5_say_57)
  else
    bd (X5_in v3 0 2) fun x2 =>
    bd (rc 5 (some h)) fun h' =>
    bd (X5_holds h' x2 2) fun x3 =>
    if ¬ x3 = 0 then (
      if ¬ v2 = v4 then (
        bd (rc 5 (some h)) fun h' =>
        bd (X5_get h' (11 + v1)) fun x4 =>
        if ¬ x4 = 0 then (
          bd (rc 5 (some h)) fun h' =>
          bd (X5_get h' 3) fun x5 =>
          if ¬ x5 = 20 then (
            bd (rc 5 (some h)) fun h' =>
            bd (X5_keeps h') fun _ =>
            bd (rc 5 (some h)) fun h' =>
            bd (X5_get h' 3) fun x7 =>
            X5_say_119 FU h v1 v2 v3 v4 x7 0)
          else
            bd (rc 5 (some h)) fun h' =>
            bd (X5_refuses h' 1) fun x8 =>
            rt x8)
        else
          bd (rc 5 (some h)) fun h' =>
          bd (X5_refuses h' 9) fun x9 =>
          rt x9)
      else
        bd (rc 5 (some h)) fun h' =>
        bd (X5_refuses h' 2) fun x10 =>
        rt x10)
    else
      X5_say_57
def X5_say_35 (h : Nat) (v1 : Int32) (v2 : Int32) (v3 : Int32) (v4 : Int32) (w0 : Option Nat) : Mr Int32 :=
  X5_say_36 h v1 v2 v3 v4 w0 0
def X5_say (h : Nat) (v1 : Int32) (v2 : Int32) (v3 : Int32) (v4 : Int32) : Mr Int32 :=
  bd (pI 0 5 5 (some h) 0) fun _ =>
  bd (rc 5 (some h)) fun h' =>
  bd (X5_isTrader h' v1) fun x1 =>
  if x1 = 0 then (
    X5_say_35 h v1 v2 v3 v4 (some h))
  else
    bd (rc 5 (some h)) fun h' =>
    bd (X5_isHeap h' v2) fun x2 =>
    if x2 = 0 then (
      X5_say_35 h v1 v2 v3 v4 (some h))
    else
      bd (rc 5 (some h)) fun h' =>
      bd (X5_isHeap h' v4) fun x3 =>
      if x3 = 0 then (
        X5_say_35 h v1 v2 v3 v4 (some h))
      else
        X5_say_36 h v1 v2 v3 v4 (some h) 1
def X5_cl (h : Nat) (v1 : Int32) (v2 : Int32) : Mr Int32 :=
  bd (rc 5 (some h)) fun h' =>
  bd (X5_get h' ((185 + (18 * v1)) + v2)) fun x1 =>
  rt x1
def X5_isOpen_14 (w0 : Int32) : Mr Int32 :=
  rz 2 w0
def X5_isOpen (h : Nat) (v1 : Int32) : Mr Int32 :=
  bd (rc 5 (some h)) fun h' =>
  bd (X5_cl h' v1 4) fun x1 =>
  if ¬ x1 = 0 then (
    X5_isOpen_14 0)
  else
    X5_isOpen_14 1
def X5_sideOf (h : Nat) (v1 : Int32) (v2 : Int32) : Mr Int32 :=
  bd (rc 5 (some h)) fun h' =>
  bd (X5_cl h' v1 (1 + v2)) fun x1 =>
  rt x1
def X5_stones (h : Nat) (v1 : Int32) (v2 : Int32) : Mr Int32 :=
  bd (rc 5 (some h)) fun h' =>
  bd (X5_hp h' v1 (2 + v2)) fun x1 =>
  rt x1
def X5_pairedOf (h : Nat) (v1 : Int32) (v2 : Int32) (v3 : Int32) : Mr Int32 :=
  bd (rc 5 (some h)) fun h' =>
  bd (X5_cl h' v1 ((8 + (5 * v2)) + v3)) fun x1 =>
  rt x1
def X5_leftIn (h : Nat) (v1 : Int32) (v2 : Int32) (v3 : Int32) : Mr Int32 :=
  bd (rc 5 (some h)) fun h' =>
  bd (X5_sideOf h' v1 v2) fun x1 =>
  bd (rc 5 (some h)) fun h' =>
  bd (X5_stones h' x1 v3) fun x2 =>
  bd (rc 5 (some h)) fun h' =>
  bd (X5_pairedOf h' v1 v2 v3) fun x3 =>
  rt (x2 - x3)
def X5_addsClaim (h : Nat) (v1 : Int32) (v2 : Int32) (v3 : Int32) : Mr Unit :=
  bd (rc 5 (some h)) fun h' =>
  bd (X5_adds h' ((185 + (18 * v1)) + v2) v3) fun _ =>
  rt ()
def X5_tallies (h : Nat) (v1 : Int32) (v2 : Int32) : Mr Unit :=
  bd (rc 5 (some h)) fun h' =>
  bd (X5_adds h' (4 + v1) v2) fun _ =>
  rt ()
def X5_pairs (h : Nat) (v1 : Int32) (v2 : Int32) (v3 : Int32) : Mr Unit :=
  bd (rc 5 (some h)) fun h' =>
  bd (X5_addsClaim h' v1 (8 + v2) 1) fun _ =>
  bd (rc 5 (some h)) fun h' =>
  bd (X5_addsClaim h' v1 (13 + v3) 1) fun _ =>
  bd (rc 5 (some h)) fun h' =>
  bd (X5_addsClaim h' v1 5 1) fun _ =>
  bd (rc 5 (some h)) fun h' =>
  bd (X5_tallies h' 0 1) fun _ =>
  rt ()
def X5_leftOf_23 : Nat → Nat → Int32 → Int32 → Int32 → Int32 → Mr Int32
  | 0, _, _, _, _, _ => no
  | n + 1, h, v1, v2, v3, v4 =>
    bd (rc 5 (some h)) fun h' =>
    bd (X5_sideOf h' v1 v2) fun x1 =>
    bd (rc 5 (some h)) fun h' =>
    bd (X5_hp h' x1 1) fun x2 =>
    if x2 ≤ v4 then (
      rt v3)
    else
      bd (rc 5 (some h)) fun h' =>
      bd (X5_leftIn h' v1 v2 v4) fun x3 =>
      X5_leftOf_23 n h v1 v2 (v3 + x3) (v4 + 1)
def X5_leftOf (h : Nat) (v1 : Int32) (v2 : Int32) : Mr Int32 :=
  bd (rc 5 (some h)) fun h' =>
  bd (X5_isOpen h' v1) fun x1 =>
  if ¬ x1 = 0 then (
    X5_leftOf_23 FU h v1 v2 0 0)
  else
    bd (rc 5 (some h)) fun h' =>
    bd (X5_cl h' v1 (6 + v2)) fun x2 =>
    rt x2
def X5_isClaim (h : Nat) (v1 : Int32) : Mr Int32 :=
  bd (rc 5 (some h)) fun h' =>
  bd (X5_get h' 3) fun x1 =>
  bd (X5_in v1 0 (x1 - 1)) fun x2 =>
  rz 2 x2
def X5_isRow_29 (w0 : Int32) : Mr Int32 :=
  rz 2 w0
def X5_isRow_28 : Mr Int32 :=
  X5_isRow_29 0
def X5_isRow (h : Nat) (v1 : Int32) (v2 : Int32) : Mr Int32 :=
  bd (rc 5 (some h)) fun h' =>
  bd (X5_isHeap h' v1) fun x1 =>
  if x1 = 0 then (
    X5_isRow_28)
  else
    bd (rc 5 (some h)) fun h' =>
    bd (X5_hp h' v1 1) fun x2 =>
    bd (X5_in v2 0 (x2 - 1)) fun x3 =>
    if x3 = 0 then (
      X5_isRow_28)
    else
      X5_isRow_29 1
def X5_pair_90 (h : Nat) : Mr Int32 :=
  bd (rc 5 (some h)) fun h' =>
  bd (X5_refuses h' 4) fun x1 =>
  rt x1
def X5_pair_47 (h : Nat) (v1 : Int32) (v2 : Int32) (v3 : Int32) (w0 : Option Nat) (w1 : Int32) : Mr Int32 :=
  bd (rc 5 w0) fun h' =>
  bd (X5_holds h' w1 1) fun x1 =>
  if ¬ x1 = 0 then (
    bd (rc 5 (some h)) fun h' =>
    bd (X5_isOpen h' v1) fun x2 =>
    if ¬ x2 = 0 then (
      bd (rc 5 (some h)) fun h' =>
      bd (X5_leftIn h' v1 0 v2) fun x3 =>
      if x3 = 0 then (
        X5_pair_90 h)
      else
        bd (rc 5 (some h)) fun h' =>
        bd (X5_leftIn h' v1 1 v3) fun x4 =>
        if ¬ x4 = 0 then (
          bd (rc 5 (some h)) fun h' =>
          bd (X5_keeps h') fun _ =>
          bd (rc 5 (some h)) fun h' =>
          bd (X5_pairs h' v1 v2 v3) fun _ =>
          bd (rc 5 (some h)) fun h' =>
          bd (X5_leftOf h' v1 0) fun x7 =>
          bd (rc 5 (some h)) fun h' =>
          bd (X5_leftOf h' v1 1) fun x8 =>
          rt (x7 + x8))
        else
          X5_pair_90 h)
    else
      bd (rc 5 (some h)) fun h' =>
      bd (X5_refuses h' 3) fun x9 =>
      rt x9)
  else
    rt 0
def X5_pair_46 (h : Nat) (v1 : Int32) (v2 : Int32) (v3 : Int32) (w0 : Option Nat) : Mr Int32 :=
  X5_pair_47 h v1 v2 v3 w0 0
def X5_pair (h : Nat) (v1 : Int32) (v2 : Int32) (v3 : Int32) : Mr Int32 :=
  bd (pI 0 5 5 (some h) 0) fun _ =>
  bd (rc 5 (some h)) fun h' =>
  bd (X5_isClaim h' v1) fun x1 =>
  if x1 = 0 then (
    X5_pair_46 h v1 v2 v3 (some h))
  else
    bd (rc 5 (some h)) fun h' =>
    bd (X5_sideOf h' v1 0) fun x2 =>
    bd (rc 5 (some h)) fun h' =>
    bd (X5_isRow h' x2 v2) fun x3 =>
    if x3 = 0 then (
      X5_pair_46 h v1 v2 v3 (some h))
    else
      bd (rc 5 (some h)) fun h' =>
      bd (X5_sideOf h' v1 1) fun x4 =>
      bd (rc 5 (some h)) fun h' =>
      bd (X5_isRow h' x4 v3) fun x5 =>
      if x5 = 0 then (
        X5_pair_46 h v1 v2 v3 (some h))
      else
        X5_pair_47 h v1 v2 v3 (some h) 1
def X5_isEnded_23 (w0 : Int32) : Mr Int32 :=
  rz 2 w0
def X5_isEnded_18 : Mr Int32 :=
  X5_isEnded_23 1
def X5_isEnded (h : Nat) (v1 : Int32) : Mr Int32 :=
  bd (rc 5 (some h)) fun h' =>
  bd (X5_leftOf h' v1 0) fun x1 =>
  if x1 = 0 then (
    X5_isEnded_18)
  else
    bd (rc 5 (some h)) fun h' =>
    bd (X5_leftOf h' v1 1) fun x2 =>
    if ¬ x2 = 0 then (
      X5_isEnded_23 0)
    else
      X5_isEnded_18
def X5_lowestLeft_2 : Nat → Nat → Int32 → Int32 → Int32 → Mr Int32
  | 0, _, _, _, _ => no
  | n + 1, h, v1, v2, v3 =>
    bd (rc 5 (some h)) fun h' =>
    bd (X5_leftIn h' v1 v2 v3) fun x1 =>
    if ¬ x1 = 0 then (
      rt v3)
    else
      X5_lowestLeft_2 n h v1 v2 (v3 + 1)
def X5_lowestLeft (h : Nat) (v1 : Int32) (v2 : Int32) : Mr Int32 :=
  X5_lowestLeft_2 FU h v1 v2 0
def X5_match_55 : Nat → Nat → Int32 → Int32 → Mr Int32
  | 0, _, _, _ => no
  | n + 1, h, v1, v2 =>
    bd (rc 5 (some h)) fun h' =>
    bd (X5_isEnded h' v1) fun x1 =>
    if ¬ x1 = 0 then (
      rt v2)
    else
      bd (rc 5 (some h)) fun h' =>
      bd (X5_lowestLeft h' v1 0) fun x2 =>
      bd (rc 5 (some h)) fun h' =>
      bd (X5_lowestLeft h' v1 1) fun x3 =>
      bd (rc 5 (some h)) fun h' =>
      bd (X5_pairs h' v1 x2 x3) fun _ =>
      X5_match_55 n h v1 (v2 + 1)
def X5_match (h : Nat) (v1 : Int32) : Mr Int32 :=
  bd (pI 0 5 5 (some h) 0) fun _ =>
  bd (rc 5 (some h)) fun h' =>
  bd (X5_isClaim h' v1) fun x1 =>
  bd (rc 5 (some h)) fun h' =>
  bd (X5_holds h' x1 1) fun x2 =>
  if ¬ x2 = 0 then (
    bd (rc 5 (some h)) fun h' =>
    bd (X5_isOpen h' v1) fun x3 =>
    if ¬ x3 = 0 then (
      bd (rc 5 (some h)) fun h' =>
      bd (X5_isEnded h' v1) fun x4 =>
      if x4 = 0 then (
        bd (rc 5 (some h)) fun h' =>
        bd (X5_keeps h') fun _ =>
        X5_match_55 FU h v1 0)
      else
        bd (rc 5 (some h)) fun h' =>
        bd (X5_refuses h' 6) fun x6 =>
        rt x6)
    else
      bd (rc 5 (some h)) fun h' =>
      bd (X5_refuses h' 3) fun x7 =>
      rt x7)
  else
    rt 0
def X5_turned_12 (w0 : Int32) : Mr Int32 :=
  rt w0
def X5_turned (v0 : Int32) : Mr Int32 :=
  if ¬ v0 = 2 then (
    X5_turned_12 (1 - v0))
  else
    X5_turned_12 2
def X5_layFact_37 (w0 : Option Nat) (w1 : Int32) (w2 : Int32) : Mr Unit :=
  bd (rc 5 w0) fun h' =>
  bd (X5_lay h' w1 w2) fun _ =>
  rt ()
def X5_layFact (h : Nat) (v1 : Int32) (v2 : Int32) (v3 : Int32) : Mr Unit :=
  bd (rc 5 (some h)) fun h' =>
  bd (X5_lay h' ((85 + (10 * v1)) + v2) v3) fun _ =>
  if ¬ v3 = (-1) then (
    bd (X5_turned v3) fun x2 =>
    X5_layFact_37 (some h) ((85 + (10 * v2)) + v1) x2)
  else
    X5_layFact_37 (some h) ((85 + (10 * v2)) + v1) (-1)
def X5_ends_2 : Nat → Nat → Int32 → Int32 → Int32 → Mr Unit
  | 0, _, _, _, _ => no
  | n + 1, h, v1, v2, v3 =>
    if 2 ≤ v3 then (
      bd (rc 5 (some h)) fun h' =>
      bd (X5_layClaim h' v1 4 v2) fun _ =>
      rt ())
    else
      bd (rc 5 (some h)) fun h' =>
      bd (X5_leftOf h' v1 v3) fun x2 =>
      bd (rc 5 (some h)) fun h' =>
      bd (X5_layClaim h' v1 (6 + v3) x2) fun _ =>
      X5_ends_2 n h v1 v2 (v3 + 1)
def X5_ends (h : Nat) (v1 : Int32) (v2 : Int32) : Mr Unit :=
  X5_ends_2 FU h v1 v2 0
def X5_sightOf_16 (w0 : Int32) : Mr Int32 :=
  rt w0
def X5_sightOf (v0 : Int32) (v1 : Int32) : Mr Int32 :=
  if v1 < v0 then (
    bd (dv (v0 - v1) 2) fun x1 =>
    X5_sightOf_16 (v1 + x1))
  else
    X5_sightOf_16 v0
def X5_lookOf_4 : Nat → Nat → Int32 → Int32 → Int32 → Mr Int32
  | 0, _, _, _, _ => no
  | n + 1, h, v1, v2, v3 =>
    bd (rc 5 (some h)) fun h' =>
    bd (X5_hp h' v1 1) fun x1 =>
    if x1 ≤ v3 then (
      rt v2)
    else
      bd (rc 5 (some h)) fun h' =>
      bd (X5_stones h' v1 v3) fun x2 =>
      bd (rc 5 (some h)) fun h' =>
      bd (X5_get h' 2) fun x3 =>
      bd (X5_sightOf x2 x3) fun x4 =>
      X5_lookOf_4 n h v1 (v2 + x4) (v3 + 1)
def X5_lookOf (h : Nat) (v1 : Int32) : Mr Int32 :=
  X5_lookOf_4 FU h v1 0 0
def X5_word_19 (w0 : Int32) : Mr Int32 :=
  rt w0
def X5_word (v0 : Int32) (v1 : Int32) : Mr Int32 :=
  if v0 ≤ v1 then (
    if v1 ≤ v0 then (
      X5_word_19 2)
    else
      X5_word_19 1)
  else
    X5_word_19 0
def X5_wordByEye (h : Nat) (v1 : Int32) (v2 : Int32) : Mr Int32 :=
  bd (rc 5 (some h)) fun h' =>
  bd (X5_lookOf h' v1) fun x1 =>
  bd (rc 5 (some h)) fun h' =>
  bd (X5_lookOf h' v2) fun x2 =>
  bd (X5_word x1 x2) fun x3 =>
  rt x3
def X5_close_237 (v2 : Int32) (w0 : Option Nat) (w1 : Int32) (w2 : Int32) : Mr Int32 :=
  bd (X5_one w2) fun x1 =>
  bd (rc 5 w0) fun h' =>
  bd (X5_tallies h' w1 x1) fun _ =>
  rt v2
def X5_close_236 (v2 : Int32) (w0 : Option Nat) (w1 : Int32) : Mr Int32 :=
  X5_close_237 v2 w0 w1 0
def X5_close_213 (h : Nat) (v2 : Int32) (v5 : Int32) (v6 : Int32) (w0 : Option Nat) (w1 : Int32) (w2 : Int32) : Mr Int32 :=
  bd (X5_one w2) fun x1 =>
  bd (rc 5 w0) fun h' =>
  bd (X5_tallies h' w1 x1) fun _ =>
  if ¬ v5 = 0 then (
    X5_close_236 v2 (some h) 6)
  else
    if v6 = 0 then (
      X5_close_236 v2 (some h) 6)
    else
      X5_close_237 v2 (some h) 6 1
def X5_close_212 (h : Nat) (v2 : Int32) (v5 : Int32) (v6 : Int32) (w0 : Option Nat) (w1 : Int32) : Mr Int32 :=
  X5_close_213 h v2 v5 v6 w0 w1 0
def X5_close_172 (h : Nat) (v2 : Int32) (v3 : Int32) (v4 : Int32) (v5 : Int32) (v6 : Int32) (w0 : Option Nat) (w1 : Int32) (w2 : Int32) (w3 : Int32) (w4 : Int32) (w5 : Int32) : Mr Int32 :=
  bd (J12_min w3 (w4 + w5)) fun x1 =>
  bd (J12_max w2 x1) fun x2 =>
  bd (rc 5 w0) fun h' =>
  bd (X5_lay h' w1 x2) fun _ =>
  bd (rc 5 (some h)) fun h' =>
  bd (X5_layFact h' v3 v4 v2) fun _ =>
  bd (rc 5 (some h)) fun h' =>
  bd (X5_tallies h' 1 1) fun _ =>
  if v5 = 0 then (
    X5_close_212 h v2 v5 v6 (some h) 5)
  else
    if ¬ v6 = 0 then (
      X5_close_212 h v2 v5 v6 (some h) 5)
    else
      X5_close_213 h v2 v5 v6 (some h) 5 1
def X5_close_146 (h : Nat) (v2 : Int32) (v3 : Int32) (v4 : Int32) (v5 : Int32) (v6 : Int32) (v7 : Int32) (w0 : Option Nat) (w1 : Int32) (w2 : Int32) : Mr Int32 :=
  bd (rc 5 w0) fun h' =>
  bd (X5_ends h' w1 w2) fun _ =>
  bd (rc 5 (some h)) fun h' =>
  bd (X5_get h' v7) fun x2 =>
  if v5 = 0 then (
    X5_close_172 h v2 v3 v4 v5 v6 (some h) v7 0 20 x2 (-2))
  else
    X5_close_172 h v2 v3 v4 v5 v6 (some h) v7 0 20 x2 1
def X5_close_121 (h : Nat) (v1 : Int32) (v2 : Int32) (v3 : Int32) (v4 : Int32) (v5 : Int32) (w0 : Int32) : Mr Int32 :=
  bd (rc 5 (some h)) fun h' =>
  bd (X5_cl h' v1 0) fun x1 =>
  if v5 = 0 then (
    X5_close_146 h v2 v3 v4 v5 w0 (11 + x1) (some h) v1 2)
  else
    X5_close_146 h v2 v3 v4 v5 w0 (11 + x1) (some h) v1 1
def X5_close_98 (h : Nat) (v1 : Int32) (v2 : Int32) (v3 : Int32) (v4 : Int32) (w0 : Int32) : Mr Int32 :=
  bd (rc 5 (some h)) fun h' =>
  bd (X5_wordByEye h' v3 v4) fun x1 =>
  bd (rc 5 (some h)) fun h' =>
  bd (X5_cl h' v1 3) fun x2 =>
  if ¬ x1 = x2 then (
    X5_close_121 h v1 v2 v3 v4 w0 0)
  else
    X5_close_121 h v1 v2 v3 v4 w0 1
def X5_close (h : Nat) (v1 : Int32) : Mr Int32 :=
  bd (pI 0 5 5 (some h) 0) fun _ =>
  bd (rc 5 (some h)) fun h' =>
  bd (X5_isClaim h' v1) fun x1 =>
  bd (rc 5 (some h)) fun h' =>
  bd (X5_holds h' x1 1) fun x2 =>
  if ¬ x2 = 0 then (
    bd (rc 5 (some h)) fun h' =>
    bd (X5_isOpen h' v1) fun x3 =>
    if ¬ x3 = 0 then (
      bd (rc 5 (some h)) fun h' =>
      bd (X5_isEnded h' v1) fun x4 =>
      if ¬ x4 = 0 then (
        bd (rc 5 (some h)) fun h' =>
        bd (X5_keeps h') fun _ =>
        bd (rc 5 (some h)) fun h' =>
        bd (X5_leftOf h' v1 0) fun x6 =>
        bd (rc 5 (some h)) fun h' =>
        bd (X5_leftOf h' v1 1) fun x7 =>
        bd (X5_word x6 x7) fun x8 =>
        bd (rc 5 (some h)) fun h' =>
        bd (X5_sideOf h' v1 0) fun x9 =>
        bd (rc 5 (some h)) fun h' =>
        bd (X5_sideOf h' v1 1) fun x10 =>
        bd (rc 5 (some h)) fun h' =>
        bd (X5_cl h' v1 3) fun x11 =>
        if ¬ x8 = x11 then (
          X5_close_98 h v1 x8 x9 x10 0)
        else
          X5_close_98 h v1 x8 x9 x10 1)
      else
        bd (rc 5 (some h)) fun h' =>
        bd (X5_refuses h' 5) fun x12 =>
        rt x12)
    else
      bd (rc 5 (some h)) fun h' =>
      bd (X5_refuses h' 3) fun x13 =>
      rt x13)
  else
    rt 0
def X5_claimsThat_29 (k4 : Nat → Int32 → Int32 → Int32 → Mr Int32) (h : Nat) (v1 : Int32) (v3 : Int32) (w0 : Int32) (w1 : Int32) : Mr Int32 :=
  bd (X5_one w1) fun x1 =>
  k4 h v1 (w0 + x1) (v3 + 1)
def X5_claimsThat_4 : Nat → Nat → Int32 → Int32 → Int32 → Mr Int32
  | 0, _, _, _, _ => no
  | n + 1, h, v1, v2, v3 =>
    bd (rc 5 (some h)) fun h' =>
    bd (X5_get h' 3) fun x1 =>
    if x1 ≤ v3 then (
      rt v2)
    else
      bd (rc 5 (some h)) fun h' =>
      bd (X5_cl h' v3 4) fun x2 =>
      if ¬ x2 = v1 then (
        X5_claimsThat_29 (X5_claimsThat_4 n) h v1 v3 v2 0)
      else
        X5_claimsThat_29 (X5_claimsThat_4 n) h v1 v3 v2 1
def X5_claimsThat (h : Nat) (v1 : Int32) : Mr Int32 :=
  X5_claimsThat_4 FU h v1 0 0
def X5_drop (h : Nat) (v1 : Int32) : Mr Int32 :=
  bd (pI 0 5 5 (some h) 0) fun _ =>
  bd (rc 5 (some h)) fun h' =>
  bd (X5_isClaim h' v1) fun x1 =>
  bd (rc 5 (some h)) fun h' =>
  bd (X5_holds h' x1 1) fun x2 =>
  if ¬ x2 = 0 then (
    bd (rc 5 (some h)) fun h' =>
    bd (X5_isOpen h' v1) fun x3 =>
    if ¬ x3 = 0 then (
      bd (rc 5 (some h)) fun h' =>
      bd (X5_keeps h') fun _ =>
      bd (rc 5 (some h)) fun h' =>
      bd (X5_ends h' v1 3) fun _ =>
      bd (rc 5 (some h)) fun h' =>
      bd (X5_claimsThat h' 0) fun x6 =>
      rt x6)
    else
      bd (rc 5 (some h)) fun h' =>
      bd (X5_refuses h' 3) fun x7 =>
      rt x7)
  else
    rt 0
def X5_beginsAnew_49 (w0 : Option Nat) (w1 : Int32) (w2 : Int32) : Mr Unit :=
  bd (X5_one w2) fun x1 =>
  bd (rc 5 w0) fun h' =>
  bd (X5_tallies h' w1 x1) fun _ =>
  rt ()
def X5_beginsAnew_4 : Nat → Nat → Int32 → Int32 → Int32 → Mr Unit
  | 0, _, _, _, _ => no
  | n + 1, h, v1, v2, v3 =>
    if 10 ≤ v3 then (
      if v2 ≤ 0 then (
        X5_beginsAnew_49 (some h) 3 0)
      else
        X5_beginsAnew_49 (some h) 3 1)
    else
      bd (rc 5 (some h)) fun h' =>
      bd (X5_cl h' v1 (8 + v3)) fun x1 =>
      bd (rc 5 (some h)) fun h' =>
      bd (X5_layClaim h' v1 (8 + v3) 0) fun _ =>
      X5_beginsAnew_4 n h v1 (v2 + x1) (v3 + 1)
def X5_beginsAnew (h : Nat) (v1 : Int32) : Mr Unit :=
  X5_beginsAnew_4 FU h v1 0 0
def X5_factOf (h : Nat) (v1 : Int32) (v2 : Int32) : Mr Int32 :=
  bd (rc 5 (some h)) fun h' =>
  bd (X5_get h' ((85 + (10 * v1)) + v2)) fun x1 =>
  rt x1
def X5_changes_28 (k2 : Nat → Int32 → Int32 → Mr Unit) (h : Nat) (v1 : Int32) (v2 : Int32) (w0 : Option Nat) (w1 : Int32) (w2 : Int32) : Mr Unit :=
  bd (X5_one w2) fun x1 =>
  bd (rc 5 w0) fun h' =>
  bd (X5_tallies h' w1 x1) fun _ =>
  bd (rc 5 (some h)) fun h' =>
  bd (X5_layFact h' v1 v2 (-1)) fun _ =>
  k2 h v1 (v2 + 1)
def X5_changes_91 (k49 : Nat → Int32 → Int32 → Mr Unit) (h : Nat) (v1 : Int32) (v2 : Int32) : Mr Unit :=
  k49 h v1 (v2 + 1)
def X5_changes_86 (k49 : Nat → Int32 → Int32 → Mr Unit) (h : Nat) (v1 : Int32) (v2 : Int32) : Mr Unit :=
  bd (rc 5 (some h)) fun h' =>
  bd (X5_beginsAnew h' v2) fun _ =>
  X5_changes_91 k49 h v1 v2
def X5_changes_49 : Nat → Nat → Int32 → Int32 → Mr Unit
  | 0, _, _, _ => no
  | n + 1, h, v1, v2 =>
    bd (rc 5 (some h)) fun h' =>
    bd (X5_get h' 3) fun x1 =>
    if x1 ≤ v2 then (
      rt ())
    else
      bd (rc 5 (some h)) fun h' =>
      bd (X5_isOpen h' v2) fun x2 =>
      if x2 = 0 then (
        X5_changes_91 (X5_changes_49 n) h v1 v2)
      else
        bd (rc 5 (some h)) fun h' =>
        bd (X5_sideOf h' v2 0) fun x3 =>
        if x3 = v1 then (
          X5_changes_86 (X5_changes_49 n) h v1 v2)
        else
          bd (rc 5 (some h)) fun h' =>
          bd (X5_sideOf h' v2 1) fun x4 =>
          if ¬ x4 = v1 then (
            X5_changes_91 (X5_changes_49 n) h v1 v2)
          else
            X5_changes_86 (X5_changes_49 n) h v1 v2
def X5_changes_2 : Nat → Nat → Int32 → Int32 → Mr Unit
  | 0, _, _, _ => no
  | n + 1, h, v1, v2 =>
    bd (rc 5 (some h)) fun h' =>
    bd (X5_get h' 1) fun x1 =>
    if x1 ≤ v2 then (
      X5_changes_49 FU h v1 0)
    else
      bd (rc 5 (some h)) fun h' =>
      bd (X5_factOf h' v1 v2) fun x2 =>
      if x2 = (-1) then (
        X5_changes_28 (X5_changes_2 n) h v1 v2 (some h) 2 0)
      else
        X5_changes_28 (X5_changes_2 n) h v1 v2 (some h) 2 1
def X5_changes (h : Nat) (v1 : Int32) : Mr Unit :=
  X5_changes_2 FU h v1 0
def X5_sizeOf_4 : Nat → Nat → Int32 → Int32 → Int32 → Mr Int32
  | 0, _, _, _, _ => no
  | n + 1, h, v1, v2, v3 =>
    bd (rc 5 (some h)) fun h' =>
    bd (X5_hp h' v1 1) fun x1 =>
    if x1 ≤ v3 then (
      rt v2)
    else
      bd (rc 5 (some h)) fun h' =>
      bd (X5_stones h' v1 v3) fun x2 =>
      X5_sizeOf_4 n h v1 (v2 + x2) (v3 + 1)
def X5_sizeOf (h : Nat) (v1 : Int32) : Mr Int32 :=
  X5_sizeOf_4 FU h v1 0 0
def X5_put_34 : Mr Int32 :=
  rt 0
def X5_put (h : Nat) (v1 : Int32) (v2 : Int32) (v3 : Int32) : Mr Int32 :=
  bd (pI 0 5 5 (some h) 0) fun _ =>
  bd (rc 5 (some h)) fun h' =>
  bd (X5_isRow h' v1 v2) fun x1 =>
  bd (rc 5 (some h)) fun h' =>
  bd (X5_holds h' x1 1) fun x2 =>
  if x2 = 0 then (
    X5_put_34)
  else
    bd (X5_in v3 0 9) fun x3 =>
    bd (rc 5 (some h)) fun h' =>
    bd (X5_holds h' x3 2) fun x4 =>
    if ¬ x4 = 0 then (
      bd (rc 5 (some h)) fun h' =>
      bd (X5_stones h' v1 v2) fun x5 =>
      if ¬ v3 = x5 then (
        bd (rc 5 (some h)) fun h' =>
        bd (X5_keeps h') fun _ =>
        bd (rc 5 (some h)) fun h' =>
        bd (X5_layHeap h' v1 (2 + v2) v3) fun _ =>
        bd (rc 5 (some h)) fun h' =>
        bd (X5_changes h' v1) fun _ =>
        bd (rc 5 (some h)) fun h' =>
        bd (X5_sizeOf h' v1) fun x9 =>
        rt x9)
      else
        bd (rc 5 (some h)) fun h' =>
        bd (X5_refuses h' 6) fun x10 =>
        rt x10)
    else
      X5_put_34
def X5_walks_32 (k9 : Nat → Int32 → Int32 → Int32 → Int32 → Mr Unit) (h : Nat) (v1 : Int32) (v2 : Int32) (v3 : Int32) (v4 : Int32) (w0 : Option Nat) (w1 : Int32) (w2 : Int32) : Mr Unit :=
  bd (sI 41 w0 w1 w2) fun _ =>
  bd (gR 5 7 (some h)) fun x1 =>
  bd (sI 43 x1 v4 0) fun _ =>
  k9 h v1 v2 v3 (v4 + 1)
def X5_walks_207 : Mr Unit :=
  rt ()
def X5_walks_195 (k53 : Nat → Int32 → Int32 → Int32 → Int32 → Mr Unit) (k70 : Nat → Int32 → Int32 → Int32 → Int32 → Int32 → Mr Unit) (h : Nat) (v2 : Int32) (v3 : Int32) (v4 : Int32) (v5 : Int32) (v6 : Int32) : Mr Unit :=
  k70 h v2 v3 v4 v5 (v6 + 1)
def X5_walks_189 (k53 : Nat → Int32 → Int32 → Int32 → Int32 → Mr Unit) (k70 : Nat → Int32 → Int32 → Int32 → Int32 → Int32 → Mr Unit) (k93 : Nat → Int32 → Int32 → Int32 → Int32 → Int32 → Int32 → Mr Unit) (h : Nat) (v2 : Int32) (v3 : Int32) (v4 : Int32) (v5 : Int32) (v6 : Int32) (v7 : Int32) : Mr Unit :=
  k93 h v2 v3 v4 v5 v6 (v7 + 1)
def X5_walks_187 (k53 : Nat → Int32 → Int32 → Int32 → Int32 → Mr Unit) (k70 : Nat → Int32 → Int32 → Int32 → Int32 → Int32 → Mr Unit) (k93 : Nat → Int32 → Int32 → Int32 → Int32 → Int32 → Int32 → Mr Unit) (h : Nat) (v2 : Int32) (v3 : Int32) (v4 : Int32) (v5 : Int32) (v6 : Int32) (v7 : Int32) (w0 : Option Nat) (w1 : Int32) (w2 : Int32) (w3 : Int32) : Mr Unit :=
  bd (sI 43 w0 w1 (w2 ||| w3)) fun _ =>
  X5_walks_189 k53 k70 k93 h v2 v3 v4 v5 v6 v7
def X5_walks_182 (k53 : Nat → Int32 → Int32 → Int32 → Int32 → Mr Unit) (k70 : Nat → Int32 → Int32 → Int32 → Int32 → Int32 → Mr Unit) (k93 : Nat → Int32 → Int32 → Int32 → Int32 → Int32 → Int32 → Mr Unit) (h : Nat) (v2 : Int32) (v3 : Int32) (v4 : Int32) (v5 : Int32) (v6 : Int32) (v7 : Int32) (w0 : Option Nat) (w1 : Int32) (w2 : Int32) : Mr Unit :=
  X5_walks_187 k53 k70 k93 h v2 v3 v4 v5 v6 v7 w0 w1 w2 1
def X5_walks_93 (k53 : Nat → Int32 → Int32 → Int32 → Int32 → Mr Unit) (k70 : Nat → Int32 → Int32 → Int32 → Int32 → Int32 → Mr Unit) : Nat → Nat → Int32 → Int32 → Int32 → Int32 → Int32 → Int32 → Mr Unit
  | 0, _, _, _, _, _, _, _ => no
  | n + 1, h, v2, v3, v4, v5, v6, v7 =>
    if v3 ≤ v7 then (
      X5_walks_195 k53 k70 h v2 v3 v4 v5 v6)
    else
      bd (gR 5 6 (some h)) fun x1 =>
      bd (aI 41 x1 v7) fun x2 =>
      if ¬ x2 = v5 then (
        X5_walks_189 k53 k70 (X5_walks_93 k53 k70 n) h v2 v3 v4 v5 v6 v7)
      else
        bd (rc 5 (some h)) fun h' =>
        bd (X5_factOf h' v6 v7) fun x3 =>
        if x3 = (-1) then (
          X5_walks_189 k53 k70 (X5_walks_93 k53 k70 n) h v2 v3 v4 v5 v6 v7)
        else
          bd (rc 5 (some h)) fun h' =>
          bd (X5_factOf h' v6 v7) fun x4 =>
          if ¬ x4 = v2 then (
            bd (gR 5 6 (some h)) fun x5 =>
            bd (sI 41 x5 v6 (v5 + 1)) fun _ =>
            bd (gR 5 7 (some h)) fun x6 =>
            bd (aI 43 x6 v6) fun x7 =>
            bd (gR 5 7 (some h)) fun x8 =>
            bd (aI 43 x8 v7) fun x9 =>
            if ¬ x9 = 0 then (
              X5_walks_182 k53 k70 (X5_walks_93 k53 k70 n) h v2 v3 1 v5 v6 v7 x6 v6 x7)
            else
              bd (rc 5 (some h)) fun h' =>
              bd (X5_factOf h' v6 v7) fun x10 =>
              if x10 = 2 then (
                X5_walks_187 k53 k70 (X5_walks_93 k53 k70 n) h v2 v3 1 v5 v6 v7 x6 v6 x7 0)
              else
                X5_walks_182 k53 k70 (X5_walks_93 k53 k70 n) h v2 v3 1 v5 v6 v7 x6 v6 x7)
          else
            X5_walks_189 k53 k70 (X5_walks_93 k53 k70 n) h v2 v3 v4 v5 v6 v7
def X5_walks_70 (k53 : Nat → Int32 → Int32 → Int32 → Int32 → Mr Unit) : Nat → Nat → Int32 → Int32 → Int32 → Int32 → Int32 → Mr Unit
  | 0, _, _, _, _, _, _ => no
  | n + 1, h, v2, v3, v4, v5, v6 =>
    if v3 ≤ v6 then (
      k53 h v2 v3 v4 (v5 + 1))
    else
      bd (gR 5 6 (some h)) fun x1 =>
      bd (aI 41 x1 v6) fun x2 =>
      if x2 = (-1) then (
        X5_walks_93 k53 (X5_walks_70 k53 n) FU h v2 v3 v4 v5 v6 0)
      else
        X5_walks_195 k53 (X5_walks_70 k53 n) h v2 v3 v4 v5 v6
def X5_walks_53 : Nat → Nat → Int32 → Int32 → Int32 → Int32 → Mr Unit
  | 0, _, _, _, _, _ => no
  | n + 1, h, v2, v3, v4, v5 =>
    if v3 ≤ v5 then (
      X5_walks_207)
    else
      if v4 = 0 then (
        X5_walks_207)
      else
        X5_walks_70 (X5_walks_53 n) FU h v2 v3 0 v5 0
def X5_walks_9 : Nat → Nat → Int32 → Int32 → Int32 → Int32 → Mr Unit
  | 0, _, _, _, _, _ => no
  | n + 1, h, v1, v2, v3, v4 =>
    if v3 ≤ v4 then (
      X5_walks_53 FU h v2 v3 1 0)
    else
      bd (gR 5 6 (some h)) fun x1 =>
      if ¬ v4 = v1 then (
        X5_walks_32 (X5_walks_9 n) h v1 v2 v3 v4 x1 v4 (-1))
      else
        X5_walks_32 (X5_walks_9 n) h v1 v2 v3 v4 x1 v4 0
def X5_walks (h : Nat) (v1 : Int32) (v2 : Int32) : Mr Unit :=
  bd (rc 5 (some h)) fun h' =>
  bd (X5_get h' 1) fun x1 =>
  X5_walks_9 FU h v1 v2 x1 0
def X5_knownOf_37 (w0 : Int32) : Mr Int32 :=
  rt w0
def X5_knownOf_59 (w0 : Int32) : Mr Int32 :=
  rt w0
def X5_knownOf (h : Nat) (v1 : Int32) (v2 : Int32) : Mr Int32 :=
  if ¬ v1 = v2 then (
    bd (rc 5 (some h)) fun h' =>
    bd (X5_walks h' v2 1) fun _ =>
    bd (gR 5 6 (some h)) fun x2 =>
    bd (aI 41 x2 v1) fun x3 =>
    if x3 = (-1) then (
      bd (rc 5 (some h)) fun h' =>
      bd (X5_walks h' v2 0) fun _ =>
      bd (gR 5 6 (some h)) fun x5 =>
      bd (aI 41 x5 v1) fun x6 =>
      if x6 = (-1) then (
        X5_knownOf_59 (-1))
      else
        X5_knownOf_59 1)
    else
      bd (gR 5 7 (some h)) fun x7 =>
      bd (aI 43 x7 v1) fun x8 =>
      if x8 = 0 then (
        X5_knownOf_37 2)
      else
        X5_knownOf_37 0)
  else
    rt 2
def X5_swap_27 (h : Nat) (v1 : Int32) (v2 : Int32) (w0 : Option Nat) (w1 : Int32) : Mr Int32 :=
  bd (rc 5 w0) fun h' =>
  bd (X5_holds h' w1 1) fun x1 =>
  if ¬ x1 = 0 then (
    if ¬ v1 = v2 then (
      bd (rc 5 (some h)) fun h' =>
      bd (X5_hp h' v1 0) fun x2 =>
      bd (rc 5 (some h)) fun h' =>
      bd (X5_hp h' v2 0) fun x3 =>
      if ¬ x2 = x3 then (
        bd (rc 5 (some h)) fun h' =>
        bd (X5_knownOf h' v1 v2) fun x4 =>
        if x4 = 2 then (
          bd (rc 5 (some h)) fun h' =>
          bd (X5_keeps h') fun _ =>
          bd (rc 5 (some h)) fun h' =>
          bd (X5_layHeap h' v1 0 x3) fun _ =>
          bd (rc 5 (some h)) fun h' =>
          bd (X5_layHeap h' v2 0 x2) fun _ =>
          bd (rc 5 (some h)) fun h' =>
          bd (X5_tallies h' 4 2) fun _ =>
          rt x3)
        else
          bd (rc 5 (some h)) fun h' =>
          bd (X5_refuses h' 7) fun x9 =>
          rt x9)
      else
        bd (rc 5 (some h)) fun h' =>
        bd (X5_refuses h' 8) fun x10 =>
        rt x10)
    else
      bd (rc 5 (some h)) fun h' =>
      bd (X5_refuses h' 2) fun x11 =>
      rt x11)
  else
    rt 0
def X5_swap_26 (h : Nat) (v1 : Int32) (v2 : Int32) (w0 : Option Nat) : Mr Int32 :=
  X5_swap_27 h v1 v2 w0 0
def X5_swap (h : Nat) (v1 : Int32) (v2 : Int32) : Mr Int32 :=
  bd (pI 0 5 5 (some h) 0) fun _ =>
  bd (rc 5 (some h)) fun h' =>
  bd (X5_isHeap h' v1) fun x1 =>
  if x1 = 0 then (
    X5_swap_26 h v1 v2 (some h))
  else
    bd (rc 5 (some h)) fun h' =>
    bd (X5_isHeap h' v2) fun x2 =>
    if x2 = 0 then (
      X5_swap_26 h v1 v2 (some h))
    else
      X5_swap_27 h v1 v2 (some h) 1
def X5_acts (h : Nat) (v1 : Int32) : Mr Int32 :=
  bd (gR 5 16 (some h)) fun x1 =>
  bd (aI 41 x1 (v1 + 1)) fun x2 =>
  bd (gR 5 16 (some h)) fun x3 =>
  bd (aI 41 x3 (v1 + 2)) fun x4 =>
  bd (gR 5 16 (some h)) fun x5 =>
  bd (aI 41 x5 (v1 + 3)) fun x6 =>
  bd (gR 5 16 (some h)) fun x7 =>
  bd (aI 41 x7 v1) fun x8 =>
  if x8.toInt < 0 ∨ 6 < x8.toInt then (
    bd (rc 5 (some h)) fun h' =>
    bd (X5_setEye h' x2) fun x9 =>
    rt x9)
  else
    if x8 = 0 then (
      bd (gR 5 16 (some h)) fun x10 =>
      bd (aI 41 x10 (v1 + 4)) fun x11 =>
      bd (rc 5 (some h)) fun h' =>
      bd (X5_say h' x2 x4 x6 x11) fun x12 =>
      rt x12)
    else
      if x8 = 1 then (
        bd (rc 5 (some h)) fun h' =>
        bd (X5_pair h' x2 x4 x6) fun x13 =>
        rt x13)
      else
        if x8 = 2 then (
          bd (rc 5 (some h)) fun h' =>
          bd (X5_match h' x2) fun x14 =>
          rt x14)
        else
          if x8 = 3 then (
            bd (rc 5 (some h)) fun h' =>
            bd (X5_close h' x2) fun x15 =>
            rt x15)
          else
            if x8 = 4 then (
              bd (rc 5 (some h)) fun h' =>
              bd (X5_drop h' x2) fun x16 =>
              rt x16)
            else
              if x8 = 5 then (
                bd (rc 5 (some h)) fun h' =>
                bd (X5_put h' x2 x4 x6) fun x17 =>
                rt x17)
              else
                if x8 = 6 then (
                  bd (rc 5 (some h)) fun h' =>
                  bd (X5_swap h' x2 x4) fun x18 =>
                  rt x18)
                else
                  no
def X5_readsWord_53 (h : Nat) (v1 : Int32) (w0 : Option Nat) (w1 : Int32) : Mr Int32 :=
  bd (rc 5 w0) fun h' =>
  bd (X5_must h' w1 1) fun x1 =>
  bd (rc 5 (some h)) fun h' =>
  bd (X5_goesOn h') fun _ =>
  rt v1
def X5_readsWord_41 (h : Nat) (w0 : Int32) : Mr Int32 :=
  if w0 = (-1) then (
    X5_readsWord_53 h w0 (some h) 0)
  else
    X5_readsWord_53 h w0 (some h) 1
def X5_readsWord (h : Nat) : Mr Int32 :=
  bd (gC 125) fun x1 =>
  bd (rc 5 (some h)) fun h' =>
  bd (X5_isWord h' (some x1)) fun x2 =>
  if x2 = 0 then (
    bd (gC 126) fun x3 =>
    bd (rc 5 (some h)) fun h' =>
    bd (X5_isWord h' (some x3)) fun x4 =>
    if x4 = 0 then (
      bd (gC 127) fun x5 =>
      bd (rc 5 (some h)) fun h' =>
      bd (X5_isWord h' (some x5)) fun x6 =>
      if x6 = 0 then (
        X5_readsWord_41 h (-1))
      else
        X5_readsWord_41 h 2)
    else
      X5_readsWord_41 h 1)
  else
    X5_readsWord_41 h 0
def X5_readsNumbers (h : Nat) (v1 : Int32) (v2 : Int32) : Mr Unit :=
  if v2.toInt < 0 ∨ 7 < v2.toInt then (
    bd (gR 5 16 (some h)) fun x1 =>
    bd (rc 5 (some h)) fun h' =>
    bd (X5_reads h' 0 19) fun x2 =>
    bd (sI 41 x1 (v1 + 1) x2) fun _ =>
    rt ())
  else
    if v2 = 0 then (
      bd (gR 5 16 (some h)) fun x3 =>
      bd (rc 5 (some h)) fun h' =>
      bd (X5_reads h' 0 3) fun x4 =>
      bd (sI 41 x3 (v1 + 1) x4) fun _ =>
      bd (gR 5 16 (some h)) fun x5 =>
      bd (rc 5 (some h)) fun h' =>
      bd (X5_reads h' 0 9) fun x6 =>
      bd (sI 41 x5 (v1 + 2) x6) fun _ =>
      bd (gR 5 16 (some h)) fun x7 =>
      bd (rc 5 (some h)) fun h' =>
      bd (X5_readsWord h') fun x8 =>
      bd (sI 41 x7 (v1 + 3) x8) fun _ =>
      bd (gR 5 16 (some h)) fun x9 =>
      bd (rc 5 (some h)) fun h' =>
      bd (X5_reads h' 0 9) fun x10 =>
      bd (sI 41 x9 (v1 + 4) x10) fun _ =>
      rt ())
    else
      if v2 = 1 then (
        bd (gR 5 16 (some h)) fun x11 =>
        bd (rc 5 (some h)) fun h' =>
        bd (X5_reads h' 0 19) fun x12 =>
        bd (sI 41 x11 (v1 + 1) x12) fun _ =>
        bd (gR 5 16 (some h)) fun x13 =>
        bd (rc 5 (some h)) fun h' =>
        bd (X5_reads h' 0 4) fun x14 =>
        bd (sI 41 x13 (v1 + 2) x14) fun _ =>
        bd (gR 5 16 (some h)) fun x15 =>
        bd (rc 5 (some h)) fun h' =>
        bd (X5_reads h' 0 4) fun x16 =>
        bd (sI 41 x15 (v1 + 3) x16) fun _ =>
        rt ())
      else
        if v2 = 2 then (
          bd (gR 5 16 (some h)) fun x17 =>
          bd (rc 5 (some h)) fun h' =>
          bd (X5_reads h' 0 19) fun x18 =>
          bd (sI 41 x17 (v1 + 1) x18) fun _ =>
          rt ())
        else
          if v2 = 3 then (
            bd (gR 5 16 (some h)) fun x19 =>
            bd (rc 5 (some h)) fun h' =>
            bd (X5_reads h' 0 19) fun x20 =>
            bd (sI 41 x19 (v1 + 1) x20) fun _ =>
            rt ())
          else
            if v2 = 4 then (
              bd (gR 5 16 (some h)) fun x21 =>
              bd (rc 5 (some h)) fun h' =>
              bd (X5_reads h' 0 19) fun x22 =>
              bd (sI 41 x21 (v1 + 1) x22) fun _ =>
              rt ())
            else
              if v2 = 5 then (
                bd (gR 5 16 (some h)) fun x23 =>
                bd (rc 5 (some h)) fun h' =>
                bd (X5_reads h' 0 9) fun x24 =>
                bd (sI 41 x23 (v1 + 1) x24) fun _ =>
                bd (gR 5 16 (some h)) fun x25 =>
                bd (rc 5 (some h)) fun h' =>
                bd (X5_reads h' 0 4) fun x26 =>
                bd (sI 41 x25 (v1 + 2) x26) fun _ =>
                bd (gR 5 16 (some h)) fun x27 =>
                bd (rc 5 (some h)) fun h' =>
                bd (X5_reads h' 0 9) fun x28 =>
                bd (sI 41 x27 (v1 + 3) x28) fun _ =>
                rt ())
              else
                if v2 = 6 then (
                  bd (gR 5 16 (some h)) fun x29 =>
                  bd (rc 5 (some h)) fun h' =>
                  bd (X5_reads h' 0 9) fun x30 =>
                  bd (sI 41 x29 (v1 + 1) x30) fun _ =>
                  bd (gR 5 16 (some h)) fun x31 =>
                  bd (rc 5 (some h)) fun h' =>
                  bd (X5_reads h' 0 9) fun x32 =>
                  bd (sI 41 x31 (v1 + 2) x32) fun _ =>
                  rt ())
                else
                  if v2 = 7 then (
                    bd (gR 5 16 (some h)) fun x33 =>
                    bd (rc 5 (some h)) fun h' =>
                    bd (X5_reads h' 0 9) fun x34 =>
                    bd (sI 41 x33 (v1 + 1) x34) fun _ =>
                    rt ())
                  else
                    no
def X5_commandHere_93 (w0 : Int32) : Mr Int32 :=
  rt w0
def X5_commandHere (h : Nat) : Mr Int32 :=
  bd (gC 117) fun x1 =>
  bd (rc 5 (some h)) fun h' =>
  bd (X5_isWord h' (some x1)) fun x2 =>
  if x2 = 0 then (
    bd (gC 118) fun x3 =>
    bd (rc 5 (some h)) fun h' =>
    bd (X5_isWord h' (some x3)) fun x4 =>
    if x4 = 0 then (
      bd (gC 119) fun x5 =>
      bd (rc 5 (some h)) fun h' =>
      bd (X5_isWord h' (some x5)) fun x6 =>
      if x6 = 0 then (
        bd (gC 120) fun x7 =>
        bd (rc 5 (some h)) fun h' =>
        bd (X5_isWord h' (some x7)) fun x8 =>
        if x8 = 0 then (
          bd (gC 121) fun x9 =>
          bd (rc 5 (some h)) fun h' =>
          bd (X5_isWord h' (some x9)) fun x10 =>
          if x10 = 0 then (
            bd (gC 122) fun x11 =>
            bd (rc 5 (some h)) fun h' =>
            bd (X5_isWord h' (some x11)) fun x12 =>
            if x12 = 0 then (
              bd (gC 123) fun x13 =>
              bd (rc 5 (some h)) fun h' =>
              bd (X5_isWord h' (some x13)) fun x14 =>
              if x14 = 0 then (
                bd (gC 124) fun x15 =>
                bd (rc 5 (some h)) fun h' =>
                bd (X5_isWord h' (some x15)) fun x16 =>
                if x16 = 0 then (
                  X5_commandHere_93 (-1))
                else
                  X5_commandHere_93 7)
              else
                rt 6)
            else
              rt 5)
          else
            rt 4)
        else
          rt 3)
      else
        rt 2)
    else
      rt 1)
  else
    rt 0
def X5_readsCommand_45 : Mr Unit :=
  rt ()
def X5_readsCommand_38 (h : Nat) (v1 : Int32) (w0 : Option Nat) (w1 : Int32) : Mr Unit :=
  bd (rc 5 w0) fun h' =>
  bd (X5_must h' w1 4) fun x1 =>
  if ¬ x1 = 0 then (
    bd (rc 5 (some h)) fun h' =>
    bd (X5_goesOn h') fun _ =>
    bd (gR 5 16 (some h)) fun x3 =>
    bd (gI 5 17 (some h)) fun x4 =>
    bd (sI 41 x3 (5 * x4) v1) fun _ =>
    bd (gI 5 17 (some h)) fun x5 =>
    bd (rc 5 (some h)) fun h' =>
    bd (X5_readsNumbers h' (5 * x5) v1) fun _ =>
    bd (rc 5 (some h)) fun h' =>
    bd (X5_endsLine h') fun _ =>
    bd (gI 5 17 (some h)) fun x8 =>
    bd (pI 0 5 17 (some h) (x8 + 1)) fun _ =>
    rt ())
  else
    X5_readsCommand_45
def X5_readsCommand_16 (h : Nat) (v1 : Int32) (w0 : Option Nat) (w1 : Int32) : Mr Unit :=
  bd (rc 5 w0) fun h' =>
  bd (X5_must h' w1 1) fun x1 =>
  if x1 = 0 then (
    X5_readsCommand_45)
  else
    bd (gI 5 17 (some h)) fun x2 =>
    if 25 ≤ x2 then (
      X5_readsCommand_38 h v1 (some h) 0)
    else
      X5_readsCommand_38 h v1 (some h) 1
def X5_readsCommand (h : Nat) : Mr Unit :=
  bd (rc 5 (some h)) fun h' =>
  bd (X5_commandHere h') fun x1 =>
  if x1 = (-1) then (
    X5_readsCommand_16 h x1 (some h) 0)
  else
    X5_readsCommand_16 h x1 (some h) 1
def X5_play_103 (h : Nat) (v1 : Int32) : Mr Int32 :=
  bd (pI 0 5 5 (some h) 0) fun _ =>
  rt v1
def X5_play_89 (k55 : Nat → Int32 → Int32 → Int32 → Mr Int32) (h : Nat) (v1 : Int32) (v3 : Int32) (w0 : Int32) : Mr Int32 :=
  bd (X5_one w0) fun x1 =>
  k55 h (v1 + x1) w0 (v3 + 1)
def X5_play_88 (k55 : Nat → Int32 → Int32 → Int32 → Mr Int32) (h : Nat) (v1 : Int32) (v3 : Int32) : Mr Int32 :=
  X5_play_89 k55 h v1 v3 0
def X5_play_55 : Nat → Nat → Int32 → Int32 → Int32 → Mr Int32
  | 0, _, _, _, _ => no
  | n + 1, h, v1, v2, v3 =>
    bd (gI 5 17 (some h)) fun x1 =>
    if x1 ≤ v3 then (
      X5_play_103 h v1)
    else
      if v2 = 0 then (
        X5_play_103 h v1)
      else
        bd (rc 5 (some h)) fun h' =>
        bd (X5_acts h' (5 * v3)) fun x2 =>
        if x2 < 0 then (
          X5_play_88 (X5_play_55 n) h v1 v3)
        else
          bd (gI 5 5 (some h)) fun x3 =>
          if ¬ x3 = 0 then (
            X5_play_88 (X5_play_55 n) h v1 v3)
          else
            X5_play_89 (X5_play_55 n) h v1 v3 1
def X5_play_35 (h : Nat) : Mr Int32 :=
  bd (pI 0 5 9 (some h) 0) fun _ =>
  bd (gI 5 10 (some h)) fun x1 =>
  if x1 = 0 then (
    X5_play_55 FU h 0 1 0)
  else
    rt (-1)
def X5_play_14 : Nat → Nat → Mr Int32
  | 0, _ => no
  | n + 1, h =>
    bd (gI 5 10 (some h)) fun x1 =>
    if ¬ x1 = 0 then (
      X5_play_35 h)
    else
      bd (gI 5 14 (some h)) fun x2 =>
      if x2 = 0 then (
        X5_play_35 h)
      else
        bd (rc 5 (some h)) fun h' =>
        bd (X5_readsCommand h') fun _ =>
        X5_play_14 n h
def X5_play (h : Nat) : Mr Int32 :=
  bd (pI 0 5 5 (some h) 0) fun _ =>
  bd (rc 5 (some h)) fun h' =>
  bd (X5_starts h') fun _ =>
  bd (pI 0 5 17 (some h) 0) fun _ =>
  X5_play_14 FU h
def X5_errorCode (h : Nat) : Mr Int32 :=
  bd (pI 0 5 5 (some h) 0) fun _ =>
  bd (gI 5 10 (some h)) fun x1 =>
  rt x1
def X5_errorPosition (h : Nat) : Mr Int32 :=
  bd (pI 0 5 5 (some h) 0) fun _ =>
  bd (gI 5 11 (some h)) fun x1 =>
  rt x1
def X5_factsWith_29 (k4 : Nat → Int32 → Int32 → Int32 → Mr Int32) (h : Nat) (v1 : Int32) (v3 : Int32) (w0 : Int32) (w1 : Int32) : Mr Int32 :=
  bd (X5_one w1) fun x1 =>
  k4 h v1 (w0 + x1) (v3 + 1)
def X5_factsWith_4 : Nat → Nat → Int32 → Int32 → Int32 → Mr Int32
  | 0, _, _, _, _ => no
  | n + 1, h, v1, v2, v3 =>
    bd (rc 5 (some h)) fun h' =>
    bd (X5_get h' 1) fun x1 =>
    if x1 ≤ v3 then (
      rt v2)
    else
      bd (rc 5 (some h)) fun h' =>
      bd (X5_factOf h' v1 v3) fun x2 =>
      if x2 = (-1) then (
        X5_factsWith_29 (X5_factsWith_4 n) h v1 v3 v2 0)
      else
        X5_factsWith_29 (X5_factsWith_4 n) h v1 v3 v2 1
def X5_factsWith (h : Nat) (v1 : Int32) : Mr Int32 :=
  X5_factsWith_4 FU h v1 0 0
def X5_allFacts_4 : Nat → Nat → Int32 → Int32 → Mr Int32
  | 0, _, _, _ => no
  | n + 1, h, v1, v2 =>
    bd (rc 5 (some h)) fun h' =>
    bd (X5_get h' 1) fun x1 =>
    if x1 ≤ v2 then (
      bd (dv v1 2) fun x2 =>
      rt x2)
    else
      bd (rc 5 (some h)) fun h' =>
      bd (X5_factsWith h' v2) fun x3 =>
      X5_allFacts_4 n h (v1 + x3) (v2 + 1)
def X5_allFacts (h : Nat) : Mr Int32 :=
  X5_allFacts_4 FU h 0 0
def X5_allStones_4 : Nat → Nat → Int32 → Int32 → Mr Int32
  | 0, _, _, _ => no
  | n + 1, h, v1, v2 =>
    bd (rc 5 (some h)) fun h' =>
    bd (X5_get h' 1) fun x1 =>
    if x1 ≤ v2 then (
      rt v1)
    else
      bd (rc 5 (some h)) fun h' =>
      bd (X5_sizeOf h' v2) fun x2 =>
      X5_allStones_4 n h (v1 + x2) (v2 + 1)
def X5_allStones (h : Nat) : Mr Int32 :=
  X5_allStones_4 FU h 0 0
def X5_count (h : Nat) (v1 : Int32) : Mr Int32 :=
  bd (pI 0 5 5 (some h) 0) fun _ =>
  bd (X5_in v1 0 9) fun x1 =>
  bd (rc 5 (some h)) fun h' =>
  bd (X5_holds h' x1 1) fun x2 =>
  if ¬ x2 = 0 then (
    if v1.toInt < 0 ∨ 8 < v1.toInt then (
      bd (gI 5 4 (some h)) fun x3 =>
      rt x3)
    else
      if v1 = 0 then (
        bd (rc 5 (some h)) fun h' =>
        bd (X5_get h' 0) fun x4 =>
        rt x4)
      else
        if v1 = 1 then (
          bd (rc 5 (some h)) fun h' =>
          bd (X5_get h' 1) fun x5 =>
          rt x5)
        else
          if v1 = 2 then (
            bd (rc 5 (some h)) fun h' =>
            bd (X5_get h' 3) fun x6 =>
            rt x6)
          else
            if v1 = 3 then (
              bd (rc 5 (some h)) fun h' =>
              bd (X5_claimsThat h' (v1 - 3)) fun x7 =>
              rt x7)
            else
              if v1 = 4 then (
                bd (rc 5 (some h)) fun h' =>
                bd (X5_claimsThat h' (v1 - 3)) fun x8 =>
                rt x8)
              else
                if v1 = 5 then (
                  bd (rc 5 (some h)) fun h' =>
                  bd (X5_claimsThat h' (v1 - 3)) fun x9 =>
                  rt x9)
                else
                  if v1 = 6 then (
                    bd (rc 5 (some h)) fun h' =>
                    bd (X5_allFacts h') fun x10 =>
                    rt x10)
                  else
                    if v1 = 7 then (
                      bd (rc 5 (some h)) fun h' =>
                      bd (X5_get h' 2) fun x11 =>
                      rt x11)
                    else
                      if v1 = 8 then (
                        bd (rc 5 (some h)) fun h' =>
                        bd (X5_allStones h') fun x12 =>
                        rt x12)
                      else
                        no)
  else
    rt 0
def X5_tally_31 (w0 : Int32) : Mr Int32 :=
  rt w0
def X5_tally (h : Nat) (v1 : Int32) : Mr Int32 :=
  bd (pI 0 5 5 (some h) 0) fun _ =>
  bd (X5_in v1 0 6) fun x1 =>
  bd (rc 5 (some h)) fun h' =>
  bd (X5_holds h' x1 1) fun x2 =>
  if x2 = 0 then (
    X5_tally_31 0)
  else
    bd (rc 5 (some h)) fun h' =>
    bd (X5_get h' (4 + v1)) fun x3 =>
    X5_tally_31 x3
def X5_claimsOf_48 (k5 : Nat → Int32 → Int32 → Int32 → Int32 → Mr Int32) (h : Nat) (v1 : Int32) (v2 : Int32) (v4 : Int32) (w0 : Int32) (w1 : Int32) : Mr Int32 :=
  bd (X5_one w1) fun x1 =>
  k5 h v1 v2 (w0 + x1) (v4 + 1)
def X5_claimsOf_47 (k5 : Nat → Int32 → Int32 → Int32 → Int32 → Mr Int32) (h : Nat) (v1 : Int32) (v2 : Int32) (v4 : Int32) (w0 : Int32) : Mr Int32 :=
  X5_claimsOf_48 k5 h v1 v2 v4 w0 0
def X5_claimsOf_43 (k5 : Nat → Int32 → Int32 → Int32 → Int32 → Mr Int32) (h : Nat) (v1 : Int32) (v2 : Int32) (v4 : Int32) (w0 : Int32) : Mr Int32 :=
  X5_claimsOf_48 k5 h v1 v2 v4 w0 1
def X5_claimsOf_5 : Nat → Nat → Int32 → Int32 → Int32 → Int32 → Mr Int32
  | 0, _, _, _, _, _ => no
  | n + 1, h, v1, v2, v3, v4 =>
    bd (rc 5 (some h)) fun h' =>
    bd (X5_get h' 3) fun x1 =>
    if x1 ≤ v4 then (
      rt v3)
    else
      bd (rc 5 (some h)) fun h' =>
      bd (X5_cl h' v4 0) fun x2 =>
      if ¬ x2 = v1 then (
        X5_claimsOf_47 (X5_claimsOf_5 n) h v1 v2 v4 v3)
      else
        if v2 = (-1) then (
          X5_claimsOf_43 (X5_claimsOf_5 n) h v1 v2 v4 v3)
        else
          bd (rc 5 (some h)) fun h' =>
          bd (X5_cl h' v4 4) fun x3 =>
          if ¬ x3 = v2 then (
            X5_claimsOf_47 (X5_claimsOf_5 n) h v1 v2 v4 v3)
          else
            X5_claimsOf_43 (X5_claimsOf_5 n) h v1 v2 v4 v3
def X5_claimsOf (h : Nat) (v1 : Int32) (v2 : Int32) : Mr Int32 :=
  X5_claimsOf_5 FU h v1 v2 0 0
def X5_ownedBy_45 (k5 : Nat → Int32 → Int32 → Int32 → Int32 → Mr Int32) (h : Nat) (v1 : Int32) (v2 : Int32) (v4 : Int32) (w0 : Int32) (w1 : Int32) : Mr Int32 :=
  k5 h v1 v2 (w0 + w1) (v4 + 1)
def X5_ownedBy_5 : Nat → Nat → Int32 → Int32 → Int32 → Int32 → Mr Int32
  | 0, _, _, _, _, _ => no
  | n + 1, h, v1, v2, v3, v4 =>
    bd (rc 5 (some h)) fun h' =>
    bd (X5_get h' 1) fun x1 =>
    if x1 ≤ v4 then (
      rt v3)
    else
      bd (rc 5 (some h)) fun h' =>
      bd (X5_hp h' v4 0) fun x2 =>
      if x2 = v1 then (
        if v2 = 0 then (
          X5_ownedBy_45 (X5_ownedBy_5 n) h v1 v2 v4 v3 1)
        else
          bd (rc 5 (some h)) fun h' =>
          bd (X5_sizeOf h' v4) fun x3 =>
          X5_ownedBy_45 (X5_ownedBy_5 n) h v1 v2 v4 v3 x3)
      else
        X5_ownedBy_45 (X5_ownedBy_5 n) h v1 v2 v4 v3 0
def X5_ownedBy (h : Nat) (v1 : Int32) (v2 : Int32) : Mr Int32 :=
  X5_ownedBy_5 FU h v1 v2 0 0
def X5_trader_32 : Mr Int32 :=
  rt 0
def X5_trader (h : Nat) (v1 : Int32) (v2 : Int32) : Mr Int32 :=
  bd (pI 0 5 5 (some h) 0) fun _ =>
  bd (rc 5 (some h)) fun h' =>
  bd (X5_isTrader h' v1) fun x1 =>
  bd (rc 5 (some h)) fun h' =>
  bd (X5_holds h' x1 1) fun x2 =>
  if x2 = 0 then (
    X5_trader_32)
  else
    bd (X5_in v2 0 5) fun x3 =>
    bd (rc 5 (some h)) fun h' =>
    bd (X5_holds h' x3 2) fun x4 =>
    if ¬ x4 = 0 then (
      if v2.toInt < 0 ∨ 3 < v2.toInt then (
        bd (rc 5 (some h)) fun h' =>
        bd (X5_claimsOf h' v1 (v2 - 3)) fun x5 =>
        rt x5)
      else
        if v2 = 0 then (
          bd (rc 5 (some h)) fun h' =>
          bd (X5_get h' (11 + v1)) fun x6 =>
          rt x6)
        else
          if v2 = 1 then (
            bd (rc 5 (some h)) fun h' =>
            bd (X5_ownedBy h' v1 0) fun x7 =>
            rt x7)
          else
            if v2 = 2 then (
              bd (rc 5 (some h)) fun h' =>
              bd (X5_ownedBy h' v1 1) fun x8 =>
              rt x8)
            else
              if v2 = 3 then (
                bd (rc 5 (some h)) fun h' =>
                bd (X5_claimsOf h' v1 (-1)) fun x9 =>
                rt x9)
              else
                no)
    else
      X5_trader_32
def X5_greatestRow_4 : Nat → Nat → Int32 → Int32 → Int32 → Mr Int32
  | 0, _, _, _, _ => no
  | n + 1, h, v1, v2, v3 =>
    bd (rc 5 (some h)) fun h' =>
    bd (X5_hp h' v1 1) fun x1 =>
    if x1 ≤ v3 then (
      rt v2)
    else
      bd (rc 5 (some h)) fun h' =>
      bd (X5_stones h' v1 v3) fun x2 =>
      bd (J12_max v2 x2) fun x3 =>
      X5_greatestRow_4 n h v1 x3 (v3 + 1)
def X5_greatestRow (h : Nat) (v1 : Int32) : Mr Int32 :=
  X5_greatestRow_4 FU h v1 0 0
def X5_openWith_47 (k4 : Nat → Int32 → Int32 → Int32 → Mr Int32) (h : Nat) (v1 : Int32) (v3 : Int32) (w0 : Int32) (w1 : Int32) : Mr Int32 :=
  bd (X5_one w1) fun x1 =>
  k4 h v1 (w0 + x1) (v3 + 1)
def X5_openWith_46 (k4 : Nat → Int32 → Int32 → Int32 → Mr Int32) (h : Nat) (v1 : Int32) (v3 : Int32) (w0 : Int32) : Mr Int32 :=
  X5_openWith_47 k4 h v1 v3 w0 0
def X5_openWith_42 (k4 : Nat → Int32 → Int32 → Int32 → Mr Int32) (h : Nat) (v1 : Int32) (v3 : Int32) (w0 : Int32) : Mr Int32 :=
  X5_openWith_47 k4 h v1 v3 w0 1
def X5_openWith_4 : Nat → Nat → Int32 → Int32 → Int32 → Mr Int32
  | 0, _, _, _, _ => no
  | n + 1, h, v1, v2, v3 =>
    bd (rc 5 (some h)) fun h' =>
    bd (X5_get h' 3) fun x1 =>
    if x1 ≤ v3 then (
      rt v2)
    else
      bd (rc 5 (some h)) fun h' =>
      bd (X5_isOpen h' v3) fun x2 =>
      if x2 = 0 then (
        X5_openWith_46 (X5_openWith_4 n) h v1 v3 v2)
      else
        bd (rc 5 (some h)) fun h' =>
        bd (X5_sideOf h' v3 0) fun x3 =>
        if x3 = v1 then (
          X5_openWith_42 (X5_openWith_4 n) h v1 v3 v2)
        else
          bd (rc 5 (some h)) fun h' =>
          bd (X5_sideOf h' v3 1) fun x4 =>
          if ¬ x4 = v1 then (
            X5_openWith_46 (X5_openWith_4 n) h v1 v3 v2)
          else
            X5_openWith_42 (X5_openWith_4 n) h v1 v3 v2
def X5_openWith (h : Nat) (v1 : Int32) : Mr Int32 :=
  X5_openWith_4 FU h v1 0 0
def X5_knownTo_34 (k4 : Nat → Int32 → Int32 → Int32 → Mr Int32) (h : Nat) (v1 : Int32) (v3 : Int32) (w0 : Int32) (w1 : Int32) : Mr Int32 :=
  bd (X5_one w1) fun x1 =>
  k4 h v1 (w0 + x1) (v3 + 1)
def X5_knownTo_33 (k4 : Nat → Int32 → Int32 → Int32 → Mr Int32) (h : Nat) (v1 : Int32) (v3 : Int32) (w0 : Int32) : Mr Int32 :=
  X5_knownTo_34 k4 h v1 v3 w0 0
def X5_knownTo_4 : Nat → Nat → Int32 → Int32 → Int32 → Mr Int32
  | 0, _, _, _, _ => no
  | n + 1, h, v1, v2, v3 =>
    bd (rc 5 (some h)) fun h' =>
    bd (X5_get h' 1) fun x1 =>
    if x1 ≤ v3 then (
      rt v2)
    else
      if v3 = v1 then (
        X5_knownTo_33 (X5_knownTo_4 n) h v1 v3 v2)
      else
        bd (rc 5 (some h)) fun h' =>
        bd (X5_knownOf h' v1 v3) fun x2 =>
        if x2 = (-1) then (
          X5_knownTo_33 (X5_knownTo_4 n) h v1 v3 v2)
        else
          X5_knownTo_34 (X5_knownTo_4 n) h v1 v3 v2 1
def X5_knownTo (h : Nat) (v1 : Int32) : Mr Int32 :=
  X5_knownTo_4 FU h v1 0 0
def X5_heap_33 : Mr Int32 :=
  rt 0
def X5_heap (h : Nat) (v1 : Int32) (v2 : Int32) : Mr Int32 :=
  bd (pI 0 5 5 (some h) 0) fun _ =>
  bd (rc 5 (some h)) fun h' =>
  bd (X5_isHeap h' v1) fun x1 =>
  bd (rc 5 (some h)) fun h' =>
  bd (X5_holds h' x1 1) fun x2 =>
  if x2 = 0 then (
    X5_heap_33)
  else
    bd (X5_in v2 0 7) fun x3 =>
    bd (rc 5 (some h)) fun h' =>
    bd (X5_holds h' x3 2) fun x4 =>
    if ¬ x4 = 0 then (
      if v2.toInt < 0 ∨ 6 < v2.toInt then (
        bd (rc 5 (some h)) fun h' =>
        bd (X5_greatestRow h' v1) fun x5 =>
        rt x5)
      else
        if v2 = 0 then (
          bd (rc 5 (some h)) fun h' =>
          bd (X5_hp h' v1 0) fun x6 =>
          rt x6)
        else
          if v2 = 1 then (
            bd (rc 5 (some h)) fun h' =>
            bd (X5_hp h' v1 1) fun x7 =>
            rt x7)
          else
            if v2 = 2 then (
              bd (rc 5 (some h)) fun h' =>
              bd (X5_sizeOf h' v1) fun x8 =>
              rt x8)
            else
              if v2 = 3 then (
                bd (rc 5 (some h)) fun h' =>
                bd (X5_lookOf h' v1) fun x9 =>
                rt x9)
              else
                if v2 = 4 then (
                  bd (rc 5 (some h)) fun h' =>
                  bd (X5_factsWith h' v1) fun x10 =>
                  rt x10)
                else
                  if v2 = 5 then (
                    bd (rc 5 (some h)) fun h' =>
                    bd (X5_openWith h' v1) fun x11 =>
                    rt x11)
                  else
                    if v2 = 6 then (
                      bd (rc 5 (some h)) fun h' =>
                      bd (X5_knownTo h' v1) fun x12 =>
                      rt x12)
                    else
                      no)
    else
      X5_heap_33
def X5_row_33 : Mr Int32 :=
  rt 0
def X5_row_62 (w0 : Int32) : Mr Int32 :=
  rt w0
def X5_row (h : Nat) (v1 : Int32) (v2 : Int32) (v3 : Int32) : Mr Int32 :=
  bd (pI 0 5 5 (some h) 0) fun _ =>
  bd (rc 5 (some h)) fun h' =>
  bd (X5_isRow h' v1 v2) fun x1 =>
  bd (rc 5 (some h)) fun h' =>
  bd (X5_holds h' x1 1) fun x2 =>
  if x2 = 0 then (
    X5_row_33)
  else
    bd (X5_in v3 0 1) fun x3 =>
    bd (rc 5 (some h)) fun h' =>
    bd (X5_holds h' x3 2) fun x4 =>
    if ¬ x4 = 0 then (
      if ¬ v3 = 0 then (
        bd (rc 5 (some h)) fun h' =>
        bd (X5_stones h' v1 v2) fun x5 =>
        bd (rc 5 (some h)) fun h' =>
        bd (X5_get h' 2) fun x6 =>
        bd (X5_sightOf x5 x6) fun x7 =>
        X5_row_62 x7)
      else
        bd (rc 5 (some h)) fun h' =>
        bd (X5_stones h' v1 v2) fun x8 =>
        X5_row_62 x8)
    else
      X5_row_33
def X5_claim_33 : Mr Int32 :=
  rt 0
def X5_claim_83 (w0 : Int32) : Mr Int32 :=
  rt w0
def X5_claim_116 (w0 : Int32) : Mr Int32 :=
  rt w0
def X5_claim (h : Nat) (v1 : Int32) (v2 : Int32) : Mr Int32 :=
  bd (pI 0 5 5 (some h) 0) fun _ =>
  bd (rc 5 (some h)) fun h' =>
  bd (X5_isClaim h' v1) fun x1 =>
  bd (rc 5 (some h)) fun h' =>
  bd (X5_holds h' x1 1) fun x2 =>
  if x2 = 0 then (
    X5_claim_33)
  else
    bd (X5_in v2 0 9) fun x3 =>
    bd (rc 5 (some h)) fun h' =>
    bd (X5_holds h' x3 2) fun x4 =>
    if ¬ x4 = 0 then (
      if 6 ≤ v2 then (
        if 8 ≤ v2 then (
          bd (rc 5 (some h)) fun h' =>
          bd (X5_isOpen h' v1) fun x5 =>
          if ¬ x5 = 0 then (
            if ¬ v2 = 8 then (
              bd (rc 5 (some h)) fun h' =>
              bd (X5_isEnded h' v1) fun x6 =>
              bd (X5_one x6) fun x7 =>
              X5_claim_116 x7)
            else
              bd (rc 5 (some h)) fun h' =>
              bd (X5_leftOf h' v1 0) fun x8 =>
              bd (rc 5 (some h)) fun h' =>
              bd (X5_leftOf h' v1 1) fun x9 =>
              bd (X5_word x8 x9) fun x10 =>
              X5_claim_116 x10)
          else
            if ¬ v2 = 8 then (
              X5_claim_83 0)
            else
              X5_claim_83 (-1))
        else
          bd (rc 5 (some h)) fun h' =>
          bd (X5_leftOf h' v1 (v2 - 6)) fun x11 =>
          rt x11)
      else
        bd (rc 5 (some h)) fun h' =>
        bd (X5_cl h' v1 v2) fun x12 =>
        rt x12)
    else
      X5_claim_33
def X5_paired_63 : Mr Int32 :=
  rt 0
def X5_paired_46 (h : Nat) (v1 : Int32) (v2 : Int32) (v3 : Int32) (v4 : Int32) (w0 : Option Nat) (w1 : Int32) : Mr Int32 :=
  bd (rc 5 w0) fun h' =>
  bd (X5_holds h' w1 1) fun x1 =>
  if x1 = 0 then (
    X5_paired_63)
  else
    bd (rc 5 (some h)) fun h' =>
    bd (X5_holds h' v4 2) fun x2 =>
    if ¬ x2 = 0 then (
      bd (rc 5 (some h)) fun h' =>
      bd (X5_pairedOf h' v1 v2 v3) fun x3 =>
      rt x3)
    else
      X5_paired_63
def X5_paired_45 (h : Nat) (v1 : Int32) (v2 : Int32) (v3 : Int32) (v4 : Int32) (w0 : Option Nat) : Mr Int32 :=
  X5_paired_46 h v1 v2 v3 v4 w0 0
def X5_paired_41 (h : Nat) (v1 : Int32) (v2 : Int32) (v3 : Int32) (v4 : Int32) (w0 : Option Nat) : Mr Int32 :=
  X5_paired_46 h v1 v2 v3 v4 w0 1
def X5_paired (h : Nat) (v1 : Int32) (v2 : Int32) (v3 : Int32) : Mr Int32 :=
  bd (pI 0 5 5 (some h) 0) fun _ =>
  bd (X5_in v2 0 1) fun x1 =>
  bd (rc 5 (some h)) fun h' =>
  bd (X5_isClaim h' v1) fun x2 =>
  if x2 = 0 then (
    X5_paired_45 h v1 v2 v3 x1 (some h))
  else
    if x1 = 0 then (
      X5_paired_41 h v1 v2 v3 x1 (some h))
    else
      bd (rc 5 (some h)) fun h' =>
      bd (X5_sideOf h' v1 v2) fun x3 =>
      bd (rc 5 (some h)) fun h' =>
      bd (X5_isRow h' x3 v3) fun x4 =>
      if x4 = 0 then (
        X5_paired_45 h v1 v2 v3 x1 (some h))
      else
        X5_paired_41 h v1 v2 v3 x1 (some h)
def X5_ranked_71 (k7 : Nat → Int32 → Int32 → Mr Int32) (k21 : Nat → Int32 → Int32 → Int32 → Int32 → Mr Int32) (h : Nat) (v1 : Int32) (v2 : Int32) (v4 : Int32) (w0 : Int32) (w1 : Int32) : Mr Int32 :=
  bd (X5_one w1) fun x1 =>
  k21 h v1 v2 (w0 + x1) (v4 + 1)
def X5_ranked_66 (k7 : Nat → Int32 → Int32 → Mr Int32) (k21 : Nat → Int32 → Int32 → Int32 → Int32 → Mr Int32) (h : Nat) (v1 : Int32) (v2 : Int32) (v4 : Int32) (w0 : Int32) : Mr Int32 :=
  X5_ranked_71 k7 k21 h v1 v2 v4 w0 1
def X5_ranked_70 (k7 : Nat → Int32 → Int32 → Mr Int32) (k21 : Nat → Int32 → Int32 → Int32 → Int32 → Mr Int32) (h : Nat) (v1 : Int32) (v2 : Int32) (v4 : Int32) (w0 : Int32) : Mr Int32 :=
  X5_ranked_71 k7 k21 h v1 v2 v4 w0 0
def X5_ranked_21 (k7 : Nat → Int32 → Int32 → Mr Int32) : Nat → Nat → Int32 → Int32 → Int32 → Int32 → Mr Int32
  | 0, _, _, _, _, _ => no
  | n + 1, h, v1, v2, v3, v4 =>
    bd (rc 5 (some h)) fun h' =>
    bd (X5_get h' 1) fun x1 =>
    if x1 ≤ v4 then (
      if ¬ v3 = v1 then (
        k7 h v1 (v2 + 1))
      else
        rt v2)
    else
      bd (rc 5 (some h)) fun h' =>
      bd (X5_sizeOf h' v4) fun x2 =>
      bd (rc 5 (some h)) fun h' =>
      bd (X5_sizeOf h' v2) fun x3 =>
      if x3 < x2 then (
        X5_ranked_66 k7 (X5_ranked_21 k7 n) h v1 v2 v4 v3)
      else
        bd (rc 5 (some h)) fun h' =>
        bd (X5_sizeOf h' v4) fun x4 =>
        bd (rc 5 (some h)) fun h' =>
        bd (X5_sizeOf h' v2) fun x5 =>
        if ¬ x4 = x5 then (
          X5_ranked_70 k7 (X5_ranked_21 k7 n) h v1 v2 v4 v3)
        else
          if v2 ≤ v4 then (
            X5_ranked_70 k7 (X5_ranked_21 k7 n) h v1 v2 v4 v3)
          else
            X5_ranked_66 k7 (X5_ranked_21 k7 n) h v1 v2 v4 v3
def X5_ranked_7 : Nat → Nat → Int32 → Int32 → Mr Int32
  | 0, _, _, _ => no
  | n + 1, h, v1, v2 =>
    bd (rc 5 (some h)) fun h' =>
    bd (X5_get h' 1) fun x1 =>
    if x1 ≤ v2 then (
      rt (-1))
    else
      X5_ranked_21 (X5_ranked_7 n) FU h v1 v2 0 0
def X5_ranked (h : Nat) (v1 : Int32) : Mr Int32 :=
  bd (pI 0 5 5 (some h) 0) fun _ =>
  X5_ranked_7 FU h v1 0
def X5_byEye_44 (w0 : Int32) : Mr Int32 :=
  rt w0
def X5_byEye_27 (h : Nat) (v1 : Int32) (v2 : Int32) (w0 : Option Nat) (w1 : Int32) : Mr Int32 :=
  bd (rc 5 w0) fun h' =>
  bd (X5_holds h' w1 1) fun x1 =>
  if x1 = 0 then (
    X5_byEye_44 0)
  else
    bd (rc 5 (some h)) fun h' =>
    bd (X5_wordByEye h' v1 v2) fun x2 =>
    X5_byEye_44 x2
def X5_byEye_26 (h : Nat) (v1 : Int32) (v2 : Int32) (w0 : Option Nat) : Mr Int32 :=
  X5_byEye_27 h v1 v2 w0 0
def X5_byEye (h : Nat) (v1 : Int32) (v2 : Int32) : Mr Int32 :=
  bd (pI 0 5 5 (some h) 0) fun _ =>
  bd (rc 5 (some h)) fun h' =>
  bd (X5_isHeap h' v1) fun x1 =>
  if x1 = 0 then (
    X5_byEye_26 h v1 v2 (some h))
  else
    bd (rc 5 (some h)) fun h' =>
    bd (X5_isHeap h' v2) fun x2 =>
    if x2 = 0 then (
      X5_byEye_26 h v1 v2 (some h))
    else
      X5_byEye_27 h v1 v2 (some h) 1
def X5_wordBySize (h : Nat) (v1 : Int32) (v2 : Int32) : Mr Int32 :=
  bd (rc 5 (some h)) fun h' =>
  bd (X5_sizeOf h' v1) fun x1 =>
  bd (rc 5 (some h)) fun h' =>
  bd (X5_sizeOf h' v2) fun x2 =>
  bd (X5_word x1 x2) fun x3 =>
  rt x3
def X5_allErrors_41 (k4 : Nat → Int32 → Int32 → Mr Int32) (k15 : Nat → Int32 → Int32 → Int32 → Mr Int32) (h : Nat) (v2 : Int32) (v3 : Int32) (w0 : Int32) (w1 : Int32) : Mr Int32 :=
  bd (X5_one w1) fun x1 =>
  k15 h (w0 + x1) v2 (v3 + 1)
def X5_allErrors_15 (k4 : Nat → Int32 → Int32 → Mr Int32) : Nat → Nat → Int32 → Int32 → Int32 → Mr Int32
  | 0, _, _, _, _ => no
  | n + 1, h, v1, v2, v3 =>
    if v2 ≤ v3 then (
      k4 h v1 (v2 + 1))
    else
      bd (rc 5 (some h)) fun h' =>
      bd (X5_wordBySize h' v2 v3) fun x1 =>
      bd (rc 5 (some h)) fun h' =>
      bd (X5_wordByEye h' v2 v3) fun x2 =>
      if x1 = x2 then (
        X5_allErrors_41 k4 (X5_allErrors_15 k4 n) h v2 v3 v1 0)
      else
        X5_allErrors_41 k4 (X5_allErrors_15 k4 n) h v2 v3 v1 1
def X5_allErrors_4 : Nat → Nat → Int32 → Int32 → Mr Int32
  | 0, _, _, _ => no
  | n + 1, h, v1, v2 =>
    bd (rc 5 (some h)) fun h' =>
    bd (X5_get h' 1) fun x1 =>
    if x1 ≤ v2 then (
      rt v1)
    else
      X5_allErrors_15 (X5_allErrors_4 n) FU h v1 v2 0
def X5_allErrors (h : Nat) : Mr Int32 :=
  X5_allErrors_4 FU h 0 0
def X5_errors (h : Nat) : Mr Int32 :=
  bd (pI 0 5 5 (some h) 0) fun _ =>
  bd (rc 5 (some h)) fun h' =>
  bd (X5_allErrors h') fun x1 =>
  rt x1
def X5_fact_44 (w0 : Int32) : Mr Int32 :=
  rt w0
def X5_fact_27 (h : Nat) (v1 : Int32) (v2 : Int32) (w0 : Option Nat) (w1 : Int32) : Mr Int32 :=
  bd (rc 5 w0) fun h' =>
  bd (X5_holds h' w1 1) fun x1 =>
  if x1 = 0 then (
    X5_fact_44 0)
  else
    bd (rc 5 (some h)) fun h' =>
    bd (X5_factOf h' v1 v2) fun x2 =>
    X5_fact_44 x2
def X5_fact_26 (h : Nat) (v1 : Int32) (v2 : Int32) (w0 : Option Nat) : Mr Int32 :=
  X5_fact_27 h v1 v2 w0 0
def X5_fact (h : Nat) (v1 : Int32) (v2 : Int32) : Mr Int32 :=
  bd (pI 0 5 5 (some h) 0) fun _ =>
  bd (rc 5 (some h)) fun h' =>
  bd (X5_isHeap h' v1) fun x1 =>
  if x1 = 0 then (
    X5_fact_26 h v1 v2 (some h))
  else
    bd (rc 5 (some h)) fun h' =>
    bd (X5_isHeap h' v2) fun x2 =>
    if x2 = 0 then (
      X5_fact_26 h v1 v2 (some h))
    else
      X5_fact_27 h v1 v2 (some h) 1
def X5_known_44 (w0 : Int32) : Mr Int32 :=
  rt w0
def X5_known_27 (h : Nat) (v1 : Int32) (v2 : Int32) (w0 : Option Nat) (w1 : Int32) : Mr Int32 :=
  bd (rc 5 w0) fun h' =>
  bd (X5_holds h' w1 1) fun x1 =>
  if x1 = 0 then (
    X5_known_44 0)
  else
    bd (rc 5 (some h)) fun h' =>
    bd (X5_knownOf h' v1 v2) fun x2 =>
    X5_known_44 x2
def X5_known_26 (h : Nat) (v1 : Int32) (v2 : Int32) (w0 : Option Nat) : Mr Int32 :=
  X5_known_27 h v1 v2 w0 0
def X5_known (h : Nat) (v1 : Int32) (v2 : Int32) : Mr Int32 :=
  bd (pI 0 5 5 (some h) 0) fun _ =>
  bd (rc 5 (some h)) fun h' =>
  bd (X5_isHeap h' v1) fun x1 =>
  if x1 = 0 then (
    X5_known_26 h v1 v2 (some h))
  else
    bd (rc 5 (some h)) fun h' =>
    bd (X5_isHeap h' v2) fun x2 =>
    if x2 = 0 then (
      X5_known_26 h v1 v2 (some h))
    else
      X5_known_27 h v1 v2 (some h) 1
def X5_secondOn_39 (k2 : Nat → Int32 → Int32 → Int32 → Mr Int32) (h : Nat) (v1 : Int32) (v2 : Int32) (v3 : Int32) : Mr Int32 :=
  k2 h v1 v2 (v3 + 1)
def X5_secondOn_2 : Nat → Nat → Int32 → Int32 → Int32 → Mr Int32
  | 0, _, _, _, _ => no
  | n + 1, h, v1, v2, v3 =>
    bd (gR 5 6 (some h)) fun x1 =>
    bd (aI 41 x1 v3) fun x2 =>
    bd (gR 5 6 (some h)) fun x3 =>
    bd (aI 41 x3 v1) fun x4 =>
    if ¬ x2 = (x4 - 1) then (
      X5_secondOn_39 (X5_secondOn_2 n) h v1 v2 v3)
    else
      bd (rc 5 (some h)) fun h' =>
      bd (X5_factOf h' v1 v3) fun x5 =>
      if x5 = (-1) then (
        X5_secondOn_39 (X5_secondOn_2 n) h v1 v2 v3)
      else
        bd (rc 5 (some h)) fun h' =>
        bd (X5_factOf h' v1 v3) fun x6 =>
        if ¬ x6 = v2 then (
          rt v3)
        else
          X5_secondOn_39 (X5_secondOn_2 n) h v1 v2 v3
def X5_secondOn (h : Nat) (v1 : Int32) (v2 : Int32) : Mr Int32 :=
  X5_secondOn_2 FU h v1 v2 0
def X5_why_48 : Mr Int32 :=
  rt 0
def X5_why_153 (w0 : Int32) : Mr Int32 :=
  rt w0
def X5_why_211 (w0 : Int32) : Mr Int32 :=
  rt w0
def X5_why_127 (h : Nat) (v1 : Int32) (v2 : Int32) (v3 : Int32) (v5 : Int32) (v6 : Int32) : Mr Int32 :=
  if ¬ v3 = 2 then (
    if ¬ v5 = 1 then (
      if ¬ v5 = 2 then (
        if ¬ v5 = 3 then (
          bd (rc 5 (some h)) fun h' =>
          bd (X5_wordByEye h' v1 v2) fun x1 =>
          X5_why_211 (300 + x1))
        else
          bd (gR 5 6 (some h)) fun x2 =>
          bd (aI 41 x2 v1) fun x3 =>
          X5_why_211 (200 + x3))
      else
        bd (rc 5 (some h)) fun h' =>
        bd (X5_factOf h' v1 v2) fun x4 =>
        X5_why_211 (100 + x4))
    else
      X5_why_211 0)
  else
    if ¬ v5 = 3 then (
      X5_why_153 0)
    else
      bd (rc 5 (some h)) fun h' =>
      bd (X5_secondOn h' v1 v6) fun x5 =>
      X5_why_153 (400 + x5)
def X5_why_112 (h : Nat) (v1 : Int32) (v2 : Int32) (v3 : Int32) (v5 : Int32) (w0 : Int32) : Mr Int32 :=
  if ¬ v5 = 3 then (
    X5_why_127 h v1 v2 v3 v5 w0)
  else
    bd (rc 5 (some h)) fun h' =>
    bd (X5_walks h' v2 w0) fun _ =>
    X5_why_127 h v1 v2 v3 v5 w0
def X5_why_92 (h : Nat) (v1 : Int32) (v2 : Int32) (v3 : Int32) (v4 : Int32) (w0 : Int32) : Mr Int32 :=
  if ¬ v3 = 0 then (
    if ¬ v4 = 1 then (
      X5_why_112 h v1 v2 v3 w0 1)
    else
      X5_why_112 h v1 v2 v3 w0 0)
  else
    rt w0
def X5_why_27 (h : Nat) (v1 : Int32) (v2 : Int32) (v3 : Int32) (w0 : Option Nat) (w1 : Int32) : Mr Int32 :=
  bd (rc 5 w0) fun h' =>
  bd (X5_holds h' w1 1) fun x1 =>
  if x1 = 0 then (
    X5_why_48)
  else
    bd (X5_in v3 0 2) fun x2 =>
    bd (rc 5 (some h)) fun h' =>
    bd (X5_holds h' x2 2) fun x3 =>
    if ¬ x3 = 0 then (
      bd (rc 5 (some h)) fun h' =>
      bd (X5_knownOf h' v1 v2) fun x4 =>
      if ¬ v1 = v2 then (
        bd (rc 5 (some h)) fun h' =>
        bd (X5_factOf h' v1 v2) fun x5 =>
        if x5 = (-1) then (
          if x4 = (-1) then (
            X5_why_92 h v1 v2 v3 x4 4)
          else
            X5_why_92 h v1 v2 v3 x4 3)
        else
          X5_why_92 h v1 v2 v3 x4 2)
      else
        X5_why_92 h v1 v2 v3 x4 1)
    else
      X5_why_48
def X5_why_26 (h : Nat) (v1 : Int32) (v2 : Int32) (v3 : Int32) (w0 : Option Nat) : Mr Int32 :=
  X5_why_27 h v1 v2 v3 w0 0
def X5_why (h : Nat) (v1 : Int32) (v2 : Int32) (v3 : Int32) : Mr Int32 :=
  bd (pI 0 5 5 (some h) 0) fun _ =>
  bd (rc 5 (some h)) fun h' =>
  bd (X5_isHeap h' v1) fun x1 =>
  if x1 = 0 then (
    X5_why_26 h v1 v2 v3 (some h))
  else
    bd (rc 5 (some h)) fun h' =>
    bd (X5_isHeap h' v2) fun x2 =>
    if x2 = 0 then (
      X5_why_26 h v1 v2 v3 (some h))
    else
      X5_why_27 h v1 v2 v3 (some h) 1
def X5_allKnown_4 : Nat → Nat → Int32 → Int32 → Mr Int32
  | 0, _, _, _ => no
  | n + 1, h, v1, v2 =>
    bd (rc 5 (some h)) fun h' =>
    bd (X5_get h' 1) fun x1 =>
    if x1 ≤ v2 then (
      bd (dv v1 2) fun x2 =>
      rt x2)
    else
      bd (rc 5 (some h)) fun h' =>
      bd (X5_knownTo h' v2) fun x3 =>
      X5_allKnown_4 n h (v1 + x3) (v2 + 1)
def X5_allKnown (h : Nat) : Mr Int32 :=
  X5_allKnown_4 FU h 0 0
def X5_knownPairs (h : Nat) : Mr Int32 :=
  bd (pI 0 5 5 (some h) 0) fun _ =>
  bd (rc 5 (some h)) fun h' =>
  bd (X5_allKnown h') fun x1 =>
  rt x1
def X5_seemsRight_48 (w0 : Int32) : Mr Int32 :=
  rz 2 w0
def X5_seemsRight_47 : Mr Int32 :=
  X5_seemsRight_48 0
def X5_seemsRight (h : Nat) (v1 : Int32) : Mr Int32 :=
  bd (pI 0 5 5 (some h) 0) fun _ =>
  bd (rc 5 (some h)) fun h' =>
  bd (X5_isClaim h' v1) fun x1 =>
  bd (rc 5 (some h)) fun h' =>
  bd (X5_holds h' x1 1) fun x2 =>
  if x2 = 0 then (
    X5_seemsRight_47)
  else
    bd (rc 5 (some h)) fun h' =>
    bd (X5_sideOf h' v1 0) fun x3 =>
    bd (rc 5 (some h)) fun h' =>
    bd (X5_sideOf h' v1 1) fun x4 =>
    bd (rc 5 (some h)) fun h' =>
    bd (X5_wordByEye h' x3 x4) fun x5 =>
    bd (rc 5 (some h)) fun h' =>
    bd (X5_cl h' v1 3) fun x6 =>
    if ¬ x5 = x6 then (
      X5_seemsRight_47)
    else
      X5_seemsRight_48 1
def X5_rowAt_6 : Nat → Nat → Int32 → Int32 → Int32 → Int32 → Mr Int32
  | 0, _, _, _, _, _ => no
  | n + 1, h, v1, v2, v4, v5 =>
    bd (rc 5 (some h)) fun h' =>
    bd (X5_sideOf h' v1 v2) fun x1 =>
    bd (rc 5 (some h)) fun h' =>
    bd (X5_hp h' x1 1) fun x2 =>
    if x2 ≤ v5 then (
      rt (-1))
    else
      bd (rc 5 (some h)) fun h' =>
      bd (X5_leftIn h' v1 v2 v5) fun x3 =>
      if x3 ≤ v4 then (
        bd (rc 5 (some h)) fun h' =>
        bd (X5_leftIn h' v1 v2 v5) fun x4 =>
        X5_rowAt_6 n h v1 v2 (v4 - x4) (v5 + 1))
      else
        rt v5
def X5_rowAt (h : Nat) (v1 : Int32) (v2 : Int32) (v3 : Int32) : Mr Int32 :=
  X5_rowAt_6 FU h v1 v2 v3 0
def X5_nextPair_42 (w0 : Int32) : Mr Int32 :=
  rt w0
def X5_nextPair_30 (h : Nat) : Mr Int32 :=
  bd (gI 5 5 (some h)) fun x1 =>
  if ¬ x1 = 0 then (
    X5_nextPair_42 0)
  else
    X5_nextPair_42 (-1)
def X5_nextPair_82 (w0 : Int32) : Mr Int32 :=
  rt w0
def X5_nextPair_71 : Mr Int32 :=
  X5_nextPair_82 (-1)
def X5_nextPair (h : Nat) (v1 : Int32) (v2 : Int32) : Mr Int32 :=
  bd (pI 0 5 5 (some h) 0) fun _ =>
  bd (rc 5 (some h)) fun h' =>
  bd (X5_isClaim h' v1) fun x1 =>
  bd (rc 5 (some h)) fun h' =>
  bd (X5_holds h' x1 1) fun x2 =>
  if x2 = 0 then (
    X5_nextPair_30 h)
  else
    bd (rc 5 (some h)) fun h' =>
    bd (X5_isOpen h' v1) fun x3 =>
    if x3 = 0 then (
      X5_nextPair_30 h)
    else
      if 0 ≤ v2 then (
        bd (rc 5 (some h)) fun h' =>
        bd (X5_rowAt h' v1 0 v2) fun x4 =>
        bd (rc 5 (some h)) fun h' =>
        bd (X5_rowAt h' v1 1 v2) fun x5 =>
        if x4 = (-1) then (
          X5_nextPair_71)
        else
          if ¬ x5 = (-1) then (
            X5_nextPair_82 ((10 * x4) + x5))
          else
            X5_nextPair_71)
      else
        X5_nextPair_30 h
def X5_groupOf_2 : Nat → Nat → Int32 → Int32 → Mr Int32
  | 0, _, _, _ => no
  | n + 1, h, v1, v2 =>
    bd (rc 5 (some h)) fun h' =>
    bd (X5_knownOf h' v1 v2) fun x1 =>
    if x1 = 2 then (
      rt v2)
    else
      X5_groupOf_2 n h v1 (v2 + 1)
def X5_groupOf (h : Nat) (v1 : Int32) : Mr Int32 :=
  X5_groupOf_2 FU h v1 0
def X5_group_27 (w0 : Int32) : Mr Int32 :=
  rt w0
def X5_group (h : Nat) (v1 : Int32) : Mr Int32 :=
  bd (pI 0 5 5 (some h) 0) fun _ =>
  bd (rc 5 (some h)) fun h' =>
  bd (X5_isHeap h' v1) fun x1 =>
  bd (rc 5 (some h)) fun h' =>
  bd (X5_holds h' x1 1) fun x2 =>
  if x2 = 0 then (
    X5_group_27 0)
  else
    bd (rc 5 (some h)) fun h' =>
    bd (X5_groupOf h' v1) fun x3 =>
    X5_group_27 x3
def X5_groups_33 (k9 : Nat → Int32 → Int32 → Mr Int32) (h : Nat) (v2 : Int32) (w0 : Int32) (w1 : Int32) : Mr Int32 :=
  bd (X5_one w1) fun x1 =>
  k9 h (w0 + x1) (v2 + 1)
def X5_groups_9 : Nat → Nat → Int32 → Int32 → Mr Int32
  | 0, _, _, _ => no
  | n + 1, h, v1, v2 =>
    bd (rc 5 (some h)) fun h' =>
    bd (X5_get h' 1) fun x1 =>
    if x1 ≤ v2 then (
      rt v1)
    else
      bd (rc 5 (some h)) fun h' =>
      bd (X5_groupOf h' v2) fun x2 =>
      if ¬ x2 = v2 then (
        X5_groups_33 (X5_groups_9 n) h v2 v1 0)
      else
        X5_groups_33 (X5_groups_9 n) h v2 v1 1
def X5_groups (h : Nat) : Mr Int32 :=
  bd (pI 0 5 5 (some h) 0) fun _ =>
  X5_groups_9 FU h 0 0
def X5_longestRow_107 (k33 : Nat → Int32 → Int32 → Mr Int32) (k44 : Nat → Int32 → Int32 → Int32 → Mr Int32) (k56 : Nat → Int32 → Int32 → Int32 → Int32 → Mr Int32) (h : Nat) (v1 : Int32) (v2 : Int32) (v3 : Int32) (v4 : Int32) : Mr Int32 :=
  k56 h v1 v2 v3 (v4 + 1)
def X5_longestRow_56 (k33 : Nat → Int32 → Int32 → Mr Int32) (k44 : Nat → Int32 → Int32 → Int32 → Mr Int32) : Nat → Nat → Int32 → Int32 → Int32 → Int32 → Mr Int32
  | 0, _, _, _, _, _ => no
  | n + 1, h, v1, v2, v3, v4 =>
    bd (rc 5 (some h)) fun h' =>
    bd (X5_get h' 1) fun x1 =>
    if x1 ≤ v4 then (
      bd (gR 5 18 (some h)) fun x2 =>
      bd (aI 41 x2 v3) fun x3 =>
      bd (J12_max v1 x3) fun x4 =>
      k44 h x4 v2 (v3 + 1))
    else
      bd (gR 5 18 (some h)) fun x5 =>
      bd (aI 41 x5 v4) fun x6 =>
      bd (gR 5 18 (some h)) fun x7 =>
      bd (aI 41 x7 v3) fun x8 =>
      if x6 < x8 then (
        X5_longestRow_107 k33 k44 (X5_longestRow_56 k33 k44 n) h v1 v2 v3 v4)
      else
        bd (rc 5 (some h)) fun h' =>
        bd (X5_knownOf h' v3 v4) fun x9 =>
        if ¬ x9 = 0 then (
          X5_longestRow_107 k33 k44 (X5_longestRow_56 k33 k44 n) h v1 v2 v3 v4)
        else
          bd (gR 5 18 (some h)) fun x10 =>
          bd (gR 5 18 (some h)) fun x11 =>
          bd (aI 41 x11 v4) fun x12 =>
          bd (sI 41 x10 v3 (x12 + 1)) fun _ =>
          X5_longestRow_107 k33 k44 (X5_longestRow_56 k33 k44 n) h v1 v2 v3 v4
def X5_longestRow_44 (k33 : Nat → Int32 → Int32 → Mr Int32) : Nat → Nat → Int32 → Int32 → Int32 → Mr Int32
  | 0, _, _, _, _ => no
  | n + 1, h, v1, v2, v3 =>
    bd (rc 5 (some h)) fun h' =>
    bd (X5_get h' 1) fun x1 =>
    if x1 ≤ v3 then (
      k33 h v1 (v2 + 1))
    else
      X5_longestRow_56 k33 (X5_longestRow_44 k33 n) FU h v1 v2 v3 0
def X5_longestRow_33 : Nat → Nat → Int32 → Int32 → Mr Int32
  | 0, _, _, _ => no
  | n + 1, h, v1, v2 =>
    bd (rc 5 (some h)) fun h' =>
    bd (X5_get h' 1) fun x1 =>
    if x1 ≤ v2 then (
      rt v1)
    else
      X5_longestRow_44 (X5_longestRow_33 n) FU h v1 v2 0
def X5_longestRow_9 : Nat → Nat → Int32 → Int32 → Mr Int32
  | 0, _, _, _ => no
  | n + 1, h, v1, v2 =>
    bd (rc 5 (some h)) fun h' =>
    bd (X5_get h' 1) fun x1 =>
    if x1 ≤ v2 then (
      X5_longestRow_33 FU h v1 0)
    else
      bd (gR 5 18 (some h)) fun x2 =>
      bd (sI 41 x2 v2 1) fun _ =>
      X5_longestRow_9 n h v1 (v2 + 1)
def X5_longestRow (h : Nat) : Mr Int32 :=
  bd (pI 0 5 5 (some h) 0) fun _ =>
  X5_longestRow_9 FU h 1 0
def X5_swappable_56 (k9 : Nat → Int32 → Int32 → Mr Int32) (k20 : Nat → Int32 → Int32 → Int32 → Mr Int32) (h : Nat) (v2 : Int32) (v3 : Int32) (w0 : Int32) (w1 : Int32) : Mr Int32 :=
  bd (X5_one w1) fun x1 =>
  k20 h (w0 + x1) v2 (v3 + 1)
def X5_swappable_55 (k9 : Nat → Int32 → Int32 → Mr Int32) (k20 : Nat → Int32 → Int32 → Int32 → Mr Int32) (h : Nat) (v2 : Int32) (v3 : Int32) (w0 : Int32) : Mr Int32 :=
  X5_swappable_56 k9 k20 h v2 v3 w0 0
def X5_swappable_20 (k9 : Nat → Int32 → Int32 → Mr Int32) : Nat → Nat → Int32 → Int32 → Int32 → Mr Int32
  | 0, _, _, _, _ => no
  | n + 1, h, v1, v2, v3 =>
    if v2 ≤ v3 then (
      k9 h v1 (v2 + 1))
    else
      bd (rc 5 (some h)) fun h' =>
      bd (X5_hp h' v2 0) fun x1 =>
      bd (rc 5 (some h)) fun h' =>
      bd (X5_hp h' v3 0) fun x2 =>
      if x1 = x2 then (
        X5_swappable_55 k9 (X5_swappable_20 k9 n) h v2 v3 v1)
      else
        bd (rc 5 (some h)) fun h' =>
        bd (X5_knownOf h' v2 v3) fun x3 =>
        if ¬ x3 = 2 then (
          X5_swappable_55 k9 (X5_swappable_20 k9 n) h v2 v3 v1)
        else
          X5_swappable_56 k9 (X5_swappable_20 k9 n) h v2 v3 v1 1
def X5_swappable_9 : Nat → Nat → Int32 → Int32 → Mr Int32
  | 0, _, _, _ => no
  | n + 1, h, v1, v2 =>
    bd (rc 5 (some h)) fun h' =>
    bd (X5_get h' 1) fun x1 =>
    if x1 ≤ v2 then (
      rt v1)
    else
      X5_swappable_20 (X5_swappable_9 n) FU h v1 v2 0
def X5_swappable (h : Nat) : Mr Int32 :=
  bd (pI 0 5 5 (some h) 0) fun _ =>
  X5_swappable_9 FU h 0 0
def X5_unproved_98 (k24 : Nat → Int32 → Int32 → Int32 → Mr Int32) (k36 : Nat → Int32 → Int32 → Int32 → Int32 → Mr Int32) (h : Nat) (v1 : Int32) (v3 : Int32) (v4 : Int32) (w0 : Int32) (w1 : Int32) : Mr Int32 :=
  bd (X5_one w1) fun x1 =>
  k36 h v1 (w0 + x1) v3 (v4 + 1)
def X5_unproved_97 (k24 : Nat → Int32 → Int32 → Int32 → Mr Int32) (k36 : Nat → Int32 → Int32 → Int32 → Int32 → Mr Int32) (h : Nat) (v1 : Int32) (v3 : Int32) (v4 : Int32) (w0 : Int32) : Mr Int32 :=
  X5_unproved_98 k24 k36 h v1 v3 v4 w0 0
def X5_unproved_36 (k24 : Nat → Int32 → Int32 → Int32 → Mr Int32) : Nat → Nat → Int32 → Int32 → Int32 → Int32 → Mr Int32
  | 0, _, _, _, _, _ => no
  | n + 1, h, v1, v2, v3, v4 =>
    bd (rc 5 (some h)) fun h' =>
    bd (X5_get h' 1) fun x1 =>
    if x1 ≤ v4 then (
      k24 h v1 v2 (v3 + 1))
    else
      bd (rc 5 (some h)) fun h' =>
      bd (X5_hp h' v3 0) fun x2 =>
      if ¬ x2 = v1 then (
        X5_unproved_97 k24 (X5_unproved_36 k24 n) h v1 v3 v4 v2)
      else
        bd (rc 5 (some h)) fun h' =>
        bd (X5_hp h' v4 0) fun x3 =>
        if x3 = v1 then (
          X5_unproved_97 k24 (X5_unproved_36 k24 n) h v1 v3 v4 v2)
        else
          bd (rc 5 (some h)) fun h' =>
          bd (X5_sizeOf h' v3) fun x4 =>
          bd (rc 5 (some h)) fun h' =>
          bd (X5_sizeOf h' v4) fun x5 =>
          if ¬ x4 = x5 then (
            X5_unproved_97 k24 (X5_unproved_36 k24 n) h v1 v3 v4 v2)
          else
            bd (rc 5 (some h)) fun h' =>
            bd (X5_knownOf h' v3 v4) fun x6 =>
            if x6 = 2 then (
              X5_unproved_97 k24 (X5_unproved_36 k24 n) h v1 v3 v4 v2)
            else
              X5_unproved_98 k24 (X5_unproved_36 k24 n) h v1 v3 v4 v2 1
def X5_unproved_24 : Nat → Nat → Int32 → Int32 → Int32 → Mr Int32
  | 0, _, _, _, _ => no
  | n + 1, h, v1, v2, v3 =>
    bd (rc 5 (some h)) fun h' =>
    bd (X5_get h' 1) fun x1 =>
    if x1 ≤ v3 then (
      rt v2)
    else
      X5_unproved_36 (X5_unproved_24 n) FU h v1 v2 v3 0
def X5_unproved (h : Nat) (v1 : Int32) : Mr Int32 :=
  bd (pI 0 5 5 (some h) 0) fun _ =>
  bd (rc 5 (some h)) fun h' =>
  bd (X5_isTrader h' v1) fun x1 =>
  bd (rc 5 (some h)) fun h' =>
  bd (X5_holds h' x1 1) fun x2 =>
  if ¬ x2 = 0 then (
    X5_unproved_24 FU h v1 0 0)
  else
    rt 0
def X5_turnsLeft_45 (w0 : Int32) : Mr Int32 :=
  rt w0
def X5_turnsLeft_44 : Mr Int32 :=
  X5_turnsLeft_45 0
def X5_turnsLeft (h : Nat) (v1 : Int32) : Mr Int32 :=
  bd (pI 0 5 5 (some h) 0) fun _ =>
  bd (rc 5 (some h)) fun h' =>
  bd (X5_isClaim h' v1) fun x1 =>
  bd (rc 5 (some h)) fun h' =>
  bd (X5_holds h' x1 1) fun x2 =>
  if x2 = 0 then (
    X5_turnsLeft_44)
  else
    bd (rc 5 (some h)) fun h' =>
    bd (X5_isOpen h' v1) fun x3 =>
    if x3 = 0 then (
      X5_turnsLeft_44)
    else
      bd (rc 5 (some h)) fun h' =>
      bd (X5_leftOf h' v1 0) fun x4 =>
      bd (rc 5 (some h)) fun h' =>
      bd (X5_leftOf h' v1 1) fun x5 =>
      bd (J12_min x4 x5) fun x6 =>
      X5_turnsLeft_45 x6
def X5_nearest_76 (k24 : Nat → Int32 → Int32 → Int32 → Mr Int32) (h : Nat) (v1 : Int32) (v2 : Int32) (v3 : Int32) : Mr Int32 :=
  k24 h v1 v2 (v3 + 1)
def X5_nearest_74 (k24 : Nat → Int32 → Int32 → Int32 → Mr Int32) (h : Nat) (v1 : Int32) (v3 : Int32) : Mr Int32 :=
  X5_nearest_76 k24 h v1 v3 v3
def X5_nearest_24 : Nat → Nat → Int32 → Int32 → Int32 → Mr Int32
  | 0, _, _, _, _ => no
  | n + 1, h, v1, v2, v3 =>
    bd (rc 5 (some h)) fun h' =>
    bd (X5_get h' 1) fun x1 =>
    if x1 ≤ v3 then (
      rt v2)
    else
      if v3 = v1 then (
        X5_nearest_76 (X5_nearest_24 n) h v1 v2 v3)
      else
        if v2 = (-1) then (
          X5_nearest_74 (X5_nearest_24 n) h v1 v3)
        else
          bd (rc 5 (some h)) fun h' =>
          bd (X5_sizeOf h' v3) fun x2 =>
          bd (rc 5 (some h)) fun h' =>
          bd (X5_sizeOf h' v1) fun x3 =>
          bd (J12_abs (x2 - x3)) fun x4 =>
          bd (rc 5 (some h)) fun h' =>
          bd (X5_sizeOf h' v2) fun x5 =>
          bd (rc 5 (some h)) fun h' =>
          bd (X5_sizeOf h' v1) fun x6 =>
          bd (J12_abs (x5 - x6)) fun x7 =>
          if x7 ≤ x4 then (
            X5_nearest_76 (X5_nearest_24 n) h v1 v2 v3)
          else
            X5_nearest_74 (X5_nearest_24 n) h v1 v3
def X5_nearest (h : Nat) (v1 : Int32) : Mr Int32 :=
  bd (pI 0 5 5 (some h) 0) fun _ =>
  bd (rc 5 (some h)) fun h' =>
  bd (X5_isHeap h' v1) fun x1 =>
  bd (rc 5 (some h)) fun h' =>
  bd (X5_holds h' x1 1) fun x2 =>
  if ¬ x2 = 0 then (
    X5_nearest_24 FU h v1 (-1) 0)
  else
    rt 0
def X5_refusals_30 (w0 : Int32) : Mr Int32 :=
  rt w0
def X5_refusals (h : Nat) (v1 : Int32) : Mr Int32 :=
  bd (pI 0 5 5 (some h) 0) fun _ =>
  bd (X5_in v1 1 9) fun x1 =>
  bd (rc 5 (some h)) fun h' =>
  bd (X5_holds h' x1 1) fun x2 =>
  if x2 = 0 then (
    X5_refusals_30 0)
  else
    bd (gR 5 2 (some h)) fun x3 =>
    bd (aI 41 x3 v1) fun x4 =>
    X5_refusals_30 x4
def X5_overPaired_45 (k4 : Nat → Int32 → Int32 → Int32 → Mr Int32) (k12 : Nat → Int32 → Int32 → Int32 → Int32 → Mr Int32) (h : Nat) (v1 : Int32) (v3 : Int32) (v4 : Int32) (w0 : Int32) (w1 : Int32) : Mr Int32 :=
  bd (X5_one w1) fun x1 =>
  k12 h v1 (w0 + x1) v3 (v4 + 1)
def X5_overPaired_12 (k4 : Nat → Int32 → Int32 → Int32 → Mr Int32) : Nat → Nat → Int32 → Int32 → Int32 → Int32 → Mr Int32
  | 0, _, _, _, _, _ => no
  | n + 1, h, v1, v2, v3, v4 =>
    bd (rc 5 (some h)) fun h' =>
    bd (X5_sideOf h' v1 v3) fun x1 =>
    bd (rc 5 (some h)) fun h' =>
    bd (X5_hp h' x1 1) fun x2 =>
    if x2 ≤ v4 then (
      k4 h v1 v2 (v3 + 1))
    else
      bd (rc 5 (some h)) fun h' =>
      bd (X5_leftIn h' v1 v3 v4) fun x3 =>
      if 0 ≤ x3 then (
        X5_overPaired_45 k4 (X5_overPaired_12 k4 n) h v1 v3 v4 v2 0)
      else
        X5_overPaired_45 k4 (X5_overPaired_12 k4 n) h v1 v3 v4 v2 1
def X5_overPaired_4 : Nat → Nat → Int32 → Int32 → Int32 → Mr Int32
  | 0, _, _, _, _ => no
  | n + 1, h, v1, v2, v3 =>
    if 2 ≤ v3 then (
      rt v2)
    else
      X5_overPaired_12 (X5_overPaired_4 n) FU h v1 v2 v3 0
def X5_overPaired (h : Nat) (v1 : Int32) : Mr Int32 :=
  X5_overPaired_4 FU h v1 0 0
def X5_gap_92 (k9 : Nat → Int32 → Int32 → Mr Int32) (k20 : Nat → Int32 → Int32 → Int32 → Mr Int32) (h : Nat) (v2 : Int32) (v3 : Int32) (w0 : Int32) (w1 : Int32) : Mr Int32 :=
  bd (X5_one w1) fun x1 =>
  k20 h (w0 + x1) v2 (v3 + 1)
def X5_gap_91 (k9 : Nat → Int32 → Int32 → Mr Int32) (k20 : Nat → Int32 → Int32 → Int32 → Mr Int32) (h : Nat) (v2 : Int32) (v3 : Int32) (w0 : Int32) : Mr Int32 :=
  X5_gap_92 k9 k20 h v2 v3 w0 0
def X5_gap_56 (k9 : Nat → Int32 → Int32 → Mr Int32) (k20 : Nat → Int32 → Int32 → Int32 → Mr Int32) (h : Nat) (v2 : Int32) (v3 : Int32) (w0 : Int32) (w1 : Int32) : Mr Int32 :=
  bd (X5_one w1) fun x1 =>
  bd (rc 5 (some h)) fun h' =>
  bd (X5_knownOf h' v2 v3) fun x2 =>
  if x2 = (-1) then (
    X5_gap_91 k9 k20 h v2 v3 (w0 + x1))
  else
    bd (rc 5 (some h)) fun h' =>
    bd (X5_knownOf h' v2 v3) fun x3 =>
    bd (rc 5 (some h)) fun h' =>
    bd (X5_wordBySize h' v2 v3) fun x4 =>
    if x3 = x4 then (
      X5_gap_91 k9 k20 h v2 v3 (w0 + x1))
    else
      X5_gap_92 k9 k20 h v2 v3 (w0 + x1) 1
def X5_gap_55 (k9 : Nat → Int32 → Int32 → Mr Int32) (k20 : Nat → Int32 → Int32 → Int32 → Mr Int32) (h : Nat) (v2 : Int32) (v3 : Int32) (w0 : Int32) : Mr Int32 :=
  X5_gap_56 k9 k20 h v2 v3 w0 0
def X5_gap_20 (k9 : Nat → Int32 → Int32 → Mr Int32) : Nat → Nat → Int32 → Int32 → Int32 → Mr Int32
  | 0, _, _, _, _ => no
  | n + 1, h, v1, v2, v3 =>
    if v2 ≤ v3 then (
      k9 h v1 (v2 + 1))
    else
      bd (rc 5 (some h)) fun h' =>
      bd (X5_factOf h' v2 v3) fun x1 =>
      if x1 = (-1) then (
        X5_gap_55 k9 (X5_gap_20 k9 n) h v2 v3 v1)
      else
        bd (rc 5 (some h)) fun h' =>
        bd (X5_factOf h' v2 v3) fun x2 =>
        bd (rc 5 (some h)) fun h' =>
        bd (X5_wordBySize h' v2 v3) fun x3 =>
        if x2 = x3 then (
          X5_gap_55 k9 (X5_gap_20 k9 n) h v2 v3 v1)
        else
          X5_gap_56 k9 (X5_gap_20 k9 n) h v2 v3 v1 1
def X5_gap_138 (k111 : Nat → Int32 → Int32 → Mr Int32) (h : Nat) (v2 : Int32) (w0 : Int32) (w1 : Int32) : Mr Int32 :=
  k111 h (w0 + w1) (v2 + 1)
def X5_gap_111 : Nat → Nat → Int32 → Int32 → Mr Int32
  | 0, _, _, _ => no
  | n + 1, h, v1, v2 =>
    bd (rc 5 (some h)) fun h' =>
    bd (X5_get h' 3) fun x1 =>
    if x1 ≤ v2 then (
      rt v1)
    else
      bd (rc 5 (some h)) fun h' =>
      bd (X5_isOpen h' v2) fun x2 =>
      if x2 = 0 then (
        X5_gap_138 (X5_gap_111 n) h v2 v1 0)
      else
        bd (rc 5 (some h)) fun h' =>
        bd (X5_overPaired h' v2) fun x3 =>
        X5_gap_138 (X5_gap_111 n) h v2 v1 x3
def X5_gap_9 : Nat → Nat → Int32 → Int32 → Mr Int32
  | 0, _, _, _ => no
  | n + 1, h, v1, v2 =>
    bd (rc 5 (some h)) fun h' =>
    bd (X5_get h' 1) fun x1 =>
    if x1 ≤ v2 then (
      X5_gap_111 FU h v1 0)
    else
      X5_gap_20 (X5_gap_9 n) FU h v1 v2 0
def X5_gap (h : Nat) : Mr Int32 :=
  bd (pI 0 5 5 (some h) 0) fun _ =>
  X5_gap_9 FU h 0 0
def X5_honesty_52 (w0 : UInt32) : Mr UInt32 :=
  rt w0
def X5_honesty (h : Nat) (v1 : Int32) : Mr UInt32 :=
  bd (pI 0 5 5 (some h) 0) fun _ =>
  bd (rc 5 (some h)) fun h' =>
  bd (X5_isTrader h' v1) fun x1 =>
  bd (rc 5 (some h)) fun h' =>
  bd (X5_holds h' x1 1) fun x2 =>
  if ¬ x2 = 0 then (
    bd (rc 5 (some h)) fun h' =>
    bd (X5_claimsOf h' v1 1) fun x3 =>
    bd (rc 5 (some h)) fun h' =>
    bd (X5_claimsOf h' v1 2) fun x4 =>
    if ¬ (x3 + x4) = 0 then (
      bd (rc 5 (some h)) fun h' =>
      bd (X5_claimsOf h' v1 1) fun x5 =>
      bd (fdv (FP.i2f x5) (FP.i2f (x3 + x4))) fun x6 =>
      X5_honesty_52 x6)
    else
      X5_honesty_52 (FP.fconst1))
  else
    rt (FP.fconst0)
def X5_meanTurns_55 (k11 : Nat → Int32 → Int32 → Int32 → Mr UInt64) (h : Nat) (v1 : Int32) (v2 : Int32) (v3 : Int32) : Mr UInt64 :=
  k11 h v1 v2 (v3 + 1)
def X5_meanTurns_43 (k11 : Nat → Int32 → Int32 → Int32 → Mr UInt64) (h : Nat) (v1 : Int32) (v2 : Int32) (v3 : Int32) : Mr UInt64 :=
  bd (rc 5 (some h)) fun h' =>
  bd (X5_cl h' v3 5) fun x1 =>
  X5_meanTurns_55 k11 h (v1 + x1) (v2 + 1) v3
def X5_meanTurns_74 (w0 : UInt64) : Mr UInt64 :=
  rt w0
def X5_meanTurns_11 : Nat → Nat → Int32 → Int32 → Int32 → Mr UInt64
  | 0, _, _, _, _ => no
  | n + 1, h, v1, v2, v3 =>
    bd (rc 5 (some h)) fun h' =>
    bd (X5_get h' 3) fun x1 =>
    if x1 ≤ v3 then (
      if ¬ v2 = 0 then (
        bd (ddv (FP.i2d v1) (FP.i2d v2)) fun x2 =>
        X5_meanTurns_74 x2)
      else
        X5_meanTurns_74 (FP.dconst0))
    else
      bd (rc 5 (some h)) fun h' =>
      bd (X5_cl h' v3 4) fun x3 =>
      if x3 = 1 then (
        X5_meanTurns_43 (X5_meanTurns_11 n) h v1 v2 v3)
      else
        bd (rc 5 (some h)) fun h' =>
        bd (X5_cl h' v3 4) fun x4 =>
        if x4 = 2 then (
          X5_meanTurns_43 (X5_meanTurns_11 n) h v1 v2 v3)
        else
          X5_meanTurns_55 (X5_meanTurns_11 n) h v1 v2 v3
def X5_meanTurns (h : Nat) : Mr UInt64 :=
  bd (pI 0 5 5 (some h) 0) fun _ =>
  X5_meanTurns_11 FU h 0 0 0
def X5_isBack (h : Nat) (v1 : Int32) : Mr Int32 :=
  bd (pI 0 5 3 (some h) 0) fun _ =>
  rt v1
def X5_tries (h : Nat) : Mr Unit :=
  bd (rc 5 (some h)) fun h' =>
  bd (X5_copies h' 0 9) fun _ =>
  bd (pI 0 5 3 (some h) 9) fun _ =>
  rt ()
def X5_ifPut_52 : Mr Int32 :=
  rt 0
def X5_ifPut_79 (w0 : Int32) : Mr Int32 :=
  rt w0
def X5_ifPut_111 (w0 : Option Nat) (w1 : Int32) : Mr Int32 :=
  bd (rc 5 w0) fun h' =>
  bd (X5_isBack h' w1) fun x1 =>
  rt x1
def X5_ifPut_45 (h : Nat) (v1 : Int32) (v2 : Int32) (v3 : Int32) (v4 : Int32) (w0 : Option Nat) (w1 : Int32) : Mr Int32 :=
  bd (rc 5 w0) fun h' =>
  bd (X5_holds h' w1 2) fun x1 =>
  if ¬ x1 = 0 then (
    if ¬ v4 = 1 then (
      bd (rc 5 (some h)) fun h' =>
      bd (X5_tries h') fun _ =>
      bd (rc 5 (some h)) fun h' =>
      bd (X5_layHeap h' v1 (2 + v2) v3) fun _ =>
      if ¬ v4 = 0 then (
        bd (rc 5 (some h)) fun h' =>
        bd (X5_allErrors h') fun x4 =>
        X5_ifPut_111 (some h) x4)
      else
        bd (rc 5 (some h)) fun h' =>
        bd (X5_sizeOf h' v1) fun x5 =>
        X5_ifPut_111 (some h) x5)
    else
      bd (rc 5 (some h)) fun h' =>
      bd (X5_stones h' v1 v2) fun x6 =>
      if ¬ v3 = x6 then (
        bd (rc 5 (some h)) fun h' =>
        bd (X5_factsWith h' v1) fun x7 =>
        X5_ifPut_79 x7)
      else
        X5_ifPut_79 0)
  else
    X5_ifPut_52
def X5_ifPut_44 (h : Nat) (v1 : Int32) (v2 : Int32) (v3 : Int32) (v4 : Int32) (w0 : Option Nat) : Mr Int32 :=
  X5_ifPut_45 h v1 v2 v3 v4 w0 0
def X5_ifPut (h : Nat) (v1 : Int32) (v2 : Int32) (v3 : Int32) (v4 : Int32) : Mr Int32 :=
  bd (pI 0 5 5 (some h) 0) fun _ =>
  bd (rc 5 (some h)) fun h' =>
  bd (X5_isRow h' v1 v2) fun x1 =>
  bd (rc 5 (some h)) fun h' =>
  bd (X5_holds h' x1 1) fun x2 =>
  if x2 = 0 then (
    X5_ifPut_52)
  else
    bd (X5_in v3 0 9) fun x3 =>
    if x3 = 0 then (
      X5_ifPut_44 h v1 v2 v3 v4 (some h))
    else
      bd (X5_in v4 0 2) fun x4 =>
      if x4 = 0 then (
        X5_ifPut_44 h v1 v2 v3 v4 (some h))
      else
        X5_ifPut_45 h v1 v2 v3 v4 (some h) 1
def X5_shown (h : Nat) (v1 : Int32) (v2 : Int32) : Mr Int32 :=
  bd (rc 5 (some h)) fun h' =>
  bd (X5_tries h') fun _ =>
  bd (rc 5 (some h)) fun h' =>
  bd (X5_wordBySize h' v1 v2) fun x2 =>
  bd (rc 5 (some h)) fun h' =>
  bd (X5_layFact h' v1 v2 x2) fun _ =>
  bd (rc 5 (some h)) fun h' =>
  bd (X5_allKnown h') fun x4 =>
  bd (rc 5 (some h)) fun h' =>
  bd (X5_isBack h' x4) fun x5 =>
  rt x5
def X5_ifShown_49 (w0 : Int32) : Mr Int32 :=
  rt w0
def X5_ifShown_39 : Mr Int32 :=
  X5_ifShown_49 0
def X5_ifShown_27 (h : Nat) (v1 : Int32) (v2 : Int32) (w0 : Option Nat) (w1 : Int32) : Mr Int32 :=
  bd (rc 5 w0) fun h' =>
  bd (X5_holds h' w1 1) fun x1 =>
  if x1 = 0 then (
    X5_ifShown_39)
  else
    if ¬ v1 = v2 then (
      bd (rc 5 (some h)) fun h' =>
      bd (X5_shown h' v1 v2) fun x2 =>
      X5_ifShown_49 x2)
    else
      X5_ifShown_39
def X5_ifShown_26 (h : Nat) (v1 : Int32) (v2 : Int32) (w0 : Option Nat) : Mr Int32 :=
  X5_ifShown_27 h v1 v2 w0 0
def X5_ifShown (h : Nat) (v1 : Int32) (v2 : Int32) : Mr Int32 :=
  bd (pI 0 5 5 (some h) 0) fun _ =>
  bd (rc 5 (some h)) fun h' =>
  bd (X5_isHeap h' v1) fun x1 =>
  if x1 = 0 then (
    X5_ifShown_26 h v1 v2 (some h))
  else
    bd (rc 5 (some h)) fun h' =>
    bd (X5_isHeap h' v2) fun x2 =>
    if x2 = 0 then (
      X5_ifShown_26 h v1 v2 (some h))
    else
      X5_ifShown_27 h v1 v2 (some h) 1
def X5_bestProof_67 (k14 : Nat → Int32 → Int32 → Int32 → Mr Int32) (k28 : Nat → Int32 → Int32 → Int32 → Int32 → Mr Int32) (h : Nat) (v1 : Int32) (v2 : Int32) (v3 : Int32) (v4 : Int32) : Mr Int32 :=
  k28 h v1 v2 v3 (v4 + 1)
def X5_bestProof_28 (k14 : Nat → Int32 → Int32 → Int32 → Mr Int32) : Nat → Nat → Int32 → Int32 → Int32 → Int32 → Mr Int32
  | 0, _, _, _, _, _ => no
  | n + 1, h, v1, v2, v3, v4 =>
    bd (rc 5 (some h)) fun h' =>
    bd (X5_get h' 1) fun x1 =>
    if x1 ≤ v4 then (
      k14 h v1 v2 (v3 + 1))
    else
      bd (rc 5 (some h)) fun h' =>
      bd (X5_shown h' v3 v4) fun x2 =>
      if v2 < x2 then (
        X5_bestProof_67 k14 (X5_bestProof_28 k14 n) h ((10 * v3) + v4) x2 v3 v4)
      else
        X5_bestProof_67 k14 (X5_bestProof_28 k14 n) h v1 v2 v3 v4
def X5_bestProof_14 : Nat → Nat → Int32 → Int32 → Int32 → Mr Int32
  | 0, _, _, _, _ => no
  | n + 1, h, v1, v2, v3 =>
    bd (rc 5 (some h)) fun h' =>
    bd (X5_get h' 1) fun x1 =>
    if x1 ≤ v3 then (
      rt v1)
    else
      X5_bestProof_28 (X5_bestProof_14 n) FU h v1 v2 v3 (v3 + 1)
def X5_bestProof (h : Nat) : Mr Int32 :=
  bd (pI 0 5 5 (some h) 0) fun _ =>
  bd (rc 5 (some h)) fun h' =>
  bd (X5_allKnown h') fun x1 =>
  X5_bestProof_14 FU h (-1) x1 0
def X5_ifEye (h : Nat) (v1 : Int32) : Mr Int32 :=
  bd (pI 0 5 5 (some h) 0) fun _ =>
  bd (X5_in v1 0 9) fun x1 =>
  bd (rc 5 (some h)) fun h' =>
  bd (X5_holds h' x1 1) fun x2 =>
  if ¬ x2 = 0 then (
    bd (rc 5 (some h)) fun h' =>
    bd (X5_tries h') fun _ =>
    bd (rc 5 (some h)) fun h' =>
    bd (X5_lay h' 2 v1) fun _ =>
    bd (rc 5 (some h)) fun h' =>
    bd (X5_allErrors h') fun x5 =>
    bd (rc 5 (some h)) fun h' =>
    bd (X5_isBack h' x5) fun x6 =>
    rt x6)
  else
    rt 0
def X5_write_82 (k31 : Nat → Int32 → Int32 → Mr Int32) (h : Nat) (v1 : Int32) (v2 : Int32) (w0 : Option Nat) (w1 : Int32) (w2 : Int32) : Mr Int32 :=
  bd (sI 41 w0 w1 w2) fun _ =>
  k31 h v1 (v2 + 1)
def X5_write_31 : Nat → Nat → Int32 → Int32 → Mr Int32
  | 0, _, _, _ => no
  | n + 1, h, v1, v2 =>
    bd (gI 5 20 (some h)) fun x1 =>
    if x1 ≤ v2 then (
      bd (gI 5 20 (some h)) fun x2 =>
      rt x2)
    else
      bd (rc 5 (some h)) fun h' =>
      bd (X5_knownOf h' v1 v2) fun x3 =>
      bd (gR 5 19 (some h)) fun x4 =>
      if ¬ x3 = 0 then (
        if ¬ x3 = 1 then (
          if ¬ x3 = 2 then (
            X5_write_82 (X5_write_31 n) h v1 v2 x4 v2 63)
          else
            X5_write_82 (X5_write_31 n) h v1 v2 x4 v2 61)
        else
          X5_write_82 (X5_write_31 n) h v1 v2 x4 v2 60)
      else
        X5_write_82 (X5_write_31 n) h v1 v2 x4 v2 62
def X5_write (h : Nat) (v1 : Int32) : Mr Int32 :=
  bd (pI 0 5 5 (some h) 0) fun _ =>
  bd (rc 5 (some h)) fun h' =>
  bd (X5_isHeap h' v1) fun x1 =>
  bd (rc 5 (some h)) fun h' =>
  bd (X5_holds h' x1 1) fun x2 =>
  if ¬ x2 = 0 then (
    bd (rc 5 (some h)) fun h' =>
    bd (X5_get h' 1) fun x3 =>
    bd (pI 0 5 20 (some h) x3) fun _ =>
    X5_write_31 FU h v1 0)
  else
    rt 0
def X5_output_29 (w0 : Int32) : Mr Int32 :=
  rt w0
def X5_output (h : Nat) (v1 : Int32) : Mr Int32 :=
  bd (pI 0 5 5 (some h) 0) fun _ =>
  bd (gI 5 20 (some h)) fun x1 =>
  bd (X5_in v1 0 (x1 - 1)) fun x2 =>
  if x2 = 0 then (
    X5_output_29 (-1))
  else
    bd (gR 5 19 (some h)) fun x3 =>
    bd (aI 41 x3 v1) fun x4 =>
    X5_output_29 x4
def X5_undo (h : Nat) : Mr Int32 :=
  bd (pI 0 5 5 (some h) 0) fun _ =>
  bd (gI 5 4 (some h)) fun x1 =>
  if ¬ x1 = 0 then (
    bd (gI 5 4 (some h)) fun x2 =>
    bd (pI 0 5 4 (some h) (x2 - 1)) fun _ =>
    bd (gI 5 4 (some h)) fun x3 =>
    bd (rc 5 (some h)) fun h' =>
    bd (X5_copies h' (1 + x3) 0) fun _ =>
    bd (gI 5 4 (some h)) fun x5 =>
    rt x5)
  else
    rt (-1)
def X5_save (h : Nat) (v1 : Int32) : Mr Unit :=
  bd (pI 0 5 5 (some h) 0) fun _ =>
  bd (X5_in v1 0 1) fun x1 =>
  bd (rc 5 (some h)) fun h' =>
  bd (X5_holds h' x1 1) fun x2 =>
  if ¬ x2 = 0 then (
    bd (rc 5 (some h)) fun h' =>
    bd (X5_copies h' 0 (7 + v1)) fun _ =>
    bd (gR 5 1 (some h)) fun x4 =>
    bd (sI 43 x4 v1 1) fun _ =>
    rt ())
  else
    rt ()
def X5_restore_35 : Mr Unit :=
  rt ()
def X5_restore (h : Nat) (v1 : Int32) : Mr Unit :=
  bd (pI 0 5 5 (some h) 0) fun _ =>
  bd (X5_in v1 0 1) fun x1 =>
  bd (rc 5 (some h)) fun h' =>
  bd (X5_holds h' x1 1) fun x2 =>
  if x2 = 0 then (
    X5_restore_35)
  else
    bd (gR 5 1 (some h)) fun x3 =>
    bd (aI 43 x3 v1) fun x4 =>
    bd (rc 5 (some h)) fun h' =>
    bd (X5_holds h' x4 2) fun x5 =>
    if ¬ x5 = 0 then (
      bd (rc 5 (some h)) fun h' =>
      bd (X5_copies h' (7 + v1) 0) fun _ =>
      bd (pI 0 5 4 (some h) 0) fun _ =>
      rt ())
    else
      X5_restore_35
def L_law_2756 (k28 : Option Nat → Option Nat → Option Nat → Option Nat → Option Nat → Int32 → Mr Int32) (v0 : Option Nat) (v1 : Option Nat) (v2 : Option Nat) (v3 : Option Nat) (v4 : Option Nat) (v5 : Int32) : Mr Int32 :=
  k28 v0 v1 v2 v3 v4 (v5 + 5)
def L_law_2643 (k28 : Option Nat → Option Nat → Option Nat → Option Nat → Option Nat → Int32 → Mr Int32) (v0 : Option Nat) (v1 : Option Nat) (v2 : Option Nat) (v3 : Option Nat) (v4 : Option Nat) (v5 : Int32) : Mr Int32 :=
  L_law_2756 k28 v0 v1 v2 v3 v4 v5
def L_law_2587 (k28 : Option Nat → Option Nat → Option Nat → Option Nat → Option Nat → Int32 → Mr Int32) (v0 : Option Nat) (v1 : Option Nat) (v2 : Option Nat) (v3 : Option Nat) (v4 : Option Nat) (v5 : Int32) : Mr Int32 :=
  L_law_2756 k28 v0 v1 v2 v3 v4 v5
def L_law_2531 (k28 : Option Nat → Option Nat → Option Nat → Option Nat → Option Nat → Int32 → Mr Int32) (v0 : Option Nat) (v1 : Option Nat) (v2 : Option Nat) (v3 : Option Nat) (v4 : Option Nat) (v5 : Int32) : Mr Int32 :=
  L_law_2756 k28 v0 v1 v2 v3 v4 v5
def L_law_2463 (k28 : Option Nat → Option Nat → Option Nat → Option Nat → Option Nat → Int32 → Mr Int32) (v0 : Option Nat) (v1 : Option Nat) (v2 : Option Nat) (v3 : Option Nat) (v4 : Option Nat) (v5 : Int32) : Mr Int32 :=
  L_law_2756 k28 v0 v1 v2 v3 v4 v5
def L_law_2383 (k28 : Option Nat → Option Nat → Option Nat → Option Nat → Option Nat → Int32 → Mr Int32) (v0 : Option Nat) (v1 : Option Nat) (v2 : Option Nat) (v3 : Option Nat) (v4 : Option Nat) (v5 : Int32) : Mr Int32 :=
  L_law_2756 k28 v0 v1 v2 v3 v4 v5
def L_law_2327 (k28 : Option Nat → Option Nat → Option Nat → Option Nat → Option Nat → Int32 → Mr Int32) (v0 : Option Nat) (v1 : Option Nat) (v2 : Option Nat) (v3 : Option Nat) (v4 : Option Nat) (v5 : Int32) : Mr Int32 :=
  L_law_2756 k28 v0 v1 v2 v3 v4 v5
def L_law_2271 (k28 : Option Nat → Option Nat → Option Nat → Option Nat → Option Nat → Int32 → Mr Int32) (v0 : Option Nat) (v1 : Option Nat) (v2 : Option Nat) (v3 : Option Nat) (v4 : Option Nat) (v5 : Int32) : Mr Int32 :=
  L_law_2756 k28 v0 v1 v2 v3 v4 v5
def L_law_2215 (k28 : Option Nat → Option Nat → Option Nat → Option Nat → Option Nat → Int32 → Mr Int32) (v0 : Option Nat) (v1 : Option Nat) (v2 : Option Nat) (v3 : Option Nat) (v4 : Option Nat) (v5 : Int32) : Mr Int32 :=
  L_law_2756 k28 v0 v1 v2 v3 v4 v5
def L_law_2135 (k28 : Option Nat → Option Nat → Option Nat → Option Nat → Option Nat → Int32 → Mr Int32) (v0 : Option Nat) (v1 : Option Nat) (v2 : Option Nat) (v3 : Option Nat) (v4 : Option Nat) (v5 : Int32) : Mr Int32 :=
  L_law_2756 k28 v0 v1 v2 v3 v4 v5
def L_law_2043 (k28 : Option Nat → Option Nat → Option Nat → Option Nat → Option Nat → Int32 → Mr Int32) (v0 : Option Nat) (v1 : Option Nat) (v2 : Option Nat) (v3 : Option Nat) (v4 : Option Nat) (v5 : Int32) : Mr Int32 :=
  L_law_2756 k28 v0 v1 v2 v3 v4 v5
def L_law_1974 (k28 : Option Nat → Option Nat → Option Nat → Option Nat → Option Nat → Int32 → Mr Int32) (v0 : Option Nat) (v1 : Option Nat) (v2 : Option Nat) (v3 : Option Nat) (v4 : Option Nat) (v5 : Int32) : Mr Int32 :=
  L_law_2756 k28 v0 v1 v2 v3 v4 v5
def L_law_1906 (k28 : Option Nat → Option Nat → Option Nat → Option Nat → Option Nat → Int32 → Mr Int32) (v0 : Option Nat) (v1 : Option Nat) (v2 : Option Nat) (v3 : Option Nat) (v4 : Option Nat) (v5 : Int32) : Mr Int32 :=
  L_law_2756 k28 v0 v1 v2 v3 v4 v5
def L_law_1814 (k28 : Option Nat → Option Nat → Option Nat → Option Nat → Option Nat → Int32 → Mr Int32) (v0 : Option Nat) (v1 : Option Nat) (v2 : Option Nat) (v3 : Option Nat) (v4 : Option Nat) (v5 : Int32) : Mr Int32 :=
  L_law_2756 k28 v0 v1 v2 v3 v4 v5
def L_law_1812 : Mr Int32 :=
  rz 2 0
def L_law_1773 (k28 : Option Nat → Option Nat → Option Nat → Option Nat → Option Nat → Int32 → Mr Int32) (v0 : Option Nat) (v1 : Option Nat) (v2 : Option Nat) (v3 : Option Nat) (v4 : Option Nat) (v5 : Int32) : Mr Int32 :=
  L_law_2756 k28 v0 v1 v2 v3 v4 v5
def L_law_1771 : Mr Int32 :=
  rz 2 0
def L_law_1682 (k28 : Option Nat → Option Nat → Option Nat → Option Nat → Option Nat → Int32 → Mr Int32) (v0 : Option Nat) (v1 : Option Nat) (v2 : Option Nat) (v3 : Option Nat) (v4 : Option Nat) (v5 : Int32) : Mr Int32 :=
  L_law_2756 k28 v0 v1 v2 v3 v4 v5
def L_law_1626 (k28 : Option Nat → Option Nat → Option Nat → Option Nat → Option Nat → Int32 → Mr Int32) (v0 : Option Nat) (v1 : Option Nat) (v2 : Option Nat) (v3 : Option Nat) (v4 : Option Nat) (v5 : Int32) : Mr Int32 :=
  L_law_2756 k28 v0 v1 v2 v3 v4 v5
def L_law_1570 (k28 : Option Nat → Option Nat → Option Nat → Option Nat → Option Nat → Int32 → Mr Int32) (v0 : Option Nat) (v1 : Option Nat) (v2 : Option Nat) (v3 : Option Nat) (v4 : Option Nat) (v5 : Int32) : Mr Int32 :=
  L_law_2756 k28 v0 v1 v2 v3 v4 v5
def L_law_1514 (k28 : Option Nat → Option Nat → Option Nat → Option Nat → Option Nat → Int32 → Mr Int32) (v0 : Option Nat) (v1 : Option Nat) (v2 : Option Nat) (v3 : Option Nat) (v4 : Option Nat) (v5 : Int32) : Mr Int32 :=
  L_law_2756 k28 v0 v1 v2 v3 v4 v5
def L_law_1419 (k28 : Option Nat → Option Nat → Option Nat → Option Nat → Option Nat → Int32 → Mr Int32) (v0 : Option Nat) (v1 : Option Nat) (v2 : Option Nat) (v3 : Option Nat) (v4 : Option Nat) (v5 : Int32) : Mr Int32 :=
  L_law_2756 k28 v0 v1 v2 v3 v4 v5
def L_law_1363 (k28 : Option Nat → Option Nat → Option Nat → Option Nat → Option Nat → Int32 → Mr Int32) (v0 : Option Nat) (v1 : Option Nat) (v2 : Option Nat) (v3 : Option Nat) (v4 : Option Nat) (v5 : Int32) : Mr Int32 :=
  L_law_2756 k28 v0 v1 v2 v3 v4 v5
def L_law_1295 (k28 : Option Nat → Option Nat → Option Nat → Option Nat → Option Nat → Int32 → Mr Int32) (v0 : Option Nat) (v1 : Option Nat) (v2 : Option Nat) (v3 : Option Nat) (v4 : Option Nat) (v5 : Int32) : Mr Int32 :=
  L_law_2756 k28 v0 v1 v2 v3 v4 v5
def L_law_1289 (k28 : Option Nat → Option Nat → Option Nat → Option Nat → Option Nat → Int32 → Mr Int32) (v0 : Option Nat) (v1 : Option Nat) (v2 : Option Nat) (v3 : Option Nat) (v4 : Option Nat) (v5 : Int32) (w0 : Int64) (w1 : Int64) : Mr Int32 :=
  if (lg_cmp w0 w1) = 0 then (
    L_law_1295 k28 v0 v1 v2 v3 v4 v5)
  else
    rz 2 0
def L_law_1219 (k28 : Option Nat → Option Nat → Option Nat → Option Nat → Option Nat → Int32 → Mr Int32) (v0 : Option Nat) (v1 : Option Nat) (v2 : Option Nat) (v3 : Option Nat) (v4 : Option Nat) (v5 : Int32) : Mr Int32 :=
  L_law_2756 k28 v0 v1 v2 v3 v4 v5
def L_law_1139 (k28 : Option Nat → Option Nat → Option Nat → Option Nat → Option Nat → Int32 → Mr Int32) (v0 : Option Nat) (v1 : Option Nat) (v2 : Option Nat) (v3 : Option Nat) (v4 : Option Nat) (v5 : Int32) : Mr Int32 :=
  L_law_2756 k28 v0 v1 v2 v3 v4 v5
def L_law_1071 (k28 : Option Nat → Option Nat → Option Nat → Option Nat → Option Nat → Int32 → Mr Int32) (v0 : Option Nat) (v1 : Option Nat) (v2 : Option Nat) (v3 : Option Nat) (v4 : Option Nat) (v5 : Int32) : Mr Int32 :=
  L_law_2756 k28 v0 v1 v2 v3 v4 v5
def L_law_990 (k28 : Option Nat → Option Nat → Option Nat → Option Nat → Option Nat → Int32 → Mr Int32) (v0 : Option Nat) (v1 : Option Nat) (v2 : Option Nat) (v3 : Option Nat) (v4 : Option Nat) (v5 : Int32) : Mr Int32 :=
  L_law_2756 k28 v0 v1 v2 v3 v4 v5
def L_law_897 (k28 : Option Nat → Option Nat → Option Nat → Option Nat → Option Nat → Int32 → Mr Int32) (v0 : Option Nat) (v1 : Option Nat) (v2 : Option Nat) (v3 : Option Nat) (v4 : Option Nat) (v5 : Int32) : Mr Int32 :=
  L_law_2756 k28 v0 v1 v2 v3 v4 v5
def L_law_817 (k28 : Option Nat → Option Nat → Option Nat → Option Nat → Option Nat → Int32 → Mr Int32) (v0 : Option Nat) (v1 : Option Nat) (v2 : Option Nat) (v3 : Option Nat) (v4 : Option Nat) (v5 : Int32) : Mr Int32 :=
  L_law_2756 k28 v0 v1 v2 v3 v4 v5
def L_law_749 (k28 : Option Nat → Option Nat → Option Nat → Option Nat → Option Nat → Int32 → Mr Int32) (v0 : Option Nat) (v1 : Option Nat) (v2 : Option Nat) (v3 : Option Nat) (v4 : Option Nat) (v5 : Int32) : Mr Int32 :=
  L_law_2756 k28 v0 v1 v2 v3 v4 v5
def L_law_669 (k28 : Option Nat → Option Nat → Option Nat → Option Nat → Option Nat → Int32 → Mr Int32) (v0 : Option Nat) (v1 : Option Nat) (v2 : Option Nat) (v3 : Option Nat) (v4 : Option Nat) (v5 : Int32) : Mr Int32 :=
  L_law_2756 k28 v0 v1 v2 v3 v4 v5
def L_law_601 (k28 : Option Nat → Option Nat → Option Nat → Option Nat → Option Nat → Int32 → Mr Int32) (v0 : Option Nat) (v1 : Option Nat) (v2 : Option Nat) (v3 : Option Nat) (v4 : Option Nat) (v5 : Int32) : Mr Int32 :=
  L_law_2756 k28 v0 v1 v2 v3 v4 v5
def L_law_533 (k28 : Option Nat → Option Nat → Option Nat → Option Nat → Option Nat → Int32 → Mr Int32) (v0 : Option Nat) (v1 : Option Nat) (v2 : Option Nat) (v3 : Option Nat) (v4 : Option Nat) (v5 : Int32) : Mr Int32 :=
  L_law_2756 k28 v0 v1 v2 v3 v4 v5
def L_law_477 (k28 : Option Nat → Option Nat → Option Nat → Option Nat → Option Nat → Int32 → Mr Int32) (v0 : Option Nat) (v1 : Option Nat) (v2 : Option Nat) (v3 : Option Nat) (v4 : Option Nat) (v5 : Int32) : Mr Int32 :=
  L_law_2756 k28 v0 v1 v2 v3 v4 v5
def L_law_369 (k28 : Option Nat → Option Nat → Option Nat → Option Nat → Option Nat → Int32 → Mr Int32) (v0 : Option Nat) (v1 : Option Nat) (v2 : Option Nat) (v3 : Option Nat) (v4 : Option Nat) (v5 : Int32) : Mr Int32 :=
  L_law_2756 k28 v0 v1 v2 v3 v4 v5
def L_law_313 (k28 : Option Nat → Option Nat → Option Nat → Option Nat → Option Nat → Int32 → Mr Int32) (v0 : Option Nat) (v1 : Option Nat) (v2 : Option Nat) (v3 : Option Nat) (v4 : Option Nat) (v5 : Int32) : Mr Int32 :=
  L_law_2756 k28 v0 v1 v2 v3 v4 v5
def L_law_28 : Nat → Option Nat → Option Nat → Option Nat → Option Nat → Option Nat → Int32 → Mr Int32
  | 0, _, _, _, _, _, _ => no
  | n + 1, v0, v1, v2, v3, v4, v5 =>
    bd (aN 41 v0) fun x1 =>
    if (x1 - 5) < v5 then (
      rz 2 1)
    else
      bd (aI 41 v0 v5) fun x2 =>
      if (x2 &&& 63).toInt < 0 ∨ 49 < (x2 &&& 63).toInt then (
        L_law_2756 (L_law_28 n) v0 v1 v2 v3 v4 v5)
      else
        if (x2 &&& 63) = 0 then (
          bd (aI 41 v0 (v5 + 1)) fun x3 =>
          bd (X0_appendText v1 x3 v3) fun x4 =>
          bd (aI 41 v0 (v5 + 1)) fun x5 =>
          bd (rc 5 v2) fun h' =>
          bd (X5_appendText h' x5) fun x6 =>
          bd (rc 5 v2) fun h' =>
          bd (X5_thrown h') fun x7 =>
          if x7 = x4 then (
            if ¬ x4 = 0 then (
              L_law_313 (L_law_28 n) v0 v1 v2 v3 v4 v5)
            else
              bd (aL 44 v3 0) fun x8 =>
              if (lg_cmp (x8.toInt64) (x6.toInt64)) = 0 then (
                L_law_313 (L_law_28 n) v0 v1 v2 v3 v4 v5)
              else
                rz 2 0)
          else
            rz 2 0)
        else
          if (x2 &&& 63) = 1 then (
            bd (aI 41 v0 (v5 + 1)) fun x9 =>
            bd (X0_truncateText v1 x9 v3) fun x10 =>
            bd (aI 41 v0 (v5 + 1)) fun x11 =>
            bd (rc 5 v2) fun h' =>
            bd (X5_truncateText h' x11) fun x12 =>
            bd (rc 5 v2) fun h' =>
            bd (X5_thrown h') fun x13 =>
            if x13 = x10 then (
              if ¬ x10 = 0 then (
                L_law_369 (L_law_28 n) v0 v1 v2 v3 v4 v5)
              else
                bd (aL 44 v3 0) fun x14 =>
                if (lg_cmp (x14.toInt64) (x12.toInt64)) = 0 then (
                  L_law_369 (L_law_28 n) v0 v1 v2 v3 v4 v5)
                else
                  rz 2 0)
            else
              rz 2 0)
          else
            if (x2 &&& 63) = 2 then (
              bd (rc 1 v1) fun h' =>
              bd (X1_load h') fun x15 =>
              bd (rc 5 v2) fun h' =>
              bd (X5_load h') fun x16 =>
              if x15 = x16 then (
                L_law_2756 (L_law_28 n) v0 v1 v2 v3 v4 v5)
              else
                rz 2 0)
            else
              if (x2 &&& 63) = 3 then (
                bd (rc 1 v1) fun h' =>
                bd (X1_play h') fun x17 =>
                bd (rc 5 v2) fun h' =>
                bd (X5_play h') fun x18 =>
                if x17 = x18 then (
                  L_law_2756 (L_law_28 n) v0 v1 v2 v3 v4 v5)
                else
                  rz 2 0)
              else
                if (x2 &&& 63) = 4 then (
                  bd (rc 1 v1) fun h' =>
                  bd (X1_errorCode h') fun x19 =>
                  bd (rc 5 v2) fun h' =>
                  bd (X5_errorCode h') fun x20 =>
                  if x19 = x20 then (
                    L_law_2756 (L_law_28 n) v0 v1 v2 v3 v4 v5)
                  else
                    rz 2 0)
                else
                  if (x2 &&& 63) = 5 then (
                    bd (rc 1 v1) fun h' =>
                    bd (X1_errorPosition h') fun x21 =>
                    bd (rc 5 v2) fun h' =>
                    bd (X5_errorPosition h') fun x22 =>
                    if x21 = x22 then (
                      L_law_2756 (L_law_28 n) v0 v1 v2 v3 v4 v5)
                    else
                      rz 2 0)
                  else
                    if (x2 &&& 63) = 6 then (
                      bd (aI 41 v0 (v5 + 1)) fun x23 =>
                      bd (X0_count v1 x23 v3) fun x24 =>
                      bd (aI 41 v0 (v5 + 1)) fun x25 =>
                      bd (rc 5 v2) fun h' =>
                      bd (X5_count h' x25) fun x26 =>
                      bd (rc 5 v2) fun h' =>
                      bd (X5_thrown h') fun x27 =>
                      if x27 = x24 then (
                        if ¬ x24 = 0 then (
                          L_law_477 (L_law_28 n) v0 v1 v2 v3 v4 v5)
                        else
                          bd (aL 44 v3 0) fun x28 =>
                          if (lg_cmp (x28.toInt64) (x26.toInt64)) = 0 then (
                            L_law_477 (L_law_28 n) v0 v1 v2 v3 v4 v5)
                          else
                            rz 2 0)
                      else
                        rz 2 0)
                    else
                      if (x2 &&& 63) = 7 then (
                        bd (aI 41 v0 (v5 + 1)) fun x29 =>
                        bd (X0_tally v1 x29 v3) fun x30 =>
                        bd (aI 41 v0 (v5 + 1)) fun x31 =>
                        bd (rc 5 v2) fun h' =>
                        bd (X5_tally h' x31) fun x32 =>
                        bd (rc 5 v2) fun h' =>
                        bd (X5_thrown h') fun x33 =>
                        if x33 = x30 then (
                          if ¬ x30 = 0 then (
                            L_law_533 (L_law_28 n) v0 v1 v2 v3 v4 v5)
                          else
                            bd (aL 44 v3 0) fun x34 =>
                            if (lg_cmp (x34.toInt64) (x32.toInt64)) = 0 then (
                              L_law_533 (L_law_28 n) v0 v1 v2 v3 v4 v5)
                            else
                              rz 2 0)
                        else
                          rz 2 0)
                      else
                        if (x2 &&& 63) = 8 then (
                          bd (aI 41 v0 (v5 + 1)) fun x35 =>
                          bd (aI 41 v0 (v5 + 2)) fun x36 =>
                          bd (X0_trader v1 x35 x36 v3) fun x37 =>
                          bd (aI 41 v0 (v5 + 1)) fun x38 =>
                          bd (aI 41 v0 (v5 + 2)) fun x39 =>
                          bd (rc 5 v2) fun h' =>
                          bd (X5_trader h' x38 x39) fun x40 =>
                          bd (rc 5 v2) fun h' =>
                          bd (X5_thrown h') fun x41 =>
                          if x41 = x37 then (
                            if ¬ x37 = 0 then (
                              L_law_601 (L_law_28 n) v0 v1 v2 v3 v4 v5)
                            else
                              bd (aL 44 v3 0) fun x42 =>
                              if (lg_cmp (x42.toInt64) (x40.toInt64)) = 0 then (
                                L_law_601 (L_law_28 n) v0 v1 v2 v3 v4 v5)
                              else
                                rz 2 0)
                          else
                            rz 2 0)
                        else
                          if (x2 &&& 63) = 9 then (
                            bd (aI 41 v0 (v5 + 1)) fun x43 =>
                            bd (aI 41 v0 (v5 + 2)) fun x44 =>
                            bd (X0_heap v1 x43 x44 v3) fun x45 =>
                            bd (aI 41 v0 (v5 + 1)) fun x46 =>
                            bd (aI 41 v0 (v5 + 2)) fun x47 =>
                            bd (rc 5 v2) fun h' =>
                            bd (X5_heap h' x46 x47) fun x48 =>
                            bd (rc 5 v2) fun h' =>
                            bd (X5_thrown h') fun x49 =>
                            if x49 = x45 then (
                              if ¬ x45 = 0 then (
                                L_law_669 (L_law_28 n) v0 v1 v2 v3 v4 v5)
                              else
                                bd (aL 44 v3 0) fun x50 =>
                                if (lg_cmp (x50.toInt64) (x48.toInt64)) = 0 then (
                                  L_law_669 (L_law_28 n) v0 v1 v2 v3 v4 v5)
                                else
                                  rz 2 0)
                            else
                              rz 2 0)
                          else
                            if (x2 &&& 63) = 10 then (
                              bd (aI 41 v0 (v5 + 1)) fun x51 =>
                              bd (aI 41 v0 (v5 + 2)) fun x52 =>
                              bd (aI 41 v0 (v5 + 3)) fun x53 =>
                              bd (X0_row v1 x51 x52 x53 v3) fun x54 =>
                              bd (aI 41 v0 (v5 + 1)) fun x55 =>
                              bd (aI 41 v0 (v5 + 2)) fun x56 =>
                              bd (aI 41 v0 (v5 + 3)) fun x57 =>
                              bd (rc 5 v2) fun h' =>
                              bd (X5_row h' x55 x56 x57) fun x58 =>
                              bd (rc 5 v2) fun h' =>
                              bd (X5_thrown h') fun x59 =>
                              if x59 = x54 then (
                                if ¬ x54 = 0 then (
                                  L_law_749 (L_law_28 n) v0 v1 v2 v3 v4 v5)
                                else
                                  bd (aL 44 v3 0) fun x60 =>
                                  if (lg_cmp (x60.toInt64) (x58.toInt64)) = 0 then (
                                    L_law_749 (L_law_28 n) v0 v1 v2 v3 v4 v5)
                                  else
                                    rz 2 0)
                              else
                                rz 2 0)
                            else
                              if (x2 &&& 63) = 11 then (
                                bd (aI 41 v0 (v5 + 1)) fun x61 =>
                                bd (aI 41 v0 (v5 + 2)) fun x62 =>
                                bd (X0_claim v1 x61 x62 v3) fun x63 =>
                                bd (aI 41 v0 (v5 + 1)) fun x64 =>
                                bd (aI 41 v0 (v5 + 2)) fun x65 =>
                                bd (rc 5 v2) fun h' =>
                                bd (X5_claim h' x64 x65) fun x66 =>
                                bd (rc 5 v2) fun h' =>
                                bd (X5_thrown h') fun x67 =>
                                if x67 = x63 then (
                                  if ¬ x63 = 0 then (
                                    L_law_817 (L_law_28 n) v0 v1 v2 v3 v4 v5)
                                  else
                                    bd (aL 44 v3 0) fun x68 =>
                                    if (lg_cmp (x68.toInt64) (x66.toInt64)) = 0 then (
                                      L_law_817 (L_law_28 n) v0 v1 v2 v3 v4 v5)
                                    else
                                      rz 2 0)
                                else
                                  rz 2 0)
                              else
                                if (x2 &&& 63) = 12 then (
                                  bd (aI 41 v0 (v5 + 1)) fun x69 =>
                                  bd (aI 41 v0 (v5 + 2)) fun x70 =>
                                  bd (aI 41 v0 (v5 + 3)) fun x71 =>
                                  bd (X0_paired v1 x69 x70 x71 v3) fun x72 =>
                                  bd (aI 41 v0 (v5 + 1)) fun x73 =>
                                  bd (aI 41 v0 (v5 + 2)) fun x74 =>
                                  bd (aI 41 v0 (v5 + 3)) fun x75 =>
                                  bd (rc 5 v2) fun h' =>
                                  bd (X5_paired h' x73 x74 x75) fun x76 =>
                                  bd (rc 5 v2) fun h' =>
                                  bd (X5_thrown h') fun x77 =>
                                  if x77 = x72 then (
                                    if ¬ x72 = 0 then (
                                      L_law_897 (L_law_28 n) v0 v1 v2 v3 v4 v5)
                                    else
                                      bd (aL 44 v3 0) fun x78 =>
                                      if (lg_cmp (x78.toInt64) (x76.toInt64)) = 0 then (
                                        L_law_897 (L_law_28 n) v0 v1 v2 v3 v4 v5)
                                      else
                                        rz 2 0)
                                  else
                                    rz 2 0)
                                else
                                  if (x2 &&& 63) = 13 then (
                                    bd (aI 41 v0 (v5 + 1)) fun x79 =>
                                    bd (rc 1 v1) fun h' =>
                                    bd (X1_ranked h' x79) fun x80 =>
                                    bd (aI 41 v0 (v5 + 1)) fun x81 =>
                                    bd (rc 5 v2) fun h' =>
                                    bd (X5_ranked h' x81) fun x82 =>
                                    if x80 = x82 then (
                                      L_law_2756 (L_law_28 n) v0 v1 v2 v3 v4 v5)
                                    else
                                      rz 2 0)
                                  else
                                    if (x2 &&& 63) = 14 then (
                                      bd (aI 41 v0 (v5 + 1)) fun x83 =>
                                      bd (aI 41 v0 (v5 + 2)) fun x84 =>
                                      bd (X0_byEye v1 x83 x84 v3) fun x85 =>
                                      bd (aI 41 v0 (v5 + 1)) fun x86 =>
                                      bd (aI 41 v0 (v5 + 2)) fun x87 =>
                                      bd (rc 5 v2) fun h' =>
                                      bd (X5_byEye h' x86 x87) fun x88 =>
                                      bd (rc 5 v2) fun h' =>
                                      bd (X5_thrown h') fun x89 =>
                                      if x89 = x85 then (
                                        if ¬ x85 = 0 then (
                                          L_law_990 (L_law_28 n) v0 v1 v2 v3 v4 v5)
                                        else
                                          bd (aL 44 v3 0) fun x90 =>
                                          if (lg_cmp (x90.toInt64) (x88.toInt64)) = 0 then (
                                            L_law_990 (L_law_28 n) v0 v1 v2 v3 v4 v5)
                                          else
                                            rz 2 0)
                                      else
                                        rz 2 0)
                                    else
                                      if (x2 &&& 63) = 15 then (
                                        bd (rc 1 v1) fun h' =>
                                        bd (X1_errors h') fun x91 =>
                                        bd (rc 5 v2) fun h' =>
                                        bd (X5_errors h') fun x92 =>
                                        if x91 = x92 then (
                                          L_law_2756 (L_law_28 n) v0 v1 v2 v3 v4 v5)
                                        else
                                          rz 2 0)
                                      else
                                        if (x2 &&& 63) = 16 then (
                                          bd (aI 41 v0 (v5 + 1)) fun x93 =>
                                          bd (aI 41 v0 (v5 + 2)) fun x94 =>
                                          bd (X0_fact v1 x93 x94 v3) fun x95 =>
                                          bd (aI 41 v0 (v5 + 1)) fun x96 =>
                                          bd (aI 41 v0 (v5 + 2)) fun x97 =>
                                          bd (rc 5 v2) fun h' =>
                                          bd (X5_fact h' x96 x97) fun x98 =>
                                          bd (rc 5 v2) fun h' =>
                                          bd (X5_thrown h') fun x99 =>
                                          if x99 = x95 then (
                                            if ¬ x95 = 0 then (
                                              L_law_1071 (L_law_28 n) v0 v1 v2 v3 v4 v5)
                                            else
                                              bd (aL 44 v3 0) fun x100 =>
                                              if (lg_cmp (x100.toInt64) (x98.toInt64)) = 0 then (
                                                L_law_1071 (L_law_28 n) v0 v1 v2 v3 v4 v5)
                                              else
                                                rz 2 0)
                                          else
                                            rz 2 0)
                                        else
                                          if (x2 &&& 63) = 17 then (
                                            bd (aI 41 v0 (v5 + 1)) fun x101 =>
                                            bd (aI 41 v0 (v5 + 2)) fun x102 =>
                                            bd (X0_known v1 x101 x102 v3) fun x103 =>
                                            bd (aI 41 v0 (v5 + 1)) fun x104 =>
                                            bd (aI 41 v0 (v5 + 2)) fun x105 =>
                                            bd (rc 5 v2) fun h' =>
                                            bd (X5_known h' x104 x105) fun x106 =>
                                            bd (rc 5 v2) fun h' =>
                                            bd (X5_thrown h') fun x107 =>
                                            if x107 = x103 then (
                                              if ¬ x103 = 0 then (
                                                L_law_1139 (L_law_28 n) v0 v1 v2 v3 v4 v5)
                                              else
                                                bd (aL 44 v3 0) fun x108 =>
                                                if (lg_cmp (x108.toInt64) (x106.toInt64)) = 0 then (
                                                  L_law_1139 (L_law_28 n) v0 v1 v2 v3 v4 v5)
                                                else
                                                  rz 2 0)
                                            else
                                              rz 2 0)
                                          else
                                            if (x2 &&& 63) = 18 then (
                                              bd (aI 41 v0 (v5 + 1)) fun x109 =>
                                              bd (aI 41 v0 (v5 + 2)) fun x110 =>
                                              bd (aI 41 v0 (v5 + 3)) fun x111 =>
                                              bd (X0_why v1 x109 x110 x111 v3) fun x112 =>
                                              bd (aI 41 v0 (v5 + 1)) fun x113 =>
                                              bd (aI 41 v0 (v5 + 2)) fun x114 =>
                                              bd (aI 41 v0 (v5 + 3)) fun x115 =>
                                              bd (rc 5 v2) fun h' =>
                                              bd (X5_why h' x113 x114 x115) fun x116 =>
                                              bd (rc 5 v2) fun h' =>
                                              bd (X5_thrown h') fun x117 =>
                                              if x117 = x112 then (
                                                if ¬ x112 = 0 then (
                                                  L_law_1219 (L_law_28 n) v0 v1 v2 v3 v4 v5)
                                                else
                                                  bd (aL 44 v3 0) fun x118 =>
                                                  if (lg_cmp (x118.toInt64) (x116.toInt64)) = 0 then (
                                                    L_law_1219 (L_law_28 n) v0 v1 v2 v3 v4 v5)
                                                  else
                                                    rz 2 0)
                                              else
                                                rz 2 0)
                                            else
                                              if (x2 &&& 63) = 19 then (
                                                bd (rc 1 v1) fun h' =>
                                                bd (X1_knownPairs h') fun x119 =>
                                                bd (rc 5 v2) fun h' =>
                                                bd (X5_knownPairs h') fun x120 =>
                                                if x119 = x120 then (
                                                  L_law_2756 (L_law_28 n) v0 v1 v2 v3 v4 v5)
                                                else
                                                  rz 2 0)
                                              else
                                                if (x2 &&& 63) = 20 then (
                                                  bd (aI 41 v0 (v5 + 1)) fun x121 =>
                                                  bd (X0_seemsRight v1 x121 v3) fun x122 =>
                                                  bd (aI 41 v0 (v5 + 1)) fun x123 =>
                                                  bd (rc 5 v2) fun h' =>
                                                  bd (X5_seemsRight h' x123) fun x124 =>
                                                  bd (rc 5 v2) fun h' =>
                                                  bd (X5_thrown h') fun x125 =>
                                                  if x125 = x122 then (
                                                    if ¬ x122 = 0 then (
                                                      L_law_1295 (L_law_28 n) v0 v1 v2 v3 v4 v5)
                                                    else
                                                      bd (aL 44 v3 0) fun x126 =>
                                                      if x124 = 0 then (
                                                        L_law_1289 (L_law_28 n) v0 v1 v2 v3 v4 v5 (x126.toInt64) 0)
                                                      else
                                                        L_law_1289 (L_law_28 n) v0 v1 v2 v3 v4 v5 (x126.toInt64) 1)
                                                  else
                                                    rz 2 0)
                                                else
                                                  if (x2 &&& 63) = 21 then (
                                                    bd (aI 41 v0 (v5 + 1)) fun x127 =>
                                                    bd (aI 41 v0 (v5 + 2)) fun x128 =>
                                                    bd (X0_nextPair v1 x127 x128 v3) fun x129 =>
                                                    bd (aI 41 v0 (v5 + 1)) fun x130 =>
                                                    bd (aI 41 v0 (v5 + 2)) fun x131 =>
                                                    bd (rc 5 v2) fun h' =>
                                                    bd (X5_nextPair h' x130 x131) fun x132 =>
                                                    bd (rc 5 v2) fun h' =>
                                                    bd (X5_thrown h') fun x133 =>
                                                    if x133 = x129 then (
                                                      if ¬ x129 = 0 then (
                                                        L_law_1363 (L_law_28 n) v0 v1 v2 v3 v4 v5)
                                                      else
                                                        bd (aL 44 v3 0) fun x134 =>
                                                        if (lg_cmp (x134.toInt64) (x132.toInt64)) = 0 then (
                                                          L_law_1363 (L_law_28 n) v0 v1 v2 v3 v4 v5)
                                                        else
                                                          rz 2 0)
                                                    else
                                                      rz 2 0)
                                                  else
                                                    if (x2 &&& 63) = 22 then (
                                                      bd (aI 41 v0 (v5 + 1)) fun x135 =>
                                                      bd (X0_group v1 x135 v3) fun x136 =>
                                                      bd (aI 41 v0 (v5 + 1)) fun x137 =>
                                                      bd (rc 5 v2) fun h' =>
                                                      bd (X5_group h' x137) fun x138 =>
                                                      bd (rc 5 v2) fun h' =>
                                                      bd (X5_thrown h') fun x139 =>
                                                      if x139 = x136 then (
                                                        if ¬ x136 = 0 then (
                                                          L_law_1419 (L_law_28 n) v0 v1 v2 v3 v4 v5)
                                                        else
                                                          bd (aL 44 v3 0) fun x140 =>
                                                          if (lg_cmp (x140.toInt64) (x138.toInt64)) = 0 then (
                                                            L_law_1419 (L_law_28 n) v0 v1 v2 v3 v4 v5)
                                                          else
                                                            rz 2 0)
                                                      else
                                                        rz 2 0)
                                                    else
                                                      if (x2 &&& 63) = 23 then (
                                                        bd (rc 1 v1) fun h' =>
                                                        bd (X1_groups h') fun x141 =>
                                                        bd (rc 5 v2) fun h' =>
                                                        bd (X5_groups h') fun x142 =>
                                                        if x141 = x142 then (
                                                          L_law_2756 (L_law_28 n) v0 v1 v2 v3 v4 v5)
                                                        else
                                                          rz 2 0)
                                                      else
                                                        if (x2 &&& 63) = 24 then (
                                                          bd (rc 1 v1) fun h' =>
                                                          bd (X1_longestRow h') fun x143 =>
                                                          bd (rc 5 v2) fun h' =>
                                                          bd (X5_longestRow h') fun x144 =>
                                                          if x143 = x144 then (
                                                            L_law_2756 (L_law_28 n) v0 v1 v2 v3 v4 v5)
                                                          else
                                                            rz 2 0)
                                                        else
                                                          if (x2 &&& 63) = 25 then (
                                                            bd (rc 1 v1) fun h' =>
                                                            bd (X1_swappable h') fun x145 =>
                                                            bd (rc 5 v2) fun h' =>
                                                            bd (X5_swappable h') fun x146 =>
                                                            if x145 = x146 then (
                                                              L_law_2756 (L_law_28 n) v0 v1 v2 v3 v4 v5)
                                                            else
                                                              rz 2 0)
                                                          else
                                                            if (x2 &&& 63) = 26 then (
                                                              bd (aI 41 v0 (v5 + 1)) fun x147 =>
                                                              bd (X0_unproved v1 x147 v3) fun x148 =>
                                                              bd (aI 41 v0 (v5 + 1)) fun x149 =>
                                                              bd (rc 5 v2) fun h' =>
                                                              bd (X5_unproved h' x149) fun x150 =>
                                                              bd (rc 5 v2) fun h' =>
                                                              bd (X5_thrown h') fun x151 =>
                                                              if x151 = x148 then (
                                                                if ¬ x148 = 0 then (
                                                                  L_law_1514 (L_law_28 n) v0 v1 v2 v3 v4 v5)
                                                                else
                                                                  bd (aL 44 v3 0) fun x152 =>
                                                                  if (lg_cmp (x152.toInt64) (x150.toInt64)) = 0 then (
                                                                    L_law_1514 (L_law_28 n) v0 v1 v2 v3 v4 v5)
                                                                  else
                                                                    rz 2 0)
                                                              else
                                                                rz 2 0)
                                                            else
                                                              if (x2 &&& 63) = 27 then (
                                                                bd (aI 41 v0 (v5 + 1)) fun x153 =>
                                                                bd (X0_turnsLeft v1 x153 v3) fun x154 =>
                                                                bd (aI 41 v0 (v5 + 1)) fun x155 =>
                                                                bd (rc 5 v2) fun h' =>
                                                                bd (X5_turnsLeft h' x155) fun x156 =>
                                                                bd (rc 5 v2) fun h' =>
                                                                bd (X5_thrown h') fun x157 =>
                                                                if x157 = x154 then (
                                                                  if ¬ x154 = 0 then (
                                                                    L_law_1570 (L_law_28 n) v0 v1 v2 v3 v4 v5)
                                                                  else
                                                                    bd (aL 44 v3 0) fun x158 =>
                                                                    if (lg_cmp (x158.toInt64) (x156.toInt64)) = 0 then (
                                                                      L_law_1570 (L_law_28 n) v0 v1 v2 v3 v4 v5)
                                                                    else
                                                                      rz 2 0)
                                                                else
                                                                  rz 2 0)
                                                              else
                                                                if (x2 &&& 63) = 28 then (
                                                                  bd (aI 41 v0 (v5 + 1)) fun x159 =>
                                                                  bd (X0_nearest v1 x159 v3) fun x160 =>
                                                                  bd (aI 41 v0 (v5 + 1)) fun x161 =>
                                                                  bd (rc 5 v2) fun h' =>
                                                                  bd (X5_nearest h' x161) fun x162 =>
                                                                  bd (rc 5 v2) fun h' =>
                                                                  bd (X5_thrown h') fun x163 =>
                                                                  if x163 = x160 then (
                                                                    if ¬ x160 = 0 then (
                                                                      L_law_1626 (L_law_28 n) v0 v1 v2 v3 v4 v5)
                                                                    else
                                                                      bd (aL 44 v3 0) fun x164 =>
                                                                      if (lg_cmp (x164.toInt64) (x162.toInt64)) = 0 then (
                                                                        L_law_1626 (L_law_28 n) v0 v1 v2 v3 v4 v5)
                                                                      else
                                                                        rz 2 0)
                                                                  else
                                                                    rz 2 0)
                                                                else
                                                                  if (x2 &&& 63) = 29 then (
                                                                    bd (aI 41 v0 (v5 + 1)) fun x165 =>
                                                                    bd (X0_refusals v1 x165 v3) fun x166 =>
                                                                    bd (aI 41 v0 (v5 + 1)) fun x167 =>
                                                                    bd (rc 5 v2) fun h' =>
                                                                    bd (X5_refusals h' x167) fun x168 =>
                                                                    bd (rc 5 v2) fun h' =>
                                                                    bd (X5_thrown h') fun x169 =>
                                                                    if x169 = x166 then (
                                                                      if ¬ x166 = 0 then (
                                                                        L_law_1682 (L_law_28 n) v0 v1 v2 v3 v4 v5)
                                                                      else
                                                                        bd (aL 44 v3 0) fun x170 =>
                                                                        if (lg_cmp (x170.toInt64) (x168.toInt64)) = 0 then (
                                                                          L_law_1682 (L_law_28 n) v0 v1 v2 v3 v4 v5)
                                                                        else
                                                                          rz 2 0)
                                                                    else
                                                                      rz 2 0)
                                                                  else
                                                                    if (x2 &&& 63) = 30 then (
                                                                      bd (rc 1 v1) fun h' =>
                                                                      bd (X1_gap h') fun x171 =>
                                                                      bd (rc 5 v2) fun h' =>
                                                                      bd (X5_gap h') fun x172 =>
                                                                      if x171 = x172 then (
                                                                        L_law_2756 (L_law_28 n) v0 v1 v2 v3 v4 v5)
                                                                      else
                                                                        rz 2 0)
                                                                    else
                                                                      if (x2 &&& 63) = 31 then (
                                                                        bd (aI 41 v0 (v5 + 1)) fun x173 =>
                                                                        bd (X0_honesty v1 x173 v4) fun x174 =>
                                                                        bd (aI 41 v0 (v5 + 1)) fun x175 =>
                                                                        bd (rc 5 v2) fun h' =>
                                                                        bd (X5_honesty h' x175) fun x176 =>
                                                                        bd (rc 5 v2) fun h' =>
                                                                        bd (X5_thrown h') fun x177 =>
                                                                        if x177 = x174 then (
                                                                          if ¬ x174 = 0 then (
                                                                            L_law_1773 (L_law_28 n) v0 v1 v2 v3 v4 v5)
                                                                          else
                                                                            bd (aL 45 v4 0) fun x178 =>
                                                                            bd (f2d x176) fun x179 =>
                                                                            if (Op.cmpValue (FP.dcmp x178 x179) .l) = 0 then (
                                                                              L_law_1773 (L_law_28 n) v0 v1 v2 v3 v4 v5)
                                                                            else
                                                                              bd (aL 45 v4 0) fun x180 =>
                                                                              bd (aL 45 v4 0) fun x181 =>
                                                                              if (Op.cmpValue (FP.dcmp x180 x181) .l) = 0 then (
                                                                                L_law_1771)
                                                                              else
                                                                                if ¬ (Op.cmpValue (FP.fcmp x176 x176) .l) = 0 then (
                                                                                  L_law_1773 (L_law_28 n) v0 v1 v2 v3 v4 v5)
                                                                                else
                                                                                  L_law_1771)
                                                                        else
                                                                          rz 2 0)
                                                                      else
                                                                        if (x2 &&& 63) = 32 then (
                                                                          bd (rc 1 v1) fun h' =>
                                                                          bd (X1_meanTurns h') fun x182 =>
                                                                          bd (rc 5 v2) fun h' =>
                                                                          bd (X5_meanTurns h') fun x183 =>
                                                                          if (Op.cmpValue (FP.dcmp x182 x183) .l) = 0 then (
                                                                            L_law_1814 (L_law_28 n) v0 v1 v2 v3 v4 v5)
                                                                          else
                                                                            if (Op.cmpValue (FP.dcmp x182 x182) .l) = 0 then (
                                                                              L_law_1812)
                                                                            else
                                                                              if ¬ (Op.cmpValue (FP.dcmp x183 x183) .l) = 0 then (
                                                                                L_law_1814 (L_law_28 n) v0 v1 v2 v3 v4 v5)
                                                                              else
                                                                                L_law_1812)
                                                                        else
                                                                          if (x2 &&& 63) = 33 then (
                                                                            bd (aI 41 v0 (v5 + 1)) fun x184 =>
                                                                            bd (aI 41 v0 (v5 + 2)) fun x185 =>
                                                                            bd (aI 41 v0 (v5 + 3)) fun x186 =>
                                                                            bd (aI 41 v0 (v5 + 4)) fun x187 =>
                                                                            bd (X0_ifPut v1 x184 x185 x186 x187 v3) fun x188 =>
                                                                            bd (aI 41 v0 (v5 + 1)) fun x189 =>
                                                                            bd (aI 41 v0 (v5 + 2)) fun x190 =>
                                                                            bd (aI 41 v0 (v5 + 3)) fun x191 =>
                                                                            bd (aI 41 v0 (v5 + 4)) fun x192 =>
                                                                            bd (rc 5 v2) fun h' =>
                                                                            bd (X5_ifPut h' x189 x190 x191 x192) fun x193 =>
                                                                            bd (rc 5 v2) fun h' =>
                                                                            bd (X5_thrown h') fun x194 =>
                                                                            if x194 = x188 then (
                                                                              if ¬ x188 = 0 then (
                                                                                L_law_1906 (L_law_28 n) v0 v1 v2 v3 v4 v5)
                                                                              else
                                                                                bd (aL 44 v3 0) fun x195 =>
                                                                                if (lg_cmp (x195.toInt64) (x193.toInt64)) = 0 then (
                                                                                  L_law_1906 (L_law_28 n) v0 v1 v2 v3 v4 v5)
                                                                                else
                                                                                  rz 2 0)
                                                                            else
                                                                              rz 2 0)
                                                                          else
                                                                            if (x2 &&& 63) = 34 then (
                                                                              bd (aI 41 v0 (v5 + 1)) fun x196 =>
                                                                              bd (aI 41 v0 (v5 + 2)) fun x197 =>
                                                                              bd (X0_ifShown v1 x196 x197 v3) fun x198 =>
                                                                              bd (aI 41 v0 (v5 + 1)) fun x199 =>
                                                                              bd (aI 41 v0 (v5 + 2)) fun x200 =>
                                                                              bd (rc 5 v2) fun h' =>
                                                                              bd (X5_ifShown h' x199 x200) fun x201 =>
                                                                              bd (rc 5 v2) fun h' =>
                                                                              bd (X5_thrown h') fun x202 =>
                                                                              if x202 = x198 then (
                                                                                if ¬ x198 = 0 then (
                                                                                  L_law_1974 (L_law_28 n) v0 v1 v2 v3 v4 v5)
                                                                                else
                                                                                  bd (aL 44 v3 0) fun x203 =>
                                                                                  if (lg_cmp (x203.toInt64) (x201.toInt64)) = 0 then (
                                                                                    L_law_1974 (L_law_28 n) v0 v1 v2 v3 v4 v5)
                                                                                  else
                                                                                    rz 2 0)
                                                                              else
                                                                                rz 2 0)
                                                                            else
                                                                              if (x2 &&& 63) = 35 then (
                                                                                bd (rc 1 v1) fun h' =>
                                                                                bd (X1_bestProof h') fun x204 =>
                                                                                bd (rc 5 v2) fun h' =>
                                                                                bd (X5_bestProof h') fun x205 =>
                                                                                if x204 = x205 then (
                                                                                  L_law_2756 (L_law_28 n) v0 v1 v2 v3 v4 v5)
                                                                                else
                                                                                  rz 2 0)
                                                                              else
                                                                                if (x2 &&& 63) = 36 then (
                                                                                  bd (aI 41 v0 (v5 + 1)) fun x206 =>
                                                                                  bd (X0_ifEye v1 x206 v3) fun x207 =>
                                                                                  bd (aI 41 v0 (v5 + 1)) fun x208 =>
                                                                                  bd (rc 5 v2) fun h' =>
                                                                                  bd (X5_ifEye h' x208) fun x209 =>
                                                                                  bd (rc 5 v2) fun h' =>
                                                                                  bd (X5_thrown h') fun x210 =>
                                                                                  if x210 = x207 then (
                                                                                    if ¬ x207 = 0 then (
                                                                                      L_law_2043 (L_law_28 n) v0 v1 v2 v3 v4 v5)
                                                                                    else
                                                                                      bd (aL 44 v3 0) fun x211 =>
                                                                                      if (lg_cmp (x211.toInt64) (x209.toInt64)) = 0 then (
                                                                                        L_law_2043 (L_law_28 n) v0 v1 v2 v3 v4 v5)
                                                                                      else
                                                                                        rz 2 0)
                                                                                  else
                                                                                    rz 2 0)
                                                                                else
                                                                                  if (x2 &&& 63) = 37 then (
                                                                                    bd (aI 41 v0 (v5 + 1)) fun x212 =>
                                                                                    bd (aI 41 v0 (v5 + 2)) fun x213 =>
                                                                                    bd (aI 41 v0 (v5 + 3)) fun x214 =>
                                                                                    bd (aI 41 v0 (v5 + 4)) fun x215 =>
                                                                                    bd (X0_say v1 x212 x213 x214 x215 v3) fun x216 =>
                                                                                    bd (aI 41 v0 (v5 + 1)) fun x217 =>
                                                                                    bd (aI 41 v0 (v5 + 2)) fun x218 =>
                                                                                    bd (aI 41 v0 (v5 + 3)) fun x219 =>
                                                                                    bd (aI 41 v0 (v5 + 4)) fun x220 =>
                                                                                    bd (rc 5 v2) fun h' =>
                                                                                    bd (X5_say h' x217 x218 x219 x220) fun x221 =>
                                                                                    bd (rc 5 v2) fun h' =>
                                                                                    bd (X5_thrown h') fun x222 =>
                                                                                    if x222 = x216 then (
                                                                                      if ¬ x216 = 0 then (
                                                                                        L_law_2135 (L_law_28 n) v0 v1 v2 v3 v4 v5)
                                                                                      else
                                                                                        bd (aL 44 v3 0) fun x223 =>
                                                                                        if (lg_cmp (x223.toInt64) (x221.toInt64)) = 0 then (
                                                                                          L_law_2135 (L_law_28 n) v0 v1 v2 v3 v4 v5)
                                                                                        else
                                                                                          rz 2 0)
                                                                                    else
                                                                                      rz 2 0)
                                                                                  else
                                                                                    if (x2 &&& 63) = 38 then (
                                                                                      bd (aI 41 v0 (v5 + 1)) fun x224 =>
                                                                                      bd (aI 41 v0 (v5 + 2)) fun x225 =>
                                                                                      bd (aI 41 v0 (v5 + 3)) fun x226 =>
                                                                                      bd (X0_pair v1 x224 x225 x226 v3) fun x227 =>
                                                                                      bd (aI 41 v0 (v5 + 1)) fun x228 =>
                                                                                      bd (aI 41 v0 (v5 + 2)) fun x229 =>
                                                                                      bd (aI 41 v0 (v5 + 3)) fun x230 =>
                                                                                      bd (rc 5 v2) fun h' =>
                                                                                      bd (X5_pair h' x228 x229 x230) fun x231 =>
                                                                                      bd (rc 5 v2) fun h' =>
                                                                                      bd (X5_thrown h') fun x232 =>
                                                                                      if x232 = x227 then (
                                                                                        if ¬ x227 = 0 then (
                                                                                          L_law_2215 (L_law_28 n) v0 v1 v2 v3 v4 v5)
                                                                                        else
                                                                                          bd (aL 44 v3 0) fun x233 =>
                                                                                          if (lg_cmp (x233.toInt64) (x231.toInt64)) = 0 then (
                                                                                            L_law_2215 (L_law_28 n) v0 v1 v2 v3 v4 v5)
                                                                                          else
                                                                                            rz 2 0)
                                                                                      else
                                                                                        rz 2 0)
                                                                                    else
                                                                                      if (x2 &&& 63) = 39 then (
                                                                                        bd (aI 41 v0 (v5 + 1)) fun x234 =>
                                                                                        bd (X0_match v1 x234 v3) fun x235 =>
                                                                                        bd (aI 41 v0 (v5 + 1)) fun x236 =>
                                                                                        bd (rc 5 v2) fun h' =>
                                                                                        bd (X5_match h' x236) fun x237 =>
                                                                                        bd (rc 5 v2) fun h' =>
                                                                                        bd (X5_thrown h') fun x238 =>
                                                                                        if x238 = x235 then (
                                                                                          if ¬ x235 = 0 then (
                                                                                            L_law_2271 (L_law_28 n) v0 v1 v2 v3 v4 v5)
                                                                                          else
                                                                                            bd (aL 44 v3 0) fun x239 =>
                                                                                            if (lg_cmp (x239.toInt64) (x237.toInt64)) = 0 then (
                                                                                              L_law_2271 (L_law_28 n) v0 v1 v2 v3 v4 v5)
                                                                                            else
                                                                                              rz 2 0)
                                                                                        else
                                                                                          rz 2 0)
                                                                                      else
                                                                                        if (x2 &&& 63) = 40 then (
                                                                                          bd (aI 41 v0 (v5 + 1)) fun x240 =>
                                                                                          bd (X0_close v1 x240 v3) fun x241 =>
                                                                                          bd (aI 41 v0 (v5 + 1)) fun x242 =>
                                                                                          bd (rc 5 v2) fun h' =>
                                                                                          bd (X5_close h' x242) fun x243 =>
                                                                                          bd (rc 5 v2) fun h' =>
                                                                                          bd (X5_thrown h') fun x244 =>
                                                                                          if x244 = x241 then (
                                                                                            if ¬ x241 = 0 then (
                                                                                              L_law_2327 (L_law_28 n) v0 v1 v2 v3 v4 v5)
                                                                                            else
                                                                                              bd (aL 44 v3 0) fun x245 =>
                                                                                              if (lg_cmp (x245.toInt64) (x243.toInt64)) = 0 then (
                                                                                                L_law_2327 (L_law_28 n) v0 v1 v2 v3 v4 v5)
                                                                                              else
                                                                                                rz 2 0)
                                                                                          else
                                                                                            rz 2 0)
                                                                                        else
                                                                                          if (x2 &&& 63) = 41 then (
                                                                                            bd (aI 41 v0 (v5 + 1)) fun x246 =>
                                                                                            bd (X0_drop v1 x246 v3) fun x247 =>
                                                                                            bd (aI 41 v0 (v5 + 1)) fun x248 =>
                                                                                            bd (rc 5 v2) fun h' =>
                                                                                            bd (X5_drop h' x248) fun x249 =>
                                                                                            bd (rc 5 v2) fun h' =>
                                                                                            bd (X5_thrown h') fun x250 =>
                                                                                            if x250 = x247 then (
                                                                                              if ¬ x247 = 0 then (
                                                                                                L_law_2383 (L_law_28 n) v0 v1 v2 v3 v4 v5)
                                                                                              else
                                                                                                bd (aL 44 v3 0) fun x251 =>
                                                                                                if (lg_cmp (x251.toInt64) (x249.toInt64)) = 0 then (
                                                                                                  L_law_2383 (L_law_28 n) v0 v1 v2 v3 v4 v5)
                                                                                                else
                                                                                                  rz 2 0)
                                                                                            else
                                                                                              rz 2 0)
                                                                                          else
                                                                                            if (x2 &&& 63) = 42 then (
                                                                                              bd (aI 41 v0 (v5 + 1)) fun x252 =>
                                                                                              bd (aI 41 v0 (v5 + 2)) fun x253 =>
                                                                                              bd (aI 41 v0 (v5 + 3)) fun x254 =>
                                                                                              bd (X0_put v1 x252 x253 x254 v3) fun x255 =>
                                                                                              bd (aI 41 v0 (v5 + 1)) fun x256 =>
                                                                                              bd (aI 41 v0 (v5 + 2)) fun x257 =>
                                                                                              bd (aI 41 v0 (v5 + 3)) fun x258 =>
                                                                                              bd (rc 5 v2) fun h' =>
                                                                                              bd (X5_put h' x256 x257 x258) fun x259 =>
                                                                                              bd (rc 5 v2) fun h' =>
                                                                                              bd (X5_thrown h') fun x260 =>
                                                                                              if x260 = x255 then (
                                                                                                if ¬ x255 = 0 then (
                                                                                                  L_law_2463 (L_law_28 n) v0 v1 v2 v3 v4 v5)
                                                                                                else
                                                                                                  bd (aL 44 v3 0) fun x261 =>
                                                                                                  if (lg_cmp (x261.toInt64) (x259.toInt64)) = 0 then (
                                                                                                    L_law_2463 (L_law_28 n) v0 v1 v2 v3 v4 v5)
                                                                                                  else
                                                                                                    rz 2 0)
                                                                                              else
                                                                                                rz 2 0)
                                                                                            else
                                                                                              if (x2 &&& 63) = 43 then (
                                                                                                bd (aI 41 v0 (v5 + 1)) fun x262 =>
                                                                                                bd (aI 41 v0 (v5 + 2)) fun x263 =>
                                                                                                bd (X0_swap v1 x262 x263 v3) fun x264 =>
                                                                                                bd (aI 41 v0 (v5 + 1)) fun x265 =>
                                                                                                bd (aI 41 v0 (v5 + 2)) fun x266 =>
                                                                                                bd (rc 5 v2) fun h' =>
                                                                                                bd (X5_swap h' x265 x266) fun x267 =>
                                                                                                bd (rc 5 v2) fun h' =>
                                                                                                bd (X5_thrown h') fun x268 =>
                                                                                                if x268 = x264 then (
                                                                                                  if ¬ x264 = 0 then (
                                                                                                    L_law_2531 (L_law_28 n) v0 v1 v2 v3 v4 v5)
                                                                                                  else
                                                                                                    bd (aL 44 v3 0) fun x269 =>
                                                                                                    if (lg_cmp (x269.toInt64) (x267.toInt64)) = 0 then (
                                                                                                      L_law_2531 (L_law_28 n) v0 v1 v2 v3 v4 v5)
                                                                                                    else
                                                                                                      rz 2 0)
                                                                                                else
                                                                                                  rz 2 0)
                                                                                              else
                                                                                                if (x2 &&& 63) = 44 then (
                                                                                                  bd (aI 41 v0 (v5 + 1)) fun x270 =>
                                                                                                  bd (X0_setEye v1 x270 v3) fun x271 =>
                                                                                                  bd (aI 41 v0 (v5 + 1)) fun x272 =>
                                                                                                  bd (rc 5 v2) fun h' =>
                                                                                                  bd (X5_setEye h' x272) fun x273 =>
                                                                                                  bd (rc 5 v2) fun h' =>
                                                                                                  bd (X5_thrown h') fun x274 =>
                                                                                                  if x274 = x271 then (
                                                                                                    if ¬ x271 = 0 then (
                                                                                                      L_law_2587 (L_law_28 n) v0 v1 v2 v3 v4 v5)
                                                                                                    else
                                                                                                      bd (aL 44 v3 0) fun x275 =>
                                                                                                      if (lg_cmp (x275.toInt64) (x273.toInt64)) = 0 then (
                                                                                                        L_law_2587 (L_law_28 n) v0 v1 v2 v3 v4 v5)
                                                                                                      else
                                                                                                        rz 2 0)
                                                                                                  else
                                                                                                    rz 2 0)
                                                                                                else
                                                                                                  if (x2 &&& 63) = 45 then (
                                                                                                    bd (aI 41 v0 (v5 + 1)) fun x276 =>
                                                                                                    bd (X0_write v1 x276 v3) fun x277 =>
                                                                                                    bd (aI 41 v0 (v5 + 1)) fun x278 =>
                                                                                                    bd (rc 5 v2) fun h' =>
                                                                                                    bd (X5_write h' x278) fun x279 =>
                                                                                                    bd (rc 5 v2) fun h' =>
                                                                                                    bd (X5_thrown h') fun x280 =>
                                                                                                    if x280 = x277 then (
                                                                                                      if ¬ x277 = 0 then (
                                                                                                        L_law_2643 (L_law_28 n) v0 v1 v2 v3 v4 v5)
                                                                                                      else
                                                                                                        bd (aL 44 v3 0) fun x281 =>
                                                                                                        if (lg_cmp (x281.toInt64) (x279.toInt64)) = 0 then (
                                                                                                          L_law_2643 (L_law_28 n) v0 v1 v2 v3 v4 v5)
                                                                                                        else
                                                                                                          rz 2 0)
                                                                                                    else
                                                                                                      rz 2 0)
                                                                                                  else
                                                                                                    if (x2 &&& 63) = 46 then (
                                                                                                      bd (aI 41 v0 (v5 + 1)) fun x282 =>
                                                                                                      bd (rc 1 v1) fun h' =>
                                                                                                      bd (X1_output h' x282) fun x283 =>
                                                                                                      bd (aI 41 v0 (v5 + 1)) fun x284 =>
                                                                                                      bd (rc 5 v2) fun h' =>
                                                                                                      bd (X5_output h' x284) fun x285 =>
                                                                                                      if x283 = x285 then (
                                                                                                        L_law_2756 (L_law_28 n) v0 v1 v2 v3 v4 v5)
                                                                                                      else
                                                                                                        rz 2 0)
                                                                                                    else
                                                                                                      if (x2 &&& 63) = 47 then (
                                                                                                        bd (rc 1 v1) fun h' =>
                                                                                                        bd (X1_undo h') fun x286 =>
                                                                                                        bd (rc 5 v2) fun h' =>
                                                                                                        bd (X5_undo h') fun x287 =>
                                                                                                        if x286 = x287 then (
                                                                                                          L_law_2756 (L_law_28 n) v0 v1 v2 v3 v4 v5)
                                                                                                        else
                                                                                                          rz 2 0)
                                                                                                      else
                                                                                                        if (x2 &&& 63) = 48 then (
                                                                                                          bd (aI 41 v0 (v5 + 1)) fun x288 =>
                                                                                                          bd (X0_save v1 x288) fun x289 =>
                                                                                                          bd (aI 41 v0 (v5 + 1)) fun x290 =>
                                                                                                          bd (rc 5 v2) fun h' =>
                                                                                                          bd (X5_save h' x290) fun _ =>
                                                                                                          bd (rc 5 v2) fun h' =>
                                                                                                          bd (X5_thrown h') fun x292 =>
                                                                                                          if x292 = x289 then (
                                                                                                            L_law_2756 (L_law_28 n) v0 v1 v2 v3 v4 v5)
                                                                                                          else
                                                                                                            rz 2 0)
                                                                                                        else
                                                                                                          if (x2 &&& 63) = 49 then (
                                                                                                            bd (aI 41 v0 (v5 + 1)) fun x293 =>
                                                                                                            bd (X0_restore v1 x293) fun x294 =>
                                                                                                            bd (aI 41 v0 (v5 + 1)) fun x295 =>
                                                                                                            bd (rc 5 v2) fun h' =>
                                                                                                            bd (X5_restore h' x295) fun _ =>
                                                                                                            bd (rc 5 v2) fun h' =>
                                                                                                            bd (X5_thrown h') fun x297 =>
                                                                                                            if x297 = x294 then (
                                                                                                              L_law_2756 (L_law_28 n) v0 v1 v2 v3 v4 v5)
                                                                                                            else
                                                                                                              rz 2 0)
                                                                                                          else
                                                                                                            no
def L_law (v0 : Option Nat) : Mr Int32 :=
  bd (nO 1 9) fun q1 =>
  bd (X1_init q1) fun _ =>
  bd (nO 5 21) fun q3 =>
  bd (X5_init q3) fun _ =>
  bd (nA 44 1) fun q5 =>
  bd (nA 45 1) fun q6 =>
  L_law_28 FU v0 (some q1) (some q3) (some q5) (some q6) 0
