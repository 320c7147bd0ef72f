set_option maxRecDepth 100000
def f_X2_grants (k : Nat) (S : Mem) (x1 : Int32) (x2 : Int32) (x3 : Int32) (x4 : Int32) (x5 : Int32) (x6 : Int32) : Option (Mem) :=
  gA 0 6 <| gS (sI S (H_grants k) (Int32.toNatClampNeg 0) x1) fun S1 =>
  gA 1 6 <| gS (sI S1 (H_grants k) (Int32.toNatClampNeg 1) x2) fun S2 =>
  gA 2 6 <| gS (sI S2 (H_grants k) (Int32.toNatClampNeg 2) x3) fun S3 =>
  gA 3 6 <| gS (sI S3 (H_grants k) (Int32.toNatClampNeg 3) x4) fun S4 =>
  gA 4 6 <| gS (sI S4 (H_grants k) (Int32.toNatClampNeg 4) x5) fun S5 =>
  gA 5 6 <| gS (sI S5 (H_grants k) (Int32.toNatClampNeg 5) x6) fun S6 =>
  gS (sI S6 (H_o k) 14 x1) fun S7 =>
  gA 0 2 <|
  gS (sI S7 (W_o k (Int32.toNatClampNeg 0)) 2 x5) fun S9 =>
  gA 1 2 <|
  gS (sI S9 (W_o k (Int32.toNatClampNeg 1)) 2 x6) fun S11 =>
  some (S11)
def f_X1_allow (S : Mem) (x1 : Int32) : Option (Mem) :=
  gA x1 2 <|
  gA x1 2 <|
  gA 0 6 <|
  gA 1 6 <|
  gA 2 6 <|
  gA 3 6 <|
  gA 4 6 <|
  gA 5 6 <|
  (f_X2_grants (Int32.toNatClampNeg x1) S (S.1 (C_grow (Int32.toNatClampNeg x1)) (Int32.toNatClampNeg 0)) (S.1 (C_grow (Int32.toNatClampNeg x1)) (Int32.toNatClampNeg 1)) (S.1 (C_grow (Int32.toNatClampNeg x1)) (Int32.toNatClampNeg 2)) (S.1 (C_grow (Int32.toNatClampNeg x1)) (Int32.toNatClampNeg 3)) (S.1 (C_grow (Int32.toNatClampNeg x1)) (Int32.toNatClampNeg 4)) (S.1 (C_grow (Int32.toNatClampNeg x1)) (Int32.toNatClampNeg 5))).bind fun S3 =>
  some (S3)
def f_X1_in (x0 : Int64) (x2 : Int64) (x4 : Int64) : Int32 :=
  if x0 < x2 then
    ((0 : Int32))
  else
    if x4 < x0 then
      ((0 : Int32))
    else
      ((1 : Int32))
def f_X1_sizeOf (x0 : Int64) : Int32 :=
  if (64 : Int64) ≤ x0 then
    if (16384 : Int64) ≤ x0 then
      if (1073741824 : Int64) ≤ x0 then
        ((8 : Int32))
      else
        ((4 : Int32))
    else
      ((2 : Int32))
  else
    ((1 : Int32))
def f_X2_limits (k : Nat) (S : Mem) (x1 : Int64) (x3 : Int64) (x5 : Int64) (x7 : Int64) (x9 : Int64) (x11 : Int64) : Option (Mem) :=
  gA 1 6 <| gS (sJ S (H_limits k) (Int32.toNatClampNeg 1) x3) fun S1 =>
  gA 2 6 <| gS (sJ S1 (H_limits k) (Int32.toNatClampNeg 2) x5) fun S2 =>
  gA 3 6 <| gS (sJ S2 (H_limits k) (Int32.toNatClampNeg 3) x7) fun S3 =>
  gS (sJ S3 (H_o k) 9 x1) fun S4 =>
  gA 0 2 <|
  gS (sJ S4 (W_o k (Int32.toNatClampNeg 0)) 3 (mnJ x9 (64 : Int64))) fun S6 =>
  gA 1 2 <|
  gS (sJ S6 (W_o k (Int32.toNatClampNeg 1)) 3 (mnJ x11 (64 : Int64))) fun S8 =>
  some (S8)
def f_X2_isOneWay (x0 : Int64) : Int32 :=
  if ((x0 / 2) - (x0 / 2) / 2 * 2) ≠ (1 : Int64) then
    ((0 : Int32))
  else
    ((1 : Int32))
def f_X2_isOwn (k : Nat) (S : Mem) (x1 : Int64) : Int32 :=
  if (x1 - x1 / 2 * 2) ≠ (Int32.toInt64 (S.1 (H_o k) 0)) then
    ((0 : Int32))
  else
    ((1 : Int32))
def f_X2_rule (k : Nat) (S : Mem) (x1 : Int64) (x3 : Int32) : Int32 :=
  gS (f_X2_isOneWay x1) fun v1 =>
  if v1 = (0 : Int32) then
    gS (f_X2_isOwn k S x1) fun v2 =>
    if v2 ≠ x3 then
      ((1 : Int32))
    else
      ((2 : Int32))
  else
    ((3 : Int32))
def f_X2_sending_11 (E : L3 → Bool) (k : Nat) (S : Mem) : Option (Option Nat) :=
  some (none)
def f_X2_sending (E : L3 → Bool) (k : Nat) (S : Mem) (x1 : Int32) : Option (Option Nat) :=
  if x1 < (0 : Int32) then
    f_X2_sending_11 E k S
  else
    if x1 < (256 : Int32) then
      gA x1 256 <|
      if E (S_o k (Int32.toNatClampNeg x1)) = true then
        some (some (Int32.toNatClampNeg x1))
      else
        some (none)
    else
      f_X2_sending_11 E k S
def f_X5_piece_63 (k : Nat) (S : Mem) : Option (Mem × Int32) :=
  gA (S.1 (T_o k) 5) 64 <| gS (sI S (T_at k) (Int32.toNatClampNeg (S.1 (T_o k) 5)) (S.1 (T_o k) 1)) fun S1 =>
  gA (S1.1 (T_o k) 5) 64 <| gS (sI S1 (T_size k) (Int32.toNatClampNeg (S1.1 (T_o k) 5)) 0) fun S2 =>
  gA (S2.1 (T_o k) 5) 64 <| gS (sI S2 (T_next k) (Int32.toNatClampNeg (S2.1 (T_o k) 5)) (-1)) fun S3 =>
  gS (sI S3 (T_o k) 5 ((S3.1 (T_o k) 5) + 1)) fun S4 =>
  some (S4, (S3.1 (T_o k) 5))
def f_X5_piece (k : Nat) (S : Mem) : Option (Mem × Int32) :=
  if (S.1 (T_o k) 5) ≠ (64 : Int32) then
    f_X5_piece_63 k S
  else
    none
def f_X5_add_95 (k : Nat) (S : Mem) (x1 : Nat) (x3 : Int32) (x5 : Int32) : Option (Mem × Int32) :=
  gY S (C_tape) x3 2048 (T_bytes k) (S.1 (T_o k) 1) 65536 x5 fun S1 =>
  gA (S1.1 (S_o k x1) 5) 64 <|
  gA (S1.1 (S_o k x1) 5) 64 <| gS (sI S1 (T_size k) (Int32.toNatClampNeg (S1.1 (S_o k x1) 5)) ((S1.1 (T_size k) (Int32.toNatClampNeg (S1.1 (S_o k x1) 5))) + x5)) fun S2 =>
  gS (sI S2 (T_o k) 1 ((S2.1 (T_o k) 1) + x5)) fun S3 =>
  gS (sI S3 (S_o k x1) 1 ((S3.1 (S_o k x1) 1) + x5)) fun S4 =>
  some (S4, x5)
def f_X5_add_89 (k : Nat) (S : Mem) (x1 : Nat) (x3 : Int32) (x5 : Int32) (x6 : Int32) : Option (Mem × Int32) :=
  gS (sI S (S_o k x1) 5 x6) fun S1 =>
  f_X5_add_95 k S1 x1 x3 x5
def f_X5_add_55 (k : Nat) (S : Mem) (x1 : Nat) (x3 : Int32) (x5 : Int32) : Option (Mem × Int32) :=
  gB2 (f_X5_piece k S) fun S1 v2 =>
  if (S1.1 (S_o k x1) 5) ≠ ((-1) : Int32) then
    gA (S1.1 (S_o k x1) 5) 64 <| gS (sI S1 (T_next k) (Int32.toNatClampNeg (S1.1 (S_o k x1) 5)) v2) fun S3 =>
    f_X5_add_89 k S3 x1 x3 x5 v2
  else
    gS (sI S1 (S_o k x1) 4 v2) fun S4 =>
    f_X5_add_89 k S4 x1 x3 x5 v2
def f_X5_add (k : Nat) (S : Mem) (x1 : Nat) (x3 : Int32) (x4 : Int32) : Option (Mem × Int32) :=
  if (mnI x4 (65536 - (S.1 (T_o k) 1))) ≠ (0 : Int32) then
    if (S.1 (S_o k x1) 5) = ((-1) : Int32) then
      f_X5_add_55 k S x1 x3 (mnI x4 (65536 - (S.1 (T_o k) 1)))
    else
      gA (S.1 (S_o k x1) 5) 64 <|
      gA (S.1 (S_o k x1) 5) 64 <|
      if ((S.1 (T_at k) (Int32.toNatClampNeg (S.1 (S_o k x1) 5))) + (S.1 (T_size k) (Int32.toNatClampNeg (S.1 (S_o k x1) 5)))) = (S.1 (T_o k) 1) then
        f_X5_add_95 k S x1 x3 (mnI x4 (65536 - (S.1 (T_o k) 1)))
      else
        f_X5_add_55 k S x1 x3 (mnI x4 (65536 - (S.1 (T_o k) 1)))
  else
    some (S, (0 : Int32))
def f_X2_write_20 (E : L3 → Bool) (k : Nat) (S : Mem) : Option (Mem × Int32) :=
  some (S, ((-1) : Int32))
def f_X2_write (E : L3 → Bool) (k : Nat) (S : Mem) (x1 : Int32) (x3 : Int32) (x4 : Int32) : Option (Mem × Int32) :=
  (f_X2_sending E k S x1).bind fun v1 =>
  gM v1 (
    f_X2_write_20 E k S) fun j2 =>
    if (S.1 (S_o k j2) 0) = (0 : Int32) then
      gB2 (f_X5_add k S j2 x3 x4) fun S4 v5 =>
      some (S4, v5)
    else
      f_X2_write_20 E k S
def f_X2_finish (E : L3 → Bool) (k : Nat) (S : Mem) (x1 : Int32) : Option (Mem × Int32) :=
  (f_X2_sending E k S x1).bind fun v1 =>
  gM v1 (
    some (S, (0 : Int32))) fun j2 =>
    if (S.1 (S_o k j2) 0) = (0 : Int32) then
      gS (sI S (S_o k j2) 0 1) fun S4 =>
      gS (sI S4 (S_o k j2) 3 1) fun S5 =>
      some (S5, (1 : Int32))
    else
      some (S, (0 : Int32))
def f_X9_isLive_15 (k : Nat) (j : Nat) (S : Mem) : Int32 :=
  ((1 : Int32))
def f_X9_isLive (k : Nat) (j : Nat) (S : Mem) : Int32 :=
  if (S.1 (S_o k j) 0) = (0 : Int32) then
    f_X9_isLive_15 k j S
  else
    if (S.1 (S_o k j) 0) ≠ (1 : Int32) then
      ((0 : Int32))
    else
      f_X9_isLive_15 k j S
def f_X9_reset (k : Nat) (j : Nat) (S : Mem) (x1 : Int64) : Option (Mem) :=
  gS (sI S (S_o k j) 0 3) fun S1 =>
  gS (sJ S1 (S_o k j) 9 x1) fun S2 =>
  gS (sI S2 (S_o k j) 11 1) fun S3 =>
  some (S3)
def f_X2_reset (E : L3 → Bool) (k : Nat) (S : Mem) (x1 : Int32) (x2 : Int64) : Option (Mem × Int32) :=
  (f_X2_sending E k S x1).bind fun v1 =>
  gM v1 (
    some (S, (0 : Int32))) fun j2 =>
    gS (f_X9_isLive k j2 S) fun v4 =>
    if v4 ≠ (0 : Int32) then
      (f_X9_reset k j2 S x2).bind fun S5 =>
      some (S5, (1 : Int32))
    else
      some (S, (0 : Int32))
def f_X2_receiving_11 (E : L3 → Bool) (k : Nat) (S : Mem) : Option (Option Nat) :=
  some (none)
def f_X2_receiving (E : L3 → Bool) (k : Nat) (S : Mem) (x1 : Int32) : Option (Option Nat) :=
  if x1 < (0 : Int32) then
    f_X2_receiving_11 E k S
  else
    if x1 < (256 : Int32) then
      gA x1 256 <|
      if E (R_o k (Int32.toNatClampNeg x1)) = true then
        some (some (Int32.toNatClampNeg x1))
      else
        some (none)
    else
      f_X2_receiving_11 E k S
def f_X10_isLive_15 (k : Nat) (j : Nat) (S : Mem) : Int32 :=
  ((1 : Int32))
def f_X10_isLive (k : Nat) (j : Nat) (S : Mem) : Int32 :=
  if (S.1 (R_o k j) 1) = (0 : Int32) then
    f_X10_isLive_15 k j S
  else
    if (S.1 (R_o k j) 1) ≠ (1 : Int32) then
      ((0 : Int32))
    else
      f_X10_isLive_15 k j S
def f_X2_stop (E : L3 → Bool) (k : Nat) (S : Mem) (x1 : Int32) (x2 : Int64) : Option (Mem × Int32) :=
  (f_X2_receiving E k S x1).bind fun v1 =>
  gM v1 (
    some (S, (0 : Int32))) fun j2 =>
    gS (f_X10_isLive k j2 S) fun v4 =>
    if v4 = (0 : Int32) then
      some (S, (0 : Int32))
    else
      if (S.1 (R_o k j2) 12) = (0 : Int32) then
        gS (sI S (R_o k j2) 12 1) fun S5 =>
        gS (sI S5 (R_o k j2) 11 1) fun S6 =>
        gS (sJ S6 (R_o k j2) 9 x2) fun S7 =>
        some (S7, (1 : Int32))
      else
        some (S, (0 : Int32))
def f_X6_drop (k : Nat) (S : Mem) (x1 : Nat) : Option (Mem) :=
  gA (S.1 (R_o k x1) 7) 64 <|
  gS (sI S (R_o k x1) 7 (S.1 (B_next k) (Int32.toNatClampNeg (S.1 (R_o k x1) 7)))) fun S1 =>
  gA (S.1 (R_o k x1) 7) 64 <| gS (sI S1 (B_next k) (Int32.toNatClampNeg (S.1 (R_o k x1) 7)) (S1.1 (B_o k) 5)) fun S2 =>
  gS (sI S2 (B_o k) 5 (S.1 (R_o k x1) 7)) fun S3 =>
  some (S3)
def f_X6_take_61 (k : Nat) (k3 : Mem → Nat → Int32 → Int32 → Int32 → Option (Mem)) (S : Mem) (x1 : Nat) (x3 : Int32) (x4 : Int32) (x5 : Int32) : Option (Mem) :=
  k3 S x1 x3 x4 (x5 + 1)
def f_X6_take_3_b (k : Nat) (k3 : Mem → Nat → Int32 → Int32 → Int32 → Option (Mem)) (S : Mem) (x1 : Nat) (x3 : Int32) (x4 : Int32) (x5 : Int32) : Option (Mem) :=
  if x4 ≤ x5 then
    some (S)
  else
    gA (((S.1 (R_o k x1) 7) * 64) + ((S.1 (R_o k x1) 2) - (S.1 (R_o k x1) 2) / 64 * 64)) 4096 <|
    gA (x3 + x5) 2048 <| gS (sI S (C_out) (Int32.toNatClampNeg (x3 + x5)) (vp_nar .byte (S.1 (B_bytes k) (Int32.toNatClampNeg (((S.1 (R_o k x1) 7) * 64) + ((S.1 (R_o k x1) 2) - (S.1 (R_o k x1) 2) / 64 * 64)))))) fun S1 =>
    gS (sI S1 (R_o k x1) 2 ((S1.1 (R_o k x1) 2) + 1)) fun S2 =>
    if ((S2.1 (R_o k x1) 2) - (S2.1 (R_o k x1) 2) / 64 * 64) ≠ (0 : Int32) then
      f_X6_take_61 k k3 S2 x1 x3 x4 x5
    else
      (f_X6_drop k S2 x1).bind fun S3 =>
      f_X6_take_61 k k3 S3 x1 x3 x4 x5
def f_X6_take_3 (k : Nat) : Nat → Mem → Nat → Int32 → Int32 → Int32 → Option (Mem)
  | 0, _, _, _, _, _ => none
  | n + 1, S, x1, x3, x4, x5 => f_X6_take_3_b k (f_X6_take_3 k n) S x1 x3 x4 x5
def f_X6_take (k : Nat) (S : Mem) (x1 : Nat) (x3 : Int32) (x4 : Int32) : Option (Mem) :=
  f_X6_take_3 k FU S x1 x3 x4 0
def f_X2_grow (k : Nat) (S : Mem) : Option (Mem) :=
  gA 0 6 <|
  gA 0 6 <|
  gA 0 6 <|
  if (2 * (((S.1 (H_o k) 13) + (S.1 (H_grants k) (Int32.toNatClampNeg 0))) - (S.1 (H_o k) 14))) < (S.1 (H_grants k) (Int32.toNatClampNeg 0)) then
    some (S)
  else
    if (S.1 (H_o k) 14) < (mnI ((S.1 (H_o k) 13) + (S.1 (H_grants k) (Int32.toNatClampNeg 0))) (65536 : Int32)) then
      gS (sI S (H_o k) 14 (mnI ((S.1 (H_o k) 13) + (S.1 (H_grants k) (Int32.toNatClampNeg 0))) (65536 : Int32))) fun S1 =>
      gS (sI S1 (H_o k) 16 1) fun S2 =>
      some (S2)
    else
      some (S)
def f_X2_grow_2 (k : Nat) (S : Mem) (x1 : Nat) : Option (Mem) :=
  if (2 * (((S.1 (R_o k x1) 2) + (S.1 (R_o k x1) 0)) - (S.1 (R_o k x1) 6))) < (S.1 (R_o k x1) 0) then
    some (S)
  else
    if (S.1 (R_o k x1) 6) < (mnI ((S.1 (R_o k x1) 2) + (S.1 (R_o k x1) 0)) (65536 : Int32)) then
      gS (sI S (R_o k x1) 6 (mnI ((S.1 (R_o k x1) 2) + (S.1 (R_o k x1) 0)) (65536 : Int32))) fun S1 =>
      gS (sI S1 (R_o k x1) 10 1) fun S2 =>
      some (S2)
    else
      some (S)
def f_X9_isOver_16 (k : Nat) (j : Nat) (S : Mem) : Int32 :=
  ((1 : Int32))
def f_X9_isOver (k : Nat) (j : Nat) (S : Mem) : Int32 :=
  if (S.1 (S_o k j) 0) = (2 : Int32) then
    f_X9_isOver_16 k j S
  else
    if (S.1 (S_o k j) 0) ≠ (4 : Int32) then
      ((0 : Int32))
    else
      f_X9_isOver_16 k j S
def f_X10_isOver_16 (k : Nat) (j : Nat) (S : Mem) : Int32 :=
  ((1 : Int32))
def f_X10_isOver (k : Nat) (j : Nat) (S : Mem) : Int32 :=
  if (S.1 (R_o k j) 1) = (3 : Int32) then
    f_X10_isOver_16 k j S
  else
    if (S.1 (R_o k j) 1) ≠ (4 : Int32) then
      ((0 : Int32))
    else
      f_X10_isOver_16 k j S
def f_X2_isOver_42 (E : L3 → Bool) (k : Nat) (S : Mem) : Option (Int32) :=
  some ((1 : Int32))
def f_X2_isOver_21 (E : L3 → Bool) (k : Nat) (S : Mem) (x1 : Int32) : Option (Int32) :=
  gA x1 256 <|
  if E (R_o k (Int32.toNatClampNeg x1)) = true then
    gA x1 256 <|
    if E (R_o k (Int32.toNatClampNeg x1)) = true then
      gS (f_X10_isOver k (Int32.toNatClampNeg x1) S) fun v3 =>
      if v3 = (0 : Int32) then
        some ((0 : Int32))
      else
        f_X2_isOver_42 E k S
    else
      none
  else
    f_X2_isOver_42 E k S
def f_X2_isOver (E : L3 → Bool) (k : Nat) (S : Mem) (x1 : Int32) : Option (Int32) :=
  gA x1 256 <|
  if E (S_o k (Int32.toNatClampNeg x1)) = true then
    gA x1 256 <|
    if E (S_o k (Int32.toNatClampNeg x1)) = true then
      gS (f_X9_isOver k (Int32.toNatClampNeg x1) S) fun v3 =>
      if v3 = (0 : Int32) then
        some ((0 : Int32))
      else
        f_X2_isOver_21 E k S x1
    else
      none
  else
    f_X2_isOver_21 E k S x1
def f_X10_settle_43 (k : Nat) (j : Nat) (S : Mem) : Mem :=
  if (S.1 (R_o k j) 1) ≠ (2 : Int32) then
    (S)
  else
    if (S.1 (R_o k j) 2) ≠ (S.1 (R_o k j) 5) then
      (S)
    else
      gS (sI S (R_o k j) 1 3) fun S1 =>
      (S1)
def f_X10_settle_19 (k : Nat) (j : Nat) (S : Mem) : Mem :=
  if (S.1 (R_o k j) 1) ≠ (1 : Int32) then
    f_X10_settle_43 k j S
  else
    if (S.1 (R_o k j) 3) ≠ (S.1 (R_o k j) 5) then
      f_X10_settle_43 k j S
    else
      gS (sI S (R_o k j) 1 2) fun S1 =>
      f_X10_settle_43 k j S1
def f_X10_settle (k : Nat) (j : Nat) (S : Mem) : Mem :=
  if (S.1 (R_o k j) 1) ≠ (0 : Int32) then
    f_X10_settle_19 k j S
  else
    if (S.1 (R_o k j) 5) < (0 : Int32) then
      f_X10_settle_19 k j S
    else
      gS (sI S (R_o k j) 1 1) fun S1 =>
      f_X10_settle_19 k j S1
def f_X2_way_16 (k : Nat) (S : Mem) (y0 : Int32) : Option (Nat) :=
  gA y0 2 <|
  some ((Int32.toNatClampNeg y0))
def f_X2_way (k : Nat) (S : Mem) (x1 : Int64) : Option (Nat) :=
  gS (f_X2_isOneWay x1) fun v1 =>
  if v1 = (0 : Int32) then
    f_X2_way_16 k S 0
  else
    f_X2_way_16 k S 1
def f_X2_mayBeOver_51 (E : L3 → Bool) (k : Nat) (S : Mem) (x3 : Nat) (y0 : Int32) (y1 : Nat) : Option (Mem) :=
  gN .boolean y0 <|
  gS (sI S (W_o k y1) 6 y0) fun S1 =>
  gS (sI S1 (W_o k x3) 2 (mnI ((S1.1 (W_o k x3) 2) + 1) (64 : Int32))) fun S2 =>
  some (S2)
def f_X2_mayBeOver_46 (E : L3 → Bool) (k : Nat) (S : Mem) (x3 : Nat) (y0 : Nat) : Option (Mem) :=
  f_X2_mayBeOver_51 E k S x3 1 y0
def f_X2_mayBeOver (E : L3 → Bool) (k : Nat) (S : Mem) (x1 : Int32) (x2 : Int32) : Option (Mem) :=
  if x2 ≠ (0 : Int32) then
    some (S)
  else
    gS (f_X2_isOwn k S (Int32.toInt64 x1)) fun v1 =>
    if v1 ≠ (0 : Int32) then
      some (S)
    else
      (f_X2_isOver E k S x1).bind fun v2 =>
      if v2 ≠ (0 : Int32) then
        (f_X2_way k S (Int32.toInt64 x1)).bind fun v3 =>
        if (S.1 (W_o k v3) 6) ≠ (0 : Int32) then
          f_X2_mayBeOver_46 E k S v3 v3
        else
          if (64 : Int32) ≤ (S.1 (W_o k v3) 2) then
            f_X2_mayBeOver_51 E k S v3 0 v3
          else
            f_X2_mayBeOver_46 E k S v3 v3
      else
        some (S)
def f_X2_read_91 (E : L3 → Bool) (k : Nat) (S : Mem) (x1 : Int32) (x5 : Nat) (x6 : Int32) : Option (Mem × Int32) :=
  (f_X2_isOver E k S x1).bind fun v1 =>
  gS (f_X10_settle k x5 S) fun S2 =>
  (f_X2_mayBeOver E k S2 x1 v1).bind fun S3 =>
  some (S3, x6)
def f_X2_read (E : L3 → Bool) (k : Nat) (S : Mem) (x1 : Int32) (x3 : Int32) (x4 : Int32) : Option (Mem × Int32) :=
  (f_X2_receiving E k S x1).bind fun v1 =>
  gM v1 (
    some (S, ((-1) : Int32))) fun j2 =>
    if (S.1 (R_o k j2) 1) ≠ (4 : Int32) then
      if (mnI x4 ((S.1 (R_o k j2) 3) - (S.1 (R_o k j2) 2))) ≤ (0 : Int32) then
        f_X2_read_91 E k S x1 j2 (mnI x4 ((S.1 (R_o k j2) 3) - (S.1 (R_o k j2) 2)))
      else
        (f_X6_take k S j2 x3 (mnI x4 ((S.1 (R_o k j2) 3) - (S.1 (R_o k j2) 2)))).bind fun S4 =>
        gS (sI S4 (H_o k) 13 ((S4.1 (H_o k) 13) + (mnI x4 ((S.1 (R_o k j2) 3) - (S.1 (R_o k j2) 2))))) fun S5 =>
        (f_X2_grow k S5).bind fun S6 =>
        if (S6.1 (R_o k j2) 1) ≠ (0 : Int32) then
          f_X2_read_91 E k S6 x1 j2 (mnI x4 ((S.1 (R_o k j2) 3) - (S.1 (R_o k j2) 2)))
        else
          (f_X2_grow_2 k S6 j2).bind fun S7 =>
          f_X2_read_91 E k S7 x1 j2 (mnI x4 ((S.1 (R_o k j2) 3) - (S.1 (R_o k j2) 2)))
    else
      some (S, ((-2) : Int32))
def f_X2_frame_70 (k : Nat) (S : Mem) (x1 : Int32) (x2 : Int64) (x4 : Int64) (x6 : Int64) (x8 : Int32) (y0 : Int32) (y1 : Int32) : Mem × Int32 :=
  if (y1 + y0) ≤ x8 then
    gS (sI S (H_o k) 17 x1) fun S1 =>
    gS (sJ S1 (H_o k) 19 x2) fun S2 =>
    gS (sJ S2 (H_o k) 20 x4) fun S3 =>
    gS (sJ S3 (H_o k) 21 x6) fun S4 =>
    gS (sI S4 (H_o k) 18 0) fun S5 =>
    (S5, (1 : Int32))
  else
    (S, (0 : Int32))
def f_X2_frame_54 (k : Nat) (S : Mem) (x1 : Int32) (x2 : Int64) (x4 : Int64) (x6 : Int64) (x8 : Int32) (x9 : Int32) (y0 : Int32) (y1 : Int32) : Mem × Int32 :=
  if x9 ≤ (2 : Int32) then
    f_X2_frame_70 k S x1 x2 x4 x6 x8 0 (y1 + y0)
  else
    gS (f_X1_sizeOf x6) fun v1 =>
    f_X2_frame_70 k S x1 x2 x4 x6 x8 v1 (y1 + y0)
def f_X2_frame_31 (k : Nat) (S : Mem) (x1 : Int32) (x2 : Int64) (x4 : Int64) (x6 : Int64) (x8 : Int32) (y0 : Int32) : Mem × Int32 :=
  gS (f_X1_sizeOf x2) fun v1 =>
  if y0 ≤ (1 : Int32) then
    f_X2_frame_54 k S x1 x2 x4 x6 x8 y0 0 (1 + v1)
  else
    gS (f_X1_sizeOf x4) fun v2 =>
    f_X2_frame_54 k S x1 x2 x4 x6 x8 y0 v2 (1 + v1)
def f_X2_frame_26 (k : Nat) (S : Mem) (x1 : Int32) (x2 : Int64) (x4 : Int64) (x6 : Int64) (x8 : Int32) : Mem × Int32 :=
  f_X2_frame_31 k S x1 x2 x4 x6 x8 2
def f_X2_frame (k : Nat) (S : Mem) (x1 : Int32) (x2 : Int64) (x4 : Int64) (x6 : Int64) (x8 : Int32) : Mem × Int32 :=
  if x1 ≠ (4 : Int32) then
    if x1 = (5 : Int32) then
      f_X2_frame_26 k S x1 x2 x4 x6 x8
    else
      if x1 = (17 : Int32) then
        f_X2_frame_26 k S x1 x2 x4 x6 x8
      else
        if x1 ≠ (21 : Int32) then
          f_X2_frame_31 k S x1 x2 x4 x6 x8 1
        else
          f_X2_frame_26 k S x1 x2 x4 x6 x8
  else
    f_X2_frame_31 k S x1 x2 x4 x6 x8 3
def f_X2_fillsEnds_65 (E : L3 → Bool) (k : Nat) (k2 : Mem → Int32 → Int32 → Option (Mem × Int32)) (S : Mem) (x1 : Int32) (x2 : Int32) : Option (Mem × Int32) :=
  k2 S x1 (x2 + 1)
def f_X2_fillsEnds_131 (E : L3 → Bool) (k : Nat) (k73 : Mem → Int32 → Int32 → Option (Mem × Int32)) (S : Mem) (x1 : Int32) (x2 : Int32) : Option (Mem × Int32) :=
  k73 S x1 (x2 + 1)
def f_X2_fillsEnds_73_b (E : L3 → Bool) (k : Nat) (k73 : Mem → Int32 → Int32 → Option (Mem × Int32)) (S : Mem) (x1 : Int32) (x2 : Int32) : Option (Mem × Int32) :=
  if (256 : Int32) ≤ x2 then
    some (S, (0 : Int32))
  else
    gA x2 256 <|
    if E (R_o k (Int32.toNatClampNeg x2)) = true then
      gS (f_X10_isLive k (Int32.toNatClampNeg x2) S) fun v2 =>
      if v2 = (0 : Int32) then
        f_X2_fillsEnds_131 E k k73 S x1 x2
      else
        if (S.1 (R_o k (Int32.toNatClampNeg x2)) 11) = (0 : Int32) then
          f_X2_fillsEnds_131 E k k73 S x1 x2
        else
          gS2 (f_X2_frame k S (5 : Int32) (Int32.toInt64 x2) (S.2 (R_o k (Int32.toNatClampNeg x2)) 9) (0 : Int64) x1) fun S3 v4 =>
          if v4 ≠ (0 : Int32) then
            gS (sI S3 (R_o k (Int32.toNatClampNeg x2)) 11 0) fun S5 =>
            some (S5, (1 : Int32))
          else
            f_X2_fillsEnds_131 E k k73 S3 x1 x2
    else
      f_X2_fillsEnds_131 E k k73 S x1 x2
def f_X2_fillsEnds_73 (E : L3 → Bool) (k : Nat) : Nat → Mem → Int32 → Int32 → Option (Mem × Int32)
  | 0, _, _, _ => none
  | n + 1, S, x1, x2 => f_X2_fillsEnds_73_b E k (f_X2_fillsEnds_73 E k n) S x1 x2
def f_X2_fillsEnds_2_b (E : L3 → Bool) (k : Nat) (k2 : Mem → Int32 → Int32 → Option (Mem × Int32)) (S : Mem) (x1 : Int32) (x2 : Int32) : Option (Mem × Int32) :=
  if (256 : Int32) ≤ x2 then
    f_X2_fillsEnds_73 E k FU S x1 0
  else
    gA x2 256 <|
    if E (S_o k (Int32.toNatClampNeg x2)) = true then
      if (S.1 (S_o k (Int32.toNatClampNeg x2)) 0) ≠ (3 : Int32) then
        f_X2_fillsEnds_65 E k k2 S x1 x2
      else
        if (S.1 (S_o k (Int32.toNatClampNeg x2)) 11) = (0 : Int32) then
          f_X2_fillsEnds_65 E k k2 S x1 x2
        else
          gS2 (f_X2_frame k S (4 : Int32) (Int32.toInt64 x2) (S.2 (S_o k (Int32.toNatClampNeg x2)) 9) (Int32.toInt64 (S.1 (S_o k (Int32.toNatClampNeg x2)) 2)) x1) fun S2 v3 =>
          if v3 ≠ (0 : Int32) then
            gS (sI S2 (S_o k (Int32.toNatClampNeg x2)) 11 0) fun S4 =>
            some (S4, (1 : Int32))
          else
            f_X2_fillsEnds_65 E k k2 S2 x1 x2
    else
      f_X2_fillsEnds_65 E k k2 S x1 x2
def f_X2_fillsEnds_2 (E : L3 → Bool) (k : Nat) : Nat → Mem → Int32 → Int32 → Option (Mem × Int32)
  | 0, _, _, _ => none
  | n + 1, S, x1, x2 => f_X2_fillsEnds_2_b E k (f_X2_fillsEnds_2 E k n) S x1 x2
def f_X2_fillsEnds (E : L3 → Bool) (k : Nat) (S : Mem) (x1 : Int32) : Option (Mem × Int32) :=
  f_X2_fillsEnds_2 E k FU S x1 0
def f_X2_fillsGrants_93 (E : L3 → Bool) (k : Nat) (k33 : Mem → Int32 → Int32 → Option (Mem × Int32)) (S : Mem) (x1 : Int32) (x2 : Int32) : Option (Mem × Int32) :=
  k33 S x1 (x2 + 1)
def f_X2_fillsGrants_157 (E : L3 → Bool) (k : Nat) (k101 : Mem → Int32 → Int32 → Option (Mem × Int32)) (S : Mem) (x1 : Int32) (x2 : Int32) : Option (Mem × Int32) :=
  k101 S x1 (x2 + 1)
def f_X2_fillsGrants_101_b (E : L3 → Bool) (k : Nat) (k101 : Mem → Int32 → Int32 → Option (Mem × Int32)) (S : Mem) (x1 : Int32) (x2 : Int32) : Option (Mem × Int32) :=
  if (2 : Int32) ≤ x2 then
    some (S, (0 : Int32))
  else
    gA x2 2 <|
    if (S.1 (W_o k (Int32.toNatClampNeg x2)) 6) = (0 : Int32) then
      f_X2_fillsGrants_157 E k k101 S x1 x2
    else
      gA x2 2 <|
      gS2 (f_X2_frame k S (18 + x2) (Int32.toInt64 (S.1 (W_o k (Int32.toNatClampNeg x2)) 2)) (0 : Int64) (0 : Int64) x1) fun S3 v4 =>
      if v4 ≠ (0 : Int32) then
        gA x2 2 <|
        gS (sI S3 (W_o k (Int32.toNatClampNeg x2)) 6 0) fun S6 =>
        some (S6, (1 : Int32))
      else
        f_X2_fillsGrants_157 E k k101 S3 x1 x2
def f_X2_fillsGrants_101 (E : L3 → Bool) (k : Nat) : Nat → Mem → Int32 → Int32 → Option (Mem × Int32)
  | 0, _, _, _ => none
  | n + 1, S, x1, x2 => f_X2_fillsGrants_101_b E k (f_X2_fillsGrants_101 E k n) S x1 x2
def f_X2_fillsGrants_33_b (E : L3 → Bool) (k : Nat) (k33 : Mem → Int32 → Int32 → Option (Mem × Int32)) (S : Mem) (x1 : Int32) (x2 : Int32) : Option (Mem × Int32) :=
  if (256 : Int32) ≤ x2 then
    f_X2_fillsGrants_101 E k FU S x1 0
  else
    gA x2 256 <|
    if E (R_o k (Int32.toNatClampNeg x2)) = true then
      if (S.1 (R_o k (Int32.toNatClampNeg x2)) 1) ≠ (0 : Int32) then
        f_X2_fillsGrants_93 E k k33 S x1 x2
      else
        if (S.1 (R_o k (Int32.toNatClampNeg x2)) 10) = (0 : Int32) then
          f_X2_fillsGrants_93 E k k33 S x1 x2
        else
          gS2 (f_X2_frame k S (17 : Int32) (Int32.toInt64 x2) (Int32.toInt64 (S.1 (R_o k (Int32.toNatClampNeg x2)) 6)) (0 : Int64) x1) fun S2 v3 =>
          if v3 ≠ (0 : Int32) then
            gS (sI S2 (R_o k (Int32.toNatClampNeg x2)) 10 0) fun S4 =>
            some (S4, (1 : Int32))
          else
            f_X2_fillsGrants_93 E k k33 S2 x1 x2
    else
      f_X2_fillsGrants_93 E k k33 S x1 x2
def f_X2_fillsGrants_33 (E : L3 → Bool) (k : Nat) : Nat → Mem → Int32 → Int32 → Option (Mem × Int32)
  | 0, _, _, _ => none
  | n + 1, S, x1, x2 => f_X2_fillsGrants_33_b E k (f_X2_fillsGrants_33 E k n) S x1 x2
def f_X2_fillsGrants_31 (E : L3 → Bool) (k : Nat) (S : Mem) (x1 : Int32) : Option (Mem × Int32) :=
  f_X2_fillsGrants_33 E k FU S x1 0
def f_X2_fillsGrants (E : L3 → Bool) (k : Nat) (S : Mem) (x1 : Int32) : Option (Mem × Int32) :=
  if (S.1 (H_o k) 16) = (0 : Int32) then
    f_X2_fillsGrants_31 E k S x1
  else
    gS2 (f_X2_frame k S (16 : Int32) (Int32.toInt64 (S.1 (H_o k) 14)) (0 : Int64) (0 : Int64) x1) fun S1 v2 =>
    if v2 = (0 : Int32) then
      f_X2_fillsGrants_31 E k S1 x1
    else
      gS (sI S1 (H_o k) 16 0) fun S3 =>
      some (S3, (1 : Int32))
def f_X2_waits (k : Nat) (S : Mem) (x0 : Option Nat) : Int32 :=
  gM x0 (
    ((0 : Int32))) fun j0 =>
    gS (f_X9_isLive k j0 S) fun v1 =>
    if v1 = (0 : Int32) then
      ((0 : Int32))
    else
      if (S.1 (S_o k j0) 1) ≤ (S.1 (S_o k j0) 2) then
        ((0 : Int32))
      else
        ((1 : Int32))
def f_X2_fillsBlocked_45 (E : L3 → Bool) (k : Nat) (k4 : Mem → Int32 → Int32 → Int32 → Option (Mem × Int32)) (S : Mem) (x1 : Int32) (x3 : Int32) (y0 : Int32) : Option (Mem × Int32) :=
  k4 S x1 y0 (x3 + 1)
def f_X2_fillsBlocked_40 (E : L3 → Bool) (k : Nat) (k4 : Mem → Int32 → Int32 → Int32 → Option (Mem × Int32)) (S : Mem) (x1 : Int32) (x3 : Int32) : Option (Mem × Int32) :=
  f_X2_fillsBlocked_45 E k k4 S x1 x3 1
def f_X2_fillsBlocked_181 (E : L3 → Bool) (k : Nat) (k96 : Mem → Int32 → Int32 → Option (Mem × Int32)) (S : Mem) (x1 : Int32) (x3 : Int32) : Option (Mem × Int32) :=
  k96 S x1 (x3 + 1)
def f_X2_fillsBlocked_264 (E : L3 → Bool) (k : Nat) (k189 : Mem → Int32 → Int32 → Option (Mem × Int32)) (S : Mem) (x1 : Int32) (x3 : Int32) : Option (Mem × Int32) :=
  k189 S x1 (x3 + 1)
def f_X2_fillsBlocked_189_b (E : L3 → Bool) (k : Nat) (k189 : Mem → Int32 → Int32 → Option (Mem × Int32)) (S : Mem) (x1 : Int32) (x3 : Int32) : Option (Mem × Int32) :=
  if (2 : Int32) ≤ x3 then
    some (S, (0 : Int32))
  else
    gA x3 2 <|
    if (S.2 (W_o k (Int32.toNatClampNeg x3)) 4) ≠ (S.2 (W_o k (Int32.toNatClampNeg x3)) 3) then
      f_X2_fillsBlocked_264 E k k189 S x1 x3
    else
      if (S.2 (W_o k (Int32.toNatClampNeg x3)) 5) = (S.2 (W_o k (Int32.toNatClampNeg x3)) 3) then
        f_X2_fillsBlocked_264 E k k189 S x1 x3
      else
        gS2 (f_X2_frame k S (22 + x3) (S.2 (W_o k (Int32.toNatClampNeg x3)) 3) (0 : Int64) (0 : Int64) x1) fun S2 v3 =>
        if v3 ≠ (0 : Int32) then
          gS (sJ S2 (W_o k (Int32.toNatClampNeg x3)) 5 (S2.2 (W_o k (Int32.toNatClampNeg x3)) 3)) fun S4 =>
          some (S4, (1 : Int32))
        else
          f_X2_fillsBlocked_264 E k k189 S2 x1 x3
def f_X2_fillsBlocked_189 (E : L3 → Bool) (k : Nat) : Nat → Mem → Int32 → Int32 → Option (Mem × Int32)
  | 0, _, _, _ => none
  | n + 1, S, x1, x3 => f_X2_fillsBlocked_189_b E k (f_X2_fillsBlocked_189 E k n) S x1 x3
def f_X2_fillsBlocked_96_b (E : L3 → Bool) (k : Nat) (k96 : Mem → Int32 → Int32 → Option (Mem × Int32)) (S : Mem) (x1 : Int32) (x3 : Int32) : Option (Mem × Int32) :=
  if (256 : Int32) ≤ x3 then
    f_X2_fillsBlocked_189 E k FU S x1 0
  else
    gA x3 256 <|
    if E (S_o k (Int32.toNatClampNeg x3)) = true then
      gS (f_X2_waits k S (some (Int32.toNatClampNeg x3))) fun v2 =>
      if v2 = (0 : Int32) then
        f_X2_fillsBlocked_181 E k k96 S x1 x3
      else
        if (Int32.toInt64 (S.1 (S_o k (Int32.toNatClampNeg x3)) 2)) ≠ (S.2 (S_o k (Int32.toNatClampNeg x3)) 8) then
          f_X2_fillsBlocked_181 E k k96 S x1 x3
        else
          if (S.2 (S_o k (Int32.toNatClampNeg x3)) 10) = (S.2 (S_o k (Int32.toNatClampNeg x3)) 8) then
            f_X2_fillsBlocked_181 E k k96 S x1 x3
          else
            gS2 (f_X2_frame k S (21 : Int32) (Int32.toInt64 x3) (S.2 (S_o k (Int32.toNatClampNeg x3)) 8) (0 : Int64) x1) fun S3 v4 =>
            if v4 ≠ (0 : Int32) then
              gS (sJ S3 (S_o k (Int32.toNatClampNeg x3)) 10 (S3.2 (S_o k (Int32.toNatClampNeg x3)) 8)) fun S5 =>
              some (S5, (1 : Int32))
            else
              f_X2_fillsBlocked_181 E k k96 S3 x1 x3
    else
      gS (f_X2_waits k S none) fun v6 =>
      if v6 = (0 : Int32) then
        f_X2_fillsBlocked_181 E k k96 S x1 x3
      else
        none
def f_X2_fillsBlocked_96 (E : L3 → Bool) (k : Nat) : Nat → Mem → Int32 → Int32 → Option (Mem × Int32)
  | 0, _, _, _ => none
  | n + 1, S, x1, x3 => f_X2_fillsBlocked_96_b E k (f_X2_fillsBlocked_96 E k n) S x1 x3
def f_X2_fillsBlocked_94 (E : L3 → Bool) (k : Nat) (S : Mem) (x1 : Int32) : Option (Mem × Int32) :=
  f_X2_fillsBlocked_96 E k FU S x1 0
def f_X2_fillsBlocked_52 (E : L3 → Bool) (k : Nat) (S : Mem) (x1 : Int32) (x2 : Int32) : Option (Mem × Int32) :=
  if x2 = (0 : Int32) then
    f_X2_fillsBlocked_94 E k S x1
  else
    if (S.2 (H_o k) 10) = (S.2 (H_o k) 9) then
      f_X2_fillsBlocked_94 E k S x1
    else
      gS2 (f_X2_frame k S (20 : Int32) (S.2 (H_o k) 9) (0 : Int64) (0 : Int64) x1) fun S1 v2 =>
      if v2 = (0 : Int32) then
        f_X2_fillsBlocked_94 E k S1 x1
      else
        gS (sJ S1 (H_o k) 10 (S1.2 (H_o k) 9)) fun S3 =>
        some (S3, (1 : Int32))
def f_X2_fillsBlocked_4_b (E : L3 → Bool) (k : Nat) (k4 : Mem → Int32 → Int32 → Int32 → Option (Mem × Int32)) (S : Mem) (x1 : Int32) (x2 : Int32) (x3 : Int32) : Option (Mem × Int32) :=
  if (256 : Int32) ≤ x3 then
    f_X2_fillsBlocked_52 E k S x1 x2
  else
    if (Int32.toInt64 (S.1 (H_o k) 11)) ≠ (S.2 (H_o k) 9) then
      f_X2_fillsBlocked_52 E k S x1 x2
    else
      if x2 ≠ (0 : Int32) then
        f_X2_fillsBlocked_40 E k k4 S x1 x3
      else
        gA x3 256 <|
        if E (S_o k (Int32.toNatClampNeg x3)) = true then
          gS (f_X2_waits k S (some (Int32.toNatClampNeg x3))) fun v2 =>
          if v2 = (0 : Int32) then
            f_X2_fillsBlocked_45 E k k4 S x1 x3 0
          else
            f_X2_fillsBlocked_40 E k k4 S x1 x3
        else
          gS (f_X2_waits k S none) fun v3 =>
          if v3 = (0 : Int32) then
            f_X2_fillsBlocked_45 E k k4 S x1 x3 0
          else
            f_X2_fillsBlocked_40 E k k4 S x1 x3
def f_X2_fillsBlocked_4 (E : L3 → Bool) (k : Nat) : Nat → Mem → Int32 → Int32 → Int32 → Option (Mem × Int32)
  | 0, _, _, _, _ => none
  | n + 1, S, x1, x2, x3 => f_X2_fillsBlocked_4_b E k (f_X2_fillsBlocked_4 E k n) S x1 x2 x3
def f_X2_fillsBlocked (E : L3 → Bool) (k : Nat) (S : Mem) (x1 : Int32) : Option (Mem × Int32) :=
  f_X2_fillsBlocked_4 E k FU S x1 0 0
def f_X5_copy_92 (k : Nat) (k12 : Mem → Int32 → Int32 → Int32 → Int32 → Int32 → Option (Mem)) (S : Mem) (x2 : Int32) (x4 : Int32) (x5 : Int32) (x6 : Int32) (x7 : Int32) : Option (Mem) :=
  gA x5 64 <|
  gA x5 64 <|
  k12 S x2 x4 (S.1 (T_next k) (Int32.toNatClampNeg x5)) (x6 + (S.1 (T_size k) (Int32.toNatClampNeg x5))) x7
def f_X5_copy_12_b (k : Nat) (k12 : Mem → Int32 → Int32 → Int32 → Int32 → Int32 → Option (Mem)) (S : Mem) (x2 : Int32) (x4 : Int32) (x5 : Int32) (x6 : Int32) (x7 : Int32) : Option (Mem) :=
  if x5 = ((-1) : Int32) then
    some (S)
  else
    if x4 ≤ x7 then
      some (S)
    else
      gA x5 64 <|
      if (mnI ((S.1 (T_size k) (Int32.toNatClampNeg x5)) - (mxI ((x2 + x7) - x6) (0 : Int32))) (x4 - x7)) ≤ (0 : Int32) then
        f_X5_copy_92 k k12 S x2 x4 x5 x6 x7
      else
        gA x5 64 <|
        gY S (T_bytes k) ((S.1 (T_at k) (Int32.toNatClampNeg x5)) + (mxI ((x2 + x7) - x6) (0 : Int32))) 65536 (H_row k) x7 1200 (mnI ((S.1 (T_size k) (Int32.toNatClampNeg x5)) - (mxI ((x2 + x7) - x6) (0 : Int32))) (x4 - x7)) fun S1 =>
        f_X5_copy_92 k k12 S1 x2 x4 x5 x6 (x7 + (mnI ((S.1 (T_size k) (Int32.toNatClampNeg x5)) - (mxI ((x2 + x7) - x6) (0 : Int32))) (x4 - x7)))
def f_X5_copy_12 (k : Nat) : Nat → Mem → Int32 → Int32 → Int32 → Int32 → Int32 → Option (Mem)
  | 0, _, _, _, _, _, _ => none
  | n + 1, S, x2, x4, x5, x6, x7 => f_X5_copy_12_b k (f_X5_copy_12 k n) S x2 x4 x5 x6 x7
def f_X5_copy (k : Nat) (S : Mem) (x1 : Nat) (x2 : Int32) (x4 : Int32) : Option (Mem) :=
  f_X5_copy_12 k FU S x2 x4 (S.1 (S_o k x1) 4) 0 0
def f_X4_release (k : Nat) (S : Mem) (x1 : Int32) : Option (Mem) :=
  gA x1 64 <| gS (sI S (P_next k) (Int32.toNatClampNeg x1) (S.1 (P_o k) 4)) fun S1 =>
  gS (sI S1 (P_o k) 4 x1) fun S2 =>
  some (S2)
def f_X4_make_102 (k : Nat) (S : Mem) (x1 : Int32) (x2 : Int32) (x3 : Int32) (x4 : Int32) : Option (Mem × Int32) :=
  gA x4 64 <| gS (sI S (P_from k) (Int32.toNatClampNeg x4) x1) fun S1 =>
  gA x4 64 <| gS (sI S1 (P_to k) (Int32.toNatClampNeg x4) x2) fun S2 =>
  gA x4 64 <| gS (sI S2 (P_next k) (Int32.toNatClampNeg x4) x3) fun S3 =>
  some (S3, x4)
def f_X4_make_89 (k : Nat) (S : Mem) (x1 : Int32) (x2 : Int32) (x3 : Int32) : Option (Mem × Int32) :=
  gS (sI S (P_o k) 3 ((S.1 (P_o k) 3) + 1)) fun S1 =>
  f_X4_make_102 k S1 x1 x2 x3 (S.1 (P_o k) 3)
def f_X4_make (k : Nat) (S : Mem) (x1 : Int32) (x2 : Int32) (x3 : Int32) : Option (Mem × Int32) :=
  if (S.1 (P_o k) 4) = ((-1) : Int32) then
    if (S.1 (P_o k) 3) ≠ (64 : Int32) then
      f_X4_make_89 k S x1 x2 x3
    else
      none
  else
    gA (S.1 (P_o k) 4) 64 <|
    gS (sI S (P_o k) 4 (S.1 (P_next k) (Int32.toNatClampNeg (S.1 (P_o k) 4)))) fun S1 =>
    f_X4_make_102 k S1 x1 x2 x3 (S.1 (P_o k) 4)
def f_X4_trim_55 (k : Nat) (S : Mem) (x1 : Int32) (x2 : Int32) : Option (Mem) :=
  gA x1 64 <| gS (sI S (P_to k) (Int32.toNatClampNeg x1) x2) fun S1 =>
  some (S1)
def f_X4_trim (k : Nat) (S : Mem) (x1 : Int32) (x2 : Int32) (x3 : Int32) : Option (Mem) :=
  gA x1 64 <|
  if (S.1 (P_from k) (Int32.toNatClampNeg x1)) < x2 then
    gA x1 64 <|
    if (S.1 (P_to k) (Int32.toNatClampNeg x1)) ≤ x3 then
      f_X4_trim_55 k S x1 x2
    else
      gA x1 64 <|
      gA x1 64 <|
      gB2 (f_X4_make k S x3 (S.1 (P_to k) (Int32.toNatClampNeg x1)) (S.1 (P_next k) (Int32.toNatClampNeg x1))) fun S1 v2 =>
      gA x1 64 <| gS (sI S1 (P_next k) (Int32.toNatClampNeg x1) v2) fun S3 =>
      f_X4_trim_55 k S3 x1 x2
  else
    gA x1 64 <| gS (sI S (P_from k) (Int32.toNatClampNeg x1) x3) fun S4 =>
    some (S4)
def f_X4_cut_123 (k : Nat) (k9 : Mem → Int32 → Int32 → Int32 → Int32 → Int32 → Option (Mem × Int32)) (S : Mem) (x2 : Int32) (x3 : Int32) (x4 : Int32) (x5 : Int32) (x7 : Int32) : Option (Mem × Int32) :=
  k9 S x2 x3 x4 x5 x7
def f_X4_cut_119 (k : Nat) (k9 : Mem → Int32 → Int32 → Int32 → Int32 → Int32 → Option (Mem × Int32)) (S : Mem) (x2 : Int32) (x3 : Int32) (x4 : Int32) (x6 : Int32) (x7 : Int32) : Option (Mem × Int32) :=
  f_X4_cut_123 k k9 S x2 x3 x4 x6 x7
def f_X4_cut_62 (k : Nat) (k9 : Mem → Int32 → Int32 → Int32 → Int32 → Int32 → Option (Mem × Int32)) (S : Mem) (x2 : Int32) (x3 : Int32) (x4 : Int32) (x5 : Int32) (x6 : Int32) (x7 : Int32) (y0 : Int32) : Option (Mem × Int32) :=
  if y0 = (0 : Int32) then
    gA x6 64 <|
    if (S.1 (P_to k) (Int32.toNatClampNeg x6)) ≤ x2 then
      f_X4_cut_119 k k9 S x2 x3 x4 x6 x7
    else
      (f_X4_trim k S x6 x2 x3).bind fun S1 =>
      f_X4_cut_119 k k9 S1 x2 x3 x4 x6 x7
  else
    (f_X4_release k S x6).bind fun S2 =>
    if x5 ≠ ((-1) : Int32) then
      gA x5 64 <| gS (sI S2 (P_next k) (Int32.toNatClampNeg x5) x7) fun S3 =>
      f_X4_cut_123 k k9 S3 x2 x3 x4 x5 x7
    else
      f_X4_cut_123 k k9 S2 x2 x3 x7 x5 x7
def f_X4_cut_61 (k : Nat) (k9 : Mem → Int32 → Int32 → Int32 → Int32 → Int32 → Option (Mem × Int32)) (S : Mem) (x2 : Int32) (x3 : Int32) (x4 : Int32) (x5 : Int32) (x6 : Int32) (x7 : Int32) : Option (Mem × Int32) :=
  f_X4_cut_62 k k9 S x2 x3 x4 x5 x6 x7 0
def f_X4_cut_9_b (k : Nat) (k9 : Mem → Int32 → Int32 → Int32 → Int32 → Int32 → Option (Mem × Int32)) (S : Mem) (x2 : Int32) (x3 : Int32) (x4 : Int32) (x5 : Int32) (x6 : Int32) : Option (Mem × Int32) :=
  if x6 = ((-1) : Int32) then
    some (S, x4)
  else
    gA x6 64 <|
    if x3 ≤ (S.1 (P_from k) (Int32.toNatClampNeg x6)) then
      some (S, x4)
    else
      gA x6 64 <|
      gA x6 64 <|
      if (S.1 (P_from k) (Int32.toNatClampNeg x6)) < x2 then
        f_X4_cut_61 k k9 S x2 x3 x4 x5 x6 (S.1 (P_next k) (Int32.toNatClampNeg x6))
      else
        gA x6 64 <|
        if x3 < (S.1 (P_to k) (Int32.toNatClampNeg x6)) then
          f_X4_cut_61 k k9 S x2 x3 x4 x5 x6 (S.1 (P_next k) (Int32.toNatClampNeg x6))
        else
          f_X4_cut_62 k k9 S x2 x3 x4 x5 x6 (S.1 (P_next k) (Int32.toNatClampNeg x6)) 1
def f_X4_cut_9 (k : Nat) : Nat → Mem → Int32 → Int32 → Int32 → Int32 → Int32 → Option (Mem × Int32)
  | 0, _, _, _, _, _, _ => none
  | n + 1, S, x2, x3, x4, x5, x6 => f_X4_cut_9_b k (f_X4_cut_9 k n) S x2 x3 x4 x5 x6
def f_X4_cut (k : Nat) (S : Mem) (x1 : Int32) (x2 : Int32) (x3 : Int32) : Option (Mem × Int32) :=
  f_X4_cut_9 k FU S x2 x3 x1 (-1) x1
def f_X2_fills_337 (k : Nat) (S : Mem) (x2 : Nat) (x12 : Int32) : Option (Mem × Int32) :=
  gS (sI S (H_o k) 11 ((S.1 (H_o k) 11) + (mxI (x12 - (S.1 (S_o k x2) 2)) (0 : Int32)))) fun S1 =>
  gS (sI S1 (S_o k x2) 2 (mxI (S1.1 (S_o k x2) 2) x12)) fun S2 =>
  if (S2.2 (H_o k) 21) ≠ (1 : Int64) then
    some (S2, (1 : Int32))
  else
    if (S2.1 (S_o k x2) 3) = (4 : Int32) then
      some (S2, (1 : Int32))
    else
      gS (sI S2 (S_o k x2) 3 2) fun S3 =>
      some (S3, (1 : Int32))
def f_X2_fills_310 (k : Nat) (S : Mem) (x2 : Nat) (x4 : Int32) (x5 : Int32) (x12 : Int32) (y0 : Int64) : Option (Mem × Int32) :=
  gS (sJ S (H_o k) 21 y0) fun S1 =>
  if x4 = (0 : Int32) then
    f_X2_fills_337 k S1 x2 x12
  else
    gB2 (f_X4_cut k S1 (S1.1 (S_o k x2) 6) x5 x12) fun S2 v3 =>
    gS (sI S2 (S_o k x2) 6 v3) fun S4 =>
    f_X2_fills_337 k S4 x2 x12
def f_X2_fills_309 (k : Nat) (S : Mem) (x2 : Nat) (x4 : Int32) (x5 : Int32) (x12 : Int32) : Option (Mem × Int32) :=
  f_X2_fills_310 k S x2 x4 x5 x12 0
def f_X2_fills_230 (k : Nat) (S : Mem) (x1 : Int32) (x2 : Nat) (x4 : Int32) (x5 : Int32) (x8 : Int32) (x11 : Int32) : Option (Mem × Int32) :=
  gS (sI S (H_o k) 17 8) fun S1 =>
  gS (sJ S1 (H_o k) 19 (Int32.toInt64 x1)) fun S2 =>
  gS (sJ S2 (H_o k) 20 (Int32.toInt64 x5)) fun S3 =>
  gS (sI S3 (H_o k) 18 (mnI x8 x11)) fun S4 =>
  (f_X5_copy k S4 x2 x5 (S4.1 (H_o k) 18)).bind fun S5 =>
  if (S5.1 (S_o k x2) 0) ≠ (1 : Int32) then
    f_X2_fills_309 k S5 x2 x4 x5 (x5 + (S5.1 (H_o k) 18))
  else
    if (x5 + (S5.1 (H_o k) 18)) ≠ (S5.1 (S_o k x2) 1) then
      f_X2_fills_309 k S5 x2 x4 x5 (x5 + (S5.1 (H_o k) 18))
    else
      f_X2_fills_310 k S5 x2 x4 x5 (x5 + (S5.1 (H_o k) 18)) 1
def f_X2_fills_215 (k : Nat) (S : Mem) (x1 : Int32) (x2 : Nat) (x4 : Int32) (x5 : Int32) (x8 : Int32) (x9 : Int32) (x11 : Int32) (y0 : Int32) (y1 : Int32) : Option (Mem × Int32) :=
  if y1 < y0 then
    some (S, (0 : Int32))
  else
    if x8 ≠ (0 : Int32) then
      f_X2_fills_230 k S x1 x2 x4 x5 x8 x11
    else
      if x9 ≠ (0 : Int32) then
        f_X2_fills_230 k S x1 x2 x4 x5 x8 x11
      else
        some (S, (0 : Int32))
def f_X2_fills_201 (k : Nat) (S : Mem) (x1 : Int32) (x2 : Nat) (x4 : Int32) (x5 : Int32) (x8 : Int32) (x9 : Int32) (y0 : Int32) : Option (Mem × Int32) :=
  if x9 = (0 : Int32) then
    f_X2_fills_215 k S x1 x2 x4 x5 x8 x9 y0 1 y0
  else
    f_X2_fills_215 k S x1 x2 x4 x5 x8 x9 y0 0 y0
def f_X2_fills_175 (k : Nat) (S : Mem) (x1 : Int32) (x2 : Nat) (x4 : Int32) (x5 : Int32) (x8 : Int32) (x9 : Int32) (y0 : Int32) (y1 : Int32) : Option (Mem × Int32) :=
  if (66 : Int32) ≤ (y1 - y0) then
    f_X2_fills_201 k S x1 x2 x4 x5 x8 x9 ((y1 - y0) - 2)
  else
    f_X2_fills_201 k S x1 x2 x4 x5 x8 x9 (mnI ((y1 - y0) - 1) (63 : Int32))
def f_X2_fills_149 (k : Nat) (S : Mem) (x1 : Int32) (x2 : Nat) (x3 : Int32) (x4 : Int32) (x5 : Int32) (x8 : Int32) (y0 : Int32) : Option (Mem × Int32) :=
  gS (f_X1_sizeOf (Int32.toInt64 x1)) fun v1 =>
  if x5 ≠ (0 : Int32) then
    gS (f_X1_sizeOf (Int32.toInt64 x5)) fun v2 =>
    f_X2_fills_175 k S x1 x2 x4 x5 x8 y0 v2 ((x3 - 1) - v1)
  else
    f_X2_fills_175 k S x1 x2 x4 x5 x8 y0 0 ((x3 - 1) - v1)
def f_X2_fills_144 (k : Nat) (S : Mem) (x1 : Int32) (x2 : Nat) (x3 : Int32) (x4 : Int32) (x5 : Int32) (x8 : Int32) : Option (Mem × Int32) :=
  f_X2_fills_149 k S x1 x2 x3 x4 x5 x8 1
def f_X2_fills_148 (k : Nat) (S : Mem) (x1 : Int32) (x2 : Nat) (x3 : Int32) (x4 : Int32) (x5 : Int32) (x8 : Int32) : Option (Mem × Int32) :=
  f_X2_fills_149 k S x1 x2 x3 x4 x5 x8 0
def f_X2_fills_110 (k : Nat) (S : Mem) (x1 : Int32) (x2 : Nat) (x3 : Int32) (x4 : Int32) (x5 : Int32) (y0 : Int32) : Option (Mem × Int32) :=
  if y0 ≠ (0 : Int32) then
    f_X2_fills_148 k S x1 x2 x3 x4 x5 y0
  else
    if (S.1 (S_o k x2) 2) ≠ (S.1 (S_o k x2) 1) then
      f_X2_fills_148 k S x1 x2 x3 x4 x5 y0
    else
      if (S.1 (S_o k x2) 3) = (1 : Int32) then
        f_X2_fills_144 k S x1 x2 x3 x4 x5 y0
      else
        if (S.1 (S_o k x2) 3) ≠ (3 : Int32) then
          f_X2_fills_148 k S x1 x2 x3 x4 x5 y0
        else
          f_X2_fills_144 k S x1 x2 x3 x4 x5 y0
def f_X2_fills_39 (k : Nat) (S : Mem) (x1 : Int32) (x2 : Nat) (x3 : Int32) (x4 : Int32) (y0 : Int32) : Option (Mem × Int32) :=
  if x4 = (0 : Int32) then
    f_X2_fills_110 k S x1 x2 x3 x4 y0 (Int64.toInt32 (mxJ ((mnJ (Int32.toInt64 (S.1 (S_o k x2) 1)) (mnJ (S.2 (S_o k x2) 8) (((Int32.toInt64 (S.1 (S_o k x2) 2)) + (S.2 (H_o k) 9)) - (Int32.toInt64 (S.1 (H_o k) 11))))) - (Int32.toInt64 (S.1 (S_o k x2) 2))) (0 : Int64)))
  else
    gA (S.1 (S_o k x2) 6) 64 <|
    f_X2_fills_110 k S x1 x2 x3 x4 y0 ((S.1 (P_to k) (Int32.toNatClampNeg (S.1 (S_o k x2) 6))) - y0)
def f_X2_fills_13 (k : Nat) (S : Mem) (x1 : Int32) (x2 : Nat) (x3 : Int32) (y0 : Int32) : Option (Mem × Int32) :=
  if y0 = (0 : Int32) then
    f_X2_fills_39 k S x1 x2 x3 y0 (S.1 (S_o k x2) 2)
  else
    gA (S.1 (S_o k x2) 6) 64 <|
    f_X2_fills_39 k S x1 x2 x3 y0 (S.1 (P_from k) (Int32.toNatClampNeg (S.1 (S_o k x2) 6)))
def f_X2_fills (k : Nat) (S : Mem) (x1 : Int32) (x2 : Nat) (x3 : Int32) : Option (Mem × Int32) :=
  if (S.1 (S_o k x2) 6) = ((-1) : Int32) then
    f_X2_fills_13 k S x1 x2 x3 0
  else
    f_X2_fills_13 k S x1 x2 x3 1
def f_X2_fillsStream_62 (E : L3 → Bool) (k : Nat) (k2 : Mem → Int32 → Int32 → Option (Mem × Int32)) (S : Mem) (x1 : Int32) (x2 : Int32) : Option (Mem × Int32) :=
  k2 S x1 (x2 + 1)
def f_X2_fillsStream_2_b (E : L3 → Bool) (k : Nat) (k2 : Mem → Int32 → Int32 → Option (Mem × Int32)) (S : Mem) (x1 : Int32) (x2 : Int32) : Option (Mem × Int32) :=
  if (256 : Int32) < x2 then
    some (S, (0 : Int32))
  else
    gA (((S.1 (H_o k) 15) + x2) - ((S.1 (H_o k) 15) + x2) / 256 * 256) 256 <|
    if E (S_o k (Int32.toNatClampNeg (((S.1 (H_o k) 15) + x2) - ((S.1 (H_o k) 15) + x2) / 256 * 256))) = true then
      gS (f_X9_isLive k (Int32.toNatClampNeg (((S.1 (H_o k) 15) + x2) - ((S.1 (H_o k) 15) + x2) / 256 * 256)) S) fun v2 =>
      if v2 = (0 : Int32) then
        f_X2_fillsStream_62 E k k2 S x1 x2
      else
        gB2 (f_X2_fills k S (((S.1 (H_o k) 15) + x2) - ((S.1 (H_o k) 15) + x2) / 256 * 256) (Int32.toNatClampNeg (((S.1 (H_o k) 15) + x2) - ((S.1 (H_o k) 15) + x2) / 256 * 256)) x1) fun S3 v4 =>
        if v4 ≠ (0 : Int32) then
          gS (sI S3 (H_o k) 15 (((S.1 (H_o k) 15) + x2) - ((S.1 (H_o k) 15) + x2) / 256 * 256)) fun S5 =>
          some (S5, (1 : Int32))
        else
          f_X2_fillsStream_62 E k k2 S3 x1 x2
    else
      f_X2_fillsStream_62 E k k2 S x1 x2
def f_X2_fillsStream_2 (E : L3 → Bool) (k : Nat) : Nat → Mem → Int32 → Int32 → Option (Mem × Int32)
  | 0, _, _, _ => none
  | n + 1, S, x1, x2 => f_X2_fillsStream_2_b E k (f_X2_fillsStream_2 E k n) S x1 x2
def f_X2_fillsStream (E : L3 → Bool) (k : Nat) (S : Mem) (x1 : Int32) : Option (Mem × Int32) :=
  f_X2_fillsStream_2 E k FU S x1 1
def f_X2_fill_32 (E : L3 → Bool) (k : Nat) (S : Mem) : Option (Mem × Int32) :=
  some (S, (1 : Int32))
def f_X2_fill (E : L3 → Bool) (k : Nat) (S : Mem) (x1 : Int32) : Option (Mem × Int32) :=
  gB2 (f_X2_fillsEnds E k S x1) fun S1 v2 =>
  if v2 ≠ (0 : Int32) then
    f_X2_fill_32 E k S1
  else
    gB2 (f_X2_fillsGrants E k S1 x1) fun S3 v4 =>
    if v4 ≠ (0 : Int32) then
      f_X2_fill_32 E k S3
    else
      gB2 (f_X2_fillsBlocked E k S3 x1) fun S5 v6 =>
      if v6 ≠ (0 : Int32) then
        f_X2_fill_32 E k S5
      else
        gB2 (f_X2_fillsStream E k S5 x1) fun S7 v8 =>
        if v8 = (0 : Int32) then
          some (S7, (0 : Int32))
        else
          f_X2_fill_32 E k S7
def f_X2_bytes_38 (k : Nat) (S : Mem) (y0 : Int32) (y1 : Int32) : Int32 :=
  gS (f_X1_sizeOf (Int32.toInt64 (S.1 (H_o k) 18))) fun v1 =>
  ((((y1 + y0) + v1) + (S.1 (H_o k) 18)))
def f_X2_bytes_108 (k : Nat) (S : Mem) (x1 : Int32) : Int32 :=
  if (S.1 (H_o k) 17) ≠ (4 : Int32) then
    (x1)
  else
    gS (f_X1_sizeOf (S.2 (H_o k) 21)) fun v1 =>
    ((x1 + v1))
def f_X2_bytes_98 (k : Nat) (S : Mem) (x1 : Int32) : Int32 :=
  gS (f_X1_sizeOf (S.2 (H_o k) 20)) fun v1 =>
  f_X2_bytes_108 k S (x1 + v1)
def f_X2_bytes (k : Nat) (S : Mem) : Int32 :=
  if (S.1 (H_o k) 17) ≠ (8 : Int32) then
    gS (f_X1_sizeOf (S.2 (H_o k) 19)) fun v1 =>
    if (S.1 (H_o k) 17) = (4 : Int32) then
      f_X2_bytes_98 k S (1 + v1)
    else
      if (S.1 (H_o k) 17) = (5 : Int32) then
        f_X2_bytes_98 k S (1 + v1)
      else
        if (S.1 (H_o k) 17) = (17 : Int32) then
          f_X2_bytes_98 k S (1 + v1)
        else
          if (S.1 (H_o k) 17) ≠ (21 : Int32) then
            f_X2_bytes_108 k S (1 + v1)
          else
            f_X2_bytes_98 k S (1 + v1)
  else
    gS (f_X1_sizeOf (S.2 (H_o k) 19)) fun v2 =>
    if (S.2 (H_o k) 20) ≠ (0 : Int64) then
      gS (f_X1_sizeOf (S.2 (H_o k) 20)) fun v3 =>
      f_X2_bytes_38 k S v3 (1 + v2)
    else
      f_X2_bytes_38 k S 0 (1 + v2)
def f_X2_allowed_70 (k : Nat) (S : Mem) : Option (Int32) :=
  some ((5 : Int32))
def f_X2_allowed_58 (k : Nat) (S : Mem) (x1 : Int64) (x4 : Int32) (y0 : Int32) : Option (Int32) :=
  if x4 = (0 : Int32) then
    f_X2_allowed_70 k S
  else
    if y0 ≠ (0 : Int32) then
      gS (f_X2_isOwn k S x1) fun v1 =>
      if v1 ≠ (0 : Int32) then
        some ((0 : Int32))
      else
        (f_X2_way k S x1).bind fun v2 =>
        if (x1 / 4) < (Int32.toInt64 (S.1 (W_o k v2) 2)) then
          some ((0 : Int32))
        else
          some ((4 : Int32))
    else
      f_X2_allowed_70 k S
def f_X2_allowed_53 (k : Nat) (S : Mem) (x1 : Int64) (x4 : Int32) : Option (Int32) :=
  f_X2_allowed_58 k S x1 x4 1
def f_X2_allowed_35 (k : Nat) (S : Mem) (x1 : Int64) (x3 : Int32) (y0 : Int32) : Option (Int32) :=
  gS (f_X2_isOneWay x1) fun v1 =>
  if v1 = (0 : Int32) then
    f_X2_allowed_53 k S x1 y0
  else
    gS (f_X2_isOwn k S x1) fun v2 =>
    if v2 ≠ x3 then
      f_X2_allowed_58 k S x1 y0 0
    else
      f_X2_allowed_53 k S x1 y0
def f_X2_allowed (k : Nat) (S : Mem) (x1 : Int64) (x3 : Int32) : Option (Int32) :=
  gS (f_X2_isOwn k S x1) fun v1 =>
  if v1 = (0 : Int32) then
    f_X2_allowed_35 k S x1 x3 1
  else
    (f_X2_way k S x1).bind fun v2 =>
    if (Int32.toInt64 (S.1 (W_o k v2) 0)) ≤ (x1 / 4) then
      f_X2_allowed_35 k S x1 x3 0
    else
      f_X2_allowed_35 k S x1 x3 1
def f_X2_fits_141 (E : L3 → Bool) (k : Nat) (S : Mem) : Option (Int32) :=
  some ((3 : Int32))
def f_X2_fits_107 (E : L3 → Bool) (k : Nat) (S : Mem) (x2 : Int64) (x6 : Int32) (y0 : Int32) : Option (Int32) :=
  if (Int32.toInt64 y0) < x2 then
    f_X2_fits_141 E k S
  else
    if ((Int32.toInt64 (S.1 (H_o k) 12)) + (mxJ (x2 - (Int32.toInt64 x6)) (0 : Int64))) ≤ (Int32.toInt64 (S.1 (H_o k) 14)) then
      some ((0 : Int32))
    else
      f_X2_fits_141 E k S
def f_X2_fits_82 (E : L3 → Bool) (k : Nat) (S : Mem) (x1 : Int32) (x2 : Int64) (x5 : Option Nat) (x6 : Int32) : Option (Int32) :=
  gM x5 (
    gS (f_X2_rule k S (Int32.toInt64 x1) (0 : Int32)) fun v1 =>
    gA v1 6 <|
    f_X2_fits_107 E k S x2 x6 (S.1 (H_grants k) (Int32.toNatClampNeg v1))) fun j5 =>
    f_X2_fits_107 E k S x2 x6 (S.1 (R_o k j5) 6)
def f_X2_fits_66 (E : L3 → Bool) (k : Nat) (S : Mem) (x1 : Int32) (x2 : Int64) (x4 : Int32) (x5 : Option Nat) (x6 : Int32) : Option (Int32) :=
  gM x5 (
    if x4 = (0 : Int32) then
      f_X2_fits_82 E k S x1 x2 none x6
    else
      if (Int32.toInt64 x6) ≤ x2 then
        f_X2_fits_82 E k S x1 x2 none x6
      else
        some ((6 : Int32))) fun j5 =>
    if x4 = (0 : Int32) then
      f_X2_fits_82 E k S x1 x2 (some j5) x6
    else
      if (Int32.toInt64 x6) ≤ x2 then
        f_X2_fits_82 E k S x1 x2 (some j5) x6
      else
        some ((6 : Int32))
def f_X2_fits_38 (E : L3 → Bool) (k : Nat) (S : Mem) (x1 : Int32) (x2 : Int64) (x4 : Int32) (x5 : Option Nat) (x6 : Int32) (y0 : Int32) : Option (Int32) :=
  gM x5 (
    if y0 < (0 : Int32) then
      f_X2_fits_66 E k S x1 x2 x4 none x6
    else
      if (Int32.toInt64 y0) < x2 then
        some ((6 : Int32))
      else
        if x4 = (0 : Int32) then
          f_X2_fits_66 E k S x1 x2 x4 none x6
        else
          if x2 ≠ (Int32.toInt64 y0) then
            some ((6 : Int32))
          else
            f_X2_fits_66 E k S x1 x2 x4 none x6) fun j5 =>
    if y0 < (0 : Int32) then
      f_X2_fits_66 E k S x1 x2 x4 (some j5) x6
    else
      if (Int32.toInt64 y0) < x2 then
        some ((6 : Int32))
      else
        if x4 = (0 : Int32) then
          f_X2_fits_66 E k S x1 x2 x4 (some j5) x6
        else
          if x2 ≠ (Int32.toInt64 y0) then
            some ((6 : Int32))
          else
            f_X2_fits_66 E k S x1 x2 x4 (some j5) x6
def f_X2_fits_22 (E : L3 → Bool) (k : Nat) (S : Mem) (x1 : Int32) (x2 : Int64) (x4 : Int32) (x5 : Option Nat) (y0 : Int32) : Option (Int32) :=
  gM x5 (
    f_X2_fits_38 E k S x1 x2 x4 none y0 (-1)) fun j5 =>
    f_X2_fits_38 E k S x1 x2 x4 (some j5) y0 (S.1 (R_o k j5) 5)
def f_X2_fits (E : L3 → Bool) (k : Nat) (S : Mem) (x1 : Int32) (x2 : Int64) (x4 : Int32) : Option (Int32) :=
  gA x1 256 <|
  if E (R_o k (Int32.toNatClampNeg x1)) = true then
    f_X2_fits_22 E k S x1 x2 x4 (some (Int32.toNatClampNeg x1)) (S.1 (R_o k (Int32.toNatClampNeg x1)) 4)
  else
    f_X2_fits_22 E k S x1 x2 x4 none 0
def f_X2_reach (k : Nat) (S : Mem) (x1 : Nat) (x2 : Int32) : Mem :=
  gS (sI S (H_o k) 12 ((S.1 (H_o k) 12) + (mxI (x2 - (S.1 (R_o k x1) 4)) (0 : Int32)))) fun S1 =>
  gS (sI S1 (R_o k x1) 4 (mxI (S1.1 (R_o k x1) 4) x2)) fun S2 =>
  (S2)
def f_X6_make_118 (k : Nat) (S : Mem) (x1 : Int32) (x2 : Int32) (x3 : Int32) : Option (Mem × Int32) :=
  gA x3 64 <| gS (sJ S (B_marks k) (Int32.toNatClampNeg x3) 0) fun S1 =>
  gA x3 64 <| gS (sI S1 (B_index k) (Int32.toNatClampNeg x3) x1) fun S2 =>
  gA x3 64 <| gS (sI S2 (B_next k) (Int32.toNatClampNeg x3) x2) fun S3 =>
  some (S3, x3)
def f_X6_make_106 (k : Nat) (S : Mem) (x1 : Int32) (x2 : Int32) : Option (Mem × Int32) :=
  gS (sI S (B_o k) 4 ((S.1 (B_o k) 4) + 1)) fun S1 =>
  f_X6_make_118 k S1 x1 x2 (S.1 (B_o k) 4)
def f_X6_make (k : Nat) (S : Mem) (x1 : Int32) (x2 : Int32) : Option (Mem × Int32) :=
  if (S.1 (B_o k) 5) = ((-1) : Int32) then
    if (S.1 (B_o k) 4) ≠ (64 : Int32) then
      f_X6_make_106 k S x1 x2
    else
      none
  else
    gA (S.1 (B_o k) 5) 64 <|
    gS (sI S (B_o k) 5 (S.1 (B_next k) (Int32.toNatClampNeg (S.1 (B_o k) 5)))) fun S1 =>
    f_X6_make_118 k S1 x1 x2 (S.1 (B_o k) 5)
def f_X6_block_60 (k : Nat) (S : Mem) (x1 : Nat) (x2 : Int32) (x3 : Int32) (x4 : Int32) : Option (Mem × Int32) :=
  gB2 (f_X6_make k S x2 x4) fun S1 v2 =>
  if x3 ≠ ((-1) : Int32) then
    gA x3 64 <| gS (sI S1 (B_next k) (Int32.toNatClampNeg x3) v2) fun S3 =>
    some (S3, v2)
  else
    gS (sI S1 (R_o k x1) 7 v2) fun S4 =>
    some (S4, v2)
def f_X6_block_40 (k : Nat) (S : Mem) (x1 : Nat) (x2 : Int32) (x3 : Int32) (x4 : Int32) : Option (Mem × Int32) :=
  if x4 = ((-1) : Int32) then
    f_X6_block_60 k S x1 x2 x3 x4
  else
    gA x4 64 <|
    if (S.1 (B_index k) (Int32.toNatClampNeg x4)) ≠ x2 then
      f_X6_block_60 k S x1 x2 x3 x4
    else
      some (S, x4)
def f_X6_block_8_b (k : Nat) (k8 : Mem → Nat → Int32 → Int32 → Int32 → Option (Mem × Int32)) (S : Mem) (x1 : Nat) (x2 : Int32) (x3 : Int32) (x4 : Int32) : Option (Mem × Int32) :=
  if x4 = ((-1) : Int32) then
    f_X6_block_40 k S x1 x2 x3 x4
  else
    gA x4 64 <|
    if x2 ≤ (S.1 (B_index k) (Int32.toNatClampNeg x4)) then
      f_X6_block_40 k S x1 x2 x3 x4
    else
      gA x4 64 <|
      k8 S x1 x2 x4 (S.1 (B_next k) (Int32.toNatClampNeg x4))
def f_X6_block_8 (k : Nat) : Nat → Mem → Nat → Int32 → Int32 → Int32 → Option (Mem × Int32)
  | 0, _, _, _, _, _ => none
  | n + 1, S, x1, x2, x3, x4 => f_X6_block_8_b k (f_X6_block_8 k n) S x1 x2 x3 x4
def f_X6_block (k : Nat) (S : Mem) (x1 : Nat) (x2 : Int32) : Option (Mem × Int32) :=
  f_X6_block_8 k FU S x1 x2 (-1) (S.1 (R_o k x1) 7)
def f_X6_put_124 (k : Nat) (k15 : Mem → Nat → Int32 → L3 → Int32 → Int32 → Int32 → Int32 → Option (Mem)) (S : Mem) (x1 : Nat) (x2 : Int32) (x3 : L3) (x4 : Int32) (x5 : Int32) (x6 : Int32) (x7 : Int32) : Option (Mem) :=
  k15 S x1 x2 x3 x4 x5 x6 (x7 + 1)
def f_X6_put_61 (k : Nat) (k15 : Mem → Nat → Int32 → L3 → Int32 → Int32 → Int32 → Int32 → Option (Mem)) (S : Mem) (x1 : Nat) (x2 : Int32) (x3 : L3) (x4 : Int32) (x5 : Int32) (x6 : Int32) (x7 : Int32) (x8 : Int32) : Option (Mem) :=
  gA x6 64 <|
  if (((S.2 (B_marks k) (Int32.toNatClampNeg x6)) >>> (Int32.toInt64 (x8 - x8 / 64 * 64) &&& 63)) &&& 1) ≠ (1 : Int64) then
    gA (x4 + x7) (blen x3) <|
    gA ((x6 * 64) + (x8 - x8 / 64 * 64)) 4096 <| gS (sI S (B_bytes k) (Int32.toNatClampNeg ((x6 * 64) + (x8 - x8 / 64 * 64))) (vp_nar .byte (S.1 (x3) (Int32.toNatClampNeg (x4 + x7))))) fun S1 =>
    gA x6 64 <|
    gA x6 64 <| gS (sJ S1 (B_marks k) (Int32.toNatClampNeg x6) ((S1.2 (B_marks k) (Int32.toNatClampNeg x6)) ||| (1 <<< (Int32.toInt64 (x8 - x8 / 64 * 64) &&& 63)))) fun S2 =>
    f_X6_put_124 k k15 S2 x1 x2 x3 x4 x5 x6 x7
  else
    f_X6_put_124 k k15 S x1 x2 x3 x4 x5 x6 x7
def f_X6_put_49 (k : Nat) (k15 : Mem → Nat → Int32 → L3 → Int32 → Int32 → Int32 → Int32 → Option (Mem)) (S : Mem) (x1 : Nat) (x2 : Int32) (x3 : L3) (x4 : Int32) (x5 : Int32) (x7 : Int32) (x8 : Int32) : Option (Mem) :=
  gB2 (f_X6_block k S x1 (x8 / 64)) fun S1 v2 =>
  f_X6_put_61 k k15 S1 x1 x2 x3 x4 x5 v2 x7 x8
def f_X6_put_222 (k : Nat) (k136 : Mem → Nat → Int32 → Option (Mem)) (S : Mem) (x1 : Nat) (y0 : Int32) : Option (Mem) :=
  k136 S x1 y0
def f_X6_put_194 (k : Nat) (k136 : Mem → Nat → Int32 → Option (Mem)) (S : Mem) (x1 : Nat) (x6 : Int32) : Option (Mem) :=
  gA x6 64 <|
  if ((S.1 (R_o k x1) 3) / 64) ≤ (S.1 (B_index k) (Int32.toNatClampNeg x6)) then
    f_X6_put_222 k k136 S x1 (-1)
  else
    gA x6 64 <|
    f_X6_put_222 k k136 S x1 (S.1 (B_next k) (Int32.toNatClampNeg x6))
def f_X6_put_142_b (k : Nat) (k136 : Mem → Nat → Int32 → Option (Mem)) (k142 : Mem → Nat → Int32 → Option (Mem)) (S : Mem) (x1 : Nat) (x6 : Int32) : Option (Mem) :=
  gA x6 64 <|
  if (S.1 (B_index k) (Int32.toNatClampNeg x6)) ≠ ((S.1 (R_o k x1) 3) / 64) then
    f_X6_put_194 k k136 S x1 x6
  else
    gA x6 64 <|
    if (((S.2 (B_marks k) (Int32.toNatClampNeg x6)) >>> (Int32.toInt64 ((S.1 (R_o k x1) 3) - (S.1 (R_o k x1) 3) / 64 * 64) &&& 63)) &&& 1) ≠ (1 : Int64) then
      f_X6_put_194 k k136 S x1 x6
    else
      gS (sI S (R_o k x1) 3 ((S.1 (R_o k x1) 3) + 1)) fun S1 =>
      k142 S1 x1 x6
def f_X6_put_142 (k : Nat) (k136 : Mem → Nat → Int32 → Option (Mem)) : Nat → Mem → Nat → Int32 → Option (Mem)
  | 0, _, _, _ => none
  | n + 1, S, x1, x6 => f_X6_put_142_b k k136 (f_X6_put_142 k k136 n) S x1 x6
def f_X6_put_136_b (k : Nat) (k136 : Mem → Nat → Int32 → Option (Mem)) (S : Mem) (x1 : Nat) (x6 : Int32) : Option (Mem) :=
  if x6 = ((-1) : Int32) then
    some (S)
  else
    f_X6_put_142 k k136 FU S x1 x6
def f_X6_put_136 (k : Nat) : Nat → Mem → Nat → Int32 → Option (Mem)
  | 0, _, _, _ => none
  | n + 1, S, x1, x6 => f_X6_put_136_b k (f_X6_put_136 k n) S x1 x6
def f_X6_put_15_b (k : Nat) (k15 : Mem → Nat → Int32 → L3 → Int32 → Int32 → Int32 → Int32 → Option (Mem)) (S : Mem) (x1 : Nat) (x2 : Int32) (x3 : L3) (x4 : Int32) (x5 : Int32) (x6 : Int32) (x7 : Int32) : Option (Mem) :=
  if x5 ≤ x7 then
    f_X6_put_136 k FU S x1 (S.1 (R_o k x1) 7)
  else
    if x6 = ((-1) : Int32) then
      f_X6_put_49 k k15 S x1 x2 x3 x4 x5 x7 (x2 + x7)
    else
      gA x6 64 <|
      if (S.1 (B_index k) (Int32.toNatClampNeg x6)) = ((x2 + x7) / 64) then
        f_X6_put_61 k k15 S x1 x2 x3 x4 x5 x6 x7 (x2 + x7)
      else
        f_X6_put_49 k k15 S x1 x2 x3 x4 x5 x7 (x2 + x7)
def f_X6_put_15 (k : Nat) : Nat → Mem → Nat → Int32 → L3 → Int32 → Int32 → Int32 → Int32 → Option (Mem)
  | 0, _, _, _, _, _, _, _, _ => none
  | n + 1, S, x1, x2, x3, x4, x5, x6, x7 => f_X6_put_15_b k (f_X6_put_15 k n) S x1 x2 x3 x4 x5 x6 x7
def f_X6_put (k : Nat) (S : Mem) (x1 : Nat) (x2 : Int32) (x3 : L3) (x4 : Int32) (x5 : Int32) : Option (Mem) :=
  f_X6_put_15 k FU S x1 x2 x3 x4 x5 (-1) (mxI ((S.1 (R_o k x1) 3) - x2) (0 : Int32))
def f_X2_comes_21 (k : Nat) (S : Mem) (x1 : Nat) (x2 : Int32) (x4 : L3) (x5 : Int32) (x6 : Int32) : Option (Mem) :=
  gS (f_X10_isLive k x1 S) fun v1 =>
  if v1 ≠ (0 : Int32) then
    (f_X6_put k S x1 x2 x4 x5 x6).bind fun S2 =>
    gS (f_X10_settle k x1 S2) fun S3 =>
    some (S3)
  else
    some (S)
def f_X2_comes (k : Nat) (S : Mem) (x1 : Nat) (x2 : Int32) (x3 : Int32) (x4 : L3) (x5 : Int32) (x6 : Int32) : Option (Mem) :=
  gS (f_X2_reach k S x1 (x2 + x6)) fun S1 =>
  if x3 = (0 : Int32) then
    f_X2_comes_21 k S1 x1 x2 x4 x5 x6
  else
    gS (sI S1 (R_o k x1) 5 (x2 + x6)) fun S2 =>
    f_X2_comes_21 k S2 x1 x2 x4 x5 x6
def f_X6_clear_l0_b (k : Nat) (k0 : Mem → Nat → Option (Mem)) (S : Mem) (x1 : Nat) : Option (Mem) :=
  if (S.1 (R_o k x1) 7) = ((-1) : Int32) then
    some (S)
  else
    (f_X6_drop k S x1).bind fun S1 =>
    k0 S1 x1
def f_X6_clear_l0 (k : Nat) : Nat → Mem → Nat → Option (Mem)
  | 0, _, _ => none
  | n + 1, S, x1 => f_X6_clear_l0_b k (f_X6_clear_l0 k n) S x1
def f_X6_clear (k : Nat) (S : Mem) (x1 : Nat) : Option (Mem) := f_X6_clear_l0 k FU S x1
def f_X2_isReset (k : Nat) (S : Mem) (x1 : Nat) (x2 : Int64) (x4 : Int32) : Option (Mem) :=
  gS (f_X2_reach k S x1 x4) fun S1 =>
  gS (f_X10_isLive k x1 S1) fun v2 =>
  if v2 ≠ (0 : Int32) then
    gS (sI S1 (R_o k x1) 1 4) fun S3 =>
    gS (sJ S3 (R_o k x1) 8 x2) fun S4 =>
    gS (sI S4 (R_o k x1) 5 x4) fun S5 =>
    gS (sI S5 (H_o k) 13 ((S5.1 (H_o k) 13) + (x4 - (S5.1 (R_o k x1) 2)))) fun S6 =>
    (f_X6_clear k S6 x1).bind fun S7 =>
    (f_X2_grow k S7).bind fun S8 =>
    some (S8)
  else
    some (S1)
def f_X4_add_113 (k : Nat) (S : Mem) (x1 : Int32) (x4 : Int32) (x5 : Int32) (x6 : Int32) (x7 : Int32) : Option (Mem × Int32) :=
  gB2 (f_X4_make k S x6 x7 x5) fun S1 v2 =>
  if x4 ≠ ((-1) : Int32) then
    gA x4 64 <| gS (sI S1 (P_next k) (Int32.toNatClampNeg x4) v2) fun S3 =>
    some (S3, x1)
  else
    some (S1, v2)
def f_X4_add_45_b (k : Nat) (k45 : Mem → Int32 → Int32 → Int32 → Int32 → Int32 → Option (Mem × Int32)) (S : Mem) (x1 : Int32) (x4 : Int32) (x5 : Int32) (x6 : Int32) (x7 : Int32) : Option (Mem × Int32) :=
  if x5 = ((-1) : Int32) then
    f_X4_add_113 k S x1 x4 x5 x6 x7
  else
    gA x5 64 <|
    if x7 < (S.1 (P_from k) (Int32.toNatClampNeg x5)) then
      f_X4_add_113 k S x1 x4 x5 x6 x7
    else
      gA x5 64 <|
      gA x5 64 <|
      gA x5 64 <|
      (f_X4_release k S x5).bind fun S1 =>
      k45 S1 x1 x4 (S.1 (P_next k) (Int32.toNatClampNeg x5)) (mnI x6 (S.1 (P_from k) (Int32.toNatClampNeg x5))) (mxI x7 (S.1 (P_to k) (Int32.toNatClampNeg x5)))
def f_X4_add_45 (k : Nat) : Nat → Mem → Int32 → Int32 → Int32 → Int32 → Int32 → Option (Mem × Int32)
  | 0, _, _, _, _, _, _ => none
  | n + 1, S, x1, x4, x5, x6, x7 => f_X4_add_45_b k (f_X4_add_45 k n) S x1 x4 x5 x6 x7
def f_X4_add_12_b (k : Nat) (k12 : Mem → Int32 → Int32 → Int32 → Int32 → Int32 → Int32 → Option (Mem × Int32)) (S : Mem) (x1 : Int32) (x2 : Int32) (x4 : Int32) (x5 : Int32) (x6 : Int32) (x7 : Int32) : Option (Mem × Int32) :=
  if x5 = ((-1) : Int32) then
    f_X4_add_45 k FU S x1 x4 x5 x6 x7
  else
    gA x5 64 <|
    if x2 ≤ (S.1 (P_to k) (Int32.toNatClampNeg x5)) then
      f_X4_add_45 k FU S x1 x4 x5 x6 x7
    else
      gA x5 64 <|
      k12 S x1 x2 x5 (S.1 (P_next k) (Int32.toNatClampNeg x5)) x6 x7
def f_X4_add_12 (k : Nat) : Nat → Mem → Int32 → Int32 → Int32 → Int32 → Int32 → Int32 → Option (Mem × Int32)
  | 0, _, _, _, _, _, _, _ => none
  | n + 1, S, x1, x2, x4, x5, x6, x7 => f_X4_add_12_b k (f_X4_add_12 k n) S x1 x2 x4 x5 x6 x7
def f_X4_add (k : Nat) (S : Mem) (x1 : Int32) (x2 : Int32) (x3 : Int32) : Option (Mem × Int32) :=
  f_X4_add_12 k FU S x1 x2 (-1) x1 x2 x3
def f_X4_count_4_b (k : Nat) (S : Mem) (k4 : Int32 → Int32 → Option (Int32)) (x2 : Int32) (x3 : Int32) : Option (Int32) :=
  if x3 = ((-1) : Int32) then
    some (x2)
  else
    gA x3 64 <|
    gA x3 64 <|
    gA x3 64 <|
    k4 (x2 + ((S.1 (P_to k) (Int32.toNatClampNeg x3)) - (S.1 (P_from k) (Int32.toNatClampNeg x3)))) (S.1 (P_next k) (Int32.toNatClampNeg x3))
def f_X4_count_4 (k : Nat) (S : Mem) : Nat → Int32 → Int32 → Option (Int32)
  | 0, _, _ => none
  | n + 1, x2, x3 => f_X4_count_4_b k S (f_X4_count_4 k S n) x2 x3
def f_X4_count (k : Nat) (S : Mem) (x1 : Int32) : Option (Int32) :=
  f_X4_count_4 k S FU 0 x1
def f_X2_isGone_57 (k : Nat) (S : Mem) (x1 : Nat) : Option (Mem) :=
  if (S.1 (S_o k x1) 0) ≠ (1 : Int32) then
    some (S)
  else
    if (S.1 (S_o k x1) 3) ≠ (4 : Int32) then
      some (S)
    else
      (f_X4_count k S (S.1 (S_o k x1) 7)).bind fun v1 =>
      if v1 ≠ (S.1 (S_o k x1) 1) then
        some (S)
      else
        gS (sI S (S_o k x1) 0 2) fun S2 =>
        some (S2)
def f_X2_isGone_47 (k : Nat) (S : Mem) (x1 : Nat) (x4 : Int32) : Option (Mem) :=
  if x4 = (0 : Int32) then
    f_X2_isGone_57 k S x1
  else
    gS (sI S (S_o k x1) 3 4) fun S1 =>
    f_X2_isGone_57 k S1 x1
def f_X2_isGone_186 (k : Nat) (S : Mem) (x1 : Nat) (x4 : Int32) : Option (Mem) :=
  if x4 = (0 : Int32) then
    some (S)
  else
    if (S.1 (S_o k x1) 3) = (4 : Int32) then
      some (S)
    else
      gS (sI S (S_o k x1) 3 3) fun S1 =>
      some (S1)
def f_X2_isGone_126_b (k : Nat) (k126 : Mem → Nat → Int32 → Int32 → Int32 → Option (Mem)) (S : Mem) (x1 : Nat) (x3 : Int32) (x4 : Int32) (x6 : Int32) : Option (Mem) :=
  if x6 = ((-1) : Int32) then
    f_X2_isGone_186 k S x1 x4
  else
    if x3 ≤ (0 : Int32) then
      f_X2_isGone_186 k S x1 x4
    else
      gA x6 64 <|
      gA x6 64 <|
      gB2 (f_X4_cut k S (S.1 (S_o k x1) 6) (S.1 (P_from k) (Int32.toNatClampNeg x6)) (S.1 (P_to k) (Int32.toNatClampNeg x6))) fun S1 v2 =>
      gS (sI S1 (S_o k x1) 6 v2) fun S3 =>
      gA x6 64 <|
      k126 S3 x1 x3 x4 (S3.1 (P_next k) (Int32.toNatClampNeg x6))
def f_X2_isGone_126 (k : Nat) : Nat → Mem → Nat → Int32 → Int32 → Int32 → Option (Mem)
  | 0, _, _, _, _, _ => none
  | n + 1, S, x1, x3, x4, x6 => f_X2_isGone_126_b k (f_X2_isGone_126 k n) S x1 x3 x4 x6
def f_X2_isGone_120 (k : Nat) (S : Mem) (x1 : Nat) (x3 : Int32) (x4 : Int32) : Option (Mem) :=
  f_X2_isGone_126 k FU S x1 x3 x4 (S.1 (S_o k x1) 7)
def f_X2_isGone (k : Nat) (S : Mem) (x1 : Nat) (x2 : Int32) (x3 : Int32) (x4 : Int32) (x5 : Int32) : Option (Mem) :=
  if x5 = (0 : Int32) then
    if x3 ≤ (0 : Int32) then
      f_X2_isGone_120 k S x1 x3 x4
    else
      gB2 (f_X4_add k S (S.1 (S_o k x1) 6) x2 (x2 + x3)) fun S1 v2 =>
      gS (sI S1 (S_o k x1) 6 v2) fun S3 =>
      f_X2_isGone_120 k S3 x1 x3 x4
  else
    if x3 ≤ (0 : Int32) then
      f_X2_isGone_47 k S x1 x4
    else
      gB2 (f_X4_add k S (S.1 (S_o k x1) 7) x2 (x2 + x3)) fun S4 v5 =>
      gS (sI S4 (S_o k x1) 7 v5) fun S6 =>
      gB2 (f_X4_cut k S6 (S6.1 (S_o k x1) 6) x2 (x2 + x3)) fun S7 v8 =>
      gS (sI S7 (S_o k x1) 6 v8) fun S9 =>
      f_X2_isGone_47 k S9 x1 x4
def f_X2_isLost_222 (E : L3 → Bool) (k : Nat) (S : Mem) (y0 : Int64) (y1 : Nat) : Option (Mem) :=
  gS (sJ S (W_o k y1) 5 y0) fun S1 =>
  some (S1)
def f_X2_isLost_178 (E : L3 → Bool) (k : Nat) (S : Mem) (x1 : Int32) (x3 : Int64) : Option (Mem) :=
  gA (x1 - 22) 2 <|
  gA (x1 - 22) 2 <|
  if x3 ≠ (S.2 (W_o k (Int32.toNatClampNeg (x1 - 22))) 5) then
    gA (x1 - 22) 2 <|
    f_X2_isLost_222 E k S (S.2 (W_o k (Int32.toNatClampNeg (x1 - 22))) 5) (Int32.toNatClampNeg (x1 - 22))
  else
    f_X2_isLost_222 E k S (-1) (Int32.toNatClampNeg (x1 - 22))
def f_X2_isLost_166 (E : L3 → Bool) (k : Nat) (S : Mem) (x1 : Int32) (x3 : Int64) : Option (Mem) :=
  if x1 = (22 : Int32) then
    f_X2_isLost_178 E k S x1 x3
  else
    if x1 ≠ (23 : Int32) then
      some (S)
    else
      f_X2_isLost_178 E k S x1 x3
def f_X2_isLost_133 (E : L3 → Bool) (k : Nat) (S : Mem) (x1 : Int32) (x2 : Int32) (x3 : Int64) (x5 : Int64) : Option (Mem) :=
  if x1 ≠ (21 : Int32) then
    f_X2_isLost_166 E k S x1 x3
  else
    gA x2 256 <|
    if E (S_o k (Int32.toNatClampNeg x2)) = true then
      if x5 ≠ (S.2 (S_o k (Int32.toNatClampNeg x2)) 10) then
        f_X2_isLost_166 E k S x1 x3
      else
        gA x2 256 <|
        if E (S_o k (Int32.toNatClampNeg x2)) = true then
          gS (sJ S (S_o k (Int32.toNatClampNeg x2)) 10 (-1)) fun S3 =>
          f_X2_isLost_166 E k S3 x1 x3
        else
          none
    else
      none
def f_X2_isLost_111 (E : L3 → Bool) (k : Nat) (S : Mem) (x1 : Int32) (x2 : Int32) (x3 : Int64) (x5 : Int64) : Option (Mem) :=
  if x1 ≠ (20 : Int32) then
    f_X2_isLost_133 E k S x1 x2 x3 x5
  else
    if x3 ≠ (S.2 (H_o k) 10) then
      f_X2_isLost_133 E k S x1 x2 x3 x5
    else
      gS (sJ S (H_o k) 10 (-1)) fun S1 =>
      f_X2_isLost_133 E k S1 x1 x2 x3 x5
def f_X2_isLost_80 (E : L3 → Bool) (k : Nat) (S : Mem) (x1 : Int32) (x2 : Int32) (x3 : Int64) (x5 : Int64) : Option (Mem) :=
  gA (x1 - 18) 2 <|
  if x3 ≠ (Int32.toInt64 (S.1 (W_o k (Int32.toNatClampNeg (x1 - 18))) 2)) then
    f_X2_isLost_111 E k S x1 x2 x3 x5
  else
    gA (x1 - 18) 2 <|
    gS (sI S (W_o k (Int32.toNatClampNeg (x1 - 18))) 6 1) fun S3 =>
    f_X2_isLost_111 E k S3 x1 x2 x3 x5
def f_X2_isLost_68 (E : L3 → Bool) (k : Nat) (S : Mem) (x1 : Int32) (x2 : Int32) (x3 : Int64) (x5 : Int64) : Option (Mem) :=
  if x1 = (18 : Int32) then
    f_X2_isLost_80 E k S x1 x2 x3 x5
  else
    if x1 ≠ (19 : Int32) then
      f_X2_isLost_111 E k S x1 x2 x3 x5
    else
      f_X2_isLost_80 E k S x1 x2 x3 x5
def f_X2_isLost_36 (E : L3 → Bool) (k : Nat) (S : Mem) (x1 : Int32) (x2 : Int32) (x3 : Int64) (x5 : Int64) : Option (Mem) :=
  if x1 ≠ (17 : Int32) then
    f_X2_isLost_68 E k S x1 x2 x3 x5
  else
    gA x2 256 <|
    if E (R_o k (Int32.toNatClampNeg x2)) = true then
      if x5 ≠ (Int32.toInt64 (S.1 (R_o k (Int32.toNatClampNeg x2)) 6)) then
        f_X2_isLost_68 E k S x1 x2 x3 x5
      else
        gA x2 256 <|
        if E (R_o k (Int32.toNatClampNeg x2)) = true then
          gS (sI S (R_o k (Int32.toNatClampNeg x2)) 10 1) fun S3 =>
          f_X2_isLost_68 E k S3 x1 x2 x3 x5
        else
          none
    else
      none
def f_X2_isLost_15 (E : L3 → Bool) (k : Nat) (S : Mem) (x1 : Int32) (x2 : Int32) (x3 : Int64) (x5 : Int64) : Option (Mem) :=
  if x1 ≠ (16 : Int32) then
    f_X2_isLost_36 E k S x1 x2 x3 x5
  else
    if x3 ≠ (Int32.toInt64 (S.1 (H_o k) 14)) then
      f_X2_isLost_36 E k S x1 x2 x3 x5
    else
      gS (sI S (H_o k) 16 1) fun S1 =>
      f_X2_isLost_36 E k S1 x1 x2 x3 x5
def f_X2_isLost (E : L3 → Bool) (k : Nat) (S : Mem) (x1 : Int32) (x2 : Int32) (x3 : Int64) (x5 : Int64) : Option (Mem) :=
  if x1 ≠ (5 : Int32) then
    f_X2_isLost_15 E k S x1 x2 x3 x5
  else
    gA x2 256 <|
    if E (R_o k (Int32.toNatClampNeg x2)) = true then
      gS (sI S (R_o k (Int32.toNatClampNeg x2)) 11 1) fun S2 =>
      f_X2_isLost_15 E k S2 x1 x2 x3 x5
    else
      none
def f_X2_gone_55 (E : L3 → Bool) (k : Nat) (S : Mem) (x9 : Int32) (x10 : Int32) (x11 : Int32) (y0 : Int32) (y1 : Int32) (y2 : Int32) (y3 : Option Nat) : Option (Mem) :=
  gM y3 (
    none) fun js3 =>
    (f_X2_isGone k S js3 y2 y1 y0 x9).bind fun S1 =>
    (f_X2_mayBeOver E k S1 x10 x11).bind fun S2 =>
    some (S2)
def f_X2_gone_114 (E : L3 → Bool) (k : Nat) (S : Mem) (x10 : Int32) (x11 : Int32) : Option (Mem) :=
  (f_X2_mayBeOver E k S x10 x11).bind fun S1 =>
  some (S1)
def f_X2_gone_14 (E : L3 → Bool) (k : Nat) (S : Mem) (x1 : Int32) (x2 : Int64) (x4 : Int64) (x6 : Int32) (x7 : Int64) (x9 : Int32) (y0 : Int32) : Option (Mem) :=
  if x1 ≠ (8 : Int32) then
    if x1 ≠ (4 : Int32) then
      if x9 ≠ (0 : Int32) then
        some (S)
      else
        (f_X2_isLost E k S x1 y0 x2 x4).bind fun S1 =>
        some (S1)
    else
      (f_X2_isOver E k S y0).bind fun v2 =>
      if x9 = (0 : Int32) then
        gA y0 256 <|
        if E (S_o k (Int32.toNatClampNeg y0)) = true then
          gS (sI S (S_o k (Int32.toNatClampNeg y0)) 11 1) fun S4 =>
          f_X2_gone_114 E k S4 y0 v2
        else
          none
      else
        gA y0 256 <|
        if E (S_o k (Int32.toNatClampNeg y0)) = true then
          gS (sI S (S_o k (Int32.toNatClampNeg y0)) 0 4) fun S6 =>
          f_X2_gone_114 E k S6 y0 v2
        else
          none
  else
    (f_X2_isOver E k S y0).bind fun v7 =>
    gA y0 256 <|
    if E (S_o k (Int32.toNatClampNeg y0)) = true then
      if x7 ≠ (1 : Int64) then
        f_X2_gone_55 E k S x9 y0 v7 0 x6 (Int64.toInt32 x4) (some (Int32.toNatClampNeg y0))
      else
        f_X2_gone_55 E k S x9 y0 v7 1 x6 (Int64.toInt32 x4) (some (Int32.toNatClampNeg y0))
    else
      if x7 ≠ (1 : Int64) then
        f_X2_gone_55 E k S x9 y0 v7 0 x6 (Int64.toInt32 x4) none
      else
        f_X2_gone_55 E k S x9 y0 v7 1 x6 (Int64.toInt32 x4) none
def f_X2_gone (E : L3 → Bool) (k : Nat) (S : Mem) (x1 : Int32) (x2 : Int64) (x4 : Int64) (x6 : Int32) (x7 : Int64) (x9 : Int32) : Option (Mem) :=
  if (256 : Int64) ≤ x2 then
    f_X2_gone_14 E k S x1 x2 x4 x6 x7 x9 0
  else
    f_X2_gone_14 E k S x1 x2 x4 x6 x7 x9 (Int64.toInt32 x2)
def f_X2_look_31 (E : L3 → Bool) (k : Nat) (S : Mem) : Option (Int64) :=
  some (((-1) : Int64))
def f_X2_look_35 (E : L3 → Bool) (k : Nat) (S : Mem) (x2 : Int32) (x3 : Option Nat) (x4 : Option Nat) : Option (Int64) :=
  gM x3 (
    gM x4 (
      if x2 = (0 : Int32) then
        none
      else
      if x2 = (1 : Int32) then
        none
      else
      if x2 = (2 : Int32) then
        none
      else
      if x2 = (3 : Int32) then
        none
      else
      if x2 = (4 : Int32) then
        none
      else
      if x2 = (5 : Int32) then
        none
      else
      if x2 = (6 : Int32) then
        none
      else
      if x2 = (7 : Int32) then
        none
      else
      if x2 = (8 : Int32) then
        none
      else
      if x2 = (9 : Int32) then
        none
      else
      if x2 = (10 : Int32) then
        none
      else
      if x2 = (11 : Int32) then
        none
      else
      if x2 = (12 : Int32) then
        none
      else
      if x2 = (13 : Int32) then
        none
      else
        none) fun j4 =>
      if x2 = (0 : Int32) then
        none
      else
      if x2 = (1 : Int32) then
        none
      else
      if x2 = (2 : Int32) then
        none
      else
      if x2 = (3 : Int32) then
        none
      else
      if x2 = (4 : Int32) then
        none
      else
      if x2 = (5 : Int32) then
        none
      else
      if x2 = (6 : Int32) then
        none
      else
      if x2 = (7 : Int32) then
        none
      else
      if x2 = (8 : Int32) then
        some ((Int32.toInt64 (S.1 (R_o k j4) 1)))
      else
      if x2 = (9 : Int32) then
        some ((Int32.toInt64 (S.1 (R_o k j4) 2)))
      else
      if x2 = (10 : Int32) then
        some ((Int32.toInt64 (S.1 (R_o k j4) 3)))
      else
      if x2 = (11 : Int32) then
        some ((Int32.toInt64 (S.1 (R_o k j4) 4)))
      else
      if x2 = (12 : Int32) then
        some ((Int32.toInt64 (S.1 (R_o k j4) 5)))
      else
      if x2 = (13 : Int32) then
        some ((Int32.toInt64 (S.1 (R_o k j4) 6)))
      else
        some ((S.2 (R_o k j4) 8))) fun j3 =>
    gM x4 (
      if x2 = (0 : Int32) then
        some ((Int32.toInt64 (S.1 (S_o k j3) 0)))
      else
      if x2 = (1 : Int32) then
        some ((Int32.toInt64 (S.1 (S_o k j3) 1)))
      else
      if x2 = (2 : Int32) then
        some ((Int32.toInt64 (S.1 (S_o k j3) 2)))
      else
      if x2 = (3 : Int32) then
        some ((S.2 (S_o k j3) 8))
      else
      if x2 = (4 : Int32) then
        some ((S.2 (S_o k j3) 9))
      else
      if x2 = (5 : Int32) then
        (f_X4_count k S (S.1 (S_o k j3) 6)).bind fun v1 =>
        some ((Int32.toInt64 v1))
      else
      if x2 = (6 : Int32) then
        (f_X4_count k S (S.1 (S_o k j3) 7)).bind fun v2 =>
        some ((Int32.toInt64 v2))
      else
      if x2 = (7 : Int32) then
        some ((Int32.toInt64 (S.1 (S_o k j3) 3)))
      else
      if x2 = (8 : Int32) then
        none
      else
      if x2 = (9 : Int32) then
        none
      else
      if x2 = (10 : Int32) then
        none
      else
      if x2 = (11 : Int32) then
        none
      else
      if x2 = (12 : Int32) then
        none
      else
      if x2 = (13 : Int32) then
        none
      else
        none) fun j4 =>
      if x2 = (0 : Int32) then
        some ((Int32.toInt64 (S.1 (S_o k j3) 0)))
      else
      if x2 = (1 : Int32) then
        some ((Int32.toInt64 (S.1 (S_o k j3) 1)))
      else
      if x2 = (2 : Int32) then
        some ((Int32.toInt64 (S.1 (S_o k j3) 2)))
      else
      if x2 = (3 : Int32) then
        some ((S.2 (S_o k j3) 8))
      else
      if x2 = (4 : Int32) then
        some ((S.2 (S_o k j3) 9))
      else
      if x2 = (5 : Int32) then
        (f_X4_count k S (S.1 (S_o k j3) 6)).bind fun v3 =>
        some ((Int32.toInt64 v3))
      else
      if x2 = (6 : Int32) then
        (f_X4_count k S (S.1 (S_o k j3) 7)).bind fun v4 =>
        some ((Int32.toInt64 v4))
      else
      if x2 = (7 : Int32) then
        some ((Int32.toInt64 (S.1 (S_o k j3) 3)))
      else
      if x2 = (8 : Int32) then
        some ((Int32.toInt64 (S.1 (R_o k j4) 1)))
      else
      if x2 = (9 : Int32) then
        some ((Int32.toInt64 (S.1 (R_o k j4) 2)))
      else
      if x2 = (10 : Int32) then
        some ((Int32.toInt64 (S.1 (R_o k j4) 3)))
      else
      if x2 = (11 : Int32) then
        some ((Int32.toInt64 (S.1 (R_o k j4) 4)))
      else
      if x2 = (12 : Int32) then
        some ((Int32.toInt64 (S.1 (R_o k j4) 5)))
      else
      if x2 = (13 : Int32) then
        some ((Int32.toInt64 (S.1 (R_o k j4) 6)))
      else
        some ((S.2 (R_o k j4) 8))
def f_X2_look (E : L3 → Bool) (k : Nat) (S : Mem) (x1 : Int32) (x2 : Int32) : Option (Int64) :=
  (f_X2_sending E k S x1).bind fun v1 =>
  gM v1 (
    (f_X2_receiving E k S x1).bind fun v4 =>
    gM v4 (
      if (8 : Int32) ≤ x2 then
        f_X2_look_31 E k S
      else
        f_X2_look_31 E k S) fun j5 =>
      if (8 : Int32) ≤ x2 then
        f_X2_look_35 E k S x2 none (some j5)
      else
        f_X2_look_31 E k S) fun j2 =>
    (f_X2_receiving E k S x1).bind fun v7 =>
    gM v7 (
      if (8 : Int32) ≤ x2 then
        f_X2_look_31 E k S
      else
        f_X2_look_35 E k S x2 (some j2) none) fun j8 =>
      if (8 : Int32) ≤ x2 then
        f_X2_look_35 E k S x2 (some j2) (some j8)
      else
        f_X2_look_35 E k S x2 (some j2) (some j8)
def f_X2_look_2 (k : Nat) (S : Mem) (x1 : Int32) : Option (Int64) :=
  if x1 = (0 : Int32) then
    some ((Int32.toInt64 (S.1 (H_o k) 11)))
  else
  if x1 = (1 : Int32) then
    some ((S.2 (H_o k) 9))
  else
  if x1 = (2 : Int32) then
    some ((Int32.toInt64 (S.1 (H_o k) 12)))
  else
  if x1 = (3 : Int32) then
    some ((Int32.toInt64 (S.1 (H_o k) 13)))
  else
  if x1 = (4 : Int32) then
    some ((Int32.toInt64 (S.1 (H_o k) 14)))
  else
  if x1 = (13 : Int32) then
    some ((Int32.toInt64 (S.1 (T_o k) 1)))
  else
    gA ((x1 - 5) - (x1 - 5) / 2 * 2) 2 <|
    if (7 : Int32) ≤ x1 then
      if (9 : Int32) ≤ x1 then
        if (11 : Int32) ≤ x1 then
          some ((Int32.toInt64 (S.1 (W_o k (Int32.toNatClampNeg ((x1 - 5) - (x1 - 5) / 2 * 2))) 2)))
        else
          some ((Int32.toInt64 (S.1 (W_o k (Int32.toNatClampNeg ((x1 - 5) - (x1 - 5) / 2 * 2))) 1)))
      else
        some ((S.2 (W_o k (Int32.toNatClampNeg ((x1 - 5) - (x1 - 5) / 2 * 2))) 3))
    else
      some ((Int32.toInt64 (S.1 (W_o k (Int32.toNatClampNeg ((x1 - 5) - (x1 - 5) / 2 * 2))) 0)))
