set_option maxRecDepth 100000
def f_X8_thrown (S : Mem) : Int32 :=
  ((S.1 M_o 0))
def f_X8_noSide_9 : Int32 :=
  ((1 : Int32))
def f_X8_noSide (x0 : Int32) : Int32 :=
  if x0 < (0 : Int32) then
    f_X8_noSide_9
  else
    if x0 ≤ (1 : Int32) then
      ((0 : Int32))
    else
      f_X8_noSide_9
def f_X8_fails_10 (S : Mem) (x1 : Int32) (y0 : Int32) : Option (Mem × Int32) :=
  gS (sI S M_o 0 y0) fun S1 =>
  gN .boolean x1 (some (S1, x1))
def f_X8_fails (S : Mem) (x1 : Int32) (x2 : Int32) : Option (Mem × Int32) :=
  if x1 = (0 : Int32) then
    f_X8_fails_10 S x1 0
  else
    f_X8_fails_10 S x1 x2
def f_X8_grant_90 (S : Mem) (x1 : Int32) (x2 : Int32) (x3 : Int32) : Option (Mem) :=
  if x2 ≤ (7 : Int32) then
    some (S)
  else
    gA (((2 * x1) + x2) - 8) 4 <| gS (sI S M_granted (Int32.toNatClampNeg (((2 * x1) + x2) - 8)) x3) fun S1 =>
    some (S1)
def f_X8_grant_45 (S : Mem) (x1 : Int32) (x2 : Int32) (x3 : Int32) (y0 : Int32) : Option (Mem) :=
  gB2 (f_X8_fails S y0 (1 : Int32)) fun S1 v2 =>
  if v2 ≠ (0 : Int32) then
    some (S1)
  else
    gB2 (f_X8_fails S1 (S1.1 M_o 1) (2 : Int32)) fun S3 v4 =>
    if v4 = (0 : Int32) then
      gA ((16 * x1) + x2) 32 <| gS (sI S3 M_grants (Int32.toNatClampNeg ((16 * x1) + x2)) x3) fun S5 =>
      if x2 ≠ (4 : Int32) then
        f_X8_grant_90 S5 x1 x2 x3
      else
        gA x1 2 <| gS (sJ S5 M_dataGrant (Int32.toNatClampNeg x1) (Int32.toInt64 x3)) fun S6 =>
        f_X8_grant_90 S6 x1 x2 x3
    else
      some (S3)
def f_X8_grant_40 (S : Mem) (x1 : Int32) (x2 : Int32) (x3 : Int32) : Option (Mem) :=
  f_X8_grant_45 S x1 x2 x3 1
def f_X8_grant_37 (S : Mem) (x1 : Int32) (x2 : Int32) (x3 : Int32) (y0 : Int32) (y1 : Int32) : Option (Mem) :=
  if y1 ≤ y0 then
    f_X8_grant_45 S x1 x2 x3 0
  else
    f_X8_grant_40 S x1 x2 x3
def f_X8_grant (S : Mem) (x1 : Int32) (x2 : Int32) (x3 : Int32) : Option (Mem) :=
  gS (f_X8_noSide x1) fun v1 =>
  if v1 ≠ (0 : Int32) then
    f_X8_grant_40 S x1 x2 x3
  else
    if x2 < (4 : Int32) then
      f_X8_grant_40 S x1 x2 x3
    else
      if (9 : Int32) < x2 then
        f_X8_grant_40 S x1 x2 x3
      else
        if x3 < (0 : Int32) then
          f_X8_grant_40 S x1 x2 x3
        else
          if x2 ≤ (7 : Int32) then
            f_X8_grant_37 S x1 x2 x3 65536 x3
          else
            f_X8_grant_37 S x1 x2 x3 64 x3
def f_X8_join_49_b (k20 : Mem → Int32 → Option (Mem)) (k49 : Mem → Int32 → Int32 → Option (Mem)) (S : Mem) (x1 : Int32) (x2 : Int32) : Option (Mem) :=
  if (2 : Int32) ≤ x2 then
    k20 S (x1 + 1)
  else
    gA (((16 * (1 - x1)) + 8) + x2) 32 <|
    gA (((3 * x1) + 1) + x2) 6 <| gS (sJ S M_limits (Int32.toNatClampNeg (((3 * x1) + 1) + x2)) (Int32.toInt64 (S.1 M_grants (Int32.toNatClampNeg (((16 * (1 - x1)) + 8) + x2))))) fun S1 =>
    k49 S1 x1 (x2 + 1)
def f_X8_join_49 (k20 : Mem → Int32 → Option (Mem)) : Nat → Mem → Int32 → Int32 → Option (Mem)
  | 0, _, _, _ => none
  | n + 1, S, x1, x2 => f_X8_join_49_b k20 (f_X8_join_49 k20 n) S x1 x2
def f_X8_join_20_b (k20 : Mem → Int32 → Option (Mem)) (S : Mem) (x1 : Int32) : Option (Mem) :=
  if (2 : Int32) ≤ x1 then
    some (S)
  else
    gA ((16 * (1 - x1)) + 4) 32 <|
    gA (3 * x1) 6 <| gS (sJ S M_limits (Int32.toNatClampNeg (3 * x1)) (Int32.toInt64 (S.1 M_grants (Int32.toNatClampNeg ((16 * (1 - x1)) + 4))))) fun S1 =>
    f_X8_join_49 k20 FU S1 x1 0
def f_X8_join_20 : Nat → Mem → Int32 → Option (Mem)
  | 0, _, _ => none
  | n + 1, S, x1 => f_X8_join_20_b (f_X8_join_20 n) S x1
def f_X8_join (S : Mem) : Option (Mem) :=
  gB2 (f_X8_fails S (S.1 M_o 1) (1 : Int32)) fun S1 v2 =>
  if v2 = (0 : Int32) then
    gS (sI S1 M_o 1 1) fun S3 =>
    f_X8_join_20 FU S3 0
  else
    some (S1)
def f_X8_feed_54_b (k54 : Mem → Int32 → Int64 → Int32 → Option (Mem × Int32)) (S : Mem) (x1 : Int32) (x2 : Int64) (x4 : Int32) : Option (Mem × Int32) :=
  if x1 ≤ x4 then
    gS (sI S M_o 3 ((S.1 M_o 3) + x1)) fun S1 =>
    some (S1, (S1.1 M_o 3))
  else
    gA ((S.1 M_o 3) + x4) 2048 <| gS (sI S M_tape (Int32.toNatClampNeg ((S.1 M_o 3) + x4)) (Int64.toInt32 ((x2 >>> (Int32.toInt64 (8 * x4) &&& 63)) &&& 255))) fun S2 =>
    k54 S2 x1 x2 (x4 + 1)
def f_X8_feed_54 : Nat → Mem → Int32 → Int64 → Int32 → Option (Mem × Int32)
  | 0, _, _, _, _ => none
  | n + 1, S, x1, x2, x4 => f_X8_feed_54_b (f_X8_feed_54 n) S x1 x2 x4
def f_X8_feed_42 (S : Mem) (x1 : Int32) (x2 : Int64) (y0 : Int32) : Option (Mem × Int32) :=
  gB2 (f_X8_fails S y0 (2 : Int32)) fun S1 v2 =>
  if v2 = (0 : Int32) then
    f_X8_feed_54 FU S1 x1 x2 0
  else
    some (S1, (0 : Int32))
def f_X8_feed_17 (S : Mem) (x1 : Int32) (x2 : Int64) (y0 : Int32) : Option (Mem × Int32) :=
  gB2 (f_X8_fails S y0 (1 : Int32)) fun S1 v2 =>
  if v2 ≠ (0 : Int32) then
    some (S1, (0 : Int32))
  else
    if ((S1.1 M_o 3) + x1) ≤ (2048 : Int32) then
      f_X8_feed_42 S1 x1 x2 0
    else
      f_X8_feed_42 S1 x1 x2 1
def f_X8_feed_12 (S : Mem) (x1 : Int32) (x2 : Int64) : Option (Mem × Int32) :=
  f_X8_feed_17 S x1 x2 1
def f_X8_feed (S : Mem) (x1 : Int32) (x2 : Int64) : Option (Mem × Int32) :=
  if x1 < (1 : Int32) then
    f_X8_feed_12 S x1 x2
  else
    if x1 ≤ (8 : Int32) then
      f_X8_feed_17 S x1 x2 0
    else
      f_X8_feed_12 S x1 x2
def f_X8_at (x0 : Int32) (x1 : Int32) : Int32 :=
  (((256 * x0) + x1))
def f_X8_wayOf (x0 : Int64) : Int32 :=
  ((Int64.toInt32 ((x0 >>> (Int32.toInt64 1 &&& 63)) &&& 1)))
def f_X8_opens (x0 : Int32) (x1 : Int64) : Int32 :=
  if (x1 &&& 1) ≠ (Int32.toInt64 x0) then
    ((0 : Int32))
  else
    ((1 : Int32))
def f_X8_grantOf_37 (S : Mem) (y0 : Int32) (y1 : Int32) : Option (Int32) :=
  gA (y1 + y0) 32 <|
  some ((S.1 M_grants (Int32.toNatClampNeg (y1 + y0))))
def f_X8_grantOf (S : Mem) (x1 : Int32) (x2 : Int32) : Option (Int32) :=
  gS (f_X8_wayOf (Int32.toInt64 x2)) fun v1 =>
  if v1 ≠ (1 : Int32) then
    gS (f_X8_opens x1 (Int32.toInt64 x2)) fun v2 =>
    if v2 = (0 : Int32) then
      f_X8_grantOf_37 S 6 (16 * x1)
    else
      f_X8_grantOf_37 S 5 (16 * x1)
  else
    f_X8_grantOf_37 S 7 (16 * x1)
def f_X8_limitOf (S : Mem) (x1 : Int32) (x2 : Int32) : Option (Int64) :=
  (f_X8_grantOf S (1 - x1) x2).bind fun v1 =>
  some ((Int32.toInt64 v1))
def f_X8_begin (S : Mem) (x1 : Int32) (x2 : Int32) : Option (Mem) :=
  gS (f_X8_at x1 x2) fun v1 =>
  gA v1 512 <| gS (sI S M_there (Int32.toNatClampNeg v1) (vp_nar .boolean 1)) fun S2 =>
  (f_X8_grantOf S2 x1 x2).bind fun v3 =>
  gA v1 512 <| gS (sJ S2 M_grant (Int32.toNatClampNeg v1) (Int32.toInt64 v3)) fun S4 =>
  (f_X8_limitOf S4 x1 x2).bind fun v5 =>
  gA v1 512 <| gS (sJ S4 M_limit (Int32.toNatClampNeg v1) v5) fun S6 =>
  some (S6)
def f_X8_open_87 (S : Mem) (x4 : Int32) : Option (Mem × Int32) :=
  gA x4 4 <| gS (sI S M_refused (Int32.toNatClampNeg x4) (vp_nar .boolean 1)) fun S1 =>
  some (S1, ((-1) : Int32))
def f_X8_open_43 (S : Mem) (x1 : Int32) (y0 : Int32) : Option (Mem × Int32) :=
  gA ((2 * x1) + y0) 4 <|
  gA (((3 * x1) + 1) + y0) 6 <|
  if (S.2 M_limits (Int32.toNatClampNeg (((3 * x1) + 1) + y0))) ≤ (Int32.toInt64 (S.1 M_opened (Int32.toNatClampNeg ((2 * x1) + y0)))) then
    f_X8_open_87 S ((2 * x1) + y0)
  else
    gA ((2 * x1) + y0) 4 <|
    if (S.1 M_opened (Int32.toNatClampNeg ((2 * x1) + y0))) ≠ (64 : Int32) then
      gA ((2 * x1) + y0) 4 <| gS (sI S M_refused (Int32.toNatClampNeg ((2 * x1) + y0)) (vp_nar .boolean 0)) fun S1 =>
      gA ((2 * x1) + y0) 4 <|
      gA ((2 * x1) + y0) 4 <|
      gA ((2 * x1) + y0) 4 <| gS (sI S1 M_opened (Int32.toNatClampNeg ((2 * x1) + y0)) ((S1.1 M_opened (Int32.toNatClampNeg ((2 * x1) + y0))) + 1)) fun S2 =>
      (f_X8_begin S2 x1 (((4 * (S1.1 M_opened (Int32.toNatClampNeg ((2 * x1) + y0)))) + (2 * y0)) + x1)).bind fun S3 =>
      some (S3, (((4 * (S1.1 M_opened (Int32.toNatClampNeg ((2 * x1) + y0)))) + (2 * y0)) + x1))
    else
      f_X8_open_87 S ((2 * x1) + y0)
def f_X8_open_25 (S : Mem) (x1 : Int32) (x2 : Int32) (y0 : Int32) : Option (Mem × Int32) :=
  gB2 (f_X8_fails S y0 (2 : Int32)) fun S1 v2 =>
  if v2 = (0 : Int32) then
    if x2 = (0 : Int32) then
      f_X8_open_43 S1 x1 1
    else
      f_X8_open_43 S1 x1 0
  else
    some (S1, (0 : Int32))
def f_X8_open (S : Mem) (x1 : Int32) (x2 : Int32) : Option (Mem × Int32) :=
  gS (f_X8_noSide x1) fun v1 =>
  gB2 (f_X8_fails S v1 (1 : Int32)) fun S2 v3 =>
  if v3 ≠ (0 : Int32) then
    some (S2, (0 : Int32))
  else
    if (S2.1 M_o 1) ≠ (0 : Int32) then
      f_X8_open_25 S2 x1 x2 0
    else
      f_X8_open_25 S2 x1 x2 1
def f_X8_isThere (S : Mem) (x1 : Int32) (x2 : Int32) : Option (Int32) :=
  if x2 < (0 : Int32) then
    some ((0 : Int32))
  else
    if (256 : Int32) ≤ x2 then
      some ((0 : Int32))
    else
      gS (f_X8_at x1 x2) fun v1 =>
      gA v1 512 <|
      if (S.1 M_there (Int32.toNatClampNeg v1)) = (0 : Int32) then
        some ((0 : Int32))
      else
        some ((1 : Int32))
def f_X8_sends_15 : Int32 :=
  ((1 : Int32))
def f_X8_sends (x0 : Int32) (x1 : Int64) : Int32 :=
  gS (f_X8_wayOf x1) fun v1 =>
  if v1 = (0 : Int32) then
    f_X8_sends_15
  else
    gS (f_X8_opens x0 x1) fun v2 =>
    if v2 = (0 : Int32) then
      ((0 : Int32))
    else
      f_X8_sends_15
def f_X8_hasSending (S : Mem) (x1 : Int32) (x2 : Int32) : Option (Int32) :=
  (f_X8_isThere S x1 x2).bind fun v1 =>
  if v1 = (0 : Int32) then
    some ((0 : Int32))
  else
    gS (f_X8_sends x1 (Int32.toInt64 x2)) fun v2 =>
    if v2 = (0 : Int32) then
      some ((0 : Int32))
    else
      some ((1 : Int32))
def f_X8_count_71 (S : Mem) (k9 : Int32 → Int32 → Int32 → Int32 → Int32 → Option (Int32)) (x1 : Int32) (x2 : Int32) (x3 : Int32) (x4 : Int32) (x5 : Int32) : Option (Int32) :=
  k9 x1 x2 x3 x4 (x5 + 1)
def f_X8_count_68 (S : Mem) (k9 : Int32 → Int32 → Int32 → Int32 → Int32 → Option (Int32)) (x1 : Int32) (x2 : Int32) (x3 : Int32) (x4 : Int32) (x5 : Int32) : Option (Int32) :=
  f_X8_count_71 S k9 x1 x2 x3 (x4 + 1) x5
def f_X8_count_9_b (S : Mem) (k9 : Int32 → Int32 → Int32 → Int32 → Int32 → Option (Int32)) (x1 : Int32) (x2 : Int32) (x3 : Int32) (x4 : Int32) (x5 : Int32) : Option (Int32) :=
  gA x1 2 <|
  if ((65536 * x1) + (S.1 M_total (Int32.toNatClampNeg x1))) ≤ x5 then
    some (x4)
  else
    gA x5 131072 <|
    if (S.1 M_of (Int32.toNatClampNeg x5)) ≠ x2 then
      f_X8_count_71 S k9 x1 x2 x3 x4 x5
    else
      if x3 = ((-1) : Int32) then
        f_X8_count_68 S k9 x1 x2 x3 x4 x5
      else
        gA x5 131072 <|
        if (S.1 M_mark (Int32.toNatClampNeg x5)) = x3 then
          f_X8_count_68 S k9 x1 x2 x3 x4 x5
        else
          if x3 ≠ ((-2) : Int32) then
            f_X8_count_71 S k9 x1 x2 x3 x4 x5
          else
            gA x5 131072 <|
            if (S.1 M_mark (Int32.toNatClampNeg x5)) = (0 : Int32) then
              f_X8_count_71 S k9 x1 x2 x3 x4 x5
            else
              f_X8_count_68 S k9 x1 x2 x3 x4 x5
def f_X8_count_9 (S : Mem) : Nat → Int32 → Int32 → Int32 → Int32 → Int32 → Option (Int32)
  | 0, _, _, _, _, _ => none
  | n + 1, x1, x2, x3, x4, x5 => f_X8_count_9_b S (f_X8_count_9 S n) x1 x2 x3 x4 x5
def f_X8_count (S : Mem) (x1 : Int32) (x2 : Int32) (x3 : Int32) : Option (Int32) :=
  f_X8_count_9 S FU x1 x2 x3 0 (65536 * x1)
def f_X8_written (S : Mem) (x1 : Int32) (x2 : Int32) : Option (Int32) :=
  (f_X8_count S x1 x2 ((-1) : Int32)).bind fun v1 =>
  some (v1)
def f_X8_sending (S : Mem) (x1 : Int32) (x2 : Int32) : Option (Int32) :=
  gS (f_X8_at x1 x2) fun v1 =>
  gA v1 512 <|
  if (S.1 M_resets (Int32.toNatClampNeg v1)) ≤ (0 : Int32) then
    gA v1 512 <|
    if (S.1 M_finished (Int32.toNatClampNeg v1)) ≠ (0 : Int32) then
      gA v1 512 <|
      if (S.1 M_end (Int32.toNatClampNeg v1)) ≠ (3 : Int32) then
        some ((1 : Int32))
      else
        (f_X8_count S x1 x2 (3 : Int32)).bind fun v2 =>
        (f_X8_written S x1 x2).bind fun v3 =>
        if v2 ≠ v3 then
          some ((1 : Int32))
        else
          some ((2 : Int32))
    else
      some ((0 : Int32))
  else
    gA v1 512 <|
    some ((2 + (S.1 M_resets (Int32.toNatClampNeg v1))))
def f_X8_write_47_b (k47 : Mem → Int32 → Int32 → Int32 → Int32 → Option (Mem × Int32)) (S : Mem) (x1 : Int32) (x2 : Int32) (x3 : Int32) (x4 : Int32) : Option (Mem × Int32) :=
  if x3 ≤ x4 then
    some (S, x4)
  else
    gA x1 2 <|
    if (65536 : Int32) ≤ (S.1 M_total (Int32.toNatClampNeg x1)) then
      some (S, x4)
    else
      gA x1 2 <|
      gA ((65536 * x1) + (S.1 M_total (Int32.toNatClampNeg x1))) 131072 <| gS (sI S M_of (Int32.toNatClampNeg ((65536 * x1) + (S.1 M_total (Int32.toNatClampNeg x1)))) (vp_nar .short (Int16.toInt32 (Int32.toInt16 x2)))) fun S1 =>
      gA x4 2048 <|
      gA ((65536 * x1) + (S.1 M_total (Int32.toNatClampNeg x1))) 131072 <| gS (sI S1 M_value (Int32.toNatClampNeg ((65536 * x1) + (S.1 M_total (Int32.toNatClampNeg x1)))) (vp_nar .byte (Int8.toInt32 (Int32.toInt8 (S1.1 M_tape (Int32.toNatClampNeg x4)))))) fun S2 =>
      gA ((65536 * x1) + (S.1 M_total (Int32.toNatClampNeg x1))) 131072 <| gS (sI S2 M_mark (Int32.toNatClampNeg ((65536 * x1) + (S.1 M_total (Int32.toNatClampNeg x1)))) (vp_nar .byte 0)) fun S3 =>
      gA x1 2 <|
      gA x1 2 <| gS (sI S3 M_total (Int32.toNatClampNeg x1) ((S3.1 M_total (Int32.toNatClampNeg x1)) + 1)) fun S4 =>
      k47 S4 x1 x2 x3 (x4 + 1)
def f_X8_write_47 : Nat → Mem → Int32 → Int32 → Int32 → Int32 → Option (Mem × Int32)
  | 0, _, _, _, _, _ => none
  | n + 1, S, x1, x2, x3, x4 => f_X8_write_47_b (f_X8_write_47 n) S x1 x2 x3 x4
def f_X8_write (S : Mem) (x1 : Int32) (x2 : Int32) : Option (Mem × Int32) :=
  gS (f_X8_noSide x1) fun v1 =>
  gB2 (f_X8_fails S v1 (1 : Int32)) fun S2 v3 =>
  if v3 = (0 : Int32) then
    gS (sI S2 M_o 3 0) fun S4 =>
    (f_X8_hasSending S4 x1 x2).bind fun v5 =>
    if v5 = (0 : Int32) then
      some (S4, ((-1) : Int32))
    else
      (f_X8_sending S4 x1 x2).bind fun v6 =>
      if v6 = (0 : Int32) then
        f_X8_write_47 FU S4 x1 x2 (S2.1 M_o 3) 0
      else
        some (S4, ((-1) : Int32))
  else
    some (S2, (0 : Int32))
def f_X8_finish (S : Mem) (x1 : Int32) (x2 : Int32) : Option (Mem × Int32) :=
  gS (f_X8_noSide x1) fun v1 =>
  gB2 (f_X8_fails S v1 (1 : Int32)) fun S2 v3 =>
  if v3 ≠ (0 : Int32) then
    some (S2, (0 : Int32))
  else
    (f_X8_hasSending S2 x1 x2).bind fun v4 =>
    if v4 = (0 : Int32) then
      some (S2, (0 : Int32))
    else
      (f_X8_sending S2 x1 x2).bind fun v5 =>
      if v5 = (0 : Int32) then
        gS (f_X8_at x1 x2) fun v6 =>
        gA v6 512 <| gS (sI S2 M_finished (Int32.toNatClampNeg v6) (vp_nar .boolean 1)) fun S7 =>
        gS (f_X8_at x1 x2) fun v8 =>
        gA v8 512 <| gS (sI S7 M_end (Int32.toNatClampNeg v8) 0) fun S9 =>
        some (S9, (1 : Int32))
      else
        some (S2, (0 : Int32))
def f_X8_isOpenSending (S : Mem) (x1 : Int32) (x2 : Int32) : Option (Int32) :=
  (f_X8_hasSending S x1 x2).bind fun v1 =>
  if v1 = (0 : Int32) then
    some ((0 : Int32))
  else
    (f_X8_sending S x1 x2).bind fun v2 =>
    if (2 : Int32) ≤ v2 then
      some ((0 : Int32))
    else
      some ((1 : Int32))
def f_X8_doReset (S : Mem) (x1 : Int32) (x2 : Int32) (x3 : Int64) : Option (Mem) :=
  gS (f_X8_at x1 x2) fun v1 =>
  gA v1 512 <| gS (sI S M_resets (Int32.toNatClampNeg v1) 1) fun S2 =>
  gA v1 512 <| gS (sJ S2 M_code (Int32.toNatClampNeg v1) x3) fun S3 =>
  gA v1 512 <| gS (sI S3 M_tellReset (Int32.toNatClampNeg v1) (vp_nar .boolean 1)) fun S4 =>
  some (S4)
def f_X8_reset_27 (S : Mem) (x1 : Int32) (x2 : Int32) (x3 : Int64) (y0 : Int32) : Option (Mem × Int32) :=
  gB2 (f_X8_fails S y0 (1 : Int32)) fun S1 v2 =>
  if v2 ≠ (0 : Int32) then
    some (S1, (0 : Int32))
  else
    (f_X8_isOpenSending S1 x1 x2).bind fun v3 =>
    if v3 ≠ (0 : Int32) then
      (f_X8_doReset S1 x1 x2 x3).bind fun S4 =>
      some (S4, (1 : Int32))
    else
      some (S1, (0 : Int32))
def f_X8_reset_22 (S : Mem) (x1 : Int32) (x2 : Int32) (x3 : Int64) : Option (Mem × Int32) :=
  f_X8_reset_27 S x1 x2 x3 1
def f_X8_reset (S : Mem) (x1 : Int32) (x2 : Int32) (x3 : Int64) : Option (Mem × Int32) :=
  gS (f_X8_noSide x1) fun v1 =>
  if v1 ≠ (0 : Int32) then
    f_X8_reset_22 S x1 x2 x3
  else
    if x3 < (0 : Int64) then
      f_X8_reset_22 S x1 x2 x3
    else
      if x3 ≤ (4611686018427387903 : Int64) then
        f_X8_reset_27 S x1 x2 x3 0
      else
        f_X8_reset_22 S x1 x2 x3
def f_X8_receives_15 : Int32 :=
  ((1 : Int32))
def f_X8_receives (x0 : Int32) (x1 : Int64) : Int32 :=
  gS (f_X8_wayOf x1) fun v1 =>
  if v1 = (0 : Int32) then
    f_X8_receives_15
  else
    gS (f_X8_opens x0 x1) fun v2 =>
    if v2 ≠ (0 : Int32) then
      ((0 : Int32))
    else
      f_X8_receives_15
def f_X8_hasReceiving (S : Mem) (x1 : Int32) (x2 : Int32) : Option (Int32) :=
  (f_X8_isThere S x1 x2).bind fun v1 =>
  if v1 = (0 : Int32) then
    some ((0 : Int32))
  else
    gS (f_X8_receives x1 (Int32.toInt64 x2)) fun v2 =>
    if v2 = (0 : Int32) then
      some ((0 : Int32))
    else
      some ((1 : Int32))
def f_X8_pieceAt_49 (S : Mem) (k7 : Int32 → Int32 → Int32 → Int32 → Option (Int32)) (x1 : Int32) (x2 : Int32) (x3 : Int32) (x4 : Int32) : Option (Int32) :=
  k7 x1 x2 x3 (x4 + 1)
def f_X8_pieceAt_7_b (S : Mem) (k7 : Int32 → Int32 → Int32 → Int32 → Option (Int32)) (x1 : Int32) (x2 : Int32) (x3 : Int32) (x4 : Int32) : Option (Int32) :=
  gA x1 2 <|
  if ((1408 * x1) + (S.1 M_pieces (Int32.toNatClampNeg x1))) ≤ x4 then
    some (((-1) : Int32))
  else
    gA x4 2816 <|
    if (S.1 M_pieceOf (Int32.toNatClampNeg x4)) ≠ x2 then
      f_X8_pieceAt_49 S k7 x1 x2 x3 x4
    else
      gA x4 2816 <|
      if (S.1 M_pieceNumber (Int32.toNatClampNeg x4)) ≠ x3 then
        f_X8_pieceAt_49 S k7 x1 x2 x3 x4
      else
        some (x4)
def f_X8_pieceAt_7 (S : Mem) : Nat → Int32 → Int32 → Int32 → Int32 → Option (Int32)
  | 0, _, _, _, _ => none
  | n + 1, x1, x2, x3, x4 => f_X8_pieceAt_7_b S (f_X8_pieceAt_7 S n) x1 x2 x3 x4
def f_X8_pieceAt (S : Mem) (x1 : Int32) (x2 : Int32) (x3 : Int32) : Option (Int32) :=
  f_X8_pieceAt_7 S FU x1 x2 x3 (1408 * x1)
def f_X8_isHere (S : Mem) (x1 : Int32) (x2 : Int32) (x3 : Int64) : Option (Int32) :=
  (f_X8_pieceAt S x1 x2 (Int64.toInt32 (x3 / 64))).bind fun v1 =>
  if v1 < (0 : Int32) then
    some ((0 : Int32))
  else
    gA ((64 * v1) + (Int64.toInt32 (x3 - x3 / 64 * 64))) 180224 <|
    if (S.1 M_has (Int32.toNatClampNeg ((64 * v1) + (Int64.toInt32 (x3 - x3 / 64 * 64))))) = (0 : Int32) then
      some ((0 : Int32))
    else
      some ((1 : Int32))
def f_X8_readyOf_11_b (S : Mem) (k11 : Int32 → Int32 → Int64 → Option (Int64)) (x1 : Int32) (x2 : Int32) (x3 : Int64) : Option (Int64) :=
  (f_X8_isHere S x1 x2 x3).bind fun v1 =>
  if v1 = (0 : Int32) then
    some (x3)
  else
    k11 x1 x2 (x3 + 1)
def f_X8_readyOf_11 (S : Mem) : Nat → Int32 → Int32 → Int64 → Option (Int64)
  | 0, _, _, _ => none
  | n + 1, x1, x2, x3 => f_X8_readyOf_11_b S (f_X8_readyOf_11 S n) x1 x2 x3
def f_X8_readyOf (S : Mem) (x1 : Int32) (x2 : Int32) : Option (Int64) :=
  gS (f_X8_at x1 x2) fun v1 =>
  gA v1 512 <|
  f_X8_readyOf_11 S FU x1 x2 (S.2 M_read (Int32.toNatClampNeg v1))
def f_X8_receiving (S : Mem) (x1 : Int32) (x2 : Int32) : Option (Int32) :=
  gS (f_X8_at x1 x2) fun v1 =>
  gA v1 512 <|
  if (S.1 M_wasReset (Int32.toNatClampNeg v1)) = (0 : Int32) then
    gA v1 512 <|
    if (0 : Int64) ≤ (S.2 M_size (Int32.toNatClampNeg v1)) then
      gA v1 512 <|
      gA v1 512 <|
      if (S.2 M_read (Int32.toNatClampNeg v1)) ≠ (S.2 M_size (Int32.toNatClampNeg v1)) then
        (f_X8_readyOf S x1 x2).bind fun v2 =>
        gA v1 512 <|
        if v2 ≠ (S.2 M_size (Int32.toNatClampNeg v1)) then
          some ((1 : Int32))
        else
          some ((2 : Int32))
      else
        some ((3 : Int32))
    else
      some ((0 : Int32))
  else
    some ((4 : Int32))
def f_X8_stop_27 (S : Mem) (x1 : Int32) (x2 : Int32) (x3 : Int64) (y0 : Int32) : Option (Mem × Int32) :=
  gB2 (f_X8_fails S y0 (1 : Int32)) fun S1 v2 =>
  if v2 ≠ (0 : Int32) then
    some (S1, (0 : Int32))
  else
    (f_X8_hasReceiving S1 x1 x2).bind fun v3 =>
    if v3 = (0 : Int32) then
      some (S1, (0 : Int32))
    else
      (f_X8_receiving S1 x1 x2).bind fun v4 =>
      if (1 : Int32) < v4 then
        some (S1, (0 : Int32))
      else
        gS (f_X8_at x1 x2) fun v5 =>
        gA v5 512 <|
        if (S1.1 M_stopped (Int32.toNatClampNeg v5)) = (0 : Int32) then
          gS (f_X8_at x1 x2) fun v6 =>
          gA v6 512 <| gS (sI S1 M_stopped (Int32.toNatClampNeg v6) (vp_nar .boolean 1)) fun S7 =>
          gS (f_X8_at x1 x2) fun v8 =>
          gA v8 512 <| gS (sI S7 M_tellStop (Int32.toNatClampNeg v8) (vp_nar .boolean 1)) fun S9 =>
          gS (f_X8_at x1 x2) fun v10 =>
          gA v10 512 <| gS (sJ S9 M_stopCode (Int32.toNatClampNeg v10) x3) fun S11 =>
          some (S11, (1 : Int32))
        else
          some (S1, (0 : Int32))
def f_X8_stop_22 (S : Mem) (x1 : Int32) (x2 : Int32) (x3 : Int64) : Option (Mem × Int32) :=
  f_X8_stop_27 S x1 x2 x3 1
def f_X8_stop (S : Mem) (x1 : Int32) (x2 : Int32) (x3 : Int64) : Option (Mem × Int32) :=
  gS (f_X8_noSide x1) fun v1 =>
  if v1 ≠ (0 : Int32) then
    f_X8_stop_22 S x1 x2 x3
  else
    if x3 < (0 : Int64) then
      f_X8_stop_22 S x1 x2 x3
    else
      if x3 ≤ (4611686018427387903 : Int64) then
        f_X8_stop_27 S x1 x2 x3 0
      else
        f_X8_stop_22 S x1 x2 x3
def f_X8_byteAt (S : Mem) (x1 : Int32) (x2 : Int32) (x3 : Int64) : Option (Int32) :=
  (f_X8_pieceAt S x1 x2 (Int64.toInt32 (x3 / 64))).bind fun v1 =>
  gA ((64 * v1) + (Int64.toInt32 (x3 - x3 / 64 * 64))) 180224 <|
  gN .byte (S.1 M_came (Int32.toNatClampNeg ((64 * v1) + (Int64.toInt32 (x3 - x3 / 64 * 64))))) (some ((S.1 M_came (Int32.toNatClampNeg ((64 * v1) + (Int64.toInt32 (x3 - x3 / 64 * 64)))))))
def f_X8_consumed_53 (S : Mem) (k5 : Int32 → Int64 → Int32 → Option (Int64)) (x1 : Int32) (x4 : Int32) (y0 : Int64) (y1 : Int64) : Option (Int64) :=
  k5 x1 (y1 + y0) (x4 + 1)
def f_X8_consumed_5_b (S : Mem) (k5 : Int32 → Int64 → Int32 → Option (Int64)) (x1 : Int32) (x2 : Int64) (x4 : Int32) : Option (Int64) :=
  if (256 : Int32) ≤ x4 then
    some (x2)
  else
    gS (f_X8_at x1 x4) fun v1 =>
    gA v1 512 <|
    if (S.1 M_wasReset (Int32.toNatClampNeg v1)) = (0 : Int32) then
      gS (f_X8_at x1 x4) fun v2 =>
      gA v2 512 <|
      f_X8_consumed_53 S k5 x1 x4 (S.2 M_read (Int32.toNatClampNeg v2)) x2
    else
      gS (f_X8_at x1 x4) fun v3 =>
      gA v3 512 <|
      f_X8_consumed_53 S k5 x1 x4 (S.2 M_size (Int32.toNatClampNeg v3)) x2
def f_X8_consumed_5 (S : Mem) : Nat → Int32 → Int64 → Int32 → Option (Int64)
  | 0, _, _, _ => none
  | n + 1, x1, x2, x4 => f_X8_consumed_5_b S (f_X8_consumed_5 S n) x1 x2 x4
def f_X8_consumed (S : Mem) (x1 : Int32) : Option (Int64) :=
  f_X8_consumed_5 S FU x1 0 0
def f_X8_grows (x0 : Int64) (x2 : Int64) (x4 : Int64) : Int32 :=
  if (2 * (x0 - x2)) < x4 then
    ((0 : Int32))
  else
    if x0 ≤ x2 then
      ((0 : Int32))
    else
      ((1 : Int32))
def f_X8_growData_55 (S : Mem) (x1 : Int32) (y0 : Int64) : Option (Mem) :=
  gA x1 2 <|
  if (S.2 M_dataGrant (Int32.toNatClampNeg x1)) < y0 then
    gA x1 2 <| gS (sJ S M_dataGrant (Int32.toNatClampNeg x1) y0) fun S1 =>
    gA x1 2 <| gS (sI S1 M_tellData (Int32.toNatClampNeg x1) (vp_nar .boolean 1)) fun S2 =>
    some (S2)
  else
    some (S)
def f_X8_growData (S : Mem) (x1 : Int32) : Option (Mem) :=
  gA ((16 * x1) + 4) 32 <|
  (f_X8_consumed S x1).bind fun v1 =>
  gA x1 2 <|
  gS (f_X8_grows (v1 + (Int32.toInt64 (S.1 M_grants (Int32.toNatClampNeg ((16 * x1) + 4))))) (S.2 M_dataGrant (Int32.toNatClampNeg x1)) (Int32.toInt64 (S.1 M_grants (Int32.toNatClampNeg ((16 * x1) + 4))))) fun v2 =>
  if v2 ≠ (0 : Int32) then
    if (65536 : Int64) ≤ (v1 + (Int32.toInt64 (S.1 M_grants (Int32.toNatClampNeg ((16 * x1) + 4))))) then
      f_X8_growData_55 S x1 65536
    else
      f_X8_growData_55 S x1 (v1 + (Int32.toInt64 (S.1 M_grants (Int32.toNatClampNeg ((16 * x1) + 4)))))
  else
    some (S)
def f_X8_growStream_60 (S : Mem) (x3 : Int32) (y0 : Int64) : Option (Mem) :=
  gA x3 512 <|
  if (S.2 M_grant (Int32.toNatClampNeg x3)) < y0 then
    gA x3 512 <| gS (sJ S M_grant (Int32.toNatClampNeg x3) y0) fun S1 =>
    gA x3 512 <| gS (sI S1 M_tellGrant (Int32.toNatClampNeg x3) (vp_nar .boolean 1)) fun S2 =>
    some (S2)
  else
    some (S)
def f_X8_growStream (S : Mem) (x1 : Int32) (x2 : Int32) : Option (Mem) :=
  gS (f_X8_at x1 x2) fun v1 =>
  (f_X8_grantOf S x1 x2).bind fun v2 =>
  gA v1 512 <|
  gA v1 512 <|
  gS (f_X8_grows ((S.2 M_read (Int32.toNatClampNeg v1)) + (Int32.toInt64 v2)) (S.2 M_grant (Int32.toNatClampNeg v1)) (Int32.toInt64 v2)) fun v3 =>
  if v3 ≠ (0 : Int32) then
    if (65536 : Int64) ≤ ((S.2 M_read (Int32.toNatClampNeg v1)) + (Int32.toInt64 v2)) then
      f_X8_growStream_60 S v1 65536
    else
      f_X8_growStream_60 S v1 ((S.2 M_read (Int32.toNatClampNeg v1)) + (Int32.toInt64 v2))
  else
    some (S)
def f_X8_looksOver_94 (S : Mem) (x1 : Int32) (x2 : Int32) (x3 : Int32) (x4 : Int32) (y0 : Int32) : Option (Mem) :=
  if x4 = (0 : Int32) then
    some (S)
  else
    if y0 ≠ (0 : Int32) then
      gA x3 512 <| gS (sI S M_over (Int32.toNatClampNeg x3) (vp_nar .boolean 1)) fun S1 =>
      gS (f_X8_wayOf (Int32.toInt64 x2)) fun v2 =>
      gA ((2 * x1) + v2) 4 <|
      if (S1.1 M_granted (Int32.toNatClampNeg ((2 * x1) + v2))) ≠ (64 : Int32) then
        gA ((2 * x1) + v2) 4 <|
        gA ((2 * x1) + v2) 4 <| gS (sI S1 M_granted (Int32.toNatClampNeg ((2 * x1) + v2)) ((S1.1 M_granted (Int32.toNatClampNeg ((2 * x1) + v2))) + 1)) fun S3 =>
        gA ((2 * x1) + v2) 4 <| gS (sI S3 M_tellStreams (Int32.toNatClampNeg ((2 * x1) + v2)) (vp_nar .boolean 1)) fun S4 =>
        some (S4)
      else
        some (S1)
    else
      some (S)
def f_X8_looksOver_89 (S : Mem) (x1 : Int32) (x2 : Int32) (x3 : Int32) (x4 : Int32) : Option (Mem) :=
  f_X8_looksOver_94 S x1 x2 x3 x4 1
def f_X8_looksOver_58 (S : Mem) (x1 : Int32) (x2 : Int32) (x3 : Int32) (y0 : Int32) : Option (Mem) :=
  gS (f_X8_sends x1 (Int32.toInt64 x2)) fun v1 =>
  if v1 = (0 : Int32) then
    f_X8_looksOver_89 S x1 x2 x3 y0
  else
    (f_X8_sending S x1 x2).bind fun v2 =>
    if v2 = (2 : Int32) then
      f_X8_looksOver_89 S x1 x2 x3 y0
    else
      (f_X8_sending S x1 x2).bind fun v3 =>
      if v3 ≠ (4 : Int32) then
        f_X8_looksOver_94 S x1 x2 x3 y0 0
      else
        f_X8_looksOver_89 S x1 x2 x3 y0
def f_X8_looksOver_53 (S : Mem) (x1 : Int32) (x2 : Int32) (x3 : Int32) : Option (Mem) :=
  f_X8_looksOver_58 S x1 x2 x3 1
def f_X8_looksOver (S : Mem) (x1 : Int32) (x2 : Int32) : Option (Mem) :=
  gS (f_X8_at x1 x2) fun v1 =>
  gS (f_X8_opens x1 (Int32.toInt64 x2)) fun v2 =>
  if v2 ≠ (0 : Int32) then
    some (S)
  else
    gA v1 512 <|
    if (S.1 M_over (Int32.toNatClampNeg v1)) ≠ (0 : Int32) then
      some (S)
    else
      gA v1 512 <|
      if (S.1 M_there (Int32.toNatClampNeg v1)) ≠ (0 : Int32) then
        gS (f_X8_receives x1 (Int32.toInt64 x2)) fun v3 =>
        if v3 = (0 : Int32) then
          f_X8_looksOver_53 S x1 x2 v1
        else
          (f_X8_receiving S x1 x2).bind fun v4 =>
          if v4 ≤ (2 : Int32) then
            f_X8_looksOver_58 S x1 x2 v1 0
          else
            f_X8_looksOver_53 S x1 x2 v1
      else
        some (S)
def f_X8_read_175 (S : Mem) (x1 : Int32) (x2 : Int32) : Option (Mem × Int32) :=
  (f_X8_looksOver S x1 x2).bind fun S1 =>
  some (S1, (S1.1 M_o 5))
def f_X8_read_148 (S : Mem) (x1 : Int32) (x2 : Int32) : Option (Mem × Int32) :=
  if (S.1 M_o 5) ≤ (0 : Int32) then
    f_X8_read_175 S x1 x2
  else
    (f_X8_growData S x1).bind fun S1 =>
    (f_X8_receiving S1 x1 x2).bind fun v2 =>
    if v2 ≠ (0 : Int32) then
      f_X8_read_175 S1 x1 x2
    else
      (f_X8_growStream S1 x1 x2).bind fun S3 =>
      f_X8_read_175 S3 x1 x2
def f_X8_read_77_b (k77 : Mem → Int32 → Int32 → Int32 → Int32 → Int64 → Option (Mem × Int32)) (S : Mem) (x1 : Int32) (x2 : Int32) (x3 : Int32) (x4 : Int32) (x5 : Int64) : Option (Mem × Int32) :=
  if x3 ≤ (S.1 M_o 5) then
    f_X8_read_148 S x1 x2
  else
    gA x4 512 <|
    if x5 ≤ (S.2 M_read (Int32.toNatClampNeg x4)) then
      f_X8_read_148 S x1 x2
    else
      gA x4 512 <|
      (f_X8_byteAt S x1 x2 (S.2 M_read (Int32.toNatClampNeg x4))).bind fun v1 =>
      gA (S.1 M_o 5) 2048 <| gS (sI S M_out (Int32.toNatClampNeg (S.1 M_o 5)) (v1 &&& 255)) fun S2 =>
      gS (sI S2 M_o 5 ((S2.1 M_o 5) + 1)) fun S3 =>
      gA x4 512 <|
      gA x4 512 <| gS (sJ S3 M_read (Int32.toNatClampNeg x4) ((S3.2 M_read (Int32.toNatClampNeg x4)) + 1)) fun S4 =>
      k77 S4 x1 x2 x3 x4 x5
def f_X8_read_77 : Nat → Mem → Int32 → Int32 → Int32 → Int32 → Int64 → Option (Mem × Int32)
  | 0, _, _, _, _, _, _ => none
  | n + 1, S, x1, x2, x3, x4, x5 => f_X8_read_77_b (f_X8_read_77 n) S x1 x2 x3 x4 x5
def f_X8_read_24 (S : Mem) (x1 : Int32) (x2 : Int32) (x3 : Int32) (y0 : Int32) : Option (Mem × Int32) :=
  gB2 (f_X8_fails S y0 (1 : Int32)) fun S1 v2 =>
  if v2 = (0 : Int32) then
    gS (sI S1 M_o 5 0) fun S3 =>
    (f_X8_hasReceiving S3 x1 x2).bind fun v4 =>
    if v4 ≠ (0 : Int32) then
      gS (f_X8_at x1 x2) fun v5 =>
      gA v5 512 <|
      if (S3.1 M_wasReset (Int32.toNatClampNeg v5)) = (0 : Int32) then
        (f_X8_readyOf S3 x1 x2).bind fun v6 =>
        f_X8_read_77 FU S3 x1 x2 x3 v5 v6
      else
        some (S3, ((-2) : Int32))
    else
      some (S3, ((-1) : Int32))
  else
    some (S1, (0 : Int32))
def f_X8_read_19 (S : Mem) (x1 : Int32) (x2 : Int32) (x3 : Int32) : Option (Mem × Int32) :=
  f_X8_read_24 S x1 x2 x3 1
def f_X8_read (S : Mem) (x1 : Int32) (x2 : Int32) (x3 : Int32) : Option (Mem × Int32) :=
  gS (f_X8_noSide x1) fun v1 =>
  if v1 ≠ (0 : Int32) then
    f_X8_read_19 S x1 x2 x3
  else
    if x3 < (0 : Int32) then
      f_X8_read_19 S x1 x2 x3
    else
      if x3 ≤ (2048 : Int32) then
        f_X8_read_24 S x1 x2 x3 0
      else
        f_X8_read_19 S x1 x2 x3
def f_X8_meant_58 (S : Mem) (x1 : Int32) (x2 : Int64) : Option (Int32) :=
  gS (f_X8_opens x1 x2) fun v1 =>
  if v1 ≠ (0 : Int32) then
    some ((0 : Int32))
  else
    gS (f_X8_wayOf x2) fun v2 =>
    gA ((2 * x1) + v2) 4 <|
    if (x2 / 4) < (Int32.toInt64 (S.1 M_granted (Int32.toNatClampNeg ((2 * x1) + v2)))) then
      some ((0 : Int32))
    else
      some ((4 : Int32))
def f_X8_meant_32 (S : Mem) (x1 : Int32) (x2 : Int64) (x4 : Int32) : Option (Int32) :=
  if x4 = (0 : Int32) then
    gS (f_X8_receives x1 x2) fun v1 =>
    if v1 ≠ (0 : Int32) then
      f_X8_meant_58 S x1 x2
    else
      some ((5 : Int32))
  else
    gS (f_X8_sends x1 x2) fun v2 =>
    if v2 ≠ (0 : Int32) then
      f_X8_meant_58 S x1 x2
    else
      some ((5 : Int32))
def f_X8_meant (S : Mem) (x1 : Int32) (x2 : Int64) (x4 : Int32) : Option (Int32) :=
  gS (f_X8_opens x1 x2) fun v1 =>
  if v1 = (0 : Int32) then
    f_X8_meant_32 S x1 x2 x4
  else
    if (256 : Int64) ≤ x2 then
      some ((5 : Int32))
    else
      gS (f_X8_at x1 (Int64.toInt32 x2)) fun v2 =>
      gA v2 512 <|
      if (S.1 M_there (Int32.toNatClampNeg v2)) ≠ (0 : Int32) then
        f_X8_meant_32 S x1 x2 x4
      else
        some ((5 : Int32))
def f_X8_received_5_b (S : Mem) (k5 : Int32 → Int64 → Int32 → Option (Int64)) (x1 : Int32) (x2 : Int64) (x4 : Int32) : Option (Int64) :=
  if (256 : Int32) ≤ x4 then
    some (x2)
  else
    gS (f_X8_at x1 x4) fun v1 =>
    gA v1 512 <|
    k5 x1 (x2 + (S.2 M_highest (Int32.toNatClampNeg v1))) (x4 + 1)
def f_X8_received_5 (S : Mem) : Nat → Int32 → Int64 → Int32 → Option (Int64)
  | 0, _, _, _ => none
  | n + 1, x1, x2, x4 => f_X8_received_5_b S (f_X8_received_5 S n) x1 x2 x4
def f_X8_received (S : Mem) (x1 : Int32) : Option (Int64) :=
  f_X8_received_5 S FU x1 0 0
def f_X8_reaches_152 (S : Mem) : Option (Int32) :=
  some ((3 : Int32))
def f_X8_reaches_125 (S : Mem) (x1 : Int32) (x3 : Int64) (x7 : Int64) (y0 : Int64) : Option (Int32) :=
  if x7 < x3 then
    f_X8_reaches_152 S
  else
    (f_X8_received S x1).bind fun v1 =>
    gA x1 2 <|
    if (v1 + y0) ≤ (S.2 M_dataGrant (Int32.toNatClampNeg x1)) then
      some ((0 : Int32))
    else
      f_X8_reaches_152 S
def f_X8_reaches_98 (S : Mem) (x1 : Int32) (x3 : Int64) (x6 : Int32) (y0 : Int64) : Option (Int32) :=
  gA x6 512 <|
  if x3 ≤ (S.2 M_highest (Int32.toNatClampNeg x6)) then
    f_X8_reaches_125 S x1 x3 y0 0
  else
    gA x6 512 <|
    f_X8_reaches_125 S x1 x3 y0 (x3 - (S.2 M_highest (Int32.toNatClampNeg x6)))
def f_X8_reaches_71 (S : Mem) (x1 : Int32) (x2 : Int32) (x3 : Int64) (x6 : Int32) : Option (Int32) :=
  gA x6 512 <|
  if (S.1 M_there (Int32.toNatClampNeg x6)) = (0 : Int32) then
    (f_X8_grantOf S x1 x2).bind fun v1 =>
    f_X8_reaches_98 S x1 x3 x6 (Int32.toInt64 v1)
  else
    gA x6 512 <|
    f_X8_reaches_98 S x1 x3 x6 (S.2 M_grant (Int32.toNatClampNeg x6))
def f_X8_reaches_51 (S : Mem) (x1 : Int32) (x2 : Int32) (x3 : Int64) (x5 : Int32) (x6 : Int32) : Option (Int32) :=
  if x5 = (0 : Int32) then
    f_X8_reaches_71 S x1 x2 x3 x6
  else
    gA x6 512 <|
    if (S.2 M_highest (Int32.toNatClampNeg x6)) ≤ x3 then
      f_X8_reaches_71 S x1 x2 x3 x6
    else
      some ((6 : Int32))
def f_X8_reaches (S : Mem) (x1 : Int32) (x2 : Int32) (x3 : Int64) (x5 : Int32) : Option (Int32) :=
  gS (f_X8_at x1 x2) fun v1 =>
  gA v1 512 <|
  if (S.2 M_size (Int32.toNatClampNeg v1)) < (0 : Int64) then
    f_X8_reaches_51 S x1 x2 x3 x5 v1
  else
    gA v1 512 <|
    if (S.2 M_size (Int32.toNatClampNeg v1)) < x3 then
      some ((6 : Int32))
    else
      if x5 = (0 : Int32) then
        f_X8_reaches_51 S x1 x2 x3 x5 v1
      else
        gA v1 512 <|
        if x3 = (S.2 M_size (Int32.toNatClampNeg v1)) then
          f_X8_reaches_51 S x1 x2 x3 x5 v1
        else
          some ((6 : Int32))
def f_X8_comesThere_20_b (k20 : Mem → Int32 → Int32 → Int32 → Option (Mem)) (S : Mem) (x1 : Int32) (x2 : Int32) (x3 : Int32) : Option (Mem) :=
  gA x3 4 <|
  if (x2 / 4) < (S.1 M_theirs (Int32.toNatClampNeg x3)) then
    some (S)
  else
    gA x3 4 <|
    (f_X8_begin S x1 ((4 * (S.1 M_theirs (Int32.toNatClampNeg x3))) + (x2 - x2 / 4 * 4))).bind fun S1 =>
    gA x3 4 <|
    gA x3 4 <| gS (sI S1 M_theirs (Int32.toNatClampNeg x3) ((S1.1 M_theirs (Int32.toNatClampNeg x3)) + 1)) fun S2 =>
    k20 S2 x1 x2 x3
def f_X8_comesThere_20 : Nat → Mem → Int32 → Int32 → Int32 → Option (Mem)
  | 0, _, _, _, _ => none
  | n + 1, S, x1, x2, x3 => f_X8_comesThere_20_b (f_X8_comesThere_20 n) S x1 x2 x3
def f_X8_comesThere (S : Mem) (x1 : Int32) (x2 : Int32) : Option (Mem) :=
  gS (f_X8_wayOf (Int32.toInt64 x2)) fun v1 =>
  gS (f_X8_opens x1 (Int32.toInt64 x2)) fun v2 =>
  if v2 = (0 : Int32) then
    f_X8_comesThere_20 FU S x1 x2 ((2 * x1) + v1)
  else
    some (S)
def f_X8_comes_64 (S : Mem) (x3 : Int64) (x5 : Int32) (x7 : Int32) : Option (Mem) :=
  gA ((64 * x7) + (Int64.toInt32 (x3 - x3 / 64 * 64))) 180224 <|
  if (S.1 M_has (Int32.toNatClampNeg ((64 * x7) + (Int64.toInt32 (x3 - x3 / 64 * 64))))) = (0 : Int32) then
    gA ((64 * x7) + (Int64.toInt32 (x3 - x3 / 64 * 64))) 180224 <| gS (sI S M_has (Int32.toNatClampNeg ((64 * x7) + (Int64.toInt32 (x3 - x3 / 64 * 64)))) (vp_nar .boolean 1)) fun S1 =>
    gA ((64 * x7) + (Int64.toInt32 (x3 - x3 / 64 * 64))) 180224 <| gS (sI S1 M_came (Int32.toNatClampNeg ((64 * x7) + (Int64.toInt32 (x3 - x3 / 64 * 64)))) (vp_nar .byte x5)) fun S2 =>
    some (S2)
  else
    some (S)
def f_X8_comes (S : Mem) (x1 : Int32) (x2 : Int32) (x3 : Int64) (x5 : Int32) : Option (Mem) :=
  (f_X8_pieceAt S x1 x2 (Int64.toInt32 (x3 / 64))).bind fun v1 =>
  if (0 : Int32) ≤ v1 then
    f_X8_comes_64 S x3 x5 v1
  else
    gA x1 2 <|
    gA x1 2 <|
    gA x1 2 <| gS (sI S M_pieces (Int32.toNatClampNeg x1) ((S.1 M_pieces (Int32.toNatClampNeg x1)) + 1)) fun S2 =>
    gA ((1408 * x1) + (S.1 M_pieces (Int32.toNatClampNeg x1))) 2816 <| gS (sI S2 M_pieceOf (Int32.toNatClampNeg ((1408 * x1) + (S.1 M_pieces (Int32.toNatClampNeg x1)))) x2) fun S3 =>
    gA ((1408 * x1) + (S.1 M_pieces (Int32.toNatClampNeg x1))) 2816 <| gS (sI S3 M_pieceNumber (Int32.toNatClampNeg ((1408 * x1) + (S.1 M_pieces (Int32.toNatClampNeg x1)))) (Int64.toInt32 (x3 / 64))) fun S4 =>
    f_X8_comes_64 S4 x3 x5 ((1408 * x1) + (S.1 M_pieces (Int32.toNatClampNeg x1)))
def f_X8_takeStream_170 (S : Mem) (x1 : Int32) (x3 : Int32) : Option (Mem × Int32) :=
  (f_X8_looksOver S x1 x3).bind fun S1 =>
  some (S1, (0 : Int32))
def f_X8_takeStream_128_b (k128 : Mem → Int32 → Int32 → Int32 → Int32 → Option (Mem × Int32)) (S : Mem) (x1 : Int32) (x3 : Int32) (x7 : Int32) (x8 : Int32) : Option (Mem × Int32) :=
  if (S.1 M_o 49) ≤ x8 then
    f_X8_takeStream_170 S x1 x3
  else
    if (2 : Int32) ≤ x7 then
      f_X8_takeStream_170 S x1 x3
    else
      gA x8 2048 <|
      (f_X8_comes S x1 x3 ((S.2 M_o 47) + (Int32.toInt64 x8)) (S.1 M_fData (Int32.toNatClampNeg x8))).bind fun S1 =>
      k128 S1 x1 x3 x7 (x8 + 1)
def f_X8_takeStream_128 : Nat → Mem → Int32 → Int32 → Int32 → Int32 → Option (Mem × Int32)
  | 0, _, _, _, _, _ => none
  | n + 1, S, x1, x3, x7, x8 => f_X8_takeStream_128_b (f_X8_takeStream_128 n) S x1 x3 x7 x8
def f_X8_takeStream_125 (S : Mem) (x1 : Int32) (x3 : Int32) (x7 : Int32) : Option (Mem × Int32) :=
  f_X8_takeStream_128 FU S x1 x3 x7 0
def f_X8_takeStream_107 (S : Mem) (x1 : Int32) (x3 : Int32) (x4 : Int32) (x5 : Int64) (x7 : Int32) : Option (Mem × Int32) :=
  if (S.2 M_o 48) ≠ (1 : Int64) then
    f_X8_takeStream_125 S x1 x3 x7
  else
    gA x4 512 <| gS (sJ S M_size (Int32.toNatClampNeg x4) x5) fun S1 =>
    f_X8_takeStream_125 S1 x1 x3 x7
def f_X8_takeStream_61 (S : Mem) (x1 : Int32) (x3 : Int32) (x4 : Int32) (x5 : Int64) (y0 : Int32) (y1 : Int64) (y2 : Int32) (y3 : Int32) : Option (Mem × Int32) :=
  (f_X8_reaches S y3 y2 y1 y0).bind fun v1 =>
  if v1 ≤ (0 : Int32) then
    (f_X8_comesThere S x1 x3).bind fun S2 =>
    (f_X8_receiving S2 x1 x3).bind fun v3 =>
    gA x4 512 <|
    if x5 ≤ (S2.2 M_highest (Int32.toNatClampNeg x4)) then
      f_X8_takeStream_107 S2 x1 x3 x4 x5 v3
    else
      gA x4 512 <| gS (sJ S2 M_highest (Int32.toNatClampNeg x4) x5) fun S4 =>
      f_X8_takeStream_107 S4 x1 x3 x4 x5 v3
  else
    some (S, v1)
def f_X8_takeStream (S : Mem) (x1 : Int32) : Option (Mem × Int32) :=
  (f_X8_meant S x1 (S.2 M_o 46) (0 : Int32)).bind fun v1 =>
  if v1 ≤ (0 : Int32) then
    gS (f_X8_at x1 (Int64.toInt32 (S.2 M_o 46))) fun v2 =>
    if (S.2 M_o 48) ≠ (1 : Int64) then
      f_X8_takeStream_61 S x1 (Int64.toInt32 (S.2 M_o 46)) v2 ((S.2 M_o 47) + (Int32.toInt64 (S.1 M_o 49))) 0 ((S.2 M_o 47) + (Int32.toInt64 (S.1 M_o 49))) (Int64.toInt32 (S.2 M_o 46)) x1
    else
      f_X8_takeStream_61 S x1 (Int64.toInt32 (S.2 M_o 46)) v2 ((S.2 M_o 47) + (Int32.toInt64 (S.1 M_o 49))) 1 ((S.2 M_o 47) + (Int32.toInt64 (S.1 M_o 49))) (Int64.toInt32 (S.2 M_o 46)) x1
  else
    some (S, v1)
def f_X8_takeReset (S : Mem) (x1 : Int32) : Option (Mem × Int32) :=
  (f_X8_meant S x1 (S.2 M_o 46) (0 : Int32)).bind fun v1 =>
  if v1 ≤ (0 : Int32) then
    gS (f_X8_at x1 (Int64.toInt32 (S.2 M_o 46))) fun v2 =>
    (f_X8_reaches S x1 (Int64.toInt32 (S.2 M_o 46)) (S.2 M_o 48) (1 : Int32)).bind fun v3 =>
    if v3 ≤ (0 : Int32) then
      (f_X8_comesThere S x1 (Int64.toInt32 (S.2 M_o 46))).bind fun S4 =>
      (f_X8_receiving S4 x1 (Int64.toInt32 (S.2 M_o 46))).bind fun v5 =>
      gA v2 512 <| gS (sJ S4 M_highest (Int32.toNatClampNeg v2) (S4.2 M_o 48)) fun S6 =>
      gA v2 512 <| gS (sJ S6 M_size (Int32.toNatClampNeg v2) (S6.2 M_o 48)) fun S7 =>
      if v5 ≤ (1 : Int32) then
        gA v2 512 <| gS (sI S7 M_wasReset (Int32.toNatClampNeg v2) (vp_nar .boolean 1)) fun S8 =>
        gA v2 512 <| gS (sJ S8 M_theirCode (Int32.toNatClampNeg v2) (S8.2 M_o 47)) fun S9 =>
        (f_X8_growData S9 x1).bind fun S10 =>
        (f_X8_looksOver S10 x1 (Int64.toInt32 (S.2 M_o 46))).bind fun S11 =>
        some (S11, (0 : Int32))
      else
        some (S7, (0 : Int32))
    else
      some (S, v3)
  else
    some (S, v1)
def f_X8_greater (x0 : Int64) (x2 : Int64) : Int64 :=
  if x0 ≤ x2 then
    (x2)
  else
    (x0)
def f_X8_takeOther_70 (S : Mem) (x1 : Int32) (x3 : Int32) : Option (Mem × Int32) :=
  if (S.1 M_o 45) ≠ (17 : Int32) then
    some (S, (0 : Int32))
  else
    gS (f_X8_at x1 x3) fun v1 =>
    gS (f_X8_at x1 x3) fun v2 =>
    gA v2 512 <|
    gS (f_X8_greater (S.2 M_limit (Int32.toNatClampNeg v2)) (S.2 M_o 47)) fun v3 =>
    gA v1 512 <| gS (sJ S M_limit (Int32.toNatClampNeg v1) v3) fun S4 =>
    some (S4, (0 : Int32))
def f_X8_takeOther_20 (S : Mem) (x1 : Int32) (y0 : Int32) (y1 : Int64) (y2 : Int32) : Option (Mem × Int32) :=
  (f_X8_meant S y2 y1 y0).bind fun v1 =>
  if v1 ≤ (0 : Int32) then
    (f_X8_comesThere S x1 (Int64.toInt32 (S.2 M_o 46))).bind fun S2 =>
    if (S2.1 M_o 45) ≠ (5 : Int32) then
      f_X8_takeOther_70 S2 x1 (Int64.toInt32 (S.2 M_o 46))
    else
      (f_X8_sending S2 x1 (Int64.toInt32 (S.2 M_o 46))).bind fun v3 =>
      if (2 : Int32) ≤ v3 then
        f_X8_takeOther_70 S2 x1 (Int64.toInt32 (S.2 M_o 46))
      else
        (f_X8_doReset S2 x1 (Int64.toInt32 (S.2 M_o 46)) (S2.2 M_o 47)).bind fun S4 =>
        f_X8_takeOther_70 S4 x1 (Int64.toInt32 (S.2 M_o 46))
  else
    some (S, v1)
def f_X8_takeOther (S : Mem) (x1 : Int32) : Option (Mem × Int32) :=
  if (S.1 M_o 45) = (21 : Int32) then
    f_X8_takeOther_20 S x1 0 (S.2 M_o 46) x1
  else
    f_X8_takeOther_20 S x1 1 (S.2 M_o 46) x1
def f_X8_takes_55 (S : Mem) (x1 : Int32) : Option (Mem × Int32) :=
  gB2 (f_X8_takeOther S x1) fun S1 v2 =>
  some (S1, v2)
def f_X8_takes_155 (S : Mem) (y0 : Int64) (y1 : Int64) (y2 : Int32) : Option (Mem × Int32) :=
  gS (f_X8_greater y1 y0) fun v1 =>
  gA y2 6 <| gS (sJ S M_limits (Int32.toNatClampNeg y2) v1) fun S2 =>
  some (S2, (0 : Int32))
def f_X8_takes_111 (S : Mem) (x1 : Int32) : Option (Mem × Int32) :=
  gA (((3 * x1) + (S.1 M_o 45)) - 17) 6 <|
  if (64 : Int64) ≤ (S.2 M_o 46) then
    f_X8_takes_155 S 64 (S.2 M_limits (Int32.toNatClampNeg (((3 * x1) + (S.1 M_o 45)) - 17))) (((3 * x1) + (S.1 M_o 45)) - 17)
  else
    f_X8_takes_155 S (S.2 M_o 46) (S.2 M_limits (Int32.toNatClampNeg (((3 * x1) + (S.1 M_o 45)) - 17))) (((3 * x1) + (S.1 M_o 45)) - 17)
def f_X8_takes_93 (S : Mem) (x1 : Int32) : Option (Mem × Int32) :=
  if (S.1 M_o 45) = (18 : Int32) then
    f_X8_takes_111 S x1
  else
    if (S.1 M_o 45) ≠ (19 : Int32) then
      some (S, (0 : Int32))
    else
      f_X8_takes_111 S x1
def f_X8_takes (S : Mem) (x1 : Int32) : Option (Mem × Int32) :=
  if (S.1 M_o 45) ≠ (8 : Int32) then
    if (S.1 M_o 45) ≠ (4 : Int32) then
      if (S.1 M_o 45) = (5 : Int32) then
        f_X8_takes_55 S x1
      else
        if (S.1 M_o 45) = (17 : Int32) then
          f_X8_takes_55 S x1
        else
          if (S.1 M_o 45) ≠ (21 : Int32) then
            if (S.1 M_o 45) ≠ (16 : Int32) then
              f_X8_takes_93 S x1
            else
              gA (3 * x1) 6 <|
              gS (f_X8_greater (S.2 M_limits (Int32.toNatClampNeg (3 * x1))) (S.2 M_o 46)) fun v1 =>
              gA (3 * x1) 6 <| gS (sJ S M_limits (Int32.toNatClampNeg (3 * x1)) v1) fun S2 =>
              f_X8_takes_93 S2 x1
          else
            f_X8_takes_55 S x1
    else
      gB2 (f_X8_takeReset S x1) fun S3 v4 =>
      some (S3, v4)
  else
    gB2 (f_X8_takeStream S x1) fun S5 v6 =>
    some (S5, v6)
def f_X8_take_195_b (k195 : Mem → Int32 → Int32 → Option (Mem × Int32)) (S : Mem) (x1 : Int32) (x11 : Int32) : Option (Mem × Int32) :=
  if (S.1 M_o 3) ≤ x11 then
    gS (sI S M_o 3 0) fun S1 =>
    gB2 (f_X8_takes S1 x1) fun S2 v3 =>
    some (S2, v3)
  else
    gA x11 2048 <|
    gA x11 2048 <| gS (sI S M_fData (Int32.toNatClampNeg x11) (vp_nar .byte (Int8.toInt32 (Int32.toInt8 (S.1 M_tape (Int32.toNatClampNeg x11)))))) fun S4 =>
    k195 S4 x1 (x11 + 1)
def f_X8_take_195 : Nat → Mem → Int32 → Int32 → Option (Mem × Int32)
  | 0, _, _, _ => none
  | n + 1, S, x1, x11 => f_X8_take_195_b (f_X8_take_195 n) S x1 x11
def f_X8_take_153 (S : Mem) (x1 : Int32) (x2 : Int32) (x3 : Int64) (x5 : Int64) (x7 : Int64) (y0 : Int32) : Option (Mem × Int32) :=
  gB2 (f_X8_fails S y0 (2 : Int32)) fun S1 v2 =>
  if v2 = (0 : Int32) then
    gS (sI S1 M_o 45 x2) fun S3 =>
    gS (sJ S3 M_o 46 x3) fun S4 =>
    gS (sJ S4 M_o 47 x5) fun S5 =>
    gS (sJ S5 M_o 48 x7) fun S6 =>
    gS (sI S6 M_o 49 (S6.1 M_o 3)) fun S7 =>
    f_X8_take_195 FU S7 x1 0
  else
    some (S1, (0 : Int32))
def f_X8_take_133 (S : Mem) (x1 : Int32) (x2 : Int32) (x3 : Int64) (x5 : Int64) (x7 : Int64) (y0 : Int32) : Option (Mem × Int32) :=
  gB2 (f_X8_fails S y0 (1 : Int32)) fun S1 v2 =>
  if v2 ≠ (0 : Int32) then
    some (S1, (0 : Int32))
  else
    if (S1.1 M_o 1) ≠ (0 : Int32) then
      f_X8_take_153 S1 x1 x2 x3 x5 x7 0
    else
      f_X8_take_153 S1 x1 x2 x3 x5 x7 1
def f_X8_take_128 (S : Mem) (x1 : Int32) (x2 : Int32) (x3 : Int64) (x5 : Int64) (x7 : Int64) : Option (Mem × Int32) :=
  f_X8_take_133 S x1 x2 x3 x5 x7 1
def f_X8_take_108 (S : Mem) (x1 : Int32) (x2 : Int32) (x3 : Int64) (x5 : Int64) (x7 : Int64) (x9 : Int32) (y0 : Int32) : Option (Mem × Int32) :=
  gS (f_X8_noSide x1) fun v1 =>
  if v1 ≠ (0 : Int32) then
    f_X8_take_128 S x1 x2 x3 x5 x7
  else
    if x9 = (0 : Int32) then
      f_X8_take_128 S x1 x2 x3 x5 x7
    else
      if y0 ≠ (0 : Int32) then
        f_X8_take_133 S x1 x2 x3 x5 x7 0
      else
        f_X8_take_128 S x1 x2 x3 x5 x7
def f_X8_take_107 (S : Mem) (x1 : Int32) (x2 : Int32) (x3 : Int64) (x5 : Int64) (x7 : Int64) (x9 : Int32) : Option (Mem × Int32) :=
  f_X8_take_108 S x1 x2 x3 x5 x7 x9 0
def f_X8_take_99 (S : Mem) (x1 : Int32) (x2 : Int32) (x3 : Int64) (x5 : Int64) (x7 : Int64) (x9 : Int32) (y0 : Int64) (y1 : Int64) : Option (Mem × Int32) :=
  if y0 < y1 then
    f_X8_take_107 S x1 x2 x3 x5 x7 x9
  else
    f_X8_take_108 S x1 x2 x3 x5 x7 x9 1
def f_X8_take_73 (S : Mem) (x1 : Int32) (x2 : Int32) (x3 : Int64) (x5 : Int64) (x7 : Int64) (x9 : Int32) (y0 : Int64) (y1 : Int64) : Option (Mem × Int32) :=
  if y0 < y1 then
    f_X8_take_107 S x1 x2 x3 x5 x7 x9
  else
    if x7 < (0 : Int64) then
      f_X8_take_107 S x1 x2 x3 x5 x7 x9
    else
      if x2 ≠ (8 : Int32) then
        f_X8_take_99 S x1 x2 x3 x5 x7 x9 4611686018427387903 x7
      else
        f_X8_take_99 S x1 x2 x3 x5 x7 x9 1 x7
def f_X8_take_33 (S : Mem) (x1 : Int32) (x2 : Int32) (x3 : Int64) (x5 : Int64) (x7 : Int64) (y0 : Int32) : Option (Mem × Int32) :=
  if x3 < (0 : Int64) then
    f_X8_take_107 S x1 x2 x3 x5 x7 y0
  else
    if (4611686018427387903 : Int64) < x3 then
      f_X8_take_107 S x1 x2 x3 x5 x7 y0
    else
      if x5 < (0 : Int64) then
        f_X8_take_107 S x1 x2 x3 x5 x7 y0
      else
        if x2 ≠ (8 : Int32) then
          f_X8_take_73 S x1 x2 x3 x5 x7 y0 4611686018427387903 x5
        else
          f_X8_take_73 S x1 x2 x3 x5 x7 y0 4611686018427380000 x5
def f_X8_take_28 (S : Mem) (x1 : Int32) (x2 : Int32) (x3 : Int64) (x5 : Int64) (x7 : Int64) : Option (Mem × Int32) :=
  f_X8_take_33 S x1 x2 x3 x5 x7 1
def f_X8_take_32 (S : Mem) (x1 : Int32) (x2 : Int32) (x3 : Int64) (x5 : Int64) (x7 : Int64) : Option (Mem × Int32) :=
  f_X8_take_33 S x1 x2 x3 x5 x7 0
def f_X8_take (S : Mem) (x1 : Int32) (x2 : Int32) (x3 : Int64) (x5 : Int64) (x7 : Int64) : Option (Mem × Int32) :=
  if x2 = (4 : Int32) then
    f_X8_take_28 S x1 x2 x3 x5 x7
  else
    if x2 = (5 : Int32) then
      f_X8_take_28 S x1 x2 x3 x5 x7
    else
      if x2 = (8 : Int32) then
        f_X8_take_28 S x1 x2 x3 x5 x7
      else
        if x2 < (16 : Int32) then
          f_X8_take_32 S x1 x2 x3 x5 x7
        else
          if (23 : Int32) < x2 then
            f_X8_take_32 S x1 x2 x3 x5 x7
          else
            f_X8_take_28 S x1 x2 x3 x5 x7
def f_X8_freePlace_2_b (S : Mem) (k2 : Int32 → Option (Int32)) (x1 : Int32) : Option (Int32) :=
  if (64 : Int32) ≤ x1 then
    some (((-1) : Int32))
  else
    gA x1 64 <|
    if (S.1 M_lineUsed (Int32.toNatClampNeg x1)) ≠ (0 : Int32) then
      k2 (x1 + 1)
    else
      some (x1)
def f_X8_freePlace_2 (S : Mem) : Nat → Int32 → Option (Int32)
  | 0, _ => none
  | n + 1, x1 => f_X8_freePlace_2_b S (f_X8_freePlace_2 S n) x1
def f_X8_freePlace (S : Mem) : Option (Int32) :=
  f_X8_freePlace_2 S FU 0
def f_X8_sent (S : Mem) (x1 : Int32) (x2 : Int32) : Option (Int32) :=
  (f_X8_count S x1 x2 ((-2) : Int32)).bind fun v1 =>
  some (v1)
def f_X8_sizeOf (x0 : Int64) : Int32 :=
  if (64 : Int64) ≤ x0 then
    if (16384 : Int64) ≤ x0 then
      if (1073741824 : Int64) ≤ x0 then
        ((8 : Int32))
      else
        ((4 : Int32))
    else
      ((2 : Int32))
  else
    ((1 : Int32))
def f_X8_bytes_38 (S : Mem) (y0 : Int32) (y1 : Int32) : Int32 :=
  gS (f_X8_sizeOf (Int32.toInt64 (S.1 M_o 49))) fun v1 =>
  ((((y1 + y0) + v1) + (S.1 M_o 49)))
def f_X8_bytes_108 (S : Mem) (x1 : Int32) : Int32 :=
  if (S.1 M_o 45) ≠ (4 : Int32) then
    (x1)
  else
    gS (f_X8_sizeOf (S.2 M_o 48)) fun v1 =>
    ((x1 + v1))
def f_X8_bytes_98 (S : Mem) (x1 : Int32) : Int32 :=
  gS (f_X8_sizeOf (S.2 M_o 47)) fun v1 =>
  f_X8_bytes_108 S (x1 + v1)
def f_X8_bytes (S : Mem) : Int32 :=
  if (S.1 M_o 45) ≠ (8 : Int32) then
    gS (f_X8_sizeOf (S.2 M_o 46)) fun v1 =>
    if (S.1 M_o 45) = (4 : Int32) then
      f_X8_bytes_98 S (1 + v1)
    else
      if (S.1 M_o 45) = (5 : Int32) then
        f_X8_bytes_98 S (1 + v1)
      else
        if (S.1 M_o 45) = (17 : Int32) then
          f_X8_bytes_98 S (1 + v1)
        else
          if (S.1 M_o 45) ≠ (21 : Int32) then
            f_X8_bytes_108 S (1 + v1)
          else
            f_X8_bytes_98 S (1 + v1)
  else
    gS (f_X8_sizeOf (S.2 M_o 46)) fun v2 =>
    if (S.2 M_o 47) ≤ (0 : Int64) then
      f_X8_bytes_38 S 0 (1 + v2)
    else
      gS (f_X8_sizeOf (S.2 M_o 47)) fun v3 =>
      f_X8_bytes_38 S v3 (1 + v2)
def f_X8_lays (S : Mem) (x1 : Int32) (x2 : Int64) (x4 : Int64) (x6 : Int64) (x8 : Int32) : Mem × Int32 :=
  gS (sI S M_o 45 x1) fun S1 =>
  gS (sJ S1 M_o 46 x2) fun S2 =>
  gS (sJ S2 M_o 47 x4) fun S3 =>
  gS (sJ S3 M_o 48 x6) fun S4 =>
  gS (sI S4 M_o 49 0) fun S5 =>
  gS (f_X8_bytes S5) fun v6 =>
  if x8 < v6 then
    (S5, (0 : Int32))
  else
    (S5, (1 : Int32))
def f_X8_fillsResets_72 (k2 : Mem → Int32 → Int32 → Int32 → Option (Mem × Int32)) (S : Mem) (x1 : Int32) (x2 : Int32) (x3 : Int32) : Option (Mem × Int32) :=
  k2 S x1 x2 (x3 + 1)
def f_X8_fillsResets_143 (k80 : Mem → Int32 → Int32 → Int32 → Option (Mem × Int32)) (S : Mem) (x1 : Int32) (x2 : Int32) (x3 : Int32) : Option (Mem × Int32) :=
  k80 S x1 x2 (x3 + 1)
def f_X8_fillsResets_80_b (k80 : Mem → Int32 → Int32 → Int32 → Option (Mem × Int32)) (S : Mem) (x1 : Int32) (x2 : Int32) (x3 : Int32) : Option (Mem × Int32) :=
  if (256 : Int32) ≤ x3 then
    some (S, (0 : Int32))
  else
    gS (f_X8_at x1 x3) fun v1 =>
    gA v1 512 <|
    if (S.1 M_tellStop (Int32.toNatClampNeg v1)) = (0 : Int32) then
      f_X8_fillsResets_143 k80 S x1 x2 x3
    else
      (f_X8_receiving S x1 x3).bind fun v2 =>
      if (2 : Int32) ≤ v2 then
        f_X8_fillsResets_143 k80 S x1 x2 x3
      else
        gA v1 512 <|
        gS2 (f_X8_lays S (5 : Int32) (Int32.toInt64 x3) (S.2 M_stopCode (Int32.toNatClampNeg v1)) (0 : Int64) x2) fun S3 v4 =>
        if v4 = (0 : Int32) then
          f_X8_fillsResets_143 k80 S3 x1 x2 x3
        else
          gA v1 512 <| gS (sI S3 M_tellStop (Int32.toNatClampNeg v1) (vp_nar .boolean 0)) fun S5 =>
          some (S5, (1 : Int32))
def f_X8_fillsResets_80 : Nat → Mem → Int32 → Int32 → Int32 → Option (Mem × Int32)
  | 0, _, _, _, _ => none
  | n + 1, S, x1, x2, x3 => f_X8_fillsResets_80_b (f_X8_fillsResets_80 n) S x1 x2 x3
def f_X8_fillsResets_2_b (k2 : Mem → Int32 → Int32 → Int32 → Option (Mem × Int32)) (S : Mem) (x1 : Int32) (x2 : Int32) (x3 : Int32) : Option (Mem × Int32) :=
  if (256 : Int32) ≤ x3 then
    f_X8_fillsResets_80 FU S x1 x2 0
  else
    gS (f_X8_at x1 x3) fun v1 =>
    gA v1 512 <|
    if (S.1 M_tellReset (Int32.toNatClampNeg v1)) = (0 : Int32) then
      f_X8_fillsResets_72 k2 S x1 x2 x3
    else
      gA v1 512 <|
      if (S.1 M_resets (Int32.toNatClampNeg v1)) ≠ (1 : Int32) then
        f_X8_fillsResets_72 k2 S x1 x2 x3
      else
        gA v1 512 <|
        (f_X8_sent S x1 x3).bind fun v2 =>
        gS2 (f_X8_lays S (4 : Int32) (Int32.toInt64 x3) (S.2 M_code (Int32.toNatClampNeg v1)) (Int32.toInt64 v2) x2) fun S3 v4 =>
        if v4 = (0 : Int32) then
          f_X8_fillsResets_72 k2 S3 x1 x2 x3
        else
          gA v1 512 <| gS (sI S3 M_tellReset (Int32.toNatClampNeg v1) (vp_nar .boolean 0)) fun S5 =>
          some (S5, (1 : Int32))
def f_X8_fillsResets_2 : Nat → Mem → Int32 → Int32 → Int32 → Option (Mem × Int32)
  | 0, _, _, _, _ => none
  | n + 1, S, x1, x2, x3 => f_X8_fillsResets_2_b (f_X8_fillsResets_2 n) S x1 x2 x3
def f_X8_fillsResets (S : Mem) (x1 : Int32) (x2 : Int32) : Option (Mem × Int32) :=
  f_X8_fillsResets_2 FU S x1 x2 0
def f_X8_fillsGrants_101 (k38 : Mem → Int32 → Int32 → Int32 → Option (Mem × Int32)) (S : Mem) (x1 : Int32) (x2 : Int32) (x3 : Int32) : Option (Mem × Int32) :=
  k38 S x1 x2 (x3 + 1)
def f_X8_fillsGrants_165 (k109 : Mem → Int32 → Int32 → Int32 → Option (Mem × Int32)) (S : Mem) (x1 : Int32) (x2 : Int32) (x3 : Int32) : Option (Mem × Int32) :=
  k109 S x1 x2 (x3 + 1)
def f_X8_fillsGrants_109_b (k109 : Mem → Int32 → Int32 → Int32 → Option (Mem × Int32)) (S : Mem) (x1 : Int32) (x2 : Int32) (x3 : Int32) : Option (Mem × Int32) :=
  if (2 : Int32) ≤ x3 then
    some (S, (0 : Int32))
  else
    gA ((2 * x1) + x3) 4 <|
    if (S.1 M_tellStreams (Int32.toNatClampNeg ((2 * x1) + x3))) = (0 : Int32) then
      f_X8_fillsGrants_165 k109 S x1 x2 x3
    else
      gA ((2 * x1) + x3) 4 <|
      gS2 (f_X8_lays S (18 + x3) (Int32.toInt64 (S.1 M_granted (Int32.toNatClampNeg ((2 * x1) + x3)))) (0 : Int64) (0 : Int64) x2) fun S1 v2 =>
      if v2 = (0 : Int32) then
        f_X8_fillsGrants_165 k109 S1 x1 x2 x3
      else
        gA ((2 * x1) + x3) 4 <| gS (sI S1 M_tellStreams (Int32.toNatClampNeg ((2 * x1) + x3)) (vp_nar .boolean 0)) fun S3 =>
        some (S3, (1 : Int32))
def f_X8_fillsGrants_109 : Nat → Mem → Int32 → Int32 → Int32 → Option (Mem × Int32)
  | 0, _, _, _, _ => none
  | n + 1, S, x1, x2, x3 => f_X8_fillsGrants_109_b (f_X8_fillsGrants_109 n) S x1 x2 x3
def f_X8_fillsGrants_38_b (k38 : Mem → Int32 → Int32 → Int32 → Option (Mem × Int32)) (S : Mem) (x1 : Int32) (x2 : Int32) (x3 : Int32) : Option (Mem × Int32) :=
  if (256 : Int32) ≤ x3 then
    f_X8_fillsGrants_109 FU S x1 x2 0
  else
    gS (f_X8_at x1 x3) fun v1 =>
    gA v1 512 <|
    if (S.1 M_tellGrant (Int32.toNatClampNeg v1)) = (0 : Int32) then
      f_X8_fillsGrants_101 k38 S x1 x2 x3
    else
      (f_X8_receiving S x1 x3).bind fun v2 =>
      if v2 ≠ (0 : Int32) then
        f_X8_fillsGrants_101 k38 S x1 x2 x3
      else
        gA v1 512 <|
        gS2 (f_X8_lays S (17 : Int32) (Int32.toInt64 x3) (S.2 M_grant (Int32.toNatClampNeg v1)) (0 : Int64) x2) fun S3 v4 =>
        if v4 = (0 : Int32) then
          f_X8_fillsGrants_101 k38 S3 x1 x2 x3
        else
          gA v1 512 <| gS (sI S3 M_tellGrant (Int32.toNatClampNeg v1) (vp_nar .boolean 0)) fun S5 =>
          some (S5, (1 : Int32))
def f_X8_fillsGrants_38 : Nat → Mem → Int32 → Int32 → Int32 → Option (Mem × Int32)
  | 0, _, _, _, _ => none
  | n + 1, S, x1, x2, x3 => f_X8_fillsGrants_38_b (f_X8_fillsGrants_38 n) S x1 x2 x3
def f_X8_fillsGrants_36 (S : Mem) (x1 : Int32) (x2 : Int32) : Option (Mem × Int32) :=
  f_X8_fillsGrants_38 FU S x1 x2 0
def f_X8_fillsGrants (S : Mem) (x1 : Int32) (x2 : Int32) : Option (Mem × Int32) :=
  gA x1 2 <|
  if (S.1 M_tellData (Int32.toNatClampNeg x1)) = (0 : Int32) then
    f_X8_fillsGrants_36 S x1 x2
  else
    gA x1 2 <|
    gS2 (f_X8_lays S (16 : Int32) (S.2 M_dataGrant (Int32.toNatClampNeg x1)) (0 : Int64) (0 : Int64) x2) fun S1 v2 =>
    if v2 = (0 : Int32) then
      f_X8_fillsGrants_36 S1 x1 x2
    else
      gA x1 2 <| gS (sI S1 M_tellData (Int32.toNatClampNeg x1) (vp_nar .boolean 0)) fun S3 =>
      some (S3, (1 : Int32))
def f_X8_waits (S : Mem) (x1 : Int32) (x2 : Int32) : Option (Int32) :=
  (f_X8_isOpenSending S x1 x2).bind fun v1 =>
  if v1 = (0 : Int32) then
    some ((0 : Int32))
  else
    (f_X8_sent S x1 x2).bind fun v2 =>
    (f_X8_written S x1 x2).bind fun v3 =>
    if v3 ≤ v2 then
      some ((0 : Int32))
    else
      some ((1 : Int32))
def f_X8_allSent_37 (S : Mem) (k7 : Int32 → Int32 → Int32 → Option (Int32)) (x1 : Int32) (x3 : Int32) (y0 : Int32) (y1 : Int32) : Option (Int32) :=
  k7 x1 (y1 + y0) (x3 + 1)
def f_X8_allSent_7_b (S : Mem) (k7 : Int32 → Int32 → Int32 → Option (Int32)) (x1 : Int32) (x2 : Int32) (x3 : Int32) : Option (Int32) :=
  gA x1 2 <|
  if ((65536 * x1) + (S.1 M_total (Int32.toNatClampNeg x1))) ≤ x3 then
    some (x2)
  else
    gA x3 131072 <|
    if (S.1 M_mark (Int32.toNatClampNeg x3)) = (0 : Int32) then
      f_X8_allSent_37 S k7 x1 x3 0 x2
    else
      f_X8_allSent_37 S k7 x1 x3 1 x2
def f_X8_allSent_7 (S : Mem) : Nat → Int32 → Int32 → Int32 → Option (Int32)
  | 0, _, _, _ => none
  | n + 1, x1, x2, x3 => f_X8_allSent_7_b S (f_X8_allSent_7 S n) x1 x2 x3
def f_X8_allSent (S : Mem) (x1 : Int32) : Option (Int32) :=
  f_X8_allSent_7 S FU x1 0 (65536 * x1)
def f_X8_fillsBlocked_214 (k114 : Mem → Int32 → Int32 → Int32 → Option (Mem × Int32)) (S : Mem) (x1 : Int32) (x2 : Int32) (x4 : Int32) : Option (Mem × Int32) :=
  k114 S x1 x2 (x4 + 1)
def f_X8_fillsBlocked_332 (k223 : Mem → Int32 → Int32 → Int32 → Option (Mem × Int32)) (S : Mem) (x1 : Int32) (x2 : Int32) (x4 : Int32) : Option (Mem × Int32) :=
  k223 S x1 x2 (x4 + 1)
def f_X8_fillsBlocked_223_b (k223 : Mem → Int32 → Int32 → Int32 → Option (Mem × Int32)) (S : Mem) (x1 : Int32) (x2 : Int32) (x4 : Int32) : Option (Mem × Int32) :=
  if (2 : Int32) ≤ x4 then
    some (S, (0 : Int32))
  else
    gA ((2 * x1) + x4) 4 <|
    if (S.1 M_refused (Int32.toNatClampNeg ((2 * x1) + x4))) = (0 : Int32) then
      f_X8_fillsBlocked_332 k223 S x1 x2 x4
    else
      gA ((2 * x1) + x4) 4 <|
      gA (((3 * x1) + 1) + x4) 6 <|
      if (Int32.toInt64 (S.1 M_opened (Int32.toNatClampNeg ((2 * x1) + x4)))) < (S.2 M_limits (Int32.toNatClampNeg (((3 * x1) + 1) + x4))) then
        f_X8_fillsBlocked_332 k223 S x1 x2 x4
      else
        gA (((3 * x1) + 1) + x4) 6 <|
        gA (((3 * x1) + 1) + x4) 6 <|
        if (S.2 M_toldBlocked (Int32.toNatClampNeg (((3 * x1) + 1) + x4))) = (S.2 M_limits (Int32.toNatClampNeg (((3 * x1) + 1) + x4))) then
          f_X8_fillsBlocked_332 k223 S x1 x2 x4
        else
          gA (((3 * x1) + 1) + x4) 6 <|
          gS2 (f_X8_lays S (22 + x4) (S.2 M_limits (Int32.toNatClampNeg (((3 * x1) + 1) + x4))) (0 : Int64) (0 : Int64) x2) fun S1 v2 =>
          if v2 = (0 : Int32) then
            f_X8_fillsBlocked_332 k223 S1 x1 x2 x4
          else
            gA (((3 * x1) + 1) + x4) 6 <|
            gA (((3 * x1) + 1) + x4) 6 <| gS (sJ S1 M_toldBlocked (Int32.toNatClampNeg (((3 * x1) + 1) + x4)) (S1.2 M_limits (Int32.toNatClampNeg (((3 * x1) + 1) + x4)))) fun S3 =>
            some (S3, (1 : Int32))
def f_X8_fillsBlocked_223 : Nat → Mem → Int32 → Int32 → Int32 → Option (Mem × Int32)
  | 0, _, _, _, _ => none
  | n + 1, S, x1, x2, x4 => f_X8_fillsBlocked_223_b (f_X8_fillsBlocked_223 n) S x1 x2 x4
def f_X8_fillsBlocked_114_b (k114 : Mem → Int32 → Int32 → Int32 → Option (Mem × Int32)) (S : Mem) (x1 : Int32) (x2 : Int32) (x4 : Int32) : Option (Mem × Int32) :=
  if (256 : Int32) ≤ x4 then
    f_X8_fillsBlocked_223 FU S x1 x2 0
  else
    gS (f_X8_at x1 x4) fun v1 =>
    (f_X8_waits S x1 x4).bind fun v2 =>
    if v2 = (0 : Int32) then
      f_X8_fillsBlocked_214 k114 S x1 x2 x4
    else
      (f_X8_sent S x1 x4).bind fun v3 =>
      gA v1 512 <|
      if (Int32.toInt64 v3) ≠ (S.2 M_limit (Int32.toNatClampNeg v1)) then
        f_X8_fillsBlocked_214 k114 S x1 x2 x4
      else
        gA v1 512 <|
        gA v1 512 <|
        if (S.2 M_toldLimit (Int32.toNatClampNeg v1)) = (S.2 M_limit (Int32.toNatClampNeg v1)) then
          f_X8_fillsBlocked_214 k114 S x1 x2 x4
        else
          gA v1 512 <|
          gS2 (f_X8_lays S (21 : Int32) (Int32.toInt64 x4) (S.2 M_limit (Int32.toNatClampNeg v1)) (0 : Int64) x2) fun S4 v5 =>
          if v5 = (0 : Int32) then
            f_X8_fillsBlocked_214 k114 S4 x1 x2 x4
          else
            gA v1 512 <|
            gA v1 512 <| gS (sJ S4 M_toldLimit (Int32.toNatClampNeg v1) (S4.2 M_limit (Int32.toNatClampNeg v1))) fun S6 =>
            some (S6, (1 : Int32))
def f_X8_fillsBlocked_114 : Nat → Mem → Int32 → Int32 → Int32 → Option (Mem × Int32)
  | 0, _, _, _, _ => none
  | n + 1, S, x1, x2, x4 => f_X8_fillsBlocked_114_b (f_X8_fillsBlocked_114 n) S x1 x2 x4
def f_X8_fillsBlocked_111 (S : Mem) (x1 : Int32) (x2 : Int32) : Option (Mem × Int32) :=
  f_X8_fillsBlocked_114 FU S x1 x2 0
def f_X8_fillsBlocked_31 (S : Mem) (x1 : Int32) (x2 : Int32) (x3 : Int32) : Option (Mem × Int32) :=
  if x3 = (0 : Int32) then
    f_X8_fillsBlocked_111 S x1 x2
  else
    (f_X8_allSent S x1).bind fun v1 =>
    gA (3 * x1) 6 <|
    if (Int32.toInt64 v1) ≠ (S.2 M_limits (Int32.toNatClampNeg (3 * x1))) then
      f_X8_fillsBlocked_111 S x1 x2
    else
      gA (3 * x1) 6 <|
      gA (3 * x1) 6 <|
      if (S.2 M_toldBlocked (Int32.toNatClampNeg (3 * x1))) = (S.2 M_limits (Int32.toNatClampNeg (3 * x1))) then
        f_X8_fillsBlocked_111 S x1 x2
      else
        gA (3 * x1) 6 <|
        gS2 (f_X8_lays S (20 : Int32) (S.2 M_limits (Int32.toNatClampNeg (3 * x1))) (0 : Int64) (0 : Int64) x2) fun S2 v3 =>
        if v3 = (0 : Int32) then
          f_X8_fillsBlocked_111 S2 x1 x2
        else
          gA (3 * x1) 6 <|
          gA (3 * x1) 6 <| gS (sJ S2 M_toldBlocked (Int32.toNatClampNeg (3 * x1)) (S2.2 M_limits (Int32.toNatClampNeg (3 * x1)))) fun S4 =>
          some (S4, (1 : Int32))
def f_X8_fillsBlocked_5_b (k5 : Mem → Int32 → Int32 → Int32 → Int32 → Option (Mem × Int32)) (S : Mem) (x1 : Int32) (x2 : Int32) (x3 : Int32) (x4 : Int32) : Option (Mem × Int32) :=
  if (256 : Int32) ≤ x4 then
    f_X8_fillsBlocked_31 S x1 x2 x3
  else
    if x3 ≠ (0 : Int32) then
      f_X8_fillsBlocked_31 S x1 x2 x3
    else
      (f_X8_waits S x1 x4).bind fun v1 =>
      k5 S x1 x2 v1 (x4 + 1)
def f_X8_fillsBlocked_5 : Nat → Mem → Int32 → Int32 → Int32 → Int32 → Option (Mem × Int32)
  | 0, _, _, _, _, _ => none
  | n + 1, S, x1, x2, x3, x4 => f_X8_fillsBlocked_5_b (f_X8_fillsBlocked_5 n) S x1 x2 x3 x4
def f_X8_fillsBlocked (S : Mem) (x1 : Int32) (x2 : Int32) : Option (Mem × Int32) :=
  f_X8_fillsBlocked_5 FU S x1 x2 0 0
def f_X8_firstIn_56 (S : Mem) (k9 : Int32 → Int32 → Int32 → Int32 → Int32 → Option (Int32)) (x1 : Int32) (x2 : Int32) (x3 : Int32) (x4 : Int32) (x5 : Int32) : Option (Int32) :=
  k9 x1 x2 x3 x4 (x5 + 1)
def f_X8_firstIn_9_b (S : Mem) (k9 : Int32 → Int32 → Int32 → Int32 → Int32 → Option (Int32)) (x1 : Int32) (x2 : Int32) (x3 : Int32) (x4 : Int32) (x5 : Int32) : Option (Int32) :=
  gA x1 2 <|
  if ((65536 * x1) + (S.1 M_total (Int32.toNatClampNeg x1))) ≤ x5 then
    some (((-1) : Int32))
  else
    gA x5 131072 <|
    if (S.1 M_of (Int32.toNatClampNeg x5)) = x2 then
      gA x5 131072 <|
      if (S.1 M_mark (Int32.toNatClampNeg x5)) ≠ x3 then
        f_X8_firstIn_56 S k9 x1 x2 x3 (x4 + 1) x5
      else
        some (x4)
    else
      f_X8_firstIn_56 S k9 x1 x2 x3 x4 x5
def f_X8_firstIn_9 (S : Mem) : Nat → Int32 → Int32 → Int32 → Int32 → Int32 → Option (Int32)
  | 0, _, _, _, _, _ => none
  | n + 1, x1, x2, x3, x4, x5 => f_X8_firstIn_9_b S (f_X8_firstIn_9 S n) x1 x2 x3 x4 x5
def f_X8_firstIn (S : Mem) (x1 : Int32) (x2 : Int32) (x3 : Int32) : Option (Int32) :=
  f_X8_firstIn_9 S FU x1 x2 x3 0 (65536 * x1)
def f_X8_allowed_49 (S : Mem) (y0 : Int64) : Option (Int64) :=
  if (0 : Int64) ≤ y0 then
    some (y0)
  else
    some ((0 : Int64))
def f_X8_allowed (S : Mem) (x1 : Int32) (x2 : Int32) : Option (Int64) :=
  gS (f_X8_at x1 x2) fun v1 =>
  gA v1 512 <|
  (f_X8_sent S x1 x2).bind fun v2 =>
  gA (3 * x1) 6 <|
  (f_X8_allSent S x1).bind fun v3 =>
  if ((S.2 M_limits (Int32.toNatClampNeg (3 * x1))) - (Int32.toInt64 v3)) ≤ ((S.2 M_limit (Int32.toNatClampNeg v1)) - (Int32.toInt64 v2)) then
    f_X8_allowed_49 S ((S.2 M_limits (Int32.toNatClampNeg (3 * x1))) - (Int32.toInt64 v3))
  else
    f_X8_allowed_49 S ((S.2 M_limit (Int32.toNatClampNeg v1)) - (Int32.toInt64 v2))
def f_X8_endAlone (S : Mem) (x1 : Int32) (x2 : Int32) (x3 : Int32) : Option (Mem × Int32) :=
  gS (sJ S M_o 48 1) fun S1 =>
  gS (f_X8_bytes S1) fun v2 =>
  if v2 ≤ x3 then
    gS (f_X8_at x1 x2) fun v3 =>
    gA v3 512 <| gS (sI S1 M_end (Int32.toNatClampNeg v3) 1) fun S4 =>
    some (S4, (1 : Int32))
  else
    some (S1, (0 : Int32))
def f_X8_placeOf_43 (S : Mem) (k9 : Int32 → Int32 → Int32 → Option (Int32)) (x2 : Int32) (x5 : Int32) (y0 : Int32) (y1 : Int32) : Option (Int32) :=
  k9 x2 (y1 - y0) (x5 + 1)
def f_X8_placeOf_25 (S : Mem) (k9 : Int32 → Int32 → Int32 → Option (Int32)) (x2 : Int32) (x4 : Int32) (x5 : Int32) : Option (Int32) :=
  gA x5 131072 <|
  if (S.1 M_of (Int32.toNatClampNeg x5)) ≠ x2 then
    f_X8_placeOf_43 S k9 x2 x5 0 x4
  else
    f_X8_placeOf_43 S k9 x2 x5 1 x4
def f_X8_placeOf_9_b (S : Mem) (k9 : Int32 → Int32 → Int32 → Option (Int32)) (x2 : Int32) (x4 : Int32) (x5 : Int32) : Option (Int32) :=
  gA x5 131072 <|
  if (S.1 M_of (Int32.toNatClampNeg x5)) ≠ x2 then
    f_X8_placeOf_25 S k9 x2 x4 x5
  else
    if x4 ≤ (0 : Int32) then
      some (x5)
    else
      f_X8_placeOf_25 S k9 x2 x4 x5
def f_X8_placeOf_9 (S : Mem) : Nat → Int32 → Int32 → Int32 → Option (Int32)
  | 0, _, _, _ => none
  | n + 1, x2, x4, x5 => f_X8_placeOf_9_b S (f_X8_placeOf_9 S n) x2 x4 x5
def f_X8_placeOf (S : Mem) (x1 : Int32) (x2 : Int32) (x3 : Int32) : Option (Int32) :=
  f_X8_placeOf_9 S FU x2 x3 (65536 * x1)
def f_X8_fillsStream_288 (k207 : Mem → Int32 → Int32 → Int32 → Int32 → Int32 → Int32 → Int64 → Int32 → Int32 → Int32 → Option (Mem × Int32)) (S : Mem) (x1 : Int32) (x2 : Int32) (x3 : Int32) (x4 : Int32) (x5 : Int32) (x6 : Int32) (x7 : Int64) (x9 : Int32) (x12 : Int32) (y0 : Int32) : Option (Mem × Int32) :=
  if y0 = (0 : Int32) then
    k207 S x1 x2 x3 x4 x5 x6 x7 x9 x12 y0
  else
    k207 S x1 x2 x3 x4 x5 x6 x7 x9 (x12 + 1) y0
def f_X8_fillsStream_257 (k207 : Mem → Int32 → Int32 → Int32 → Int32 → Int32 → Int32 → Int64 → Int32 → Int32 → Int32 → Option (Mem × Int32)) (S : Mem) (x1 : Int32) (x2 : Int32) (x3 : Int32) (x4 : Int32) (x5 : Int32) (x6 : Int32) (x7 : Int64) (x9 : Int32) (x12 : Int32) (y0 : Int32) : Option (Mem × Int32) :=
  if y0 ≠ (0 : Int32) then
    gS (sI S M_o 49 (x12 + 1)) fun S1 =>
    gS (f_X8_bytes S1) fun v2 =>
    if x3 < v2 then
      f_X8_fillsStream_288 k207 S1 x1 x2 x3 x4 x5 x6 x7 x9 x12 0
    else
      f_X8_fillsStream_288 k207 S1 x1 x2 x3 x4 x5 x6 x7 x9 x12 1
  else
    k207 S x1 x2 x3 x4 x5 x6 x7 x9 x12 y0
def f_X8_fillsStream_256 (k207 : Mem → Int32 → Int32 → Int32 → Int32 → Int32 → Int32 → Int64 → Int32 → Int32 → Int32 → Option (Mem × Int32)) (S : Mem) (x1 : Int32) (x2 : Int32) (x3 : Int32) (x4 : Int32) (x5 : Int32) (x6 : Int32) (x7 : Int64) (x9 : Int32) (x12 : Int32) : Option (Mem × Int32) :=
  f_X8_fillsStream_257 k207 S x1 x2 x3 x4 x5 x6 x7 x9 x12 0
def f_X8_fillsStream_317_b (k317 : Mem → Int32 → Int32 → Int32 → Int32 → Int32 → Int32 → Int32 → Option (Mem × Int32)) (S : Mem) (x1 : Int32) (x2 : Int32) (x4 : Int32) (x5 : Int32) (x9 : Int32) (x12 : Int32) (x14 : Int32) : Option (Mem × Int32) :=
  if x12 ≤ x14 then
    if (x5 + x12) ≠ x9 then
      some (S, (1 : Int32))
    else
      gA x4 512 <|
      if (S.1 M_finished (Int32.toNatClampNeg x4)) = (0 : Int32) then
        some (S, (1 : Int32))
      else
        gS (sJ S M_o 48 1) fun S1 =>
        gA x4 512 <|
        if (S1.1 M_end (Int32.toNatClampNeg x4)) = (3 : Int32) then
          some (S1, (1 : Int32))
        else
          gA x4 512 <| gS (sI S1 M_end (Int32.toNatClampNeg x4) 1) fun S2 =>
          some (S2, (1 : Int32))
  else
    (f_X8_placeOf S x1 x2 (x5 + x14)).bind fun v3 =>
    gA v3 131072 <|
    gA x14 2048 <| gS (sI S M_fData (Int32.toNatClampNeg x14) (vp_nar .byte (S.1 M_value (Int32.toNatClampNeg v3)))) fun S4 =>
    gA v3 131072 <| gS (sI S4 M_mark (Int32.toNatClampNeg v3) (vp_nar .byte 1)) fun S5 =>
    k317 S5 x1 x2 x4 x5 x9 x12 (x14 + 1)
def f_X8_fillsStream_317 : Nat → Mem → Int32 → Int32 → Int32 → Int32 → Int32 → Int32 → Int32 → Option (Mem × Int32)
  | 0, _, _, _, _, _, _, _, _ => none
  | n + 1, S, x1, x2, x4, x5, x9, x12, x14 => f_X8_fillsStream_317_b (f_X8_fillsStream_317 n) S x1 x2 x4 x5 x9 x12 x14
def f_X8_fillsStream_207_b (k207 : Mem → Int32 → Int32 → Int32 → Int32 → Int32 → Int32 → Int64 → Int32 → Int32 → Int32 → Option (Mem × Int32)) (S : Mem) (x1 : Int32) (x2 : Int32) (x3 : Int32) (x4 : Int32) (x5 : Int32) (x6 : Int32) (x7 : Int64) (x9 : Int32) (x12 : Int32) (x13 : Int32) : Option (Mem × Int32) :=
  if x13 = (0 : Int32) then
    gS (sI S M_o 49 x12) fun S1 =>
    if x12 ≠ (0 : Int32) then
      f_X8_fillsStream_317 FU S1 x1 x2 x4 x5 x9 x12 0
    else
      some (S1, (0 : Int32))
  else
    if x7 ≤ (Int32.toInt64 x12) then
      f_X8_fillsStream_256 k207 S x1 x2 x3 x4 x5 x6 x7 x9 x12
    else
      if x9 ≤ (x5 + x12) then
        f_X8_fillsStream_256 k207 S x1 x2 x3 x4 x5 x6 x7 x9 x12
      else
        (f_X8_placeOf S x1 x2 (x5 + x12)).bind fun v2 =>
        gA v2 131072 <|
        if (S.1 M_mark (Int32.toNatClampNeg v2)) ≠ x6 then
          f_X8_fillsStream_256 k207 S x1 x2 x3 x4 x5 x6 x7 x9 x12
        else
          f_X8_fillsStream_257 k207 S x1 x2 x3 x4 x5 x6 x7 x9 x12 1
def f_X8_fillsStream_207 : Nat → Mem → Int32 → Int32 → Int32 → Int32 → Int32 → Int32 → Int64 → Int32 → Int32 → Int32 → Option (Mem × Int32)
  | 0, _, _, _, _, _, _, _, _, _, _, _ => none
  | n + 1, S, x1, x2, x3, x4, x5, x6, x7, x9, x12, x13 => f_X8_fillsStream_207_b (f_X8_fillsStream_207 n) S x1 x2 x3 x4 x5 x6 x7 x9 x12 x13
def f_X8_fillsStream_180 (S : Mem) (x1 : Int32) (x2 : Int32) (x3 : Int32) (x4 : Int32) (x5 : Int32) (x6 : Int32) (x7 : Int64) (x9 : Int32) (x11 : Int32) (y0 : Int64) : Option (Mem × Int32) :=
  gS (sJ S M_o 47 y0) fun S1 =>
  gS (sJ S1 M_o 48 0) fun S2 =>
  if x11 = (0 : Int32) then
    f_X8_fillsStream_207 FU S2 x1 x2 x3 x4 x5 x6 x7 x9 0 1
  else
    gB2 (f_X8_endAlone S2 x1 x2 x3) fun S3 v4 =>
    gN .boolean v4 (some (S3, v4))
def f_X8_fillsStream_148 (S : Mem) (x1 : Int32) (x2 : Int32) (x3 : Int32) (x4 : Int32) (x5 : Int32) (x6 : Int32) (x7 : Int64) (x9 : Int32) (x11 : Int32) : Option (Mem × Int32) :=
  gS (sI S M_o 49 0) fun S1 =>
  gS (sI S1 M_o 45 8) fun S2 =>
  gS (sJ S2 M_o 46 (Int32.toInt64 x2)) fun S3 =>
  if x11 = (0 : Int32) then
    f_X8_fillsStream_180 S3 x1 x2 x3 x4 x5 x6 x7 x9 x11 (Int32.toInt64 x5)
  else
    f_X8_fillsStream_180 S3 x1 x2 x3 x4 x5 x6 x7 x9 x11 (Int32.toInt64 x9)
def f_X8_fillsStream_134 (S : Mem) (x1 : Int32) (x2 : Int32) (x3 : Int32) (x4 : Int32) (x5 : Int32) (x6 : Int32) (x7 : Int64) (x9 : Int32) (x11 : Int32) : Option (Mem × Int32) :=
  if x11 ≠ (0 : Int32) then
    f_X8_fillsStream_148 S x1 x2 x3 x4 x5 x6 x7 x9 x11
  else
    if x7 ≠ (0 : Int64) then
      f_X8_fillsStream_148 S x1 x2 x3 x4 x5 x6 x7 x9 x11
    else
      some (S, (0 : Int32))
def f_X8_fillsStream_122 (S : Mem) (x1 : Int32) (x2 : Int32) (x3 : Int32) (x4 : Int32) (x5 : Int32) (x6 : Int32) (x7 : Int64) (x9 : Int32) (x10 : Int32) (y0 : Int32) : Option (Mem × Int32) :=
  if y0 = (0 : Int32) then
    f_X8_fillsStream_134 S x1 x2 x3 x4 x5 x6 x7 x9 y0
  else
    if x10 = (0 : Int32) then
      some (S, (0 : Int32))
    else
      f_X8_fillsStream_134 S x1 x2 x3 x4 x5 x6 x7 x9 y0
def f_X8_fillsStream_110 (S : Mem) (x1 : Int32) (x2 : Int32) (x3 : Int32) (x4 : Int32) (x5 : Int32) (x6 : Int32) (x7 : Int64) (x9 : Int32) (y0 : Int32) : Option (Mem × Int32) :=
  if (0 : Int32) ≤ x5 then
    f_X8_fillsStream_122 S x1 x2 x3 x4 x5 x6 x7 x9 y0 0
  else
    f_X8_fillsStream_122 S x1 x2 x3 x4 x5 x6 x7 x9 y0 1
def f_X8_fillsStream_105 (S : Mem) (x1 : Int32) (x2 : Int32) (x3 : Int32) (x4 : Int32) (x5 : Int32) (x6 : Int32) (x7 : Int64) (x9 : Int32) : Option (Mem × Int32) :=
  f_X8_fillsStream_110 S x1 x2 x3 x4 x5 x6 x7 x9 1
def f_X8_fillsStream_109 (S : Mem) (x1 : Int32) (x2 : Int32) (x3 : Int32) (x4 : Int32) (x5 : Int32) (x6 : Int32) (x7 : Int64) (x9 : Int32) : Option (Mem × Int32) :=
  f_X8_fillsStream_110 S x1 x2 x3 x4 x5 x6 x7 x9 0
def f_X8_fillsStream_66 (S : Mem) (x1 : Int32) (x2 : Int32) (x3 : Int32) (x4 : Int32) (x5 : Int32) (x6 : Int32) (x7 : Int64) : Option (Mem × Int32) :=
  (f_X8_written S x1 x2).bind fun v1 =>
  gA x4 512 <|
  if (S.1 M_finished (Int32.toNatClampNeg x4)) = (0 : Int32) then
    f_X8_fillsStream_109 S x1 x2 x3 x4 x5 x6 x7 v1
  else
    gA x4 512 <|
    if (S.1 M_end (Int32.toNatClampNeg x4)) = (0 : Int32) then
      f_X8_fillsStream_105 S x1 x2 x3 x4 x5 x6 x7 v1
    else
      gA x4 512 <|
      if (S.1 M_end (Int32.toNatClampNeg x4)) ≠ (2 : Int32) then
        f_X8_fillsStream_109 S x1 x2 x3 x4 x5 x6 x7 v1
      else
        f_X8_fillsStream_105 S x1 x2 x3 x4 x5 x6 x7 v1
def f_X8_fillsStream_37 (S : Mem) (x1 : Int32) (x2 : Int32) (x3 : Int32) (x4 : Int32) (x5 : Int32) (y0 : Int32) : Option (Mem × Int32) :=
  if (0 : Int32) ≤ x5 then
    f_X8_fillsStream_66 S x1 x2 x3 x4 x5 y0 65536
  else
    (f_X8_firstIn S x1 x2 (0 : Int32)).bind fun v1 =>
    (f_X8_allowed S x1 x2).bind fun v2 =>
    f_X8_fillsStream_66 S x1 x2 x3 x4 v1 y0 v2
def f_X8_fillsStream (S : Mem) (x1 : Int32) (x2 : Int32) (x3 : Int32) : Option (Mem × Int32) :=
  (f_X8_isOpenSending S x1 x2).bind fun v1 =>
  if v1 ≠ (0 : Int32) then
    gS (f_X8_at x1 x2) fun v2 =>
    (f_X8_firstIn S x1 x2 (2 : Int32)).bind fun v3 =>
    if v3 < (0 : Int32) then
      f_X8_fillsStream_37 S x1 x2 x3 v2 v3 0
    else
      f_X8_fillsStream_37 S x1 x2 x3 v2 v3 2
  else
    some (S, (0 : Int32))
def f_X8_fills_31_b (k31 : Mem → Int32 → Int32 → Int32 → Option (Mem × Int32)) (S : Mem) (x1 : Int32) (x2 : Int32) (x3 : Int32) : Option (Mem × Int32) :=
  if (256 : Int32) < x3 then
    some (S, (0 : Int32))
  else
    gA x1 2 <|
    gB2 (f_X8_fillsStream S x1 ((((S.1 M_lastStream (Int32.toNatClampNeg x1)) + x3) + 256) - (((S.1 M_lastStream (Int32.toNatClampNeg x1)) + x3) + 256) / 256 * 256) x2) fun S1 v2 =>
    if v2 = (0 : Int32) then
      k31 S1 x1 x2 (x3 + 1)
    else
      gA x1 2 <| gS (sI S1 M_lastStream (Int32.toNatClampNeg x1) ((((S.1 M_lastStream (Int32.toNatClampNeg x1)) + x3) + 256) - (((S.1 M_lastStream (Int32.toNatClampNeg x1)) + x3) + 256) / 256 * 256)) fun S3 =>
      some (S3, (1 : Int32))
def f_X8_fills_31 : Nat → Mem → Int32 → Int32 → Int32 → Option (Mem × Int32)
  | 0, _, _, _, _ => none
  | n + 1, S, x1, x2, x3 => f_X8_fills_31_b (f_X8_fills_31 n) S x1 x2 x3
def f_X8_fills (S : Mem) (x1 : Int32) (x2 : Int32) : Option (Mem × Int32) :=
  gB2 (f_X8_fillsResets S x1 x2) fun S1 v2 =>
  if v2 ≠ (0 : Int32) then
    some (S1, (1 : Int32))
  else
    gB2 (f_X8_fillsGrants S1 x1 x2) fun S3 v4 =>
    if v4 ≠ (0 : Int32) then
      some (S3, (1 : Int32))
    else
      gB2 (f_X8_fillsBlocked S3 x1 x2) fun S5 v6 =>
      if v6 = (0 : Int32) then
        f_X8_fills_31 FU S5 x1 x2 1
      else
        some (S5, (1 : Int32))
def f_X8_fill_161_b (k161 : Mem → Int32 → Int32 → Option (Mem × Int32)) (S : Mem) (x3 : Int32) (x4 : Int32) : Option (Mem × Int32) :=
  if (S.1 M_o 49) ≤ x4 then
    some (S, x3)
  else
    gA x4 2048 <|
    gA ((1200 * x3) + x4) 76800 <| gS (sI S M_lineData (Int32.toNatClampNeg ((1200 * x3) + x4)) (vp_nar .byte (S.1 M_fData (Int32.toNatClampNeg x4)))) fun S1 =>
    k161 S1 x3 (x4 + 1)
def f_X8_fill_161 : Nat → Mem → Int32 → Int32 → Option (Mem × Int32)
  | 0, _, _, _ => none
  | n + 1, S, x3, x4 => f_X8_fill_161_b (f_X8_fill_161 n) S x3 x4
def f_X8_fill_52 (S : Mem) (x1 : Int32) (x2 : Int32) (y0 : Int32) : Option (Mem × Int32) :=
  gB2 (f_X8_fails S y0 (2 : Int32)) fun S1 v2 =>
  if v2 = (0 : Int32) then
    gB2 (f_X8_fills S1 x1 x2) fun S3 v4 =>
    if v4 ≠ (0 : Int32) then
      (f_X8_freePlace S3).bind fun v5 =>
      gA v5 64 <| gS (sI S3 M_lineUsed (Int32.toNatClampNeg v5) (vp_nar .boolean 1)) fun S6 =>
      gA v5 64 <| gS (sI S6 M_lineSide (Int32.toNatClampNeg v5) x1) fun S7 =>
      gA v5 64 <| gS (sI S7 M_lineKind (Int32.toNatClampNeg v5) (S7.1 M_o 45)) fun S8 =>
      gA v5 64 <| gS (sJ S8 M_lineA (Int32.toNatClampNeg v5) (S8.2 M_o 46)) fun S9 =>
      gA v5 64 <| gS (sJ S9 M_lineB (Int32.toNatClampNeg v5) (S9.2 M_o 47)) fun S10 =>
      gA v5 64 <| gS (sJ S10 M_lineC (Int32.toNatClampNeg v5) (S10.2 M_o 48)) fun S11 =>
      gA v5 64 <| gS (sI S11 M_lineSize (Int32.toNatClampNeg v5) (S11.1 M_o 49)) fun S12 =>
      gS (f_X8_bytes S12) fun v13 =>
      gA v5 64 <| gS (sI S12 M_lineBytes (Int32.toNatClampNeg v5) v13) fun S14 =>
      gA v5 64 <| gS (sI S14 M_delivered (Int32.toNatClampNeg v5) 0) fun S15 =>
      f_X8_fill_161 FU S15 v5 0
    else
      some (S3, ((-1) : Int32))
  else
    some (S1, (0 : Int32))
def f_X8_fill_47 (S : Mem) (x1 : Int32) (x2 : Int32) : Option (Mem × Int32) :=
  f_X8_fill_52 S x1 x2 1
def f_X8_fill_25 (S : Mem) (x1 : Int32) (x2 : Int32) (y0 : Int32) : Option (Mem × Int32) :=
  gB2 (f_X8_fails S y0 (1 : Int32)) fun S1 v2 =>
  if v2 ≠ (0 : Int32) then
    some (S1, (0 : Int32))
  else
    (f_X8_freePlace S1).bind fun v3 =>
    if v3 < (0 : Int32) then
      f_X8_fill_47 S1 x1 x2
    else
      if (S1.1 M_o 1) ≠ (0 : Int32) then
        f_X8_fill_52 S1 x1 x2 0
      else
        f_X8_fill_47 S1 x1 x2
def f_X8_fill_20 (S : Mem) (x1 : Int32) (x2 : Int32) : Option (Mem × Int32) :=
  f_X8_fill_25 S x1 x2 1
def f_X8_fill (S : Mem) (x1 : Int32) (x2 : Int32) : Option (Mem × Int32) :=
  gS (f_X8_noSide x1) fun v1 =>
  if v1 ≠ (0 : Int32) then
    f_X8_fill_20 S x1 x2
  else
    if x2 < (1 : Int32) then
      f_X8_fill_20 S x1 x2
    else
      if x2 ≤ (1200 : Int32) then
        f_X8_fill_25 S x1 x2 0
      else
        f_X8_fill_20 S x1 x2
def f_X8_noPlace_19 (S : Mem) : Option (Int32) :=
  some ((1 : Int32))
def f_X8_noPlace (S : Mem) (x1 : Int32) : Option (Int32) :=
  if x1 < (0 : Int32) then
    f_X8_noPlace_19 S
  else
    if (63 : Int32) < x1 then
      f_X8_noPlace_19 S
    else
      gA x1 64 <|
      if (S.1 M_lineUsed (Int32.toNatClampNeg x1)) ≠ (0 : Int32) then
        some ((0 : Int32))
      else
        f_X8_noPlace_19 S
def f_X8_deliver_67_b (k67 : Mem → Int32 → Int32 → Option (Mem × Int32)) (S : Mem) (x1 : Int32) (x2 : Int32) : Option (Mem × Int32) :=
  if (S.1 M_o 49) ≤ x2 then
    gA x1 64 <|
    gB2 (f_X8_takes S (1 - (S.1 M_lineSide (Int32.toNatClampNeg x1)))) fun S1 v2 =>
    if v2 ≠ (0 : Int32) then
      some (S1, v2)
    else
      gA x1 64 <| gS (sI S1 M_delivered (Int32.toNatClampNeg x1) 1) fun S3 =>
      some (S3, v2)
  else
    gA ((1200 * x1) + x2) 76800 <|
    gA x2 2048 <| gS (sI S M_fData (Int32.toNatClampNeg x2) (vp_nar .byte (S.1 M_lineData (Int32.toNatClampNeg ((1200 * x1) + x2))))) fun S4 =>
    k67 S4 x1 (x2 + 1)
def f_X8_deliver_67 : Nat → Mem → Int32 → Int32 → Option (Mem × Int32)
  | 0, _, _, _ => none
  | n + 1, S, x1, x2 => f_X8_deliver_67_b (f_X8_deliver_67 n) S x1 x2
def f_X8_deliver (S : Mem) (x1 : Int32) : Option (Mem × Int32) :=
  (f_X8_noPlace S x1).bind fun v1 =>
  gB2 (f_X8_fails S v1 (1 : Int32)) fun S2 v3 =>
  if v3 = (0 : Int32) then
    gA x1 64 <|
    gS (sI S2 M_o 45 (S2.1 M_lineKind (Int32.toNatClampNeg x1))) fun S4 =>
    gA x1 64 <|
    gS (sJ S4 M_o 46 (S4.2 M_lineA (Int32.toNatClampNeg x1))) fun S5 =>
    gA x1 64 <|
    gS (sJ S5 M_o 47 (S5.2 M_lineB (Int32.toNatClampNeg x1))) fun S6 =>
    gA x1 64 <|
    gS (sJ S6 M_o 48 (S6.2 M_lineC (Int32.toNatClampNeg x1))) fun S7 =>
    gA x1 64 <|
    gS (sI S7 M_o 49 (S7.1 M_lineSize (Int32.toNatClampNeg x1))) fun S8 =>
    f_X8_deliver_67 FU S8 x1 0
  else
    some (S2, (0 : Int32))
def f_X8_goneStream_78 (k20 : Mem → Int32 → Int32 → Int32 → Int32 → Int32 → Int32 → Option (Mem)) (S : Mem) (x1 : Int32) (x2 : Int32) (x3 : Int32) (x4 : Int32) (x5 : Int32) (x6 : Int32) : Option (Mem) :=
  k20 S x1 x2 x3 x4 x5 (x6 + 1)
def f_X8_goneStream_76 (k20 : Mem → Int32 → Int32 → Int32 → Int32 → Int32 → Int32 → Option (Mem)) (S : Mem) (x1 : Int32) (x2 : Int32) (x3 : Int32) (x4 : Int32) (x5 : Int32) (x6 : Int32) (y0 : Int32) (y1 : Int32) : Option (Mem) :=
  gA y1 131072 <| gS (sI S M_mark (Int32.toNatClampNeg y1) (vp_nar .byte (Int8.toInt32 (Int32.toInt8 y0)))) fun S1 =>
  f_X8_goneStream_78 k20 S1 x1 x2 x3 x4 x5 x6
def f_X8_goneStream_122 (S : Mem) (x1 : Int32) (x4 : Int32) : Option (Mem) :=
  (f_X8_looksOver S x1 x4).bind fun S1 =>
  some (S1)
def f_X8_goneStream_121 (S : Mem) (x1 : Int32) (x4 : Int32) (y0 : Int32) (y1 : Int32) : Option (Mem) :=
  gA y1 512 <| gS (sI S M_end (Int32.toNatClampNeg y1) y0) fun S1 =>
  f_X8_goneStream_122 S1 x1 x4
def f_X8_goneStream_20_b (k20 : Mem → Int32 → Int32 → Int32 → Int32 → Int32 → Int32 → Option (Mem)) (S : Mem) (x1 : Int32) (x2 : Int32) (x3 : Int32) (x4 : Int32) (x5 : Int32) (x6 : Int32) : Option (Mem) :=
  gA x2 64 <|
  if (S.1 M_lineSize (Int32.toNatClampNeg x2)) ≤ x6 then
    gA x2 64 <|
    if (S.2 M_lineC (Int32.toNatClampNeg x2)) ≠ (1 : Int64) then
      f_X8_goneStream_122 S x1 x4
    else
      gA x5 512 <|
      if (S.1 M_end (Int32.toNatClampNeg x5)) = (3 : Int32) then
        f_X8_goneStream_122 S x1 x4
      else
        if x3 = (0 : Int32) then
          f_X8_goneStream_121 S x1 x4 2 x5
        else
          f_X8_goneStream_121 S x1 x4 3 x5
  else
    gA x2 64 <|
    (f_X8_placeOf S x1 x4 ((Int64.toInt32 (S.2 M_lineB (Int32.toNatClampNeg x2))) + x6)).bind fun v1 =>
    gA v1 131072 <|
    if (S.1 M_mark (Int32.toNatClampNeg v1)) = (3 : Int32) then
      f_X8_goneStream_78 k20 S x1 x2 x3 x4 x5 x6
    else
      if x3 = (0 : Int32) then
        f_X8_goneStream_76 k20 S x1 x2 x3 x4 x5 x6 2 v1
      else
        f_X8_goneStream_76 k20 S x1 x2 x3 x4 x5 x6 3 v1
def f_X8_goneStream_20 : Nat → Mem → Int32 → Int32 → Int32 → Int32 → Int32 → Int32 → Option (Mem)
  | 0, _, _, _, _, _, _, _ => none
  | n + 1, S, x1, x2, x3, x4, x5, x6 => f_X8_goneStream_20_b (f_X8_goneStream_20 n) S x1 x2 x3 x4 x5 x6
def f_X8_goneStream (S : Mem) (x1 : Int32) (x2 : Int32) (x3 : Int32) : Option (Mem) :=
  gA x2 64 <|
  gS (f_X8_at x1 (Int64.toInt32 (S.2 M_lineA (Int32.toNatClampNeg x2)))) fun v1 =>
  f_X8_goneStream_20 FU S x1 x2 x3 (Int64.toInt32 (S.2 M_lineA (Int32.toNatClampNeg x2))) v1 0
def f_X8_gone_235 (S : Mem) (x3 : Int32) (x4 : Int64) : Option (Mem) :=
  (f_X8_looksOver S x3 (Int64.toInt32 x4)).bind fun S1 =>
  some (S1)
def f_X8_gone_212 (S : Mem) (x2 : Int32) (x3 : Int32) (x4 : Int64) (x6 : Int32) : Option (Mem) :=
  if x2 ≠ (0 : Int32) then
    f_X8_gone_235 S x3 x4
  else
    gA x6 512 <|
    if (S.1 M_resets (Int32.toNatClampNeg x6)) ≠ (1 : Int32) then
      f_X8_gone_235 S x3 x4
    else
      gA x6 512 <| gS (sI S M_tellReset (Int32.toNatClampNeg x6) (vp_nar .boolean 1)) fun S1 =>
      f_X8_gone_235 S1 x3 x4
def f_X8_gone_80 (S : Mem) (x1 : Int32) (x2 : Int32) (x3 : Int32) (x4 : Int64) (y0 : Int32) (y1 : Int32) : Option (Mem) :=
  gS (f_X8_at y1 y0) fun v1 =>
  gA x1 64 <|
  if (S.1 M_lineKind (Int32.toNatClampNeg x1)) = (4 : Int32) then
    if x2 = (0 : Int32) then
      f_X8_gone_212 S x2 x3 x4 v1
    else
      gA v1 512 <|
      if (S.1 M_resets (Int32.toNatClampNeg v1)) ≠ (1 : Int32) then
        f_X8_gone_212 S x2 x3 x4 v1
      else
        gA v1 512 <| gS (sI S M_resets (Int32.toNatClampNeg v1) 2) fun S2 =>
        f_X8_gone_235 S2 x3 x4
  else
  if (S.1 M_lineKind (Int32.toNatClampNeg x1)) = (5 : Int32) then
    if x2 ≠ (0 : Int32) then
      some (S)
    else
      gA v1 512 <| gS (sI S M_tellStop (Int32.toNatClampNeg v1) (vp_nar .boolean 1)) fun S3 =>
      some (S3)
  else
  if (S.1 M_lineKind (Int32.toNatClampNeg x1)) = (8 : Int32) then
    (f_X8_goneStream S x3 x1 x2).bind fun S4 =>
    some (S4)
  else
  if (S.1 M_lineKind (Int32.toNatClampNeg x1)) = (16 : Int32) then
    if x2 ≠ (0 : Int32) then
      some (S)
    else
      gA x3 2 <|
      if x4 ≠ (S.2 M_dataGrant (Int32.toNatClampNeg x3)) then
        some (S)
      else
        gA x3 2 <| gS (sI S M_tellData (Int32.toNatClampNeg x3) (vp_nar .boolean 1)) fun S5 =>
        some (S5)
  else
  if (S.1 M_lineKind (Int32.toNatClampNeg x1)) = (17 : Int32) then
    if x2 ≠ (0 : Int32) then
      some (S)
    else
      gA x1 64 <|
      gA v1 512 <|
      if (S.2 M_lineB (Int32.toNatClampNeg x1)) ≠ (S.2 M_grant (Int32.toNatClampNeg v1)) then
        some (S)
      else
        gA v1 512 <| gS (sI S M_tellGrant (Int32.toNatClampNeg v1) (vp_nar .boolean 1)) fun S6 =>
        some (S6)
  else
  if (S.1 M_lineKind (Int32.toNatClampNeg x1)) = (18 : Int32) then
    gA x1 64 <|
    if x2 ≠ (0 : Int32) then
      some (S)
    else
      gA (((2 * x3) + (S.1 M_lineKind (Int32.toNatClampNeg x1))) - 18) 4 <|
      if x4 ≠ (Int32.toInt64 (S.1 M_granted (Int32.toNatClampNeg (((2 * x3) + (S.1 M_lineKind (Int32.toNatClampNeg x1))) - 18)))) then
        some (S)
      else
        gA (((2 * x3) + (S.1 M_lineKind (Int32.toNatClampNeg x1))) - 18) 4 <| gS (sI S M_tellStreams (Int32.toNatClampNeg (((2 * x3) + (S.1 M_lineKind (Int32.toNatClampNeg x1))) - 18)) (vp_nar .boolean 1)) fun S7 =>
        some (S7)
  else
  if (S.1 M_lineKind (Int32.toNatClampNeg x1)) = (19 : Int32) then
    gA x1 64 <|
    if x2 ≠ (0 : Int32) then
      some (S)
    else
      gA (((2 * x3) + (S.1 M_lineKind (Int32.toNatClampNeg x1))) - 18) 4 <|
      if x4 ≠ (Int32.toInt64 (S.1 M_granted (Int32.toNatClampNeg (((2 * x3) + (S.1 M_lineKind (Int32.toNatClampNeg x1))) - 18)))) then
        some (S)
      else
        gA (((2 * x3) + (S.1 M_lineKind (Int32.toNatClampNeg x1))) - 18) 4 <| gS (sI S M_tellStreams (Int32.toNatClampNeg (((2 * x3) + (S.1 M_lineKind (Int32.toNatClampNeg x1))) - 18)) (vp_nar .boolean 1)) fun S8 =>
        some (S8)
  else
  if (S.1 M_lineKind (Int32.toNatClampNeg x1)) = (20 : Int32) then
    if x2 ≠ (0 : Int32) then
      some (S)
    else
      gA (3 * x3) 6 <|
      if (S.2 M_toldBlocked (Int32.toNatClampNeg (3 * x3))) ≠ x4 then
        some (S)
      else
        gA (3 * x3) 6 <| gS (sJ S M_toldBlocked (Int32.toNatClampNeg (3 * x3)) (-1)) fun S9 =>
        some (S9)
  else
  if (S.1 M_lineKind (Int32.toNatClampNeg x1)) = (21 : Int32) then
    if x2 ≠ (0 : Int32) then
      some (S)
    else
      gA v1 512 <|
      gA x1 64 <|
      if (S.2 M_toldLimit (Int32.toNatClampNeg v1)) ≠ (S.2 M_lineB (Int32.toNatClampNeg x1)) then
        some (S)
      else
        gA v1 512 <| gS (sJ S M_toldLimit (Int32.toNatClampNeg v1) (-1)) fun S10 =>
        some (S10)
  else
    gA x1 64 <|
    if x2 ≠ (0 : Int32) then
      some (S)
    else
      gA ((((3 * x3) + 1) + (S.1 M_lineKind (Int32.toNatClampNeg x1))) - 22) 6 <|
      if (S.2 M_toldBlocked (Int32.toNatClampNeg ((((3 * x3) + 1) + (S.1 M_lineKind (Int32.toNatClampNeg x1))) - 22))) ≠ x4 then
        some (S)
      else
        gA ((((3 * x3) + 1) + (S.1 M_lineKind (Int32.toNatClampNeg x1))) - 22) 6 <| gS (sJ S M_toldBlocked (Int32.toNatClampNeg ((((3 * x3) + 1) + (S.1 M_lineKind (Int32.toNatClampNeg x1))) - 22)) (-1)) fun S11 =>
        some (S11)
def f_X8_gone_33 (S : Mem) (x1 : Int32) (x2 : Int32) (y0 : Int32) : Option (Mem) :=
  gB2 (f_X8_fails S y0 (2 : Int32)) fun S1 v2 =>
  if v2 = (0 : Int32) then
    gA x1 64 <| gS (sI S1 M_lineUsed (Int32.toNatClampNeg x1) (vp_nar .boolean 0)) fun S3 =>
    gA x1 64 <|
    gA x1 64 <|
    if (256 : Int64) ≤ (S3.2 M_lineA (Int32.toNatClampNeg x1)) then
      f_X8_gone_80 S3 x1 x2 (S3.1 M_lineSide (Int32.toNatClampNeg x1)) (S3.2 M_lineA (Int32.toNatClampNeg x1)) 0 (S3.1 M_lineSide (Int32.toNatClampNeg x1))
    else
      f_X8_gone_80 S3 x1 x2 (S3.1 M_lineSide (Int32.toNatClampNeg x1)) (S3.2 M_lineA (Int32.toNatClampNeg x1)) (Int64.toInt32 (S3.2 M_lineA (Int32.toNatClampNeg x1))) (S3.1 M_lineSide (Int32.toNatClampNeg x1))
  else
    some (S1)
def f_X8_gone_32 (S : Mem) (x1 : Int32) (x2 : Int32) : Option (Mem) :=
  f_X8_gone_33 S x1 x2 0
def f_X8_gone (S : Mem) (x1 : Int32) (x2 : Int32) : Option (Mem) :=
  (f_X8_noPlace S x1).bind fun v1 =>
  gB2 (f_X8_fails S v1 (1 : Int32)) fun S2 v3 =>
  if v3 ≠ (0 : Int32) then
    some (S2)
  else
    if x2 = (0 : Int32) then
      f_X8_gone_32 S2 x1 x2
    else
      gA x1 64 <|
      if (S2.1 M_delivered (Int32.toNatClampNeg x1)) = (1 : Int32) then
        f_X8_gone_32 S2 x1 x2
      else
        f_X8_gone_33 S2 x1 x2 1
def f_X8_line_24 (S : Mem) (x1 : Int32) (x2 : Int32) (y0 : Int32) : Option (Mem × Int64) :=
  gB2 (f_X8_fails S y0 (1 : Int32)) fun S1 v2 =>
  if v2 = (0 : Int32) then
    if x2 = (0 : Int32) then
      gA x1 64 <|
      some (S1, (Int32.toInt64 (S1.1 M_lineSide (Int32.toNatClampNeg x1))))
    else
    if x2 = (1 : Int32) then
      gA x1 64 <|
      some (S1, (Int32.toInt64 (S1.1 M_lineKind (Int32.toNatClampNeg x1))))
    else
    if x2 = (2 : Int32) then
      gA x1 64 <|
      some (S1, (S1.2 M_lineA (Int32.toNatClampNeg x1)))
    else
    if x2 = (3 : Int32) then
      gA x1 64 <|
      some (S1, (S1.2 M_lineB (Int32.toNatClampNeg x1)))
    else
    if x2 = (4 : Int32) then
      gA x1 64 <|
      some (S1, (S1.2 M_lineC (Int32.toNatClampNeg x1)))
    else
    if x2 = (5 : Int32) then
      gA x1 64 <|
      some (S1, (Int32.toInt64 (S1.1 M_lineSize (Int32.toNatClampNeg x1))))
    else
      gA x1 64 <|
      some (S1, (Int32.toInt64 (S1.1 M_lineBytes (Int32.toNatClampNeg x1))))
  else
    some (S1, (0 : Int64))
def f_X8_line_19 (S : Mem) (x1 : Int32) (x2 : Int32) : Option (Mem × Int64) :=
  f_X8_line_24 S x1 x2 1
def f_X8_line (S : Mem) (x1 : Int32) (x2 : Int32) : Option (Mem × Int64) :=
  (f_X8_noPlace S x1).bind fun v1 =>
  if v1 ≠ (0 : Int32) then
    f_X8_line_19 S x1 x2
  else
    if x2 < (0 : Int32) then
      f_X8_line_19 S x1 x2
    else
      if x2 ≤ (6 : Int32) then
        f_X8_line_24 S x1 x2 0
      else
        f_X8_line_19 S x1 x2
def f_X8_data_33 (S : Mem) (x1 : Int32) (x2 : Int32) (y0 : Int32) : Option (Mem × Int32) :=
  gB2 (f_X8_fails S y0 (1 : Int32)) fun S1 v2 =>
  if v2 = (0 : Int32) then
    gA ((1200 * x1) + x2) 76800 <|
    some (S1, ((S1.1 M_lineData (Int32.toNatClampNeg ((1200 * x1) + x2))) &&& 255))
  else
    some (S1, (0 : Int32))
def f_X8_data_28 (S : Mem) (x1 : Int32) (x2 : Int32) : Option (Mem × Int32) :=
  f_X8_data_33 S x1 x2 1
def f_X8_data (S : Mem) (x1 : Int32) (x2 : Int32) : Option (Mem × Int32) :=
  (f_X8_noPlace S x1).bind fun v1 =>
  gB2 (f_X8_fails S v1 (1 : Int32)) fun S2 v3 =>
  if v3 ≠ (0 : Int32) then
    some (S2, (0 : Int32))
  else
    if x2 < (0 : Int32) then
      f_X8_data_28 S2 x1 x2
    else
      gA x1 64 <|
      if x2 < (S2.1 M_lineSize (Int32.toNatClampNeg x1)) then
        f_X8_data_33 S2 x1 x2 0
      else
        f_X8_data_28 S2 x1 x2
def f_X8_outs_32_b (k32 : Mem → Int32 → Int64 → Int32 → Option (Mem × Int64)) (S : Mem) (x1 : Int32) (x2 : Int64) (x4 : Int32) : Option (Mem × Int64) :=
  if (8 : Int32) ≤ x4 then
    some (S, x2)
  else
    if (S.1 M_o 5) ≤ (x1 + x4) then
      some (S, x2)
    else
      gA (x1 + x4) 2048 <|
      k32 S x1 (x2 ||| ((Int32.toInt64 (S.1 M_out (Int32.toNatClampNeg (x1 + x4)))) <<< (Int32.toInt64 (8 * x4) &&& 63))) (x4 + 1)
def f_X8_outs_32 : Nat → Mem → Int32 → Int64 → Int32 → Option (Mem × Int64)
  | 0, _, _, _, _ => none
  | n + 1, S, x1, x2, x4 => f_X8_outs_32_b (f_X8_outs_32 n) S x1 x2 x4
def f_X8_outs_18 (S : Mem) (x1 : Int32) (y0 : Int32) : Option (Mem × Int64) :=
  gB2 (f_X8_fails S y0 (1 : Int32)) fun S1 v2 =>
  if v2 = (0 : Int32) then
    f_X8_outs_32 FU S1 x1 0 0
  else
    some (S1, (0 : Int64))
def f_X8_outs_13 (S : Mem) (x1 : Int32) : Option (Mem × Int64) :=
  f_X8_outs_18 S x1 1
def f_X8_outs (S : Mem) (x1 : Int32) : Option (Mem × Int64) :=
  if x1 < (0 : Int32) then
    f_X8_outs_13 S x1
  else
    if x1 < (S.1 M_o 5) then
      f_X8_outs_18 S x1 0
    else
      f_X8_outs_13 S x1
def f_X8_endOf (S : Mem) (x1 : Int32) : Option (Int32) :=
  gA x1 512 <|
  if (S.1 M_finished (Int32.toNatClampNeg x1)) ≠ (0 : Int32) then
    gA x1 512 <|
    some ((1 + (S.1 M_end (Int32.toNatClampNeg x1))))
  else
    some ((0 : Int32))
def f_X8_sendingLook (S : Mem) (x1 : Int32) (x2 : Int32) (x3 : Int32) : Option (Int64) :=
  gS (f_X8_at x1 x2) fun v1 =>
  if x3 = (0 : Int32) then
    (f_X8_sending S x1 x2).bind fun v2 =>
    some ((Int32.toInt64 v2))
  else
  if x3 = (1 : Int32) then
    (f_X8_written S x1 x2).bind fun v3 =>
    some ((Int32.toInt64 v3))
  else
  if x3 = (2 : Int32) then
    (f_X8_sent S x1 x2).bind fun v4 =>
    some ((Int32.toInt64 v4))
  else
  if x3 = (3 : Int32) then
    gA v1 512 <|
    some ((S.2 M_limit (Int32.toNatClampNeg v1)))
  else
  if x3 = (4 : Int32) then
    gA v1 512 <|
    if (S.1 M_resets (Int32.toNatClampNeg v1)) ≤ (0 : Int32) then
      some ((0 : Int64))
    else
      gA v1 512 <|
      some ((S.2 M_code (Int32.toNatClampNeg v1)))
  else
  if x3 = (5 : Int32) then
    (f_X8_count S x1 x2 (2 : Int32)).bind fun v5 =>
    some ((Int32.toInt64 v5))
  else
  if x3 = (6 : Int32) then
    (f_X8_count S x1 x2 (3 : Int32)).bind fun v6 =>
    some ((Int32.toInt64 v6))
  else
    (f_X8_endOf S v1).bind fun v7 =>
    some ((Int32.toInt64 v7))
def f_X8_receivingLook (S : Mem) (x1 : Int32) (x2 : Int32) (x3 : Int32) : Option (Int64) :=
  gS (f_X8_at x1 x2) fun v1 =>
  if x3 = (8 : Int32) then
    (f_X8_receiving S x1 x2).bind fun v2 =>
    some ((Int32.toInt64 v2))
  else
  if x3 = (9 : Int32) then
    gA v1 512 <|
    some ((S.2 M_read (Int32.toNatClampNeg v1)))
  else
  if x3 = (10 : Int32) then
    (f_X8_readyOf S x1 x2).bind fun v3 =>
    some (v3)
  else
  if x3 = (11 : Int32) then
    gA v1 512 <|
    some ((S.2 M_highest (Int32.toNatClampNeg v1)))
  else
  if x3 = (12 : Int32) then
    gA v1 512 <|
    some ((S.2 M_size (Int32.toNatClampNeg v1)))
  else
  if x3 = (13 : Int32) then
    gA v1 512 <|
    some ((S.2 M_grant (Int32.toNatClampNeg v1)))
  else
    gA v1 512 <|
    if (S.1 M_wasReset (Int32.toNatClampNeg v1)) = (0 : Int32) then
      some ((0 : Int64))
    else
      gA v1 512 <|
      some ((S.2 M_theirCode (Int32.toNatClampNeg v1)))
def f_X8_stream_23 (S : Mem) (x1 : Int32) (x2 : Int32) (x3 : Int32) (y0 : Int32) : Option (Mem × Int64) :=
  gB2 (f_X8_fails S y0 (1 : Int32)) fun S1 v2 =>
  if v2 = (0 : Int32) then
    if (8 : Int32) ≤ x3 then
      (f_X8_hasReceiving S1 x1 x2).bind fun v3 =>
      if v3 = (0 : Int32) then
        some (S1, ((-1) : Int64))
      else
        (f_X8_receivingLook S1 x1 x2 x3).bind fun v4 =>
        some (S1, v4)
    else
      (f_X8_hasSending S1 x1 x2).bind fun v5 =>
      if v5 = (0 : Int32) then
        some (S1, ((-1) : Int64))
      else
        (f_X8_sendingLook S1 x1 x2 x3).bind fun v6 =>
        some (S1, v6)
  else
    some (S1, (0 : Int64))
def f_X8_stream_18 (S : Mem) (x1 : Int32) (x2 : Int32) (x3 : Int32) : Option (Mem × Int64) :=
  f_X8_stream_23 S x1 x2 x3 1
def f_X8_stream (S : Mem) (x1 : Int32) (x2 : Int32) (x3 : Int32) : Option (Mem × Int64) :=
  gS (f_X8_noSide x1) fun v1 =>
  if v1 ≠ (0 : Int32) then
    f_X8_stream_18 S x1 x2 x3
  else
    if x3 < (0 : Int32) then
      f_X8_stream_18 S x1 x2 x3
    else
      if x3 ≤ (14 : Int32) then
        f_X8_stream_23 S x1 x2 x3 0
      else
        f_X8_stream_18 S x1 x2 x3
def f_X8_side_23 (S : Mem) (x1 : Int32) (x2 : Int32) (y0 : Int32) : Option (Mem × Int64) :=
  gB2 (f_X8_fails S y0 (1 : Int32)) fun S1 v2 =>
  if v2 = (0 : Int32) then
    if x2 = (0 : Int32) then
      (f_X8_allSent S1 x1).bind fun v3 =>
      some (S1, (Int32.toInt64 v3))
    else
    if x2 = (1 : Int32) then
      gA (3 * x1) 6 <|
      some (S1, (S1.2 M_limits (Int32.toNatClampNeg (3 * x1))))
    else
    if x2 = (2 : Int32) then
      (f_X8_received S1 x1).bind fun v4 =>
      some (S1, v4)
    else
    if x2 = (3 : Int32) then
      (f_X8_consumed S1 x1).bind fun v5 =>
      some (S1, v5)
    else
    if x2 = (4 : Int32) then
      gA x1 2 <|
      some (S1, (S1.2 M_dataGrant (Int32.toNatClampNeg x1)))
    else
    if x2 = (5 : Int32) then
      gA (((2 * x1) + x2) - 5) 4 <|
      some (S1, (Int32.toInt64 (S1.1 M_opened (Int32.toNatClampNeg (((2 * x1) + x2) - 5)))))
    else
    if x2 = (6 : Int32) then
      gA (((2 * x1) + x2) - 5) 4 <|
      some (S1, (Int32.toInt64 (S1.1 M_opened (Int32.toNatClampNeg (((2 * x1) + x2) - 5)))))
    else
    if x2 = (7 : Int32) then
      gA (((3 * x1) + x2) - 6) 6 <|
      some (S1, (S1.2 M_limits (Int32.toNatClampNeg (((3 * x1) + x2) - 6))))
    else
    if x2 = (8 : Int32) then
      gA (((3 * x1) + x2) - 6) 6 <|
      some (S1, (S1.2 M_limits (Int32.toNatClampNeg (((3 * x1) + x2) - 6))))
    else
    if x2 = (9 : Int32) then
      gA (((2 * x1) + x2) - 9) 4 <|
      some (S1, (Int32.toInt64 (S1.1 M_theirs (Int32.toNatClampNeg (((2 * x1) + x2) - 9)))))
    else
    if x2 = (10 : Int32) then
      gA (((2 * x1) + x2) - 9) 4 <|
      some (S1, (Int32.toInt64 (S1.1 M_theirs (Int32.toNatClampNeg (((2 * x1) + x2) - 9)))))
    else
    if x2 = (11 : Int32) then
      gA (((2 * x1) + x2) - 11) 4 <|
      some (S1, (Int32.toInt64 (S1.1 M_granted (Int32.toNatClampNeg (((2 * x1) + x2) - 11)))))
    else
    if x2 = (12 : Int32) then
      gA (((2 * x1) + x2) - 11) 4 <|
      some (S1, (Int32.toInt64 (S1.1 M_granted (Int32.toNatClampNeg (((2 * x1) + x2) - 11)))))
    else
      gA x1 2 <|
      some (S1, (Int32.toInt64 (S1.1 M_total (Int32.toNatClampNeg x1))))
  else
    some (S1, (0 : Int64))
def f_X8_side_18 (S : Mem) (x1 : Int32) (x2 : Int32) : Option (Mem × Int64) :=
  f_X8_side_23 S x1 x2 1
def f_X8_side (S : Mem) (x1 : Int32) (x2 : Int32) : Option (Mem × Int64) :=
  gS (f_X8_noSide x1) fun v1 =>
  if v1 ≠ (0 : Int32) then
    f_X8_side_18 S x1 x2
  else
    if x2 < (0 : Int32) then
      f_X8_side_18 S x1 x2
    else
      if x2 ≤ (13 : Int32) then
        f_X8_side_23 S x1 x2 0
      else
        f_X8_side_18 S x1 x2
