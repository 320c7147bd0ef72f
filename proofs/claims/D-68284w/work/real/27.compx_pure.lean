set_option maxRecDepth 100000
def gXW {α β : Type} (S : Mem) (x : Nat ⊕ α) (k : α → Option (Mem × (Nat ⊕ β))) : Option (Mem × (Nat ⊕ β)) := match x with
  | .inl c => some (S, .inl c)
  | .inr v => k v
theorem gXW_inr {α β : Type} {S : Mem} {v : α} {k : α → Option (Mem × (Nat ⊕ β))} {r : Option (Mem × (Nat ⊕ β))} (h : gXW S (.inr v) k = r) : k v = r := h
theorem gXW_inl {α β : Type} {S : Mem} {c : Nat} {k : α → Option (Mem × (Nat ⊕ β))} {r : Mem × (Nat ⊕ β)} (h : gXW S (.inl c) k = some r) : r = (S, .inl c) := (Option.some.inj h).symm
def f_X1_need (x0 : Int32) : Nat ⊕ Unit := if x0 ≠ 0 then .inr () else .inl 1
def f_X1_ready (x0 : Int32) : Nat ⊕ Unit := if x0 ≠ 0 then .inr () else .inl 2
def f_X1_there (x0 : Int32) : Nat ⊕ Unit := if x0 ≠ 0 then .inr () else .inl 3
def f_X1_hall (S : Mem) (x1 : Int32) : Option (Nat ⊕ Nat) :=
  gS (f_X1_in (Int32.toInt64 x1) (0 : Int64) (1 : Int64)) fun v1 =>
  gX (f_X1_need v1) fun _ =>
  gA x1 2 <|
  some (.inr (Int32.toNatClampNeg x1))
def f_X1_at_29 (S : Mem) (x1 : Int32) (y0 : Int32) : Option (Nat ⊕ Nat) :=
  gX (f_X1_there y0) fun _ =>
  gA x1 64 <|
  some (.inr (Int32.toNatClampNeg x1))
def f_X1_at_28 (S : Mem) (x1 : Int32) : Option (Nat ⊕ Nat) :=
  f_X1_at_29 S x1 0
def f_X1_at (S : Mem) (x1 : Int32) : Option (Nat ⊕ Nat) :=
  gS (f_X1_in (Int32.toInt64 x1) (0 : Int64) (63 : Int64)) fun v1 =>
  if v1 = (0 : Int32) then
    f_X1_at_28 S x1
  else
    gA x1 64 <|
    if (S.1 (L_o (Int32.toNatClampNeg x1)) 0) = (0 : Int32) then
      f_X1_at_28 S x1
    else
      f_X1_at_29 S x1 1
def f_X1_grant_68 (S : Mem) (x1 : Int32) (x2 : Int32) (x3 : Int32) (y0 : Int32) : Option (Mem × (Nat ⊕ Unit)) :=
  gXW S (f_X1_ready y0) fun _ =>
  gA x1 2 <|
  gA (x2 - 4) 6 <| gS (sI S (C_grow (Int32.toNatClampNeg x1)) (Int32.toNatClampNeg (x2 - 4)) x3) fun S3 =>
  (f_X1_allow S3 x1).bind fun S4 =>
  some (S4, .inr ())
def f_X1_grant_53 (S : Mem) (x1 : Int32) (x2 : Int32) (x3 : Int32) (y0 : Int32) : Option (Mem × (Nat ⊕ Unit)) :=
  gXW S (f_X1_need y0) fun _ =>
  if (S.1 (C_o) 7) ≠ (0 : Int32) then
    f_X1_grant_68 S x1 x2 x3 0
  else
    f_X1_grant_68 S x1 x2 x3 1
def f_X1_grant_52 (S : Mem) (x1 : Int32) (x2 : Int32) (x3 : Int32) : Option (Mem × (Nat ⊕ Unit)) :=
  f_X1_grant_53 S x1 x2 x3 0
def f_X1_grant_42 (S : Mem) (x1 : Int32) (x2 : Int32) (x3 : Int32) (y0 : Int64) (y1 : Int64) (y2 : Int64) : Option (Mem × (Nat ⊕ Unit)) :=
  gS (f_X1_in y2 y1 y0) fun v1 =>
  if v1 = (0 : Int32) then
    f_X1_grant_52 S x1 x2 x3
  else
    f_X1_grant_53 S x1 x2 x3 1
def f_X1_grant (S : Mem) (x1 : Int32) (x2 : Int32) (x3 : Int32) : Option (Mem × (Nat ⊕ Unit)) :=
  gS (f_X1_in (Int32.toInt64 x1) (0 : Int64) (1 : Int64)) fun v1 =>
  if v1 = (0 : Int32) then
    f_X1_grant_52 S x1 x2 x3
  else
    gS (f_X1_in (Int32.toInt64 x2) (4 : Int64) (9 : Int64)) fun v2 =>
    if v2 = (0 : Int32) then
      f_X1_grant_52 S x1 x2 x3
    else
      if (8 : Int32) ≤ x2 then
        f_X1_grant_42 S x1 x2 x3 64 0 (Int32.toInt64 x3)
      else
        f_X1_grant_42 S x1 x2 x3 65536 0 (Int32.toInt64 x3)
def f_X1_join_22_b (k22 : Mem → Int32 → Option (Mem × (Nat ⊕ Unit))) (S : Mem) (x1 : Int32) : Option (Mem × (Nat ⊕ Unit)) :=
  if (2 : Int32) ≤ x1 then
    some (S, .inr ())
  else
    gA x1 2 <|
    gA (1 - x1) 2 <|
    gA 0 6 <|
    gA 1 6 <|
    gA 2 6 <|
    gA 3 6 <|
    gA 4 6 <|
    gA 5 6 <|
    (f_X2_limits (Int32.toNatClampNeg (1 - x1)) S (Int32.toInt64 (S.1 (C_grow (Int32.toNatClampNeg x1)) (Int32.toNatClampNeg 0))) (Int32.toInt64 (S.1 (C_grow (Int32.toNatClampNeg x1)) (Int32.toNatClampNeg 1))) (Int32.toInt64 (S.1 (C_grow (Int32.toNatClampNeg x1)) (Int32.toNatClampNeg 2))) (Int32.toInt64 (S.1 (C_grow (Int32.toNatClampNeg x1)) (Int32.toNatClampNeg 3))) (Int32.toInt64 (S.1 (C_grow (Int32.toNatClampNeg x1)) (Int32.toNatClampNeg 4))) (Int32.toInt64 (S.1 (C_grow (Int32.toNatClampNeg x1)) (Int32.toNatClampNeg 5)))).bind fun S3 =>
    k22 S3 (x1 + 1)
def f_X1_join_22 : Nat → Mem → Int32 → Option (Mem × (Nat ⊕ Unit))
  | 0, _, _ => none
  | n + 1, S, x1 => f_X1_join_22_b (f_X1_join_22 n) S x1
def f_X1_join_12 (S : Mem) (y0 : Int32) : Option (Mem × (Nat ⊕ Unit)) :=
  gXW S (f_X1_ready y0) fun _ =>
  gS (sI S (C_o) 7 1) fun S2 =>
  f_X1_join_22 FU S2 0
def f_X1_join (S : Mem) : Option (Mem × (Nat ⊕ Unit)) :=
  if (S.1 (C_o) 7) ≠ (0 : Int32) then
    f_X1_join_12 S 0
  else
    f_X1_join_12 S 1
def f_X1_feed_35_b (k35 : Mem → Int32 → Int64 → Int32 → Option (Mem × (Nat ⊕ Int32))) (S : Mem) (x1 : Int32) (x2 : Int64) (x4 : Int32) : Option (Mem × (Nat ⊕ Int32)) :=
  if x1 ≤ x4 then
    some (S, .inr (S.1 (C_o) 5))
  else
    gS (sI S (C_o) 5 ((S.1 (C_o) 5) + 1)) fun S1 =>
    gA (S.1 (C_o) 5) 2048 <| gS (sI S1 (C_tape) (Int32.toNatClampNeg (S.1 (C_o) 5)) (vp_nar .byte (Int8.toInt32 (Int32.toInt8 (Int64.toInt32 (x2 >>> (Int32.toInt64 (8 * x4) &&& 63))))))) fun S2 =>
    k35 S2 x1 x2 (x4 + 1)
def f_X1_feed_35 : Nat → Mem → Int32 → Int64 → Int32 → Option (Mem × (Nat ⊕ Int32))
  | 0, _, _, _, _ => none
  | n + 1, S, x1, x2, x4 => f_X1_feed_35_b (f_X1_feed_35 n) S x1 x2 x4
def f_X1_feed_29 (S : Mem) (x1 : Int32) (x2 : Int64) (y0 : Int32) : Option (Mem × (Nat ⊕ Int32)) :=
  gXW S (f_X1_ready y0) fun _ =>
  f_X1_feed_35 FU S x1 x2 0
def f_X1_feed (S : Mem) (x1 : Int32) (x2 : Int64) : Option (Mem × (Nat ⊕ Int32)) :=
  gS (f_X1_in (Int32.toInt64 x1) (1 : Int64) (8 : Int64)) fun v1 =>
  gXW S (f_X1_need v1) fun _ =>
  if (2048 : Int32) < ((S.1 (C_o) 5) + x1) then
    f_X1_feed_29 S x1 x2 0
  else
    f_X1_feed_29 S x1 x2 1
def f_X1_write (E : L3 → Bool) (S : Mem) (x1 : Int32) (x2 : Int32) : Option (Mem × (Nat ⊕ Int32)) :=
  (f_X1_hall S x1).bind fun q1 => gXW S q1 fun v2 =>
  gB2 (f_X2_write E v2 S x2 (0 : Int32) (S.1 (C_o) 5)) fun S4 v5 =>
  gS (sI S4 (C_o) 5 0) fun S6 =>
  some (S6, .inr v5)
def f_X1_finish (E : L3 → Bool) (S : Mem) (x1 : Int32) (x2 : Int32) : Option (Mem × (Nat ⊕ Int32)) :=
  (f_X1_hall S x1).bind fun q1 => gXW S q1 fun v2 =>
  gB2 (f_X2_finish E v2 S x2) fun S4 v5 =>
  gN .boolean v5 (some (S4, .inr v5))
def f_X1_reset (E : L3 → Bool) (S : Mem) (x1 : Int32) (x2 : Int32) (x3 : Int64) : Option (Mem × (Nat ⊕ Int32)) :=
  (f_X1_hall S x1).bind fun q1 => gXW S q1 fun v2 =>
  gS (f_X1_in x3 (0 : Int64) (4611686018427387903 : Int64)) fun v4 =>
  gXW S (f_X1_need v4) fun _ =>
  gB2 (f_X2_reset E v2 S x2 x3) fun S6 v7 =>
  gN .boolean v7 (some (S6, .inr v7))
def f_X1_stop (E : L3 → Bool) (S : Mem) (x1 : Int32) (x2 : Int32) (x3 : Int64) : Option (Mem × (Nat ⊕ Int32)) :=
  (f_X1_hall S x1).bind fun q1 => gXW S q1 fun v2 =>
  gS (f_X1_in x3 (0 : Int64) (4611686018427387903 : Int64)) fun v4 =>
  gXW S (f_X1_need v4) fun _ =>
  gB2 (f_X2_stop E v2 S x2 x3) fun S6 v7 =>
  gN .boolean v7 (some (S6, .inr v7))
def f_X1_read (E : L3 → Bool) (S : Mem) (x1 : Int32) (x2 : Int32) (x3 : Int32) : Option (Mem × (Nat ⊕ Int32)) :=
  (f_X1_hall S x1).bind fun q1 => gXW S q1 fun v2 =>
  gS (f_X1_in (Int32.toInt64 x3) (0 : Int64) (2048 : Int64)) fun v4 =>
  gXW S (f_X1_need v4) fun _ =>
  gB2 (f_X2_read E v2 S x2 (0 : Int32) x3) fun S6 v7 =>
  gS (sI S6 (C_o) 6 (mxI v7 (0 : Int32))) fun S8 =>
  some (S8, .inr v7)
def f_X1_fill_66 (E : L3 → Bool) (S : Mem) (x1 : Int32) (x2 : Int32) (x3 : Nat) (x4 : Int32) (y0 : Int32) : Option (Mem × (Nat ⊕ Int32)) :=
  gXW S (f_X1_ready y0) fun _ =>
  gB2 (f_X2_fill E x3 S x2) fun S2 v3 =>
  if v3 ≠ (0 : Int32) then
    gA x4 64 <|
    gS (sI S2 (L_o (Int32.toNatClampNeg x4)) 0 1) fun S5 =>
    gS (sI S5 (L_o (Int32.toNatClampNeg x4)) 1 0) fun S6 =>
    gS (sI S6 (L_o (Int32.toNatClampNeg x4)) 2 x1) fun S7 =>
    gS (sI S7 (L_o (Int32.toNatClampNeg x4)) 3 (S7.1 (H_o x3) 17)) fun S8 =>
    gS (sJ S8 (L_o (Int32.toNatClampNeg x4)) 6 (S8.2 (H_o x3) 19)) fun S9 =>
    gS (sJ S9 (L_o (Int32.toNatClampNeg x4)) 7 (S9.2 (H_o x3) 20)) fun S10 =>
    gS (sJ S10 (L_o (Int32.toNatClampNeg x4)) 8 (S10.2 (H_o x3) 21)) fun S11 =>
    gS (sI S11 (L_o (Int32.toNatClampNeg x4)) 4 (S11.1 (H_o x3) 18)) fun S12 =>
    gS (f_X2_bytes x3 S12) fun v13 =>
    gS (sI S12 (L_o (Int32.toNatClampNeg x4)) 5 v13) fun S14 =>
    gY S14 (H_row x3) 0 1200 (L_row (Int32.toNatClampNeg x4)) 0 1200 (S14.1 (H_o x3) 18) fun S15 =>
    some (S15, .inr x4)
  else
    some (S2, .inr ((-1) : Int32))
def f_X1_fill_65 (E : L3 → Bool) (S : Mem) (x1 : Int32) (x2 : Int32) (x3 : Nat) (x4 : Int32) : Option (Mem × (Nat ⊕ Int32)) :=
  f_X1_fill_66 E S x1 x2 x3 x4 0
def f_X1_fill_47 (E : L3 → Bool) (S : Mem) (x1 : Int32) (x2 : Int32) (x3 : Nat) (x4 : Int32) : Option (Mem × (Nat ⊕ Int32)) :=
  if (S.1 (C_o) 7) = (0 : Int32) then
    f_X1_fill_65 E S x1 x2 x3 x4
  else
    if (64 : Int32) ≤ x4 then
      f_X1_fill_65 E S x1 x2 x3 x4
    else
      f_X1_fill_66 E S x1 x2 x3 x4 1
def f_X1_fill_21_b (E : L3 → Bool) (k21 : Mem → Int32 → Int32 → Nat → Int32 → Option (Mem × (Nat ⊕ Int32))) (S : Mem) (x1 : Int32) (x2 : Int32) (x3 : Nat) (x4 : Int32) : Option (Mem × (Nat ⊕ Int32)) :=
  if (64 : Int32) ≤ x4 then
    f_X1_fill_47 E S x1 x2 x3 x4
  else
    gA x4 64 <|
    if (S.1 (L_o (Int32.toNatClampNeg x4)) 0) = (0 : Int32) then
      f_X1_fill_47 E S x1 x2 x3 x4
    else
      k21 S x1 x2 x3 (x4 + 1)
def f_X1_fill_21 (E : L3 → Bool) : Nat → Mem → Int32 → Int32 → Nat → Int32 → Option (Mem × (Nat ⊕ Int32))
  | 0, _, _, _, _, _ => none
  | n + 1, S, x1, x2, x3, x4 => f_X1_fill_21_b E (f_X1_fill_21 E n) S x1 x2 x3 x4
def f_X1_fill (E : L3 → Bool) (S : Mem) (x1 : Int32) (x2 : Int32) : Option (Mem × (Nat ⊕ Int32)) :=
  (f_X1_hall S x1).bind fun q1 => gXW S q1 fun v2 =>
  gS (f_X1_in (Int32.toInt64 x2) (1 : Int64) (1200 : Int64)) fun v4 =>
  gXW S (f_X1_need v4) fun _ =>
  f_X1_fill_21 E FU S x1 x2 v2 0
def f_X1_gone_22 (E : L3 → Bool) (S : Mem) (x2 : Int32) (x3 : Nat) (y0 : Int32) : Option (Mem × (Nat ⊕ Unit)) :=
  gXW S (f_X1_ready y0) fun _ =>
  gS (sI S (L_o x3) 0 0) fun S2 =>
  gA (S2.1 (L_o x3) 2) 2 <|
  (f_X2_gone E (Int32.toNatClampNeg (S2.1 (L_o x3) 2)) S2 (S2.1 (L_o x3) 3) (S2.2 (L_o x3) 6) (S2.2 (L_o x3) 7) (S2.1 (L_o x3) 4) (S2.2 (L_o x3) 8) x2).bind fun S4 =>
  some (S4, .inr ())
def f_X1_gone_17 (E : L3 → Bool) (S : Mem) (x2 : Int32) (x3 : Nat) : Option (Mem × (Nat ⊕ Unit)) :=
  f_X1_gone_22 E S x2 x3 1
def f_X1_gone (E : L3 → Bool) (S : Mem) (x1 : Int32) (x2 : Int32) : Option (Mem × (Nat ⊕ Unit)) :=
  (f_X1_at S x1).bind fun q1 => gXW S q1 fun v2 =>
  if x2 = (0 : Int32) then
    f_X1_gone_17 E S x2 v2
  else
    if (S.1 (L_o v2) 1) = (0 : Int32) then
      f_X1_gone_22 E S x2 v2 0
    else
      f_X1_gone_17 E S x2 v2
def f_X1_line (S : Mem) (x1 : Int32) (x2 : Int32) : Option (Nat ⊕ Int64) :=
  (f_X1_at S x1).bind fun q1 => gX q1 fun v2 =>
  gS (f_X1_in (Int32.toInt64 x2) (0 : Int64) (6 : Int64)) fun v4 =>
  gX (f_X1_there v4) fun _ =>
  if x2 = (0 : Int32) then
    some (.inr (Int32.toInt64 (S.1 (L_o v2) 2)))
  else
  if x2 = (1 : Int32) then
    some (.inr (Int32.toInt64 (S.1 (L_o v2) 3)))
  else
  if x2 = (2 : Int32) then
    some (.inr (S.2 (L_o v2) 6))
  else
  if x2 = (3 : Int32) then
    some (.inr (S.2 (L_o v2) 7))
  else
  if x2 = (4 : Int32) then
    some (.inr (S.2 (L_o v2) 8))
  else
  if x2 = (5 : Int32) then
    some (.inr (Int32.toInt64 (S.1 (L_o v2) 4)))
  else
    some (.inr (Int32.toInt64 (S.1 (L_o v2) 5)))
def f_X1_data (S : Mem) (x1 : Int32) (x2 : Int32) : Option (Nat ⊕ Int32) :=
  (f_X1_at S x1).bind fun q1 => gX q1 fun v2 =>
  gS (f_X1_in (Int32.toInt64 x2) (0 : Int64) ((Int32.toInt64 (S.1 (L_o v2) 4)) - 1)) fun v4 =>
  gX (f_X1_there v4) fun _ =>
  gA x2 1200 <|
  some (.inr ((S.1 (L_row v2) (Int32.toNatClampNeg x2)) &&& 255))
def f_X1_outs_33_b (S : Mem) (k33 : Int32 → Int64 → Int32 → Option (Nat ⊕ Int64)) (x1 : Int32) (x2 : Int64) (x4 : Int32) : Option (Nat ⊕ Int64) :=
  if x4 < (0 : Int32) then
    some (.inr x2)
  else
    gA (x1 + x4) 2048 <|
    k33 x1 ((x2 <<< (Int32.toInt64 8 &&& 63)) ||| ((Int32.toInt64 (S.1 (C_out) (Int32.toNatClampNeg (x1 + x4)))) &&& 255)) (x4 + (-1))
def f_X1_outs_33 (S : Mem) : Nat → Int32 → Int64 → Int32 → Option (Nat ⊕ Int64)
  | 0, _, _, _ => none
  | n + 1, x1, x2, x4 => f_X1_outs_33_b S (f_X1_outs_33 S n) x1 x2 x4
def f_X1_outs (S : Mem) (x1 : Int32) : Option (Nat ⊕ Int64) :=
  gS (f_X1_in (Int32.toInt64 x1) (0 : Int64) ((Int32.toInt64 (S.1 (C_o) 6)) - 1)) fun v1 =>
  gX (f_X1_there v1) fun _ =>
  f_X1_outs_33 S FU x1 0 ((mnI ((S.1 (C_o) 6) - x1) (8 : Int32)) - 1)
def f_X1_stream (E : L3 → Bool) (S : Mem) (x1 : Int32) (x2 : Int32) (x3 : Int32) : Option (Nat ⊕ Int64) :=
  (f_X1_hall S x1).bind fun q1 => gX q1 fun v2 =>
  gS (f_X1_in (Int32.toInt64 x3) (0 : Int64) (14 : Int64)) fun v4 =>
  gX (f_X1_need v4) fun _ =>
  (f_X2_look E v2 S x2 x3).bind fun v6 =>
  some (.inr v6)
def f_X1_side (S : Mem) (x1 : Int32) (x2 : Int32) : Option (Nat ⊕ Int64) :=
  (f_X1_hall S x1).bind fun q1 => gX q1 fun v2 =>
  gS (f_X1_in (Int32.toInt64 x2) (0 : Int64) (13 : Int64)) fun v4 =>
  gX (f_X1_need v4) fun _ =>
  (f_X2_look_2 v2 S x2).bind fun v6 =>
  some (.inr v6)
