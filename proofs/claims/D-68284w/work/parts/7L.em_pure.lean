set_option maxRecDepth 100000
def addE (E : L3 → Bool) (r : L3) : L3 → Bool := fun q => if q = r then true else E q
def gE {α : Type} (E : L3 → Bool) (r : L3) (k : (L3 → Bool) → α) : α := k (addE E r)
def gB3 {μ α γ : Type} (x : Option ((L3 → Bool) × μ × α)) (k : (L3 → Bool) → μ → α → Option γ) : Option γ := x.bind fun q => k q.1 q.2.1 q.2.2
def gXE {μ α β : Type} (E : L3 → Bool) (S : μ) (x : Nat ⊕ α) (k : α → Option ((L3 → Bool) × μ × (Nat ⊕ β))) : Option ((L3 → Bool) × μ × (Nat ⊕ β)) := match x with
  | .inl c => some (E, S, .inl c)
  | .inr v => k v
def f_X2_begin_59 (k : Nat) (E : L3 → Bool) (S : Mem) (x1 : Int32) : Option ((L3 → Bool) × Mem × Unit) :=
  gS (f_X2_rule k S (Int32.toInt64 x1) (0 : Int32)) fun v2 =>
  gA v2 6 <|
  gA x1 256 <|
  gS (sI S (R_o k (Int32.toNatClampNeg x1)) 0 (S.1 (H_grants k) (Int32.toNatClampNeg v2))) fun T0 =>
  gS (sI T0 (R_o k (Int32.toNatClampNeg x1)) 1 0) fun T1 =>
  gS (sI T1 (R_o k (Int32.toNatClampNeg x1)) 2 0) fun T2 =>
  gS (sI T2 (R_o k (Int32.toNatClampNeg x1)) 3 0) fun T3 =>
  gS (sI T3 (R_o k (Int32.toNatClampNeg x1)) 4 0) fun T4 =>
  gS (sI T4 (R_o k (Int32.toNatClampNeg x1)) 5 (-1)) fun T5 =>
  gS (sI T5 (R_o k (Int32.toNatClampNeg x1)) 6 (S.1 (H_grants k) (Int32.toNatClampNeg v2))) fun T6 =>
  gS (sI T6 (R_o k (Int32.toNatClampNeg x1)) 7 (-1)) fun T7 =>
  gS (sJ T7 (R_o k (Int32.toNatClampNeg x1)) 8 0) fun T8 =>
  gS (sJ T8 (R_o k (Int32.toNatClampNeg x1)) 9 0) fun T9 =>
  gS (sI T9 (R_o k (Int32.toNatClampNeg x1)) 10 0) fun T10 =>
  gS (sI T10 (R_o k (Int32.toNatClampNeg x1)) 11 0) fun T11 =>
  gS (sI T11 (R_o k (Int32.toNatClampNeg x1)) 12 0) fun T12 =>
  gE E (R_o k (Int32.toNatClampNeg x1)) fun E1 =>
  some (E1, T12, ())
def f_X2_begin_42 (k : Nat) (E : L3 → Bool) (S : Mem) (x1 : Int32) : Option ((L3 → Bool) × Mem × Unit) :=
  gS (f_X2_isOneWay (Int32.toInt64 x1)) fun v1 =>
  if v1 = (0 : Int32) then
    f_X2_begin_59 k E S x1
  else
    gS (f_X2_isOwn k S (Int32.toInt64 x1)) fun v2 =>
    if v2 ≠ (0 : Int32) then
      some (E, S, ())
    else
      f_X2_begin_59 k E S x1
def f_X2_begin_17 (k : Nat) (E : L3 → Bool) (S : Mem) (x1 : Int32) : Option ((L3 → Bool) × Mem × Unit) :=
  gS (f_X2_rule k S (Int32.toInt64 x1) (1 : Int32)) fun v2 =>
  gA v2 6 <|
  gA x1 256 <|
  gS (sI S (S_o k (Int32.toNatClampNeg x1)) 0 0) fun T0 =>
  gS (sI T0 (S_o k (Int32.toNatClampNeg x1)) 1 0) fun T1 =>
  gS (sI T1 (S_o k (Int32.toNatClampNeg x1)) 2 0) fun T2 =>
  gS (sI T2 (S_o k (Int32.toNatClampNeg x1)) 3 0) fun T3 =>
  gS (sI T3 (S_o k (Int32.toNatClampNeg x1)) 4 (-1)) fun T4 =>
  gS (sI T4 (S_o k (Int32.toNatClampNeg x1)) 5 (-1)) fun T5 =>
  gS (sI T5 (S_o k (Int32.toNatClampNeg x1)) 6 (-1)) fun T6 =>
  gS (sI T6 (S_o k (Int32.toNatClampNeg x1)) 7 (-1)) fun T7 =>
  gS (sJ T7 (S_o k (Int32.toNatClampNeg x1)) 8 (S.2 (H_limits k) (Int32.toNatClampNeg v2))) fun T8 =>
  gS (sJ T8 (S_o k (Int32.toNatClampNeg x1)) 9 0) fun T9 =>
  gS (sJ T9 (S_o k (Int32.toNatClampNeg x1)) 10 (-1)) fun T10 =>
  gS (sI T10 (S_o k (Int32.toNatClampNeg x1)) 11 0) fun T11 =>
  gE E (S_o k (Int32.toNatClampNeg x1)) fun E1 =>
  f_X2_begin_42 k E1 T11 x1
def f_X2_begin (k : Nat) (E : L3 → Bool) (S : Mem) (x1 : Int32) : Option ((L3 → Bool) × Mem × Unit) :=
  gS (f_X2_isOneWay (Int32.toInt64 x1)) fun v1 =>
  if v1 = (0 : Int32) then
    f_X2_begin_17 k E S x1
  else
    gS (f_X2_isOwn k S (Int32.toInt64 x1)) fun v2 =>
    if v2 = (0 : Int32) then
      f_X2_begin_42 k E S x1
    else
      f_X2_begin_17 k E S x1
def f_X2_open_75 (k : Nat) (E : L3 → Bool) (S : Mem) (x3 : Int32) : Option ((L3 → Bool) × Mem × Int32) :=
  some (E, S, x3)
def f_X2_open_53 (k : Nat) (E : L3 → Bool) (S : Mem) (x2 : Nat) (y0 : Int32) (y1 : Int32) : Option ((L3 → Bool) × Mem × Int32) :=
  gS (sI S (W_o k x2) 0 ((S.1 (W_o k x2) 0) + 1)) fun S1 =>
  gB3 (f_X2_begin k E S1 ((y1 + y0) + (S.1 (H_o k) 0))) fun E3 S2 v4 =>
  f_X2_open_75 k E3 S2 ((y1 + y0) + (S.1 (H_o k) 0))
def f_X2_open_13 (k : Nat) (E : L3 → Bool) (S : Mem) (x1 : Int32) (y0 : Int32) : Option ((L3 → Bool) × Mem × Int32) :=
  gA y0 2 <|
  if (Int32.toInt64 (S.1 (W_o k (Int32.toNatClampNeg y0)) 0)) < (S.2 (W_o k (Int32.toNatClampNeg y0)) 3) then
    if x1 = (0 : Int32) then
      f_X2_open_53 k E S (Int32.toNatClampNeg y0) 2 (4 * (S.1 (W_o k (Int32.toNatClampNeg y0)) 0))
    else
      f_X2_open_53 k E S (Int32.toNatClampNeg y0) 0 (4 * (S.1 (W_o k (Int32.toNatClampNeg y0)) 0))
  else
    gS (sJ S (W_o k (Int32.toNatClampNeg y0)) 4 (S.2 (W_o k (Int32.toNatClampNeg y0)) 3)) fun S2 =>
    some (E, S2, ((-1) : Int32))
def f_X2_open (k : Nat) (E : L3 → Bool) (S : Mem) (x1 : Int32) : Option ((L3 → Bool) × Mem × Int32) :=
  if x1 = (0 : Int32) then
    f_X2_open_13 k E S x1 1
  else
    f_X2_open_13 k E S x1 0
def f_X2_come_31 (k : Nat) (k7 : (L3 → Bool) → Mem → Int32 → Nat → Option ((L3 → Bool) × Mem × Unit)) (E : L3 → Bool) (S : Mem) (x1 : Int32) (x2 : Nat) : Option ((L3 → Bool) × Mem × Unit) :=
  gS (sI S (W_o k x2) 1 ((S.1 (W_o k x2) 1) + 1)) fun S1 =>
  k7 E S1 x1 x2
def f_X2_come_7_b (k : Nat) (k7 : (L3 → Bool) → Mem → Int32 → Nat → Option ((L3 → Bool) × Mem × Unit)) (E : L3 → Bool) (S : Mem) (x1 : Int32) (x2 : Nat) : Option ((L3 → Bool) × Mem × Unit) :=
  if (x1 / 4) < (S.1 (W_o k x2) 1) then
    some (E, S, ())
  else
    gB3 (f_X2_begin k E S ((4 * (S.1 (W_o k x2) 1)) + (x1 - x1 / 4 * 4))) fun E2 S1 v3 =>
    f_X2_come_31 k k7 E2 S1 x1 x2
def f_X2_come_7 (k : Nat) : Nat → (L3 → Bool) → Mem → Int32 → Nat → Option ((L3 → Bool) × Mem × Unit)
  | 0, _, _, _, _ => none
  | n + 1, E, S, x1, x2 => f_X2_come_7_b k (f_X2_come_7 k n) E S x1 x2
def f_X2_come (k : Nat) (E : L3 → Bool) (S : Mem) (x1 : Int32) : Option ((L3 → Bool) × Mem × Unit) :=
  (f_X2_way k S (Int32.toInt64 x1)).bind fun v1 =>
  f_X2_come_7 k 65 E S x1 v1
def f_X2_take_329 (k : Nat) (E : L3 → Bool) (S : Mem) (x12 : Int32) (x13 : Int32) : Option ((L3 → Bool) × Mem × Int32) :=
  (f_X2_mayBeOver E k S x12 x13).bind fun S1 =>
  some (E, S1, (0 : Int32))
def f_X2_take_308 (k : Nat) (E : L3 → Bool) (S : Mem) (x1 : Int32) (x4 : Int64) (x6 : Int64) (x12 : Int32) (x13 : Int32) : Option ((L3 → Bool) × Mem × Int32) :=
  if x1 ≠ (4 : Int32) then
    f_X2_take_329 k E S x12 x13
  else
    gA x12 256 <|
    if E (R_o k (Int32.toNatClampNeg x12)) = true then
      (f_X2_isReset k S (Int32.toNatClampNeg x12) x4 (Int64.toInt32 x6)).bind fun S2 =>
      f_X2_take_329 k E S2 x12 x13
    else
      none
def f_X2_take_299 (k : Nat) (E : L3 → Bool) (S : Mem) (x1 : Int32) (x4 : Int64) (x6 : Int64) (x8 : L3) (x9 : Int32) (x10 : Int32) (x12 : Int32) (x13 : Int32) (y0 : Int32) (y1 : Int32) (y2 : Option Nat) : Option ((L3 → Bool) × Mem × Int32) :=
  gM y2 (
    none) fun js2 =>
    (f_X2_comes k S js2 y1 y0 x8 x9 x10).bind fun S1 =>
    f_X2_take_308 k E S1 x1 x4 x6 x12 x13
def f_X2_take_270 (k : Nat) (E : L3 → Bool) (S : Mem) (x1 : Int32) (x4 : Int64) (x6 : Int64) (x8 : L3) (x9 : Int32) (x10 : Int32) (x12 : Int32) (x13 : Int32) : Option ((L3 → Bool) × Mem × Int32) :=
  if x1 ≠ (8 : Int32) then
    f_X2_take_308 k E S x1 x4 x6 x12 x13
  else
    gA x12 256 <|
    if E (R_o k (Int32.toNatClampNeg x12)) = true then
      if x6 ≠ (1 : Int64) then
        f_X2_take_299 k E S x1 x4 x6 x8 x9 x10 x12 x13 0 (Int64.toInt32 x4) (some (Int32.toNatClampNeg x12))
      else
        f_X2_take_299 k E S x1 x4 x6 x8 x9 x10 x12 x13 1 (Int64.toInt32 x4) (some (Int32.toNatClampNeg x12))
    else
      if x6 ≠ (1 : Int64) then
        f_X2_take_299 k E S x1 x4 x6 x8 x9 x10 x12 x13 0 (Int64.toInt32 x4) none
      else
        f_X2_take_299 k E S x1 x4 x6 x8 x9 x10 x12 x13 1 (Int64.toInt32 x4) none
def f_X2_take_240 (k : Nat) (E : L3 → Bool) (S : Mem) (x1 : Int32) (x4 : Int64) (x6 : Int64) (x8 : L3) (x9 : Int32) (x10 : Int32) (x12 : Int32) (x13 : Int32) : Option ((L3 → Bool) × Mem × Int32) :=
  if x1 ≠ (5 : Int32) then
    f_X2_take_270 k E S x1 x4 x6 x8 x9 x10 x12 x13
  else
    gA x12 256 <|
    if E (S_o k (Int32.toNatClampNeg x12)) = true then
      gS (f_X9_isLive k (Int32.toNatClampNeg x12) S) fun v2 =>
      if v2 = (0 : Int32) then
        f_X2_take_270 k E S x1 x4 x6 x8 x9 x10 x12 x13
      else
        gA x12 256 <|
        if E (S_o k (Int32.toNatClampNeg x12)) = true then
          (f_X9_reset k (Int32.toNatClampNeg x12) S x4).bind fun S4 =>
          f_X2_take_270 k E S4 x1 x4 x6 x8 x9 x10 x12 x13
        else
          none
    else
      none
def f_X2_take_201 (k : Nat) (E : L3 → Bool) (S : Mem) (x1 : Int32) (x4 : Int64) (x6 : Int64) (x8 : L3) (x9 : Int32) (x10 : Int32) (x12 : Int32) : Option ((L3 → Bool) × Mem × Int32) :=
  (f_X2_isOver E k S x12).bind fun v1 =>
  if x1 ≠ (17 : Int32) then
    f_X2_take_240 k E S x1 x4 x6 x8 x9 x10 x12 v1
  else
    gA x12 256 <|
    if E (S_o k (Int32.toNatClampNeg x12)) = true then
      gA x12 256 <|
      if E (S_o k (Int32.toNatClampNeg x12)) = true then
        gS (sJ S (S_o k (Int32.toNatClampNeg x12)) 8 (mxJ (S.2 (S_o k (Int32.toNatClampNeg x12)) 8) x4)) fun S4 =>
        f_X2_take_240 k E S4 x1 x4 x6 x8 x9 x10 x12 v1
      else
        none
    else
      gA x12 256 <|
      if E (S_o k (Int32.toNatClampNeg x12)) = true then
        none
      else
        none
def f_X2_take_177 (k : Nat) (E : L3 → Bool) (S : Mem) (x1 : Int32) (x4 : Int64) (x6 : Int64) (x8 : L3) (x9 : Int32) (x10 : Int32) (x11 : Int32) (x12 : Int32) : Option ((L3 → Bool) × Mem × Int32) :=
  if x11 ≤ (0 : Int32) then
    gS (f_X2_isOwn k S (Int32.toInt64 x12)) fun v1 =>
    if v1 ≠ (0 : Int32) then
      f_X2_take_201 k E S x1 x4 x6 x8 x9 x10 x12
    else
      gB3 (f_X2_come k E S x12) fun E3 S2 v4 =>
      f_X2_take_201 k E3 S2 x1 x4 x6 x8 x9 x10 x12
  else
    some (E, S, x11)
def f_X2_take_161 (k : Nat) (E : L3 → Bool) (S : Mem) (x1 : Int32) (x4 : Int64) (x6 : Int64) (x8 : L3) (x9 : Int32) (x10 : Int32) (x11 : Int32) (x12 : Int32) : Option ((L3 → Bool) × Mem × Int32) :=
  if x1 ≠ (4 : Int32) then
    f_X2_take_177 k E S x1 x4 x6 x8 x9 x10 x11 x12
  else
    (f_X2_fits E k S x12 x6 (1 : Int32)).bind fun v1 =>
    f_X2_take_177 k E S x1 x4 x6 x8 x9 x10 v1 x12
def f_X2_take_156 (k : Nat) (E : L3 → Bool) (S : Mem) (x1 : Int32) (x4 : Int64) (x6 : Int64) (x8 : L3) (x9 : Int32) (x10 : Int32) (x12 : Int32) (y0 : Int32) (y1 : Int64) (y2 : Int32) : Option ((L3 → Bool) × Mem × Int32) :=
  (f_X2_fits E k S y2 y1 y0).bind fun v1 =>
  f_X2_take_161 k E S x1 x4 x6 x8 x9 x10 v1 x12
def f_X2_take_112 (k : Nat) (E : L3 → Bool) (S : Mem) (x1 : Int32) (x2 : Int64) (x4 : Int64) (x6 : Int64) (x8 : L3) (x9 : Int32) (x10 : Int32) (y0 : Int32) (y1 : Int64) : Option ((L3 → Bool) × Mem × Int32) :=
  (f_X2_allowed k S y1 y0).bind fun v1 =>
  if v1 ≤ (0 : Int32) then
    if x1 ≠ (8 : Int32) then
      f_X2_take_161 k E S x1 x4 x6 x8 x9 x10 v1 (Int64.toInt32 x2)
    else
      if x6 ≠ (1 : Int64) then
        f_X2_take_156 k E S x1 x4 x6 x8 x9 x10 (Int64.toInt32 x2) 0 (x4 + (Int32.toInt64 x10)) (Int64.toInt32 x2)
      else
        f_X2_take_156 k E S x1 x4 x6 x8 x9 x10 (Int64.toInt32 x2) 1 (x4 + (Int32.toInt64 x10)) (Int64.toInt32 x2)
  else
    some (E, S, v1)
def f_X2_take_107 (k : Nat) (E : L3 → Bool) (S : Mem) (x1 : Int32) (x2 : Int64) (x4 : Int64) (x6 : Int64) (x8 : L3) (x9 : Int32) (x10 : Int32) (y0 : Int64) : Option ((L3 → Bool) × Mem × Int32) :=
  f_X2_take_112 k E S x1 x2 x4 x6 x8 x9 x10 1 y0
def f_X2_take_94 (k : Nat) (E : L3 → Bool) (S : Mem) (x1 : Int32) (x2 : Int64) (x4 : Int64) (x6 : Int64) (x8 : L3) (x9 : Int32) (x10 : Int32) : Option ((L3 → Bool) × Mem × Int32) :=
  if x1 = (5 : Int32) then
    f_X2_take_107 k E S x1 x2 x4 x6 x8 x9 x10 x2
  else
    if x1 ≠ (17 : Int32) then
      f_X2_take_112 k E S x1 x2 x4 x6 x8 x9 x10 0 x2
    else
      f_X2_take_107 k E S x1 x2 x4 x6 x8 x9 x10 x2
def f_X2_take_64 (k : Nat) (E : L3 → Bool) (S : Mem) (x1 : Int32) (x2 : Int64) (x4 : Int64) (x6 : Int64) (x8 : L3) (x9 : Int32) (x10 : Int32) : Option ((L3 → Bool) × Mem × Int32) :=
  if x1 = (4 : Int32) then
    f_X2_take_94 k E S x1 x2 x4 x6 x8 x9 x10
  else
    if x1 = (5 : Int32) then
      f_X2_take_94 k E S x1 x2 x4 x6 x8 x9 x10
    else
      if x1 = (8 : Int32) then
        f_X2_take_94 k E S x1 x2 x4 x6 x8 x9 x10
      else
        if x1 = (17 : Int32) then
          f_X2_take_94 k E S x1 x2 x4 x6 x8 x9 x10
        else
          if x1 = (21 : Int32) then
            f_X2_take_94 k E S x1 x2 x4 x6 x8 x9 x10
          else
            some (E, S, (0 : Int32))
def f_X2_take_30 (k : Nat) (E : L3 → Bool) (S : Mem) (x1 : Int32) (x2 : Int64) (x4 : Int64) (x6 : Int64) (x8 : L3) (x9 : Int32) (x10 : Int32) : Option ((L3 → Bool) × Mem × Int32) :=
  gA (x1 - 18) 2 <|
  gA (x1 - 18) 2 <|
  gS (sJ S (W_o k (Int32.toNatClampNeg (x1 - 18))) 3 (mxJ (S.2 (W_o k (Int32.toNatClampNeg (x1 - 18))) 3) (mnJ x2 (64 : Int64)))) fun S3 =>
  f_X2_take_64 k E S3 x1 x2 x4 x6 x8 x9 x10
def f_X2_take_18 (k : Nat) (E : L3 → Bool) (S : Mem) (x1 : Int32) (x2 : Int64) (x4 : Int64) (x6 : Int64) (x8 : L3) (x9 : Int32) (x10 : Int32) : Option ((L3 → Bool) × Mem × Int32) :=
  if x1 = (18 : Int32) then
    f_X2_take_30 k E S x1 x2 x4 x6 x8 x9 x10
  else
    if x1 ≠ (19 : Int32) then
      f_X2_take_64 k E S x1 x2 x4 x6 x8 x9 x10
    else
      f_X2_take_30 k E S x1 x2 x4 x6 x8 x9 x10
def f_X2_take (k : Nat) (E : L3 → Bool) (S : Mem) (x1 : Int32) (x2 : Int64) (x4 : Int64) (x6 : Int64) (x8 : L3) (x9 : Int32) (x10 : Int32) : Option ((L3 → Bool) × Mem × Int32) :=
  if x1 ≠ (16 : Int32) then
    f_X2_take_18 k E S x1 x2 x4 x6 x8 x9 x10
  else
    gS (sJ S (H_o k) 9 (mxJ (S.2 (H_o k) 9) x2)) fun S1 =>
    f_X2_take_18 k E S1 x1 x2 x4 x6 x8 x9 x10
def f_X1_open_18 (E : L3 → Bool) (S : Mem) (y0 : Int32) : Option ((L3 → Bool) × Mem × (Nat ⊕ Int32)) :=
  some (E, S, (.inr y0))
def f_X1_open (E : L3 → Bool) (S : Mem) (x1 : Int32) (x2 : Int32) : Option ((L3 → Bool) × Mem × (Nat ⊕ Int32)) :=
  (f_X1_hall S x1).bind fun q1 => gXE E S q1 fun v2 =>
  gXE E S (f_X1_ready (S.1 (C_o) 7)) fun _ =>
  gB3 (f_X2_open v2 E S x2) fun E6 S5 v7 =>
  f_X1_open_18 E6 S5 v7
def f_X1_deliver_63 (E : L3 → Bool) (S : Mem) (x3 : Int32) (y0 : Int32) (y1 : Nat) : Option ((L3 → Bool) × Mem × (Nat ⊕ Int32)) :=
  gN .boolean y0 <|
  gS (sI S (L_o y1) 1 y0) fun S1 =>
  some (E, S1, (.inr x3))
def f_X1_deliver_58 (E : L3 → Bool) (S : Mem) (x3 : Int32) (y0 : Nat) : Option ((L3 → Bool) × Mem × (Nat ⊕ Int32)) :=
  f_X1_deliver_63 E S x3 1 y0
def f_X1_deliver_45 (E : L3 → Bool) (S : Mem) (x2 : Nat) (y0 : Int32) : Option ((L3 → Bool) × Mem × (Nat ⊕ Int32)) :=
  if (S.1 (L_o x2) 1) ≠ (0 : Int32) then
    f_X1_deliver_58 E S y0 x2
  else
    if y0 ≠ (0 : Int32) then
      f_X1_deliver_63 E S y0 0 x2
    else
      f_X1_deliver_58 E S y0 x2
def f_X1_deliver (E : L3 → Bool) (S : Mem) (x1 : Int32) : Option ((L3 → Bool) × Mem × (Nat ⊕ Int32)) :=
  (f_X1_at S x1).bind fun q1 => gXE E S q1 fun v2 =>
  gA (1 - (S.1 (L_o v2) 2)) 2 <|
  gB3 (f_X2_take (Int32.toNatClampNeg (1 - (S.1 (L_o v2) 2))) E S (S.1 (L_o v2) 3) (S.2 (L_o v2) 6) (S.2 (L_o v2) 7) (S.2 (L_o v2) 8) (L_row v2) (0 : Int32) (S.1 (L_o v2) 4)) fun E6 S5 v7 =>
  f_X1_deliver_45 E6 S5 v2 v7
def f_X1_take_137 (E : L3 → Bool) (S : Mem) (y0 : Int32) : Option ((L3 → Bool) × Mem × (Nat ⊕ Int32)) :=
  gS (sI S (C_o) 5 0) fun S1 =>
  some (E, S1, (.inr y0))
def f_X1_take_107 (E : L3 → Bool) (S : Mem) (x2 : Int32) (x3 : Int64) (x5 : Int64) (x7 : Int64) (x9 : Nat) (y0 : Int32) : Option ((L3 → Bool) × Mem × (Nat ⊕ Int32)) :=
  gXE E S (f_X1_need y0) fun _ =>
  gXE E S (f_X1_ready (S.1 (C_o) 7)) fun _ =>
  gB3 (f_X2_take x9 E S x2 x3 x5 x7 C_tape (0 : Int32) (S.1 (C_o) 5)) fun E4 S3 v5 =>
  f_X1_take_137 E4 S3 v5
def f_X1_take_106 (E : L3 → Bool) (S : Mem) (x2 : Int32) (x3 : Int64) (x5 : Int64) (x7 : Int64) (x9 : Nat) : Option ((L3 → Bool) × Mem × (Nat ⊕ Int32)) :=
  f_X1_take_107 E S x2 x3 x5 x7 x9 0
def f_X1_take_96 (E : L3 → Bool) (S : Mem) (x2 : Int32) (x3 : Int64) (x5 : Int64) (x7 : Int64) (x9 : Nat) (y0 : Int64) (y1 : Int64) (y2 : Int64) : Option ((L3 → Bool) × Mem × (Nat ⊕ Int32)) :=
  gS (f_X1_in y2 y1 y0) fun v1 =>
  if v1 = (0 : Int32) then
    f_X1_take_106 E S x2 x3 x5 x7 x9
  else
    f_X1_take_107 E S x2 x3 x5 x7 x9 1
def f_X1_take_74 (E : L3 → Bool) (S : Mem) (x2 : Int32) (x3 : Int64) (x5 : Int64) (x7 : Int64) (x9 : Nat) (y0 : Int64) (y1 : Int64) (y2 : Int64) : Option ((L3 → Bool) × Mem × (Nat ⊕ Int32)) :=
  gS (f_X1_in y2 y1 y0) fun v1 =>
  if v1 = (0 : Int32) then
    f_X1_take_106 E S x2 x3 x5 x7 x9
  else
    if x2 ≠ (8 : Int32) then
      f_X1_take_96 E S x2 x3 x5 x7 x9 4611686018427387903 0 x7
    else
      f_X1_take_96 E S x2 x3 x5 x7 x9 1 0 x7
def f_X1_take_42 (E : L3 → Bool) (S : Mem) (x2 : Int32) (x3 : Int64) (x5 : Int64) (x7 : Int64) (x9 : Nat) (y0 : Int32) : Option ((L3 → Bool) × Mem × (Nat ⊕ Int32)) :=
  gXE E S (f_X1_need y0) fun _ =>
  gS (f_X1_in x3 (0 : Int64) (4611686018427387903 : Int64)) fun v2 =>
  if v2 = (0 : Int32) then
    f_X1_take_106 E S x2 x3 x5 x7 x9
  else
    if x2 ≠ (8 : Int32) then
      f_X1_take_74 E S x2 x3 x5 x7 x9 4611686018427387903 0 x5
    else
      f_X1_take_74 E S x2 x3 x5 x7 x9 4611686018427380000 0 x5
def f_X1_take_37 (E : L3 → Bool) (S : Mem) (x2 : Int32) (x3 : Int64) (x5 : Int64) (x7 : Int64) (x9 : Nat) : Option ((L3 → Bool) × Mem × (Nat ⊕ Int32)) :=
  f_X1_take_42 E S x2 x3 x5 x7 x9 1
def f_X1_take (E : L3 → Bool) (S : Mem) (x1 : Int32) (x2 : Int32) (x3 : Int64) (x5 : Int64) (x7 : Int64) : Option ((L3 → Bool) × Mem × (Nat ⊕ Int32)) :=
  (f_X1_hall S x1).bind fun q1 => gXE E S q1 fun v2 =>
  if x2 = (4 : Int32) then
    f_X1_take_37 E S x2 x3 x5 x7 v2
  else
    if x2 = (5 : Int32) then
      f_X1_take_37 E S x2 x3 x5 x7 v2
    else
      if x2 = (8 : Int32) then
        f_X1_take_37 E S x2 x3 x5 x7 v2
      else
        gS (f_X1_in (Int32.toInt64 x2) (16 : Int64) (23 : Int64)) fun v4 =>
        if v4 = (0 : Int32) then
          f_X1_take_42 E S x2 x3 x5 x7 v2 0
        else
          f_X1_take_37 E S x2 x3 x5 x7 v2
