/-! lifted by lift.py -/
def g_X2_grants (k : Nat) (S : AM) (x1 : Int) (x2 : Int) (x3 : Int) (x4 : Int) (x5 : Int) (x6 : Int) : Option (AM) :=
  hA 0 6 <|
  gS (uA S (H_grants k) ((0 : Int).toNat) x1) fun S1 =>
  hA 1 6 <|
  gS (uA S1 (H_grants k) ((1 : Int).toNat) x2) fun S2 =>
  hA 2 6 <|
  gS (uA S2 (H_grants k) ((2 : Int).toNat) x3) fun S3 =>
  hA 3 6 <|
  gS (uA S3 (H_grants k) ((3 : Int).toNat) x4) fun S4 =>
  hA 4 6 <|
  gS (uA S4 (H_grants k) ((4 : Int).toNat) x5) fun S5 =>
  hA 5 6 <|
  gS (uA S5 (H_grants k) ((5 : Int).toNat) x6) fun S6 =>
  gS (uA S6 (H_o k) 14 x1) fun S7 =>
  hA 0 2 <|
  gS (uA S7 (W_o k (0 : Int).toNat) 2 x5) fun S9 =>
  hA 1 2 <|
  gS (uA S9 (W_o k (1 : Int).toNat) 2 x6) fun S11 =>
  some (S11)
set_option maxRecDepth 10000 in
theorem lf_X2_grants {k k' : Nat} (hk : k = k') {S : Mem} {S' : AM} (hS : (RT tC) S S') {x1 : Int32} {x1' : Int} (hx1 : RI x1 x1') {x2 : Int32} {x2' : Int} (hx2 : RI x2 x2') {x3 : Int32} {x3' : Int} (hx3 : RI x3 x3') {x4 : Int32} {x4' : Int} (hx4 : RI x4 x4') {x5 : Int32} {x5' : Int} (hx5 : RI x5 x5') {x6 : Int32} {x6' : Int} (hx6 : RI x6 x6') : Lf (RT tC) (f_X2_grants k S x1 x2 x3 x4 x5 x6) (g_X2_grants k' S' x1' x2' x3' x4' x5' x6') := by
  subst hk
  unfold f_X2_grants g_X2_grants
  refine Lf_hA (li32 0) (by decide) (fun b1 => ?_)
  refine Lf_st (RT.siq hS rfl (tnE (li32 0) b1 (by decide)) hx1 rfl) (fun S1 S1' hS1 => ?_)
  refine Lf_hA (li32 1) (by decide) (fun b2 => ?_)
  refine Lf_st (RT.siq hS1 rfl (tnE (li32 1) b2 (by decide)) hx2 rfl) (fun S2 S2' hS2 => ?_)
  refine Lf_hA (li32 2) (by decide) (fun b3 => ?_)
  refine Lf_st (RT.siq hS2 rfl (tnE (li32 2) b3 (by decide)) hx3 rfl) (fun S3 S3' hS3 => ?_)
  refine Lf_hA (li32 3) (by decide) (fun b4 => ?_)
  refine Lf_st (RT.siq hS3 rfl (tnE (li32 3) b4 (by decide)) hx4 rfl) (fun S4 S4' hS4 => ?_)
  refine Lf_hA (li32 4) (by decide) (fun b5 => ?_)
  refine Lf_st (RT.siq hS4 rfl (tnE (li32 4) b5 (by decide)) hx5 rfl) (fun S5 S5' hS5 => ?_)
  refine Lf_hA (li32 5) (by decide) (fun b6 => ?_)
  refine Lf_st (RT.siq hS5 rfl (tnE (li32 5) b6 (by decide)) hx6 rfl) (fun S6 S6' hS6 => ?_)
  refine Lf_st (RT.siq hS6 rfl rfl hx1 rfl) (fun S7 S7' hS7 => ?_)
  refine Lf_hA (li32 0) (by decide) (fun b7 => ?_)
  refine Lf_st (RT.siq hS7 (congrArg (W_o k) (tnE (li32 0) b1 (by decide))) rfl hx5 rfl) (fun S9 S9' hS9 => ?_)
  refine Lf_hA (li32 1) (by decide) (fun b8 => ?_)
  refine Lf_st (RT.siq hS9 (congrArg (W_o k) (tnE (li32 1) b2 (by decide))) rfl hx6 rfl) (fun S11 S11' hS11 => ?_)
  exact Lf_some hS11
def g_X1_allow (S : AM) (x1 : Int) : Option (AM) :=
  hA x1 2 <|
  hA x1 2 <|
  hA 0 6 <|
  hA 1 6 <|
  hA 2 6 <|
  hA 3 6 <|
  hA 4 6 <|
  hA 5 6 <|
  (g_X2_grants (x1 : Int).toNat S (S (C_grow (x1 : Int).toNat) (0 : Int).toNat) (S (C_grow (x1 : Int).toNat) (1 : Int).toNat) (S (C_grow (x1 : Int).toNat) (2 : Int).toNat) (S (C_grow (x1 : Int).toNat) (3 : Int).toNat) (S (C_grow (x1 : Int).toNat) (4 : Int).toNat) (S (C_grow (x1 : Int).toNat) (5 : Int).toNat)).bind fun S3 =>
  some (S3)
set_option maxRecDepth 10000 in
theorem lf_X1_allow {S : Mem} {S' : AM} (hS : (RT tC) S S') {x1 : Int32} {x1' : Int} (hx1 : RI x1 x1') : Lf (RT tC) (f_X1_allow S x1) (g_X1_allow S' x1') := by
  unfold f_X1_allow g_X1_allow
  refine Lf_hA hx1.1 (by decide) (fun b1 => ?_)
  refine Lf_hA hx1.1 (by decide) (fun b2 => ?_)
  refine Lf_hA (li32 0) (by decide) (fun b3 => ?_)
  refine Lf_hA (li32 1) (by decide) (fun b4 => ?_)
  refine Lf_hA (li32 2) (by decide) (fun b5 => ?_)
  refine Lf_hA (li32 3) (by decide) (fun b6 => ?_)
  refine Lf_hA (li32 4) (by decide) (fun b7 => ?_)
  refine Lf_hA (li32 5) (by decide) (fun b8 => ?_)
  refine Lf_bind (lf_X2_grants (tnE hx1.1 b1 (by decide)) hS (RI.at hS (congrArg C_grow (tnE hx1.1 b1 (by decide))) (tnE (li32 0) b3 (by decide)) rfl) (RI.at hS (congrArg C_grow (tnE hx1.1 b1 (by decide))) (tnE (li32 1) b4 (by decide)) rfl) (RI.at hS (congrArg C_grow (tnE hx1.1 b1 (by decide))) (tnE (li32 2) b5 (by decide)) rfl) (RI.at hS (congrArg C_grow (tnE hx1.1 b1 (by decide))) (tnE (li32 3) b6 (by decide)) rfl) (RI.at hS (congrArg C_grow (tnE hx1.1 b1 (by decide))) (tnE (li32 4) b7 (by decide)) rfl) (RI.at hS (congrArg C_grow (tnE hx1.1 b1 (by decide))) (tnE (li32 5) b8 (by decide)) rfl)) (fun S3 S3' hS3 => ?_)
  exact Lf_some hS3
def g_X1_in (x0 : Int) (x2 : Int) (x4 : Int) : Option (Int) :=
  if x0 < x2 then
    some (0)
  else
    if x4 < x0 then
      some (0)
    else
      some (1)
set_option maxRecDepth 10000 in
theorem lf_X1_in {x0 : Int64} {x0' : Int} (hx0 : RJ x0 x0') {x2 : Int64} {x2' : Int} (hx2 : RJ x2 x2') {x4 : Int64} {x4' : Int} (hx4 : RJ x4 x4') : Lp RI (f_X1_in x0 x2 x4) (g_X1_in x0' x2' x4') := by
  unfold f_X1_in g_X1_in
  refine Lp_ite (D_lt hx0 hx2) (fun c1 => ?_) (fun c1 => ?_)
  · exact Lp_val (RI.lit 0 (by decide))
  · refine Lp_ite (D_lt hx4 hx0) (fun c2 => ?_) (fun c2 => ?_)
    · exact Lp_val (RI.lit 0 (by decide))
    · exact Lp_val (RI.lit 1 (by decide))
def g_X1_sizeOf (x0 : Int) : Option (Int) :=
  if 64 ≤ x0 then
    if 16384 ≤ x0 then
      if 1073741824 ≤ x0 then
        some (8)
      else
        some (4)
    else
      some (2)
  else
    some (1)
set_option maxRecDepth 10000 in
theorem lf_X1_sizeOf {x0 : Int64} {x0' : Int} (hx0 : RJ x0 x0') : Lp RI (f_X1_sizeOf x0) (g_X1_sizeOf x0') := by
  unfold f_X1_sizeOf g_X1_sizeOf
  refine Lp_ite (D_le (RJ.lit 64 (by decide)) hx0) (fun c1 => ?_) (fun c1 => ?_)
  · refine Lp_ite (D_le (RJ.lit 16384 (by decide)) hx0) (fun c2 => ?_) (fun c2 => ?_)
    · refine Lp_ite (D_le (RJ.lit 1073741824 (by decide)) hx0) (fun c3 => ?_) (fun c3 => ?_)
      · exact Lp_val (RI.lit 8 (by decide))
      · exact Lp_val (RI.lit 4 (by decide))
    · exact Lp_val (RI.lit 2 (by decide))
  · exact Lp_val (RI.lit 1 (by decide))
def g_X2_limits (k : Nat) (S : AM) (x1 : Int) (x3 : Int) (x5 : Int) (x7 : Int) (x9 : Int) (x11 : Int) : Option (AM) :=
  hA 1 6 <|
  gS (uA S (H_limits k) ((1 : Int).toNat) x3) fun S1 =>
  hA 2 6 <|
  gS (uA S1 (H_limits k) ((2 : Int).toNat) x5) fun S2 =>
  hA 3 6 <|
  gS (uA S2 (H_limits k) ((3 : Int).toNat) x7) fun S3 =>
  gS (uA S3 (H_o k) 9 x1) fun S4 =>
  hA 0 2 <|
  gS (uA S4 (W_o k (0 : Int).toNat) 3 (mnZ x9 64)) fun S6 =>
  hA 1 2 <|
  gS (uA S6 (W_o k (1 : Int).toNat) 3 (mnZ x11 64)) fun S8 =>
  some (S8)
set_option maxRecDepth 10000 in
theorem lf_X2_limits {k k' : Nat} (hk : k = k') {S : Mem} {S' : AM} (hS : (RT tC) S S') {x1 : Int64} {x1' : Int} (hx1 : RJ x1 x1') {x3 : Int64} {x3' : Int} (hx3 : RJ x3 x3') {x5 : Int64} {x5' : Int} (hx5 : RJ x5 x5') {x7 : Int64} {x7' : Int} (hx7 : RJ x7 x7') {x9 : Int64} {x9' : Int} (hx9 : RJ x9 x9') {x11 : Int64} {x11' : Int} (hx11 : RJ x11 x11') : Lf (RT tC) (f_X2_limits k S x1 x3 x5 x7 x9 x11) (g_X2_limits k' S' x1' x3' x5' x7' x9' x11') := by
  subst hk
  unfold f_X2_limits g_X2_limits
  refine Lf_hA (li32 1) (by decide) (fun b1 => ?_)
  refine Lf_st (RT.sjq hS rfl (tnE (li32 1) b1 (by decide)) hx3 rfl) (fun S1 S1' hS1 => ?_)
  refine Lf_hA (li32 2) (by decide) (fun b2 => ?_)
  refine Lf_st (RT.sjq hS1 rfl (tnE (li32 2) b2 (by decide)) hx5 rfl) (fun S2 S2' hS2 => ?_)
  refine Lf_hA (li32 3) (by decide) (fun b3 => ?_)
  refine Lf_st (RT.sjq hS2 rfl (tnE (li32 3) b3 (by decide)) hx7 rfl) (fun S3 S3' hS3 => ?_)
  refine Lf_st (RT.sjq hS3 rfl rfl hx1 rfl) (fun S4 S4' hS4 => ?_)
  refine Lf_hA (li32 0) (by decide) (fun b4 => ?_)
  refine Lf_st (RT.sjq hS4 (congrArg (W_o k) (tnE (li32 0) b4 (by decide))) rfl (RJ.mn hx9 (RJ.lit 64 (by decide))) rfl) (fun S6 S6' hS6 => ?_)
  refine Lf_hA (li32 1) (by decide) (fun b5 => ?_)
  refine Lf_st (RT.sjq hS6 (congrArg (W_o k) (tnE (li32 1) b1 (by decide))) rfl (RJ.mn hx11 (RJ.lit 64 (by decide))) rfl) (fun S8 S8' hS8 => ?_)
  exact Lf_some hS8
def g_X2_isOneWay (x0 : Int) : Option (Int) :=
  hA x0 9223372036854775808 <|
  hA (x0 / 2) 9223372036854775808 <|
  c64 ((x0 / 2) - (((x0 / 2) / 2) * 2)) <|
  if ((x0 / 2) - (((x0 / 2) / 2) * 2)) ≠ 1 then
    some (0)
  else
    some (1)
set_option maxRecDepth 10000 in
theorem lf_X2_isOneWay {x0 : Int64} {x0' : Int} (hx0 : RJ x0 x0') : Lp RI (f_X2_isOneWay x0) (g_X2_isOneWay x0') := by
  unfold f_X2_isOneWay g_X2_isOneWay
  refine Lp_hD (fun b1 => ?_)
  refine Lp_hD (fun b2 => ?_)
  refine Lp_c64 (fun b3 => ?_)
  refine Lp_ite (D_ne (RJ.mk (F_sub (F_div hx0.1 (li64 2) b1 (by decide) (by decide)) (F_mul (F_div (F_div hx0.1 (li64 2) b1 (by decide) (by decide)) (li64 2) b2 (by decide) (by decide)) (li64 2))) b3) (RJ.lit 1 (by decide))) (fun c4 => ?_) (fun c4 => ?_)
  · exact Lp_val (RI.lit 0 (by decide))
  · exact Lp_val (RI.lit 1 (by decide))
def g_X2_isOwn (k : Nat) (S : AM) (x1 : Int) : Option (Int) :=
  hA x1 9223372036854775808 <|
  c64 (x1 - ((x1 / 2) * 2)) <|
  if (x1 - ((x1 / 2) * 2)) ≠ (S (H_o k) 0) then
    some (0)
  else
    some (1)
set_option maxRecDepth 10000 in
theorem lf_X2_isOwn {k k' : Nat} (hk : k = k') {S : Mem} {S' : AM} (hS : (RT tC) S S') {x1 : Int64} {x1' : Int} (hx1 : RJ x1 x1') : Lp RI (f_X2_isOwn k S x1) (g_X2_isOwn k' S' x1') := by
  subst hk
  unfold f_X2_isOwn g_X2_isOwn
  refine Lp_hD (fun b1 => ?_)
  refine Lp_c64 (fun b2 => ?_)
  refine Lp_ite (D_ne (RJ.mk (F_sub hx1.1 (F_mul (F_div hx1.1 (li64 2) b1 (by decide) (by decide)) (li64 2))) b2) (RJ.mk (E_64 (RI.at hS rfl rfl rfl)) (R_64 (RI.at hS rfl rfl rfl).2))) (fun c3 => ?_) (fun c3 => ?_)
  · exact Lp_val (RI.lit 0 (by decide))
  · exact Lp_val (RI.lit 1 (by decide))
def g_X2_rule (k : Nat) (S : AM) (x1 : Int) (x3 : Int) : Option (Int) :=
  (g_X2_isOneWay x1).bind fun v1 =>
  if v1 = 0 then
    (g_X2_isOwn k S x1).bind fun v2 =>
    if v2 ≠ x3 then
      some (1)
    else
      some (2)
  else
    some (3)
set_option maxRecDepth 10000 in
theorem lf_X2_rule {k k' : Nat} (hk : k = k') {S : Mem} {S' : AM} (hS : (RT tC) S S') {x1 : Int64} {x1' : Int} (hx1 : RJ x1 x1') {x3 : Int32} {x3' : Int} (hx3 : RI x3 x3') : Lp RI (f_X2_rule k S x1 x3) (g_X2_rule k' S' x1' x3') := by
  subst hk
  unfold f_X2_rule g_X2_rule
  refine Lp_gS (lf_X2_isOneWay hx1) (fun v1 v1' hv1 => ?_)
  refine Lp_ite (C_eq hv1 (RI.lit 0 (by decide))) (fun c1 => ?_) (fun c1 => ?_)
  · refine Lp_gS (lf_X2_isOwn rfl hS hx1) (fun v2 v2' hv2 => ?_)
    refine Lp_ite (C_ne hv2 hx3) (fun c2 => ?_) (fun c2 => ?_)
    · exact Lp_val (RI.lit 1 (by decide))
    · exact Lp_val (RI.lit 2 (by decide))
  · exact Lp_val (RI.lit 3 (by decide))
def g_X2_sending_11 (E : L3 → Bool) (k : Nat) (S : AM) : Option (Option (Nat)) :=
  some (none)
set_option maxRecDepth 10000 in
theorem lf_X2_sending_11 (E : L3 → Bool) {k k' : Nat} (hk : k = k') {S : Mem} {S' : AM} (hS : (RT tC) S S') : Lf RQ (f_X2_sending_11 E k S) (g_X2_sending_11 E k' S') := by
  subst hk
  unfold f_X2_sending_11 g_X2_sending_11
  exact Lf_some RQ.rfl
def g_X2_sending (E : L3 → Bool) (k : Nat) (S : AM) (x1 : Int) : Option (Option (Nat)) :=
  if x1 < 0 then
    g_X2_sending_11 E k S
  else
    if x1 < 256 then
      hA x1 256 <|
      if E (S_o k (x1 : Int).toNat) = true then
        some (some (x1 : Int).toNat)
      else
        some (none)
    else
      g_X2_sending_11 E k S
set_option maxRecDepth 10000 in
theorem lf_X2_sending (E : L3 → Bool) {k k' : Nat} (hk : k = k') {S : Mem} {S' : AM} (hS : (RT tC) S S') {x1 : Int32} {x1' : Int} (hx1 : RI x1 x1') : Lf RQ (f_X2_sending E k S x1) (g_X2_sending E k' S' x1') := by
  subst hk
  unfold f_X2_sending g_X2_sending
  refine Lf_ite (C_lt hx1 (RI.lit 0 (by decide))) (fun c1 => ?_) (fun c1 => ?_)
  · exact lf_X2_sending_11 E rfl hS
  · refine Lf_ite (C_lt hx1 (RI.lit 256 (by decide))) (fun c2 => ?_) (fun c2 => ?_)
    · refine Lf_hA hx1.1 (by decide) (fun b3 => ?_)
      refine Lf_ite (iff_of_eq (congrArg (fun q => E q = true) (congrArg (S_o k) (tnE hx1.1 b3 (by decide))))) (fun c4 => ?_) (fun c4 => ?_)
      · exact Lf_some (RQ.of (congrArg some (tnE hx1.1 b3 (by decide))))
      · exact Lf_some RQ.rfl
    · exact lf_X2_sending_11 E rfl hS
def g_X5_piece_63 (k : Nat) (S : AM) : Option (AM × Int) :=
  hA (S (T_o k) 5) 64 <|
  gS (uA S (T_at k) (((S (T_o k) 5) : Int).toNat) (S (T_o k) 1)) fun S1 =>
  hA (S1 (T_o k) 5) 64 <|
  gS (uA S1 (T_size k) (((S1 (T_o k) 5) : Int).toNat) 0) fun S2 =>
  hA (S2 (T_o k) 5) 64 <|
  gS (uA S2 (T_next k) (((S2 (T_o k) 5) : Int).toNat) (-1)) fun S3 =>
  c32 ((S3 (T_o k) 5) + 1) <|
  gS (uA S3 (T_o k) 5 ((S3 (T_o k) 5) + 1)) fun S4 =>
  some (S4, (S3 (T_o k) 5))
set_option maxRecDepth 10000 in
theorem lf_X5_piece_63 {k k' : Nat} (hk : k = k') {S : Mem} {S' : AM} (hS : (RT tC) S S') : Lf (RP (RT tC) RI) (f_X5_piece_63 k S) (g_X5_piece_63 k' S') := by
  subst hk
  unfold f_X5_piece_63 g_X5_piece_63
  refine Lf_hA (RI.at hS rfl rfl rfl).1 (by decide) (fun b1 => ?_)
  refine Lf_st (RT.siq hS rfl (tnE (RI.at hS rfl rfl rfl).1 b1 (by decide)) (RI.at hS rfl rfl rfl) rfl) (fun S1 S1' hS1 => ?_)
  refine Lf_hA (RI.at hS1 rfl rfl rfl).1 (by decide) (fun b2 => ?_)
  refine Lf_st (RT.siq hS1 rfl (tnE (RI.at hS1 rfl rfl rfl).1 b2 (by decide)) (RI.lit 0 (by decide)) rfl) (fun S2 S2' hS2 => ?_)
  refine Lf_hA (RI.at hS2 rfl rfl rfl).1 (by decide) (fun b3 => ?_)
  refine Lf_st (RT.siq hS2 rfl (tnE (RI.at hS2 rfl rfl rfl).1 b3 (by decide)) RI.m1 rfl) (fun S3 S3' hS3 => ?_)
  refine Lf_c32 (fun b4 => ?_)
  refine Lf_st (RT.siq hS3 rfl rfl (RI.mk (E_add (RI.at hS3 rfl rfl rfl).1 (li32 1)) b4) rfl) (fun S4 S4' hS4 => ?_)
  exact Lf_some (RP.mk hS4 (RI.at hS3 rfl rfl rfl))
def g_X5_piece (k : Nat) (S : AM) : Option (AM × Int) :=
  if (S (T_o k) 5) ≠ 64 then
    g_X5_piece_63 k S
  else
    none
set_option maxRecDepth 10000 in
theorem lf_X5_piece {k k' : Nat} (hk : k = k') {S : Mem} {S' : AM} (hS : (RT tC) S S') : Lf (RP (RT tC) RI) (f_X5_piece k S) (g_X5_piece k' S') := by
  subst hk
  unfold f_X5_piece g_X5_piece
  refine Lf_ite (C_ne (RI.at hS rfl rfl rfl) (RI.lit 64 (by decide))) (fun c1 => ?_) (fun c1 => ?_)
  · exact lf_X5_piece_63 rfl hS
  · exact Lf_none
def g_X5_add_95 (k : Nat) (S : AM) (x1 : Nat) (x3 : Int) (x5 : Int) : Option (AM × Int) :=
  hY S C_tape x3 2048 (T_bytes k) (S (T_o k) 1) 65536 x5 fun S1 =>
  hA (S1 (S_o k x1) 5) 64 <|
  hA (S1 (S_o k x1) 5) 64 <|
  c32 ((S1 (T_size k) ((S1 (S_o k x1) 5) : Int).toNat) + x5) <|
  gS (uA S1 (T_size k) (((S1 (S_o k x1) 5) : Int).toNat) ((S1 (T_size k) ((S1 (S_o k x1) 5) : Int).toNat) + x5)) fun S2 =>
  c32 ((S2 (T_o k) 1) + x5) <|
  gS (uA S2 (T_o k) 1 ((S2 (T_o k) 1) + x5)) fun S3 =>
  c32 ((S3 (S_o k x1) 1) + x5) <|
  gS (uA S3 (S_o k x1) 1 ((S3 (S_o k x1) 1) + x5)) fun S4 =>
  some (S4, x5)
set_option maxRecDepth 10000 in
theorem lf_X5_add_95 {k k' : Nat} (hk : k = k') {S : Mem} {S' : AM} (hS : (RT tC) S S') {x1 x1' : Nat} (hx1 : x1 = x1') {x3 : Int32} {x3' : Int} (hx3 : RI x3 x3') {x5 : Int32} {x5' : Int} (hx5 : RI x5 x5') : Lf (RP (RT tC) RI) (f_X5_add_95 k S x1 x3 x5) (g_X5_add_95 k' S' x1' x3' x5') := by
  subst hk
  subst hx1
  unfold f_X5_add_95 g_X5_add_95
  refine Lf_gYq hS rfl rfl hx3 (RI.at hS rfl rfl rfl) hx5 (fun _ => rfl) (fun _ => rfl) (fun S1 S1' hS1 => ?_)
  refine Lf_hA (RI.at hS1 rfl rfl rfl).1 (by decide) (fun b1 => ?_)
  refine Lf_hA (RI.at hS1 rfl rfl rfl).1 (by decide) (fun b2 => ?_)
  refine Lf_c32 (fun b3 => ?_)
  refine Lf_st (RT.siq hS1 rfl (tnE (RI.at hS1 rfl rfl rfl).1 b1 (by decide)) (RI.mk (E_add (RI.at hS1 rfl (tnE (RI.at hS1 rfl rfl rfl).1 b1 (by decide)) rfl).1 hx5.1) b3) rfl) (fun S2 S2' hS2 => ?_)
  refine Lf_c32 (fun b4 => ?_)
  refine Lf_st (RT.siq hS2 rfl rfl (RI.mk (E_add (RI.at hS2 rfl rfl rfl).1 hx5.1) b4) rfl) (fun S3 S3' hS3 => ?_)
  refine Lf_c32 (fun b5 => ?_)
  refine Lf_st (RT.siq hS3 rfl rfl (RI.mk (E_add (RI.at hS3 rfl rfl rfl).1 hx5.1) b5) rfl) (fun S4 S4' hS4 => ?_)
  exact Lf_some (RP.mk hS4 hx5)
def g_X5_add_89 (k : Nat) (S : AM) (x1 : Nat) (x3 : Int) (x5 : Int) (x6 : Int) : Option (AM × Int) :=
  gS (uA S (S_o k x1) 5 x6) fun S1 =>
  g_X5_add_95 k S1 x1 x3 x5
set_option maxRecDepth 10000 in
theorem lf_X5_add_89 {k k' : Nat} (hk : k = k') {S : Mem} {S' : AM} (hS : (RT tC) S S') {x1 x1' : Nat} (hx1 : x1 = x1') {x3 : Int32} {x3' : Int} (hx3 : RI x3 x3') {x5 : Int32} {x5' : Int} (hx5 : RI x5 x5') {x6 : Int32} {x6' : Int} (hx6 : RI x6 x6') : Lf (RP (RT tC) RI) (f_X5_add_89 k S x1 x3 x5 x6) (g_X5_add_89 k' S' x1' x3' x5' x6') := by
  subst hk
  subst hx1
  unfold f_X5_add_89 g_X5_add_89
  refine Lf_st (RT.siq hS rfl rfl hx6 rfl) (fun S1 S1' hS1 => ?_)
  exact lf_X5_add_95 rfl hS1 rfl hx3 hx5
def g_X5_add_55 (k : Nat) (S : AM) (x1 : Nat) (x3 : Int) (x5 : Int) : Option (AM × Int) :=
  gB2 (g_X5_piece k S) fun S1 v2 =>
  if (S1 (S_o k x1) 5) ≠ (-1) then
    hA (S1 (S_o k x1) 5) 64 <|
    gS (uA S1 (T_next k) (((S1 (S_o k x1) 5) : Int).toNat) v2) fun S3 =>
    g_X5_add_89 k S3 x1 x3 x5 v2
  else
    gS (uA S1 (S_o k x1) 4 v2) fun S4 =>
    g_X5_add_89 k S4 x1 x3 x5 v2
set_option maxRecDepth 10000 in
theorem lf_X5_add_55 {k k' : Nat} (hk : k = k') {S : Mem} {S' : AM} (hS : (RT tC) S S') {x1 x1' : Nat} (hx1 : x1 = x1') {x3 : Int32} {x3' : Int} (hx3 : RI x3 x3') {x5 : Int32} {x5' : Int} (hx5 : RI x5 x5') : Lf (RP (RT tC) RI) (f_X5_add_55 k S x1 x3 x5) (g_X5_add_55 k' S' x1' x3' x5') := by
  subst hk
  subst hx1
  unfold f_X5_add_55 g_X5_add_55
  refine Lf_gB2 (lf_X5_piece rfl hS) (fun S1 S1' hS1 v2 v2' hv2 => ?_)
  refine Lf_ite (C_ne (RI.at hS1 rfl rfl rfl) RI.m1) (fun c1 => ?_) (fun c1 => ?_)
  · refine Lf_hA (RI.at hS1 rfl rfl rfl).1 (by decide) (fun b2 => ?_)
    refine Lf_st (RT.siq hS1 rfl (tnE (RI.at hS1 rfl rfl rfl).1 b2 (by decide)) hv2 rfl) (fun S3 S3' hS3 => ?_)
    exact lf_X5_add_89 rfl hS3 rfl hx3 hx5 hv2
  · refine Lf_st (RT.siq hS1 rfl rfl hv2 rfl) (fun S4 S4' hS4 => ?_)
    exact lf_X5_add_89 rfl hS4 rfl hx3 hx5 hv2
def g_X5_add (k : Nat) (S : AM) (x1 : Nat) (x3 : Int) (x4 : Int) : Option (AM × Int) :=
  c32 (65536 - (S (T_o k) 1)) <|
  if (mnZ x4 (65536 - (S (T_o k) 1))) ≠ 0 then
    if (S (S_o k x1) 5) = (-1) then
      g_X5_add_55 k S x1 x3 (mnZ x4 (65536 - (S (T_o k) 1)))
    else
      hA (S (S_o k x1) 5) 64 <|
      hA (S (S_o k x1) 5) 64 <|
      c32 ((S (T_at k) ((S (S_o k x1) 5) : Int).toNat) + (S (T_size k) ((S (S_o k x1) 5) : Int).toNat)) <|
      if ((S (T_at k) ((S (S_o k x1) 5) : Int).toNat) + (S (T_size k) ((S (S_o k x1) 5) : Int).toNat)) = (S (T_o k) 1) then
        g_X5_add_95 k S x1 x3 (mnZ x4 (65536 - (S (T_o k) 1)))
      else
        g_X5_add_55 k S x1 x3 (mnZ x4 (65536 - (S (T_o k) 1)))
  else
    some (S, 0)
set_option maxRecDepth 10000 in
theorem lf_X5_add {k k' : Nat} (hk : k = k') {S : Mem} {S' : AM} (hS : (RT tC) S S') {x1 x1' : Nat} (hx1 : x1 = x1') {x3 : Int32} {x3' : Int} (hx3 : RI x3 x3') {x4 : Int32} {x4' : Int} (hx4 : RI x4 x4') : Lf (RP (RT tC) RI) (f_X5_add k S x1 x3 x4) (g_X5_add k' S' x1' x3' x4') := by
  subst hk
  subst hx1
  unfold f_X5_add g_X5_add
  refine Lf_c32 (fun b1 => ?_)
  refine Lf_ite (C_ne (RI.mn hx4 (RI.mk (E_sub (li32 65536) (RI.at hS rfl rfl rfl).1) b1)) (RI.lit 0 (by decide))) (fun c2 => ?_) (fun c2 => ?_)
  · refine Lf_ite (C_eq (RI.at hS rfl rfl rfl) RI.m1) (fun c3 => ?_) (fun c3 => ?_)
    · exact lf_X5_add_55 rfl hS rfl hx3 (RI.mn hx4 (RI.mk (E_sub (li32 65536) (RI.at hS rfl rfl rfl).1) b1))
    · refine Lf_hA (RI.at hS rfl rfl rfl).1 (by decide) (fun b4 => ?_)
      refine Lf_hA (RI.at hS rfl rfl rfl).1 (by decide) (fun b5 => ?_)
      refine Lf_c32 (fun b6 => ?_)
      refine Lf_ite (C_eq (RI.mk (E_add (RI.at hS rfl (tnE (RI.at hS rfl rfl rfl).1 b4 (by decide)) rfl).1 (RI.at hS rfl (tnE (RI.at hS rfl rfl rfl).1 b4 (by decide)) rfl).1) b6) (RI.at hS rfl rfl rfl)) (fun c7 => ?_) (fun c7 => ?_)
      · exact lf_X5_add_95 rfl hS rfl hx3 (RI.mn hx4 (RI.mk (E_sub (li32 65536) (RI.at hS rfl rfl rfl).1) b1))
      · exact lf_X5_add_55 rfl hS rfl hx3 (RI.mn hx4 (RI.mk (E_sub (li32 65536) (RI.at hS rfl rfl rfl).1) b1))
  · exact Lf_some (RP.mk hS (RI.lit 0 (by decide)))
def g_X2_write_20 (E : L3 → Bool) (k : Nat) (S : AM) : Option (AM × Int) :=
  some (S, (-1))
set_option maxRecDepth 10000 in
theorem lf_X2_write_20 (E : L3 → Bool) {k k' : Nat} (hk : k = k') {S : Mem} {S' : AM} (hS : (RT tC) S S') : Lf (RP (RT tC) RI) (f_X2_write_20 E k S) (g_X2_write_20 E k' S') := by
  subst hk
  unfold f_X2_write_20 g_X2_write_20
  exact Lf_some (RP.mk hS RI.m1)
def g_X2_write (E : L3 → Bool) (k : Nat) (S : AM) (x1 : Int) (x3 : Int) (x4 : Int) : Option (AM × Int) :=
  (g_X2_sending E k S x1).bind fun v1 =>
  gM v1 (
    g_X2_write_20 E k S) fun j2 =>
    if (S (S_o k j2) 0) = 0 then
      gB2 (g_X5_add k S j2 x3 x4) fun S4 v5 =>
      some (S4, v5)
    else
      g_X2_write_20 E k S
set_option maxRecDepth 10000 in
theorem lf_X2_write (E : L3 → Bool) {k k' : Nat} (hk : k = k') {S : Mem} {S' : AM} (hS : (RT tC) S S') {x1 : Int32} {x1' : Int} (hx1 : RI x1 x1') {x3 : Int32} {x3' : Int} (hx3 : RI x3 x3') {x4 : Int32} {x4' : Int} (hx4 : RI x4 x4') : Lf (RP (RT tC) RI) (f_X2_write E k S x1 x3 x4) (g_X2_write E k' S' x1' x3' x4') := by
  subst hk
  unfold f_X2_write g_X2_write
  refine Lf_bind (lf_X2_sending E rfl hS hx1) (fun v1 v1' hv1 => ?_)
  obtain rfl : v1 = v1' := hv1
  refine Lf_gM (fun _ => ?_) (fun j2 _ => ?_)
  · exact lf_X2_write_20 E rfl hS
  · refine Lf_ite (C_eq (RI.at hS rfl rfl rfl) (RI.lit 0 (by decide))) (fun c1 => ?_) (fun c1 => ?_)
    · refine Lf_gB2 (lf_X5_add rfl hS rfl hx3 hx4) (fun S4 S4' hS4 v5 v5' hv5 => ?_)
      exact Lf_some (RP.mk hS4 hv5)
    · exact lf_X2_write_20 E rfl hS
def g_X2_finish (E : L3 → Bool) (k : Nat) (S : AM) (x1 : Int) : Option (AM × Int) :=
  (g_X2_sending E k S x1).bind fun v1 =>
  gM v1 (
    some (S, 0)) fun j2 =>
    if (S (S_o k j2) 0) = 0 then
      gS (uA S (S_o k j2) 0 1) fun S4 =>
      gS (uA S4 (S_o k j2) 3 1) fun S5 =>
      some (S5, 1)
    else
      some (S, 0)
set_option maxRecDepth 10000 in
theorem lf_X2_finish (E : L3 → Bool) {k k' : Nat} (hk : k = k') {S : Mem} {S' : AM} (hS : (RT tC) S S') {x1 : Int32} {x1' : Int} (hx1 : RI x1 x1') : Lf (RP (RT tC) RI) (f_X2_finish E k S x1) (g_X2_finish E k' S' x1') := by
  subst hk
  unfold f_X2_finish g_X2_finish
  refine Lf_bind (lf_X2_sending E rfl hS hx1) (fun v1 v1' hv1 => ?_)
  obtain rfl : v1 = v1' := hv1
  refine Lf_gM (fun _ => ?_) (fun j2 _ => ?_)
  · exact Lf_some (RP.mk hS (RI.lit 0 (by decide)))
  · refine Lf_ite (C_eq (RI.at hS rfl rfl rfl) (RI.lit 0 (by decide))) (fun c1 => ?_) (fun c1 => ?_)
    · refine Lf_st (RT.siq hS rfl rfl (RI.lit 1 (by decide)) rfl) (fun S4 S4' hS4 => ?_)
      refine Lf_st (RT.siq hS4 rfl rfl (RI.lit 1 (by decide)) rfl) (fun S5 S5' hS5 => ?_)
      exact Lf_some (RP.mk hS5 (RI.lit 1 (by decide)))
    · exact Lf_some (RP.mk hS (RI.lit 0 (by decide)))
def g_X9_isLive_15 (k : Nat) (j : Nat) (S : AM) : Option (Int) :=
  some (1)
set_option maxRecDepth 10000 in
theorem lf_X9_isLive_15 {k k' : Nat} (hk : k = k') {j j' : Nat} (hj : j = j') {S : Mem} {S' : AM} (hS : (RT tC) S S') : Lp RI (f_X9_isLive_15 k j S) (g_X9_isLive_15 k' j' S') := by
  subst hk
  subst hj
  unfold f_X9_isLive_15 g_X9_isLive_15
  exact Lp_val (RI.lit 1 (by decide))
def g_X9_isLive (k : Nat) (j : Nat) (S : AM) : Option (Int) :=
  if (S (S_o k j) 0) = 0 then
    g_X9_isLive_15 k j S
  else
    if (S (S_o k j) 0) ≠ 1 then
      some (0)
    else
      g_X9_isLive_15 k j S
set_option maxRecDepth 10000 in
theorem lf_X9_isLive {k k' : Nat} (hk : k = k') {j j' : Nat} (hj : j = j') {S : Mem} {S' : AM} (hS : (RT tC) S S') : Lp RI (f_X9_isLive k j S) (g_X9_isLive k' j' S') := by
  subst hk
  subst hj
  unfold f_X9_isLive g_X9_isLive
  refine Lp_ite (C_eq (RI.at hS rfl rfl rfl) (RI.lit 0 (by decide))) (fun c1 => ?_) (fun c1 => ?_)
  · exact lf_X9_isLive_15 rfl rfl hS
  · refine Lp_ite (C_ne (RI.at hS rfl rfl rfl) (RI.lit 1 (by decide))) (fun c2 => ?_) (fun c2 => ?_)
    · exact Lp_val (RI.lit 0 (by decide))
    · exact lf_X9_isLive_15 rfl rfl hS
def g_X9_reset (k : Nat) (j : Nat) (S : AM) (x1 : Int) : Option (AM) :=
  gS (uA S (S_o k j) 0 3) fun S1 =>
  gS (uA S1 (S_o k j) 9 x1) fun S2 =>
  gS (uA S2 (S_o k j) 11 1) fun S3 =>
  some (S3)
set_option maxRecDepth 10000 in
theorem lf_X9_reset {k k' : Nat} (hk : k = k') {j j' : Nat} (hj : j = j') {S : Mem} {S' : AM} (hS : (RT tC) S S') {x1 : Int64} {x1' : Int} (hx1 : RJ x1 x1') : Lf (RT tC) (f_X9_reset k j S x1) (g_X9_reset k' j' S' x1') := by
  subst hk
  subst hj
  unfold f_X9_reset g_X9_reset
  refine Lf_st (RT.siq hS rfl rfl (RI.lit 3 (by decide)) rfl) (fun S1 S1' hS1 => ?_)
  refine Lf_st (RT.sjq hS1 rfl rfl hx1 rfl) (fun S2 S2' hS2 => ?_)
  refine Lf_st (RT.siq hS2 rfl rfl (RI.lit 1 (by decide)) rfl) (fun S3 S3' hS3 => ?_)
  exact Lf_some hS3
def g_X2_reset (E : L3 → Bool) (k : Nat) (S : AM) (x1 : Int) (x2 : Int) : Option (AM × Int) :=
  (g_X2_sending E k S x1).bind fun v1 =>
  gM v1 (
    some (S, 0)) fun j2 =>
    (g_X9_isLive k j2 S).bind fun v4 =>
    if v4 ≠ 0 then
      (g_X9_reset k j2 S x2).bind fun S5 =>
      some (S5, 1)
    else
      some (S, 0)
set_option maxRecDepth 10000 in
theorem lf_X2_reset (E : L3 → Bool) {k k' : Nat} (hk : k = k') {S : Mem} {S' : AM} (hS : (RT tC) S S') {x1 : Int32} {x1' : Int} (hx1 : RI x1 x1') {x2 : Int64} {x2' : Int} (hx2 : RJ x2 x2') : Lf (RP (RT tC) RI) (f_X2_reset E k S x1 x2) (g_X2_reset E k' S' x1' x2') := by
  subst hk
  unfold f_X2_reset g_X2_reset
  refine Lf_bind (lf_X2_sending E rfl hS hx1) (fun v1 v1' hv1 => ?_)
  obtain rfl : v1 = v1' := hv1
  refine Lf_gM (fun _ => ?_) (fun j2 _ => ?_)
  · exact Lf_some (RP.mk hS (RI.lit 0 (by decide)))
  · refine Lf_gS (lf_X9_isLive rfl rfl hS) (fun v4 v4' hv4 => ?_)
    refine Lf_ite (C_ne hv4 (RI.lit 0 (by decide))) (fun c1 => ?_) (fun c1 => ?_)
    · refine Lf_bind (lf_X9_reset rfl rfl hS hx2) (fun S5 S5' hS5 => ?_)
      exact Lf_some (RP.mk hS5 (RI.lit 1 (by decide)))
    · exact Lf_some (RP.mk hS (RI.lit 0 (by decide)))
def g_X2_receiving_11 (E : L3 → Bool) (k : Nat) (S : AM) : Option (Option (Nat)) :=
  some (none)
set_option maxRecDepth 10000 in
theorem lf_X2_receiving_11 (E : L3 → Bool) {k k' : Nat} (hk : k = k') {S : Mem} {S' : AM} (hS : (RT tC) S S') : Lf RQ (f_X2_receiving_11 E k S) (g_X2_receiving_11 E k' S') := by
  subst hk
  unfold f_X2_receiving_11 g_X2_receiving_11
  exact Lf_some RQ.rfl
def g_X2_receiving (E : L3 → Bool) (k : Nat) (S : AM) (x1 : Int) : Option (Option (Nat)) :=
  if x1 < 0 then
    g_X2_receiving_11 E k S
  else
    if x1 < 256 then
      hA x1 256 <|
      if E (R_o k (x1 : Int).toNat) = true then
        some (some (x1 : Int).toNat)
      else
        some (none)
    else
      g_X2_receiving_11 E k S
set_option maxRecDepth 10000 in
theorem lf_X2_receiving (E : L3 → Bool) {k k' : Nat} (hk : k = k') {S : Mem} {S' : AM} (hS : (RT tC) S S') {x1 : Int32} {x1' : Int} (hx1 : RI x1 x1') : Lf RQ (f_X2_receiving E k S x1) (g_X2_receiving E k' S' x1') := by
  subst hk
  unfold f_X2_receiving g_X2_receiving
  refine Lf_ite (C_lt hx1 (RI.lit 0 (by decide))) (fun c1 => ?_) (fun c1 => ?_)
  · exact lf_X2_receiving_11 E rfl hS
  · refine Lf_ite (C_lt hx1 (RI.lit 256 (by decide))) (fun c2 => ?_) (fun c2 => ?_)
    · refine Lf_hA hx1.1 (by decide) (fun b3 => ?_)
      refine Lf_ite (iff_of_eq (congrArg (fun q => E q = true) (congrArg (R_o k) (tnE hx1.1 b3 (by decide))))) (fun c4 => ?_) (fun c4 => ?_)
      · exact Lf_some (RQ.of (congrArg some (tnE hx1.1 b3 (by decide))))
      · exact Lf_some RQ.rfl
    · exact lf_X2_receiving_11 E rfl hS
def g_X10_isLive_15 (k : Nat) (j : Nat) (S : AM) : Option (Int) :=
  some (1)
set_option maxRecDepth 10000 in
theorem lf_X10_isLive_15 {k k' : Nat} (hk : k = k') {j j' : Nat} (hj : j = j') {S : Mem} {S' : AM} (hS : (RT tC) S S') : Lp RI (f_X10_isLive_15 k j S) (g_X10_isLive_15 k' j' S') := by
  subst hk
  subst hj
  unfold f_X10_isLive_15 g_X10_isLive_15
  exact Lp_val (RI.lit 1 (by decide))
def g_X10_isLive (k : Nat) (j : Nat) (S : AM) : Option (Int) :=
  if (S (R_o k j) 1) = 0 then
    g_X10_isLive_15 k j S
  else
    if (S (R_o k j) 1) ≠ 1 then
      some (0)
    else
      g_X10_isLive_15 k j S
set_option maxRecDepth 10000 in
theorem lf_X10_isLive {k k' : Nat} (hk : k = k') {j j' : Nat} (hj : j = j') {S : Mem} {S' : AM} (hS : (RT tC) S S') : Lp RI (f_X10_isLive k j S) (g_X10_isLive k' j' S') := by
  subst hk
  subst hj
  unfold f_X10_isLive g_X10_isLive
  refine Lp_ite (C_eq (RI.at hS rfl rfl rfl) (RI.lit 0 (by decide))) (fun c1 => ?_) (fun c1 => ?_)
  · exact lf_X10_isLive_15 rfl rfl hS
  · refine Lp_ite (C_ne (RI.at hS rfl rfl rfl) (RI.lit 1 (by decide))) (fun c2 => ?_) (fun c2 => ?_)
    · exact Lp_val (RI.lit 0 (by decide))
    · exact lf_X10_isLive_15 rfl rfl hS
def g_X2_stop (E : L3 → Bool) (k : Nat) (S : AM) (x1 : Int) (x2 : Int) : Option (AM × Int) :=
  (g_X2_receiving E k S x1).bind fun v1 =>
  gM v1 (
    some (S, 0)) fun j2 =>
    (g_X10_isLive k j2 S).bind fun v4 =>
    if v4 = 0 then
      some (S, 0)
    else
      if (S (R_o k j2) 12) = 0 then
        gS (uA S (R_o k j2) 12 1) fun S5 =>
        gS (uA S5 (R_o k j2) 11 1) fun S6 =>
        gS (uA S6 (R_o k j2) 9 x2) fun S7 =>
        some (S7, 1)
      else
        some (S, 0)
set_option maxRecDepth 10000 in
theorem lf_X2_stop (E : L3 → Bool) {k k' : Nat} (hk : k = k') {S : Mem} {S' : AM} (hS : (RT tC) S S') {x1 : Int32} {x1' : Int} (hx1 : RI x1 x1') {x2 : Int64} {x2' : Int} (hx2 : RJ x2 x2') : Lf (RP (RT tC) RI) (f_X2_stop E k S x1 x2) (g_X2_stop E k' S' x1' x2') := by
  subst hk
  unfold f_X2_stop g_X2_stop
  refine Lf_bind (lf_X2_receiving E rfl hS hx1) (fun v1 v1' hv1 => ?_)
  obtain rfl : v1 = v1' := hv1
  refine Lf_gM (fun _ => ?_) (fun j2 _ => ?_)
  · exact Lf_some (RP.mk hS (RI.lit 0 (by decide)))
  · refine Lf_gS (lf_X10_isLive rfl rfl hS) (fun v4 v4' hv4 => ?_)
    refine Lf_ite (C_eq hv4 (RI.lit 0 (by decide))) (fun c1 => ?_) (fun c1 => ?_)
    · exact Lf_some (RP.mk hS (RI.lit 0 (by decide)))
    · refine Lf_ite (C_eq (RI.at hS rfl rfl rfl) (RI.lit 0 (by decide))) (fun c2 => ?_) (fun c2 => ?_)
      · refine Lf_st (RT.siq hS rfl rfl (RI.lit 1 (by decide)) rfl) (fun S5 S5' hS5 => ?_)
        refine Lf_st (RT.siq hS5 rfl rfl (RI.lit 1 (by decide)) rfl) (fun S6 S6' hS6 => ?_)
        refine Lf_st (RT.sjq hS6 rfl rfl hx2 rfl) (fun S7 S7' hS7 => ?_)
        exact Lf_some (RP.mk hS7 (RI.lit 1 (by decide)))
      · exact Lf_some (RP.mk hS (RI.lit 0 (by decide)))
def g_X6_drop (k : Nat) (S : AM) (x1 : Nat) : Option (AM) :=
  hA (S (R_o k x1) 7) 64 <|
  gS (uA S (R_o k x1) 7 (S (B_next k) ((S (R_o k x1) 7) : Int).toNat)) fun S1 =>
  hA (S (R_o k x1) 7) 64 <|
  gS (uA S1 (B_next k) (((S (R_o k x1) 7) : Int).toNat) (S1 (B_o k) 5)) fun S2 =>
  gS (uA S2 (B_o k) 5 (S (R_o k x1) 7)) fun S3 =>
  some (S3)
set_option maxRecDepth 10000 in
theorem lf_X6_drop {k k' : Nat} (hk : k = k') {S : Mem} {S' : AM} (hS : (RT tC) S S') {x1 x1' : Nat} (hx1 : x1 = x1') : Lf (RT tC) (f_X6_drop k S x1) (g_X6_drop k' S' x1') := by
  subst hk
  subst hx1
  unfold f_X6_drop g_X6_drop
  refine Lf_hA (RI.at hS rfl rfl rfl).1 (by decide) (fun b1 => ?_)
  refine Lf_st (RT.siq hS rfl rfl (RI.at hS rfl (tnE (RI.at hS rfl rfl rfl).1 b1 (by decide)) rfl) rfl) (fun S1 S1' hS1 => ?_)
  refine Lf_hA (RI.at hS rfl rfl rfl).1 (by decide) (fun b2 => ?_)
  refine Lf_st (RT.siq hS1 rfl (tnE (RI.at hS rfl rfl rfl).1 b1 (by decide)) (RI.at hS1 rfl rfl rfl) rfl) (fun S2 S2' hS2 => ?_)
  refine Lf_st (RT.siq hS2 rfl rfl (RI.at hS rfl rfl rfl) rfl) (fun S3 S3' hS3 => ?_)
  exact Lf_some hS3
def g_X6_take_61 (k : Nat) (k3 : AM → Nat → Int → Int → Int → Option (AM)) (S : AM) (x1 : Nat) (x3 : Int) (x4 : Int) (x5 : Int) : Option (AM) :=
  c32 (x5 + 1) <|
  k3 S x1 x3 x4 (x5 + 1)
set_option maxRecDepth 10000 in
theorem lf_X6_take_61 {k k' : Nat} (hk : k = k') {k3 : Mem → Nat → Int32 → Int32 → Int32 → Option (Mem)} {k3' : AM → Nat → Int → Int → Int → Option (AM)} (hk3 : ∀ {y0 : Mem} {y0' : AM}, (RT tC) y0 y0' → ∀ {y1 : Nat} {y1' : Nat}, (y1 = y1') → ∀ {y2 : Int32} {y2' : Int}, RI y2 y2' → ∀ {y3 : Int32} {y3' : Int}, RI y3 y3' → ∀ {y4 : Int32} {y4' : Int}, RI y4 y4' → Lf (RT tC) (k3 y0 y1 y2 y3 y4) (k3' y0' y1' y2' y3' y4')) {S : Mem} {S' : AM} (hS : (RT tC) S S') {x1 x1' : Nat} (hx1 : x1 = x1') {x3 : Int32} {x3' : Int} (hx3 : RI x3 x3') {x4 : Int32} {x4' : Int} (hx4 : RI x4 x4') {x5 : Int32} {x5' : Int} (hx5 : RI x5 x5') : Lf (RT tC) (f_X6_take_61 k k3 S x1 x3 x4 x5) (g_X6_take_61 k' k3' S' x1' x3' x4' x5') := by
  subst hk
  subst hx1
  unfold f_X6_take_61 g_X6_take_61
  refine Lf_c32 (fun b1 => ?_)
  exact hk3 hS rfl hx3 hx4 (RI.mk (E_add hx5.1 (li32 1)) b1)
def g_X6_take_3_b (k : Nat) (k3 : AM → Nat → Int → Int → Int → Option (AM)) (S : AM) (x1 : Nat) (x3 : Int) (x4 : Int) (x5 : Int) : Option (AM) :=
  if x4 ≤ x5 then
    some (S)
  else
    hA (S (R_o k x1) 2) 2147483648 <|
    hA (((S (R_o k x1) 7) * 64) + ((S (R_o k x1) 2) - (((S (R_o k x1) 2) / 64) * 64))) 4096 <|
    hA (x3 + x5) 2048 <|
    gS (uA S C_out (((x3 + x5) : Int).toNat) (b8 (S (B_bytes k) ((((S (R_o k x1) 7) * 64) + ((S (R_o k x1) 2) - (((S (R_o k x1) 2) / 64) * 64))) : Int).toNat))) fun S1 =>
    c32 ((S1 (R_o k x1) 2) + 1) <|
    gS (uA S1 (R_o k x1) 2 ((S1 (R_o k x1) 2) + 1)) fun S2 =>
    hA (S2 (R_o k x1) 2) 2147483648 <|
    c32 ((S2 (R_o k x1) 2) - (((S2 (R_o k x1) 2) / 64) * 64)) <|
    if ((S2 (R_o k x1) 2) - (((S2 (R_o k x1) 2) / 64) * 64)) ≠ 0 then
      g_X6_take_61 k k3 S2 x1 x3 x4 x5
    else
      (g_X6_drop k S2 x1).bind fun S3 =>
      g_X6_take_61 k k3 S3 x1 x3 x4 x5
set_option maxRecDepth 10000 in
theorem lf_X6_take_3_b {k k' : Nat} (hk : k = k') {k3 : Mem → Nat → Int32 → Int32 → Int32 → Option (Mem)} {k3' : AM → Nat → Int → Int → Int → Option (AM)} (hk3 : ∀ {y0 : Mem} {y0' : AM}, (RT tC) y0 y0' → ∀ {y1 : Nat} {y1' : Nat}, (y1 = y1') → ∀ {y2 : Int32} {y2' : Int}, RI y2 y2' → ∀ {y3 : Int32} {y3' : Int}, RI y3 y3' → ∀ {y4 : Int32} {y4' : Int}, RI y4 y4' → Lf (RT tC) (k3 y0 y1 y2 y3 y4) (k3' y0' y1' y2' y3' y4')) {S : Mem} {S' : AM} (hS : (RT tC) S S') {x1 x1' : Nat} (hx1 : x1 = x1') {x3 : Int32} {x3' : Int} (hx3 : RI x3 x3') {x4 : Int32} {x4' : Int} (hx4 : RI x4 x4') {x5 : Int32} {x5' : Int} (hx5 : RI x5 x5') : Lf (RT tC) (f_X6_take_3_b k k3 S x1 x3 x4 x5) (g_X6_take_3_b k' k3' S' x1' x3' x4' x5') := by
  subst hk
  subst hx1
  unfold f_X6_take_3_b g_X6_take_3_b
  refine Lf_ite (C_le hx4 hx5) (fun c1 => ?_) (fun c1 => ?_)
  · exact Lf_some hS
  · refine Lf_hD (fun b2 => ?_)
    refine Lf_hA (E_add (E_mul (RI.at hS rfl rfl rfl).1 (li32 64)) (E_sub (RI.at hS rfl rfl rfl).1 (E_mul (E_div (RI.at hS rfl rfl rfl).1 (li32 64) b2 (by decide) (by decide)) (li32 64)))) (by decide) (fun b3 => ?_)
    refine Lf_hA (E_add hx3.1 hx5.1) (by decide) (fun b4 => ?_)
    refine Lf_st (RT.siq hS rfl (tnE (E_add hx3.1 hx5.1) b4 (by decide)) (RI.mk (E_nb (RI.at hS rfl (tnE (E_add (E_mul (RI.at hS rfl rfl rfl).1 (li32 64)) (E_sub (RI.at hS rfl rfl rfl).1 (E_mul (E_div (RI.at hS rfl rfl rfl).1 (li32 64) b2 (by decide) (by decide)) (li32 64)))) b3 (by decide)) rfl)) (R_b8 _)) rfl) (fun S1 S1' hS1 => ?_)
    refine Lf_c32 (fun b5 => ?_)
    refine Lf_st (RT.siq hS1 rfl rfl (RI.mk (E_add (RI.at hS1 rfl rfl rfl).1 (li32 1)) b5) rfl) (fun S2 S2' hS2 => ?_)
    refine Lf_hD (fun b6 => ?_)
    refine Lf_c32 (fun b7 => ?_)
    refine Lf_ite (C_ne (RI.mk (E_sub (RI.at hS2 rfl rfl rfl).1 (E_mul (E_div (RI.at hS2 rfl rfl rfl).1 (li32 64) b6 (by decide) (by decide)) (li32 64))) b7) (RI.lit 0 (by decide))) (fun c8 => ?_) (fun c8 => ?_)
    · exact lf_X6_take_61 rfl hk3 hS2 rfl hx3 hx4 hx5
    · refine Lf_bind (lf_X6_drop rfl hS2 rfl) (fun S3 S3' hS3 => ?_)
      exact lf_X6_take_61 rfl hk3 hS3 rfl hx3 hx4 hx5
def g_X6_take_3 (k : Nat) : Nat → AM → Nat → Int → Int → Int → Option (AM)
  | 0, _, _, _, _, _ => none
  | n + 1, S, x1, x3, x4, x5 => g_X6_take_3_b k (g_X6_take_3 k n) S x1 x3 x4 x5
set_option maxRecDepth 10000 in
theorem lf_X6_take_3 {k k' : Nat} (hk : k = k') (n : Nat) : ∀ {S : Mem} {S' : AM}, (RT tC) S S' → ∀ {x1 : Nat} {x1' : Nat}, (x1 = x1') → ∀ {x3 : Int32} {x3' : Int}, RI x3 x3' → ∀ {x4 : Int32} {x4' : Int}, RI x4 x4' → ∀ {x5 : Int32} {x5' : Int}, RI x5 x5' → Lf (RT tC) (f_X6_take_3 k n S x1 x3 x4 x5) (g_X6_take_3 k' n S' x1' x3' x4' x5') := by
  subst hk
  induction n with
  | zero => intros; exact Lf_none
  | succ n ih => intro S S' hS x1 x1' hx1 x3 x3' hx3 x4 x4' hx4 x5 x5' hx5; exact lf_X6_take_3_b rfl ih hS hx1 hx3 hx4 hx5
def g_X6_take (k : Nat) (S : AM) (x1 : Nat) (x3 : Int) (x4 : Int) : Option (AM) :=
  g_X6_take_3 k FU S x1 x3 x4 0
set_option maxRecDepth 10000 in
theorem lf_X6_take {k k' : Nat} (hk : k = k') {S : Mem} {S' : AM} (hS : (RT tC) S S') {x1 x1' : Nat} (hx1 : x1 = x1') {x3 : Int32} {x3' : Int} (hx3 : RI x3 x3') {x4 : Int32} {x4' : Int} (hx4 : RI x4 x4') : Lf (RT tC) (f_X6_take k S x1 x3 x4) (g_X6_take k' S' x1' x3' x4') := by
  subst hk
  subst hx1
  unfold f_X6_take g_X6_take
  exact lf_X6_take_3 rfl FU hS rfl hx3 hx4 (RI.lit 0 (by decide))
def g_X2_grow (k : Nat) (S : AM) : Option (AM) :=
  hA 0 6 <|
  hA 0 6 <|
  hA 0 6 <|
  c32 (2 * (((S (H_o k) 13) + (S (H_grants k) (0 : Int).toNat)) - (S (H_o k) 14))) <|
  if (2 * (((S (H_o k) 13) + (S (H_grants k) (0 : Int).toNat)) - (S (H_o k) 14))) < (S (H_grants k) (0 : Int).toNat) then
    some (S)
  else
    c32 ((S (H_o k) 13) + (S (H_grants k) (0 : Int).toNat)) <|
    if (S (H_o k) 14) < (mnZ ((S (H_o k) 13) + (S (H_grants k) (0 : Int).toNat)) 65536) then
      gS (uA S (H_o k) 14 (mnZ ((S (H_o k) 13) + (S (H_grants k) (0 : Int).toNat)) 65536)) fun S1 =>
      gS (uA S1 (H_o k) 16 1) fun S2 =>
      some (S2)
    else
      some (S)
set_option maxRecDepth 10000 in
theorem lf_X2_grow {k k' : Nat} (hk : k = k') {S : Mem} {S' : AM} (hS : (RT tC) S S') : Lf (RT tC) (f_X2_grow k S) (g_X2_grow k' S') := by
  subst hk
  unfold f_X2_grow g_X2_grow
  refine Lf_hA (li32 0) (by decide) (fun b1 => ?_)
  refine Lf_hA (li32 0) (by decide) (fun b2 => ?_)
  refine Lf_hA (li32 0) (by decide) (fun b3 => ?_)
  refine Lf_c32 (fun b4 => ?_)
  refine Lf_ite (C_lt (RI.mk (E_mul (li32 2) (E_sub (E_add (RI.at hS rfl rfl rfl).1 (RI.at hS rfl (tnE (li32 0) b1 (by decide)) rfl).1) (RI.at hS rfl rfl rfl).1)) b4) (RI.at hS rfl (tnE (li32 0) b1 (by decide)) rfl)) (fun c5 => ?_) (fun c5 => ?_)
  · exact Lf_some hS
  · refine Lf_c32 (fun b6 => ?_)
    refine Lf_ite (C_lt (RI.at hS rfl rfl rfl) (RI.mn (RI.mk (E_add (RI.at hS rfl rfl rfl).1 (RI.at hS rfl (tnE (li32 0) b1 (by decide)) rfl).1) b6) (RI.lit 65536 (by decide)))) (fun c7 => ?_) (fun c7 => ?_)
    · refine Lf_st (RT.siq hS rfl rfl (RI.mn (RI.mk (E_add (RI.at hS rfl rfl rfl).1 (RI.at hS rfl (tnE (li32 0) b1 (by decide)) rfl).1) b6) (RI.lit 65536 (by decide))) rfl) (fun S1 S1' hS1 => ?_)
      refine Lf_st (RT.siq hS1 rfl rfl (RI.lit 1 (by decide)) rfl) (fun S2 S2' hS2 => ?_)
      exact Lf_some hS2
    · exact Lf_some hS
def g_X2_grow_2 (k : Nat) (S : AM) (x1 : Nat) : Option (AM) :=
  c32 (2 * (((S (R_o k x1) 2) + (S (R_o k x1) 0)) - (S (R_o k x1) 6))) <|
  if (2 * (((S (R_o k x1) 2) + (S (R_o k x1) 0)) - (S (R_o k x1) 6))) < (S (R_o k x1) 0) then
    some (S)
  else
    c32 ((S (R_o k x1) 2) + (S (R_o k x1) 0)) <|
    if (S (R_o k x1) 6) < (mnZ ((S (R_o k x1) 2) + (S (R_o k x1) 0)) 65536) then
      gS (uA S (R_o k x1) 6 (mnZ ((S (R_o k x1) 2) + (S (R_o k x1) 0)) 65536)) fun S1 =>
      gS (uA S1 (R_o k x1) 10 1) fun S2 =>
      some (S2)
    else
      some (S)
set_option maxRecDepth 10000 in
theorem lf_X2_grow_2 {k k' : Nat} (hk : k = k') {S : Mem} {S' : AM} (hS : (RT tC) S S') {x1 x1' : Nat} (hx1 : x1 = x1') : Lf (RT tC) (f_X2_grow_2 k S x1) (g_X2_grow_2 k' S' x1') := by
  subst hk
  subst hx1
  unfold f_X2_grow_2 g_X2_grow_2
  refine Lf_c32 (fun b1 => ?_)
  refine Lf_ite (C_lt (RI.mk (E_mul (li32 2) (E_sub (E_add (RI.at hS rfl rfl rfl).1 (RI.at hS rfl rfl rfl).1) (RI.at hS rfl rfl rfl).1)) b1) (RI.at hS rfl rfl rfl)) (fun c2 => ?_) (fun c2 => ?_)
  · exact Lf_some hS
  · refine Lf_c32 (fun b3 => ?_)
    refine Lf_ite (C_lt (RI.at hS rfl rfl rfl) (RI.mn (RI.mk (E_add (RI.at hS rfl rfl rfl).1 (RI.at hS rfl rfl rfl).1) b3) (RI.lit 65536 (by decide)))) (fun c4 => ?_) (fun c4 => ?_)
    · refine Lf_st (RT.siq hS rfl rfl (RI.mn (RI.mk (E_add (RI.at hS rfl rfl rfl).1 (RI.at hS rfl rfl rfl).1) b3) (RI.lit 65536 (by decide))) rfl) (fun S1 S1' hS1 => ?_)
      refine Lf_st (RT.siq hS1 rfl rfl (RI.lit 1 (by decide)) rfl) (fun S2 S2' hS2 => ?_)
      exact Lf_some hS2
    · exact Lf_some hS
def g_X9_isOver_16 (k : Nat) (j : Nat) (S : AM) : Option (Int) :=
  some (1)
set_option maxRecDepth 10000 in
theorem lf_X9_isOver_16 {k k' : Nat} (hk : k = k') {j j' : Nat} (hj : j = j') {S : Mem} {S' : AM} (hS : (RT tC) S S') : Lp RI (f_X9_isOver_16 k j S) (g_X9_isOver_16 k' j' S') := by
  subst hk
  subst hj
  unfold f_X9_isOver_16 g_X9_isOver_16
  exact Lp_val (RI.lit 1 (by decide))
def g_X9_isOver (k : Nat) (j : Nat) (S : AM) : Option (Int) :=
  if (S (S_o k j) 0) = 2 then
    g_X9_isOver_16 k j S
  else
    if (S (S_o k j) 0) ≠ 4 then
      some (0)
    else
      g_X9_isOver_16 k j S
set_option maxRecDepth 10000 in
theorem lf_X9_isOver {k k' : Nat} (hk : k = k') {j j' : Nat} (hj : j = j') {S : Mem} {S' : AM} (hS : (RT tC) S S') : Lp RI (f_X9_isOver k j S) (g_X9_isOver k' j' S') := by
  subst hk
  subst hj
  unfold f_X9_isOver g_X9_isOver
  refine Lp_ite (C_eq (RI.at hS rfl rfl rfl) (RI.lit 2 (by decide))) (fun c1 => ?_) (fun c1 => ?_)
  · exact lf_X9_isOver_16 rfl rfl hS
  · refine Lp_ite (C_ne (RI.at hS rfl rfl rfl) (RI.lit 4 (by decide))) (fun c2 => ?_) (fun c2 => ?_)
    · exact Lp_val (RI.lit 0 (by decide))
    · exact lf_X9_isOver_16 rfl rfl hS
def g_X10_isOver_16 (k : Nat) (j : Nat) (S : AM) : Option (Int) :=
  some (1)
set_option maxRecDepth 10000 in
theorem lf_X10_isOver_16 {k k' : Nat} (hk : k = k') {j j' : Nat} (hj : j = j') {S : Mem} {S' : AM} (hS : (RT tC) S S') : Lp RI (f_X10_isOver_16 k j S) (g_X10_isOver_16 k' j' S') := by
  subst hk
  subst hj
  unfold f_X10_isOver_16 g_X10_isOver_16
  exact Lp_val (RI.lit 1 (by decide))
def g_X10_isOver (k : Nat) (j : Nat) (S : AM) : Option (Int) :=
  if (S (R_o k j) 1) = 3 then
    g_X10_isOver_16 k j S
  else
    if (S (R_o k j) 1) ≠ 4 then
      some (0)
    else
      g_X10_isOver_16 k j S
set_option maxRecDepth 10000 in
theorem lf_X10_isOver {k k' : Nat} (hk : k = k') {j j' : Nat} (hj : j = j') {S : Mem} {S' : AM} (hS : (RT tC) S S') : Lp RI (f_X10_isOver k j S) (g_X10_isOver k' j' S') := by
  subst hk
  subst hj
  unfold f_X10_isOver g_X10_isOver
  refine Lp_ite (C_eq (RI.at hS rfl rfl rfl) (RI.lit 3 (by decide))) (fun c1 => ?_) (fun c1 => ?_)
  · exact lf_X10_isOver_16 rfl rfl hS
  · refine Lp_ite (C_ne (RI.at hS rfl rfl rfl) (RI.lit 4 (by decide))) (fun c2 => ?_) (fun c2 => ?_)
    · exact Lp_val (RI.lit 0 (by decide))
    · exact lf_X10_isOver_16 rfl rfl hS
def g_X2_isOver_42 (E : L3 → Bool) (k : Nat) (S : AM) : Option (Int) :=
  some (1)
set_option maxRecDepth 10000 in
theorem lf_X2_isOver_42 (E : L3 → Bool) {k k' : Nat} (hk : k = k') {S : Mem} {S' : AM} (hS : (RT tC) S S') : Lf RI (f_X2_isOver_42 E k S) (g_X2_isOver_42 E k' S') := by
  subst hk
  unfold f_X2_isOver_42 g_X2_isOver_42
  exact Lf_some (RI.lit 1 (by decide))
def g_X2_isOver_21 (E : L3 → Bool) (k : Nat) (S : AM) (x1 : Int) : Option (Int) :=
  hA x1 256 <|
  if E (R_o k (x1 : Int).toNat) = true then
    hA x1 256 <|
    if E (R_o k (x1 : Int).toNat) = true then
      (g_X10_isOver k (x1 : Int).toNat S).bind fun v3 =>
      if v3 = 0 then
        some (0)
      else
        g_X2_isOver_42 E k S
    else
      none
  else
    g_X2_isOver_42 E k S
set_option maxRecDepth 10000 in
theorem lf_X2_isOver_21 (E : L3 → Bool) {k k' : Nat} (hk : k = k') {S : Mem} {S' : AM} (hS : (RT tC) S S') {x1 : Int32} {x1' : Int} (hx1 : RI x1 x1') : Lf RI (f_X2_isOver_21 E k S x1) (g_X2_isOver_21 E k' S' x1') := by
  subst hk
  unfold f_X2_isOver_21 g_X2_isOver_21
  refine Lf_hA hx1.1 (by decide) (fun b1 => ?_)
  refine Lf_ite (iff_of_eq (congrArg (fun q => E q = true) (congrArg (R_o k) (tnE hx1.1 b1 (by decide))))) (fun c2 => ?_) (fun c2 => ?_)
  · refine Lf_hA hx1.1 (by decide) (fun b3 => ?_)
    refine Lf_ite (iff_of_eq (congrArg (fun q => E q = true) (congrArg (R_o k) (tnE hx1.1 b1 (by decide))))) (fun c4 => ?_) (fun c4 => ?_)
    · refine Lf_gS (lf_X10_isOver rfl (tnE hx1.1 b1 (by decide)) hS) (fun v3 v3' hv3 => ?_)
      refine Lf_ite (C_eq hv3 (RI.lit 0 (by decide))) (fun c5 => ?_) (fun c5 => ?_)
      · exact Lf_some (RI.lit 0 (by decide))
      · exact lf_X2_isOver_42 E rfl hS
    · exact Lf_none
  · exact lf_X2_isOver_42 E rfl hS
def g_X2_isOver (E : L3 → Bool) (k : Nat) (S : AM) (x1 : Int) : Option (Int) :=
  hA x1 256 <|
  if E (S_o k (x1 : Int).toNat) = true then
    hA x1 256 <|
    if E (S_o k (x1 : Int).toNat) = true then
      (g_X9_isOver k (x1 : Int).toNat S).bind fun v3 =>
      if v3 = 0 then
        some (0)
      else
        g_X2_isOver_21 E k S x1
    else
      none
  else
    g_X2_isOver_21 E k S x1
set_option maxRecDepth 10000 in
theorem lf_X2_isOver (E : L3 → Bool) {k k' : Nat} (hk : k = k') {S : Mem} {S' : AM} (hS : (RT tC) S S') {x1 : Int32} {x1' : Int} (hx1 : RI x1 x1') : Lf RI (f_X2_isOver E k S x1) (g_X2_isOver E k' S' x1') := by
  subst hk
  unfold f_X2_isOver g_X2_isOver
  refine Lf_hA hx1.1 (by decide) (fun b1 => ?_)
  refine Lf_ite (iff_of_eq (congrArg (fun q => E q = true) (congrArg (S_o k) (tnE hx1.1 b1 (by decide))))) (fun c2 => ?_) (fun c2 => ?_)
  · refine Lf_hA hx1.1 (by decide) (fun b3 => ?_)
    refine Lf_ite (iff_of_eq (congrArg (fun q => E q = true) (congrArg (S_o k) (tnE hx1.1 b1 (by decide))))) (fun c4 => ?_) (fun c4 => ?_)
    · refine Lf_gS (lf_X9_isOver rfl (tnE hx1.1 b1 (by decide)) hS) (fun v3 v3' hv3 => ?_)
      refine Lf_ite (C_eq hv3 (RI.lit 0 (by decide))) (fun c5 => ?_) (fun c5 => ?_)
      · exact Lf_some (RI.lit 0 (by decide))
      · exact lf_X2_isOver_21 E rfl hS hx1
    · exact Lf_none
  · exact lf_X2_isOver_21 E rfl hS hx1
def g_X10_settle_43 (k : Nat) (j : Nat) (S : AM) : Option (AM) :=
  if (S (R_o k j) 1) ≠ 2 then
    some (S)
  else
    if (S (R_o k j) 2) ≠ (S (R_o k j) 5) then
      some (S)
    else
      gS (uA S (R_o k j) 1 3) fun S1 =>
      some (S1)
set_option maxRecDepth 10000 in
theorem lf_X10_settle_43 {k k' : Nat} (hk : k = k') {j j' : Nat} (hj : j = j') {S : Mem} {S' : AM} (hS : (RT tC) S S') : Lp (RT tC) (f_X10_settle_43 k j S) (g_X10_settle_43 k' j' S') := by
  subst hk
  subst hj
  unfold f_X10_settle_43 g_X10_settle_43
  refine Lp_ite (C_ne (RI.at hS rfl rfl rfl) (RI.lit 2 (by decide))) (fun c1 => ?_) (fun c1 => ?_)
  · exact Lp_val hS
  · refine Lp_ite (C_ne (RI.at hS rfl rfl rfl) (RI.at hS rfl rfl rfl)) (fun c2 => ?_) (fun c2 => ?_)
    · exact Lp_val hS
    · refine Lp_st (RT.siq hS rfl rfl (RI.lit 3 (by decide)) rfl) (fun S1 S1' hS1 => ?_)
      exact Lp_val hS1
def g_X10_settle_19 (k : Nat) (j : Nat) (S : AM) : Option (AM) :=
  if (S (R_o k j) 1) ≠ 1 then
    g_X10_settle_43 k j S
  else
    if (S (R_o k j) 3) ≠ (S (R_o k j) 5) then
      g_X10_settle_43 k j S
    else
      gS (uA S (R_o k j) 1 2) fun S1 =>
      g_X10_settle_43 k j S1
set_option maxRecDepth 10000 in
theorem lf_X10_settle_19 {k k' : Nat} (hk : k = k') {j j' : Nat} (hj : j = j') {S : Mem} {S' : AM} (hS : (RT tC) S S') : Lp (RT tC) (f_X10_settle_19 k j S) (g_X10_settle_19 k' j' S') := by
  subst hk
  subst hj
  unfold f_X10_settle_19 g_X10_settle_19
  refine Lp_ite (C_ne (RI.at hS rfl rfl rfl) (RI.lit 1 (by decide))) (fun c1 => ?_) (fun c1 => ?_)
  · exact lf_X10_settle_43 rfl rfl hS
  · refine Lp_ite (C_ne (RI.at hS rfl rfl rfl) (RI.at hS rfl rfl rfl)) (fun c2 => ?_) (fun c2 => ?_)
    · exact lf_X10_settle_43 rfl rfl hS
    · refine Lp_st (RT.siq hS rfl rfl (RI.lit 2 (by decide)) rfl) (fun S1 S1' hS1 => ?_)
      exact lf_X10_settle_43 rfl rfl hS1
def g_X10_settle (k : Nat) (j : Nat) (S : AM) : Option (AM) :=
  if (S (R_o k j) 1) ≠ 0 then
    g_X10_settle_19 k j S
  else
    if (S (R_o k j) 5) < 0 then
      g_X10_settle_19 k j S
    else
      gS (uA S (R_o k j) 1 1) fun S1 =>
      g_X10_settle_19 k j S1
set_option maxRecDepth 10000 in
theorem lf_X10_settle {k k' : Nat} (hk : k = k') {j j' : Nat} (hj : j = j') {S : Mem} {S' : AM} (hS : (RT tC) S S') : Lp (RT tC) (f_X10_settle k j S) (g_X10_settle k' j' S') := by
  subst hk
  subst hj
  unfold f_X10_settle g_X10_settle
  refine Lp_ite (C_ne (RI.at hS rfl rfl rfl) (RI.lit 0 (by decide))) (fun c1 => ?_) (fun c1 => ?_)
  · exact lf_X10_settle_19 rfl rfl hS
  · refine Lp_ite (C_lt (RI.at hS rfl rfl rfl) (RI.lit 0 (by decide))) (fun c2 => ?_) (fun c2 => ?_)
    · exact lf_X10_settle_19 rfl rfl hS
    · refine Lp_st (RT.siq hS rfl rfl (RI.lit 1 (by decide)) rfl) (fun S1 S1' hS1 => ?_)
      exact lf_X10_settle_19 rfl rfl hS1
def g_X2_way_16 (k : Nat) (S : AM) (y0 : Int) : Option (Nat) :=
  hA y0 2 <|
  some (y0 : Int).toNat
set_option maxRecDepth 10000 in
theorem lf_X2_way_16 {k k' : Nat} (hk : k = k') {S : Mem} {S' : AM} (hS : (RT tC) S S') {y0 : Int32} {y0' : Int} (hy0 : RI y0 y0') : Lf RQ (f_X2_way_16 k S y0) (g_X2_way_16 k' S' y0') := by
  subst hk
  unfold f_X2_way_16 g_X2_way_16
  refine Lf_hA hy0.1 (by decide) (fun b1 => ?_)
  exact Lf_some (RQ.of (tnE hy0.1 b1 (by decide)))
def g_X2_way (k : Nat) (S : AM) (x1 : Int) : Option (Nat) :=
  (g_X2_isOneWay x1).bind fun v1 =>
  if v1 = 0 then
    g_X2_way_16 k S 0
  else
    g_X2_way_16 k S 1
set_option maxRecDepth 10000 in
theorem lf_X2_way {k k' : Nat} (hk : k = k') {S : Mem} {S' : AM} (hS : (RT tC) S S') {x1 : Int64} {x1' : Int} (hx1 : RJ x1 x1') : Lf RQ (f_X2_way k S x1) (g_X2_way k' S' x1') := by
  subst hk
  unfold f_X2_way g_X2_way
  refine Lf_gS (lf_X2_isOneWay hx1) (fun v1 v1' hv1 => ?_)
  refine Lf_ite (C_eq hv1 (RI.lit 0 (by decide))) (fun c1 => ?_) (fun c1 => ?_)
  · exact lf_X2_way_16 rfl hS (RI.lit 0 (by decide))
  · exact lf_X2_way_16 rfl hS (RI.lit 1 (by decide))
def g_X2_mayBeOver_51 (E : L3 → Bool) (k : Nat) (S : AM) (x3 : Nat) (y0 : Int) (y1 : Nat) : Option (AM) :=
  hB y0 <|
  gS (uA S (W_o k y1) 6 y0) fun S1 =>
  c32 ((S1 (W_o k x3) 2) + 1) <|
  gS (uA S1 (W_o k x3) 2 (mnZ ((S1 (W_o k x3) 2) + 1) 64)) fun S2 =>
  some (S2)
set_option maxRecDepth 10000 in
theorem lf_X2_mayBeOver_51 (E : L3 → Bool) {k k' : Nat} (hk : k = k') {S : Mem} {S' : AM} (hS : (RT tC) S S') {x3 x3' : Nat} (hx3 : x3 = x3') {y0 : Int32} {y0' : Int} (hy0 : RI y0 y0') {y1 y1' : Nat} (hy1 : y1 = y1') : Lf (RT tC) (f_X2_mayBeOver_51 E k S x3 y0 y1) (g_X2_mayBeOver_51 E k' S' x3' y0' y1') := by
  subst hk
  subst hx3
  subst hy1
  unfold f_X2_mayBeOver_51 g_X2_mayBeOver_51
  refine Lf_hB hy0.1 ?_
  refine Lf_st (RT.siq hS rfl rfl hy0 rfl) (fun S1 S1' hS1 => ?_)
  refine Lf_c32 (fun b1 => ?_)
  refine Lf_st (RT.siq hS1 rfl rfl (RI.mn (RI.mk (E_add (RI.at hS1 rfl rfl rfl).1 (li32 1)) b1) (RI.lit 64 (by decide))) rfl) (fun S2 S2' hS2 => ?_)
  exact Lf_some hS2
def g_X2_mayBeOver_46 (E : L3 → Bool) (k : Nat) (S : AM) (x3 : Nat) (y0 : Nat) : Option (AM) :=
  g_X2_mayBeOver_51 E k S x3 1 y0
set_option maxRecDepth 10000 in
theorem lf_X2_mayBeOver_46 (E : L3 → Bool) {k k' : Nat} (hk : k = k') {S : Mem} {S' : AM} (hS : (RT tC) S S') {x3 x3' : Nat} (hx3 : x3 = x3') {y0 y0' : Nat} (hy0 : y0 = y0') : Lf (RT tC) (f_X2_mayBeOver_46 E k S x3 y0) (g_X2_mayBeOver_46 E k' S' x3' y0') := by
  subst hk
  subst hx3
  subst hy0
  unfold f_X2_mayBeOver_46 g_X2_mayBeOver_46
  exact lf_X2_mayBeOver_51 E rfl hS rfl (RI.lit 1 (by decide)) rfl
def g_X2_mayBeOver (E : L3 → Bool) (k : Nat) (S : AM) (x1 : Int) (x2 : Int) : Option (AM) :=
  if x2 ≠ 0 then
    some (S)
  else
    (g_X2_isOwn k S x1).bind fun v1 =>
    if v1 ≠ 0 then
      some (S)
    else
      (g_X2_isOver E k S x1).bind fun v2 =>
      if v2 ≠ 0 then
        (g_X2_way k S x1).bind fun v3 =>
        if (S (W_o k v3) 6) ≠ 0 then
          g_X2_mayBeOver_46 E k S v3 v3
        else
          if 64 ≤ (S (W_o k v3) 2) then
            g_X2_mayBeOver_51 E k S v3 0 v3
          else
            g_X2_mayBeOver_46 E k S v3 v3
      else
        some (S)
set_option maxRecDepth 10000 in
theorem lf_X2_mayBeOver (E : L3 → Bool) {k k' : Nat} (hk : k = k') {S : Mem} {S' : AM} (hS : (RT tC) S S') {x1 : Int32} {x1' : Int} (hx1 : RI x1 x1') {x2 : Int32} {x2' : Int} (hx2 : RI x2 x2') : Lf (RT tC) (f_X2_mayBeOver E k S x1 x2) (g_X2_mayBeOver E k' S' x1' x2') := by
  subst hk
  unfold f_X2_mayBeOver g_X2_mayBeOver
  refine Lf_ite (C_ne hx2 (RI.lit 0 (by decide))) (fun c1 => ?_) (fun c1 => ?_)
  · exact Lf_some hS
  · refine Lf_gS (lf_X2_isOwn rfl hS (RJ.mk (E_64 hx1) (R_64 hx1.2))) (fun v1 v1' hv1 => ?_)
    refine Lf_ite (C_ne hv1 (RI.lit 0 (by decide))) (fun c2 => ?_) (fun c2 => ?_)
    · exact Lf_some hS
    · refine Lf_bind (lf_X2_isOver E rfl hS hx1) (fun v2 v2' hv2 => ?_)
      refine Lf_ite (C_ne hv2 (RI.lit 0 (by decide))) (fun c3 => ?_) (fun c3 => ?_)
      · refine Lf_bind (lf_X2_way rfl hS (RJ.mk (E_64 hx1) (R_64 hx1.2))) (fun v3 v3' hv3 => ?_)
        obtain rfl : v3 = v3' := hv3
        refine Lf_ite (C_ne (RI.at hS rfl rfl rfl) (RI.lit 0 (by decide))) (fun c4 => ?_) (fun c4 => ?_)
        · exact lf_X2_mayBeOver_46 E rfl hS rfl rfl
        · refine Lf_ite (C_le (RI.lit 64 (by decide)) (RI.at hS rfl rfl rfl)) (fun c5 => ?_) (fun c5 => ?_)
          · exact lf_X2_mayBeOver_51 E rfl hS rfl (RI.lit 0 (by decide)) rfl
          · exact lf_X2_mayBeOver_46 E rfl hS rfl rfl
      · exact Lf_some hS
def g_X2_read_91 (E : L3 → Bool) (k : Nat) (S : AM) (x1 : Int) (x5 : Nat) (x6 : Int) : Option (AM × Int) :=
  (g_X2_isOver E k S x1).bind fun v1 =>
  (g_X10_settle k x5 S).bind fun S2 =>
  (g_X2_mayBeOver E k S2 x1 v1).bind fun S3 =>
  some (S3, x6)
set_option maxRecDepth 10000 in
theorem lf_X2_read_91 (E : L3 → Bool) {k k' : Nat} (hk : k = k') {S : Mem} {S' : AM} (hS : (RT tC) S S') {x1 : Int32} {x1' : Int} (hx1 : RI x1 x1') {x5 x5' : Nat} (hx5 : x5 = x5') {x6 : Int32} {x6' : Int} (hx6 : RI x6 x6') : Lf (RP (RT tC) RI) (f_X2_read_91 E k S x1 x5 x6) (g_X2_read_91 E k' S' x1' x5' x6') := by
  subst hk
  subst hx5
  unfold f_X2_read_91 g_X2_read_91
  refine Lf_bind (lf_X2_isOver E rfl hS hx1) (fun v1 v1' hv1 => ?_)
  refine Lf_gS (lf_X10_settle rfl rfl hS) (fun S2 S2' hS2 => ?_)
  refine Lf_bind (lf_X2_mayBeOver E rfl hS2 hx1 hv1) (fun S3 S3' hS3 => ?_)
  exact Lf_some (RP.mk hS3 hx6)
def g_X2_read (E : L3 → Bool) (k : Nat) (S : AM) (x1 : Int) (x3 : Int) (x4 : Int) : Option (AM × Int) :=
  (g_X2_receiving E k S x1).bind fun v1 =>
  gM v1 (
    some (S, (-1))) fun j2 =>
    if (S (R_o k j2) 1) ≠ 4 then
      c32 ((S (R_o k j2) 3) - (S (R_o k j2) 2)) <|
      if (mnZ x4 ((S (R_o k j2) 3) - (S (R_o k j2) 2))) ≤ 0 then
        g_X2_read_91 E k S x1 j2 (mnZ x4 ((S (R_o k j2) 3) - (S (R_o k j2) 2)))
      else
        (g_X6_take k S j2 x3 (mnZ x4 ((S (R_o k j2) 3) - (S (R_o k j2) 2)))).bind fun S4 =>
        c32 ((S4 (H_o k) 13) + (mnZ x4 ((S (R_o k j2) 3) - (S (R_o k j2) 2)))) <|
        gS (uA S4 (H_o k) 13 ((S4 (H_o k) 13) + (mnZ x4 ((S (R_o k j2) 3) - (S (R_o k j2) 2))))) fun S5 =>
        (g_X2_grow k S5).bind fun S6 =>
        if (S6 (R_o k j2) 1) ≠ 0 then
          g_X2_read_91 E k S6 x1 j2 (mnZ x4 ((S (R_o k j2) 3) - (S (R_o k j2) 2)))
        else
          (g_X2_grow_2 k S6 j2).bind fun S7 =>
          g_X2_read_91 E k S7 x1 j2 (mnZ x4 ((S (R_o k j2) 3) - (S (R_o k j2) 2)))
    else
      some (S, (-2))
set_option maxRecDepth 10000 in
theorem lf_X2_read (E : L3 → Bool) {k k' : Nat} (hk : k = k') {S : Mem} {S' : AM} (hS : (RT tC) S S') {x1 : Int32} {x1' : Int} (hx1 : RI x1 x1') {x3 : Int32} {x3' : Int} (hx3 : RI x3 x3') {x4 : Int32} {x4' : Int} (hx4 : RI x4 x4') : Lf (RP (RT tC) RI) (f_X2_read E k S x1 x3 x4) (g_X2_read E k' S' x1' x3' x4') := by
  subst hk
  unfold f_X2_read g_X2_read
  refine Lf_bind (lf_X2_receiving E rfl hS hx1) (fun v1 v1' hv1 => ?_)
  obtain rfl : v1 = v1' := hv1
  refine Lf_gM (fun _ => ?_) (fun j2 _ => ?_)
  · exact Lf_some (RP.mk hS RI.m1)
  · refine Lf_ite (C_ne (RI.at hS rfl rfl rfl) (RI.lit 4 (by decide))) (fun c1 => ?_) (fun c1 => ?_)
    · refine Lf_c32 (fun b2 => ?_)
      refine Lf_ite (C_le (RI.mn hx4 (RI.mk (E_sub (RI.at hS rfl rfl rfl).1 (RI.at hS rfl rfl rfl).1) b2)) (RI.lit 0 (by decide))) (fun c3 => ?_) (fun c3 => ?_)
      · exact lf_X2_read_91 E rfl hS hx1 rfl (RI.mn hx4 (RI.mk (E_sub (RI.at hS rfl rfl rfl).1 (RI.at hS rfl rfl rfl).1) b2))
      · refine Lf_bind (lf_X6_take rfl hS rfl hx3 (RI.mn hx4 (RI.mk (E_sub (RI.at hS rfl rfl rfl).1 (RI.at hS rfl rfl rfl).1) b2))) (fun S4 S4' hS4 => ?_)
        refine Lf_c32 (fun b4 => ?_)
        refine Lf_st (RT.siq hS4 rfl rfl (RI.mk (E_add (RI.at hS4 rfl rfl rfl).1 (RI.mn hx4 (RI.mk (E_sub (RI.at hS rfl rfl rfl).1 (RI.at hS rfl rfl rfl).1) b2)).1) b4) rfl) (fun S5 S5' hS5 => ?_)
        refine Lf_bind (lf_X2_grow rfl hS5) (fun S6 S6' hS6 => ?_)
        refine Lf_ite (C_ne (RI.at hS6 rfl rfl rfl) (RI.lit 0 (by decide))) (fun c5 => ?_) (fun c5 => ?_)
        · exact lf_X2_read_91 E rfl hS6 hx1 rfl (RI.mn hx4 (RI.mk (E_sub (RI.at hS rfl rfl rfl).1 (RI.at hS rfl rfl rfl).1) b2))
        · refine Lf_bind (lf_X2_grow_2 rfl hS6 rfl) (fun S7 S7' hS7 => ?_)
          exact lf_X2_read_91 E rfl hS7 hx1 rfl (RI.mn hx4 (RI.mk (E_sub (RI.at hS rfl rfl rfl).1 (RI.at hS rfl rfl rfl).1) b2))
    · exact Lf_some (RP.mk hS RI.m2)
def g_X2_frame_70 (k : Nat) (S : AM) (x1 : Int) (x2 : Int) (x4 : Int) (x6 : Int) (x8 : Int) (y0 : Int) (y1 : Int) : Option (AM × Int) :=
  c32 (y1 + y0) <|
  if (y1 + y0) ≤ x8 then
    gS (uA S (H_o k) 17 x1) fun S1 =>
    gS (uA S1 (H_o k) 19 x2) fun S2 =>
    gS (uA S2 (H_o k) 20 x4) fun S3 =>
    gS (uA S3 (H_o k) 21 x6) fun S4 =>
    gS (uA S4 (H_o k) 18 0) fun S5 =>
    some (S5, 1)
  else
    some (S, 0)
set_option maxRecDepth 10000 in
theorem lf_X2_frame_70 {k k' : Nat} (hk : k = k') {S : Mem} {S' : AM} (hS : (RT tC) S S') {x1 : Int32} {x1' : Int} (hx1 : RI x1 x1') {x2 : Int64} {x2' : Int} (hx2 : RJ x2 x2') {x4 : Int64} {x4' : Int} (hx4 : RJ x4 x4') {x6 : Int64} {x6' : Int} (hx6 : RJ x6 x6') {x8 : Int32} {x8' : Int} (hx8 : RI x8 x8') {y0 : Int32} {y0' : Int} (hy0 : RI y0 y0') {y1 : Int32} {y1' : Int} (hy1 : RI y1 y1') : Lp (RP (RT tC) RI) (f_X2_frame_70 k S x1 x2 x4 x6 x8 y0 y1) (g_X2_frame_70 k' S' x1' x2' x4' x6' x8' y0' y1') := by
  subst hk
  unfold f_X2_frame_70 g_X2_frame_70
  refine Lp_c32 (fun b1 => ?_)
  refine Lp_ite (C_le (RI.mk (E_add hy1.1 hy0.1) b1) hx8) (fun c2 => ?_) (fun c2 => ?_)
  · refine Lp_st (RT.siq hS rfl rfl hx1 rfl) (fun S1 S1' hS1 => ?_)
    refine Lp_st (RT.sjq hS1 rfl rfl hx2 rfl) (fun S2 S2' hS2 => ?_)
    refine Lp_st (RT.sjq hS2 rfl rfl hx4 rfl) (fun S3 S3' hS3 => ?_)
    refine Lp_st (RT.sjq hS3 rfl rfl hx6 rfl) (fun S4 S4' hS4 => ?_)
    refine Lp_st (RT.siq hS4 rfl rfl (RI.lit 0 (by decide)) rfl) (fun S5 S5' hS5 => ?_)
    exact Lp_val (RP.mk hS5 (RI.lit 1 (by decide)))
  · exact Lp_val (RP.mk hS (RI.lit 0 (by decide)))
def g_X2_frame_54 (k : Nat) (S : AM) (x1 : Int) (x2 : Int) (x4 : Int) (x6 : Int) (x8 : Int) (x9 : Int) (y0 : Int) (y1 : Int) : Option (AM × Int) :=
  if x9 ≤ 2 then
    c32 (y1 + y0) <|
    g_X2_frame_70 k S x1 x2 x4 x6 x8 0 (y1 + y0)
  else
    (g_X1_sizeOf x6).bind fun v1 =>
    c32 (y1 + y0) <|
    g_X2_frame_70 k S x1 x2 x4 x6 x8 v1 (y1 + y0)
set_option maxRecDepth 10000 in
theorem lf_X2_frame_54 {k k' : Nat} (hk : k = k') {S : Mem} {S' : AM} (hS : (RT tC) S S') {x1 : Int32} {x1' : Int} (hx1 : RI x1 x1') {x2 : Int64} {x2' : Int} (hx2 : RJ x2 x2') {x4 : Int64} {x4' : Int} (hx4 : RJ x4 x4') {x6 : Int64} {x6' : Int} (hx6 : RJ x6 x6') {x8 : Int32} {x8' : Int} (hx8 : RI x8 x8') {x9 : Int32} {x9' : Int} (hx9 : RI x9 x9') {y0 : Int32} {y0' : Int} (hy0 : RI y0 y0') {y1 : Int32} {y1' : Int} (hy1 : RI y1 y1') : Lp (RP (RT tC) RI) (f_X2_frame_54 k S x1 x2 x4 x6 x8 x9 y0 y1) (g_X2_frame_54 k' S' x1' x2' x4' x6' x8' x9' y0' y1') := by
  subst hk
  unfold f_X2_frame_54 g_X2_frame_54
  refine Lp_ite (C_le hx9 (RI.lit 2 (by decide))) (fun c1 => ?_) (fun c1 => ?_)
  · refine Lp_c32 (fun b2 => ?_)
    exact lf_X2_frame_70 rfl hS hx1 hx2 hx4 hx6 hx8 (RI.lit 0 (by decide)) (RI.mk (E_add hy1.1 hy0.1) b2)
  · refine Lp_gS (lf_X1_sizeOf hx6) (fun v1 v1' hv1 => ?_)
    refine Lp_c32 (fun b3 => ?_)
    exact lf_X2_frame_70 rfl hS hx1 hx2 hx4 hx6 hx8 hv1 (RI.mk (E_add hy1.1 hy0.1) b3)
def g_X2_frame_31 (k : Nat) (S : AM) (x1 : Int) (x2 : Int) (x4 : Int) (x6 : Int) (x8 : Int) (y0 : Int) : Option (AM × Int) :=
  (g_X1_sizeOf x2).bind fun v1 =>
  if y0 ≤ 1 then
    c32 (1 + v1) <|
    g_X2_frame_54 k S x1 x2 x4 x6 x8 y0 0 (1 + v1)
  else
    (g_X1_sizeOf x4).bind fun v2 =>
    c32 (1 + v1) <|
    g_X2_frame_54 k S x1 x2 x4 x6 x8 y0 v2 (1 + v1)
set_option maxRecDepth 10000 in
theorem lf_X2_frame_31 {k k' : Nat} (hk : k = k') {S : Mem} {S' : AM} (hS : (RT tC) S S') {x1 : Int32} {x1' : Int} (hx1 : RI x1 x1') {x2 : Int64} {x2' : Int} (hx2 : RJ x2 x2') {x4 : Int64} {x4' : Int} (hx4 : RJ x4 x4') {x6 : Int64} {x6' : Int} (hx6 : RJ x6 x6') {x8 : Int32} {x8' : Int} (hx8 : RI x8 x8') {y0 : Int32} {y0' : Int} (hy0 : RI y0 y0') : Lp (RP (RT tC) RI) (f_X2_frame_31 k S x1 x2 x4 x6 x8 y0) (g_X2_frame_31 k' S' x1' x2' x4' x6' x8' y0') := by
  subst hk
  unfold f_X2_frame_31 g_X2_frame_31
  refine Lp_gS (lf_X1_sizeOf hx2) (fun v1 v1' hv1 => ?_)
  refine Lp_ite (C_le hy0 (RI.lit 1 (by decide))) (fun c1 => ?_) (fun c1 => ?_)
  · refine Lp_c32 (fun b2 => ?_)
    exact lf_X2_frame_54 rfl hS hx1 hx2 hx4 hx6 hx8 hy0 (RI.lit 0 (by decide)) (RI.mk (E_add (li32 1) hv1.1) b2)
  · refine Lp_gS (lf_X1_sizeOf hx4) (fun v2 v2' hv2 => ?_)
    refine Lp_c32 (fun b3 => ?_)
    exact lf_X2_frame_54 rfl hS hx1 hx2 hx4 hx6 hx8 hy0 hv2 (RI.mk (E_add (li32 1) hv1.1) b3)
def g_X2_frame_26 (k : Nat) (S : AM) (x1 : Int) (x2 : Int) (x4 : Int) (x6 : Int) (x8 : Int) : Option (AM × Int) :=
  g_X2_frame_31 k S x1 x2 x4 x6 x8 2
set_option maxRecDepth 10000 in
theorem lf_X2_frame_26 {k k' : Nat} (hk : k = k') {S : Mem} {S' : AM} (hS : (RT tC) S S') {x1 : Int32} {x1' : Int} (hx1 : RI x1 x1') {x2 : Int64} {x2' : Int} (hx2 : RJ x2 x2') {x4 : Int64} {x4' : Int} (hx4 : RJ x4 x4') {x6 : Int64} {x6' : Int} (hx6 : RJ x6 x6') {x8 : Int32} {x8' : Int} (hx8 : RI x8 x8') : Lp (RP (RT tC) RI) (f_X2_frame_26 k S x1 x2 x4 x6 x8) (g_X2_frame_26 k' S' x1' x2' x4' x6' x8') := by
  subst hk
  unfold f_X2_frame_26 g_X2_frame_26
  exact lf_X2_frame_31 rfl hS hx1 hx2 hx4 hx6 hx8 (RI.lit 2 (by decide))
def g_X2_frame (k : Nat) (S : AM) (x1 : Int) (x2 : Int) (x4 : Int) (x6 : Int) (x8 : Int) : Option (AM × Int) :=
  if x1 ≠ 4 then
    if x1 = 5 then
      g_X2_frame_26 k S x1 x2 x4 x6 x8
    else
      if x1 = 17 then
        g_X2_frame_26 k S x1 x2 x4 x6 x8
      else
        if x1 ≠ 21 then
          g_X2_frame_31 k S x1 x2 x4 x6 x8 1
        else
          g_X2_frame_26 k S x1 x2 x4 x6 x8
  else
    g_X2_frame_31 k S x1 x2 x4 x6 x8 3
set_option maxRecDepth 10000 in
theorem lf_X2_frame {k k' : Nat} (hk : k = k') {S : Mem} {S' : AM} (hS : (RT tC) S S') {x1 : Int32} {x1' : Int} (hx1 : RI x1 x1') {x2 : Int64} {x2' : Int} (hx2 : RJ x2 x2') {x4 : Int64} {x4' : Int} (hx4 : RJ x4 x4') {x6 : Int64} {x6' : Int} (hx6 : RJ x6 x6') {x8 : Int32} {x8' : Int} (hx8 : RI x8 x8') : Lp (RP (RT tC) RI) (f_X2_frame k S x1 x2 x4 x6 x8) (g_X2_frame k' S' x1' x2' x4' x6' x8') := by
  subst hk
  unfold f_X2_frame g_X2_frame
  refine Lp_ite (C_ne hx1 (RI.lit 4 (by decide))) (fun c1 => ?_) (fun c1 => ?_)
  · refine Lp_ite (C_eq hx1 (RI.lit 5 (by decide))) (fun c2 => ?_) (fun c2 => ?_)
    · exact lf_X2_frame_26 rfl hS hx1 hx2 hx4 hx6 hx8
    · refine Lp_ite (C_eq hx1 (RI.lit 17 (by decide))) (fun c3 => ?_) (fun c3 => ?_)
      · exact lf_X2_frame_26 rfl hS hx1 hx2 hx4 hx6 hx8
      · refine Lp_ite (C_ne hx1 (RI.lit 21 (by decide))) (fun c4 => ?_) (fun c4 => ?_)
        · exact lf_X2_frame_31 rfl hS hx1 hx2 hx4 hx6 hx8 (RI.lit 1 (by decide))
        · exact lf_X2_frame_26 rfl hS hx1 hx2 hx4 hx6 hx8
  · exact lf_X2_frame_31 rfl hS hx1 hx2 hx4 hx6 hx8 (RI.lit 3 (by decide))
def g_X2_fillsEnds_65 (E : L3 → Bool) (k : Nat) (k2 : AM → Int → Int → Option (AM × Int)) (S : AM) (x1 : Int) (x2 : Int) : Option (AM × Int) :=
  c32 (x2 + 1) <|
  k2 S x1 (x2 + 1)
set_option maxRecDepth 10000 in
theorem lf_X2_fillsEnds_65 (E : L3 → Bool) {k k' : Nat} (hk : k = k') {k2 : Mem → Int32 → Int32 → Option (Mem × Int32)} {k2' : AM → Int → Int → Option (AM × Int)} (hk2 : ∀ {y0 : Mem} {y0' : AM}, (RT tC) y0 y0' → ∀ {y1 : Int32} {y1' : Int}, RI y1 y1' → ∀ {y2 : Int32} {y2' : Int}, RI y2 y2' → Lf (RP (RT tC) RI) (k2 y0 y1 y2) (k2' y0' y1' y2')) {S : Mem} {S' : AM} (hS : (RT tC) S S') {x1 : Int32} {x1' : Int} (hx1 : RI x1 x1') {x2 : Int32} {x2' : Int} (hx2 : RI x2 x2') : Lf (RP (RT tC) RI) (f_X2_fillsEnds_65 E k k2 S x1 x2) (g_X2_fillsEnds_65 E k' k2' S' x1' x2') := by
  subst hk
  unfold f_X2_fillsEnds_65 g_X2_fillsEnds_65
  refine Lf_c32 (fun b1 => ?_)
  exact hk2 hS hx1 (RI.mk (E_add hx2.1 (li32 1)) b1)
def g_X2_fillsEnds_131 (E : L3 → Bool) (k : Nat) (k73 : AM → Int → Int → Option (AM × Int)) (S : AM) (x1 : Int) (x2 : Int) : Option (AM × Int) :=
  c32 (x2 + 1) <|
  k73 S x1 (x2 + 1)
set_option maxRecDepth 10000 in
theorem lf_X2_fillsEnds_131 (E : L3 → Bool) {k k' : Nat} (hk : k = k') {k73 : Mem → Int32 → Int32 → Option (Mem × Int32)} {k73' : AM → Int → Int → Option (AM × Int)} (hk73 : ∀ {y0 : Mem} {y0' : AM}, (RT tC) y0 y0' → ∀ {y1 : Int32} {y1' : Int}, RI y1 y1' → ∀ {y2 : Int32} {y2' : Int}, RI y2 y2' → Lf (RP (RT tC) RI) (k73 y0 y1 y2) (k73' y0' y1' y2')) {S : Mem} {S' : AM} (hS : (RT tC) S S') {x1 : Int32} {x1' : Int} (hx1 : RI x1 x1') {x2 : Int32} {x2' : Int} (hx2 : RI x2 x2') : Lf (RP (RT tC) RI) (f_X2_fillsEnds_131 E k k73 S x1 x2) (g_X2_fillsEnds_131 E k' k73' S' x1' x2') := by
  subst hk
  unfold f_X2_fillsEnds_131 g_X2_fillsEnds_131
  refine Lf_c32 (fun b1 => ?_)
  exact hk73 hS hx1 (RI.mk (E_add hx2.1 (li32 1)) b1)
def g_X2_fillsEnds_73_b (E : L3 → Bool) (k : Nat) (k73 : AM → Int → Int → Option (AM × Int)) (S : AM) (x1 : Int) (x2 : Int) : Option (AM × Int) :=
  if 256 ≤ x2 then
    some (S, 0)
  else
    hA x2 256 <|
    if E (R_o k (x2 : Int).toNat) = true then
      (g_X10_isLive k (x2 : Int).toNat S).bind fun v2 =>
      if v2 = 0 then
        g_X2_fillsEnds_131 E k k73 S x1 x2
      else
        if (S (R_o k (x2 : Int).toNat) 11) = 0 then
          g_X2_fillsEnds_131 E k k73 S x1 x2
        else
          gB2 (g_X2_frame k S 5 x2 (S (R_o k (x2 : Int).toNat) 9) 0 x1) fun S3 v4 =>
          if v4 ≠ 0 then
            gS (uA S3 (R_o k (x2 : Int).toNat) 11 0) fun S5 =>
            some (S5, 1)
          else
            g_X2_fillsEnds_131 E k k73 S3 x1 x2
    else
      g_X2_fillsEnds_131 E k k73 S x1 x2
set_option maxRecDepth 10000 in
theorem lf_X2_fillsEnds_73_b (E : L3 → Bool) {k k' : Nat} (hk : k = k') {k73 : Mem → Int32 → Int32 → Option (Mem × Int32)} {k73' : AM → Int → Int → Option (AM × Int)} (hk73 : ∀ {y0 : Mem} {y0' : AM}, (RT tC) y0 y0' → ∀ {y1 : Int32} {y1' : Int}, RI y1 y1' → ∀ {y2 : Int32} {y2' : Int}, RI y2 y2' → Lf (RP (RT tC) RI) (k73 y0 y1 y2) (k73' y0' y1' y2')) {S : Mem} {S' : AM} (hS : (RT tC) S S') {x1 : Int32} {x1' : Int} (hx1 : RI x1 x1') {x2 : Int32} {x2' : Int} (hx2 : RI x2 x2') : Lf (RP (RT tC) RI) (f_X2_fillsEnds_73_b E k k73 S x1 x2) (g_X2_fillsEnds_73_b E k' k73' S' x1' x2') := by
  subst hk
  unfold f_X2_fillsEnds_73_b g_X2_fillsEnds_73_b
  refine Lf_ite (C_le (RI.lit 256 (by decide)) hx2) (fun c1 => ?_) (fun c1 => ?_)
  · exact Lf_some (RP.mk hS (RI.lit 0 (by decide)))
  · refine Lf_hA hx2.1 (by decide) (fun b2 => ?_)
    refine Lf_ite (iff_of_eq (congrArg (fun q => E q = true) (congrArg (R_o k) (tnE hx2.1 b2 (by decide))))) (fun c3 => ?_) (fun c3 => ?_)
    · refine Lf_gS (lf_X10_isLive rfl (tnE hx2.1 b2 (by decide)) hS) (fun v2 v2' hv2 => ?_)
      refine Lf_ite (C_eq hv2 (RI.lit 0 (by decide))) (fun c4 => ?_) (fun c4 => ?_)
      · exact lf_X2_fillsEnds_131 E rfl hk73 hS hx1 hx2
      · refine Lf_ite (C_eq (RI.at hS (congrArg (R_o k) (tnE hx2.1 b2 (by decide))) rfl rfl) (RI.lit 0 (by decide))) (fun c5 => ?_) (fun c5 => ?_)
        · exact lf_X2_fillsEnds_131 E rfl hk73 hS hx1 hx2
        · refine Lf_gS2 (lf_X2_frame rfl hS (RI.lit 5 (by decide)) (RJ.mk (E_64 hx2) (R_64 hx2.2)) (RJ.at hS (congrArg (R_o k) (tnE hx2.1 b2 (by decide))) rfl rfl) (RJ.lit 0 (by decide)) hx1) (fun S3 S3' hS3 v4 v4' hv4 => ?_)
          refine Lf_ite (C_ne hv4 (RI.lit 0 (by decide))) (fun c6 => ?_) (fun c6 => ?_)
          · refine Lf_st (RT.siq hS3 (congrArg (R_o k) (tnE hx2.1 b2 (by decide))) rfl (RI.lit 0 (by decide)) rfl) (fun S5 S5' hS5 => ?_)
            exact Lf_some (RP.mk hS5 (RI.lit 1 (by decide)))
          · exact lf_X2_fillsEnds_131 E rfl hk73 hS3 hx1 hx2
    · exact lf_X2_fillsEnds_131 E rfl hk73 hS hx1 hx2
def g_X2_fillsEnds_73 (E : L3 → Bool) (k : Nat) : Nat → AM → Int → Int → Option (AM × Int)
  | 0, _, _, _ => none
  | n + 1, S, x1, x2 => g_X2_fillsEnds_73_b E k (g_X2_fillsEnds_73 E k n) S x1 x2
set_option maxRecDepth 10000 in
theorem lf_X2_fillsEnds_73 (E : L3 → Bool) {k k' : Nat} (hk : k = k') (n : Nat) : ∀ {S : Mem} {S' : AM}, (RT tC) S S' → ∀ {x1 : Int32} {x1' : Int}, RI x1 x1' → ∀ {x2 : Int32} {x2' : Int}, RI x2 x2' → Lf (RP (RT tC) RI) (f_X2_fillsEnds_73 E k n S x1 x2) (g_X2_fillsEnds_73 E k' n S' x1' x2') := by
  subst hk
  induction n with
  | zero => intros; exact Lf_none
  | succ n ih => intro S S' hS x1 x1' hx1 x2 x2' hx2; exact lf_X2_fillsEnds_73_b E rfl ih hS hx1 hx2
def g_X2_fillsEnds_2_b (E : L3 → Bool) (k : Nat) (k2 : AM → Int → Int → Option (AM × Int)) (S : AM) (x1 : Int) (x2 : Int) : Option (AM × Int) :=
  if 256 ≤ x2 then
    g_X2_fillsEnds_73 E k FU S x1 0
  else
    hA x2 256 <|
    if E (S_o k (x2 : Int).toNat) = true then
      if (S (S_o k (x2 : Int).toNat) 0) ≠ 3 then
        g_X2_fillsEnds_65 E k k2 S x1 x2
      else
        if (S (S_o k (x2 : Int).toNat) 11) = 0 then
          g_X2_fillsEnds_65 E k k2 S x1 x2
        else
          gB2 (g_X2_frame k S 4 x2 (S (S_o k (x2 : Int).toNat) 9) (S (S_o k (x2 : Int).toNat) 2) x1) fun S2 v3 =>
          if v3 ≠ 0 then
            gS (uA S2 (S_o k (x2 : Int).toNat) 11 0) fun S4 =>
            some (S4, 1)
          else
            g_X2_fillsEnds_65 E k k2 S2 x1 x2
    else
      g_X2_fillsEnds_65 E k k2 S x1 x2
set_option maxRecDepth 10000 in
theorem lf_X2_fillsEnds_2_b (E : L3 → Bool) {k k' : Nat} (hk : k = k') {k2 : Mem → Int32 → Int32 → Option (Mem × Int32)} {k2' : AM → Int → Int → Option (AM × Int)} (hk2 : ∀ {y0 : Mem} {y0' : AM}, (RT tC) y0 y0' → ∀ {y1 : Int32} {y1' : Int}, RI y1 y1' → ∀ {y2 : Int32} {y2' : Int}, RI y2 y2' → Lf (RP (RT tC) RI) (k2 y0 y1 y2) (k2' y0' y1' y2')) {S : Mem} {S' : AM} (hS : (RT tC) S S') {x1 : Int32} {x1' : Int} (hx1 : RI x1 x1') {x2 : Int32} {x2' : Int} (hx2 : RI x2 x2') : Lf (RP (RT tC) RI) (f_X2_fillsEnds_2_b E k k2 S x1 x2) (g_X2_fillsEnds_2_b E k' k2' S' x1' x2') := by
  subst hk
  unfold f_X2_fillsEnds_2_b g_X2_fillsEnds_2_b
  refine Lf_ite (C_le (RI.lit 256 (by decide)) hx2) (fun c1 => ?_) (fun c1 => ?_)
  · exact lf_X2_fillsEnds_73 E rfl FU hS hx1 (RI.lit 0 (by decide))
  · refine Lf_hA hx2.1 (by decide) (fun b2 => ?_)
    refine Lf_ite (iff_of_eq (congrArg (fun q => E q = true) (congrArg (S_o k) (tnE hx2.1 b2 (by decide))))) (fun c3 => ?_) (fun c3 => ?_)
    · refine Lf_ite (C_ne (RI.at hS (congrArg (S_o k) (tnE hx2.1 b2 (by decide))) rfl rfl) (RI.lit 3 (by decide))) (fun c4 => ?_) (fun c4 => ?_)
      · exact lf_X2_fillsEnds_65 E rfl hk2 hS hx1 hx2
      · refine Lf_ite (C_eq (RI.at hS (congrArg (S_o k) (tnE hx2.1 b2 (by decide))) rfl rfl) (RI.lit 0 (by decide))) (fun c5 => ?_) (fun c5 => ?_)
        · exact lf_X2_fillsEnds_65 E rfl hk2 hS hx1 hx2
        · refine Lf_gS2 (lf_X2_frame rfl hS (RI.lit 4 (by decide)) (RJ.mk (E_64 hx2) (R_64 hx2.2)) (RJ.at hS (congrArg (S_o k) (tnE hx2.1 b2 (by decide))) rfl rfl) (RJ.mk (E_64 (RI.at hS (congrArg (S_o k) (tnE hx2.1 b2 (by decide))) rfl rfl)) (R_64 (RI.at hS (congrArg (S_o k) (tnE hx2.1 b2 (by decide))) rfl rfl).2)) hx1) (fun S2 S2' hS2 v3 v3' hv3 => ?_)
          refine Lf_ite (C_ne hv3 (RI.lit 0 (by decide))) (fun c6 => ?_) (fun c6 => ?_)
          · refine Lf_st (RT.siq hS2 (congrArg (S_o k) (tnE hx2.1 b2 (by decide))) rfl (RI.lit 0 (by decide)) rfl) (fun S4 S4' hS4 => ?_)
            exact Lf_some (RP.mk hS4 (RI.lit 1 (by decide)))
          · exact lf_X2_fillsEnds_65 E rfl hk2 hS2 hx1 hx2
    · exact lf_X2_fillsEnds_65 E rfl hk2 hS hx1 hx2
def g_X2_fillsEnds_2 (E : L3 → Bool) (k : Nat) : Nat → AM → Int → Int → Option (AM × Int)
  | 0, _, _, _ => none
  | n + 1, S, x1, x2 => g_X2_fillsEnds_2_b E k (g_X2_fillsEnds_2 E k n) S x1 x2
set_option maxRecDepth 10000 in
theorem lf_X2_fillsEnds_2 (E : L3 → Bool) {k k' : Nat} (hk : k = k') (n : Nat) : ∀ {S : Mem} {S' : AM}, (RT tC) S S' → ∀ {x1 : Int32} {x1' : Int}, RI x1 x1' → ∀ {x2 : Int32} {x2' : Int}, RI x2 x2' → Lf (RP (RT tC) RI) (f_X2_fillsEnds_2 E k n S x1 x2) (g_X2_fillsEnds_2 E k' n S' x1' x2') := by
  subst hk
  induction n with
  | zero => intros; exact Lf_none
  | succ n ih => intro S S' hS x1 x1' hx1 x2 x2' hx2; exact lf_X2_fillsEnds_2_b E rfl ih hS hx1 hx2
def g_X2_fillsEnds (E : L3 → Bool) (k : Nat) (S : AM) (x1 : Int) : Option (AM × Int) :=
  g_X2_fillsEnds_2 E k FU S x1 0
set_option maxRecDepth 10000 in
theorem lf_X2_fillsEnds (E : L3 → Bool) {k k' : Nat} (hk : k = k') {S : Mem} {S' : AM} (hS : (RT tC) S S') {x1 : Int32} {x1' : Int} (hx1 : RI x1 x1') : Lf (RP (RT tC) RI) (f_X2_fillsEnds E k S x1) (g_X2_fillsEnds E k' S' x1') := by
  subst hk
  unfold f_X2_fillsEnds g_X2_fillsEnds
  exact lf_X2_fillsEnds_2 E rfl FU hS hx1 (RI.lit 0 (by decide))
def g_X2_fillsGrants_93 (E : L3 → Bool) (k : Nat) (k33 : AM → Int → Int → Option (AM × Int)) (S : AM) (x1 : Int) (x2 : Int) : Option (AM × Int) :=
  c32 (x2 + 1) <|
  k33 S x1 (x2 + 1)
set_option maxRecDepth 10000 in
theorem lf_X2_fillsGrants_93 (E : L3 → Bool) {k k' : Nat} (hk : k = k') {k33 : Mem → Int32 → Int32 → Option (Mem × Int32)} {k33' : AM → Int → Int → Option (AM × Int)} (hk33 : ∀ {y0 : Mem} {y0' : AM}, (RT tC) y0 y0' → ∀ {y1 : Int32} {y1' : Int}, RI y1 y1' → ∀ {y2 : Int32} {y2' : Int}, RI y2 y2' → Lf (RP (RT tC) RI) (k33 y0 y1 y2) (k33' y0' y1' y2')) {S : Mem} {S' : AM} (hS : (RT tC) S S') {x1 : Int32} {x1' : Int} (hx1 : RI x1 x1') {x2 : Int32} {x2' : Int} (hx2 : RI x2 x2') : Lf (RP (RT tC) RI) (f_X2_fillsGrants_93 E k k33 S x1 x2) (g_X2_fillsGrants_93 E k' k33' S' x1' x2') := by
  subst hk
  unfold f_X2_fillsGrants_93 g_X2_fillsGrants_93
  refine Lf_c32 (fun b1 => ?_)
  exact hk33 hS hx1 (RI.mk (E_add hx2.1 (li32 1)) b1)
def g_X2_fillsGrants_157 (E : L3 → Bool) (k : Nat) (k101 : AM → Int → Int → Option (AM × Int)) (S : AM) (x1 : Int) (x2 : Int) : Option (AM × Int) :=
  c32 (x2 + 1) <|
  k101 S x1 (x2 + 1)
set_option maxRecDepth 10000 in
theorem lf_X2_fillsGrants_157 (E : L3 → Bool) {k k' : Nat} (hk : k = k') {k101 : Mem → Int32 → Int32 → Option (Mem × Int32)} {k101' : AM → Int → Int → Option (AM × Int)} (hk101 : ∀ {y0 : Mem} {y0' : AM}, (RT tC) y0 y0' → ∀ {y1 : Int32} {y1' : Int}, RI y1 y1' → ∀ {y2 : Int32} {y2' : Int}, RI y2 y2' → Lf (RP (RT tC) RI) (k101 y0 y1 y2) (k101' y0' y1' y2')) {S : Mem} {S' : AM} (hS : (RT tC) S S') {x1 : Int32} {x1' : Int} (hx1 : RI x1 x1') {x2 : Int32} {x2' : Int} (hx2 : RI x2 x2') : Lf (RP (RT tC) RI) (f_X2_fillsGrants_157 E k k101 S x1 x2) (g_X2_fillsGrants_157 E k' k101' S' x1' x2') := by
  subst hk
  unfold f_X2_fillsGrants_157 g_X2_fillsGrants_157
  refine Lf_c32 (fun b1 => ?_)
  exact hk101 hS hx1 (RI.mk (E_add hx2.1 (li32 1)) b1)
def g_X2_fillsGrants_101_b (E : L3 → Bool) (k : Nat) (k101 : AM → Int → Int → Option (AM × Int)) (S : AM) (x1 : Int) (x2 : Int) : Option (AM × Int) :=
  if 2 ≤ x2 then
    some (S, 0)
  else
    hA x2 2 <|
    if (S (W_o k (x2 : Int).toNat) 6) = 0 then
      g_X2_fillsGrants_157 E k k101 S x1 x2
    else
      hA x2 2 <|
      c32 (18 + x2) <|
      gB2 (g_X2_frame k S (18 + x2) (S (W_o k (x2 : Int).toNat) 2) 0 0 x1) fun S3 v4 =>
      if v4 ≠ 0 then
        hA x2 2 <|
        gS (uA S3 (W_o k (x2 : Int).toNat) 6 0) fun S6 =>
        some (S6, 1)
      else
        g_X2_fillsGrants_157 E k k101 S3 x1 x2
set_option maxRecDepth 10000 in
theorem lf_X2_fillsGrants_101_b (E : L3 → Bool) {k k' : Nat} (hk : k = k') {k101 : Mem → Int32 → Int32 → Option (Mem × Int32)} {k101' : AM → Int → Int → Option (AM × Int)} (hk101 : ∀ {y0 : Mem} {y0' : AM}, (RT tC) y0 y0' → ∀ {y1 : Int32} {y1' : Int}, RI y1 y1' → ∀ {y2 : Int32} {y2' : Int}, RI y2 y2' → Lf (RP (RT tC) RI) (k101 y0 y1 y2) (k101' y0' y1' y2')) {S : Mem} {S' : AM} (hS : (RT tC) S S') {x1 : Int32} {x1' : Int} (hx1 : RI x1 x1') {x2 : Int32} {x2' : Int} (hx2 : RI x2 x2') : Lf (RP (RT tC) RI) (f_X2_fillsGrants_101_b E k k101 S x1 x2) (g_X2_fillsGrants_101_b E k' k101' S' x1' x2') := by
  subst hk
  unfold f_X2_fillsGrants_101_b g_X2_fillsGrants_101_b
  refine Lf_ite (C_le (RI.lit 2 (by decide)) hx2) (fun c1 => ?_) (fun c1 => ?_)
  · exact Lf_some (RP.mk hS (RI.lit 0 (by decide)))
  · refine Lf_hA hx2.1 (by decide) (fun b2 => ?_)
    refine Lf_ite (C_eq (RI.at hS (congrArg (W_o k) (tnE hx2.1 b2 (by decide))) rfl rfl) (RI.lit 0 (by decide))) (fun c3 => ?_) (fun c3 => ?_)
    · exact lf_X2_fillsGrants_157 E rfl hk101 hS hx1 hx2
    · refine Lf_hA hx2.1 (by decide) (fun b4 => ?_)
      refine Lf_c32 (fun b5 => ?_)
      refine Lf_gS2 (lf_X2_frame rfl hS (RI.mk (E_add (li32 18) hx2.1) b5) (RJ.mk (E_64 (RI.at hS (congrArg (W_o k) (tnE hx2.1 b2 (by decide))) rfl rfl)) (R_64 (RI.at hS (congrArg (W_o k) (tnE hx2.1 b2 (by decide))) rfl rfl).2)) (RJ.lit 0 (by decide)) (RJ.lit 0 (by decide)) hx1) (fun S3 S3' hS3 v4 v4' hv4 => ?_)
      refine Lf_ite (C_ne hv4 (RI.lit 0 (by decide))) (fun c6 => ?_) (fun c6 => ?_)
      · refine Lf_hA hx2.1 (by decide) (fun b7 => ?_)
        refine Lf_st (RT.siq hS3 (congrArg (W_o k) (tnE hx2.1 b2 (by decide))) rfl (RI.lit 0 (by decide)) rfl) (fun S6 S6' hS6 => ?_)
        exact Lf_some (RP.mk hS6 (RI.lit 1 (by decide)))
      · exact lf_X2_fillsGrants_157 E rfl hk101 hS3 hx1 hx2
def g_X2_fillsGrants_101 (E : L3 → Bool) (k : Nat) : Nat → AM → Int → Int → Option (AM × Int)
  | 0, _, _, _ => none
  | n + 1, S, x1, x2 => g_X2_fillsGrants_101_b E k (g_X2_fillsGrants_101 E k n) S x1 x2
set_option maxRecDepth 10000 in
theorem lf_X2_fillsGrants_101 (E : L3 → Bool) {k k' : Nat} (hk : k = k') (n : Nat) : ∀ {S : Mem} {S' : AM}, (RT tC) S S' → ∀ {x1 : Int32} {x1' : Int}, RI x1 x1' → ∀ {x2 : Int32} {x2' : Int}, RI x2 x2' → Lf (RP (RT tC) RI) (f_X2_fillsGrants_101 E k n S x1 x2) (g_X2_fillsGrants_101 E k' n S' x1' x2') := by
  subst hk
  induction n with
  | zero => intros; exact Lf_none
  | succ n ih => intro S S' hS x1 x1' hx1 x2 x2' hx2; exact lf_X2_fillsGrants_101_b E rfl ih hS hx1 hx2
def g_X2_fillsGrants_33_b (E : L3 → Bool) (k : Nat) (k33 : AM → Int → Int → Option (AM × Int)) (S : AM) (x1 : Int) (x2 : Int) : Option (AM × Int) :=
  if 256 ≤ x2 then
    g_X2_fillsGrants_101 E k FU S x1 0
  else
    hA x2 256 <|
    if E (R_o k (x2 : Int).toNat) = true then
      if (S (R_o k (x2 : Int).toNat) 1) ≠ 0 then
        g_X2_fillsGrants_93 E k k33 S x1 x2
      else
        if (S (R_o k (x2 : Int).toNat) 10) = 0 then
          g_X2_fillsGrants_93 E k k33 S x1 x2
        else
          gB2 (g_X2_frame k S 17 x2 (S (R_o k (x2 : Int).toNat) 6) 0 x1) fun S2 v3 =>
          if v3 ≠ 0 then
            gS (uA S2 (R_o k (x2 : Int).toNat) 10 0) fun S4 =>
            some (S4, 1)
          else
            g_X2_fillsGrants_93 E k k33 S2 x1 x2
    else
      g_X2_fillsGrants_93 E k k33 S x1 x2
set_option maxRecDepth 10000 in
theorem lf_X2_fillsGrants_33_b (E : L3 → Bool) {k k' : Nat} (hk : k = k') {k33 : Mem → Int32 → Int32 → Option (Mem × Int32)} {k33' : AM → Int → Int → Option (AM × Int)} (hk33 : ∀ {y0 : Mem} {y0' : AM}, (RT tC) y0 y0' → ∀ {y1 : Int32} {y1' : Int}, RI y1 y1' → ∀ {y2 : Int32} {y2' : Int}, RI y2 y2' → Lf (RP (RT tC) RI) (k33 y0 y1 y2) (k33' y0' y1' y2')) {S : Mem} {S' : AM} (hS : (RT tC) S S') {x1 : Int32} {x1' : Int} (hx1 : RI x1 x1') {x2 : Int32} {x2' : Int} (hx2 : RI x2 x2') : Lf (RP (RT tC) RI) (f_X2_fillsGrants_33_b E k k33 S x1 x2) (g_X2_fillsGrants_33_b E k' k33' S' x1' x2') := by
  subst hk
  unfold f_X2_fillsGrants_33_b g_X2_fillsGrants_33_b
  refine Lf_ite (C_le (RI.lit 256 (by decide)) hx2) (fun c1 => ?_) (fun c1 => ?_)
  · exact lf_X2_fillsGrants_101 E rfl FU hS hx1 (RI.lit 0 (by decide))
  · refine Lf_hA hx2.1 (by decide) (fun b2 => ?_)
    refine Lf_ite (iff_of_eq (congrArg (fun q => E q = true) (congrArg (R_o k) (tnE hx2.1 b2 (by decide))))) (fun c3 => ?_) (fun c3 => ?_)
    · refine Lf_ite (C_ne (RI.at hS (congrArg (R_o k) (tnE hx2.1 b2 (by decide))) rfl rfl) (RI.lit 0 (by decide))) (fun c4 => ?_) (fun c4 => ?_)
      · exact lf_X2_fillsGrants_93 E rfl hk33 hS hx1 hx2
      · refine Lf_ite (C_eq (RI.at hS (congrArg (R_o k) (tnE hx2.1 b2 (by decide))) rfl rfl) (RI.lit 0 (by decide))) (fun c5 => ?_) (fun c5 => ?_)
        · exact lf_X2_fillsGrants_93 E rfl hk33 hS hx1 hx2
        · refine Lf_gS2 (lf_X2_frame rfl hS (RI.lit 17 (by decide)) (RJ.mk (E_64 hx2) (R_64 hx2.2)) (RJ.mk (E_64 (RI.at hS (congrArg (R_o k) (tnE hx2.1 b2 (by decide))) rfl rfl)) (R_64 (RI.at hS (congrArg (R_o k) (tnE hx2.1 b2 (by decide))) rfl rfl).2)) (RJ.lit 0 (by decide)) hx1) (fun S2 S2' hS2 v3 v3' hv3 => ?_)
          refine Lf_ite (C_ne hv3 (RI.lit 0 (by decide))) (fun c6 => ?_) (fun c6 => ?_)
          · refine Lf_st (RT.siq hS2 (congrArg (R_o k) (tnE hx2.1 b2 (by decide))) rfl (RI.lit 0 (by decide)) rfl) (fun S4 S4' hS4 => ?_)
            exact Lf_some (RP.mk hS4 (RI.lit 1 (by decide)))
          · exact lf_X2_fillsGrants_93 E rfl hk33 hS2 hx1 hx2
    · exact lf_X2_fillsGrants_93 E rfl hk33 hS hx1 hx2
def g_X2_fillsGrants_33 (E : L3 → Bool) (k : Nat) : Nat → AM → Int → Int → Option (AM × Int)
  | 0, _, _, _ => none
  | n + 1, S, x1, x2 => g_X2_fillsGrants_33_b E k (g_X2_fillsGrants_33 E k n) S x1 x2
set_option maxRecDepth 10000 in
theorem lf_X2_fillsGrants_33 (E : L3 → Bool) {k k' : Nat} (hk : k = k') (n : Nat) : ∀ {S : Mem} {S' : AM}, (RT tC) S S' → ∀ {x1 : Int32} {x1' : Int}, RI x1 x1' → ∀ {x2 : Int32} {x2' : Int}, RI x2 x2' → Lf (RP (RT tC) RI) (f_X2_fillsGrants_33 E k n S x1 x2) (g_X2_fillsGrants_33 E k' n S' x1' x2') := by
  subst hk
  induction n with
  | zero => intros; exact Lf_none
  | succ n ih => intro S S' hS x1 x1' hx1 x2 x2' hx2; exact lf_X2_fillsGrants_33_b E rfl ih hS hx1 hx2
def g_X2_fillsGrants_31 (E : L3 → Bool) (k : Nat) (S : AM) (x1 : Int) : Option (AM × Int) :=
  g_X2_fillsGrants_33 E k FU S x1 0
set_option maxRecDepth 10000 in
theorem lf_X2_fillsGrants_31 (E : L3 → Bool) {k k' : Nat} (hk : k = k') {S : Mem} {S' : AM} (hS : (RT tC) S S') {x1 : Int32} {x1' : Int} (hx1 : RI x1 x1') : Lf (RP (RT tC) RI) (f_X2_fillsGrants_31 E k S x1) (g_X2_fillsGrants_31 E k' S' x1') := by
  subst hk
  unfold f_X2_fillsGrants_31 g_X2_fillsGrants_31
  exact lf_X2_fillsGrants_33 E rfl FU hS hx1 (RI.lit 0 (by decide))
def g_X2_fillsGrants (E : L3 → Bool) (k : Nat) (S : AM) (x1 : Int) : Option (AM × Int) :=
  if (S (H_o k) 16) = 0 then
    g_X2_fillsGrants_31 E k S x1
  else
    gB2 (g_X2_frame k S 16 (S (H_o k) 14) 0 0 x1) fun S1 v2 =>
    if v2 = 0 then
      g_X2_fillsGrants_31 E k S1 x1
    else
      gS (uA S1 (H_o k) 16 0) fun S3 =>
      some (S3, 1)
set_option maxRecDepth 10000 in
theorem lf_X2_fillsGrants (E : L3 → Bool) {k k' : Nat} (hk : k = k') {S : Mem} {S' : AM} (hS : (RT tC) S S') {x1 : Int32} {x1' : Int} (hx1 : RI x1 x1') : Lf (RP (RT tC) RI) (f_X2_fillsGrants E k S x1) (g_X2_fillsGrants E k' S' x1') := by
  subst hk
  unfold f_X2_fillsGrants g_X2_fillsGrants
  refine Lf_ite (C_eq (RI.at hS rfl rfl rfl) (RI.lit 0 (by decide))) (fun c1 => ?_) (fun c1 => ?_)
  · exact lf_X2_fillsGrants_31 E rfl hS hx1
  · refine Lf_gS2 (lf_X2_frame rfl hS (RI.lit 16 (by decide)) (RJ.mk (E_64 (RI.at hS rfl rfl rfl)) (R_64 (RI.at hS rfl rfl rfl).2)) (RJ.lit 0 (by decide)) (RJ.lit 0 (by decide)) hx1) (fun S1 S1' hS1 v2 v2' hv2 => ?_)
    refine Lf_ite (C_eq hv2 (RI.lit 0 (by decide))) (fun c2 => ?_) (fun c2 => ?_)
    · exact lf_X2_fillsGrants_31 E rfl hS1 hx1
    · refine Lf_st (RT.siq hS1 rfl rfl (RI.lit 0 (by decide)) rfl) (fun S3 S3' hS3 => ?_)
      exact Lf_some (RP.mk hS3 (RI.lit 1 (by decide)))
def g_X2_waits (k : Nat) (S : AM) (x0 : Option (Nat)) : Option (Int) :=
  gM x0 (
    some (0)) fun j0 =>
    (g_X9_isLive k j0 S).bind fun v1 =>
    if v1 = 0 then
      some (0)
    else
      if (S (S_o k j0) 1) ≤ (S (S_o k j0) 2) then
        some (0)
      else
        some (1)
set_option maxRecDepth 10000 in
theorem lf_X2_waits {k k' : Nat} (hk : k = k') {S : Mem} {S' : AM} (hS : (RT tC) S S') {x0 x0' : Option (Nat)} (hx0 : x0 = x0') : Lp RI (f_X2_waits k S x0) (g_X2_waits k' S' x0') := by
  subst hk
  subst hx0
  unfold f_X2_waits g_X2_waits
  refine Lp_gM (fun _ => ?_) (fun j0 _ => ?_)
  · exact Lp_val (RI.lit 0 (by decide))
  · refine Lp_gS (lf_X9_isLive rfl rfl hS) (fun v1 v1' hv1 => ?_)
    refine Lp_ite (C_eq hv1 (RI.lit 0 (by decide))) (fun c1 => ?_) (fun c1 => ?_)
    · exact Lp_val (RI.lit 0 (by decide))
    · refine Lp_ite (C_le (RI.at hS rfl rfl rfl) (RI.at hS rfl rfl rfl)) (fun c2 => ?_) (fun c2 => ?_)
      · exact Lp_val (RI.lit 0 (by decide))
      · exact Lp_val (RI.lit 1 (by decide))
def g_X2_fillsBlocked_45 (E : L3 → Bool) (k : Nat) (k4 : AM → Int → Int → Int → Option (AM × Int)) (S : AM) (x1 : Int) (x3 : Int) (y0 : Int) : Option (AM × Int) :=
  c32 (x3 + 1) <|
  k4 S x1 y0 (x3 + 1)
set_option maxRecDepth 10000 in
theorem lf_X2_fillsBlocked_45 (E : L3 → Bool) {k k' : Nat} (hk : k = k') {k4 : Mem → Int32 → Int32 → Int32 → Option (Mem × Int32)} {k4' : AM → Int → Int → Int → Option (AM × Int)} (hk4 : ∀ {y0 : Mem} {y0' : AM}, (RT tC) y0 y0' → ∀ {y1 : Int32} {y1' : Int}, RI y1 y1' → ∀ {y2 : Int32} {y2' : Int}, RI y2 y2' → ∀ {y3 : Int32} {y3' : Int}, RI y3 y3' → Lf (RP (RT tC) RI) (k4 y0 y1 y2 y3) (k4' y0' y1' y2' y3')) {S : Mem} {S' : AM} (hS : (RT tC) S S') {x1 : Int32} {x1' : Int} (hx1 : RI x1 x1') {x3 : Int32} {x3' : Int} (hx3 : RI x3 x3') {y0 : Int32} {y0' : Int} (hy0 : RI y0 y0') : Lf (RP (RT tC) RI) (f_X2_fillsBlocked_45 E k k4 S x1 x3 y0) (g_X2_fillsBlocked_45 E k' k4' S' x1' x3' y0') := by
  subst hk
  unfold f_X2_fillsBlocked_45 g_X2_fillsBlocked_45
  refine Lf_c32 (fun b1 => ?_)
  exact hk4 hS hx1 hy0 (RI.mk (E_add hx3.1 (li32 1)) b1)
def g_X2_fillsBlocked_40 (E : L3 → Bool) (k : Nat) (k4 : AM → Int → Int → Int → Option (AM × Int)) (S : AM) (x1 : Int) (x3 : Int) : Option (AM × Int) :=
  g_X2_fillsBlocked_45 E k k4 S x1 x3 1
set_option maxRecDepth 10000 in
theorem lf_X2_fillsBlocked_40 (E : L3 → Bool) {k k' : Nat} (hk : k = k') {k4 : Mem → Int32 → Int32 → Int32 → Option (Mem × Int32)} {k4' : AM → Int → Int → Int → Option (AM × Int)} (hk4 : ∀ {y0 : Mem} {y0' : AM}, (RT tC) y0 y0' → ∀ {y1 : Int32} {y1' : Int}, RI y1 y1' → ∀ {y2 : Int32} {y2' : Int}, RI y2 y2' → ∀ {y3 : Int32} {y3' : Int}, RI y3 y3' → Lf (RP (RT tC) RI) (k4 y0 y1 y2 y3) (k4' y0' y1' y2' y3')) {S : Mem} {S' : AM} (hS : (RT tC) S S') {x1 : Int32} {x1' : Int} (hx1 : RI x1 x1') {x3 : Int32} {x3' : Int} (hx3 : RI x3 x3') : Lf (RP (RT tC) RI) (f_X2_fillsBlocked_40 E k k4 S x1 x3) (g_X2_fillsBlocked_40 E k' k4' S' x1' x3') := by
  subst hk
  unfold f_X2_fillsBlocked_40 g_X2_fillsBlocked_40
  exact lf_X2_fillsBlocked_45 E rfl hk4 hS hx1 hx3 (RI.lit 1 (by decide))
def g_X2_fillsBlocked_181 (E : L3 → Bool) (k : Nat) (k96 : AM → Int → Int → Option (AM × Int)) (S : AM) (x1 : Int) (x3 : Int) : Option (AM × Int) :=
  c32 (x3 + 1) <|
  k96 S x1 (x3 + 1)
set_option maxRecDepth 10000 in
theorem lf_X2_fillsBlocked_181 (E : L3 → Bool) {k k' : Nat} (hk : k = k') {k96 : Mem → Int32 → Int32 → Option (Mem × Int32)} {k96' : AM → Int → Int → Option (AM × Int)} (hk96 : ∀ {y0 : Mem} {y0' : AM}, (RT tC) y0 y0' → ∀ {y1 : Int32} {y1' : Int}, RI y1 y1' → ∀ {y2 : Int32} {y2' : Int}, RI y2 y2' → Lf (RP (RT tC) RI) (k96 y0 y1 y2) (k96' y0' y1' y2')) {S : Mem} {S' : AM} (hS : (RT tC) S S') {x1 : Int32} {x1' : Int} (hx1 : RI x1 x1') {x3 : Int32} {x3' : Int} (hx3 : RI x3 x3') : Lf (RP (RT tC) RI) (f_X2_fillsBlocked_181 E k k96 S x1 x3) (g_X2_fillsBlocked_181 E k' k96' S' x1' x3') := by
  subst hk
  unfold f_X2_fillsBlocked_181 g_X2_fillsBlocked_181
  refine Lf_c32 (fun b1 => ?_)
  exact hk96 hS hx1 (RI.mk (E_add hx3.1 (li32 1)) b1)
def g_X2_fillsBlocked_264 (E : L3 → Bool) (k : Nat) (k189 : AM → Int → Int → Option (AM × Int)) (S : AM) (x1 : Int) (x3 : Int) : Option (AM × Int) :=
  c32 (x3 + 1) <|
  k189 S x1 (x3 + 1)
set_option maxRecDepth 10000 in
theorem lf_X2_fillsBlocked_264 (E : L3 → Bool) {k k' : Nat} (hk : k = k') {k189 : Mem → Int32 → Int32 → Option (Mem × Int32)} {k189' : AM → Int → Int → Option (AM × Int)} (hk189 : ∀ {y0 : Mem} {y0' : AM}, (RT tC) y0 y0' → ∀ {y1 : Int32} {y1' : Int}, RI y1 y1' → ∀ {y2 : Int32} {y2' : Int}, RI y2 y2' → Lf (RP (RT tC) RI) (k189 y0 y1 y2) (k189' y0' y1' y2')) {S : Mem} {S' : AM} (hS : (RT tC) S S') {x1 : Int32} {x1' : Int} (hx1 : RI x1 x1') {x3 : Int32} {x3' : Int} (hx3 : RI x3 x3') : Lf (RP (RT tC) RI) (f_X2_fillsBlocked_264 E k k189 S x1 x3) (g_X2_fillsBlocked_264 E k' k189' S' x1' x3') := by
  subst hk
  unfold f_X2_fillsBlocked_264 g_X2_fillsBlocked_264
  refine Lf_c32 (fun b1 => ?_)
  exact hk189 hS hx1 (RI.mk (E_add hx3.1 (li32 1)) b1)
def g_X2_fillsBlocked_189_b (E : L3 → Bool) (k : Nat) (k189 : AM → Int → Int → Option (AM × Int)) (S : AM) (x1 : Int) (x3 : Int) : Option (AM × Int) :=
  if 2 ≤ x3 then
    some (S, 0)
  else
    hA x3 2 <|
    if (S (W_o k (x3 : Int).toNat) 4) ≠ (S (W_o k (x3 : Int).toNat) 3) then
      g_X2_fillsBlocked_264 E k k189 S x1 x3
    else
      if (S (W_o k (x3 : Int).toNat) 5) = (S (W_o k (x3 : Int).toNat) 3) then
        g_X2_fillsBlocked_264 E k k189 S x1 x3
      else
        c32 (22 + x3) <|
        gB2 (g_X2_frame k S (22 + x3) (S (W_o k (x3 : Int).toNat) 3) 0 0 x1) fun S2 v3 =>
        if v3 ≠ 0 then
          gS (uA S2 (W_o k (x3 : Int).toNat) 5 (S2 (W_o k (x3 : Int).toNat) 3)) fun S4 =>
          some (S4, 1)
        else
          g_X2_fillsBlocked_264 E k k189 S2 x1 x3
set_option maxRecDepth 10000 in
theorem lf_X2_fillsBlocked_189_b (E : L3 → Bool) {k k' : Nat} (hk : k = k') {k189 : Mem → Int32 → Int32 → Option (Mem × Int32)} {k189' : AM → Int → Int → Option (AM × Int)} (hk189 : ∀ {y0 : Mem} {y0' : AM}, (RT tC) y0 y0' → ∀ {y1 : Int32} {y1' : Int}, RI y1 y1' → ∀ {y2 : Int32} {y2' : Int}, RI y2 y2' → Lf (RP (RT tC) RI) (k189 y0 y1 y2) (k189' y0' y1' y2')) {S : Mem} {S' : AM} (hS : (RT tC) S S') {x1 : Int32} {x1' : Int} (hx1 : RI x1 x1') {x3 : Int32} {x3' : Int} (hx3 : RI x3 x3') : Lf (RP (RT tC) RI) (f_X2_fillsBlocked_189_b E k k189 S x1 x3) (g_X2_fillsBlocked_189_b E k' k189' S' x1' x3') := by
  subst hk
  unfold f_X2_fillsBlocked_189_b g_X2_fillsBlocked_189_b
  refine Lf_ite (C_le (RI.lit 2 (by decide)) hx3) (fun c1 => ?_) (fun c1 => ?_)
  · exact Lf_some (RP.mk hS (RI.lit 0 (by decide)))
  · refine Lf_hA hx3.1 (by decide) (fun b2 => ?_)
    refine Lf_ite (D_ne (RJ.at hS (congrArg (W_o k) (tnE hx3.1 b2 (by decide))) rfl rfl) (RJ.at hS (congrArg (W_o k) (tnE hx3.1 b2 (by decide))) rfl rfl)) (fun c3 => ?_) (fun c3 => ?_)
    · exact lf_X2_fillsBlocked_264 E rfl hk189 hS hx1 hx3
    · refine Lf_ite (D_eq (RJ.at hS (congrArg (W_o k) (tnE hx3.1 b2 (by decide))) rfl rfl) (RJ.at hS (congrArg (W_o k) (tnE hx3.1 b2 (by decide))) rfl rfl)) (fun c4 => ?_) (fun c4 => ?_)
      · exact lf_X2_fillsBlocked_264 E rfl hk189 hS hx1 hx3
      · refine Lf_c32 (fun b5 => ?_)
        refine Lf_gS2 (lf_X2_frame rfl hS (RI.mk (E_add (li32 22) hx3.1) b5) (RJ.at hS (congrArg (W_o k) (tnE hx3.1 b2 (by decide))) rfl rfl) (RJ.lit 0 (by decide)) (RJ.lit 0 (by decide)) hx1) (fun S2 S2' hS2 v3 v3' hv3 => ?_)
        refine Lf_ite (C_ne hv3 (RI.lit 0 (by decide))) (fun c6 => ?_) (fun c6 => ?_)
        · refine Lf_st (RT.sjq hS2 (congrArg (W_o k) (tnE hx3.1 b2 (by decide))) rfl (RJ.at hS2 (congrArg (W_o k) (tnE hx3.1 b2 (by decide))) rfl rfl) rfl) (fun S4 S4' hS4 => ?_)
          exact Lf_some (RP.mk hS4 (RI.lit 1 (by decide)))
        · exact lf_X2_fillsBlocked_264 E rfl hk189 hS2 hx1 hx3
def g_X2_fillsBlocked_189 (E : L3 → Bool) (k : Nat) : Nat → AM → Int → Int → Option (AM × Int)
  | 0, _, _, _ => none
  | n + 1, S, x1, x3 => g_X2_fillsBlocked_189_b E k (g_X2_fillsBlocked_189 E k n) S x1 x3
set_option maxRecDepth 10000 in
theorem lf_X2_fillsBlocked_189 (E : L3 → Bool) {k k' : Nat} (hk : k = k') (n : Nat) : ∀ {S : Mem} {S' : AM}, (RT tC) S S' → ∀ {x1 : Int32} {x1' : Int}, RI x1 x1' → ∀ {x3 : Int32} {x3' : Int}, RI x3 x3' → Lf (RP (RT tC) RI) (f_X2_fillsBlocked_189 E k n S x1 x3) (g_X2_fillsBlocked_189 E k' n S' x1' x3') := by
  subst hk
  induction n with
  | zero => intros; exact Lf_none
  | succ n ih => intro S S' hS x1 x1' hx1 x3 x3' hx3; exact lf_X2_fillsBlocked_189_b E rfl ih hS hx1 hx3
def g_X2_fillsBlocked_96_b (E : L3 → Bool) (k : Nat) (k96 : AM → Int → Int → Option (AM × Int)) (S : AM) (x1 : Int) (x3 : Int) : Option (AM × Int) :=
  if 256 ≤ x3 then
    g_X2_fillsBlocked_189 E k FU S x1 0
  else
    hA x3 256 <|
    if E (S_o k (x3 : Int).toNat) = true then
      (g_X2_waits k S (some (x3 : Int).toNat)).bind fun v2 =>
      if v2 = 0 then
        g_X2_fillsBlocked_181 E k k96 S x1 x3
      else
        if (S (S_o k (x3 : Int).toNat) 2) ≠ (S (S_o k (x3 : Int).toNat) 8) then
          g_X2_fillsBlocked_181 E k k96 S x1 x3
        else
          if (S (S_o k (x3 : Int).toNat) 10) = (S (S_o k (x3 : Int).toNat) 8) then
            g_X2_fillsBlocked_181 E k k96 S x1 x3
          else
            gB2 (g_X2_frame k S 21 x3 (S (S_o k (x3 : Int).toNat) 8) 0 x1) fun S3 v4 =>
            if v4 ≠ 0 then
              gS (uA S3 (S_o k (x3 : Int).toNat) 10 (S3 (S_o k (x3 : Int).toNat) 8)) fun S5 =>
              some (S5, 1)
            else
              g_X2_fillsBlocked_181 E k k96 S3 x1 x3
    else
      (g_X2_waits k S none).bind fun v6 =>
      if v6 = 0 then
        g_X2_fillsBlocked_181 E k k96 S x1 x3
      else
        none
set_option maxRecDepth 10000 in
theorem lf_X2_fillsBlocked_96_b (E : L3 → Bool) {k k' : Nat} (hk : k = k') {k96 : Mem → Int32 → Int32 → Option (Mem × Int32)} {k96' : AM → Int → Int → Option (AM × Int)} (hk96 : ∀ {y0 : Mem} {y0' : AM}, (RT tC) y0 y0' → ∀ {y1 : Int32} {y1' : Int}, RI y1 y1' → ∀ {y2 : Int32} {y2' : Int}, RI y2 y2' → Lf (RP (RT tC) RI) (k96 y0 y1 y2) (k96' y0' y1' y2')) {S : Mem} {S' : AM} (hS : (RT tC) S S') {x1 : Int32} {x1' : Int} (hx1 : RI x1 x1') {x3 : Int32} {x3' : Int} (hx3 : RI x3 x3') : Lf (RP (RT tC) RI) (f_X2_fillsBlocked_96_b E k k96 S x1 x3) (g_X2_fillsBlocked_96_b E k' k96' S' x1' x3') := by
  subst hk
  unfold f_X2_fillsBlocked_96_b g_X2_fillsBlocked_96_b
  refine Lf_ite (C_le (RI.lit 256 (by decide)) hx3) (fun c1 => ?_) (fun c1 => ?_)
  · exact lf_X2_fillsBlocked_189 E rfl FU hS hx1 (RI.lit 0 (by decide))
  · refine Lf_hA hx3.1 (by decide) (fun b2 => ?_)
    refine Lf_ite (iff_of_eq (congrArg (fun q => E q = true) (congrArg (S_o k) (tnE hx3.1 b2 (by decide))))) (fun c3 => ?_) (fun c3 => ?_)
    · refine Lf_gS (lf_X2_waits rfl hS (congrArg some (tnE hx3.1 b2 (by decide)))) (fun v2 v2' hv2 => ?_)
      refine Lf_ite (C_eq hv2 (RI.lit 0 (by decide))) (fun c4 => ?_) (fun c4 => ?_)
      · exact lf_X2_fillsBlocked_181 E rfl hk96 hS hx1 hx3
      · refine Lf_ite (D_ne (RJ.mk (E_64 (RI.at hS (congrArg (S_o k) (tnE hx3.1 b2 (by decide))) rfl rfl)) (R_64 (RI.at hS (congrArg (S_o k) (tnE hx3.1 b2 (by decide))) rfl rfl).2)) (RJ.at hS (congrArg (S_o k) (tnE hx3.1 b2 (by decide))) rfl rfl)) (fun c5 => ?_) (fun c5 => ?_)
        · exact lf_X2_fillsBlocked_181 E rfl hk96 hS hx1 hx3
        · refine Lf_ite (D_eq (RJ.at hS (congrArg (S_o k) (tnE hx3.1 b2 (by decide))) rfl rfl) (RJ.at hS (congrArg (S_o k) (tnE hx3.1 b2 (by decide))) rfl rfl)) (fun c6 => ?_) (fun c6 => ?_)
          · exact lf_X2_fillsBlocked_181 E rfl hk96 hS hx1 hx3
          · refine Lf_gS2 (lf_X2_frame rfl hS (RI.lit 21 (by decide)) (RJ.mk (E_64 hx3) (R_64 hx3.2)) (RJ.at hS (congrArg (S_o k) (tnE hx3.1 b2 (by decide))) rfl rfl) (RJ.lit 0 (by decide)) hx1) (fun S3 S3' hS3 v4 v4' hv4 => ?_)
            refine Lf_ite (C_ne hv4 (RI.lit 0 (by decide))) (fun c7 => ?_) (fun c7 => ?_)
            · refine Lf_st (RT.sjq hS3 (congrArg (S_o k) (tnE hx3.1 b2 (by decide))) rfl (RJ.at hS3 (congrArg (S_o k) (tnE hx3.1 b2 (by decide))) rfl rfl) rfl) (fun S5 S5' hS5 => ?_)
              exact Lf_some (RP.mk hS5 (RI.lit 1 (by decide)))
            · exact lf_X2_fillsBlocked_181 E rfl hk96 hS3 hx1 hx3
    · refine Lf_gS (lf_X2_waits rfl hS rfl) (fun v6 v6' hv6 => ?_)
      refine Lf_ite (C_eq hv6 (RI.lit 0 (by decide))) (fun c8 => ?_) (fun c8 => ?_)
      · exact lf_X2_fillsBlocked_181 E rfl hk96 hS hx1 hx3
      · exact Lf_none
def g_X2_fillsBlocked_96 (E : L3 → Bool) (k : Nat) : Nat → AM → Int → Int → Option (AM × Int)
  | 0, _, _, _ => none
  | n + 1, S, x1, x3 => g_X2_fillsBlocked_96_b E k (g_X2_fillsBlocked_96 E k n) S x1 x3
set_option maxRecDepth 10000 in
theorem lf_X2_fillsBlocked_96 (E : L3 → Bool) {k k' : Nat} (hk : k = k') (n : Nat) : ∀ {S : Mem} {S' : AM}, (RT tC) S S' → ∀ {x1 : Int32} {x1' : Int}, RI x1 x1' → ∀ {x3 : Int32} {x3' : Int}, RI x3 x3' → Lf (RP (RT tC) RI) (f_X2_fillsBlocked_96 E k n S x1 x3) (g_X2_fillsBlocked_96 E k' n S' x1' x3') := by
  subst hk
  induction n with
  | zero => intros; exact Lf_none
  | succ n ih => intro S S' hS x1 x1' hx1 x3 x3' hx3; exact lf_X2_fillsBlocked_96_b E rfl ih hS hx1 hx3
def g_X2_fillsBlocked_94 (E : L3 → Bool) (k : Nat) (S : AM) (x1 : Int) : Option (AM × Int) :=
  g_X2_fillsBlocked_96 E k FU S x1 0
set_option maxRecDepth 10000 in
theorem lf_X2_fillsBlocked_94 (E : L3 → Bool) {k k' : Nat} (hk : k = k') {S : Mem} {S' : AM} (hS : (RT tC) S S') {x1 : Int32} {x1' : Int} (hx1 : RI x1 x1') : Lf (RP (RT tC) RI) (f_X2_fillsBlocked_94 E k S x1) (g_X2_fillsBlocked_94 E k' S' x1') := by
  subst hk
  unfold f_X2_fillsBlocked_94 g_X2_fillsBlocked_94
  exact lf_X2_fillsBlocked_96 E rfl FU hS hx1 (RI.lit 0 (by decide))
def g_X2_fillsBlocked_52 (E : L3 → Bool) (k : Nat) (S : AM) (x1 : Int) (x2 : Int) : Option (AM × Int) :=
  if x2 = 0 then
    g_X2_fillsBlocked_94 E k S x1
  else
    if (S (H_o k) 10) = (S (H_o k) 9) then
      g_X2_fillsBlocked_94 E k S x1
    else
      gB2 (g_X2_frame k S 20 (S (H_o k) 9) 0 0 x1) fun S1 v2 =>
      if v2 = 0 then
        g_X2_fillsBlocked_94 E k S1 x1
      else
        gS (uA S1 (H_o k) 10 (S1 (H_o k) 9)) fun S3 =>
        some (S3, 1)
set_option maxRecDepth 10000 in
theorem lf_X2_fillsBlocked_52 (E : L3 → Bool) {k k' : Nat} (hk : k = k') {S : Mem} {S' : AM} (hS : (RT tC) S S') {x1 : Int32} {x1' : Int} (hx1 : RI x1 x1') {x2 : Int32} {x2' : Int} (hx2 : RI x2 x2') : Lf (RP (RT tC) RI) (f_X2_fillsBlocked_52 E k S x1 x2) (g_X2_fillsBlocked_52 E k' S' x1' x2') := by
  subst hk
  unfold f_X2_fillsBlocked_52 g_X2_fillsBlocked_52
  refine Lf_ite (C_eq hx2 (RI.lit 0 (by decide))) (fun c1 => ?_) (fun c1 => ?_)
  · exact lf_X2_fillsBlocked_94 E rfl hS hx1
  · refine Lf_ite (D_eq (RJ.at hS rfl rfl rfl) (RJ.at hS rfl rfl rfl)) (fun c2 => ?_) (fun c2 => ?_)
    · exact lf_X2_fillsBlocked_94 E rfl hS hx1
    · refine Lf_gS2 (lf_X2_frame rfl hS (RI.lit 20 (by decide)) (RJ.at hS rfl rfl rfl) (RJ.lit 0 (by decide)) (RJ.lit 0 (by decide)) hx1) (fun S1 S1' hS1 v2 v2' hv2 => ?_)
      refine Lf_ite (C_eq hv2 (RI.lit 0 (by decide))) (fun c3 => ?_) (fun c3 => ?_)
      · exact lf_X2_fillsBlocked_94 E rfl hS1 hx1
      · refine Lf_st (RT.sjq hS1 rfl rfl (RJ.at hS1 rfl rfl rfl) rfl) (fun S3 S3' hS3 => ?_)
        exact Lf_some (RP.mk hS3 (RI.lit 1 (by decide)))
def g_X2_fillsBlocked_4_b (E : L3 → Bool) (k : Nat) (k4 : AM → Int → Int → Int → Option (AM × Int)) (S : AM) (x1 : Int) (x2 : Int) (x3 : Int) : Option (AM × Int) :=
  if 256 ≤ x3 then
    g_X2_fillsBlocked_52 E k S x1 x2
  else
    if (S (H_o k) 11) ≠ (S (H_o k) 9) then
      g_X2_fillsBlocked_52 E k S x1 x2
    else
      if x2 ≠ 0 then
        g_X2_fillsBlocked_40 E k k4 S x1 x3
      else
        hA x3 256 <|
        if E (S_o k (x3 : Int).toNat) = true then
          (g_X2_waits k S (some (x3 : Int).toNat)).bind fun v2 =>
          if v2 = 0 then
            g_X2_fillsBlocked_45 E k k4 S x1 x3 0
          else
            g_X2_fillsBlocked_40 E k k4 S x1 x3
        else
          (g_X2_waits k S none).bind fun v3 =>
          if v3 = 0 then
            g_X2_fillsBlocked_45 E k k4 S x1 x3 0
          else
            g_X2_fillsBlocked_40 E k k4 S x1 x3
set_option maxRecDepth 10000 in
theorem lf_X2_fillsBlocked_4_b (E : L3 → Bool) {k k' : Nat} (hk : k = k') {k4 : Mem → Int32 → Int32 → Int32 → Option (Mem × Int32)} {k4' : AM → Int → Int → Int → Option (AM × Int)} (hk4 : ∀ {y0 : Mem} {y0' : AM}, (RT tC) y0 y0' → ∀ {y1 : Int32} {y1' : Int}, RI y1 y1' → ∀ {y2 : Int32} {y2' : Int}, RI y2 y2' → ∀ {y3 : Int32} {y3' : Int}, RI y3 y3' → Lf (RP (RT tC) RI) (k4 y0 y1 y2 y3) (k4' y0' y1' y2' y3')) {S : Mem} {S' : AM} (hS : (RT tC) S S') {x1 : Int32} {x1' : Int} (hx1 : RI x1 x1') {x2 : Int32} {x2' : Int} (hx2 : RI x2 x2') {x3 : Int32} {x3' : Int} (hx3 : RI x3 x3') : Lf (RP (RT tC) RI) (f_X2_fillsBlocked_4_b E k k4 S x1 x2 x3) (g_X2_fillsBlocked_4_b E k' k4' S' x1' x2' x3') := by
  subst hk
  unfold f_X2_fillsBlocked_4_b g_X2_fillsBlocked_4_b
  refine Lf_ite (C_le (RI.lit 256 (by decide)) hx3) (fun c1 => ?_) (fun c1 => ?_)
  · exact lf_X2_fillsBlocked_52 E rfl hS hx1 hx2
  · refine Lf_ite (D_ne (RJ.mk (E_64 (RI.at hS rfl rfl rfl)) (R_64 (RI.at hS rfl rfl rfl).2)) (RJ.at hS rfl rfl rfl)) (fun c2 => ?_) (fun c2 => ?_)
    · exact lf_X2_fillsBlocked_52 E rfl hS hx1 hx2
    · refine Lf_ite (C_ne hx2 (RI.lit 0 (by decide))) (fun c3 => ?_) (fun c3 => ?_)
      · exact lf_X2_fillsBlocked_40 E rfl hk4 hS hx1 hx3
      · refine Lf_hA hx3.1 (by decide) (fun b4 => ?_)
        refine Lf_ite (iff_of_eq (congrArg (fun q => E q = true) (congrArg (S_o k) (tnE hx3.1 b4 (by decide))))) (fun c5 => ?_) (fun c5 => ?_)
        · refine Lf_gS (lf_X2_waits rfl hS (congrArg some (tnE hx3.1 b4 (by decide)))) (fun v2 v2' hv2 => ?_)
          refine Lf_ite (C_eq hv2 (RI.lit 0 (by decide))) (fun c6 => ?_) (fun c6 => ?_)
          · exact lf_X2_fillsBlocked_45 E rfl hk4 hS hx1 hx3 (RI.lit 0 (by decide))
          · exact lf_X2_fillsBlocked_40 E rfl hk4 hS hx1 hx3
        · refine Lf_gS (lf_X2_waits rfl hS rfl) (fun v3 v3' hv3 => ?_)
          refine Lf_ite (C_eq hv3 (RI.lit 0 (by decide))) (fun c7 => ?_) (fun c7 => ?_)
          · exact lf_X2_fillsBlocked_45 E rfl hk4 hS hx1 hx3 (RI.lit 0 (by decide))
          · exact lf_X2_fillsBlocked_40 E rfl hk4 hS hx1 hx3
def g_X2_fillsBlocked_4 (E : L3 → Bool) (k : Nat) : Nat → AM → Int → Int → Int → Option (AM × Int)
  | 0, _, _, _, _ => none
  | n + 1, S, x1, x2, x3 => g_X2_fillsBlocked_4_b E k (g_X2_fillsBlocked_4 E k n) S x1 x2 x3
set_option maxRecDepth 10000 in
theorem lf_X2_fillsBlocked_4 (E : L3 → Bool) {k k' : Nat} (hk : k = k') (n : Nat) : ∀ {S : Mem} {S' : AM}, (RT tC) S S' → ∀ {x1 : Int32} {x1' : Int}, RI x1 x1' → ∀ {x2 : Int32} {x2' : Int}, RI x2 x2' → ∀ {x3 : Int32} {x3' : Int}, RI x3 x3' → Lf (RP (RT tC) RI) (f_X2_fillsBlocked_4 E k n S x1 x2 x3) (g_X2_fillsBlocked_4 E k' n S' x1' x2' x3') := by
  subst hk
  induction n with
  | zero => intros; exact Lf_none
  | succ n ih => intro S S' hS x1 x1' hx1 x2 x2' hx2 x3 x3' hx3; exact lf_X2_fillsBlocked_4_b E rfl ih hS hx1 hx2 hx3
def g_X2_fillsBlocked (E : L3 → Bool) (k : Nat) (S : AM) (x1 : Int) : Option (AM × Int) :=
  g_X2_fillsBlocked_4 E k FU S x1 0 0
set_option maxRecDepth 10000 in
theorem lf_X2_fillsBlocked (E : L3 → Bool) {k k' : Nat} (hk : k = k') {S : Mem} {S' : AM} (hS : (RT tC) S S') {x1 : Int32} {x1' : Int} (hx1 : RI x1 x1') : Lf (RP (RT tC) RI) (f_X2_fillsBlocked E k S x1) (g_X2_fillsBlocked E k' S' x1') := by
  subst hk
  unfold f_X2_fillsBlocked g_X2_fillsBlocked
  exact lf_X2_fillsBlocked_4 E rfl FU hS hx1 (RI.lit 0 (by decide)) (RI.lit 0 (by decide))
def g_X5_copy_92 (k : Nat) (k12 : AM → Int → Int → Int → Int → Int → Option (AM)) (S : AM) (x2 : Int) (x4 : Int) (x5 : Int) (x6 : Int) (x7 : Int) : Option (AM) :=
  hA x5 64 <|
  hA x5 64 <|
  c32 (x6 + (S (T_size k) (x5 : Int).toNat)) <|
  k12 S x2 x4 (S (T_next k) (x5 : Int).toNat) (x6 + (S (T_size k) (x5 : Int).toNat)) x7
set_option maxRecDepth 10000 in
theorem lf_X5_copy_92 {k k' : Nat} (hk : k = k') {k12 : Mem → Int32 → Int32 → Int32 → Int32 → Int32 → Option (Mem)} {k12' : AM → Int → Int → Int → Int → Int → Option (AM)} (hk12 : ∀ {y0 : Mem} {y0' : AM}, (RT tC) y0 y0' → ∀ {y1 : Int32} {y1' : Int}, RI y1 y1' → ∀ {y2 : Int32} {y2' : Int}, RI y2 y2' → ∀ {y3 : Int32} {y3' : Int}, RI y3 y3' → ∀ {y4 : Int32} {y4' : Int}, RI y4 y4' → ∀ {y5 : Int32} {y5' : Int}, RI y5 y5' → Lf (RT tC) (k12 y0 y1 y2 y3 y4 y5) (k12' y0' y1' y2' y3' y4' y5')) {S : Mem} {S' : AM} (hS : (RT tC) S S') {x2 : Int32} {x2' : Int} (hx2 : RI x2 x2') {x4 : Int32} {x4' : Int} (hx4 : RI x4 x4') {x5 : Int32} {x5' : Int} (hx5 : RI x5 x5') {x6 : Int32} {x6' : Int} (hx6 : RI x6 x6') {x7 : Int32} {x7' : Int} (hx7 : RI x7 x7') : Lf (RT tC) (f_X5_copy_92 k k12 S x2 x4 x5 x6 x7) (g_X5_copy_92 k' k12' S' x2' x4' x5' x6' x7') := by
  subst hk
  unfold f_X5_copy_92 g_X5_copy_92
  refine Lf_hA hx5.1 (by decide) (fun b1 => ?_)
  refine Lf_hA hx5.1 (by decide) (fun b2 => ?_)
  refine Lf_c32 (fun b3 => ?_)
  exact hk12 hS hx2 hx4 (RI.at hS rfl (tnE hx5.1 b1 (by decide)) rfl) (RI.mk (E_add hx6.1 (RI.at hS rfl (tnE hx5.1 b1 (by decide)) rfl).1) b3) hx7
def g_X5_copy_12_b (k : Nat) (k12 : AM → Int → Int → Int → Int → Int → Option (AM)) (S : AM) (x2 : Int) (x4 : Int) (x5 : Int) (x6 : Int) (x7 : Int) : Option (AM) :=
  if x5 = (-1) then
    some (S)
  else
    if x4 ≤ x7 then
      some (S)
    else
      hA x5 64 <|
      c32 ((x2 + x7) - x6) <|
      c32 ((S (T_size k) (x5 : Int).toNat) - (mxZ ((x2 + x7) - x6) 0)) <|
      c32 (x4 - x7) <|
      if (mnZ ((S (T_size k) (x5 : Int).toNat) - (mxZ ((x2 + x7) - x6) 0)) (x4 - x7)) ≤ 0 then
        g_X5_copy_92 k k12 S x2 x4 x5 x6 x7
      else
        hA x5 64 <|
        c32 ((S (T_at k) (x5 : Int).toNat) + (mxZ ((x2 + x7) - x6) 0)) <|
        hY S (T_bytes k) ((S (T_at k) (x5 : Int).toNat) + (mxZ ((x2 + x7) - x6) 0)) 65536 (H_row k) x7 1200 (mnZ ((S (T_size k) (x5 : Int).toNat) - (mxZ ((x2 + x7) - x6) 0)) (x4 - x7)) fun S1 =>
        c32 (x7 + (mnZ ((S (T_size k) (x5 : Int).toNat) - (mxZ ((x2 + x7) - x6) 0)) (x4 - x7))) <|
        g_X5_copy_92 k k12 S1 x2 x4 x5 x6 (x7 + (mnZ ((S (T_size k) (x5 : Int).toNat) - (mxZ ((x2 + x7) - x6) 0)) (x4 - x7)))
set_option maxRecDepth 10000 in
theorem lf_X5_copy_12_b {k k' : Nat} (hk : k = k') {k12 : Mem → Int32 → Int32 → Int32 → Int32 → Int32 → Option (Mem)} {k12' : AM → Int → Int → Int → Int → Int → Option (AM)} (hk12 : ∀ {y0 : Mem} {y0' : AM}, (RT tC) y0 y0' → ∀ {y1 : Int32} {y1' : Int}, RI y1 y1' → ∀ {y2 : Int32} {y2' : Int}, RI y2 y2' → ∀ {y3 : Int32} {y3' : Int}, RI y3 y3' → ∀ {y4 : Int32} {y4' : Int}, RI y4 y4' → ∀ {y5 : Int32} {y5' : Int}, RI y5 y5' → Lf (RT tC) (k12 y0 y1 y2 y3 y4 y5) (k12' y0' y1' y2' y3' y4' y5')) {S : Mem} {S' : AM} (hS : (RT tC) S S') {x2 : Int32} {x2' : Int} (hx2 : RI x2 x2') {x4 : Int32} {x4' : Int} (hx4 : RI x4 x4') {x5 : Int32} {x5' : Int} (hx5 : RI x5 x5') {x6 : Int32} {x6' : Int} (hx6 : RI x6 x6') {x7 : Int32} {x7' : Int} (hx7 : RI x7 x7') : Lf (RT tC) (f_X5_copy_12_b k k12 S x2 x4 x5 x6 x7) (g_X5_copy_12_b k' k12' S' x2' x4' x5' x6' x7') := by
  subst hk
  unfold f_X5_copy_12_b g_X5_copy_12_b
  refine Lf_ite (C_eq hx5 RI.m1) (fun c1 => ?_) (fun c1 => ?_)
  · exact Lf_some hS
  · refine Lf_ite (C_le hx4 hx7) (fun c2 => ?_) (fun c2 => ?_)
    · exact Lf_some hS
    · refine Lf_hA hx5.1 (by decide) (fun b3 => ?_)
      refine Lf_c32 (fun b4 => ?_)
      refine Lf_c32 (fun b5 => ?_)
      refine Lf_c32 (fun b6 => ?_)
      refine Lf_ite (C_le (RI.mn (RI.mk (E_sub (RI.at hS rfl (tnE hx5.1 b3 (by decide)) rfl).1 (RI.mx (RI.mk (E_sub (E_add hx2.1 hx7.1) hx6.1) b4) (RI.lit 0 (by decide))).1) b5) (RI.mk (E_sub hx4.1 hx7.1) b6)) (RI.lit 0 (by decide))) (fun c7 => ?_) (fun c7 => ?_)
      · exact lf_X5_copy_92 rfl hk12 hS hx2 hx4 hx5 hx6 hx7
      · refine Lf_hA hx5.1 (by decide) (fun b8 => ?_)
        refine Lf_c32 (fun b9 => ?_)
        refine Lf_gYq hS rfl rfl (RI.mk (E_add (RI.at hS rfl (tnE hx5.1 b3 (by decide)) rfl).1 (RI.mx (RI.mk (E_sub (E_add hx2.1 hx7.1) hx6.1) b4) (RI.lit 0 (by decide))).1) b9) hx7 (RI.mn (RI.mk (E_sub (RI.at hS rfl (tnE hx5.1 b3 (by decide)) rfl).1 (RI.mx (RI.mk (E_sub (E_add hx2.1 hx7.1) hx6.1) b4) (RI.lit 0 (by decide))).1) b5) (RI.mk (E_sub hx4.1 hx7.1) b6)) (fun _ => rfl) (fun _ => rfl) (fun S1 S1' hS1 => ?_)
        refine Lf_c32 (fun b10 => ?_)
        exact lf_X5_copy_92 rfl hk12 hS1 hx2 hx4 hx5 hx6 (RI.mk (E_add hx7.1 (RI.mn (RI.mk (E_sub (RI.at hS rfl (tnE hx5.1 b3 (by decide)) rfl).1 (RI.mx (RI.mk (E_sub (E_add hx2.1 hx7.1) hx6.1) b4) (RI.lit 0 (by decide))).1) b5) (RI.mk (E_sub hx4.1 hx7.1) b6)).1) b10)
def g_X5_copy_12 (k : Nat) : Nat → AM → Int → Int → Int → Int → Int → Option (AM)
  | 0, _, _, _, _, _, _ => none
  | n + 1, S, x2, x4, x5, x6, x7 => g_X5_copy_12_b k (g_X5_copy_12 k n) S x2 x4 x5 x6 x7
set_option maxRecDepth 10000 in
theorem lf_X5_copy_12 {k k' : Nat} (hk : k = k') (n : Nat) : ∀ {S : Mem} {S' : AM}, (RT tC) S S' → ∀ {x2 : Int32} {x2' : Int}, RI x2 x2' → ∀ {x4 : Int32} {x4' : Int}, RI x4 x4' → ∀ {x5 : Int32} {x5' : Int}, RI x5 x5' → ∀ {x6 : Int32} {x6' : Int}, RI x6 x6' → ∀ {x7 : Int32} {x7' : Int}, RI x7 x7' → Lf (RT tC) (f_X5_copy_12 k n S x2 x4 x5 x6 x7) (g_X5_copy_12 k' n S' x2' x4' x5' x6' x7') := by
  subst hk
  induction n with
  | zero => intros; exact Lf_none
  | succ n ih => intro S S' hS x2 x2' hx2 x4 x4' hx4 x5 x5' hx5 x6 x6' hx6 x7 x7' hx7; exact lf_X5_copy_12_b rfl ih hS hx2 hx4 hx5 hx6 hx7
def g_X5_copy (k : Nat) (S : AM) (x1 : Nat) (x2 : Int) (x4 : Int) : Option (AM) :=
  g_X5_copy_12 k FU S x2 x4 (S (S_o k x1) 4) 0 0
set_option maxRecDepth 10000 in
theorem lf_X5_copy {k k' : Nat} (hk : k = k') {S : Mem} {S' : AM} (hS : (RT tC) S S') {x1 x1' : Nat} (hx1 : x1 = x1') {x2 : Int32} {x2' : Int} (hx2 : RI x2 x2') {x4 : Int32} {x4' : Int} (hx4 : RI x4 x4') : Lf (RT tC) (f_X5_copy k S x1 x2 x4) (g_X5_copy k' S' x1' x2' x4') := by
  subst hk
  subst hx1
  unfold f_X5_copy g_X5_copy
  exact lf_X5_copy_12 rfl FU hS hx2 hx4 (RI.at hS rfl rfl rfl) (RI.lit 0 (by decide)) (RI.lit 0 (by decide))
def g_X4_release (k : Nat) (S : AM) (x1 : Int) : Option (AM) :=
  hA x1 64 <|
  gS (uA S (P_next k) ((x1 : Int).toNat) (S (P_o k) 4)) fun S1 =>
  gS (uA S1 (P_o k) 4 x1) fun S2 =>
  some (S2)
set_option maxRecDepth 10000 in
theorem lf_X4_release {k k' : Nat} (hk : k = k') {S : Mem} {S' : AM} (hS : (RT tC) S S') {x1 : Int32} {x1' : Int} (hx1 : RI x1 x1') : Lf (RT tC) (f_X4_release k S x1) (g_X4_release k' S' x1') := by
  subst hk
  unfold f_X4_release g_X4_release
  refine Lf_hA hx1.1 (by decide) (fun b1 => ?_)
  refine Lf_st (RT.siq hS rfl (tnE hx1.1 b1 (by decide)) (RI.at hS rfl rfl rfl) rfl) (fun S1 S1' hS1 => ?_)
  refine Lf_st (RT.siq hS1 rfl rfl hx1 rfl) (fun S2 S2' hS2 => ?_)
  exact Lf_some hS2
def g_X4_make_102 (k : Nat) (S : AM) (x1 : Int) (x2 : Int) (x3 : Int) (x4 : Int) : Option (AM × Int) :=
  hA x4 64 <|
  gS (uA S (P_from k) ((x4 : Int).toNat) x1) fun S1 =>
  hA x4 64 <|
  gS (uA S1 (P_to k) ((x4 : Int).toNat) x2) fun S2 =>
  hA x4 64 <|
  gS (uA S2 (P_next k) ((x4 : Int).toNat) x3) fun S3 =>
  some (S3, x4)
set_option maxRecDepth 10000 in
theorem lf_X4_make_102 {k k' : Nat} (hk : k = k') {S : Mem} {S' : AM} (hS : (RT tC) S S') {x1 : Int32} {x1' : Int} (hx1 : RI x1 x1') {x2 : Int32} {x2' : Int} (hx2 : RI x2 x2') {x3 : Int32} {x3' : Int} (hx3 : RI x3 x3') {x4 : Int32} {x4' : Int} (hx4 : RI x4 x4') : Lf (RP (RT tC) RI) (f_X4_make_102 k S x1 x2 x3 x4) (g_X4_make_102 k' S' x1' x2' x3' x4') := by
  subst hk
  unfold f_X4_make_102 g_X4_make_102
  refine Lf_hA hx4.1 (by decide) (fun b1 => ?_)
  refine Lf_st (RT.siq hS rfl (tnE hx4.1 b1 (by decide)) hx1 rfl) (fun S1 S1' hS1 => ?_)
  refine Lf_hA hx4.1 (by decide) (fun b2 => ?_)
  refine Lf_st (RT.siq hS1 rfl (tnE hx4.1 b1 (by decide)) hx2 rfl) (fun S2 S2' hS2 => ?_)
  refine Lf_hA hx4.1 (by decide) (fun b3 => ?_)
  refine Lf_st (RT.siq hS2 rfl (tnE hx4.1 b1 (by decide)) hx3 rfl) (fun S3 S3' hS3 => ?_)
  exact Lf_some (RP.mk hS3 hx4)
def g_X4_make_89 (k : Nat) (S : AM) (x1 : Int) (x2 : Int) (x3 : Int) : Option (AM × Int) :=
  c32 ((S (P_o k) 3) + 1) <|
  gS (uA S (P_o k) 3 ((S (P_o k) 3) + 1)) fun S1 =>
  g_X4_make_102 k S1 x1 x2 x3 (S (P_o k) 3)
set_option maxRecDepth 10000 in
theorem lf_X4_make_89 {k k' : Nat} (hk : k = k') {S : Mem} {S' : AM} (hS : (RT tC) S S') {x1 : Int32} {x1' : Int} (hx1 : RI x1 x1') {x2 : Int32} {x2' : Int} (hx2 : RI x2 x2') {x3 : Int32} {x3' : Int} (hx3 : RI x3 x3') : Lf (RP (RT tC) RI) (f_X4_make_89 k S x1 x2 x3) (g_X4_make_89 k' S' x1' x2' x3') := by
  subst hk
  unfold f_X4_make_89 g_X4_make_89
  refine Lf_c32 (fun b1 => ?_)
  refine Lf_st (RT.siq hS rfl rfl (RI.mk (E_add (RI.at hS rfl rfl rfl).1 (li32 1)) b1) rfl) (fun S1 S1' hS1 => ?_)
  exact lf_X4_make_102 rfl hS1 hx1 hx2 hx3 (RI.at hS rfl rfl rfl)
def g_X4_make (k : Nat) (S : AM) (x1 : Int) (x2 : Int) (x3 : Int) : Option (AM × Int) :=
  if (S (P_o k) 4) = (-1) then
    if (S (P_o k) 3) ≠ 64 then
      g_X4_make_89 k S x1 x2 x3
    else
      none
  else
    hA (S (P_o k) 4) 64 <|
    gS (uA S (P_o k) 4 (S (P_next k) ((S (P_o k) 4) : Int).toNat)) fun S1 =>
    g_X4_make_102 k S1 x1 x2 x3 (S (P_o k) 4)
set_option maxRecDepth 10000 in
theorem lf_X4_make {k k' : Nat} (hk : k = k') {S : Mem} {S' : AM} (hS : (RT tC) S S') {x1 : Int32} {x1' : Int} (hx1 : RI x1 x1') {x2 : Int32} {x2' : Int} (hx2 : RI x2 x2') {x3 : Int32} {x3' : Int} (hx3 : RI x3 x3') : Lf (RP (RT tC) RI) (f_X4_make k S x1 x2 x3) (g_X4_make k' S' x1' x2' x3') := by
  subst hk
  unfold f_X4_make g_X4_make
  refine Lf_ite (C_eq (RI.at hS rfl rfl rfl) RI.m1) (fun c1 => ?_) (fun c1 => ?_)
  · refine Lf_ite (C_ne (RI.at hS rfl rfl rfl) (RI.lit 64 (by decide))) (fun c2 => ?_) (fun c2 => ?_)
    · exact lf_X4_make_89 rfl hS hx1 hx2 hx3
    · exact Lf_none
  · refine Lf_hA (RI.at hS rfl rfl rfl).1 (by decide) (fun b3 => ?_)
    refine Lf_st (RT.siq hS rfl rfl (RI.at hS rfl (tnE (RI.at hS rfl rfl rfl).1 b3 (by decide)) rfl) rfl) (fun S1 S1' hS1 => ?_)
    exact lf_X4_make_102 rfl hS1 hx1 hx2 hx3 (RI.at hS rfl rfl rfl)
def g_X4_trim_55 (k : Nat) (S : AM) (x1 : Int) (x2 : Int) : Option (AM) :=
  hA x1 64 <|
  gS (uA S (P_to k) ((x1 : Int).toNat) x2) fun S1 =>
  some (S1)
set_option maxRecDepth 10000 in
theorem lf_X4_trim_55 {k k' : Nat} (hk : k = k') {S : Mem} {S' : AM} (hS : (RT tC) S S') {x1 : Int32} {x1' : Int} (hx1 : RI x1 x1') {x2 : Int32} {x2' : Int} (hx2 : RI x2 x2') : Lf (RT tC) (f_X4_trim_55 k S x1 x2) (g_X4_trim_55 k' S' x1' x2') := by
  subst hk
  unfold f_X4_trim_55 g_X4_trim_55
  refine Lf_hA hx1.1 (by decide) (fun b1 => ?_)
  refine Lf_st (RT.siq hS rfl (tnE hx1.1 b1 (by decide)) hx2 rfl) (fun S1 S1' hS1 => ?_)
  exact Lf_some hS1
def g_X4_trim (k : Nat) (S : AM) (x1 : Int) (x2 : Int) (x3 : Int) : Option (AM) :=
  hA x1 64 <|
  if (S (P_from k) (x1 : Int).toNat) < x2 then
    hA x1 64 <|
    if (S (P_to k) (x1 : Int).toNat) ≤ x3 then
      g_X4_trim_55 k S x1 x2
    else
      hA x1 64 <|
      hA x1 64 <|
      gB2 (g_X4_make k S x3 (S (P_to k) (x1 : Int).toNat) (S (P_next k) (x1 : Int).toNat)) fun S1 v2 =>
      hA x1 64 <|
      gS (uA S1 (P_next k) ((x1 : Int).toNat) v2) fun S3 =>
      g_X4_trim_55 k S3 x1 x2
  else
    hA x1 64 <|
    gS (uA S (P_from k) ((x1 : Int).toNat) x3) fun S4 =>
    some (S4)
set_option maxRecDepth 10000 in
theorem lf_X4_trim {k k' : Nat} (hk : k = k') {S : Mem} {S' : AM} (hS : (RT tC) S S') {x1 : Int32} {x1' : Int} (hx1 : RI x1 x1') {x2 : Int32} {x2' : Int} (hx2 : RI x2 x2') {x3 : Int32} {x3' : Int} (hx3 : RI x3 x3') : Lf (RT tC) (f_X4_trim k S x1 x2 x3) (g_X4_trim k' S' x1' x2' x3') := by
  subst hk
  unfold f_X4_trim g_X4_trim
  refine Lf_hA hx1.1 (by decide) (fun b1 => ?_)
  refine Lf_ite (C_lt (RI.at hS rfl (tnE hx1.1 b1 (by decide)) rfl) hx2) (fun c2 => ?_) (fun c2 => ?_)
  · refine Lf_hA hx1.1 (by decide) (fun b3 => ?_)
    refine Lf_ite (C_le (RI.at hS rfl (tnE hx1.1 b1 (by decide)) rfl) hx3) (fun c4 => ?_) (fun c4 => ?_)
    · exact lf_X4_trim_55 rfl hS hx1 hx2
    · refine Lf_hA hx1.1 (by decide) (fun b5 => ?_)
      refine Lf_hA hx1.1 (by decide) (fun b6 => ?_)
      refine Lf_gB2 (lf_X4_make rfl hS hx3 (RI.at hS rfl (tnE hx1.1 b1 (by decide)) rfl) (RI.at hS rfl (tnE hx1.1 b1 (by decide)) rfl)) (fun S1 S1' hS1 v2 v2' hv2 => ?_)
      refine Lf_hA hx1.1 (by decide) (fun b7 => ?_)
      refine Lf_st (RT.siq hS1 rfl (tnE hx1.1 b1 (by decide)) hv2 rfl) (fun S3 S3' hS3 => ?_)
      exact lf_X4_trim_55 rfl hS3 hx1 hx2
  · refine Lf_hA hx1.1 (by decide) (fun b8 => ?_)
    refine Lf_st (RT.siq hS rfl (tnE hx1.1 b1 (by decide)) hx3 rfl) (fun S4 S4' hS4 => ?_)
    exact Lf_some hS4
def g_X4_cut_123 (k : Nat) (k9 : AM → Int → Int → Int → Int → Int → Option (AM × Int)) (S : AM) (x2 : Int) (x3 : Int) (x4 : Int) (x5 : Int) (x7 : Int) : Option (AM × Int) :=
  k9 S x2 x3 x4 x5 x7
set_option maxRecDepth 10000 in
theorem lf_X4_cut_123 {k k' : Nat} (hk : k = k') {k9 : Mem → Int32 → Int32 → Int32 → Int32 → Int32 → Option (Mem × Int32)} {k9' : AM → Int → Int → Int → Int → Int → Option (AM × Int)} (hk9 : ∀ {y0 : Mem} {y0' : AM}, (RT tC) y0 y0' → ∀ {y1 : Int32} {y1' : Int}, RI y1 y1' → ∀ {y2 : Int32} {y2' : Int}, RI y2 y2' → ∀ {y3 : Int32} {y3' : Int}, RI y3 y3' → ∀ {y4 : Int32} {y4' : Int}, RI y4 y4' → ∀ {y5 : Int32} {y5' : Int}, RI y5 y5' → Lf (RP (RT tC) RI) (k9 y0 y1 y2 y3 y4 y5) (k9' y0' y1' y2' y3' y4' y5')) {S : Mem} {S' : AM} (hS : (RT tC) S S') {x2 : Int32} {x2' : Int} (hx2 : RI x2 x2') {x3 : Int32} {x3' : Int} (hx3 : RI x3 x3') {x4 : Int32} {x4' : Int} (hx4 : RI x4 x4') {x5 : Int32} {x5' : Int} (hx5 : RI x5 x5') {x7 : Int32} {x7' : Int} (hx7 : RI x7 x7') : Lf (RP (RT tC) RI) (f_X4_cut_123 k k9 S x2 x3 x4 x5 x7) (g_X4_cut_123 k' k9' S' x2' x3' x4' x5' x7') := by
  subst hk
  unfold f_X4_cut_123 g_X4_cut_123
  exact hk9 hS hx2 hx3 hx4 hx5 hx7
def g_X4_cut_119 (k : Nat) (k9 : AM → Int → Int → Int → Int → Int → Option (AM × Int)) (S : AM) (x2 : Int) (x3 : Int) (x4 : Int) (x6 : Int) (x7 : Int) : Option (AM × Int) :=
  g_X4_cut_123 k k9 S x2 x3 x4 x6 x7
set_option maxRecDepth 10000 in
theorem lf_X4_cut_119 {k k' : Nat} (hk : k = k') {k9 : Mem → Int32 → Int32 → Int32 → Int32 → Int32 → Option (Mem × Int32)} {k9' : AM → Int → Int → Int → Int → Int → Option (AM × Int)} (hk9 : ∀ {y0 : Mem} {y0' : AM}, (RT tC) y0 y0' → ∀ {y1 : Int32} {y1' : Int}, RI y1 y1' → ∀ {y2 : Int32} {y2' : Int}, RI y2 y2' → ∀ {y3 : Int32} {y3' : Int}, RI y3 y3' → ∀ {y4 : Int32} {y4' : Int}, RI y4 y4' → ∀ {y5 : Int32} {y5' : Int}, RI y5 y5' → Lf (RP (RT tC) RI) (k9 y0 y1 y2 y3 y4 y5) (k9' y0' y1' y2' y3' y4' y5')) {S : Mem} {S' : AM} (hS : (RT tC) S S') {x2 : Int32} {x2' : Int} (hx2 : RI x2 x2') {x3 : Int32} {x3' : Int} (hx3 : RI x3 x3') {x4 : Int32} {x4' : Int} (hx4 : RI x4 x4') {x6 : Int32} {x6' : Int} (hx6 : RI x6 x6') {x7 : Int32} {x7' : Int} (hx7 : RI x7 x7') : Lf (RP (RT tC) RI) (f_X4_cut_119 k k9 S x2 x3 x4 x6 x7) (g_X4_cut_119 k' k9' S' x2' x3' x4' x6' x7') := by
  subst hk
  unfold f_X4_cut_119 g_X4_cut_119
  exact lf_X4_cut_123 rfl hk9 hS hx2 hx3 hx4 hx6 hx7
def g_X4_cut_62 (k : Nat) (k9 : AM → Int → Int → Int → Int → Int → Option (AM × Int)) (S : AM) (x2 : Int) (x3 : Int) (x4 : Int) (x5 : Int) (x6 : Int) (x7 : Int) (y0 : Int) : Option (AM × Int) :=
  if y0 = 0 then
    hA x6 64 <|
    if (S (P_to k) (x6 : Int).toNat) ≤ x2 then
      g_X4_cut_119 k k9 S x2 x3 x4 x6 x7
    else
      (g_X4_trim k S x6 x2 x3).bind fun S1 =>
      g_X4_cut_119 k k9 S1 x2 x3 x4 x6 x7
  else
    (g_X4_release k S x6).bind fun S2 =>
    if x5 ≠ (-1) then
      hA x5 64 <|
      gS (uA S2 (P_next k) ((x5 : Int).toNat) x7) fun S3 =>
      g_X4_cut_123 k k9 S3 x2 x3 x4 x5 x7
    else
      g_X4_cut_123 k k9 S2 x2 x3 x7 x5 x7
set_option maxRecDepth 10000 in
theorem lf_X4_cut_62 {k k' : Nat} (hk : k = k') {k9 : Mem → Int32 → Int32 → Int32 → Int32 → Int32 → Option (Mem × Int32)} {k9' : AM → Int → Int → Int → Int → Int → Option (AM × Int)} (hk9 : ∀ {y0 : Mem} {y0' : AM}, (RT tC) y0 y0' → ∀ {y1 : Int32} {y1' : Int}, RI y1 y1' → ∀ {y2 : Int32} {y2' : Int}, RI y2 y2' → ∀ {y3 : Int32} {y3' : Int}, RI y3 y3' → ∀ {y4 : Int32} {y4' : Int}, RI y4 y4' → ∀ {y5 : Int32} {y5' : Int}, RI y5 y5' → Lf (RP (RT tC) RI) (k9 y0 y1 y2 y3 y4 y5) (k9' y0' y1' y2' y3' y4' y5')) {S : Mem} {S' : AM} (hS : (RT tC) S S') {x2 : Int32} {x2' : Int} (hx2 : RI x2 x2') {x3 : Int32} {x3' : Int} (hx3 : RI x3 x3') {x4 : Int32} {x4' : Int} (hx4 : RI x4 x4') {x5 : Int32} {x5' : Int} (hx5 : RI x5 x5') {x6 : Int32} {x6' : Int} (hx6 : RI x6 x6') {x7 : Int32} {x7' : Int} (hx7 : RI x7 x7') {y0 : Int32} {y0' : Int} (hy0 : RI y0 y0') : Lf (RP (RT tC) RI) (f_X4_cut_62 k k9 S x2 x3 x4 x5 x6 x7 y0) (g_X4_cut_62 k' k9' S' x2' x3' x4' x5' x6' x7' y0') := by
  subst hk
  unfold f_X4_cut_62 g_X4_cut_62
  refine Lf_ite (C_eq hy0 (RI.lit 0 (by decide))) (fun c1 => ?_) (fun c1 => ?_)
  · refine Lf_hA hx6.1 (by decide) (fun b2 => ?_)
    refine Lf_ite (C_le (RI.at hS rfl (tnE hx6.1 b2 (by decide)) rfl) hx2) (fun c3 => ?_) (fun c3 => ?_)
    · exact lf_X4_cut_119 rfl hk9 hS hx2 hx3 hx4 hx6 hx7
    · refine Lf_bind (lf_X4_trim rfl hS hx6 hx2 hx3) (fun S1 S1' hS1 => ?_)
      exact lf_X4_cut_119 rfl hk9 hS1 hx2 hx3 hx4 hx6 hx7
  · refine Lf_bind (lf_X4_release rfl hS hx6) (fun S2 S2' hS2 => ?_)
    refine Lf_ite (C_ne hx5 RI.m1) (fun c4 => ?_) (fun c4 => ?_)
    · refine Lf_hA hx5.1 (by decide) (fun b5 => ?_)
      refine Lf_st (RT.siq hS2 rfl (tnE hx5.1 b5 (by decide)) hx7 rfl) (fun S3 S3' hS3 => ?_)
      exact lf_X4_cut_123 rfl hk9 hS3 hx2 hx3 hx4 hx5 hx7
    · exact lf_X4_cut_123 rfl hk9 hS2 hx2 hx3 hx7 hx5 hx7
def g_X4_cut_61 (k : Nat) (k9 : AM → Int → Int → Int → Int → Int → Option (AM × Int)) (S : AM) (x2 : Int) (x3 : Int) (x4 : Int) (x5 : Int) (x6 : Int) (x7 : Int) : Option (AM × Int) :=
  g_X4_cut_62 k k9 S x2 x3 x4 x5 x6 x7 0
set_option maxRecDepth 10000 in
theorem lf_X4_cut_61 {k k' : Nat} (hk : k = k') {k9 : Mem → Int32 → Int32 → Int32 → Int32 → Int32 → Option (Mem × Int32)} {k9' : AM → Int → Int → Int → Int → Int → Option (AM × Int)} (hk9 : ∀ {y0 : Mem} {y0' : AM}, (RT tC) y0 y0' → ∀ {y1 : Int32} {y1' : Int}, RI y1 y1' → ∀ {y2 : Int32} {y2' : Int}, RI y2 y2' → ∀ {y3 : Int32} {y3' : Int}, RI y3 y3' → ∀ {y4 : Int32} {y4' : Int}, RI y4 y4' → ∀ {y5 : Int32} {y5' : Int}, RI y5 y5' → Lf (RP (RT tC) RI) (k9 y0 y1 y2 y3 y4 y5) (k9' y0' y1' y2' y3' y4' y5')) {S : Mem} {S' : AM} (hS : (RT tC) S S') {x2 : Int32} {x2' : Int} (hx2 : RI x2 x2') {x3 : Int32} {x3' : Int} (hx3 : RI x3 x3') {x4 : Int32} {x4' : Int} (hx4 : RI x4 x4') {x5 : Int32} {x5' : Int} (hx5 : RI x5 x5') {x6 : Int32} {x6' : Int} (hx6 : RI x6 x6') {x7 : Int32} {x7' : Int} (hx7 : RI x7 x7') : Lf (RP (RT tC) RI) (f_X4_cut_61 k k9 S x2 x3 x4 x5 x6 x7) (g_X4_cut_61 k' k9' S' x2' x3' x4' x5' x6' x7') := by
  subst hk
  unfold f_X4_cut_61 g_X4_cut_61
  exact lf_X4_cut_62 rfl hk9 hS hx2 hx3 hx4 hx5 hx6 hx7 (RI.lit 0 (by decide))
def g_X4_cut_9_b (k : Nat) (k9 : AM → Int → Int → Int → Int → Int → Option (AM × Int)) (S : AM) (x2 : Int) (x3 : Int) (x4 : Int) (x5 : Int) (x6 : Int) : Option (AM × Int) :=
  if x6 = (-1) then
    some (S, x4)
  else
    hA x6 64 <|
    if x3 ≤ (S (P_from k) (x6 : Int).toNat) then
      some (S, x4)
    else
      hA x6 64 <|
      hA x6 64 <|
      if (S (P_from k) (x6 : Int).toNat) < x2 then
        g_X4_cut_61 k k9 S x2 x3 x4 x5 x6 (S (P_next k) (x6 : Int).toNat)
      else
        hA x6 64 <|
        if x3 < (S (P_to k) (x6 : Int).toNat) then
          g_X4_cut_61 k k9 S x2 x3 x4 x5 x6 (S (P_next k) (x6 : Int).toNat)
        else
          g_X4_cut_62 k k9 S x2 x3 x4 x5 x6 (S (P_next k) (x6 : Int).toNat) 1
set_option maxRecDepth 10000 in
theorem lf_X4_cut_9_b {k k' : Nat} (hk : k = k') {k9 : Mem → Int32 → Int32 → Int32 → Int32 → Int32 → Option (Mem × Int32)} {k9' : AM → Int → Int → Int → Int → Int → Option (AM × Int)} (hk9 : ∀ {y0 : Mem} {y0' : AM}, (RT tC) y0 y0' → ∀ {y1 : Int32} {y1' : Int}, RI y1 y1' → ∀ {y2 : Int32} {y2' : Int}, RI y2 y2' → ∀ {y3 : Int32} {y3' : Int}, RI y3 y3' → ∀ {y4 : Int32} {y4' : Int}, RI y4 y4' → ∀ {y5 : Int32} {y5' : Int}, RI y5 y5' → Lf (RP (RT tC) RI) (k9 y0 y1 y2 y3 y4 y5) (k9' y0' y1' y2' y3' y4' y5')) {S : Mem} {S' : AM} (hS : (RT tC) S S') {x2 : Int32} {x2' : Int} (hx2 : RI x2 x2') {x3 : Int32} {x3' : Int} (hx3 : RI x3 x3') {x4 : Int32} {x4' : Int} (hx4 : RI x4 x4') {x5 : Int32} {x5' : Int} (hx5 : RI x5 x5') {x6 : Int32} {x6' : Int} (hx6 : RI x6 x6') : Lf (RP (RT tC) RI) (f_X4_cut_9_b k k9 S x2 x3 x4 x5 x6) (g_X4_cut_9_b k' k9' S' x2' x3' x4' x5' x6') := by
  subst hk
  unfold f_X4_cut_9_b g_X4_cut_9_b
  refine Lf_ite (C_eq hx6 RI.m1) (fun c1 => ?_) (fun c1 => ?_)
  · exact Lf_some (RP.mk hS hx4)
  · refine Lf_hA hx6.1 (by decide) (fun b2 => ?_)
    refine Lf_ite (C_le hx3 (RI.at hS rfl (tnE hx6.1 b2 (by decide)) rfl)) (fun c3 => ?_) (fun c3 => ?_)
    · exact Lf_some (RP.mk hS hx4)
    · refine Lf_hA hx6.1 (by decide) (fun b4 => ?_)
      refine Lf_hA hx6.1 (by decide) (fun b5 => ?_)
      refine Lf_ite (C_lt (RI.at hS rfl (tnE hx6.1 b2 (by decide)) rfl) hx2) (fun c6 => ?_) (fun c6 => ?_)
      · exact lf_X4_cut_61 rfl hk9 hS hx2 hx3 hx4 hx5 hx6 (RI.at hS rfl (tnE hx6.1 b2 (by decide)) rfl)
      · refine Lf_hA hx6.1 (by decide) (fun b7 => ?_)
        refine Lf_ite (C_lt hx3 (RI.at hS rfl (tnE hx6.1 b2 (by decide)) rfl)) (fun c8 => ?_) (fun c8 => ?_)
        · exact lf_X4_cut_61 rfl hk9 hS hx2 hx3 hx4 hx5 hx6 (RI.at hS rfl (tnE hx6.1 b2 (by decide)) rfl)
        · exact lf_X4_cut_62 rfl hk9 hS hx2 hx3 hx4 hx5 hx6 (RI.at hS rfl (tnE hx6.1 b2 (by decide)) rfl) (RI.lit 1 (by decide))
def g_X4_cut_9 (k : Nat) : Nat → AM → Int → Int → Int → Int → Int → Option (AM × Int)
  | 0, _, _, _, _, _, _ => none
  | n + 1, S, x2, x3, x4, x5, x6 => g_X4_cut_9_b k (g_X4_cut_9 k n) S x2 x3 x4 x5 x6
set_option maxRecDepth 10000 in
theorem lf_X4_cut_9 {k k' : Nat} (hk : k = k') (n : Nat) : ∀ {S : Mem} {S' : AM}, (RT tC) S S' → ∀ {x2 : Int32} {x2' : Int}, RI x2 x2' → ∀ {x3 : Int32} {x3' : Int}, RI x3 x3' → ∀ {x4 : Int32} {x4' : Int}, RI x4 x4' → ∀ {x5 : Int32} {x5' : Int}, RI x5 x5' → ∀ {x6 : Int32} {x6' : Int}, RI x6 x6' → Lf (RP (RT tC) RI) (f_X4_cut_9 k n S x2 x3 x4 x5 x6) (g_X4_cut_9 k' n S' x2' x3' x4' x5' x6') := by
  subst hk
  induction n with
  | zero => intros; exact Lf_none
  | succ n ih => intro S S' hS x2 x2' hx2 x3 x3' hx3 x4 x4' hx4 x5 x5' hx5 x6 x6' hx6; exact lf_X4_cut_9_b rfl ih hS hx2 hx3 hx4 hx5 hx6
def g_X4_cut (k : Nat) (S : AM) (x1 : Int) (x2 : Int) (x3 : Int) : Option (AM × Int) :=
  g_X4_cut_9 k FU S x2 x3 x1 (-1) x1
set_option maxRecDepth 10000 in
theorem lf_X4_cut {k k' : Nat} (hk : k = k') {S : Mem} {S' : AM} (hS : (RT tC) S S') {x1 : Int32} {x1' : Int} (hx1 : RI x1 x1') {x2 : Int32} {x2' : Int} (hx2 : RI x2 x2') {x3 : Int32} {x3' : Int} (hx3 : RI x3 x3') : Lf (RP (RT tC) RI) (f_X4_cut k S x1 x2 x3) (g_X4_cut k' S' x1' x2' x3') := by
  subst hk
  unfold f_X4_cut g_X4_cut
  exact lf_X4_cut_9 rfl FU hS hx2 hx3 hx1 RI.m1 hx1
def g_X2_fills_337 (k : Nat) (S : AM) (x2 : Nat) (x12 : Int) : Option (AM × Int) :=
  c32 (x12 - (S (S_o k x2) 2)) <|
  c32 ((S (H_o k) 11) + (mxZ (x12 - (S (S_o k x2) 2)) 0)) <|
  gS (uA S (H_o k) 11 ((S (H_o k) 11) + (mxZ (x12 - (S (S_o k x2) 2)) 0))) fun S1 =>
  gS (uA S1 (S_o k x2) 2 (mxZ (S1 (S_o k x2) 2) x12)) fun S2 =>
  if (S2 (H_o k) 21) ≠ 1 then
    some (S2, 1)
  else
    if (S2 (S_o k x2) 3) = 4 then
      some (S2, 1)
    else
      gS (uA S2 (S_o k x2) 3 2) fun S3 =>
      some (S3, 1)
set_option maxRecDepth 10000 in
theorem lf_X2_fills_337 {k k' : Nat} (hk : k = k') {S : Mem} {S' : AM} (hS : (RT tC) S S') {x2 x2' : Nat} (hx2 : x2 = x2') {x12 : Int32} {x12' : Int} (hx12 : RI x12 x12') : Lf (RP (RT tC) RI) (f_X2_fills_337 k S x2 x12) (g_X2_fills_337 k' S' x2' x12') := by
  subst hk
  subst hx2
  unfold f_X2_fills_337 g_X2_fills_337
  refine Lf_c32 (fun b1 => ?_)
  refine Lf_c32 (fun b2 => ?_)
  refine Lf_st (RT.siq hS rfl rfl (RI.mk (E_add (RI.at hS rfl rfl rfl).1 (RI.mx (RI.mk (E_sub hx12.1 (RI.at hS rfl rfl rfl).1) b1) (RI.lit 0 (by decide))).1) b2) rfl) (fun S1 S1' hS1 => ?_)
  refine Lf_st (RT.siq hS1 rfl rfl (RI.mx (RI.at hS1 rfl rfl rfl) hx12) rfl) (fun S2 S2' hS2 => ?_)
  refine Lf_ite (D_ne (RJ.at hS2 rfl rfl rfl) (RJ.lit 1 (by decide))) (fun c3 => ?_) (fun c3 => ?_)
  · exact Lf_some (RP.mk hS2 (RI.lit 1 (by decide)))
  · refine Lf_ite (C_eq (RI.at hS2 rfl rfl rfl) (RI.lit 4 (by decide))) (fun c4 => ?_) (fun c4 => ?_)
    · exact Lf_some (RP.mk hS2 (RI.lit 1 (by decide)))
    · refine Lf_st (RT.siq hS2 rfl rfl (RI.lit 2 (by decide)) rfl) (fun S3 S3' hS3 => ?_)
      exact Lf_some (RP.mk hS3 (RI.lit 1 (by decide)))
def g_X2_fills_310 (k : Nat) (S : AM) (x2 : Nat) (x4 : Int) (x5 : Int) (x12 : Int) (y0 : Int) : Option (AM × Int) :=
  gS (uA S (H_o k) 21 y0) fun S1 =>
  if x4 = 0 then
    g_X2_fills_337 k S1 x2 x12
  else
    gB2 (g_X4_cut k S1 (S1 (S_o k x2) 6) x5 x12) fun S2 v3 =>
    gS (uA S2 (S_o k x2) 6 v3) fun S4 =>
    g_X2_fills_337 k S4 x2 x12
set_option maxRecDepth 10000 in
theorem lf_X2_fills_310 {k k' : Nat} (hk : k = k') {S : Mem} {S' : AM} (hS : (RT tC) S S') {x2 x2' : Nat} (hx2 : x2 = x2') {x4 : Int32} {x4' : Int} (hx4 : RI x4 x4') {x5 : Int32} {x5' : Int} (hx5 : RI x5 x5') {x12 : Int32} {x12' : Int} (hx12 : RI x12 x12') {y0 : Int64} {y0' : Int} (hy0 : RJ y0 y0') : Lf (RP (RT tC) RI) (f_X2_fills_310 k S x2 x4 x5 x12 y0) (g_X2_fills_310 k' S' x2' x4' x5' x12' y0') := by
  subst hk
  subst hx2
  unfold f_X2_fills_310 g_X2_fills_310
  refine Lf_st (RT.sjq hS rfl rfl hy0 rfl) (fun S1 S1' hS1 => ?_)
  refine Lf_ite (C_eq hx4 (RI.lit 0 (by decide))) (fun c1 => ?_) (fun c1 => ?_)
  · exact lf_X2_fills_337 rfl hS1 rfl hx12
  · refine Lf_gB2 (lf_X4_cut rfl hS1 (RI.at hS1 rfl rfl rfl) hx5 hx12) (fun S2 S2' hS2 v3 v3' hv3 => ?_)
    refine Lf_st (RT.siq hS2 rfl rfl hv3 rfl) (fun S4 S4' hS4 => ?_)
    exact lf_X2_fills_337 rfl hS4 rfl hx12
def g_X2_fills_309 (k : Nat) (S : AM) (x2 : Nat) (x4 : Int) (x5 : Int) (x12 : Int) : Option (AM × Int) :=
  g_X2_fills_310 k S x2 x4 x5 x12 0
set_option maxRecDepth 10000 in
theorem lf_X2_fills_309 {k k' : Nat} (hk : k = k') {S : Mem} {S' : AM} (hS : (RT tC) S S') {x2 x2' : Nat} (hx2 : x2 = x2') {x4 : Int32} {x4' : Int} (hx4 : RI x4 x4') {x5 : Int32} {x5' : Int} (hx5 : RI x5 x5') {x12 : Int32} {x12' : Int} (hx12 : RI x12 x12') : Lf (RP (RT tC) RI) (f_X2_fills_309 k S x2 x4 x5 x12) (g_X2_fills_309 k' S' x2' x4' x5' x12') := by
  subst hk
  subst hx2
  unfold f_X2_fills_309 g_X2_fills_309
  exact lf_X2_fills_310 rfl hS rfl hx4 hx5 hx12 (RJ.lit 0 (by decide))
def g_X2_fills_230 (k : Nat) (S : AM) (x1 : Int) (x2 : Nat) (x4 : Int) (x5 : Int) (x8 : Int) (x11 : Int) : Option (AM × Int) :=
  gS (uA S (H_o k) 17 8) fun S1 =>
  gS (uA S1 (H_o k) 19 x1) fun S2 =>
  gS (uA S2 (H_o k) 20 x5) fun S3 =>
  gS (uA S3 (H_o k) 18 (mnZ x8 x11)) fun S4 =>
  (g_X5_copy k S4 x2 x5 (S4 (H_o k) 18)).bind fun S5 =>
  if (S5 (S_o k x2) 0) ≠ 1 then
    c32 (x5 + (S5 (H_o k) 18)) <|
    g_X2_fills_309 k S5 x2 x4 x5 (x5 + (S5 (H_o k) 18))
  else
    c32 (x5 + (S5 (H_o k) 18)) <|
    if (x5 + (S5 (H_o k) 18)) ≠ (S5 (S_o k x2) 1) then
      g_X2_fills_309 k S5 x2 x4 x5 (x5 + (S5 (H_o k) 18))
    else
      g_X2_fills_310 k S5 x2 x4 x5 (x5 + (S5 (H_o k) 18)) 1
set_option maxRecDepth 10000 in
theorem lf_X2_fills_230 {k k' : Nat} (hk : k = k') {S : Mem} {S' : AM} (hS : (RT tC) S S') {x1 : Int32} {x1' : Int} (hx1 : RI x1 x1') {x2 x2' : Nat} (hx2 : x2 = x2') {x4 : Int32} {x4' : Int} (hx4 : RI x4 x4') {x5 : Int32} {x5' : Int} (hx5 : RI x5 x5') {x8 : Int32} {x8' : Int} (hx8 : RI x8 x8') {x11 : Int32} {x11' : Int} (hx11 : RI x11 x11') : Lf (RP (RT tC) RI) (f_X2_fills_230 k S x1 x2 x4 x5 x8 x11) (g_X2_fills_230 k' S' x1' x2' x4' x5' x8' x11') := by
  subst hk
  subst hx2
  unfold f_X2_fills_230 g_X2_fills_230
  refine Lf_st (RT.siq hS rfl rfl (RI.lit 8 (by decide)) rfl) (fun S1 S1' hS1 => ?_)
  refine Lf_st (RT.sjq hS1 rfl rfl (RJ.mk (E_64 hx1) (R_64 hx1.2)) rfl) (fun S2 S2' hS2 => ?_)
  refine Lf_st (RT.sjq hS2 rfl rfl (RJ.mk (E_64 hx5) (R_64 hx5.2)) rfl) (fun S3 S3' hS3 => ?_)
  refine Lf_st (RT.siq hS3 rfl rfl (RI.mn hx8 hx11) rfl) (fun S4 S4' hS4 => ?_)
  refine Lf_bind (lf_X5_copy rfl hS4 rfl hx5 (RI.at hS4 rfl rfl rfl)) (fun S5 S5' hS5 => ?_)
  refine Lf_ite (C_ne (RI.at hS5 rfl rfl rfl) (RI.lit 1 (by decide))) (fun c1 => ?_) (fun c1 => ?_)
  · refine Lf_c32 (fun b2 => ?_)
    exact lf_X2_fills_309 rfl hS5 rfl hx4 hx5 (RI.mk (E_add hx5.1 (RI.at hS5 rfl rfl rfl).1) b2)
  · refine Lf_c32 (fun b3 => ?_)
    refine Lf_ite (C_ne (RI.mk (E_add hx5.1 (RI.at hS5 rfl rfl rfl).1) b3) (RI.at hS5 rfl rfl rfl)) (fun c4 => ?_) (fun c4 => ?_)
    · exact lf_X2_fills_309 rfl hS5 rfl hx4 hx5 (RI.mk (E_add hx5.1 (RI.at hS5 rfl rfl rfl).1) b3)
    · exact lf_X2_fills_310 rfl hS5 rfl hx4 hx5 (RI.mk (E_add hx5.1 (RI.at hS5 rfl rfl rfl).1) b3) (RJ.lit 1 (by decide))
def g_X2_fills_215 (k : Nat) (S : AM) (x1 : Int) (x2 : Nat) (x4 : Int) (x5 : Int) (x8 : Int) (x9 : Int) (x11 : Int) (y0 : Int) (y1 : Int) : Option (AM × Int) :=
  if y1 < y0 then
    some (S, 0)
  else
    if x8 ≠ 0 then
      g_X2_fills_230 k S x1 x2 x4 x5 x8 x11
    else
      if x9 ≠ 0 then
        g_X2_fills_230 k S x1 x2 x4 x5 x8 x11
      else
        some (S, 0)
set_option maxRecDepth 10000 in
theorem lf_X2_fills_215 {k k' : Nat} (hk : k = k') {S : Mem} {S' : AM} (hS : (RT tC) S S') {x1 : Int32} {x1' : Int} (hx1 : RI x1 x1') {x2 x2' : Nat} (hx2 : x2 = x2') {x4 : Int32} {x4' : Int} (hx4 : RI x4 x4') {x5 : Int32} {x5' : Int} (hx5 : RI x5 x5') {x8 : Int32} {x8' : Int} (hx8 : RI x8 x8') {x9 : Int32} {x9' : Int} (hx9 : RI x9 x9') {x11 : Int32} {x11' : Int} (hx11 : RI x11 x11') {y0 : Int32} {y0' : Int} (hy0 : RI y0 y0') {y1 : Int32} {y1' : Int} (hy1 : RI y1 y1') : Lf (RP (RT tC) RI) (f_X2_fills_215 k S x1 x2 x4 x5 x8 x9 x11 y0 y1) (g_X2_fills_215 k' S' x1' x2' x4' x5' x8' x9' x11' y0' y1') := by
  subst hk
  subst hx2
  unfold f_X2_fills_215 g_X2_fills_215
  refine Lf_ite (C_lt hy1 hy0) (fun c1 => ?_) (fun c1 => ?_)
  · exact Lf_some (RP.mk hS (RI.lit 0 (by decide)))
  · refine Lf_ite (C_ne hx8 (RI.lit 0 (by decide))) (fun c2 => ?_) (fun c2 => ?_)
    · exact lf_X2_fills_230 rfl hS hx1 rfl hx4 hx5 hx8 hx11
    · refine Lf_ite (C_ne hx9 (RI.lit 0 (by decide))) (fun c3 => ?_) (fun c3 => ?_)
      · exact lf_X2_fills_230 rfl hS hx1 rfl hx4 hx5 hx8 hx11
      · exact Lf_some (RP.mk hS (RI.lit 0 (by decide)))
def g_X2_fills_201 (k : Nat) (S : AM) (x1 : Int) (x2 : Nat) (x4 : Int) (x5 : Int) (x8 : Int) (x9 : Int) (y0 : Int) : Option (AM × Int) :=
  if x9 = 0 then
    g_X2_fills_215 k S x1 x2 x4 x5 x8 x9 y0 1 y0
  else
    g_X2_fills_215 k S x1 x2 x4 x5 x8 x9 y0 0 y0
set_option maxRecDepth 10000 in
theorem lf_X2_fills_201 {k k' : Nat} (hk : k = k') {S : Mem} {S' : AM} (hS : (RT tC) S S') {x1 : Int32} {x1' : Int} (hx1 : RI x1 x1') {x2 x2' : Nat} (hx2 : x2 = x2') {x4 : Int32} {x4' : Int} (hx4 : RI x4 x4') {x5 : Int32} {x5' : Int} (hx5 : RI x5 x5') {x8 : Int32} {x8' : Int} (hx8 : RI x8 x8') {x9 : Int32} {x9' : Int} (hx9 : RI x9 x9') {y0 : Int32} {y0' : Int} (hy0 : RI y0 y0') : Lf (RP (RT tC) RI) (f_X2_fills_201 k S x1 x2 x4 x5 x8 x9 y0) (g_X2_fills_201 k' S' x1' x2' x4' x5' x8' x9' y0') := by
  subst hk
  subst hx2
  unfold f_X2_fills_201 g_X2_fills_201
  refine Lf_ite (C_eq hx9 (RI.lit 0 (by decide))) (fun c1 => ?_) (fun c1 => ?_)
  · exact lf_X2_fills_215 rfl hS hx1 rfl hx4 hx5 hx8 hx9 hy0 (RI.lit 1 (by decide)) hy0
  · exact lf_X2_fills_215 rfl hS hx1 rfl hx4 hx5 hx8 hx9 hy0 (RI.lit 0 (by decide)) hy0
def g_X2_fills_175 (k : Nat) (S : AM) (x1 : Int) (x2 : Nat) (x4 : Int) (x5 : Int) (x8 : Int) (x9 : Int) (y0 : Int) (y1 : Int) : Option (AM × Int) :=
  c32 (y1 - y0) <|
  if 66 ≤ (y1 - y0) then
    c32 ((y1 - y0) - 2) <|
    g_X2_fills_201 k S x1 x2 x4 x5 x8 x9 ((y1 - y0) - 2)
  else
    c32 ((y1 - y0) - 1) <|
    g_X2_fills_201 k S x1 x2 x4 x5 x8 x9 (mnZ ((y1 - y0) - 1) 63)
set_option maxRecDepth 10000 in
theorem lf_X2_fills_175 {k k' : Nat} (hk : k = k') {S : Mem} {S' : AM} (hS : (RT tC) S S') {x1 : Int32} {x1' : Int} (hx1 : RI x1 x1') {x2 x2' : Nat} (hx2 : x2 = x2') {x4 : Int32} {x4' : Int} (hx4 : RI x4 x4') {x5 : Int32} {x5' : Int} (hx5 : RI x5 x5') {x8 : Int32} {x8' : Int} (hx8 : RI x8 x8') {x9 : Int32} {x9' : Int} (hx9 : RI x9 x9') {y0 : Int32} {y0' : Int} (hy0 : RI y0 y0') {y1 : Int32} {y1' : Int} (hy1 : RI y1 y1') : Lf (RP (RT tC) RI) (f_X2_fills_175 k S x1 x2 x4 x5 x8 x9 y0 y1) (g_X2_fills_175 k' S' x1' x2' x4' x5' x8' x9' y0' y1') := by
  subst hk
  subst hx2
  unfold f_X2_fills_175 g_X2_fills_175
  refine Lf_c32 (fun b1 => ?_)
  refine Lf_ite (C_le (RI.lit 66 (by decide)) (RI.mk (E_sub hy1.1 hy0.1) b1)) (fun c2 => ?_) (fun c2 => ?_)
  · refine Lf_c32 (fun b3 => ?_)
    exact lf_X2_fills_201 rfl hS hx1 rfl hx4 hx5 hx8 hx9 (RI.mk (E_sub (E_sub hy1.1 hy0.1) (li32 2)) b3)
  · refine Lf_c32 (fun b4 => ?_)
    exact lf_X2_fills_201 rfl hS hx1 rfl hx4 hx5 hx8 hx9 (RI.mn (RI.mk (E_sub (E_sub hy1.1 hy0.1) (li32 1)) b4) (RI.lit 63 (by decide)))
def g_X2_fills_149 (k : Nat) (S : AM) (x1 : Int) (x2 : Nat) (x3 : Int) (x4 : Int) (x5 : Int) (x8 : Int) (y0 : Int) : Option (AM × Int) :=
  (g_X1_sizeOf x1).bind fun v1 =>
  if x5 ≠ 0 then
    (g_X1_sizeOf x5).bind fun v2 =>
    c32 ((x3 - 1) - v1) <|
    g_X2_fills_175 k S x1 x2 x4 x5 x8 y0 v2 ((x3 - 1) - v1)
  else
    c32 ((x3 - 1) - v1) <|
    g_X2_fills_175 k S x1 x2 x4 x5 x8 y0 0 ((x3 - 1) - v1)
set_option maxRecDepth 10000 in
theorem lf_X2_fills_149 {k k' : Nat} (hk : k = k') {S : Mem} {S' : AM} (hS : (RT tC) S S') {x1 : Int32} {x1' : Int} (hx1 : RI x1 x1') {x2 x2' : Nat} (hx2 : x2 = x2') {x3 : Int32} {x3' : Int} (hx3 : RI x3 x3') {x4 : Int32} {x4' : Int} (hx4 : RI x4 x4') {x5 : Int32} {x5' : Int} (hx5 : RI x5 x5') {x8 : Int32} {x8' : Int} (hx8 : RI x8 x8') {y0 : Int32} {y0' : Int} (hy0 : RI y0 y0') : Lf (RP (RT tC) RI) (f_X2_fills_149 k S x1 x2 x3 x4 x5 x8 y0) (g_X2_fills_149 k' S' x1' x2' x3' x4' x5' x8' y0') := by
  subst hk
  subst hx2
  unfold f_X2_fills_149 g_X2_fills_149
  refine Lf_gS (lf_X1_sizeOf (RJ.mk (E_64 hx1) (R_64 hx1.2))) (fun v1 v1' hv1 => ?_)
  refine Lf_ite (C_ne hx5 (RI.lit 0 (by decide))) (fun c1 => ?_) (fun c1 => ?_)
  · refine Lf_gS (lf_X1_sizeOf (RJ.mk (E_64 hx5) (R_64 hx5.2))) (fun v2 v2' hv2 => ?_)
    refine Lf_c32 (fun b2 => ?_)
    exact lf_X2_fills_175 rfl hS hx1 rfl hx4 hx5 hx8 hy0 hv2 (RI.mk (E_sub (E_sub hx3.1 (li32 1)) hv1.1) b2)
  · refine Lf_c32 (fun b3 => ?_)
    exact lf_X2_fills_175 rfl hS hx1 rfl hx4 hx5 hx8 hy0 (RI.lit 0 (by decide)) (RI.mk (E_sub (E_sub hx3.1 (li32 1)) hv1.1) b3)
def g_X2_fills_144 (k : Nat) (S : AM) (x1 : Int) (x2 : Nat) (x3 : Int) (x4 : Int) (x5 : Int) (x8 : Int) : Option (AM × Int) :=
  g_X2_fills_149 k S x1 x2 x3 x4 x5 x8 1
set_option maxRecDepth 10000 in
theorem lf_X2_fills_144 {k k' : Nat} (hk : k = k') {S : Mem} {S' : AM} (hS : (RT tC) S S') {x1 : Int32} {x1' : Int} (hx1 : RI x1 x1') {x2 x2' : Nat} (hx2 : x2 = x2') {x3 : Int32} {x3' : Int} (hx3 : RI x3 x3') {x4 : Int32} {x4' : Int} (hx4 : RI x4 x4') {x5 : Int32} {x5' : Int} (hx5 : RI x5 x5') {x8 : Int32} {x8' : Int} (hx8 : RI x8 x8') : Lf (RP (RT tC) RI) (f_X2_fills_144 k S x1 x2 x3 x4 x5 x8) (g_X2_fills_144 k' S' x1' x2' x3' x4' x5' x8') := by
  subst hk
  subst hx2
  unfold f_X2_fills_144 g_X2_fills_144
  exact lf_X2_fills_149 rfl hS hx1 rfl hx3 hx4 hx5 hx8 (RI.lit 1 (by decide))
def g_X2_fills_148 (k : Nat) (S : AM) (x1 : Int) (x2 : Nat) (x3 : Int) (x4 : Int) (x5 : Int) (x8 : Int) : Option (AM × Int) :=
  g_X2_fills_149 k S x1 x2 x3 x4 x5 x8 0
set_option maxRecDepth 10000 in
theorem lf_X2_fills_148 {k k' : Nat} (hk : k = k') {S : Mem} {S' : AM} (hS : (RT tC) S S') {x1 : Int32} {x1' : Int} (hx1 : RI x1 x1') {x2 x2' : Nat} (hx2 : x2 = x2') {x3 : Int32} {x3' : Int} (hx3 : RI x3 x3') {x4 : Int32} {x4' : Int} (hx4 : RI x4 x4') {x5 : Int32} {x5' : Int} (hx5 : RI x5 x5') {x8 : Int32} {x8' : Int} (hx8 : RI x8 x8') : Lf (RP (RT tC) RI) (f_X2_fills_148 k S x1 x2 x3 x4 x5 x8) (g_X2_fills_148 k' S' x1' x2' x3' x4' x5' x8') := by
  subst hk
  subst hx2
  unfold f_X2_fills_148 g_X2_fills_148
  exact lf_X2_fills_149 rfl hS hx1 rfl hx3 hx4 hx5 hx8 (RI.lit 0 (by decide))
def g_X2_fills_110 (k : Nat) (S : AM) (x1 : Int) (x2 : Nat) (x3 : Int) (x4 : Int) (x5 : Int) (y0 : Int) : Option (AM × Int) :=
  if y0 ≠ 0 then
    g_X2_fills_148 k S x1 x2 x3 x4 x5 y0
  else
    if (S (S_o k x2) 2) ≠ (S (S_o k x2) 1) then
      g_X2_fills_148 k S x1 x2 x3 x4 x5 y0
    else
      if (S (S_o k x2) 3) = 1 then
        g_X2_fills_144 k S x1 x2 x3 x4 x5 y0
      else
        if (S (S_o k x2) 3) ≠ 3 then
          g_X2_fills_148 k S x1 x2 x3 x4 x5 y0
        else
          g_X2_fills_144 k S x1 x2 x3 x4 x5 y0
set_option maxRecDepth 10000 in
theorem lf_X2_fills_110 {k k' : Nat} (hk : k = k') {S : Mem} {S' : AM} (hS : (RT tC) S S') {x1 : Int32} {x1' : Int} (hx1 : RI x1 x1') {x2 x2' : Nat} (hx2 : x2 = x2') {x3 : Int32} {x3' : Int} (hx3 : RI x3 x3') {x4 : Int32} {x4' : Int} (hx4 : RI x4 x4') {x5 : Int32} {x5' : Int} (hx5 : RI x5 x5') {y0 : Int32} {y0' : Int} (hy0 : RI y0 y0') : Lf (RP (RT tC) RI) (f_X2_fills_110 k S x1 x2 x3 x4 x5 y0) (g_X2_fills_110 k' S' x1' x2' x3' x4' x5' y0') := by
  subst hk
  subst hx2
  unfold f_X2_fills_110 g_X2_fills_110
  refine Lf_ite (C_ne hy0 (RI.lit 0 (by decide))) (fun c1 => ?_) (fun c1 => ?_)
  · exact lf_X2_fills_148 rfl hS hx1 rfl hx3 hx4 hx5 hy0
  · refine Lf_ite (C_ne (RI.at hS rfl rfl rfl) (RI.at hS rfl rfl rfl)) (fun c2 => ?_) (fun c2 => ?_)
    · exact lf_X2_fills_148 rfl hS hx1 rfl hx3 hx4 hx5 hy0
    · refine Lf_ite (C_eq (RI.at hS rfl rfl rfl) (RI.lit 1 (by decide))) (fun c3 => ?_) (fun c3 => ?_)
      · exact lf_X2_fills_144 rfl hS hx1 rfl hx3 hx4 hx5 hy0
      · refine Lf_ite (C_ne (RI.at hS rfl rfl rfl) (RI.lit 3 (by decide))) (fun c4 => ?_) (fun c4 => ?_)
        · exact lf_X2_fills_148 rfl hS hx1 rfl hx3 hx4 hx5 hy0
        · exact lf_X2_fills_144 rfl hS hx1 rfl hx3 hx4 hx5 hy0
def g_X2_fills_39 (k : Nat) (S : AM) (x1 : Int) (x2 : Nat) (x3 : Int) (x4 : Int) (y0 : Int) : Option (AM × Int) :=
  if x4 = 0 then
    c64 (((S (S_o k x2) 2) + (S (H_o k) 9)) - (S (H_o k) 11)) <|
    c64 ((mnZ (S (S_o k x2) 1) (mnZ (S (S_o k x2) 8) (((S (S_o k x2) 2) + (S (H_o k) 9)) - (S (H_o k) 11)))) - (S (S_o k x2) 2)) <|
    c32 (mxZ ((mnZ (S (S_o k x2) 1) (mnZ (S (S_o k x2) 8) (((S (S_o k x2) 2) + (S (H_o k) 9)) - (S (H_o k) 11)))) - (S (S_o k x2) 2)) 0) <|
    g_X2_fills_110 k S x1 x2 x3 x4 y0 (mxZ ((mnZ (S (S_o k x2) 1) (mnZ (S (S_o k x2) 8) (((S (S_o k x2) 2) + (S (H_o k) 9)) - (S (H_o k) 11)))) - (S (S_o k x2) 2)) 0)
  else
    hA (S (S_o k x2) 6) 64 <|
    c32 ((S (P_to k) ((S (S_o k x2) 6) : Int).toNat) - y0) <|
    g_X2_fills_110 k S x1 x2 x3 x4 y0 ((S (P_to k) ((S (S_o k x2) 6) : Int).toNat) - y0)
set_option maxRecDepth 10000 in
theorem lf_X2_fills_39 {k k' : Nat} (hk : k = k') {S : Mem} {S' : AM} (hS : (RT tC) S S') {x1 : Int32} {x1' : Int} (hx1 : RI x1 x1') {x2 x2' : Nat} (hx2 : x2 = x2') {x3 : Int32} {x3' : Int} (hx3 : RI x3 x3') {x4 : Int32} {x4' : Int} (hx4 : RI x4 x4') {y0 : Int32} {y0' : Int} (hy0 : RI y0 y0') : Lf (RP (RT tC) RI) (f_X2_fills_39 k S x1 x2 x3 x4 y0) (g_X2_fills_39 k' S' x1' x2' x3' x4' y0') := by
  subst hk
  subst hx2
  unfold f_X2_fills_39 g_X2_fills_39
  refine Lf_ite (C_eq hx4 (RI.lit 0 (by decide))) (fun c1 => ?_) (fun c1 => ?_)
  · refine Lf_c64 (fun b2 => ?_)
    refine Lf_c64 (fun b3 => ?_)
    refine Lf_c32 (fun b4 => ?_)
    exact lf_X2_fills_110 rfl hS hx1 rfl hx3 hx4 hy0 (RI.mk (F_32 (RJ.mx (RJ.mk (F_sub (RJ.mn (RJ.mk (E_64 (RI.at hS rfl rfl rfl)) (R_64 (RI.at hS rfl rfl rfl).2)) (RJ.mn (RJ.at hS rfl rfl rfl) (RJ.mk (F_sub (F_add (E_64 (RI.at hS rfl rfl rfl)) (RJ.at hS rfl rfl rfl).1) (E_64 (RI.at hS rfl rfl rfl))) b2))).1 (E_64 (RI.at hS rfl rfl rfl))) b3) (RJ.lit 0 (by decide))).1) b4)
  · refine Lf_hA (RI.at hS rfl rfl rfl).1 (by decide) (fun b5 => ?_)
    refine Lf_c32 (fun b6 => ?_)
    exact lf_X2_fills_110 rfl hS hx1 rfl hx3 hx4 hy0 (RI.mk (E_sub (RI.at hS rfl (tnE (RI.at hS rfl rfl rfl).1 b5 (by decide)) rfl).1 hy0.1) b6)
def g_X2_fills_13 (k : Nat) (S : AM) (x1 : Int) (x2 : Nat) (x3 : Int) (y0 : Int) : Option (AM × Int) :=
  if y0 = 0 then
    g_X2_fills_39 k S x1 x2 x3 y0 (S (S_o k x2) 2)
  else
    hA (S (S_o k x2) 6) 64 <|
    g_X2_fills_39 k S x1 x2 x3 y0 (S (P_from k) ((S (S_o k x2) 6) : Int).toNat)
set_option maxRecDepth 10000 in
theorem lf_X2_fills_13 {k k' : Nat} (hk : k = k') {S : Mem} {S' : AM} (hS : (RT tC) S S') {x1 : Int32} {x1' : Int} (hx1 : RI x1 x1') {x2 x2' : Nat} (hx2 : x2 = x2') {x3 : Int32} {x3' : Int} (hx3 : RI x3 x3') {y0 : Int32} {y0' : Int} (hy0 : RI y0 y0') : Lf (RP (RT tC) RI) (f_X2_fills_13 k S x1 x2 x3 y0) (g_X2_fills_13 k' S' x1' x2' x3' y0') := by
  subst hk
  subst hx2
  unfold f_X2_fills_13 g_X2_fills_13
  refine Lf_ite (C_eq hy0 (RI.lit 0 (by decide))) (fun c1 => ?_) (fun c1 => ?_)
  · exact lf_X2_fills_39 rfl hS hx1 rfl hx3 hy0 (RI.at hS rfl rfl rfl)
  · refine Lf_hA (RI.at hS rfl rfl rfl).1 (by decide) (fun b2 => ?_)
    exact lf_X2_fills_39 rfl hS hx1 rfl hx3 hy0 (RI.at hS rfl (tnE (RI.at hS rfl rfl rfl).1 b2 (by decide)) rfl)
def g_X2_fills (k : Nat) (S : AM) (x1 : Int) (x2 : Nat) (x3 : Int) : Option (AM × Int) :=
  if (S (S_o k x2) 6) = (-1) then
    g_X2_fills_13 k S x1 x2 x3 0
  else
    g_X2_fills_13 k S x1 x2 x3 1
set_option maxRecDepth 10000 in
theorem lf_X2_fills {k k' : Nat} (hk : k = k') {S : Mem} {S' : AM} (hS : (RT tC) S S') {x1 : Int32} {x1' : Int} (hx1 : RI x1 x1') {x2 x2' : Nat} (hx2 : x2 = x2') {x3 : Int32} {x3' : Int} (hx3 : RI x3 x3') : Lf (RP (RT tC) RI) (f_X2_fills k S x1 x2 x3) (g_X2_fills k' S' x1' x2' x3') := by
  subst hk
  subst hx2
  unfold f_X2_fills g_X2_fills
  refine Lf_ite (C_eq (RI.at hS rfl rfl rfl) RI.m1) (fun c1 => ?_) (fun c1 => ?_)
  · exact lf_X2_fills_13 rfl hS hx1 rfl hx3 (RI.lit 0 (by decide))
  · exact lf_X2_fills_13 rfl hS hx1 rfl hx3 (RI.lit 1 (by decide))
def g_X2_fillsStream_62 (E : L3 → Bool) (k : Nat) (k2 : AM → Int → Int → Option (AM × Int)) (S : AM) (x1 : Int) (x2 : Int) : Option (AM × Int) :=
  c32 (x2 + 1) <|
  k2 S x1 (x2 + 1)
set_option maxRecDepth 10000 in
theorem lf_X2_fillsStream_62 (E : L3 → Bool) {k k' : Nat} (hk : k = k') {k2 : Mem → Int32 → Int32 → Option (Mem × Int32)} {k2' : AM → Int → Int → Option (AM × Int)} (hk2 : ∀ {y0 : Mem} {y0' : AM}, (RT tC) y0 y0' → ∀ {y1 : Int32} {y1' : Int}, RI y1 y1' → ∀ {y2 : Int32} {y2' : Int}, RI y2 y2' → Lf (RP (RT tC) RI) (k2 y0 y1 y2) (k2' y0' y1' y2')) {S : Mem} {S' : AM} (hS : (RT tC) S S') {x1 : Int32} {x1' : Int} (hx1 : RI x1 x1') {x2 : Int32} {x2' : Int} (hx2 : RI x2 x2') : Lf (RP (RT tC) RI) (f_X2_fillsStream_62 E k k2 S x1 x2) (g_X2_fillsStream_62 E k' k2' S' x1' x2') := by
  subst hk
  unfold f_X2_fillsStream_62 g_X2_fillsStream_62
  refine Lf_c32 (fun b1 => ?_)
  exact hk2 hS hx1 (RI.mk (E_add hx2.1 (li32 1)) b1)
def g_X2_fillsStream_2_b (E : L3 → Bool) (k : Nat) (k2 : AM → Int → Int → Option (AM × Int)) (S : AM) (x1 : Int) (x2 : Int) : Option (AM × Int) :=
  if 256 < x2 then
    some (S, 0)
  else
    hA ((S (H_o k) 15) + x2) 2147483648 <|
    hA (((S (H_o k) 15) + x2) - ((((S (H_o k) 15) + x2) / 256) * 256)) 256 <|
    if E (S_o k ((((S (H_o k) 15) + x2) - ((((S (H_o k) 15) + x2) / 256) * 256)) : Int).toNat) = true then
      (g_X9_isLive k ((((S (H_o k) 15) + x2) - ((((S (H_o k) 15) + x2) / 256) * 256)) : Int).toNat S).bind fun v2 =>
      if v2 = 0 then
        g_X2_fillsStream_62 E k k2 S x1 x2
      else
        c32 (((S (H_o k) 15) + x2) - ((((S (H_o k) 15) + x2) / 256) * 256)) <|
        gB2 (g_X2_fills k S (((S (H_o k) 15) + x2) - ((((S (H_o k) 15) + x2) / 256) * 256)) ((((S (H_o k) 15) + x2) - ((((S (H_o k) 15) + x2) / 256) * 256)) : Int).toNat x1) fun S3 v4 =>
        if v4 ≠ 0 then
          gS (uA S3 (H_o k) 15 (((S (H_o k) 15) + x2) - ((((S (H_o k) 15) + x2) / 256) * 256))) fun S5 =>
          some (S5, 1)
        else
          g_X2_fillsStream_62 E k k2 S3 x1 x2
    else
      g_X2_fillsStream_62 E k k2 S x1 x2
set_option maxRecDepth 10000 in
theorem lf_X2_fillsStream_2_b (E : L3 → Bool) {k k' : Nat} (hk : k = k') {k2 : Mem → Int32 → Int32 → Option (Mem × Int32)} {k2' : AM → Int → Int → Option (AM × Int)} (hk2 : ∀ {y0 : Mem} {y0' : AM}, (RT tC) y0 y0' → ∀ {y1 : Int32} {y1' : Int}, RI y1 y1' → ∀ {y2 : Int32} {y2' : Int}, RI y2 y2' → Lf (RP (RT tC) RI) (k2 y0 y1 y2) (k2' y0' y1' y2')) {S : Mem} {S' : AM} (hS : (RT tC) S S') {x1 : Int32} {x1' : Int} (hx1 : RI x1 x1') {x2 : Int32} {x2' : Int} (hx2 : RI x2 x2') : Lf (RP (RT tC) RI) (f_X2_fillsStream_2_b E k k2 S x1 x2) (g_X2_fillsStream_2_b E k' k2' S' x1' x2') := by
  subst hk
  unfold f_X2_fillsStream_2_b g_X2_fillsStream_2_b
  refine Lf_ite (C_lt (RI.lit 256 (by decide)) hx2) (fun c1 => ?_) (fun c1 => ?_)
  · exact Lf_some (RP.mk hS (RI.lit 0 (by decide)))
  · refine Lf_hD (fun b2 => ?_)
    refine Lf_hA (E_sub (E_add (RI.at hS rfl rfl rfl).1 hx2.1) (E_mul (E_div (E_add (RI.at hS rfl rfl rfl).1 hx2.1) (li32 256) b2 (by decide) (by decide)) (li32 256))) (by decide) (fun b3 => ?_)
    refine Lf_ite (iff_of_eq (congrArg (fun q => E q = true) (congrArg (S_o k) (tnE (E_sub (E_add (RI.at hS rfl rfl rfl).1 hx2.1) (E_mul (E_div (E_add (RI.at hS rfl rfl rfl).1 hx2.1) (li32 256) b2 (by decide) (by decide)) (li32 256))) b3 (by decide))))) (fun c4 => ?_) (fun c4 => ?_)
    · refine Lf_gS (lf_X9_isLive rfl (tnE (E_sub (E_add (RI.at hS rfl rfl rfl).1 hx2.1) (E_mul (E_div (E_add (RI.at hS rfl rfl rfl).1 hx2.1) (li32 256) b2 (by decide) (by decide)) (li32 256))) b3 (by decide)) hS) (fun v2 v2' hv2 => ?_)
      refine Lf_ite (C_eq hv2 (RI.lit 0 (by decide))) (fun c5 => ?_) (fun c5 => ?_)
      · exact lf_X2_fillsStream_62 E rfl hk2 hS hx1 hx2
      · refine Lf_c32 (fun b6 => ?_)
        refine Lf_gB2 (lf_X2_fills rfl hS (RI.mk (E_sub (E_add (RI.at hS rfl rfl rfl).1 hx2.1) (E_mul (E_div (E_add (RI.at hS rfl rfl rfl).1 hx2.1) (li32 256) b2 (by decide) (by decide)) (li32 256))) b6) (tnE (E_sub (E_add (RI.at hS rfl rfl rfl).1 hx2.1) (E_mul (E_div (E_add (RI.at hS rfl rfl rfl).1 hx2.1) (li32 256) b2 (by decide) (by decide)) (li32 256))) b3 (by decide)) hx1) (fun S3 S3' hS3 v4 v4' hv4 => ?_)
        refine Lf_ite (C_ne hv4 (RI.lit 0 (by decide))) (fun c7 => ?_) (fun c7 => ?_)
        · refine Lf_st (RT.siq hS3 rfl rfl (RI.mk (E_sub (E_add (RI.at hS rfl rfl rfl).1 hx2.1) (E_mul (E_div (E_add (RI.at hS rfl rfl rfl).1 hx2.1) (li32 256) b2 (by decide) (by decide)) (li32 256))) b6) rfl) (fun S5 S5' hS5 => ?_)
          exact Lf_some (RP.mk hS5 (RI.lit 1 (by decide)))
        · exact lf_X2_fillsStream_62 E rfl hk2 hS3 hx1 hx2
    · exact lf_X2_fillsStream_62 E rfl hk2 hS hx1 hx2
def g_X2_fillsStream_2 (E : L3 → Bool) (k : Nat) : Nat → AM → Int → Int → Option (AM × Int)
  | 0, _, _, _ => none
  | n + 1, S, x1, x2 => g_X2_fillsStream_2_b E k (g_X2_fillsStream_2 E k n) S x1 x2
set_option maxRecDepth 10000 in
theorem lf_X2_fillsStream_2 (E : L3 → Bool) {k k' : Nat} (hk : k = k') (n : Nat) : ∀ {S : Mem} {S' : AM}, (RT tC) S S' → ∀ {x1 : Int32} {x1' : Int}, RI x1 x1' → ∀ {x2 : Int32} {x2' : Int}, RI x2 x2' → Lf (RP (RT tC) RI) (f_X2_fillsStream_2 E k n S x1 x2) (g_X2_fillsStream_2 E k' n S' x1' x2') := by
  subst hk
  induction n with
  | zero => intros; exact Lf_none
  | succ n ih => intro S S' hS x1 x1' hx1 x2 x2' hx2; exact lf_X2_fillsStream_2_b E rfl ih hS hx1 hx2
def g_X2_fillsStream (E : L3 → Bool) (k : Nat) (S : AM) (x1 : Int) : Option (AM × Int) :=
  g_X2_fillsStream_2 E k FU S x1 1
set_option maxRecDepth 10000 in
theorem lf_X2_fillsStream (E : L3 → Bool) {k k' : Nat} (hk : k = k') {S : Mem} {S' : AM} (hS : (RT tC) S S') {x1 : Int32} {x1' : Int} (hx1 : RI x1 x1') : Lf (RP (RT tC) RI) (f_X2_fillsStream E k S x1) (g_X2_fillsStream E k' S' x1') := by
  subst hk
  unfold f_X2_fillsStream g_X2_fillsStream
  exact lf_X2_fillsStream_2 E rfl FU hS hx1 (RI.lit 1 (by decide))
def g_X2_fill_32 (E : L3 → Bool) (k : Nat) (S : AM) : Option (AM × Int) :=
  some (S, 1)
set_option maxRecDepth 10000 in
theorem lf_X2_fill_32 (E : L3 → Bool) {k k' : Nat} (hk : k = k') {S : Mem} {S' : AM} (hS : (RT tC) S S') : Lf (RP (RT tC) RI) (f_X2_fill_32 E k S) (g_X2_fill_32 E k' S') := by
  subst hk
  unfold f_X2_fill_32 g_X2_fill_32
  exact Lf_some (RP.mk hS (RI.lit 1 (by decide)))
def g_X2_fill (E : L3 → Bool) (k : Nat) (S : AM) (x1 : Int) : Option (AM × Int) :=
  gB2 (g_X2_fillsEnds E k S x1) fun S1 v2 =>
  if v2 ≠ 0 then
    g_X2_fill_32 E k S1
  else
    gB2 (g_X2_fillsGrants E k S1 x1) fun S3 v4 =>
    if v4 ≠ 0 then
      g_X2_fill_32 E k S3
    else
      gB2 (g_X2_fillsBlocked E k S3 x1) fun S5 v6 =>
      if v6 ≠ 0 then
        g_X2_fill_32 E k S5
      else
        gB2 (g_X2_fillsStream E k S5 x1) fun S7 v8 =>
        if v8 = 0 then
          some (S7, 0)
        else
          g_X2_fill_32 E k S7
set_option maxRecDepth 10000 in
theorem lf_X2_fill (E : L3 → Bool) {k k' : Nat} (hk : k = k') {S : Mem} {S' : AM} (hS : (RT tC) S S') {x1 : Int32} {x1' : Int} (hx1 : RI x1 x1') : Lf (RP (RT tC) RI) (f_X2_fill E k S x1) (g_X2_fill E k' S' x1') := by
  subst hk
  unfold f_X2_fill g_X2_fill
  refine Lf_gB2 (lf_X2_fillsEnds E rfl hS hx1) (fun S1 S1' hS1 v2 v2' hv2 => ?_)
  refine Lf_ite (C_ne hv2 (RI.lit 0 (by decide))) (fun c1 => ?_) (fun c1 => ?_)
  · exact lf_X2_fill_32 E rfl hS1
  · refine Lf_gB2 (lf_X2_fillsGrants E rfl hS1 hx1) (fun S3 S3' hS3 v4 v4' hv4 => ?_)
    refine Lf_ite (C_ne hv4 (RI.lit 0 (by decide))) (fun c2 => ?_) (fun c2 => ?_)
    · exact lf_X2_fill_32 E rfl hS3
    · refine Lf_gB2 (lf_X2_fillsBlocked E rfl hS3 hx1) (fun S5 S5' hS5 v6 v6' hv6 => ?_)
      refine Lf_ite (C_ne hv6 (RI.lit 0 (by decide))) (fun c3 => ?_) (fun c3 => ?_)
      · exact lf_X2_fill_32 E rfl hS5
      · refine Lf_gB2 (lf_X2_fillsStream E rfl hS5 hx1) (fun S7 S7' hS7 v8 v8' hv8 => ?_)
        refine Lf_ite (C_eq hv8 (RI.lit 0 (by decide))) (fun c4 => ?_) (fun c4 => ?_)
        · exact Lf_some (RP.mk hS7 (RI.lit 0 (by decide)))
        · exact lf_X2_fill_32 E rfl hS7
def g_X2_bytes_38 (k : Nat) (S : AM) (y0 : Int) (y1 : Int) : Option (Int) :=
  (g_X1_sizeOf (S (H_o k) 18)).bind fun v1 =>
  c32 (((y1 + y0) + v1) + (S (H_o k) 18)) <|
  some (((y1 + y0) + v1) + (S (H_o k) 18))
set_option maxRecDepth 10000 in
theorem lf_X2_bytes_38 {k k' : Nat} (hk : k = k') {S : Mem} {S' : AM} (hS : (RT tC) S S') {y0 : Int32} {y0' : Int} (hy0 : RI y0 y0') {y1 : Int32} {y1' : Int} (hy1 : RI y1 y1') : Lp RI (f_X2_bytes_38 k S y0 y1) (g_X2_bytes_38 k' S' y0' y1') := by
  subst hk
  unfold f_X2_bytes_38 g_X2_bytes_38
  refine Lp_gS (lf_X1_sizeOf (RJ.mk (E_64 (RI.at hS rfl rfl rfl)) (R_64 (RI.at hS rfl rfl rfl).2))) (fun v1 v1' hv1 => ?_)
  refine Lp_c32 (fun b1 => ?_)
  exact Lp_val (RI.mk (E_add (E_add (E_add hy1.1 hy0.1) hv1.1) (RI.at hS rfl rfl rfl).1) b1)
def g_X2_bytes_108 (k : Nat) (S : AM) (x1 : Int) : Option (Int) :=
  if (S (H_o k) 17) ≠ 4 then
    some (x1)
  else
    (g_X1_sizeOf (S (H_o k) 21)).bind fun v1 =>
    c32 (x1 + v1) <|
    some (x1 + v1)
set_option maxRecDepth 10000 in
theorem lf_X2_bytes_108 {k k' : Nat} (hk : k = k') {S : Mem} {S' : AM} (hS : (RT tC) S S') {x1 : Int32} {x1' : Int} (hx1 : RI x1 x1') : Lp RI (f_X2_bytes_108 k S x1) (g_X2_bytes_108 k' S' x1') := by
  subst hk
  unfold f_X2_bytes_108 g_X2_bytes_108
  refine Lp_ite (C_ne (RI.at hS rfl rfl rfl) (RI.lit 4 (by decide))) (fun c1 => ?_) (fun c1 => ?_)
  · exact Lp_val hx1
  · refine Lp_gS (lf_X1_sizeOf (RJ.at hS rfl rfl rfl)) (fun v1 v1' hv1 => ?_)
    refine Lp_c32 (fun b2 => ?_)
    exact Lp_val (RI.mk (E_add hx1.1 hv1.1) b2)
def g_X2_bytes_98 (k : Nat) (S : AM) (x1 : Int) : Option (Int) :=
  (g_X1_sizeOf (S (H_o k) 20)).bind fun v1 =>
  c32 (x1 + v1) <|
  g_X2_bytes_108 k S (x1 + v1)
set_option maxRecDepth 10000 in
theorem lf_X2_bytes_98 {k k' : Nat} (hk : k = k') {S : Mem} {S' : AM} (hS : (RT tC) S S') {x1 : Int32} {x1' : Int} (hx1 : RI x1 x1') : Lp RI (f_X2_bytes_98 k S x1) (g_X2_bytes_98 k' S' x1') := by
  subst hk
  unfold f_X2_bytes_98 g_X2_bytes_98
  refine Lp_gS (lf_X1_sizeOf (RJ.at hS rfl rfl rfl)) (fun v1 v1' hv1 => ?_)
  refine Lp_c32 (fun b1 => ?_)
  exact lf_X2_bytes_108 rfl hS (RI.mk (E_add hx1.1 hv1.1) b1)
def g_X2_bytes (k : Nat) (S : AM) : Option (Int) :=
  if (S (H_o k) 17) ≠ 8 then
    (g_X1_sizeOf (S (H_o k) 19)).bind fun v1 =>
    if (S (H_o k) 17) = 4 then
      c32 (1 + v1) <|
      g_X2_bytes_98 k S (1 + v1)
    else
      if (S (H_o k) 17) = 5 then
        c32 (1 + v1) <|
        g_X2_bytes_98 k S (1 + v1)
      else
        if (S (H_o k) 17) = 17 then
          c32 (1 + v1) <|
          g_X2_bytes_98 k S (1 + v1)
        else
          if (S (H_o k) 17) ≠ 21 then
            c32 (1 + v1) <|
            g_X2_bytes_108 k S (1 + v1)
          else
            c32 (1 + v1) <|
            g_X2_bytes_98 k S (1 + v1)
  else
    (g_X1_sizeOf (S (H_o k) 19)).bind fun v2 =>
    if (S (H_o k) 20) ≠ 0 then
      (g_X1_sizeOf (S (H_o k) 20)).bind fun v3 =>
      c32 (1 + v2) <|
      g_X2_bytes_38 k S v3 (1 + v2)
    else
      c32 (1 + v2) <|
      g_X2_bytes_38 k S 0 (1 + v2)
set_option maxRecDepth 10000 in
theorem lf_X2_bytes {k k' : Nat} (hk : k = k') {S : Mem} {S' : AM} (hS : (RT tC) S S') : Lp RI (f_X2_bytes k S) (g_X2_bytes k' S') := by
  subst hk
  unfold f_X2_bytes g_X2_bytes
  refine Lp_ite (C_ne (RI.at hS rfl rfl rfl) (RI.lit 8 (by decide))) (fun c1 => ?_) (fun c1 => ?_)
  · refine Lp_gS (lf_X1_sizeOf (RJ.at hS rfl rfl rfl)) (fun v1 v1' hv1 => ?_)
    refine Lp_ite (C_eq (RI.at hS rfl rfl rfl) (RI.lit 4 (by decide))) (fun c2 => ?_) (fun c2 => ?_)
    · refine Lp_c32 (fun b3 => ?_)
      exact lf_X2_bytes_98 rfl hS (RI.mk (E_add (li32 1) hv1.1) b3)
    · refine Lp_ite (C_eq (RI.at hS rfl rfl rfl) (RI.lit 5 (by decide))) (fun c4 => ?_) (fun c4 => ?_)
      · refine Lp_c32 (fun b5 => ?_)
        exact lf_X2_bytes_98 rfl hS (RI.mk (E_add (li32 1) hv1.1) b5)
      · refine Lp_ite (C_eq (RI.at hS rfl rfl rfl) (RI.lit 17 (by decide))) (fun c6 => ?_) (fun c6 => ?_)
        · refine Lp_c32 (fun b7 => ?_)
          exact lf_X2_bytes_98 rfl hS (RI.mk (E_add (li32 1) hv1.1) b7)
        · refine Lp_ite (C_ne (RI.at hS rfl rfl rfl) (RI.lit 21 (by decide))) (fun c8 => ?_) (fun c8 => ?_)
          · refine Lp_c32 (fun b9 => ?_)
            exact lf_X2_bytes_108 rfl hS (RI.mk (E_add (li32 1) hv1.1) b9)
          · refine Lp_c32 (fun b10 => ?_)
            exact lf_X2_bytes_98 rfl hS (RI.mk (E_add (li32 1) hv1.1) b10)
  · refine Lp_gS (lf_X1_sizeOf (RJ.at hS rfl rfl rfl)) (fun v2 v2' hv2 => ?_)
    refine Lp_ite (D_ne (RJ.at hS rfl rfl rfl) (RJ.lit 0 (by decide))) (fun c11 => ?_) (fun c11 => ?_)
    · refine Lp_gS (lf_X1_sizeOf (RJ.at hS rfl rfl rfl)) (fun v3 v3' hv3 => ?_)
      refine Lp_c32 (fun b12 => ?_)
      exact lf_X2_bytes_38 rfl hS hv3 (RI.mk (E_add (li32 1) hv2.1) b12)
    · refine Lp_c32 (fun b13 => ?_)
      exact lf_X2_bytes_38 rfl hS (RI.lit 0 (by decide)) (RI.mk (E_add (li32 1) hv2.1) b13)
def g_X2_allowed_70 (k : Nat) (S : AM) : Option (Int) :=
  some (5)
set_option maxRecDepth 10000 in
theorem lf_X2_allowed_70 {k k' : Nat} (hk : k = k') {S : Mem} {S' : AM} (hS : (RT tC) S S') : Lf RI (f_X2_allowed_70 k S) (g_X2_allowed_70 k' S') := by
  subst hk
  unfold f_X2_allowed_70 g_X2_allowed_70
  exact Lf_some (RI.lit 5 (by decide))
def g_X2_allowed_58 (k : Nat) (S : AM) (x1 : Int) (x4 : Int) (y0 : Int) : Option (Int) :=
  if x4 = 0 then
    g_X2_allowed_70 k S
  else
    if y0 ≠ 0 then
      (g_X2_isOwn k S x1).bind fun v1 =>
      if v1 ≠ 0 then
        some (0)
      else
        (g_X2_way k S x1).bind fun v2 =>
        hA x1 9223372036854775808 <|
        c64 (x1 / 4) <|
        if (x1 / 4) < (S (W_o k v2) 2) then
          some (0)
        else
          some (4)
    else
      g_X2_allowed_70 k S
set_option maxRecDepth 10000 in
theorem lf_X2_allowed_58 {k k' : Nat} (hk : k = k') {S : Mem} {S' : AM} (hS : (RT tC) S S') {x1 : Int64} {x1' : Int} (hx1 : RJ x1 x1') {x4 : Int32} {x4' : Int} (hx4 : RI x4 x4') {y0 : Int32} {y0' : Int} (hy0 : RI y0 y0') : Lf RI (f_X2_allowed_58 k S x1 x4 y0) (g_X2_allowed_58 k' S' x1' x4' y0') := by
  subst hk
  unfold f_X2_allowed_58 g_X2_allowed_58
  refine Lf_ite (C_eq hx4 (RI.lit 0 (by decide))) (fun c1 => ?_) (fun c1 => ?_)
  · exact lf_X2_allowed_70 rfl hS
  · refine Lf_ite (C_ne hy0 (RI.lit 0 (by decide))) (fun c2 => ?_) (fun c2 => ?_)
    · refine Lf_gS (lf_X2_isOwn rfl hS hx1) (fun v1 v1' hv1 => ?_)
      refine Lf_ite (C_ne hv1 (RI.lit 0 (by decide))) (fun c3 => ?_) (fun c3 => ?_)
      · exact Lf_some (RI.lit 0 (by decide))
      · refine Lf_bind (lf_X2_way rfl hS hx1) (fun v2 v2' hv2 => ?_)
        obtain rfl : v2 = v2' := hv2
        refine Lf_hD (fun b4 => ?_)
        refine Lf_c64 (fun b5 => ?_)
        refine Lf_ite (D_lt (RJ.mk (F_div hx1.1 (li64 4) b4 (by decide) (by decide)) b5) (RJ.mk (E_64 (RI.at hS rfl rfl rfl)) (R_64 (RI.at hS rfl rfl rfl).2))) (fun c6 => ?_) (fun c6 => ?_)
        · exact Lf_some (RI.lit 0 (by decide))
        · exact Lf_some (RI.lit 4 (by decide))
    · exact lf_X2_allowed_70 rfl hS
def g_X2_allowed_53 (k : Nat) (S : AM) (x1 : Int) (x4 : Int) : Option (Int) :=
  g_X2_allowed_58 k S x1 x4 1
set_option maxRecDepth 10000 in
theorem lf_X2_allowed_53 {k k' : Nat} (hk : k = k') {S : Mem} {S' : AM} (hS : (RT tC) S S') {x1 : Int64} {x1' : Int} (hx1 : RJ x1 x1') {x4 : Int32} {x4' : Int} (hx4 : RI x4 x4') : Lf RI (f_X2_allowed_53 k S x1 x4) (g_X2_allowed_53 k' S' x1' x4') := by
  subst hk
  unfold f_X2_allowed_53 g_X2_allowed_53
  exact lf_X2_allowed_58 rfl hS hx1 hx4 (RI.lit 1 (by decide))
def g_X2_allowed_35 (k : Nat) (S : AM) (x1 : Int) (x3 : Int) (y0 : Int) : Option (Int) :=
  (g_X2_isOneWay x1).bind fun v1 =>
  if v1 = 0 then
    g_X2_allowed_53 k S x1 y0
  else
    (g_X2_isOwn k S x1).bind fun v2 =>
    if v2 ≠ x3 then
      g_X2_allowed_58 k S x1 y0 0
    else
      g_X2_allowed_53 k S x1 y0
set_option maxRecDepth 10000 in
theorem lf_X2_allowed_35 {k k' : Nat} (hk : k = k') {S : Mem} {S' : AM} (hS : (RT tC) S S') {x1 : Int64} {x1' : Int} (hx1 : RJ x1 x1') {x3 : Int32} {x3' : Int} (hx3 : RI x3 x3') {y0 : Int32} {y0' : Int} (hy0 : RI y0 y0') : Lf RI (f_X2_allowed_35 k S x1 x3 y0) (g_X2_allowed_35 k' S' x1' x3' y0') := by
  subst hk
  unfold f_X2_allowed_35 g_X2_allowed_35
  refine Lf_gS (lf_X2_isOneWay hx1) (fun v1 v1' hv1 => ?_)
  refine Lf_ite (C_eq hv1 (RI.lit 0 (by decide))) (fun c1 => ?_) (fun c1 => ?_)
  · exact lf_X2_allowed_53 rfl hS hx1 hy0
  · refine Lf_gS (lf_X2_isOwn rfl hS hx1) (fun v2 v2' hv2 => ?_)
    refine Lf_ite (C_ne hv2 hx3) (fun c2 => ?_) (fun c2 => ?_)
    · exact lf_X2_allowed_58 rfl hS hx1 hy0 (RI.lit 0 (by decide))
    · exact lf_X2_allowed_53 rfl hS hx1 hy0
def g_X2_allowed (k : Nat) (S : AM) (x1 : Int) (x3 : Int) : Option (Int) :=
  (g_X2_isOwn k S x1).bind fun v1 =>
  if v1 = 0 then
    g_X2_allowed_35 k S x1 x3 1
  else
    (g_X2_way k S x1).bind fun v2 =>
    hA x1 9223372036854775808 <|
    c64 (x1 / 4) <|
    if (S (W_o k v2) 0) ≤ (x1 / 4) then
      g_X2_allowed_35 k S x1 x3 0
    else
      g_X2_allowed_35 k S x1 x3 1
set_option maxRecDepth 10000 in
theorem lf_X2_allowed {k k' : Nat} (hk : k = k') {S : Mem} {S' : AM} (hS : (RT tC) S S') {x1 : Int64} {x1' : Int} (hx1 : RJ x1 x1') {x3 : Int32} {x3' : Int} (hx3 : RI x3 x3') : Lf RI (f_X2_allowed k S x1 x3) (g_X2_allowed k' S' x1' x3') := by
  subst hk
  unfold f_X2_allowed g_X2_allowed
  refine Lf_gS (lf_X2_isOwn rfl hS hx1) (fun v1 v1' hv1 => ?_)
  refine Lf_ite (C_eq hv1 (RI.lit 0 (by decide))) (fun c1 => ?_) (fun c1 => ?_)
  · exact lf_X2_allowed_35 rfl hS hx1 hx3 (RI.lit 1 (by decide))
  · refine Lf_bind (lf_X2_way rfl hS hx1) (fun v2 v2' hv2 => ?_)
    obtain rfl : v2 = v2' := hv2
    refine Lf_hD (fun b2 => ?_)
    refine Lf_c64 (fun b3 => ?_)
    refine Lf_ite (D_le (RJ.mk (E_64 (RI.at hS rfl rfl rfl)) (R_64 (RI.at hS rfl rfl rfl).2)) (RJ.mk (F_div hx1.1 (li64 4) b2 (by decide) (by decide)) b3)) (fun c4 => ?_) (fun c4 => ?_)
    · exact lf_X2_allowed_35 rfl hS hx1 hx3 (RI.lit 0 (by decide))
    · exact lf_X2_allowed_35 rfl hS hx1 hx3 (RI.lit 1 (by decide))
def g_X2_fits_141 (E : L3 → Bool) (k : Nat) (S : AM) : Option (Int) :=
  some (3)
set_option maxRecDepth 10000 in
theorem lf_X2_fits_141 (E : L3 → Bool) {k k' : Nat} (hk : k = k') {S : Mem} {S' : AM} (hS : (RT tC) S S') : Lf RI (f_X2_fits_141 E k S) (g_X2_fits_141 E k' S') := by
  subst hk
  unfold f_X2_fits_141 g_X2_fits_141
  exact Lf_some (RI.lit 3 (by decide))
def g_X2_fits_107 (E : L3 → Bool) (k : Nat) (S : AM) (x2 : Int) (x6 : Int) (y0 : Int) : Option (Int) :=
  if y0 < x2 then
    g_X2_fits_141 E k S
  else
    c64 (x2 - x6) <|
    c64 ((S (H_o k) 12) + (mxZ (x2 - x6) 0)) <|
    if ((S (H_o k) 12) + (mxZ (x2 - x6) 0)) ≤ (S (H_o k) 14) then
      some (0)
    else
      g_X2_fits_141 E k S
set_option maxRecDepth 10000 in
theorem lf_X2_fits_107 (E : L3 → Bool) {k k' : Nat} (hk : k = k') {S : Mem} {S' : AM} (hS : (RT tC) S S') {x2 : Int64} {x2' : Int} (hx2 : RJ x2 x2') {x6 : Int32} {x6' : Int} (hx6 : RI x6 x6') {y0 : Int32} {y0' : Int} (hy0 : RI y0 y0') : Lf RI (f_X2_fits_107 E k S x2 x6 y0) (g_X2_fits_107 E k' S' x2' x6' y0') := by
  subst hk
  unfold f_X2_fits_107 g_X2_fits_107
  refine Lf_ite (D_lt (RJ.mk (E_64 hy0) (R_64 hy0.2)) hx2) (fun c1 => ?_) (fun c1 => ?_)
  · exact lf_X2_fits_141 E rfl hS
  · refine Lf_c64 (fun b2 => ?_)
    refine Lf_c64 (fun b3 => ?_)
    refine Lf_ite (D_le (RJ.mk (F_add (E_64 (RI.at hS rfl rfl rfl)) (RJ.mx (RJ.mk (F_sub hx2.1 (E_64 hx6)) b2) (RJ.lit 0 (by decide))).1) b3) (RJ.mk (E_64 (RI.at hS rfl rfl rfl)) (R_64 (RI.at hS rfl rfl rfl).2))) (fun c4 => ?_) (fun c4 => ?_)
    · exact Lf_some (RI.lit 0 (by decide))
    · exact lf_X2_fits_141 E rfl hS
def g_X2_fits_82 (E : L3 → Bool) (k : Nat) (S : AM) (x1 : Int) (x2 : Int) (x5 : Option (Nat)) (x6 : Int) : Option (Int) :=
  gM x5 (
    (g_X2_rule k S x1 0).bind fun v1 =>
    hA v1 6 <|
    g_X2_fits_107 E k S x2 x6 (S (H_grants k) (v1 : Int).toNat)) fun j5 =>
    g_X2_fits_107 E k S x2 x6 (S (R_o k j5) 6)
set_option maxRecDepth 10000 in
theorem lf_X2_fits_82 (E : L3 → Bool) {k k' : Nat} (hk : k = k') {S : Mem} {S' : AM} (hS : (RT tC) S S') {x1 : Int32} {x1' : Int} (hx1 : RI x1 x1') {x2 : Int64} {x2' : Int} (hx2 : RJ x2 x2') {x5 x5' : Option (Nat)} (hx5 : x5 = x5') {x6 : Int32} {x6' : Int} (hx6 : RI x6 x6') : Lf RI (f_X2_fits_82 E k S x1 x2 x5 x6) (g_X2_fits_82 E k' S' x1' x2' x5' x6') := by
  subst hk
  subst hx5
  unfold f_X2_fits_82 g_X2_fits_82
  refine Lf_gM (fun _ => ?_) (fun j5 _ => ?_)
  · refine Lf_gS (lf_X2_rule rfl hS (RJ.mk (E_64 hx1) (R_64 hx1.2)) (RI.lit 0 (by decide))) (fun v1 v1' hv1 => ?_)
    refine Lf_hA hv1.1 (by decide) (fun b1 => ?_)
    exact lf_X2_fits_107 E rfl hS hx2 hx6 (RI.at hS rfl (tnE hv1.1 b1 (by decide)) rfl)
  · exact lf_X2_fits_107 E rfl hS hx2 hx6 (RI.at hS rfl rfl rfl)
def g_X2_fits_66 (E : L3 → Bool) (k : Nat) (S : AM) (x1 : Int) (x2 : Int) (x4 : Int) (x5 : Option (Nat)) (x6 : Int) : Option (Int) :=
  gM x5 (
    if x4 = 0 then
      g_X2_fits_82 E k S x1 x2 none x6
    else
      if x6 ≤ x2 then
        g_X2_fits_82 E k S x1 x2 none x6
      else
        some (6)) fun j5 =>
    if x4 = 0 then
      g_X2_fits_82 E k S x1 x2 (some j5) x6
    else
      if x6 ≤ x2 then
        g_X2_fits_82 E k S x1 x2 (some j5) x6
      else
        some (6)
set_option maxRecDepth 10000 in
theorem lf_X2_fits_66 (E : L3 → Bool) {k k' : Nat} (hk : k = k') {S : Mem} {S' : AM} (hS : (RT tC) S S') {x1 : Int32} {x1' : Int} (hx1 : RI x1 x1') {x2 : Int64} {x2' : Int} (hx2 : RJ x2 x2') {x4 : Int32} {x4' : Int} (hx4 : RI x4 x4') {x5 x5' : Option (Nat)} (hx5 : x5 = x5') {x6 : Int32} {x6' : Int} (hx6 : RI x6 x6') : Lf RI (f_X2_fits_66 E k S x1 x2 x4 x5 x6) (g_X2_fits_66 E k' S' x1' x2' x4' x5' x6') := by
  subst hk
  subst hx5
  unfold f_X2_fits_66 g_X2_fits_66
  refine Lf_gM (fun _ => ?_) (fun j5 _ => ?_)
  · refine Lf_ite (C_eq hx4 (RI.lit 0 (by decide))) (fun c1 => ?_) (fun c1 => ?_)
    · exact lf_X2_fits_82 E rfl hS hx1 hx2 rfl hx6
    · refine Lf_ite (D_le (RJ.mk (E_64 hx6) (R_64 hx6.2)) hx2) (fun c2 => ?_) (fun c2 => ?_)
      · exact lf_X2_fits_82 E rfl hS hx1 hx2 rfl hx6
      · exact Lf_some (RI.lit 6 (by decide))
  · refine Lf_ite (C_eq hx4 (RI.lit 0 (by decide))) (fun c3 => ?_) (fun c3 => ?_)
    · exact lf_X2_fits_82 E rfl hS hx1 hx2 rfl hx6
    · refine Lf_ite (D_le (RJ.mk (E_64 hx6) (R_64 hx6.2)) hx2) (fun c4 => ?_) (fun c4 => ?_)
      · exact lf_X2_fits_82 E rfl hS hx1 hx2 rfl hx6
      · exact Lf_some (RI.lit 6 (by decide))
def g_X2_fits_38 (E : L3 → Bool) (k : Nat) (S : AM) (x1 : Int) (x2 : Int) (x4 : Int) (x5 : Option (Nat)) (x6 : Int) (y0 : Int) : Option (Int) :=
  gM x5 (
    if y0 < 0 then
      g_X2_fits_66 E k S x1 x2 x4 none x6
    else
      if y0 < x2 then
        some (6)
      else
        if x4 = 0 then
          g_X2_fits_66 E k S x1 x2 x4 none x6
        else
          if x2 ≠ y0 then
            some (6)
          else
            g_X2_fits_66 E k S x1 x2 x4 none x6) fun j5 =>
    if y0 < 0 then
      g_X2_fits_66 E k S x1 x2 x4 (some j5) x6
    else
      if y0 < x2 then
        some (6)
      else
        if x4 = 0 then
          g_X2_fits_66 E k S x1 x2 x4 (some j5) x6
        else
          if x2 ≠ y0 then
            some (6)
          else
            g_X2_fits_66 E k S x1 x2 x4 (some j5) x6
set_option maxRecDepth 10000 in
theorem lf_X2_fits_38 (E : L3 → Bool) {k k' : Nat} (hk : k = k') {S : Mem} {S' : AM} (hS : (RT tC) S S') {x1 : Int32} {x1' : Int} (hx1 : RI x1 x1') {x2 : Int64} {x2' : Int} (hx2 : RJ x2 x2') {x4 : Int32} {x4' : Int} (hx4 : RI x4 x4') {x5 x5' : Option (Nat)} (hx5 : x5 = x5') {x6 : Int32} {x6' : Int} (hx6 : RI x6 x6') {y0 : Int32} {y0' : Int} (hy0 : RI y0 y0') : Lf RI (f_X2_fits_38 E k S x1 x2 x4 x5 x6 y0) (g_X2_fits_38 E k' S' x1' x2' x4' x5' x6' y0') := by
  subst hk
  subst hx5
  unfold f_X2_fits_38 g_X2_fits_38
  refine Lf_gM (fun _ => ?_) (fun j5 _ => ?_)
  · refine Lf_ite (C_lt hy0 (RI.lit 0 (by decide))) (fun c1 => ?_) (fun c1 => ?_)
    · exact lf_X2_fits_66 E rfl hS hx1 hx2 hx4 rfl hx6
    · refine Lf_ite (D_lt (RJ.mk (E_64 hy0) (R_64 hy0.2)) hx2) (fun c2 => ?_) (fun c2 => ?_)
      · exact Lf_some (RI.lit 6 (by decide))
      · refine Lf_ite (C_eq hx4 (RI.lit 0 (by decide))) (fun c3 => ?_) (fun c3 => ?_)
        · exact lf_X2_fits_66 E rfl hS hx1 hx2 hx4 rfl hx6
        · refine Lf_ite (D_ne hx2 (RJ.mk (E_64 hy0) (R_64 hy0.2))) (fun c4 => ?_) (fun c4 => ?_)
          · exact Lf_some (RI.lit 6 (by decide))
          · exact lf_X2_fits_66 E rfl hS hx1 hx2 hx4 rfl hx6
  · refine Lf_ite (C_lt hy0 (RI.lit 0 (by decide))) (fun c5 => ?_) (fun c5 => ?_)
    · exact lf_X2_fits_66 E rfl hS hx1 hx2 hx4 rfl hx6
    · refine Lf_ite (D_lt (RJ.mk (E_64 hy0) (R_64 hy0.2)) hx2) (fun c6 => ?_) (fun c6 => ?_)
      · exact Lf_some (RI.lit 6 (by decide))
      · refine Lf_ite (C_eq hx4 (RI.lit 0 (by decide))) (fun c7 => ?_) (fun c7 => ?_)
        · exact lf_X2_fits_66 E rfl hS hx1 hx2 hx4 rfl hx6
        · refine Lf_ite (D_ne hx2 (RJ.mk (E_64 hy0) (R_64 hy0.2))) (fun c8 => ?_) (fun c8 => ?_)
          · exact Lf_some (RI.lit 6 (by decide))
          · exact lf_X2_fits_66 E rfl hS hx1 hx2 hx4 rfl hx6
def g_X2_fits_22 (E : L3 → Bool) (k : Nat) (S : AM) (x1 : Int) (x2 : Int) (x4 : Int) (x5 : Option (Nat)) (y0 : Int) : Option (Int) :=
  gM x5 (
    g_X2_fits_38 E k S x1 x2 x4 none y0 (-1)) fun j5 =>
    g_X2_fits_38 E k S x1 x2 x4 (some j5) y0 (S (R_o k j5) 5)
set_option maxRecDepth 10000 in
theorem lf_X2_fits_22 (E : L3 → Bool) {k k' : Nat} (hk : k = k') {S : Mem} {S' : AM} (hS : (RT tC) S S') {x1 : Int32} {x1' : Int} (hx1 : RI x1 x1') {x2 : Int64} {x2' : Int} (hx2 : RJ x2 x2') {x4 : Int32} {x4' : Int} (hx4 : RI x4 x4') {x5 x5' : Option (Nat)} (hx5 : x5 = x5') {y0 : Int32} {y0' : Int} (hy0 : RI y0 y0') : Lf RI (f_X2_fits_22 E k S x1 x2 x4 x5 y0) (g_X2_fits_22 E k' S' x1' x2' x4' x5' y0') := by
  subst hk
  subst hx5
  unfold f_X2_fits_22 g_X2_fits_22
  refine Lf_gM (fun _ => ?_) (fun j5 _ => ?_)
  · exact lf_X2_fits_38 E rfl hS hx1 hx2 hx4 rfl hy0 RI.m1
  · exact lf_X2_fits_38 E rfl hS hx1 hx2 hx4 rfl hy0 (RI.at hS rfl rfl rfl)
def g_X2_fits (E : L3 → Bool) (k : Nat) (S : AM) (x1 : Int) (x2 : Int) (x4 : Int) : Option (Int) :=
  hA x1 256 <|
  if E (R_o k (x1 : Int).toNat) = true then
    g_X2_fits_22 E k S x1 x2 x4 (some (x1 : Int).toNat) (S (R_o k (x1 : Int).toNat) 4)
  else
    g_X2_fits_22 E k S x1 x2 x4 none 0
set_option maxRecDepth 10000 in
theorem lf_X2_fits (E : L3 → Bool) {k k' : Nat} (hk : k = k') {S : Mem} {S' : AM} (hS : (RT tC) S S') {x1 : Int32} {x1' : Int} (hx1 : RI x1 x1') {x2 : Int64} {x2' : Int} (hx2 : RJ x2 x2') {x4 : Int32} {x4' : Int} (hx4 : RI x4 x4') : Lf RI (f_X2_fits E k S x1 x2 x4) (g_X2_fits E k' S' x1' x2' x4') := by
  subst hk
  unfold f_X2_fits g_X2_fits
  refine Lf_hA hx1.1 (by decide) (fun b1 => ?_)
  refine Lf_ite (iff_of_eq (congrArg (fun q => E q = true) (congrArg (R_o k) (tnE hx1.1 b1 (by decide))))) (fun c2 => ?_) (fun c2 => ?_)
  · exact lf_X2_fits_22 E rfl hS hx1 hx2 hx4 (congrArg some (tnE hx1.1 b1 (by decide))) (RI.at hS (congrArg (R_o k) (tnE hx1.1 b1 (by decide))) rfl rfl)
  · exact lf_X2_fits_22 E rfl hS hx1 hx2 hx4 rfl (RI.lit 0 (by decide))
def g_X2_reach (k : Nat) (S : AM) (x1 : Nat) (x2 : Int) : Option (AM) :=
  c32 (x2 - (S (R_o k x1) 4)) <|
  c32 ((S (H_o k) 12) + (mxZ (x2 - (S (R_o k x1) 4)) 0)) <|
  gS (uA S (H_o k) 12 ((S (H_o k) 12) + (mxZ (x2 - (S (R_o k x1) 4)) 0))) fun S1 =>
  gS (uA S1 (R_o k x1) 4 (mxZ (S1 (R_o k x1) 4) x2)) fun S2 =>
  some (S2)
set_option maxRecDepth 10000 in
theorem lf_X2_reach {k k' : Nat} (hk : k = k') {S : Mem} {S' : AM} (hS : (RT tC) S S') {x1 x1' : Nat} (hx1 : x1 = x1') {x2 : Int32} {x2' : Int} (hx2 : RI x2 x2') : Lp (RT tC) (f_X2_reach k S x1 x2) (g_X2_reach k' S' x1' x2') := by
  subst hk
  subst hx1
  unfold f_X2_reach g_X2_reach
  refine Lp_c32 (fun b1 => ?_)
  refine Lp_c32 (fun b2 => ?_)
  refine Lp_st (RT.siq hS rfl rfl (RI.mk (E_add (RI.at hS rfl rfl rfl).1 (RI.mx (RI.mk (E_sub hx2.1 (RI.at hS rfl rfl rfl).1) b1) (RI.lit 0 (by decide))).1) b2) rfl) (fun S1 S1' hS1 => ?_)
  refine Lp_st (RT.siq hS1 rfl rfl (RI.mx (RI.at hS1 rfl rfl rfl) hx2) rfl) (fun S2 S2' hS2 => ?_)
  exact Lp_val hS2
def g_X6_make_118 (k : Nat) (S : AM) (x1 : Int) (x2 : Int) (x3 : Int) : Option (AM × Int) :=
  hA x3 64 <|
  gS (uA S (B_marks k) ((x3 : Int).toNat) 0) fun S1 =>
  hA x3 64 <|
  gS (uA S1 (B_index k) ((x3 : Int).toNat) x1) fun S2 =>
  hA x3 64 <|
  gS (uA S2 (B_next k) ((x3 : Int).toNat) x2) fun S3 =>
  some (S3, x3)
set_option maxRecDepth 10000 in
theorem lf_X6_make_118 {k k' : Nat} (hk : k = k') {S : Mem} {S' : AM} (hS : (RT tC) S S') {x1 : Int32} {x1' : Int} (hx1 : RI x1 x1') {x2 : Int32} {x2' : Int} (hx2 : RI x2 x2') {x3 : Int32} {x3' : Int} (hx3 : RI x3 x3') : Lf (RP (RT tC) RI) (f_X6_make_118 k S x1 x2 x3) (g_X6_make_118 k' S' x1' x2' x3') := by
  subst hk
  unfold f_X6_make_118 g_X6_make_118
  refine Lf_hA hx3.1 (by decide) (fun b1 => ?_)
  refine Lf_st (RT.sjq hS rfl (tnE hx3.1 b1 (by decide)) (RJ.lit 0 (by decide)) rfl) (fun S1 S1' hS1 => ?_)
  refine Lf_hA hx3.1 (by decide) (fun b2 => ?_)
  refine Lf_st (RT.siq hS1 rfl (tnE hx3.1 b1 (by decide)) hx1 rfl) (fun S2 S2' hS2 => ?_)
  refine Lf_hA hx3.1 (by decide) (fun b3 => ?_)
  refine Lf_st (RT.siq hS2 rfl (tnE hx3.1 b1 (by decide)) hx2 rfl) (fun S3 S3' hS3 => ?_)
  exact Lf_some (RP.mk hS3 hx3)
def g_X6_make_106 (k : Nat) (S : AM) (x1 : Int) (x2 : Int) : Option (AM × Int) :=
  c32 ((S (B_o k) 4) + 1) <|
  gS (uA S (B_o k) 4 ((S (B_o k) 4) + 1)) fun S1 =>
  g_X6_make_118 k S1 x1 x2 (S (B_o k) 4)
set_option maxRecDepth 10000 in
theorem lf_X6_make_106 {k k' : Nat} (hk : k = k') {S : Mem} {S' : AM} (hS : (RT tC) S S') {x1 : Int32} {x1' : Int} (hx1 : RI x1 x1') {x2 : Int32} {x2' : Int} (hx2 : RI x2 x2') : Lf (RP (RT tC) RI) (f_X6_make_106 k S x1 x2) (g_X6_make_106 k' S' x1' x2') := by
  subst hk
  unfold f_X6_make_106 g_X6_make_106
  refine Lf_c32 (fun b1 => ?_)
  refine Lf_st (RT.siq hS rfl rfl (RI.mk (E_add (RI.at hS rfl rfl rfl).1 (li32 1)) b1) rfl) (fun S1 S1' hS1 => ?_)
  exact lf_X6_make_118 rfl hS1 hx1 hx2 (RI.at hS rfl rfl rfl)
def g_X6_make (k : Nat) (S : AM) (x1 : Int) (x2 : Int) : Option (AM × Int) :=
  if (S (B_o k) 5) = (-1) then
    if (S (B_o k) 4) ≠ 64 then
      g_X6_make_106 k S x1 x2
    else
      none
  else
    hA (S (B_o k) 5) 64 <|
    gS (uA S (B_o k) 5 (S (B_next k) ((S (B_o k) 5) : Int).toNat)) fun S1 =>
    g_X6_make_118 k S1 x1 x2 (S (B_o k) 5)
set_option maxRecDepth 10000 in
theorem lf_X6_make {k k' : Nat} (hk : k = k') {S : Mem} {S' : AM} (hS : (RT tC) S S') {x1 : Int32} {x1' : Int} (hx1 : RI x1 x1') {x2 : Int32} {x2' : Int} (hx2 : RI x2 x2') : Lf (RP (RT tC) RI) (f_X6_make k S x1 x2) (g_X6_make k' S' x1' x2') := by
  subst hk
  unfold f_X6_make g_X6_make
  refine Lf_ite (C_eq (RI.at hS rfl rfl rfl) RI.m1) (fun c1 => ?_) (fun c1 => ?_)
  · refine Lf_ite (C_ne (RI.at hS rfl rfl rfl) (RI.lit 64 (by decide))) (fun c2 => ?_) (fun c2 => ?_)
    · exact lf_X6_make_106 rfl hS hx1 hx2
    · exact Lf_none
  · refine Lf_hA (RI.at hS rfl rfl rfl).1 (by decide) (fun b3 => ?_)
    refine Lf_st (RT.siq hS rfl rfl (RI.at hS rfl (tnE (RI.at hS rfl rfl rfl).1 b3 (by decide)) rfl) rfl) (fun S1 S1' hS1 => ?_)
    exact lf_X6_make_118 rfl hS1 hx1 hx2 (RI.at hS rfl rfl rfl)
def g_X6_block_60 (k : Nat) (S : AM) (x1 : Nat) (x2 : Int) (x3 : Int) (x4 : Int) : Option (AM × Int) :=
  gB2 (g_X6_make k S x2 x4) fun S1 v2 =>
  if x3 ≠ (-1) then
    hA x3 64 <|
    gS (uA S1 (B_next k) ((x3 : Int).toNat) v2) fun S3 =>
    some (S3, v2)
  else
    gS (uA S1 (R_o k x1) 7 v2) fun S4 =>
    some (S4, v2)
set_option maxRecDepth 10000 in
theorem lf_X6_block_60 {k k' : Nat} (hk : k = k') {S : Mem} {S' : AM} (hS : (RT tC) S S') {x1 x1' : Nat} (hx1 : x1 = x1') {x2 : Int32} {x2' : Int} (hx2 : RI x2 x2') {x3 : Int32} {x3' : Int} (hx3 : RI x3 x3') {x4 : Int32} {x4' : Int} (hx4 : RI x4 x4') : Lf (RP (RT tC) RI) (f_X6_block_60 k S x1 x2 x3 x4) (g_X6_block_60 k' S' x1' x2' x3' x4') := by
  subst hk
  subst hx1
  unfold f_X6_block_60 g_X6_block_60
  refine Lf_gB2 (lf_X6_make rfl hS hx2 hx4) (fun S1 S1' hS1 v2 v2' hv2 => ?_)
  refine Lf_ite (C_ne hx3 RI.m1) (fun c1 => ?_) (fun c1 => ?_)
  · refine Lf_hA hx3.1 (by decide) (fun b2 => ?_)
    refine Lf_st (RT.siq hS1 rfl (tnE hx3.1 b2 (by decide)) hv2 rfl) (fun S3 S3' hS3 => ?_)
    exact Lf_some (RP.mk hS3 hv2)
  · refine Lf_st (RT.siq hS1 rfl rfl hv2 rfl) (fun S4 S4' hS4 => ?_)
    exact Lf_some (RP.mk hS4 hv2)
def g_X6_block_40 (k : Nat) (S : AM) (x1 : Nat) (x2 : Int) (x3 : Int) (x4 : Int) : Option (AM × Int) :=
  if x4 = (-1) then
    g_X6_block_60 k S x1 x2 x3 x4
  else
    hA x4 64 <|
    if (S (B_index k) (x4 : Int).toNat) ≠ x2 then
      g_X6_block_60 k S x1 x2 x3 x4
    else
      some (S, x4)
set_option maxRecDepth 10000 in
theorem lf_X6_block_40 {k k' : Nat} (hk : k = k') {S : Mem} {S' : AM} (hS : (RT tC) S S') {x1 x1' : Nat} (hx1 : x1 = x1') {x2 : Int32} {x2' : Int} (hx2 : RI x2 x2') {x3 : Int32} {x3' : Int} (hx3 : RI x3 x3') {x4 : Int32} {x4' : Int} (hx4 : RI x4 x4') : Lf (RP (RT tC) RI) (f_X6_block_40 k S x1 x2 x3 x4) (g_X6_block_40 k' S' x1' x2' x3' x4') := by
  subst hk
  subst hx1
  unfold f_X6_block_40 g_X6_block_40
  refine Lf_ite (C_eq hx4 RI.m1) (fun c1 => ?_) (fun c1 => ?_)
  · exact lf_X6_block_60 rfl hS rfl hx2 hx3 hx4
  · refine Lf_hA hx4.1 (by decide) (fun b2 => ?_)
    refine Lf_ite (C_ne (RI.at hS rfl (tnE hx4.1 b2 (by decide)) rfl) hx2) (fun c3 => ?_) (fun c3 => ?_)
    · exact lf_X6_block_60 rfl hS rfl hx2 hx3 hx4
    · exact Lf_some (RP.mk hS hx4)
def g_X6_block_8_b (k : Nat) (k8 : AM → Nat → Int → Int → Int → Option (AM × Int)) (S : AM) (x1 : Nat) (x2 : Int) (x3 : Int) (x4 : Int) : Option (AM × Int) :=
  if x4 = (-1) then
    g_X6_block_40 k S x1 x2 x3 x4
  else
    hA x4 64 <|
    if x2 ≤ (S (B_index k) (x4 : Int).toNat) then
      g_X6_block_40 k S x1 x2 x3 x4
    else
      hA x4 64 <|
      k8 S x1 x2 x4 (S (B_next k) (x4 : Int).toNat)
set_option maxRecDepth 10000 in
theorem lf_X6_block_8_b {k k' : Nat} (hk : k = k') {k8 : Mem → Nat → Int32 → Int32 → Int32 → Option (Mem × Int32)} {k8' : AM → Nat → Int → Int → Int → Option (AM × Int)} (hk8 : ∀ {y0 : Mem} {y0' : AM}, (RT tC) y0 y0' → ∀ {y1 : Nat} {y1' : Nat}, (y1 = y1') → ∀ {y2 : Int32} {y2' : Int}, RI y2 y2' → ∀ {y3 : Int32} {y3' : Int}, RI y3 y3' → ∀ {y4 : Int32} {y4' : Int}, RI y4 y4' → Lf (RP (RT tC) RI) (k8 y0 y1 y2 y3 y4) (k8' y0' y1' y2' y3' y4')) {S : Mem} {S' : AM} (hS : (RT tC) S S') {x1 x1' : Nat} (hx1 : x1 = x1') {x2 : Int32} {x2' : Int} (hx2 : RI x2 x2') {x3 : Int32} {x3' : Int} (hx3 : RI x3 x3') {x4 : Int32} {x4' : Int} (hx4 : RI x4 x4') : Lf (RP (RT tC) RI) (f_X6_block_8_b k k8 S x1 x2 x3 x4) (g_X6_block_8_b k' k8' S' x1' x2' x3' x4') := by
  subst hk
  subst hx1
  unfold f_X6_block_8_b g_X6_block_8_b
  refine Lf_ite (C_eq hx4 RI.m1) (fun c1 => ?_) (fun c1 => ?_)
  · exact lf_X6_block_40 rfl hS rfl hx2 hx3 hx4
  · refine Lf_hA hx4.1 (by decide) (fun b2 => ?_)
    refine Lf_ite (C_le hx2 (RI.at hS rfl (tnE hx4.1 b2 (by decide)) rfl)) (fun c3 => ?_) (fun c3 => ?_)
    · exact lf_X6_block_40 rfl hS rfl hx2 hx3 hx4
    · refine Lf_hA hx4.1 (by decide) (fun b4 => ?_)
      exact hk8 hS rfl hx2 hx4 (RI.at hS rfl (tnE hx4.1 b2 (by decide)) rfl)
def g_X6_block_8 (k : Nat) : Nat → AM → Nat → Int → Int → Int → Option (AM × Int)
  | 0, _, _, _, _, _ => none
  | n + 1, S, x1, x2, x3, x4 => g_X6_block_8_b k (g_X6_block_8 k n) S x1 x2 x3 x4
set_option maxRecDepth 10000 in
theorem lf_X6_block_8 {k k' : Nat} (hk : k = k') (n : Nat) : ∀ {S : Mem} {S' : AM}, (RT tC) S S' → ∀ {x1 : Nat} {x1' : Nat}, (x1 = x1') → ∀ {x2 : Int32} {x2' : Int}, RI x2 x2' → ∀ {x3 : Int32} {x3' : Int}, RI x3 x3' → ∀ {x4 : Int32} {x4' : Int}, RI x4 x4' → Lf (RP (RT tC) RI) (f_X6_block_8 k n S x1 x2 x3 x4) (g_X6_block_8 k' n S' x1' x2' x3' x4') := by
  subst hk
  induction n with
  | zero => intros; exact Lf_none
  | succ n ih => intro S S' hS x1 x1' hx1 x2 x2' hx2 x3 x3' hx3 x4 x4' hx4; exact lf_X6_block_8_b rfl ih hS hx1 hx2 hx3 hx4
def g_X6_block (k : Nat) (S : AM) (x1 : Nat) (x2 : Int) : Option (AM × Int) :=
  g_X6_block_8 k FU S x1 x2 (-1) (S (R_o k x1) 7)
set_option maxRecDepth 10000 in
theorem lf_X6_block {k k' : Nat} (hk : k = k') {S : Mem} {S' : AM} (hS : (RT tC) S S') {x1 x1' : Nat} (hx1 : x1 = x1') {x2 : Int32} {x2' : Int} (hx2 : RI x2 x2') : Lf (RP (RT tC) RI) (f_X6_block k S x1 x2) (g_X6_block k' S' x1' x2') := by
  subst hk
  subst hx1
  unfold f_X6_block g_X6_block
  exact lf_X6_block_8 rfl FU hS rfl hx2 RI.m1 (RI.at hS rfl rfl rfl)
def g_X6_put_124 (k : Nat) (k15 : AM → Nat → Int → L3 → Int → Int → Int → Int → Option (AM)) (S : AM) (x1 : Nat) (x2 : Int) (x3 : L3) (x4 : Int) (x5 : Int) (x6 : Int) (x7 : Int) : Option (AM) :=
  c32 (x7 + 1) <|
  k15 S x1 x2 x3 x4 x5 x6 (x7 + 1)
set_option maxRecDepth 10000 in
theorem lf_X6_put_124 {k k' : Nat} (hk : k = k') {k15 : Mem → Nat → Int32 → L3 → Int32 → Int32 → Int32 → Int32 → Option (Mem)} {k15' : AM → Nat → Int → L3 → Int → Int → Int → Int → Option (AM)} (hk15 : ∀ {y0 : Mem} {y0' : AM}, (RT tC) y0 y0' → ∀ {y1 : Nat} {y1' : Nat}, (y1 = y1') → ∀ {y2 : Int32} {y2' : Int}, RI y2 y2' → ∀ {y3 : L3} {y3' : L3}, (y3 = y3') → (∀ f, tC y3 f = false) → ∀ {y4 : Int32} {y4' : Int}, RI y4 y4' → ∀ {y5 : Int32} {y5' : Int}, RI y5 y5' → ∀ {y6 : Int32} {y6' : Int}, RI y6 y6' → ∀ {y7 : Int32} {y7' : Int}, RI y7 y7' → Lf (RT tC) (k15 y0 y1 y2 y3 y4 y5 y6 y7) (k15' y0' y1' y2' y3' y4' y5' y6' y7')) {S : Mem} {S' : AM} (hS : (RT tC) S S') {x1 x1' : Nat} (hx1 : x1 = x1') {x2 : Int32} {x2' : Int} (hx2 : RI x2 x2') {x3 x3' : L3} (hx3 : x3 = x3') (qx3 : ∀ f, tC x3 f = false) {x4 : Int32} {x4' : Int} (hx4 : RI x4 x4') {x5 : Int32} {x5' : Int} (hx5 : RI x5 x5') {x6 : Int32} {x6' : Int} (hx6 : RI x6 x6') {x7 : Int32} {x7' : Int} (hx7 : RI x7 x7') : Lf (RT tC) (f_X6_put_124 k k15 S x1 x2 x3 x4 x5 x6 x7) (g_X6_put_124 k' k15' S' x1' x2' x3' x4' x5' x6' x7') := by
  subst hk
  subst hx1
  subst hx3
  unfold f_X6_put_124 g_X6_put_124
  refine Lf_c32 (fun b1 => ?_)
  exact hk15 hS rfl hx2 rfl qx3 hx4 hx5 hx6 (RI.mk (E_add hx7.1 (li32 1)) b1)
def g_X6_put_61 (k : Nat) (k15 : AM → Nat → Int → L3 → Int → Int → Int → Int → Option (AM)) (S : AM) (x1 : Nat) (x2 : Int) (x3 : L3) (x4 : Int) (x5 : Int) (x6 : Int) (x7 : Int) (x8 : Int) : Option (AM) :=
  hA x6 64 <|
  hA x8 2147483648 <|
  hA (x8 - ((x8 / 64) * 64)) 64 <|
  c64 (((S (B_marks k) (x6 : Int).toNat) / 2 ^ ((x8 - ((x8 / 64) * 64)) : Int).toNat) % 2) <|
  if (((S (B_marks k) (x6 : Int).toNat) / 2 ^ ((x8 - ((x8 / 64) * 64)) : Int).toNat) % 2) ≠ 1 then
    hA (x4 + x7) (blen x3) <|
    hA ((x6 * 64) + (x8 - ((x8 / 64) * 64))) 4096 <|
    gS (uA S (B_bytes k) ((((x6 * 64) + (x8 - ((x8 / 64) * 64))) : Int).toNat) (b8 (S x3 ((x4 + x7) : Int).toNat))) fun S1 =>
    hA x6 64 <|
    hA x6 64 <|
    gS (uA S1 (B_marks k) ((x6 : Int).toNat) (j2 ((S1 (B_marks k) (x6 : Int).toNat)) ||| j2 ((j2 1 <<< (Int32.toInt64 (i2 (x8 - ((x8 / 64) * 64))) &&& 63)).toInt)).toInt) fun S2 =>
    g_X6_put_124 k k15 S2 x1 x2 x3 x4 x5 x6 x7
  else
    g_X6_put_124 k k15 S x1 x2 x3 x4 x5 x6 x7
set_option maxRecDepth 10000 in
theorem lf_X6_put_61 {k k' : Nat} (hk : k = k') {k15 : Mem → Nat → Int32 → L3 → Int32 → Int32 → Int32 → Int32 → Option (Mem)} {k15' : AM → Nat → Int → L3 → Int → Int → Int → Int → Option (AM)} (hk15 : ∀ {y0 : Mem} {y0' : AM}, (RT tC) y0 y0' → ∀ {y1 : Nat} {y1' : Nat}, (y1 = y1') → ∀ {y2 : Int32} {y2' : Int}, RI y2 y2' → ∀ {y3 : L3} {y3' : L3}, (y3 = y3') → (∀ f, tC y3 f = false) → ∀ {y4 : Int32} {y4' : Int}, RI y4 y4' → ∀ {y5 : Int32} {y5' : Int}, RI y5 y5' → ∀ {y6 : Int32} {y6' : Int}, RI y6 y6' → ∀ {y7 : Int32} {y7' : Int}, RI y7 y7' → Lf (RT tC) (k15 y0 y1 y2 y3 y4 y5 y6 y7) (k15' y0' y1' y2' y3' y4' y5' y6' y7')) {S : Mem} {S' : AM} (hS : (RT tC) S S') {x1 x1' : Nat} (hx1 : x1 = x1') {x2 : Int32} {x2' : Int} (hx2 : RI x2 x2') {x3 x3' : L3} (hx3 : x3 = x3') (qx3 : ∀ f, tC x3 f = false) {x4 : Int32} {x4' : Int} (hx4 : RI x4 x4') {x5 : Int32} {x5' : Int} (hx5 : RI x5 x5') {x6 : Int32} {x6' : Int} (hx6 : RI x6 x6') {x7 : Int32} {x7' : Int} (hx7 : RI x7 x7') {x8 : Int32} {x8' : Int} (hx8 : RI x8 x8') : Lf (RT tC) (f_X6_put_61 k k15 S x1 x2 x3 x4 x5 x6 x7 x8) (g_X6_put_61 k' k15' S' x1' x2' x3' x4' x5' x6' x7' x8') := by
  subst hk
  subst hx1
  subst hx3
  unfold f_X6_put_61 g_X6_put_61
  refine Lf_hA hx6.1 (by decide) (fun b1 => ?_)
  refine Lf_hD (fun b2 => ?_)
  refine Lf_hD (fun b3 => ?_)
  refine Lf_c64 (fun b4 => ?_)
  refine Lf_ite (D_ne (RJ.mk (F_m1 (F_shr (RJ.at hS rfl (tnE hx6.1 b1 (by decide)) rfl) (E_sub hx8.1 (E_mul (E_div hx8.1 (li32 64) b2 (by decide) (by decide)) (li32 64))) b3)) b4) (RJ.lit 1 (by decide))) (fun c5 => ?_) (fun c5 => ?_)
  · refine Lf_hA (E_add hx4.1 hx7.1) (blen_lt _) (fun b6 => ?_)
    refine Lf_hA (E_add (E_mul hx6.1 (li32 64)) (E_sub hx8.1 (E_mul (E_div hx8.1 (li32 64) b2 (by decide) (by decide)) (li32 64)))) (by decide) (fun b7 => ?_)
    refine Lf_st (RT.siq hS rfl (tnE (E_add (E_mul hx6.1 (li32 64)) (E_sub hx8.1 (E_mul (E_div hx8.1 (li32 64) b2 (by decide) (by decide)) (li32 64)))) b7 (by decide)) (RI.mk (E_nb (RI.at hS rfl (tnE (E_add hx4.1 hx7.1) b6 (blen_lt _)) (qx3 _))) (R_b8 _)) rfl) (fun S1 S1' hS1 => ?_)
    refine Lf_hA hx6.1 (by decide) (fun b8 => ?_)
    refine Lf_hA hx6.1 (by decide) (fun b9 => ?_)
    refine Lf_st (RT.sjq hS1 rfl (tnE hx6.1 b1 (by decide)) (RJ.mk (F_or (RJ.at hS1 rfl (tnE hx6.1 b1 (by decide)) rfl).1 (F_shl (li64 1) (E_sub hx8.1 (E_mul (E_div hx8.1 (li32 64) b2 (by decide) (by decide)) (li32 64))))) (R_self _)) rfl) (fun S2 S2' hS2 => ?_)
    exact lf_X6_put_124 rfl hk15 hS2 rfl hx2 rfl qx3 hx4 hx5 hx6 hx7
  · exact lf_X6_put_124 rfl hk15 hS rfl hx2 rfl qx3 hx4 hx5 hx6 hx7
def g_X6_put_49 (k : Nat) (k15 : AM → Nat → Int → L3 → Int → Int → Int → Int → Option (AM)) (S : AM) (x1 : Nat) (x2 : Int) (x3 : L3) (x4 : Int) (x5 : Int) (x7 : Int) (x8 : Int) : Option (AM) :=
  hA x8 2147483648 <|
  c32 (x8 / 64) <|
  gB2 (g_X6_block k S x1 (x8 / 64)) fun S1 v2 =>
  g_X6_put_61 k k15 S1 x1 x2 x3 x4 x5 v2 x7 x8
set_option maxRecDepth 10000 in
theorem lf_X6_put_49 {k k' : Nat} (hk : k = k') {k15 : Mem → Nat → Int32 → L3 → Int32 → Int32 → Int32 → Int32 → Option (Mem)} {k15' : AM → Nat → Int → L3 → Int → Int → Int → Int → Option (AM)} (hk15 : ∀ {y0 : Mem} {y0' : AM}, (RT tC) y0 y0' → ∀ {y1 : Nat} {y1' : Nat}, (y1 = y1') → ∀ {y2 : Int32} {y2' : Int}, RI y2 y2' → ∀ {y3 : L3} {y3' : L3}, (y3 = y3') → (∀ f, tC y3 f = false) → ∀ {y4 : Int32} {y4' : Int}, RI y4 y4' → ∀ {y5 : Int32} {y5' : Int}, RI y5 y5' → ∀ {y6 : Int32} {y6' : Int}, RI y6 y6' → ∀ {y7 : Int32} {y7' : Int}, RI y7 y7' → Lf (RT tC) (k15 y0 y1 y2 y3 y4 y5 y6 y7) (k15' y0' y1' y2' y3' y4' y5' y6' y7')) {S : Mem} {S' : AM} (hS : (RT tC) S S') {x1 x1' : Nat} (hx1 : x1 = x1') {x2 : Int32} {x2' : Int} (hx2 : RI x2 x2') {x3 x3' : L3} (hx3 : x3 = x3') (qx3 : ∀ f, tC x3 f = false) {x4 : Int32} {x4' : Int} (hx4 : RI x4 x4') {x5 : Int32} {x5' : Int} (hx5 : RI x5 x5') {x7 : Int32} {x7' : Int} (hx7 : RI x7 x7') {x8 : Int32} {x8' : Int} (hx8 : RI x8 x8') : Lf (RT tC) (f_X6_put_49 k k15 S x1 x2 x3 x4 x5 x7 x8) (g_X6_put_49 k' k15' S' x1' x2' x3' x4' x5' x7' x8') := by
  subst hk
  subst hx1
  subst hx3
  unfold f_X6_put_49 g_X6_put_49
  refine Lf_hD (fun b1 => ?_)
  refine Lf_c32 (fun b2 => ?_)
  refine Lf_gB2 (lf_X6_block rfl hS rfl (RI.mk (E_div hx8.1 (li32 64) b1 (by decide) (by decide)) b2)) (fun S1 S1' hS1 v2 v2' hv2 => ?_)
  exact lf_X6_put_61 rfl hk15 hS1 rfl hx2 rfl qx3 hx4 hx5 hv2 hx7 hx8
def g_X6_put_222 (k : Nat) (k136 : AM → Nat → Int → Option (AM)) (S : AM) (x1 : Nat) (y0 : Int) : Option (AM) :=
  k136 S x1 y0
set_option maxRecDepth 10000 in
theorem lf_X6_put_222 {k k' : Nat} (hk : k = k') {k136 : Mem → Nat → Int32 → Option (Mem)} {k136' : AM → Nat → Int → Option (AM)} (hk136 : ∀ {y0 : Mem} {y0' : AM}, (RT tC) y0 y0' → ∀ {y1 : Nat} {y1' : Nat}, (y1 = y1') → ∀ {y2 : Int32} {y2' : Int}, RI y2 y2' → Lf (RT tC) (k136 y0 y1 y2) (k136' y0' y1' y2')) {S : Mem} {S' : AM} (hS : (RT tC) S S') {x1 x1' : Nat} (hx1 : x1 = x1') {y0 : Int32} {y0' : Int} (hy0 : RI y0 y0') : Lf (RT tC) (f_X6_put_222 k k136 S x1 y0) (g_X6_put_222 k' k136' S' x1' y0') := by
  subst hk
  subst hx1
  unfold f_X6_put_222 g_X6_put_222
  exact hk136 hS rfl hy0
def g_X6_put_194 (k : Nat) (k136 : AM → Nat → Int → Option (AM)) (S : AM) (x1 : Nat) (x6 : Int) : Option (AM) :=
  hA x6 64 <|
  hA (S (R_o k x1) 3) 2147483648 <|
  c32 ((S (R_o k x1) 3) / 64) <|
  if ((S (R_o k x1) 3) / 64) ≤ (S (B_index k) (x6 : Int).toNat) then
    g_X6_put_222 k k136 S x1 (-1)
  else
    hA x6 64 <|
    g_X6_put_222 k k136 S x1 (S (B_next k) (x6 : Int).toNat)
set_option maxRecDepth 10000 in
theorem lf_X6_put_194 {k k' : Nat} (hk : k = k') {k136 : Mem → Nat → Int32 → Option (Mem)} {k136' : AM → Nat → Int → Option (AM)} (hk136 : ∀ {y0 : Mem} {y0' : AM}, (RT tC) y0 y0' → ∀ {y1 : Nat} {y1' : Nat}, (y1 = y1') → ∀ {y2 : Int32} {y2' : Int}, RI y2 y2' → Lf (RT tC) (k136 y0 y1 y2) (k136' y0' y1' y2')) {S : Mem} {S' : AM} (hS : (RT tC) S S') {x1 x1' : Nat} (hx1 : x1 = x1') {x6 : Int32} {x6' : Int} (hx6 : RI x6 x6') : Lf (RT tC) (f_X6_put_194 k k136 S x1 x6) (g_X6_put_194 k' k136' S' x1' x6') := by
  subst hk
  subst hx1
  unfold f_X6_put_194 g_X6_put_194
  refine Lf_hA hx6.1 (by decide) (fun b1 => ?_)
  refine Lf_hD (fun b2 => ?_)
  refine Lf_c32 (fun b3 => ?_)
  refine Lf_ite (C_le (RI.mk (E_div (RI.at hS rfl rfl rfl).1 (li32 64) b2 (by decide) (by decide)) b3) (RI.at hS rfl (tnE hx6.1 b1 (by decide)) rfl)) (fun c4 => ?_) (fun c4 => ?_)
  · exact lf_X6_put_222 rfl hk136 hS rfl RI.m1
  · refine Lf_hA hx6.1 (by decide) (fun b5 => ?_)
    exact lf_X6_put_222 rfl hk136 hS rfl (RI.at hS rfl (tnE hx6.1 b1 (by decide)) rfl)
def g_X6_put_142_b (k : Nat) (k136 : AM → Nat → Int → Option (AM)) (k142 : AM → Nat → Int → Option (AM)) (S : AM) (x1 : Nat) (x6 : Int) : Option (AM) :=
  hA x6 64 <|
  hA (S (R_o k x1) 3) 2147483648 <|
  c32 ((S (R_o k x1) 3) / 64) <|
  if (S (B_index k) (x6 : Int).toNat) ≠ ((S (R_o k x1) 3) / 64) then
    g_X6_put_194 k k136 S x1 x6
  else
    hA x6 64 <|
    hA ((S (R_o k x1) 3) - (((S (R_o k x1) 3) / 64) * 64)) 64 <|
    c64 (((S (B_marks k) (x6 : Int).toNat) / 2 ^ (((S (R_o k x1) 3) - (((S (R_o k x1) 3) / 64) * 64)) : Int).toNat) % 2) <|
    if (((S (B_marks k) (x6 : Int).toNat) / 2 ^ (((S (R_o k x1) 3) - (((S (R_o k x1) 3) / 64) * 64)) : Int).toNat) % 2) ≠ 1 then
      g_X6_put_194 k k136 S x1 x6
    else
      c32 ((S (R_o k x1) 3) + 1) <|
      gS (uA S (R_o k x1) 3 ((S (R_o k x1) 3) + 1)) fun S1 =>
      k142 S1 x1 x6
set_option maxRecDepth 10000 in
theorem lf_X6_put_142_b {k k' : Nat} (hk : k = k') {k136 : Mem → Nat → Int32 → Option (Mem)} {k136' : AM → Nat → Int → Option (AM)} (hk136 : ∀ {y0 : Mem} {y0' : AM}, (RT tC) y0 y0' → ∀ {y1 : Nat} {y1' : Nat}, (y1 = y1') → ∀ {y2 : Int32} {y2' : Int}, RI y2 y2' → Lf (RT tC) (k136 y0 y1 y2) (k136' y0' y1' y2')) {k142 : Mem → Nat → Int32 → Option (Mem)} {k142' : AM → Nat → Int → Option (AM)} (hk142 : ∀ {y0 : Mem} {y0' : AM}, (RT tC) y0 y0' → ∀ {y1 : Nat} {y1' : Nat}, (y1 = y1') → ∀ {y2 : Int32} {y2' : Int}, RI y2 y2' → Lf (RT tC) (k142 y0 y1 y2) (k142' y0' y1' y2')) {S : Mem} {S' : AM} (hS : (RT tC) S S') {x1 x1' : Nat} (hx1 : x1 = x1') {x6 : Int32} {x6' : Int} (hx6 : RI x6 x6') : Lf (RT tC) (f_X6_put_142_b k k136 k142 S x1 x6) (g_X6_put_142_b k' k136' k142' S' x1' x6') := by
  subst hk
  subst hx1
  unfold f_X6_put_142_b g_X6_put_142_b
  refine Lf_hA hx6.1 (by decide) (fun b1 => ?_)
  refine Lf_hD (fun b2 => ?_)
  refine Lf_c32 (fun b3 => ?_)
  refine Lf_ite (C_ne (RI.at hS rfl (tnE hx6.1 b1 (by decide)) rfl) (RI.mk (E_div (RI.at hS rfl rfl rfl).1 (li32 64) b2 (by decide) (by decide)) b3)) (fun c4 => ?_) (fun c4 => ?_)
  · exact lf_X6_put_194 rfl hk136 hS rfl hx6
  · refine Lf_hA hx6.1 (by decide) (fun b5 => ?_)
    refine Lf_hD (fun b6 => ?_)
    refine Lf_c64 (fun b7 => ?_)
    refine Lf_ite (D_ne (RJ.mk (F_m1 (F_shr (RJ.at hS rfl (tnE hx6.1 b1 (by decide)) rfl) (E_sub (RI.at hS rfl rfl rfl).1 (E_mul (E_div (RI.at hS rfl rfl rfl).1 (li32 64) b2 (by decide) (by decide)) (li32 64))) b6)) b7) (RJ.lit 1 (by decide))) (fun c8 => ?_) (fun c8 => ?_)
    · exact lf_X6_put_194 rfl hk136 hS rfl hx6
    · refine Lf_c32 (fun b9 => ?_)
      refine Lf_st (RT.siq hS rfl rfl (RI.mk (E_add (RI.at hS rfl rfl rfl).1 (li32 1)) b9) rfl) (fun S1 S1' hS1 => ?_)
      exact hk142 hS1 rfl hx6
def g_X6_put_142 (k : Nat) (k136 : AM → Nat → Int → Option (AM)) : Nat → AM → Nat → Int → Option (AM)
  | 0, _, _, _ => none
  | n + 1, S, x1, x6 => g_X6_put_142_b k k136 (g_X6_put_142 k k136 n) S x1 x6
set_option maxRecDepth 10000 in
theorem lf_X6_put_142 {k k' : Nat} (hk : k = k') {k136 : Mem → Nat → Int32 → Option (Mem)} {k136' : AM → Nat → Int → Option (AM)} (hk136 : ∀ {y0 : Mem} {y0' : AM}, (RT tC) y0 y0' → ∀ {y1 : Nat} {y1' : Nat}, (y1 = y1') → ∀ {y2 : Int32} {y2' : Int}, RI y2 y2' → Lf (RT tC) (k136 y0 y1 y2) (k136' y0' y1' y2')) (n : Nat) : ∀ {S : Mem} {S' : AM}, (RT tC) S S' → ∀ {x1 : Nat} {x1' : Nat}, (x1 = x1') → ∀ {x6 : Int32} {x6' : Int}, RI x6 x6' → Lf (RT tC) (f_X6_put_142 k k136 n S x1 x6) (g_X6_put_142 k' k136' n S' x1' x6') := by
  subst hk
  induction n with
  | zero => intros; exact Lf_none
  | succ n ih => intro S S' hS x1 x1' hx1 x6 x6' hx6; exact lf_X6_put_142_b rfl hk136 ih hS hx1 hx6
def g_X6_put_136_b (k : Nat) (k136 : AM → Nat → Int → Option (AM)) (S : AM) (x1 : Nat) (x6 : Int) : Option (AM) :=
  if x6 = (-1) then
    some (S)
  else
    g_X6_put_142 k k136 FU S x1 x6
set_option maxRecDepth 10000 in
theorem lf_X6_put_136_b {k k' : Nat} (hk : k = k') {k136 : Mem → Nat → Int32 → Option (Mem)} {k136' : AM → Nat → Int → Option (AM)} (hk136 : ∀ {y0 : Mem} {y0' : AM}, (RT tC) y0 y0' → ∀ {y1 : Nat} {y1' : Nat}, (y1 = y1') → ∀ {y2 : Int32} {y2' : Int}, RI y2 y2' → Lf (RT tC) (k136 y0 y1 y2) (k136' y0' y1' y2')) {S : Mem} {S' : AM} (hS : (RT tC) S S') {x1 x1' : Nat} (hx1 : x1 = x1') {x6 : Int32} {x6' : Int} (hx6 : RI x6 x6') : Lf (RT tC) (f_X6_put_136_b k k136 S x1 x6) (g_X6_put_136_b k' k136' S' x1' x6') := by
  subst hk
  subst hx1
  unfold f_X6_put_136_b g_X6_put_136_b
  refine Lf_ite (C_eq hx6 RI.m1) (fun c1 => ?_) (fun c1 => ?_)
  · exact Lf_some hS
  · exact lf_X6_put_142 rfl hk136 FU hS rfl hx6
def g_X6_put_136 (k : Nat) : Nat → AM → Nat → Int → Option (AM)
  | 0, _, _, _ => none
  | n + 1, S, x1, x6 => g_X6_put_136_b k (g_X6_put_136 k n) S x1 x6
set_option maxRecDepth 10000 in
theorem lf_X6_put_136 {k k' : Nat} (hk : k = k') (n : Nat) : ∀ {S : Mem} {S' : AM}, (RT tC) S S' → ∀ {x1 : Nat} {x1' : Nat}, (x1 = x1') → ∀ {x6 : Int32} {x6' : Int}, RI x6 x6' → Lf (RT tC) (f_X6_put_136 k n S x1 x6) (g_X6_put_136 k' n S' x1' x6') := by
  subst hk
  induction n with
  | zero => intros; exact Lf_none
  | succ n ih => intro S S' hS x1 x1' hx1 x6 x6' hx6; exact lf_X6_put_136_b rfl ih hS hx1 hx6
def g_X6_put_15_b (k : Nat) (k15 : AM → Nat → Int → L3 → Int → Int → Int → Int → Option (AM)) (S : AM) (x1 : Nat) (x2 : Int) (x3 : L3) (x4 : Int) (x5 : Int) (x6 : Int) (x7 : Int) : Option (AM) :=
  if x5 ≤ x7 then
    g_X6_put_136 k FU S x1 (S (R_o k x1) 7)
  else
    if x6 = (-1) then
      c32 (x2 + x7) <|
      g_X6_put_49 k k15 S x1 x2 x3 x4 x5 x7 (x2 + x7)
    else
      hA x6 64 <|
      hA (x2 + x7) 2147483648 <|
      c32 ((x2 + x7) / 64) <|
      if (S (B_index k) (x6 : Int).toNat) = ((x2 + x7) / 64) then
        c32 (x2 + x7) <|
        g_X6_put_61 k k15 S x1 x2 x3 x4 x5 x6 x7 (x2 + x7)
      else
        c32 (x2 + x7) <|
        g_X6_put_49 k k15 S x1 x2 x3 x4 x5 x7 (x2 + x7)
set_option maxRecDepth 10000 in
theorem lf_X6_put_15_b {k k' : Nat} (hk : k = k') {k15 : Mem → Nat → Int32 → L3 → Int32 → Int32 → Int32 → Int32 → Option (Mem)} {k15' : AM → Nat → Int → L3 → Int → Int → Int → Int → Option (AM)} (hk15 : ∀ {y0 : Mem} {y0' : AM}, (RT tC) y0 y0' → ∀ {y1 : Nat} {y1' : Nat}, (y1 = y1') → ∀ {y2 : Int32} {y2' : Int}, RI y2 y2' → ∀ {y3 : L3} {y3' : L3}, (y3 = y3') → (∀ f, tC y3 f = false) → ∀ {y4 : Int32} {y4' : Int}, RI y4 y4' → ∀ {y5 : Int32} {y5' : Int}, RI y5 y5' → ∀ {y6 : Int32} {y6' : Int}, RI y6 y6' → ∀ {y7 : Int32} {y7' : Int}, RI y7 y7' → Lf (RT tC) (k15 y0 y1 y2 y3 y4 y5 y6 y7) (k15' y0' y1' y2' y3' y4' y5' y6' y7')) {S : Mem} {S' : AM} (hS : (RT tC) S S') {x1 x1' : Nat} (hx1 : x1 = x1') {x2 : Int32} {x2' : Int} (hx2 : RI x2 x2') {x3 x3' : L3} (hx3 : x3 = x3') (qx3 : ∀ f, tC x3 f = false) {x4 : Int32} {x4' : Int} (hx4 : RI x4 x4') {x5 : Int32} {x5' : Int} (hx5 : RI x5 x5') {x6 : Int32} {x6' : Int} (hx6 : RI x6 x6') {x7 : Int32} {x7' : Int} (hx7 : RI x7 x7') : Lf (RT tC) (f_X6_put_15_b k k15 S x1 x2 x3 x4 x5 x6 x7) (g_X6_put_15_b k' k15' S' x1' x2' x3' x4' x5' x6' x7') := by
  subst hk
  subst hx1
  subst hx3
  unfold f_X6_put_15_b g_X6_put_15_b
  refine Lf_ite (C_le hx5 hx7) (fun c1 => ?_) (fun c1 => ?_)
  · exact lf_X6_put_136 rfl FU hS rfl (RI.at hS rfl rfl rfl)
  · refine Lf_ite (C_eq hx6 RI.m1) (fun c2 => ?_) (fun c2 => ?_)
    · refine Lf_c32 (fun b3 => ?_)
      exact lf_X6_put_49 rfl hk15 hS rfl hx2 rfl qx3 hx4 hx5 hx7 (RI.mk (E_add hx2.1 hx7.1) b3)
    · refine Lf_hA hx6.1 (by decide) (fun b4 => ?_)
      refine Lf_hD (fun b5 => ?_)
      refine Lf_c32 (fun b6 => ?_)
      refine Lf_ite (C_eq (RI.at hS rfl (tnE hx6.1 b4 (by decide)) rfl) (RI.mk (E_div (E_add hx2.1 hx7.1) (li32 64) b5 (by decide) (by decide)) b6)) (fun c7 => ?_) (fun c7 => ?_)
      · refine Lf_c32 (fun b8 => ?_)
        exact lf_X6_put_61 rfl hk15 hS rfl hx2 rfl qx3 hx4 hx5 hx6 hx7 (RI.mk (E_add hx2.1 hx7.1) b8)
      · refine Lf_c32 (fun b9 => ?_)
        exact lf_X6_put_49 rfl hk15 hS rfl hx2 rfl qx3 hx4 hx5 hx7 (RI.mk (E_add hx2.1 hx7.1) b9)
def g_X6_put_15 (k : Nat) : Nat → AM → Nat → Int → L3 → Int → Int → Int → Int → Option (AM)
  | 0, _, _, _, _, _, _, _, _ => none
  | n + 1, S, x1, x2, x3, x4, x5, x6, x7 => g_X6_put_15_b k (g_X6_put_15 k n) S x1 x2 x3 x4 x5 x6 x7
set_option maxRecDepth 10000 in
theorem lf_X6_put_15 {k k' : Nat} (hk : k = k') (n : Nat) : ∀ {S : Mem} {S' : AM}, (RT tC) S S' → ∀ {x1 : Nat} {x1' : Nat}, (x1 = x1') → ∀ {x2 : Int32} {x2' : Int}, RI x2 x2' → ∀ {x3 : L3} {x3' : L3}, (x3 = x3') → (∀ f, tC x3 f = false) → ∀ {x4 : Int32} {x4' : Int}, RI x4 x4' → ∀ {x5 : Int32} {x5' : Int}, RI x5 x5' → ∀ {x6 : Int32} {x6' : Int}, RI x6 x6' → ∀ {x7 : Int32} {x7' : Int}, RI x7 x7' → Lf (RT tC) (f_X6_put_15 k n S x1 x2 x3 x4 x5 x6 x7) (g_X6_put_15 k' n S' x1' x2' x3' x4' x5' x6' x7') := by
  subst hk
  induction n with
  | zero => intros; exact Lf_none
  | succ n ih => intro S S' hS x1 x1' hx1 x2 x2' hx2 x3 x3' hx3 qx3 x4 x4' hx4 x5 x5' hx5 x6 x6' hx6 x7 x7' hx7; exact lf_X6_put_15_b rfl ih hS hx1 hx2 hx3 qx3 hx4 hx5 hx6 hx7
def g_X6_put (k : Nat) (S : AM) (x1 : Nat) (x2 : Int) (x3 : L3) (x4 : Int) (x5 : Int) : Option (AM) :=
  c32 ((S (R_o k x1) 3) - x2) <|
  g_X6_put_15 k FU S x1 x2 x3 x4 x5 (-1) (mxZ ((S (R_o k x1) 3) - x2) 0)
set_option maxRecDepth 10000 in
theorem lf_X6_put {k k' : Nat} (hk : k = k') {S : Mem} {S' : AM} (hS : (RT tC) S S') {x1 x1' : Nat} (hx1 : x1 = x1') {x2 : Int32} {x2' : Int} (hx2 : RI x2 x2') {x3 x3' : L3} (hx3 : x3 = x3') (qx3 : ∀ f, tC x3 f = false) {x4 : Int32} {x4' : Int} (hx4 : RI x4 x4') {x5 : Int32} {x5' : Int} (hx5 : RI x5 x5') : Lf (RT tC) (f_X6_put k S x1 x2 x3 x4 x5) (g_X6_put k' S' x1' x2' x3' x4' x5') := by
  subst hk
  subst hx1
  subst hx3
  unfold f_X6_put g_X6_put
  refine Lf_c32 (fun b1 => ?_)
  exact lf_X6_put_15 rfl FU hS rfl hx2 rfl qx3 hx4 hx5 RI.m1 (RI.mx (RI.mk (E_sub (RI.at hS rfl rfl rfl).1 hx2.1) b1) (RI.lit 0 (by decide)))
def g_X2_comes_21 (k : Nat) (S : AM) (x1 : Nat) (x2 : Int) (x4 : L3) (x5 : Int) (x6 : Int) : Option (AM) :=
  (g_X10_isLive k x1 S).bind fun v1 =>
  if v1 ≠ 0 then
    (g_X6_put k S x1 x2 x4 x5 x6).bind fun S2 =>
    (g_X10_settle k x1 S2).bind fun S3 =>
    some (S3)
  else
    some (S)
set_option maxRecDepth 10000 in
theorem lf_X2_comes_21 {k k' : Nat} (hk : k = k') {S : Mem} {S' : AM} (hS : (RT tC) S S') {x1 x1' : Nat} (hx1 : x1 = x1') {x2 : Int32} {x2' : Int} (hx2 : RI x2 x2') {x4 x4' : L3} (hx4 : x4 = x4') (qx4 : ∀ f, tC x4 f = false) {x5 : Int32} {x5' : Int} (hx5 : RI x5 x5') {x6 : Int32} {x6' : Int} (hx6 : RI x6 x6') : Lf (RT tC) (f_X2_comes_21 k S x1 x2 x4 x5 x6) (g_X2_comes_21 k' S' x1' x2' x4' x5' x6') := by
  subst hk
  subst hx1
  subst hx4
  unfold f_X2_comes_21 g_X2_comes_21
  refine Lf_gS (lf_X10_isLive rfl rfl hS) (fun v1 v1' hv1 => ?_)
  refine Lf_ite (C_ne hv1 (RI.lit 0 (by decide))) (fun c1 => ?_) (fun c1 => ?_)
  · refine Lf_bind (lf_X6_put rfl hS rfl hx2 rfl qx4 hx5 hx6) (fun S2 S2' hS2 => ?_)
    refine Lf_gS (lf_X10_settle rfl rfl hS2) (fun S3 S3' hS3 => ?_)
    exact Lf_some hS3
  · exact Lf_some hS
def g_X2_comes (k : Nat) (S : AM) (x1 : Nat) (x2 : Int) (x3 : Int) (x4 : L3) (x5 : Int) (x6 : Int) : Option (AM) :=
  c32 (x2 + x6) <|
  (g_X2_reach k S x1 (x2 + x6)).bind fun S1 =>
  if x3 = 0 then
    g_X2_comes_21 k S1 x1 x2 x4 x5 x6
  else
    gS (uA S1 (R_o k x1) 5 (x2 + x6)) fun S2 =>
    g_X2_comes_21 k S2 x1 x2 x4 x5 x6
set_option maxRecDepth 10000 in
theorem lf_X2_comes {k k' : Nat} (hk : k = k') {S : Mem} {S' : AM} (hS : (RT tC) S S') {x1 x1' : Nat} (hx1 : x1 = x1') {x2 : Int32} {x2' : Int} (hx2 : RI x2 x2') {x3 : Int32} {x3' : Int} (hx3 : RI x3 x3') {x4 x4' : L3} (hx4 : x4 = x4') (qx4 : ∀ f, tC x4 f = false) {x5 : Int32} {x5' : Int} (hx5 : RI x5 x5') {x6 : Int32} {x6' : Int} (hx6 : RI x6 x6') : Lf (RT tC) (f_X2_comes k S x1 x2 x3 x4 x5 x6) (g_X2_comes k' S' x1' x2' x3' x4' x5' x6') := by
  subst hk
  subst hx1
  subst hx4
  unfold f_X2_comes g_X2_comes
  refine Lf_c32 (fun b1 => ?_)
  refine Lf_gS (lf_X2_reach rfl hS rfl (RI.mk (E_add hx2.1 hx6.1) b1)) (fun S1 S1' hS1 => ?_)
  refine Lf_ite (C_eq hx3 (RI.lit 0 (by decide))) (fun c2 => ?_) (fun c2 => ?_)
  · exact lf_X2_comes_21 rfl hS1 rfl hx2 rfl qx4 hx5 hx6
  · refine Lf_st (RT.siq hS1 rfl rfl (RI.mk (E_add hx2.1 hx6.1) b1) rfl) (fun S2 S2' hS2 => ?_)
    exact lf_X2_comes_21 rfl hS2 rfl hx2 rfl qx4 hx5 hx6
def g_X6_clear_l0_b (k : Nat) (k0 : AM → Nat → Option (AM)) (S : AM) (x1 : Nat) : Option (AM) :=
  if (S (R_o k x1) 7) = (-1) then
    some (S)
  else
    (g_X6_drop k S x1).bind fun S1 =>
    k0 S1 x1
set_option maxRecDepth 10000 in
theorem lf_X6_clear_l0_b {k k' : Nat} (hk : k = k') {k0 : Mem → Nat → Option (Mem)} {k0' : AM → Nat → Option (AM)} (hk0 : ∀ {y0 : Mem} {y0' : AM}, (RT tC) y0 y0' → ∀ {y1 : Nat} {y1' : Nat}, (y1 = y1') → Lf (RT tC) (k0 y0 y1) (k0' y0' y1')) {S : Mem} {S' : AM} (hS : (RT tC) S S') {x1 x1' : Nat} (hx1 : x1 = x1') : Lf (RT tC) (f_X6_clear_l0_b k k0 S x1) (g_X6_clear_l0_b k' k0' S' x1') := by
  subst hk
  subst hx1
  unfold f_X6_clear_l0_b g_X6_clear_l0_b
  refine Lf_ite (C_eq (RI.at hS rfl rfl rfl) RI.m1) (fun c1 => ?_) (fun c1 => ?_)
  · exact Lf_some hS
  · refine Lf_bind (lf_X6_drop rfl hS rfl) (fun S1 S1' hS1 => ?_)
    exact hk0 hS1 rfl
def g_X6_clear_l0 (k : Nat) : Nat → AM → Nat → Option (AM)
  | 0, _, _ => none
  | n + 1, S, x1 => g_X6_clear_l0_b k (g_X6_clear_l0 k n) S x1
set_option maxRecDepth 10000 in
theorem lf_X6_clear_l0 {k k' : Nat} (hk : k = k') (n : Nat) : ∀ {S : Mem} {S' : AM}, (RT tC) S S' → ∀ {x1 : Nat} {x1' : Nat}, (x1 = x1') → Lf (RT tC) (f_X6_clear_l0 k n S x1) (g_X6_clear_l0 k' n S' x1') := by
  subst hk
  induction n with
  | zero => intros; exact Lf_none
  | succ n ih => intro S S' hS x1 x1' hx1; exact lf_X6_clear_l0_b rfl ih hS hx1
def g_X6_clear (k : Nat) (S : AM) (x1 : Nat) : Option (AM) :=
  g_X6_clear_l0 k FU S x1
set_option maxRecDepth 10000 in
theorem lf_X6_clear {k k' : Nat} (hk : k = k') {S : Mem} {S' : AM} (hS : (RT tC) S S') {x1 x1' : Nat} (hx1 : x1 = x1') : Lf (RT tC) (f_X6_clear k S x1) (g_X6_clear k' S' x1') := by
  subst hk
  subst hx1
  unfold f_X6_clear g_X6_clear
  exact lf_X6_clear_l0 rfl FU hS rfl
def g_X2_isReset (k : Nat) (S : AM) (x1 : Nat) (x2 : Int) (x4 : Int) : Option (AM) :=
  (g_X2_reach k S x1 x4).bind fun S1 =>
  (g_X10_isLive k x1 S1).bind fun v2 =>
  if v2 ≠ 0 then
    gS (uA S1 (R_o k x1) 1 4) fun S3 =>
    gS (uA S3 (R_o k x1) 8 x2) fun S4 =>
    gS (uA S4 (R_o k x1) 5 x4) fun S5 =>
    c32 ((S5 (H_o k) 13) + (x4 - (S5 (R_o k x1) 2))) <|
    gS (uA S5 (H_o k) 13 ((S5 (H_o k) 13) + (x4 - (S5 (R_o k x1) 2)))) fun S6 =>
    (g_X6_clear k S6 x1).bind fun S7 =>
    (g_X2_grow k S7).bind fun S8 =>
    some (S8)
  else
    some (S1)
set_option maxRecDepth 10000 in
theorem lf_X2_isReset {k k' : Nat} (hk : k = k') {S : Mem} {S' : AM} (hS : (RT tC) S S') {x1 x1' : Nat} (hx1 : x1 = x1') {x2 : Int64} {x2' : Int} (hx2 : RJ x2 x2') {x4 : Int32} {x4' : Int} (hx4 : RI x4 x4') : Lf (RT tC) (f_X2_isReset k S x1 x2 x4) (g_X2_isReset k' S' x1' x2' x4') := by
  subst hk
  subst hx1
  unfold f_X2_isReset g_X2_isReset
  refine Lf_gS (lf_X2_reach rfl hS rfl hx4) (fun S1 S1' hS1 => ?_)
  refine Lf_gS (lf_X10_isLive rfl rfl hS1) (fun v2 v2' hv2 => ?_)
  refine Lf_ite (C_ne hv2 (RI.lit 0 (by decide))) (fun c1 => ?_) (fun c1 => ?_)
  · refine Lf_st (RT.siq hS1 rfl rfl (RI.lit 4 (by decide)) rfl) (fun S3 S3' hS3 => ?_)
    refine Lf_st (RT.sjq hS3 rfl rfl hx2 rfl) (fun S4 S4' hS4 => ?_)
    refine Lf_st (RT.siq hS4 rfl rfl hx4 rfl) (fun S5 S5' hS5 => ?_)
    refine Lf_c32 (fun b2 => ?_)
    refine Lf_st (RT.siq hS5 rfl rfl (RI.mk (E_add (RI.at hS5 rfl rfl rfl).1 (E_sub hx4.1 (RI.at hS5 rfl rfl rfl).1)) b2) rfl) (fun S6 S6' hS6 => ?_)
    refine Lf_bind (lf_X6_clear rfl hS6 rfl) (fun S7 S7' hS7 => ?_)
    refine Lf_bind (lf_X2_grow rfl hS7) (fun S8 S8' hS8 => ?_)
    exact Lf_some hS8
  · exact Lf_some hS1
def g_X4_add_113 (k : Nat) (S : AM) (x1 : Int) (x4 : Int) (x5 : Int) (x6 : Int) (x7 : Int) : Option (AM × Int) :=
  gB2 (g_X4_make k S x6 x7 x5) fun S1 v2 =>
  if x4 ≠ (-1) then
    hA x4 64 <|
    gS (uA S1 (P_next k) ((x4 : Int).toNat) v2) fun S3 =>
    some (S3, x1)
  else
    some (S1, v2)
set_option maxRecDepth 10000 in
theorem lf_X4_add_113 {k k' : Nat} (hk : k = k') {S : Mem} {S' : AM} (hS : (RT tC) S S') {x1 : Int32} {x1' : Int} (hx1 : RI x1 x1') {x4 : Int32} {x4' : Int} (hx4 : RI x4 x4') {x5 : Int32} {x5' : Int} (hx5 : RI x5 x5') {x6 : Int32} {x6' : Int} (hx6 : RI x6 x6') {x7 : Int32} {x7' : Int} (hx7 : RI x7 x7') : Lf (RP (RT tC) RI) (f_X4_add_113 k S x1 x4 x5 x6 x7) (g_X4_add_113 k' S' x1' x4' x5' x6' x7') := by
  subst hk
  unfold f_X4_add_113 g_X4_add_113
  refine Lf_gB2 (lf_X4_make rfl hS hx6 hx7 hx5) (fun S1 S1' hS1 v2 v2' hv2 => ?_)
  refine Lf_ite (C_ne hx4 RI.m1) (fun c1 => ?_) (fun c1 => ?_)
  · refine Lf_hA hx4.1 (by decide) (fun b2 => ?_)
    refine Lf_st (RT.siq hS1 rfl (tnE hx4.1 b2 (by decide)) hv2 rfl) (fun S3 S3' hS3 => ?_)
    exact Lf_some (RP.mk hS3 hx1)
  · exact Lf_some (RP.mk hS1 hv2)
def g_X4_add_45_b (k : Nat) (k45 : AM → Int → Int → Int → Int → Int → Option (AM × Int)) (S : AM) (x1 : Int) (x4 : Int) (x5 : Int) (x6 : Int) (x7 : Int) : Option (AM × Int) :=
  if x5 = (-1) then
    g_X4_add_113 k S x1 x4 x5 x6 x7
  else
    hA x5 64 <|
    if x7 < (S (P_from k) (x5 : Int).toNat) then
      g_X4_add_113 k S x1 x4 x5 x6 x7
    else
      hA x5 64 <|
      hA x5 64 <|
      hA x5 64 <|
      (g_X4_release k S x5).bind fun S1 =>
      k45 S1 x1 x4 (S (P_next k) (x5 : Int).toNat) (mnZ x6 (S (P_from k) (x5 : Int).toNat)) (mxZ x7 (S (P_to k) (x5 : Int).toNat))
set_option maxRecDepth 10000 in
theorem lf_X4_add_45_b {k k' : Nat} (hk : k = k') {k45 : Mem → Int32 → Int32 → Int32 → Int32 → Int32 → Option (Mem × Int32)} {k45' : AM → Int → Int → Int → Int → Int → Option (AM × Int)} (hk45 : ∀ {y0 : Mem} {y0' : AM}, (RT tC) y0 y0' → ∀ {y1 : Int32} {y1' : Int}, RI y1 y1' → ∀ {y2 : Int32} {y2' : Int}, RI y2 y2' → ∀ {y3 : Int32} {y3' : Int}, RI y3 y3' → ∀ {y4 : Int32} {y4' : Int}, RI y4 y4' → ∀ {y5 : Int32} {y5' : Int}, RI y5 y5' → Lf (RP (RT tC) RI) (k45 y0 y1 y2 y3 y4 y5) (k45' y0' y1' y2' y3' y4' y5')) {S : Mem} {S' : AM} (hS : (RT tC) S S') {x1 : Int32} {x1' : Int} (hx1 : RI x1 x1') {x4 : Int32} {x4' : Int} (hx4 : RI x4 x4') {x5 : Int32} {x5' : Int} (hx5 : RI x5 x5') {x6 : Int32} {x6' : Int} (hx6 : RI x6 x6') {x7 : Int32} {x7' : Int} (hx7 : RI x7 x7') : Lf (RP (RT tC) RI) (f_X4_add_45_b k k45 S x1 x4 x5 x6 x7) (g_X4_add_45_b k' k45' S' x1' x4' x5' x6' x7') := by
  subst hk
  unfold f_X4_add_45_b g_X4_add_45_b
  refine Lf_ite (C_eq hx5 RI.m1) (fun c1 => ?_) (fun c1 => ?_)
  · exact lf_X4_add_113 rfl hS hx1 hx4 hx5 hx6 hx7
  · refine Lf_hA hx5.1 (by decide) (fun b2 => ?_)
    refine Lf_ite (C_lt hx7 (RI.at hS rfl (tnE hx5.1 b2 (by decide)) rfl)) (fun c3 => ?_) (fun c3 => ?_)
    · exact lf_X4_add_113 rfl hS hx1 hx4 hx5 hx6 hx7
    · refine Lf_hA hx5.1 (by decide) (fun b4 => ?_)
      refine Lf_hA hx5.1 (by decide) (fun b5 => ?_)
      refine Lf_hA hx5.1 (by decide) (fun b6 => ?_)
      refine Lf_bind (lf_X4_release rfl hS hx5) (fun S1 S1' hS1 => ?_)
      exact hk45 hS1 hx1 hx4 (RI.at hS rfl (tnE hx5.1 b2 (by decide)) rfl) (RI.mn hx6 (RI.at hS rfl (tnE hx5.1 b2 (by decide)) rfl)) (RI.mx hx7 (RI.at hS rfl (tnE hx5.1 b2 (by decide)) rfl))
def g_X4_add_45 (k : Nat) : Nat → AM → Int → Int → Int → Int → Int → Option (AM × Int)
  | 0, _, _, _, _, _, _ => none
  | n + 1, S, x1, x4, x5, x6, x7 => g_X4_add_45_b k (g_X4_add_45 k n) S x1 x4 x5 x6 x7
set_option maxRecDepth 10000 in
theorem lf_X4_add_45 {k k' : Nat} (hk : k = k') (n : Nat) : ∀ {S : Mem} {S' : AM}, (RT tC) S S' → ∀ {x1 : Int32} {x1' : Int}, RI x1 x1' → ∀ {x4 : Int32} {x4' : Int}, RI x4 x4' → ∀ {x5 : Int32} {x5' : Int}, RI x5 x5' → ∀ {x6 : Int32} {x6' : Int}, RI x6 x6' → ∀ {x7 : Int32} {x7' : Int}, RI x7 x7' → Lf (RP (RT tC) RI) (f_X4_add_45 k n S x1 x4 x5 x6 x7) (g_X4_add_45 k' n S' x1' x4' x5' x6' x7') := by
  subst hk
  induction n with
  | zero => intros; exact Lf_none
  | succ n ih => intro S S' hS x1 x1' hx1 x4 x4' hx4 x5 x5' hx5 x6 x6' hx6 x7 x7' hx7; exact lf_X4_add_45_b rfl ih hS hx1 hx4 hx5 hx6 hx7
def g_X4_add_12_b (k : Nat) (k12 : AM → Int → Int → Int → Int → Int → Int → Option (AM × Int)) (S : AM) (x1 : Int) (x2 : Int) (x4 : Int) (x5 : Int) (x6 : Int) (x7 : Int) : Option (AM × Int) :=
  if x5 = (-1) then
    g_X4_add_45 k FU S x1 x4 x5 x6 x7
  else
    hA x5 64 <|
    if x2 ≤ (S (P_to k) (x5 : Int).toNat) then
      g_X4_add_45 k FU S x1 x4 x5 x6 x7
    else
      hA x5 64 <|
      k12 S x1 x2 x5 (S (P_next k) (x5 : Int).toNat) x6 x7
set_option maxRecDepth 10000 in
theorem lf_X4_add_12_b {k k' : Nat} (hk : k = k') {k12 : Mem → Int32 → Int32 → Int32 → Int32 → Int32 → Int32 → Option (Mem × Int32)} {k12' : AM → Int → Int → Int → Int → Int → Int → Option (AM × Int)} (hk12 : ∀ {y0 : Mem} {y0' : AM}, (RT tC) y0 y0' → ∀ {y1 : Int32} {y1' : Int}, RI y1 y1' → ∀ {y2 : Int32} {y2' : Int}, RI y2 y2' → ∀ {y3 : Int32} {y3' : Int}, RI y3 y3' → ∀ {y4 : Int32} {y4' : Int}, RI y4 y4' → ∀ {y5 : Int32} {y5' : Int}, RI y5 y5' → ∀ {y6 : Int32} {y6' : Int}, RI y6 y6' → Lf (RP (RT tC) RI) (k12 y0 y1 y2 y3 y4 y5 y6) (k12' y0' y1' y2' y3' y4' y5' y6')) {S : Mem} {S' : AM} (hS : (RT tC) S S') {x1 : Int32} {x1' : Int} (hx1 : RI x1 x1') {x2 : Int32} {x2' : Int} (hx2 : RI x2 x2') {x4 : Int32} {x4' : Int} (hx4 : RI x4 x4') {x5 : Int32} {x5' : Int} (hx5 : RI x5 x5') {x6 : Int32} {x6' : Int} (hx6 : RI x6 x6') {x7 : Int32} {x7' : Int} (hx7 : RI x7 x7') : Lf (RP (RT tC) RI) (f_X4_add_12_b k k12 S x1 x2 x4 x5 x6 x7) (g_X4_add_12_b k' k12' S' x1' x2' x4' x5' x6' x7') := by
  subst hk
  unfold f_X4_add_12_b g_X4_add_12_b
  refine Lf_ite (C_eq hx5 RI.m1) (fun c1 => ?_) (fun c1 => ?_)
  · exact lf_X4_add_45 rfl FU hS hx1 hx4 hx5 hx6 hx7
  · refine Lf_hA hx5.1 (by decide) (fun b2 => ?_)
    refine Lf_ite (C_le hx2 (RI.at hS rfl (tnE hx5.1 b2 (by decide)) rfl)) (fun c3 => ?_) (fun c3 => ?_)
    · exact lf_X4_add_45 rfl FU hS hx1 hx4 hx5 hx6 hx7
    · refine Lf_hA hx5.1 (by decide) (fun b4 => ?_)
      exact hk12 hS hx1 hx2 hx5 (RI.at hS rfl (tnE hx5.1 b2 (by decide)) rfl) hx6 hx7
def g_X4_add_12 (k : Nat) : Nat → AM → Int → Int → Int → Int → Int → Int → Option (AM × Int)
  | 0, _, _, _, _, _, _, _ => none
  | n + 1, S, x1, x2, x4, x5, x6, x7 => g_X4_add_12_b k (g_X4_add_12 k n) S x1 x2 x4 x5 x6 x7
set_option maxRecDepth 10000 in
theorem lf_X4_add_12 {k k' : Nat} (hk : k = k') (n : Nat) : ∀ {S : Mem} {S' : AM}, (RT tC) S S' → ∀ {x1 : Int32} {x1' : Int}, RI x1 x1' → ∀ {x2 : Int32} {x2' : Int}, RI x2 x2' → ∀ {x4 : Int32} {x4' : Int}, RI x4 x4' → ∀ {x5 : Int32} {x5' : Int}, RI x5 x5' → ∀ {x6 : Int32} {x6' : Int}, RI x6 x6' → ∀ {x7 : Int32} {x7' : Int}, RI x7 x7' → Lf (RP (RT tC) RI) (f_X4_add_12 k n S x1 x2 x4 x5 x6 x7) (g_X4_add_12 k' n S' x1' x2' x4' x5' x6' x7') := by
  subst hk
  induction n with
  | zero => intros; exact Lf_none
  | succ n ih => intro S S' hS x1 x1' hx1 x2 x2' hx2 x4 x4' hx4 x5 x5' hx5 x6 x6' hx6 x7 x7' hx7; exact lf_X4_add_12_b rfl ih hS hx1 hx2 hx4 hx5 hx6 hx7
def g_X4_add (k : Nat) (S : AM) (x1 : Int) (x2 : Int) (x3 : Int) : Option (AM × Int) :=
  g_X4_add_12 k FU S x1 x2 (-1) x1 x2 x3
set_option maxRecDepth 10000 in
theorem lf_X4_add {k k' : Nat} (hk : k = k') {S : Mem} {S' : AM} (hS : (RT tC) S S') {x1 : Int32} {x1' : Int} (hx1 : RI x1 x1') {x2 : Int32} {x2' : Int} (hx2 : RI x2 x2') {x3 : Int32} {x3' : Int} (hx3 : RI x3 x3') : Lf (RP (RT tC) RI) (f_X4_add k S x1 x2 x3) (g_X4_add k' S' x1' x2' x3') := by
  subst hk
  unfold f_X4_add g_X4_add
  exact lf_X4_add_12 rfl FU hS hx1 hx2 RI.m1 hx1 hx2 hx3
def g_X4_count_4_b (k : Nat) (S : AM) (k4 : Int → Int → Option (Int)) (x2 : Int) (x3 : Int) : Option (Int) :=
  if x3 = (-1) then
    some (x2)
  else
    hA x3 64 <|
    hA x3 64 <|
    hA x3 64 <|
    c32 (x2 + ((S (P_to k) (x3 : Int).toNat) - (S (P_from k) (x3 : Int).toNat))) <|
    k4 (x2 + ((S (P_to k) (x3 : Int).toNat) - (S (P_from k) (x3 : Int).toNat))) (S (P_next k) (x3 : Int).toNat)
set_option maxRecDepth 10000 in
theorem lf_X4_count_4_b {k k' : Nat} (hk : k = k') {S : Mem} {S' : AM} (hS : (RT tC) S S') {k4 : Int32 → Int32 → Option (Int32)} {k4' : Int → Int → Option (Int)} (hk4 : ∀ {y0 : Int32} {y0' : Int}, RI y0 y0' → ∀ {y1 : Int32} {y1' : Int}, RI y1 y1' → Lf RI (k4 y0 y1) (k4' y0' y1')) {x2 : Int32} {x2' : Int} (hx2 : RI x2 x2') {x3 : Int32} {x3' : Int} (hx3 : RI x3 x3') : Lf RI (f_X4_count_4_b k S k4 x2 x3) (g_X4_count_4_b k' S' k4' x2' x3') := by
  subst hk
  unfold f_X4_count_4_b g_X4_count_4_b
  refine Lf_ite (C_eq hx3 RI.m1) (fun c1 => ?_) (fun c1 => ?_)
  · exact Lf_some hx2
  · refine Lf_hA hx3.1 (by decide) (fun b2 => ?_)
    refine Lf_hA hx3.1 (by decide) (fun b3 => ?_)
    refine Lf_hA hx3.1 (by decide) (fun b4 => ?_)
    refine Lf_c32 (fun b5 => ?_)
    exact hk4 (RI.mk (E_add hx2.1 (E_sub (RI.at hS rfl (tnE hx3.1 b2 (by decide)) rfl).1 (RI.at hS rfl (tnE hx3.1 b2 (by decide)) rfl).1)) b5) (RI.at hS rfl (tnE hx3.1 b2 (by decide)) rfl)
def g_X4_count_4 (k : Nat) (S : AM) : Nat → Int → Int → Option (Int)
  | 0, _, _ => none
  | n + 1, x2, x3 => g_X4_count_4_b k S (g_X4_count_4 k S n) x2 x3
set_option maxRecDepth 10000 in
theorem lf_X4_count_4 {k k' : Nat} (hk : k = k') {S : Mem} {S' : AM} (hS : (RT tC) S S') (n : Nat) : ∀ {x2 : Int32} {x2' : Int}, RI x2 x2' → ∀ {x3 : Int32} {x3' : Int}, RI x3 x3' → Lf RI (f_X4_count_4 k S n x2 x3) (g_X4_count_4 k' S' n x2' x3') := by
  subst hk
  induction n with
  | zero => intros; exact Lf_none
  | succ n ih => intro x2 x2' hx2 x3 x3' hx3; exact lf_X4_count_4_b rfl hS ih hx2 hx3
def g_X4_count (k : Nat) (S : AM) (x1 : Int) : Option (Int) :=
  g_X4_count_4 k S FU 0 x1
set_option maxRecDepth 10000 in
theorem lf_X4_count {k k' : Nat} (hk : k = k') {S : Mem} {S' : AM} (hS : (RT tC) S S') {x1 : Int32} {x1' : Int} (hx1 : RI x1 x1') : Lf RI (f_X4_count k S x1) (g_X4_count k' S' x1') := by
  subst hk
  unfold f_X4_count g_X4_count
  exact lf_X4_count_4 rfl hS FU (RI.lit 0 (by decide)) hx1
def g_X2_isGone_57 (k : Nat) (S : AM) (x1 : Nat) : Option (AM) :=
  if (S (S_o k x1) 0) ≠ 1 then
    some (S)
  else
    if (S (S_o k x1) 3) ≠ 4 then
      some (S)
    else
      (g_X4_count k S (S (S_o k x1) 7)).bind fun v1 =>
      if v1 ≠ (S (S_o k x1) 1) then
        some (S)
      else
        gS (uA S (S_o k x1) 0 2) fun S2 =>
        some (S2)
set_option maxRecDepth 10000 in
theorem lf_X2_isGone_57 {k k' : Nat} (hk : k = k') {S : Mem} {S' : AM} (hS : (RT tC) S S') {x1 x1' : Nat} (hx1 : x1 = x1') : Lf (RT tC) (f_X2_isGone_57 k S x1) (g_X2_isGone_57 k' S' x1') := by
  subst hk
  subst hx1
  unfold f_X2_isGone_57 g_X2_isGone_57
  refine Lf_ite (C_ne (RI.at hS rfl rfl rfl) (RI.lit 1 (by decide))) (fun c1 => ?_) (fun c1 => ?_)
  · exact Lf_some hS
  · refine Lf_ite (C_ne (RI.at hS rfl rfl rfl) (RI.lit 4 (by decide))) (fun c2 => ?_) (fun c2 => ?_)
    · exact Lf_some hS
    · refine Lf_bind (lf_X4_count rfl hS (RI.at hS rfl rfl rfl)) (fun v1 v1' hv1 => ?_)
      refine Lf_ite (C_ne hv1 (RI.at hS rfl rfl rfl)) (fun c3 => ?_) (fun c3 => ?_)
      · exact Lf_some hS
      · refine Lf_st (RT.siq hS rfl rfl (RI.lit 2 (by decide)) rfl) (fun S2 S2' hS2 => ?_)
        exact Lf_some hS2
def g_X2_isGone_47 (k : Nat) (S : AM) (x1 : Nat) (x4 : Int) : Option (AM) :=
  if x4 = 0 then
    g_X2_isGone_57 k S x1
  else
    gS (uA S (S_o k x1) 3 4) fun S1 =>
    g_X2_isGone_57 k S1 x1
set_option maxRecDepth 10000 in
theorem lf_X2_isGone_47 {k k' : Nat} (hk : k = k') {S : Mem} {S' : AM} (hS : (RT tC) S S') {x1 x1' : Nat} (hx1 : x1 = x1') {x4 : Int32} {x4' : Int} (hx4 : RI x4 x4') : Lf (RT tC) (f_X2_isGone_47 k S x1 x4) (g_X2_isGone_47 k' S' x1' x4') := by
  subst hk
  subst hx1
  unfold f_X2_isGone_47 g_X2_isGone_47
  refine Lf_ite (C_eq hx4 (RI.lit 0 (by decide))) (fun c1 => ?_) (fun c1 => ?_)
  · exact lf_X2_isGone_57 rfl hS rfl
  · refine Lf_st (RT.siq hS rfl rfl (RI.lit 4 (by decide)) rfl) (fun S1 S1' hS1 => ?_)
    exact lf_X2_isGone_57 rfl hS1 rfl
def g_X2_isGone_186 (k : Nat) (S : AM) (x1 : Nat) (x4 : Int) : Option (AM) :=
  if x4 = 0 then
    some (S)
  else
    if (S (S_o k x1) 3) = 4 then
      some (S)
    else
      gS (uA S (S_o k x1) 3 3) fun S1 =>
      some (S1)
set_option maxRecDepth 10000 in
theorem lf_X2_isGone_186 {k k' : Nat} (hk : k = k') {S : Mem} {S' : AM} (hS : (RT tC) S S') {x1 x1' : Nat} (hx1 : x1 = x1') {x4 : Int32} {x4' : Int} (hx4 : RI x4 x4') : Lf (RT tC) (f_X2_isGone_186 k S x1 x4) (g_X2_isGone_186 k' S' x1' x4') := by
  subst hk
  subst hx1
  unfold f_X2_isGone_186 g_X2_isGone_186
  refine Lf_ite (C_eq hx4 (RI.lit 0 (by decide))) (fun c1 => ?_) (fun c1 => ?_)
  · exact Lf_some hS
  · refine Lf_ite (C_eq (RI.at hS rfl rfl rfl) (RI.lit 4 (by decide))) (fun c2 => ?_) (fun c2 => ?_)
    · exact Lf_some hS
    · refine Lf_st (RT.siq hS rfl rfl (RI.lit 3 (by decide)) rfl) (fun S1 S1' hS1 => ?_)
      exact Lf_some hS1
def g_X2_isGone_126_b (k : Nat) (k126 : AM → Nat → Int → Int → Int → Option (AM)) (S : AM) (x1 : Nat) (x3 : Int) (x4 : Int) (x6 : Int) : Option (AM) :=
  if x6 = (-1) then
    g_X2_isGone_186 k S x1 x4
  else
    if x3 ≤ 0 then
      g_X2_isGone_186 k S x1 x4
    else
      hA x6 64 <|
      hA x6 64 <|
      gB2 (g_X4_cut k S (S (S_o k x1) 6) (S (P_from k) (x6 : Int).toNat) (S (P_to k) (x6 : Int).toNat)) fun S1 v2 =>
      gS (uA S1 (S_o k x1) 6 v2) fun S3 =>
      hA x6 64 <|
      k126 S3 x1 x3 x4 (S3 (P_next k) (x6 : Int).toNat)
set_option maxRecDepth 10000 in
theorem lf_X2_isGone_126_b {k k' : Nat} (hk : k = k') {k126 : Mem → Nat → Int32 → Int32 → Int32 → Option (Mem)} {k126' : AM → Nat → Int → Int → Int → Option (AM)} (hk126 : ∀ {y0 : Mem} {y0' : AM}, (RT tC) y0 y0' → ∀ {y1 : Nat} {y1' : Nat}, (y1 = y1') → ∀ {y2 : Int32} {y2' : Int}, RI y2 y2' → ∀ {y3 : Int32} {y3' : Int}, RI y3 y3' → ∀ {y4 : Int32} {y4' : Int}, RI y4 y4' → Lf (RT tC) (k126 y0 y1 y2 y3 y4) (k126' y0' y1' y2' y3' y4')) {S : Mem} {S' : AM} (hS : (RT tC) S S') {x1 x1' : Nat} (hx1 : x1 = x1') {x3 : Int32} {x3' : Int} (hx3 : RI x3 x3') {x4 : Int32} {x4' : Int} (hx4 : RI x4 x4') {x6 : Int32} {x6' : Int} (hx6 : RI x6 x6') : Lf (RT tC) (f_X2_isGone_126_b k k126 S x1 x3 x4 x6) (g_X2_isGone_126_b k' k126' S' x1' x3' x4' x6') := by
  subst hk
  subst hx1
  unfold f_X2_isGone_126_b g_X2_isGone_126_b
  refine Lf_ite (C_eq hx6 RI.m1) (fun c1 => ?_) (fun c1 => ?_)
  · exact lf_X2_isGone_186 rfl hS rfl hx4
  · refine Lf_ite (C_le hx3 (RI.lit 0 (by decide))) (fun c2 => ?_) (fun c2 => ?_)
    · exact lf_X2_isGone_186 rfl hS rfl hx4
    · refine Lf_hA hx6.1 (by decide) (fun b3 => ?_)
      refine Lf_hA hx6.1 (by decide) (fun b4 => ?_)
      refine Lf_gB2 (lf_X4_cut rfl hS (RI.at hS rfl rfl rfl) (RI.at hS rfl (tnE hx6.1 b3 (by decide)) rfl) (RI.at hS rfl (tnE hx6.1 b3 (by decide)) rfl)) (fun S1 S1' hS1 v2 v2' hv2 => ?_)
      refine Lf_st (RT.siq hS1 rfl rfl hv2 rfl) (fun S3 S3' hS3 => ?_)
      refine Lf_hA hx6.1 (by decide) (fun b5 => ?_)
      exact hk126 hS3 rfl hx3 hx4 (RI.at hS3 rfl (tnE hx6.1 b3 (by decide)) rfl)
def g_X2_isGone_126 (k : Nat) : Nat → AM → Nat → Int → Int → Int → Option (AM)
  | 0, _, _, _, _, _ => none
  | n + 1, S, x1, x3, x4, x6 => g_X2_isGone_126_b k (g_X2_isGone_126 k n) S x1 x3 x4 x6
set_option maxRecDepth 10000 in
theorem lf_X2_isGone_126 {k k' : Nat} (hk : k = k') (n : Nat) : ∀ {S : Mem} {S' : AM}, (RT tC) S S' → ∀ {x1 : Nat} {x1' : Nat}, (x1 = x1') → ∀ {x3 : Int32} {x3' : Int}, RI x3 x3' → ∀ {x4 : Int32} {x4' : Int}, RI x4 x4' → ∀ {x6 : Int32} {x6' : Int}, RI x6 x6' → Lf (RT tC) (f_X2_isGone_126 k n S x1 x3 x4 x6) (g_X2_isGone_126 k' n S' x1' x3' x4' x6') := by
  subst hk
  induction n with
  | zero => intros; exact Lf_none
  | succ n ih => intro S S' hS x1 x1' hx1 x3 x3' hx3 x4 x4' hx4 x6 x6' hx6; exact lf_X2_isGone_126_b rfl ih hS hx1 hx3 hx4 hx6
def g_X2_isGone_120 (k : Nat) (S : AM) (x1 : Nat) (x3 : Int) (x4 : Int) : Option (AM) :=
  g_X2_isGone_126 k FU S x1 x3 x4 (S (S_o k x1) 7)
set_option maxRecDepth 10000 in
theorem lf_X2_isGone_120 {k k' : Nat} (hk : k = k') {S : Mem} {S' : AM} (hS : (RT tC) S S') {x1 x1' : Nat} (hx1 : x1 = x1') {x3 : Int32} {x3' : Int} (hx3 : RI x3 x3') {x4 : Int32} {x4' : Int} (hx4 : RI x4 x4') : Lf (RT tC) (f_X2_isGone_120 k S x1 x3 x4) (g_X2_isGone_120 k' S' x1' x3' x4') := by
  subst hk
  subst hx1
  unfold f_X2_isGone_120 g_X2_isGone_120
  exact lf_X2_isGone_126 rfl FU hS rfl hx3 hx4 (RI.at hS rfl rfl rfl)
def g_X2_isGone (k : Nat) (S : AM) (x1 : Nat) (x2 : Int) (x3 : Int) (x4 : Int) (x5 : Int) : Option (AM) :=
  if x5 = 0 then
    if x3 ≤ 0 then
      g_X2_isGone_120 k S x1 x3 x4
    else
      c32 (x2 + x3) <|
      gB2 (g_X4_add k S (S (S_o k x1) 6) x2 (x2 + x3)) fun S1 v2 =>
      gS (uA S1 (S_o k x1) 6 v2) fun S3 =>
      g_X2_isGone_120 k S3 x1 x3 x4
  else
    if x3 ≤ 0 then
      g_X2_isGone_47 k S x1 x4
    else
      c32 (x2 + x3) <|
      gB2 (g_X4_add k S (S (S_o k x1) 7) x2 (x2 + x3)) fun S4 v5 =>
      gS (uA S4 (S_o k x1) 7 v5) fun S6 =>
      gB2 (g_X4_cut k S6 (S6 (S_o k x1) 6) x2 (x2 + x3)) fun S7 v8 =>
      gS (uA S7 (S_o k x1) 6 v8) fun S9 =>
      g_X2_isGone_47 k S9 x1 x4
set_option maxRecDepth 10000 in
theorem lf_X2_isGone {k k' : Nat} (hk : k = k') {S : Mem} {S' : AM} (hS : (RT tC) S S') {x1 x1' : Nat} (hx1 : x1 = x1') {x2 : Int32} {x2' : Int} (hx2 : RI x2 x2') {x3 : Int32} {x3' : Int} (hx3 : RI x3 x3') {x4 : Int32} {x4' : Int} (hx4 : RI x4 x4') {x5 : Int32} {x5' : Int} (hx5 : RI x5 x5') : Lf (RT tC) (f_X2_isGone k S x1 x2 x3 x4 x5) (g_X2_isGone k' S' x1' x2' x3' x4' x5') := by
  subst hk
  subst hx1
  unfold f_X2_isGone g_X2_isGone
  refine Lf_ite (C_eq hx5 (RI.lit 0 (by decide))) (fun c1 => ?_) (fun c1 => ?_)
  · refine Lf_ite (C_le hx3 (RI.lit 0 (by decide))) (fun c2 => ?_) (fun c2 => ?_)
    · exact lf_X2_isGone_120 rfl hS rfl hx3 hx4
    · refine Lf_c32 (fun b3 => ?_)
      refine Lf_gB2 (lf_X4_add rfl hS (RI.at hS rfl rfl rfl) hx2 (RI.mk (E_add hx2.1 hx3.1) b3)) (fun S1 S1' hS1 v2 v2' hv2 => ?_)
      refine Lf_st (RT.siq hS1 rfl rfl hv2 rfl) (fun S3 S3' hS3 => ?_)
      exact lf_X2_isGone_120 rfl hS3 rfl hx3 hx4
  · refine Lf_ite (C_le hx3 (RI.lit 0 (by decide))) (fun c4 => ?_) (fun c4 => ?_)
    · exact lf_X2_isGone_47 rfl hS rfl hx4
    · refine Lf_c32 (fun b5 => ?_)
      refine Lf_gB2 (lf_X4_add rfl hS (RI.at hS rfl rfl rfl) hx2 (RI.mk (E_add hx2.1 hx3.1) b5)) (fun S4 S4' hS4 v5 v5' hv5 => ?_)
      refine Lf_st (RT.siq hS4 rfl rfl hv5 rfl) (fun S6 S6' hS6 => ?_)
      refine Lf_gB2 (lf_X4_cut rfl hS6 (RI.at hS6 rfl rfl rfl) hx2 (RI.mk (E_add hx2.1 hx3.1) b5)) (fun S7 S7' hS7 v8 v8' hv8 => ?_)
      refine Lf_st (RT.siq hS7 rfl rfl hv8 rfl) (fun S9 S9' hS9 => ?_)
      exact lf_X2_isGone_47 rfl hS9 rfl hx4
def g_X2_isLost_222 (E : L3 → Bool) (k : Nat) (S : AM) (y0 : Int) (y1 : Nat) : Option (AM) :=
  gS (uA S (W_o k y1) 5 y0) fun S1 =>
  some (S1)
set_option maxRecDepth 10000 in
theorem lf_X2_isLost_222 (E : L3 → Bool) {k k' : Nat} (hk : k = k') {S : Mem} {S' : AM} (hS : (RT tC) S S') {y0 : Int64} {y0' : Int} (hy0 : RJ y0 y0') {y1 y1' : Nat} (hy1 : y1 = y1') : Lf (RT tC) (f_X2_isLost_222 E k S y0 y1) (g_X2_isLost_222 E k' S' y0' y1') := by
  subst hk
  subst hy1
  unfold f_X2_isLost_222 g_X2_isLost_222
  refine Lf_st (RT.sjq hS rfl rfl hy0 rfl) (fun S1 S1' hS1 => ?_)
  exact Lf_some hS1
def g_X2_isLost_178 (E : L3 → Bool) (k : Nat) (S : AM) (x1 : Int) (x3 : Int) : Option (AM) :=
  hA (x1 - 22) 2 <|
  hA (x1 - 22) 2 <|
  if x3 ≠ (S (W_o k ((x1 - 22) : Int).toNat) 5) then
    hA (x1 - 22) 2 <|
    g_X2_isLost_222 E k S (S (W_o k ((x1 - 22) : Int).toNat) 5) ((x1 - 22) : Int).toNat
  else
    g_X2_isLost_222 E k S (-1) ((x1 - 22) : Int).toNat
set_option maxRecDepth 10000 in
theorem lf_X2_isLost_178 (E : L3 → Bool) {k k' : Nat} (hk : k = k') {S : Mem} {S' : AM} (hS : (RT tC) S S') {x1 : Int32} {x1' : Int} (hx1 : RI x1 x1') {x3 : Int64} {x3' : Int} (hx3 : RJ x3 x3') : Lf (RT tC) (f_X2_isLost_178 E k S x1 x3) (g_X2_isLost_178 E k' S' x1' x3') := by
  subst hk
  unfold f_X2_isLost_178 g_X2_isLost_178
  refine Lf_hA (E_sub hx1.1 (li32 22)) (by decide) (fun b1 => ?_)
  refine Lf_hA (E_sub hx1.1 (li32 22)) (by decide) (fun b2 => ?_)
  refine Lf_ite (D_ne hx3 (RJ.at hS (congrArg (W_o k) (tnE (E_sub hx1.1 (li32 22)) b1 (by decide))) rfl rfl)) (fun c3 => ?_) (fun c3 => ?_)
  · refine Lf_hA (E_sub hx1.1 (li32 22)) (by decide) (fun b4 => ?_)
    exact lf_X2_isLost_222 E rfl hS (RJ.at hS (congrArg (W_o k) (tnE (E_sub hx1.1 (li32 22)) b1 (by decide))) rfl rfl) (tnE (E_sub hx1.1 (li32 22)) b1 (by decide))
  · exact lf_X2_isLost_222 E rfl hS RJ.m1 (tnE (E_sub hx1.1 (li32 22)) b1 (by decide))
def g_X2_isLost_166 (E : L3 → Bool) (k : Nat) (S : AM) (x1 : Int) (x3 : Int) : Option (AM) :=
  if x1 = 22 then
    g_X2_isLost_178 E k S x1 x3
  else
    if x1 ≠ 23 then
      some (S)
    else
      g_X2_isLost_178 E k S x1 x3
set_option maxRecDepth 10000 in
theorem lf_X2_isLost_166 (E : L3 → Bool) {k k' : Nat} (hk : k = k') {S : Mem} {S' : AM} (hS : (RT tC) S S') {x1 : Int32} {x1' : Int} (hx1 : RI x1 x1') {x3 : Int64} {x3' : Int} (hx3 : RJ x3 x3') : Lf (RT tC) (f_X2_isLost_166 E k S x1 x3) (g_X2_isLost_166 E k' S' x1' x3') := by
  subst hk
  unfold f_X2_isLost_166 g_X2_isLost_166
  refine Lf_ite (C_eq hx1 (RI.lit 22 (by decide))) (fun c1 => ?_) (fun c1 => ?_)
  · exact lf_X2_isLost_178 E rfl hS hx1 hx3
  · refine Lf_ite (C_ne hx1 (RI.lit 23 (by decide))) (fun c2 => ?_) (fun c2 => ?_)
    · exact Lf_some hS
    · exact lf_X2_isLost_178 E rfl hS hx1 hx3
def g_X2_isLost_133 (E : L3 → Bool) (k : Nat) (S : AM) (x1 : Int) (x2 : Int) (x3 : Int) (x5 : Int) : Option (AM) :=
  if x1 ≠ 21 then
    g_X2_isLost_166 E k S x1 x3
  else
    hA x2 256 <|
    if E (S_o k (x2 : Int).toNat) = true then
      if x5 ≠ (S (S_o k (x2 : Int).toNat) 10) then
        g_X2_isLost_166 E k S x1 x3
      else
        hA x2 256 <|
        if E (S_o k (x2 : Int).toNat) = true then
          gS (uA S (S_o k (x2 : Int).toNat) 10 (-1)) fun S3 =>
          g_X2_isLost_166 E k S3 x1 x3
        else
          none
    else
      none
set_option maxRecDepth 10000 in
theorem lf_X2_isLost_133 (E : L3 → Bool) {k k' : Nat} (hk : k = k') {S : Mem} {S' : AM} (hS : (RT tC) S S') {x1 : Int32} {x1' : Int} (hx1 : RI x1 x1') {x2 : Int32} {x2' : Int} (hx2 : RI x2 x2') {x3 : Int64} {x3' : Int} (hx3 : RJ x3 x3') {x5 : Int64} {x5' : Int} (hx5 : RJ x5 x5') : Lf (RT tC) (f_X2_isLost_133 E k S x1 x2 x3 x5) (g_X2_isLost_133 E k' S' x1' x2' x3' x5') := by
  subst hk
  unfold f_X2_isLost_133 g_X2_isLost_133
  refine Lf_ite (C_ne hx1 (RI.lit 21 (by decide))) (fun c1 => ?_) (fun c1 => ?_)
  · exact lf_X2_isLost_166 E rfl hS hx1 hx3
  · refine Lf_hA hx2.1 (by decide) (fun b2 => ?_)
    refine Lf_ite (iff_of_eq (congrArg (fun q => E q = true) (congrArg (S_o k) (tnE hx2.1 b2 (by decide))))) (fun c3 => ?_) (fun c3 => ?_)
    · refine Lf_ite (D_ne hx5 (RJ.at hS (congrArg (S_o k) (tnE hx2.1 b2 (by decide))) rfl rfl)) (fun c4 => ?_) (fun c4 => ?_)
      · exact lf_X2_isLost_166 E rfl hS hx1 hx3
      · refine Lf_hA hx2.1 (by decide) (fun b5 => ?_)
        refine Lf_ite (iff_of_eq (congrArg (fun q => E q = true) (congrArg (S_o k) (tnE hx2.1 b2 (by decide))))) (fun c6 => ?_) (fun c6 => ?_)
        · refine Lf_st (RT.sjq hS (congrArg (S_o k) (tnE hx2.1 b2 (by decide))) rfl RJ.m1 rfl) (fun S3 S3' hS3 => ?_)
          exact lf_X2_isLost_166 E rfl hS3 hx1 hx3
        · exact Lf_none
    · exact Lf_none
def g_X2_isLost_111 (E : L3 → Bool) (k : Nat) (S : AM) (x1 : Int) (x2 : Int) (x3 : Int) (x5 : Int) : Option (AM) :=
  if x1 ≠ 20 then
    g_X2_isLost_133 E k S x1 x2 x3 x5
  else
    if x3 ≠ (S (H_o k) 10) then
      g_X2_isLost_133 E k S x1 x2 x3 x5
    else
      gS (uA S (H_o k) 10 (-1)) fun S1 =>
      g_X2_isLost_133 E k S1 x1 x2 x3 x5
set_option maxRecDepth 10000 in
theorem lf_X2_isLost_111 (E : L3 → Bool) {k k' : Nat} (hk : k = k') {S : Mem} {S' : AM} (hS : (RT tC) S S') {x1 : Int32} {x1' : Int} (hx1 : RI x1 x1') {x2 : Int32} {x2' : Int} (hx2 : RI x2 x2') {x3 : Int64} {x3' : Int} (hx3 : RJ x3 x3') {x5 : Int64} {x5' : Int} (hx5 : RJ x5 x5') : Lf (RT tC) (f_X2_isLost_111 E k S x1 x2 x3 x5) (g_X2_isLost_111 E k' S' x1' x2' x3' x5') := by
  subst hk
  unfold f_X2_isLost_111 g_X2_isLost_111
  refine Lf_ite (C_ne hx1 (RI.lit 20 (by decide))) (fun c1 => ?_) (fun c1 => ?_)
  · exact lf_X2_isLost_133 E rfl hS hx1 hx2 hx3 hx5
  · refine Lf_ite (D_ne hx3 (RJ.at hS rfl rfl rfl)) (fun c2 => ?_) (fun c2 => ?_)
    · exact lf_X2_isLost_133 E rfl hS hx1 hx2 hx3 hx5
    · refine Lf_st (RT.sjq hS rfl rfl RJ.m1 rfl) (fun S1 S1' hS1 => ?_)
      exact lf_X2_isLost_133 E rfl hS1 hx1 hx2 hx3 hx5
def g_X2_isLost_80 (E : L3 → Bool) (k : Nat) (S : AM) (x1 : Int) (x2 : Int) (x3 : Int) (x5 : Int) : Option (AM) :=
  hA (x1 - 18) 2 <|
  if x3 ≠ (S (W_o k ((x1 - 18) : Int).toNat) 2) then
    g_X2_isLost_111 E k S x1 x2 x3 x5
  else
    hA (x1 - 18) 2 <|
    gS (uA S (W_o k ((x1 - 18) : Int).toNat) 6 1) fun S3 =>
    g_X2_isLost_111 E k S3 x1 x2 x3 x5
set_option maxRecDepth 10000 in
theorem lf_X2_isLost_80 (E : L3 → Bool) {k k' : Nat} (hk : k = k') {S : Mem} {S' : AM} (hS : (RT tC) S S') {x1 : Int32} {x1' : Int} (hx1 : RI x1 x1') {x2 : Int32} {x2' : Int} (hx2 : RI x2 x2') {x3 : Int64} {x3' : Int} (hx3 : RJ x3 x3') {x5 : Int64} {x5' : Int} (hx5 : RJ x5 x5') : Lf (RT tC) (f_X2_isLost_80 E k S x1 x2 x3 x5) (g_X2_isLost_80 E k' S' x1' x2' x3' x5') := by
  subst hk
  unfold f_X2_isLost_80 g_X2_isLost_80
  refine Lf_hA (E_sub hx1.1 (li32 18)) (by decide) (fun b1 => ?_)
  refine Lf_ite (D_ne hx3 (RJ.mk (E_64 (RI.at hS (congrArg (W_o k) (tnE (E_sub hx1.1 (li32 18)) b1 (by decide))) rfl rfl)) (R_64 (RI.at hS (congrArg (W_o k) (tnE (E_sub hx1.1 (li32 18)) b1 (by decide))) rfl rfl).2))) (fun c2 => ?_) (fun c2 => ?_)
  · exact lf_X2_isLost_111 E rfl hS hx1 hx2 hx3 hx5
  · refine Lf_hA (E_sub hx1.1 (li32 18)) (by decide) (fun b3 => ?_)
    refine Lf_st (RT.siq hS (congrArg (W_o k) (tnE (E_sub hx1.1 (li32 18)) b1 (by decide))) rfl (RI.lit 1 (by decide)) rfl) (fun S3 S3' hS3 => ?_)
    exact lf_X2_isLost_111 E rfl hS3 hx1 hx2 hx3 hx5
def g_X2_isLost_68 (E : L3 → Bool) (k : Nat) (S : AM) (x1 : Int) (x2 : Int) (x3 : Int) (x5 : Int) : Option (AM) :=
  if x1 = 18 then
    g_X2_isLost_80 E k S x1 x2 x3 x5
  else
    if x1 ≠ 19 then
      g_X2_isLost_111 E k S x1 x2 x3 x5
    else
      g_X2_isLost_80 E k S x1 x2 x3 x5
set_option maxRecDepth 10000 in
theorem lf_X2_isLost_68 (E : L3 → Bool) {k k' : Nat} (hk : k = k') {S : Mem} {S' : AM} (hS : (RT tC) S S') {x1 : Int32} {x1' : Int} (hx1 : RI x1 x1') {x2 : Int32} {x2' : Int} (hx2 : RI x2 x2') {x3 : Int64} {x3' : Int} (hx3 : RJ x3 x3') {x5 : Int64} {x5' : Int} (hx5 : RJ x5 x5') : Lf (RT tC) (f_X2_isLost_68 E k S x1 x2 x3 x5) (g_X2_isLost_68 E k' S' x1' x2' x3' x5') := by
  subst hk
  unfold f_X2_isLost_68 g_X2_isLost_68
  refine Lf_ite (C_eq hx1 (RI.lit 18 (by decide))) (fun c1 => ?_) (fun c1 => ?_)
  · exact lf_X2_isLost_80 E rfl hS hx1 hx2 hx3 hx5
  · refine Lf_ite (C_ne hx1 (RI.lit 19 (by decide))) (fun c2 => ?_) (fun c2 => ?_)
    · exact lf_X2_isLost_111 E rfl hS hx1 hx2 hx3 hx5
    · exact lf_X2_isLost_80 E rfl hS hx1 hx2 hx3 hx5
def g_X2_isLost_36 (E : L3 → Bool) (k : Nat) (S : AM) (x1 : Int) (x2 : Int) (x3 : Int) (x5 : Int) : Option (AM) :=
  if x1 ≠ 17 then
    g_X2_isLost_68 E k S x1 x2 x3 x5
  else
    hA x2 256 <|
    if E (R_o k (x2 : Int).toNat) = true then
      if x5 ≠ (S (R_o k (x2 : Int).toNat) 6) then
        g_X2_isLost_68 E k S x1 x2 x3 x5
      else
        hA x2 256 <|
        if E (R_o k (x2 : Int).toNat) = true then
          gS (uA S (R_o k (x2 : Int).toNat) 10 1) fun S3 =>
          g_X2_isLost_68 E k S3 x1 x2 x3 x5
        else
          none
    else
      none
set_option maxRecDepth 10000 in
theorem lf_X2_isLost_36 (E : L3 → Bool) {k k' : Nat} (hk : k = k') {S : Mem} {S' : AM} (hS : (RT tC) S S') {x1 : Int32} {x1' : Int} (hx1 : RI x1 x1') {x2 : Int32} {x2' : Int} (hx2 : RI x2 x2') {x3 : Int64} {x3' : Int} (hx3 : RJ x3 x3') {x5 : Int64} {x5' : Int} (hx5 : RJ x5 x5') : Lf (RT tC) (f_X2_isLost_36 E k S x1 x2 x3 x5) (g_X2_isLost_36 E k' S' x1' x2' x3' x5') := by
  subst hk
  unfold f_X2_isLost_36 g_X2_isLost_36
  refine Lf_ite (C_ne hx1 (RI.lit 17 (by decide))) (fun c1 => ?_) (fun c1 => ?_)
  · exact lf_X2_isLost_68 E rfl hS hx1 hx2 hx3 hx5
  · refine Lf_hA hx2.1 (by decide) (fun b2 => ?_)
    refine Lf_ite (iff_of_eq (congrArg (fun q => E q = true) (congrArg (R_o k) (tnE hx2.1 b2 (by decide))))) (fun c3 => ?_) (fun c3 => ?_)
    · refine Lf_ite (D_ne hx5 (RJ.mk (E_64 (RI.at hS (congrArg (R_o k) (tnE hx2.1 b2 (by decide))) rfl rfl)) (R_64 (RI.at hS (congrArg (R_o k) (tnE hx2.1 b2 (by decide))) rfl rfl).2))) (fun c4 => ?_) (fun c4 => ?_)
      · exact lf_X2_isLost_68 E rfl hS hx1 hx2 hx3 hx5
      · refine Lf_hA hx2.1 (by decide) (fun b5 => ?_)
        refine Lf_ite (iff_of_eq (congrArg (fun q => E q = true) (congrArg (R_o k) (tnE hx2.1 b2 (by decide))))) (fun c6 => ?_) (fun c6 => ?_)
        · refine Lf_st (RT.siq hS (congrArg (R_o k) (tnE hx2.1 b2 (by decide))) rfl (RI.lit 1 (by decide)) rfl) (fun S3 S3' hS3 => ?_)
          exact lf_X2_isLost_68 E rfl hS3 hx1 hx2 hx3 hx5
        · exact Lf_none
    · exact Lf_none
def g_X2_isLost_15 (E : L3 → Bool) (k : Nat) (S : AM) (x1 : Int) (x2 : Int) (x3 : Int) (x5 : Int) : Option (AM) :=
  if x1 ≠ 16 then
    g_X2_isLost_36 E k S x1 x2 x3 x5
  else
    if x3 ≠ (S (H_o k) 14) then
      g_X2_isLost_36 E k S x1 x2 x3 x5
    else
      gS (uA S (H_o k) 16 1) fun S1 =>
      g_X2_isLost_36 E k S1 x1 x2 x3 x5
set_option maxRecDepth 10000 in
theorem lf_X2_isLost_15 (E : L3 → Bool) {k k' : Nat} (hk : k = k') {S : Mem} {S' : AM} (hS : (RT tC) S S') {x1 : Int32} {x1' : Int} (hx1 : RI x1 x1') {x2 : Int32} {x2' : Int} (hx2 : RI x2 x2') {x3 : Int64} {x3' : Int} (hx3 : RJ x3 x3') {x5 : Int64} {x5' : Int} (hx5 : RJ x5 x5') : Lf (RT tC) (f_X2_isLost_15 E k S x1 x2 x3 x5) (g_X2_isLost_15 E k' S' x1' x2' x3' x5') := by
  subst hk
  unfold f_X2_isLost_15 g_X2_isLost_15
  refine Lf_ite (C_ne hx1 (RI.lit 16 (by decide))) (fun c1 => ?_) (fun c1 => ?_)
  · exact lf_X2_isLost_36 E rfl hS hx1 hx2 hx3 hx5
  · refine Lf_ite (D_ne hx3 (RJ.mk (E_64 (RI.at hS rfl rfl rfl)) (R_64 (RI.at hS rfl rfl rfl).2))) (fun c2 => ?_) (fun c2 => ?_)
    · exact lf_X2_isLost_36 E rfl hS hx1 hx2 hx3 hx5
    · refine Lf_st (RT.siq hS rfl rfl (RI.lit 1 (by decide)) rfl) (fun S1 S1' hS1 => ?_)
      exact lf_X2_isLost_36 E rfl hS1 hx1 hx2 hx3 hx5
def g_X2_isLost (E : L3 → Bool) (k : Nat) (S : AM) (x1 : Int) (x2 : Int) (x3 : Int) (x5 : Int) : Option (AM) :=
  if x1 ≠ 5 then
    g_X2_isLost_15 E k S x1 x2 x3 x5
  else
    hA x2 256 <|
    if E (R_o k (x2 : Int).toNat) = true then
      gS (uA S (R_o k (x2 : Int).toNat) 11 1) fun S2 =>
      g_X2_isLost_15 E k S2 x1 x2 x3 x5
    else
      none
set_option maxRecDepth 10000 in
theorem lf_X2_isLost (E : L3 → Bool) {k k' : Nat} (hk : k = k') {S : Mem} {S' : AM} (hS : (RT tC) S S') {x1 : Int32} {x1' : Int} (hx1 : RI x1 x1') {x2 : Int32} {x2' : Int} (hx2 : RI x2 x2') {x3 : Int64} {x3' : Int} (hx3 : RJ x3 x3') {x5 : Int64} {x5' : Int} (hx5 : RJ x5 x5') : Lf (RT tC) (f_X2_isLost E k S x1 x2 x3 x5) (g_X2_isLost E k' S' x1' x2' x3' x5') := by
  subst hk
  unfold f_X2_isLost g_X2_isLost
  refine Lf_ite (C_ne hx1 (RI.lit 5 (by decide))) (fun c1 => ?_) (fun c1 => ?_)
  · exact lf_X2_isLost_15 E rfl hS hx1 hx2 hx3 hx5
  · refine Lf_hA hx2.1 (by decide) (fun b2 => ?_)
    refine Lf_ite (iff_of_eq (congrArg (fun q => E q = true) (congrArg (R_o k) (tnE hx2.1 b2 (by decide))))) (fun c3 => ?_) (fun c3 => ?_)
    · refine Lf_st (RT.siq hS (congrArg (R_o k) (tnE hx2.1 b2 (by decide))) rfl (RI.lit 1 (by decide)) rfl) (fun S2 S2' hS2 => ?_)
      exact lf_X2_isLost_15 E rfl hS2 hx1 hx2 hx3 hx5
    · exact Lf_none
def g_X2_gone_55 (E : L3 → Bool) (k : Nat) (S : AM) (x9 : Int) (x10 : Int) (x11 : Int) (y0 : Int) (y1 : Int) (y2 : Int) (y3 : Option (Nat)) : Option (AM) :=
  gM y3 (
    none) fun js3 =>
    (g_X2_isGone k S js3 y2 y1 y0 x9).bind fun S1 =>
    (g_X2_mayBeOver E k S1 x10 x11).bind fun S2 =>
    some (S2)
set_option maxRecDepth 10000 in
theorem lf_X2_gone_55 (E : L3 → Bool) {k k' : Nat} (hk : k = k') {S : Mem} {S' : AM} (hS : (RT tC) S S') {x9 : Int32} {x9' : Int} (hx9 : RI x9 x9') {x10 : Int32} {x10' : Int} (hx10 : RI x10 x10') {x11 : Int32} {x11' : Int} (hx11 : RI x11 x11') {y0 : Int32} {y0' : Int} (hy0 : RI y0 y0') {y1 : Int32} {y1' : Int} (hy1 : RI y1 y1') {y2 : Int32} {y2' : Int} (hy2 : RI y2 y2') {y3 y3' : Option (Nat)} (hy3 : y3 = y3') : Lf (RT tC) (f_X2_gone_55 E k S x9 x10 x11 y0 y1 y2 y3) (g_X2_gone_55 E k' S' x9' x10' x11' y0' y1' y2' y3') := by
  subst hk
  subst hy3
  unfold f_X2_gone_55 g_X2_gone_55
  refine Lf_gM (fun _ => ?_) (fun js3 _ => ?_)
  · exact Lf_none
  · refine Lf_bind (lf_X2_isGone rfl hS rfl hy2 hy1 hy0 hx9) (fun S1 S1' hS1 => ?_)
    refine Lf_bind (lf_X2_mayBeOver E rfl hS1 hx10 hx11) (fun S2 S2' hS2 => ?_)
    exact Lf_some hS2
def g_X2_gone_114 (E : L3 → Bool) (k : Nat) (S : AM) (x10 : Int) (x11 : Int) : Option (AM) :=
  (g_X2_mayBeOver E k S x10 x11).bind fun S1 =>
  some (S1)
set_option maxRecDepth 10000 in
theorem lf_X2_gone_114 (E : L3 → Bool) {k k' : Nat} (hk : k = k') {S : Mem} {S' : AM} (hS : (RT tC) S S') {x10 : Int32} {x10' : Int} (hx10 : RI x10 x10') {x11 : Int32} {x11' : Int} (hx11 : RI x11 x11') : Lf (RT tC) (f_X2_gone_114 E k S x10 x11) (g_X2_gone_114 E k' S' x10' x11') := by
  subst hk
  unfold f_X2_gone_114 g_X2_gone_114
  refine Lf_bind (lf_X2_mayBeOver E rfl hS hx10 hx11) (fun S1 S1' hS1 => ?_)
  exact Lf_some hS1
def g_X2_gone_14 (E : L3 → Bool) (k : Nat) (S : AM) (x1 : Int) (x2 : Int) (x4 : Int) (x6 : Int) (x7 : Int) (x9 : Int) (y0 : Int) : Option (AM) :=
  if x1 ≠ 8 then
    if x1 ≠ 4 then
      if x9 ≠ 0 then
        some (S)
      else
        (g_X2_isLost E k S x1 y0 x2 x4).bind fun S1 =>
        some (S1)
    else
      (g_X2_isOver E k S y0).bind fun v2 =>
      if x9 = 0 then
        hA y0 256 <|
        if E (S_o k (y0 : Int).toNat) = true then
          gS (uA S (S_o k (y0 : Int).toNat) 11 1) fun S4 =>
          g_X2_gone_114 E k S4 y0 v2
        else
          none
      else
        hA y0 256 <|
        if E (S_o k (y0 : Int).toNat) = true then
          gS (uA S (S_o k (y0 : Int).toNat) 0 4) fun S6 =>
          g_X2_gone_114 E k S6 y0 v2
        else
          none
  else
    (g_X2_isOver E k S y0).bind fun v7 =>
    hA y0 256 <|
    if E (S_o k (y0 : Int).toNat) = true then
      if x7 ≠ 1 then
        c32 x4 <|
        g_X2_gone_55 E k S x9 y0 v7 0 x6 x4 (some (y0 : Int).toNat)
      else
        c32 x4 <|
        g_X2_gone_55 E k S x9 y0 v7 1 x6 x4 (some (y0 : Int).toNat)
    else
      if x7 ≠ 1 then
        c32 x4 <|
        g_X2_gone_55 E k S x9 y0 v7 0 x6 x4 none
      else
        c32 x4 <|
        g_X2_gone_55 E k S x9 y0 v7 1 x6 x4 none
set_option maxRecDepth 10000 in
theorem lf_X2_gone_14 (E : L3 → Bool) {k k' : Nat} (hk : k = k') {S : Mem} {S' : AM} (hS : (RT tC) S S') {x1 : Int32} {x1' : Int} (hx1 : RI x1 x1') {x2 : Int64} {x2' : Int} (hx2 : RJ x2 x2') {x4 : Int64} {x4' : Int} (hx4 : RJ x4 x4') {x6 : Int32} {x6' : Int} (hx6 : RI x6 x6') {x7 : Int64} {x7' : Int} (hx7 : RJ x7 x7') {x9 : Int32} {x9' : Int} (hx9 : RI x9 x9') {y0 : Int32} {y0' : Int} (hy0 : RI y0 y0') : Lf (RT tC) (f_X2_gone_14 E k S x1 x2 x4 x6 x7 x9 y0) (g_X2_gone_14 E k' S' x1' x2' x4' x6' x7' x9' y0') := by
  subst hk
  unfold f_X2_gone_14 g_X2_gone_14
  refine Lf_ite (C_ne hx1 (RI.lit 8 (by decide))) (fun c1 => ?_) (fun c1 => ?_)
  · refine Lf_ite (C_ne hx1 (RI.lit 4 (by decide))) (fun c2 => ?_) (fun c2 => ?_)
    · refine Lf_ite (C_ne hx9 (RI.lit 0 (by decide))) (fun c3 => ?_) (fun c3 => ?_)
      · exact Lf_some hS
      · refine Lf_bind (lf_X2_isLost E rfl hS hx1 hy0 hx2 hx4) (fun S1 S1' hS1 => ?_)
        exact Lf_some hS1
    · refine Lf_bind (lf_X2_isOver E rfl hS hy0) (fun v2 v2' hv2 => ?_)
      refine Lf_ite (C_eq hx9 (RI.lit 0 (by decide))) (fun c4 => ?_) (fun c4 => ?_)
      · refine Lf_hA hy0.1 (by decide) (fun b5 => ?_)
        refine Lf_ite (iff_of_eq (congrArg (fun q => E q = true) (congrArg (S_o k) (tnE hy0.1 b5 (by decide))))) (fun c6 => ?_) (fun c6 => ?_)
        · refine Lf_st (RT.siq hS (congrArg (S_o k) (tnE hy0.1 b5 (by decide))) rfl (RI.lit 1 (by decide)) rfl) (fun S4 S4' hS4 => ?_)
          exact lf_X2_gone_114 E rfl hS4 hy0 hv2
        · exact Lf_none
      · refine Lf_hA hy0.1 (by decide) (fun b7 => ?_)
        refine Lf_ite (iff_of_eq (congrArg (fun q => E q = true) (congrArg (S_o k) (tnE hy0.1 b7 (by decide))))) (fun c8 => ?_) (fun c8 => ?_)
        · refine Lf_st (RT.siq hS (congrArg (S_o k) (tnE hy0.1 b7 (by decide))) rfl (RI.lit 4 (by decide)) rfl) (fun S6 S6' hS6 => ?_)
          exact lf_X2_gone_114 E rfl hS6 hy0 hv2
        · exact Lf_none
  · refine Lf_bind (lf_X2_isOver E rfl hS hy0) (fun v7 v7' hv7 => ?_)
    refine Lf_hA hy0.1 (by decide) (fun b9 => ?_)
    refine Lf_ite (iff_of_eq (congrArg (fun q => E q = true) (congrArg (S_o k) (tnE hy0.1 b9 (by decide))))) (fun c10 => ?_) (fun c10 => ?_)
    · refine Lf_ite (D_ne hx7 (RJ.lit 1 (by decide))) (fun c11 => ?_) (fun c11 => ?_)
      · refine Lf_c32 (fun b12 => ?_)
        exact lf_X2_gone_55 E rfl hS hx9 hy0 hv7 (RI.lit 0 (by decide)) hx6 (RI.mk (F_32 hx4.1) b12) (congrArg some (tnE hy0.1 b9 (by decide)))
      · refine Lf_c32 (fun b13 => ?_)
        exact lf_X2_gone_55 E rfl hS hx9 hy0 hv7 (RI.lit 1 (by decide)) hx6 (RI.mk (F_32 hx4.1) b13) (congrArg some (tnE hy0.1 b9 (by decide)))
    · refine Lf_ite (D_ne hx7 (RJ.lit 1 (by decide))) (fun c14 => ?_) (fun c14 => ?_)
      · refine Lf_c32 (fun b15 => ?_)
        exact lf_X2_gone_55 E rfl hS hx9 hy0 hv7 (RI.lit 0 (by decide)) hx6 (RI.mk (F_32 hx4.1) b15) rfl
      · refine Lf_c32 (fun b16 => ?_)
        exact lf_X2_gone_55 E rfl hS hx9 hy0 hv7 (RI.lit 1 (by decide)) hx6 (RI.mk (F_32 hx4.1) b16) rfl
def g_X2_gone (E : L3 → Bool) (k : Nat) (S : AM) (x1 : Int) (x2 : Int) (x4 : Int) (x6 : Int) (x7 : Int) (x9 : Int) : Option (AM) :=
  if 256 ≤ x2 then
    g_X2_gone_14 E k S x1 x2 x4 x6 x7 x9 0
  else
    c32 x2 <|
    g_X2_gone_14 E k S x1 x2 x4 x6 x7 x9 x2
set_option maxRecDepth 10000 in
theorem lf_X2_gone (E : L3 → Bool) {k k' : Nat} (hk : k = k') {S : Mem} {S' : AM} (hS : (RT tC) S S') {x1 : Int32} {x1' : Int} (hx1 : RI x1 x1') {x2 : Int64} {x2' : Int} (hx2 : RJ x2 x2') {x4 : Int64} {x4' : Int} (hx4 : RJ x4 x4') {x6 : Int32} {x6' : Int} (hx6 : RI x6 x6') {x7 : Int64} {x7' : Int} (hx7 : RJ x7 x7') {x9 : Int32} {x9' : Int} (hx9 : RI x9 x9') : Lf (RT tC) (f_X2_gone E k S x1 x2 x4 x6 x7 x9) (g_X2_gone E k' S' x1' x2' x4' x6' x7' x9') := by
  subst hk
  unfold f_X2_gone g_X2_gone
  refine Lf_ite (D_le (RJ.lit 256 (by decide)) hx2) (fun c1 => ?_) (fun c1 => ?_)
  · exact lf_X2_gone_14 E rfl hS hx1 hx2 hx4 hx6 hx7 hx9 (RI.lit 0 (by decide))
  · refine Lf_c32 (fun b2 => ?_)
    exact lf_X2_gone_14 E rfl hS hx1 hx2 hx4 hx6 hx7 hx9 (RI.mk (F_32 hx2.1) b2)
def g_X2_look_31 (E : L3 → Bool) (k : Nat) (S : AM) : Option (Int) :=
  some (-1)
set_option maxRecDepth 10000 in
theorem lf_X2_look_31 (E : L3 → Bool) {k k' : Nat} (hk : k = k') {S : Mem} {S' : AM} (hS : (RT tC) S S') : Lf RJ (f_X2_look_31 E k S) (g_X2_look_31 E k' S') := by
  subst hk
  unfold f_X2_look_31 g_X2_look_31
  exact Lf_some RJ.m1
def g_X2_look_35 (E : L3 → Bool) (k : Nat) (S : AM) (x2 : Int) (x3 : Option (Nat)) (x4 : Option (Nat)) : Option (Int) :=
  gM x3 (
    gM x4 (
      if x2 = 0 then
        none
      else
        if x2 = 1 then
          none
        else
          if x2 = 2 then
            none
          else
            if x2 = 3 then
              none
            else
              if x2 = 4 then
                none
              else
                if x2 = 5 then
                  none
                else
                  if x2 = 6 then
                    none
                  else
                    if x2 = 7 then
                      none
                    else
                      if x2 = 8 then
                        none
                      else
                        if x2 = 9 then
                          none
                        else
                          if x2 = 10 then
                            none
                          else
                            if x2 = 11 then
                              none
                            else
                              if x2 = 12 then
                                none
                              else
                                if x2 = 13 then
                                  none
                                else
                                  none) fun j4 =>
      if x2 = 0 then
        none
      else
        if x2 = 1 then
          none
        else
          if x2 = 2 then
            none
          else
            if x2 = 3 then
              none
            else
              if x2 = 4 then
                none
              else
                if x2 = 5 then
                  none
                else
                  if x2 = 6 then
                    none
                  else
                    if x2 = 7 then
                      none
                    else
                      if x2 = 8 then
                        some (S (R_o k j4) 1)
                      else
                        if x2 = 9 then
                          some (S (R_o k j4) 2)
                        else
                          if x2 = 10 then
                            some (S (R_o k j4) 3)
                          else
                            if x2 = 11 then
                              some (S (R_o k j4) 4)
                            else
                              if x2 = 12 then
                                some (S (R_o k j4) 5)
                              else
                                if x2 = 13 then
                                  some (S (R_o k j4) 6)
                                else
                                  some (S (R_o k j4) 8)) fun j3 =>
    gM x4 (
      if x2 = 0 then
        some (S (S_o k j3) 0)
      else
        if x2 = 1 then
          some (S (S_o k j3) 1)
        else
          if x2 = 2 then
            some (S (S_o k j3) 2)
          else
            if x2 = 3 then
              some (S (S_o k j3) 8)
            else
              if x2 = 4 then
                some (S (S_o k j3) 9)
              else
                if x2 = 5 then
                  (g_X4_count k S (S (S_o k j3) 6)).bind fun v1 =>
                  some (v1)
                else
                  if x2 = 6 then
                    (g_X4_count k S (S (S_o k j3) 7)).bind fun v2 =>
                    some (v2)
                  else
                    if x2 = 7 then
                      some (S (S_o k j3) 3)
                    else
                      if x2 = 8 then
                        none
                      else
                        if x2 = 9 then
                          none
                        else
                          if x2 = 10 then
                            none
                          else
                            if x2 = 11 then
                              none
                            else
                              if x2 = 12 then
                                none
                              else
                                if x2 = 13 then
                                  none
                                else
                                  none) fun j4 =>
      if x2 = 0 then
        some (S (S_o k j3) 0)
      else
        if x2 = 1 then
          some (S (S_o k j3) 1)
        else
          if x2 = 2 then
            some (S (S_o k j3) 2)
          else
            if x2 = 3 then
              some (S (S_o k j3) 8)
            else
              if x2 = 4 then
                some (S (S_o k j3) 9)
              else
                if x2 = 5 then
                  (g_X4_count k S (S (S_o k j3) 6)).bind fun v3 =>
                  some (v3)
                else
                  if x2 = 6 then
                    (g_X4_count k S (S (S_o k j3) 7)).bind fun v4 =>
                    some (v4)
                  else
                    if x2 = 7 then
                      some (S (S_o k j3) 3)
                    else
                      if x2 = 8 then
                        some (S (R_o k j4) 1)
                      else
                        if x2 = 9 then
                          some (S (R_o k j4) 2)
                        else
                          if x2 = 10 then
                            some (S (R_o k j4) 3)
                          else
                            if x2 = 11 then
                              some (S (R_o k j4) 4)
                            else
                              if x2 = 12 then
                                some (S (R_o k j4) 5)
                              else
                                if x2 = 13 then
                                  some (S (R_o k j4) 6)
                                else
                                  some (S (R_o k j4) 8)
set_option maxRecDepth 10000 in
theorem lf_X2_look_35 (E : L3 → Bool) {k k' : Nat} (hk : k = k') {S : Mem} {S' : AM} (hS : (RT tC) S S') {x2 : Int32} {x2' : Int} (hx2 : RI x2 x2') {x3 x3' : Option (Nat)} (hx3 : x3 = x3') {x4 x4' : Option (Nat)} (hx4 : x4 = x4') : Lf RJ (f_X2_look_35 E k S x2 x3 x4) (g_X2_look_35 E k' S' x2' x3' x4') := by
  subst hk
  subst hx3
  subst hx4
  unfold f_X2_look_35 g_X2_look_35
  refine Lf_gM (fun _ => ?_) (fun j3 _ => ?_)
  · refine Lf_gM (fun _ => ?_) (fun j4 _ => ?_)
    · refine Lf_ite (C_eq hx2 (RI.lit 0 (by decide))) (fun c1 => ?_) (fun c1 => ?_)
      · exact Lf_none
      · refine Lf_ite (C_eq hx2 (RI.lit 1 (by decide))) (fun c2 => ?_) (fun c2 => ?_)
        · exact Lf_none
        · refine Lf_ite (C_eq hx2 (RI.lit 2 (by decide))) (fun c3 => ?_) (fun c3 => ?_)
          · exact Lf_none
          · refine Lf_ite (C_eq hx2 (RI.lit 3 (by decide))) (fun c4 => ?_) (fun c4 => ?_)
            · exact Lf_none
            · refine Lf_ite (C_eq hx2 (RI.lit 4 (by decide))) (fun c5 => ?_) (fun c5 => ?_)
              · exact Lf_none
              · refine Lf_ite (C_eq hx2 (RI.lit 5 (by decide))) (fun c6 => ?_) (fun c6 => ?_)
                · exact Lf_none
                · refine Lf_ite (C_eq hx2 (RI.lit 6 (by decide))) (fun c7 => ?_) (fun c7 => ?_)
                  · exact Lf_none
                  · refine Lf_ite (C_eq hx2 (RI.lit 7 (by decide))) (fun c8 => ?_) (fun c8 => ?_)
                    · exact Lf_none
                    · refine Lf_ite (C_eq hx2 (RI.lit 8 (by decide))) (fun c9 => ?_) (fun c9 => ?_)
                      · exact Lf_none
                      · refine Lf_ite (C_eq hx2 (RI.lit 9 (by decide))) (fun c10 => ?_) (fun c10 => ?_)
                        · exact Lf_none
                        · refine Lf_ite (C_eq hx2 (RI.lit 10 (by decide))) (fun c11 => ?_) (fun c11 => ?_)
                          · exact Lf_none
                          · refine Lf_ite (C_eq hx2 (RI.lit 11 (by decide))) (fun c12 => ?_) (fun c12 => ?_)
                            · exact Lf_none
                            · refine Lf_ite (C_eq hx2 (RI.lit 12 (by decide))) (fun c13 => ?_) (fun c13 => ?_)
                              · exact Lf_none
                              · refine Lf_ite (C_eq hx2 (RI.lit 13 (by decide))) (fun c14 => ?_) (fun c14 => ?_)
                                · exact Lf_none
                                · exact Lf_none
    · refine Lf_ite (C_eq hx2 (RI.lit 0 (by decide))) (fun c15 => ?_) (fun c15 => ?_)
      · exact Lf_none
      · refine Lf_ite (C_eq hx2 (RI.lit 1 (by decide))) (fun c16 => ?_) (fun c16 => ?_)
        · exact Lf_none
        · refine Lf_ite (C_eq hx2 (RI.lit 2 (by decide))) (fun c17 => ?_) (fun c17 => ?_)
          · exact Lf_none
          · refine Lf_ite (C_eq hx2 (RI.lit 3 (by decide))) (fun c18 => ?_) (fun c18 => ?_)
            · exact Lf_none
            · refine Lf_ite (C_eq hx2 (RI.lit 4 (by decide))) (fun c19 => ?_) (fun c19 => ?_)
              · exact Lf_none
              · refine Lf_ite (C_eq hx2 (RI.lit 5 (by decide))) (fun c20 => ?_) (fun c20 => ?_)
                · exact Lf_none
                · refine Lf_ite (C_eq hx2 (RI.lit 6 (by decide))) (fun c21 => ?_) (fun c21 => ?_)
                  · exact Lf_none
                  · refine Lf_ite (C_eq hx2 (RI.lit 7 (by decide))) (fun c22 => ?_) (fun c22 => ?_)
                    · exact Lf_none
                    · refine Lf_ite (C_eq hx2 (RI.lit 8 (by decide))) (fun c23 => ?_) (fun c23 => ?_)
                      · exact Lf_some (RJ.mk (E_64 (RI.at hS rfl rfl rfl)) (R_64 (RI.at hS rfl rfl rfl).2))
                      · refine Lf_ite (C_eq hx2 (RI.lit 9 (by decide))) (fun c24 => ?_) (fun c24 => ?_)
                        · exact Lf_some (RJ.mk (E_64 (RI.at hS rfl rfl rfl)) (R_64 (RI.at hS rfl rfl rfl).2))
                        · refine Lf_ite (C_eq hx2 (RI.lit 10 (by decide))) (fun c25 => ?_) (fun c25 => ?_)
                          · exact Lf_some (RJ.mk (E_64 (RI.at hS rfl rfl rfl)) (R_64 (RI.at hS rfl rfl rfl).2))
                          · refine Lf_ite (C_eq hx2 (RI.lit 11 (by decide))) (fun c26 => ?_) (fun c26 => ?_)
                            · exact Lf_some (RJ.mk (E_64 (RI.at hS rfl rfl rfl)) (R_64 (RI.at hS rfl rfl rfl).2))
                            · refine Lf_ite (C_eq hx2 (RI.lit 12 (by decide))) (fun c27 => ?_) (fun c27 => ?_)
                              · exact Lf_some (RJ.mk (E_64 (RI.at hS rfl rfl rfl)) (R_64 (RI.at hS rfl rfl rfl).2))
                              · refine Lf_ite (C_eq hx2 (RI.lit 13 (by decide))) (fun c28 => ?_) (fun c28 => ?_)
                                · exact Lf_some (RJ.mk (E_64 (RI.at hS rfl rfl rfl)) (R_64 (RI.at hS rfl rfl rfl).2))
                                · exact Lf_some (RJ.at hS rfl rfl rfl)
  · refine Lf_gM (fun _ => ?_) (fun j4 _ => ?_)
    · refine Lf_ite (C_eq hx2 (RI.lit 0 (by decide))) (fun c29 => ?_) (fun c29 => ?_)
      · exact Lf_some (RJ.mk (E_64 (RI.at hS rfl rfl rfl)) (R_64 (RI.at hS rfl rfl rfl).2))
      · refine Lf_ite (C_eq hx2 (RI.lit 1 (by decide))) (fun c30 => ?_) (fun c30 => ?_)
        · exact Lf_some (RJ.mk (E_64 (RI.at hS rfl rfl rfl)) (R_64 (RI.at hS rfl rfl rfl).2))
        · refine Lf_ite (C_eq hx2 (RI.lit 2 (by decide))) (fun c31 => ?_) (fun c31 => ?_)
          · exact Lf_some (RJ.mk (E_64 (RI.at hS rfl rfl rfl)) (R_64 (RI.at hS rfl rfl rfl).2))
          · refine Lf_ite (C_eq hx2 (RI.lit 3 (by decide))) (fun c32 => ?_) (fun c32 => ?_)
            · exact Lf_some (RJ.at hS rfl rfl rfl)
            · refine Lf_ite (C_eq hx2 (RI.lit 4 (by decide))) (fun c33 => ?_) (fun c33 => ?_)
              · exact Lf_some (RJ.at hS rfl rfl rfl)
              · refine Lf_ite (C_eq hx2 (RI.lit 5 (by decide))) (fun c34 => ?_) (fun c34 => ?_)
                · refine Lf_bind (lf_X4_count rfl hS (RI.at hS rfl rfl rfl)) (fun v1 v1' hv1 => ?_)
                  exact Lf_some (RJ.mk (E_64 hv1) (R_64 hv1.2))
                · refine Lf_ite (C_eq hx2 (RI.lit 6 (by decide))) (fun c35 => ?_) (fun c35 => ?_)
                  · refine Lf_bind (lf_X4_count rfl hS (RI.at hS rfl rfl rfl)) (fun v2 v2' hv2 => ?_)
                    exact Lf_some (RJ.mk (E_64 hv2) (R_64 hv2.2))
                  · refine Lf_ite (C_eq hx2 (RI.lit 7 (by decide))) (fun c36 => ?_) (fun c36 => ?_)
                    · exact Lf_some (RJ.mk (E_64 (RI.at hS rfl rfl rfl)) (R_64 (RI.at hS rfl rfl rfl).2))
                    · refine Lf_ite (C_eq hx2 (RI.lit 8 (by decide))) (fun c37 => ?_) (fun c37 => ?_)
                      · exact Lf_none
                      · refine Lf_ite (C_eq hx2 (RI.lit 9 (by decide))) (fun c38 => ?_) (fun c38 => ?_)
                        · exact Lf_none
                        · refine Lf_ite (C_eq hx2 (RI.lit 10 (by decide))) (fun c39 => ?_) (fun c39 => ?_)
                          · exact Lf_none
                          · refine Lf_ite (C_eq hx2 (RI.lit 11 (by decide))) (fun c40 => ?_) (fun c40 => ?_)
                            · exact Lf_none
                            · refine Lf_ite (C_eq hx2 (RI.lit 12 (by decide))) (fun c41 => ?_) (fun c41 => ?_)
                              · exact Lf_none
                              · refine Lf_ite (C_eq hx2 (RI.lit 13 (by decide))) (fun c42 => ?_) (fun c42 => ?_)
                                · exact Lf_none
                                · exact Lf_none
    · refine Lf_ite (C_eq hx2 (RI.lit 0 (by decide))) (fun c43 => ?_) (fun c43 => ?_)
      · exact Lf_some (RJ.mk (E_64 (RI.at hS rfl rfl rfl)) (R_64 (RI.at hS rfl rfl rfl).2))
      · refine Lf_ite (C_eq hx2 (RI.lit 1 (by decide))) (fun c44 => ?_) (fun c44 => ?_)
        · exact Lf_some (RJ.mk (E_64 (RI.at hS rfl rfl rfl)) (R_64 (RI.at hS rfl rfl rfl).2))
        · refine Lf_ite (C_eq hx2 (RI.lit 2 (by decide))) (fun c45 => ?_) (fun c45 => ?_)
          · exact Lf_some (RJ.mk (E_64 (RI.at hS rfl rfl rfl)) (R_64 (RI.at hS rfl rfl rfl).2))
          · refine Lf_ite (C_eq hx2 (RI.lit 3 (by decide))) (fun c46 => ?_) (fun c46 => ?_)
            · exact Lf_some (RJ.at hS rfl rfl rfl)
            · refine Lf_ite (C_eq hx2 (RI.lit 4 (by decide))) (fun c47 => ?_) (fun c47 => ?_)
              · exact Lf_some (RJ.at hS rfl rfl rfl)
              · refine Lf_ite (C_eq hx2 (RI.lit 5 (by decide))) (fun c48 => ?_) (fun c48 => ?_)
                · refine Lf_bind (lf_X4_count rfl hS (RI.at hS rfl rfl rfl)) (fun v3 v3' hv3 => ?_)
                  exact Lf_some (RJ.mk (E_64 hv3) (R_64 hv3.2))
                · refine Lf_ite (C_eq hx2 (RI.lit 6 (by decide))) (fun c49 => ?_) (fun c49 => ?_)
                  · refine Lf_bind (lf_X4_count rfl hS (RI.at hS rfl rfl rfl)) (fun v4 v4' hv4 => ?_)
                    exact Lf_some (RJ.mk (E_64 hv4) (R_64 hv4.2))
                  · refine Lf_ite (C_eq hx2 (RI.lit 7 (by decide))) (fun c50 => ?_) (fun c50 => ?_)
                    · exact Lf_some (RJ.mk (E_64 (RI.at hS rfl rfl rfl)) (R_64 (RI.at hS rfl rfl rfl).2))
                    · refine Lf_ite (C_eq hx2 (RI.lit 8 (by decide))) (fun c51 => ?_) (fun c51 => ?_)
                      · exact Lf_some (RJ.mk (E_64 (RI.at hS rfl rfl rfl)) (R_64 (RI.at hS rfl rfl rfl).2))
                      · refine Lf_ite (C_eq hx2 (RI.lit 9 (by decide))) (fun c52 => ?_) (fun c52 => ?_)
                        · exact Lf_some (RJ.mk (E_64 (RI.at hS rfl rfl rfl)) (R_64 (RI.at hS rfl rfl rfl).2))
                        · refine Lf_ite (C_eq hx2 (RI.lit 10 (by decide))) (fun c53 => ?_) (fun c53 => ?_)
                          · exact Lf_some (RJ.mk (E_64 (RI.at hS rfl rfl rfl)) (R_64 (RI.at hS rfl rfl rfl).2))
                          · refine Lf_ite (C_eq hx2 (RI.lit 11 (by decide))) (fun c54 => ?_) (fun c54 => ?_)
                            · exact Lf_some (RJ.mk (E_64 (RI.at hS rfl rfl rfl)) (R_64 (RI.at hS rfl rfl rfl).2))
                            · refine Lf_ite (C_eq hx2 (RI.lit 12 (by decide))) (fun c55 => ?_) (fun c55 => ?_)
                              · exact Lf_some (RJ.mk (E_64 (RI.at hS rfl rfl rfl)) (R_64 (RI.at hS rfl rfl rfl).2))
                              · refine Lf_ite (C_eq hx2 (RI.lit 13 (by decide))) (fun c56 => ?_) (fun c56 => ?_)
                                · exact Lf_some (RJ.mk (E_64 (RI.at hS rfl rfl rfl)) (R_64 (RI.at hS rfl rfl rfl).2))
                                · exact Lf_some (RJ.at hS rfl rfl rfl)
def g_X2_look (E : L3 → Bool) (k : Nat) (S : AM) (x1 : Int) (x2 : Int) : Option (Int) :=
  (g_X2_sending E k S x1).bind fun v1 =>
  gM v1 (
    (g_X2_receiving E k S x1).bind fun v4 =>
    gM v4 (
      if 8 ≤ x2 then
        g_X2_look_31 E k S
      else
        g_X2_look_31 E k S) fun j5 =>
      if 8 ≤ x2 then
        g_X2_look_35 E k S x2 none (some j5)
      else
        g_X2_look_31 E k S) fun j2 =>
    (g_X2_receiving E k S x1).bind fun v7 =>
    gM v7 (
      if 8 ≤ x2 then
        g_X2_look_31 E k S
      else
        g_X2_look_35 E k S x2 (some j2) none) fun j8 =>
      if 8 ≤ x2 then
        g_X2_look_35 E k S x2 (some j2) (some j8)
      else
        g_X2_look_35 E k S x2 (some j2) (some j8)
set_option maxRecDepth 10000 in
theorem lf_X2_look (E : L3 → Bool) {k k' : Nat} (hk : k = k') {S : Mem} {S' : AM} (hS : (RT tC) S S') {x1 : Int32} {x1' : Int} (hx1 : RI x1 x1') {x2 : Int32} {x2' : Int} (hx2 : RI x2 x2') : Lf RJ (f_X2_look E k S x1 x2) (g_X2_look E k' S' x1' x2') := by
  subst hk
  unfold f_X2_look g_X2_look
  refine Lf_bind (lf_X2_sending E rfl hS hx1) (fun v1 v1' hv1 => ?_)
  obtain rfl : v1 = v1' := hv1
  refine Lf_gM (fun _ => ?_) (fun j2 _ => ?_)
  · refine Lf_bind (lf_X2_receiving E rfl hS hx1) (fun v4 v4' hv4 => ?_)
    obtain rfl : v4 = v4' := hv4
    refine Lf_gM (fun _ => ?_) (fun j5 _ => ?_)
    · refine Lf_ite (C_le (RI.lit 8 (by decide)) hx2) (fun c1 => ?_) (fun c1 => ?_)
      · exact lf_X2_look_31 E rfl hS
      · exact lf_X2_look_31 E rfl hS
    · refine Lf_ite (C_le (RI.lit 8 (by decide)) hx2) (fun c2 => ?_) (fun c2 => ?_)
      · exact lf_X2_look_35 E rfl hS hx2 rfl rfl
      · exact lf_X2_look_31 E rfl hS
  · refine Lf_bind (lf_X2_receiving E rfl hS hx1) (fun v7 v7' hv7 => ?_)
    obtain rfl : v7 = v7' := hv7
    refine Lf_gM (fun _ => ?_) (fun j8 _ => ?_)
    · refine Lf_ite (C_le (RI.lit 8 (by decide)) hx2) (fun c3 => ?_) (fun c3 => ?_)
      · exact lf_X2_look_31 E rfl hS
      · exact lf_X2_look_35 E rfl hS hx2 rfl rfl
    · refine Lf_ite (C_le (RI.lit 8 (by decide)) hx2) (fun c4 => ?_) (fun c4 => ?_)
      · exact lf_X2_look_35 E rfl hS hx2 rfl rfl
      · exact lf_X2_look_35 E rfl hS hx2 rfl rfl
def g_X2_look_2 (k : Nat) (S : AM) (x1 : Int) : Option (Int) :=
  if x1 = 0 then
    some (S (H_o k) 11)
  else
    if x1 = 1 then
      some (S (H_o k) 9)
    else
      if x1 = 2 then
        some (S (H_o k) 12)
      else
        if x1 = 3 then
          some (S (H_o k) 13)
        else
          if x1 = 4 then
            some (S (H_o k) 14)
          else
            if x1 = 13 then
              some (S (T_o k) 1)
            else
              hA (x1 - 5) 2147483648 <|
              hA ((x1 - 5) - (((x1 - 5) / 2) * 2)) 2 <|
              if 7 ≤ x1 then
                if 9 ≤ x1 then
                  if 11 ≤ x1 then
                    some (S (W_o k (((x1 - 5) - (((x1 - 5) / 2) * 2)) : Int).toNat) 2)
                  else
                    some (S (W_o k (((x1 - 5) - (((x1 - 5) / 2) * 2)) : Int).toNat) 1)
                else
                  some (S (W_o k (((x1 - 5) - (((x1 - 5) / 2) * 2)) : Int).toNat) 3)
              else
                some (S (W_o k (((x1 - 5) - (((x1 - 5) / 2) * 2)) : Int).toNat) 0)
set_option maxRecDepth 10000 in
theorem lf_X2_look_2 {k k' : Nat} (hk : k = k') {S : Mem} {S' : AM} (hS : (RT tC) S S') {x1 : Int32} {x1' : Int} (hx1 : RI x1 x1') : Lf RJ (f_X2_look_2 k S x1) (g_X2_look_2 k' S' x1') := by
  subst hk
  unfold f_X2_look_2 g_X2_look_2
  refine Lf_ite (C_eq hx1 (RI.lit 0 (by decide))) (fun c1 => ?_) (fun c1 => ?_)
  · exact Lf_some (RJ.mk (E_64 (RI.at hS rfl rfl rfl)) (R_64 (RI.at hS rfl rfl rfl).2))
  · refine Lf_ite (C_eq hx1 (RI.lit 1 (by decide))) (fun c2 => ?_) (fun c2 => ?_)
    · exact Lf_some (RJ.at hS rfl rfl rfl)
    · refine Lf_ite (C_eq hx1 (RI.lit 2 (by decide))) (fun c3 => ?_) (fun c3 => ?_)
      · exact Lf_some (RJ.mk (E_64 (RI.at hS rfl rfl rfl)) (R_64 (RI.at hS rfl rfl rfl).2))
      · refine Lf_ite (C_eq hx1 (RI.lit 3 (by decide))) (fun c4 => ?_) (fun c4 => ?_)
        · exact Lf_some (RJ.mk (E_64 (RI.at hS rfl rfl rfl)) (R_64 (RI.at hS rfl rfl rfl).2))
        · refine Lf_ite (C_eq hx1 (RI.lit 4 (by decide))) (fun c5 => ?_) (fun c5 => ?_)
          · exact Lf_some (RJ.mk (E_64 (RI.at hS rfl rfl rfl)) (R_64 (RI.at hS rfl rfl rfl).2))
          · refine Lf_ite (C_eq hx1 (RI.lit 13 (by decide))) (fun c6 => ?_) (fun c6 => ?_)
            · exact Lf_some (RJ.mk (E_64 (RI.at hS rfl rfl rfl)) (R_64 (RI.at hS rfl rfl rfl).2))
            · refine Lf_hD (fun b7 => ?_)
              refine Lf_hA (E_sub (E_sub hx1.1 (li32 5)) (E_mul (E_div (E_sub hx1.1 (li32 5)) (li32 2) b7 (by decide) (by decide)) (li32 2))) (by decide) (fun b8 => ?_)
              refine Lf_ite (C_le (RI.lit 7 (by decide)) hx1) (fun c9 => ?_) (fun c9 => ?_)
              · refine Lf_ite (C_le (RI.lit 9 (by decide)) hx1) (fun c10 => ?_) (fun c10 => ?_)
                · refine Lf_ite (C_le (RI.lit 11 (by decide)) hx1) (fun c11 => ?_) (fun c11 => ?_)
                  · exact Lf_some (RJ.mk (E_64 (RI.at hS (congrArg (W_o k) (tnE (E_sub (E_sub hx1.1 (li32 5)) (E_mul (E_div (E_sub hx1.1 (li32 5)) (li32 2) b7 (by decide) (by decide)) (li32 2))) b8 (by decide))) rfl rfl)) (R_64 (RI.at hS (congrArg (W_o k) (tnE (E_sub (E_sub hx1.1 (li32 5)) (E_mul (E_div (E_sub hx1.1 (li32 5)) (li32 2) b7 (by decide) (by decide)) (li32 2))) b8 (by decide))) rfl rfl).2))
                  · exact Lf_some (RJ.mk (E_64 (RI.at hS (congrArg (W_o k) (tnE (E_sub (E_sub hx1.1 (li32 5)) (E_mul (E_div (E_sub hx1.1 (li32 5)) (li32 2) b7 (by decide) (by decide)) (li32 2))) b8 (by decide))) rfl rfl)) (R_64 (RI.at hS (congrArg (W_o k) (tnE (E_sub (E_sub hx1.1 (li32 5)) (E_mul (E_div (E_sub hx1.1 (li32 5)) (li32 2) b7 (by decide) (by decide)) (li32 2))) b8 (by decide))) rfl rfl).2))
                · exact Lf_some (RJ.at hS (congrArg (W_o k) (tnE (E_sub (E_sub hx1.1 (li32 5)) (E_mul (E_div (E_sub hx1.1 (li32 5)) (li32 2) b7 (by decide) (by decide)) (li32 2))) b8 (by decide))) rfl rfl)
              · exact Lf_some (RJ.mk (E_64 (RI.at hS (congrArg (W_o k) (tnE (E_sub (E_sub hx1.1 (li32 5)) (E_mul (E_div (E_sub hx1.1 (li32 5)) (li32 2) b7 (by decide) (by decide)) (li32 2))) b8 (by decide))) rfl rfl)) (R_64 (RI.at hS (congrArg (W_o k) (tnE (E_sub (E_sub hx1.1 (li32 5)) (E_mul (E_div (E_sub hx1.1 (li32 5)) (li32 2) b7 (by decide) (by decide)) (li32 2))) b8 (by decide))) rfl rfl).2))
